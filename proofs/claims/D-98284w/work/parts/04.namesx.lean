/-! LetMe$Tray -/
set_option maxRecDepth 100000
def RX1 : String := "LetMe$Tray"
def TX1 : u_T := fun k => match k with
  | _ => ("LetMe$Tray", "row", "Ljava/lang/Object;", false)
def tyX1 : Nat → FieldType := fun k => match k with
  | _ => .object "java/lang/Object"
abbrev wsX10 : List Cond := u_ws RX1 TX1 1
theorem nmX1 : ∀ a, a < 1 → ∀ b, b < 1 → a ≠ b → (TX1 a).2.1 ≠ (TX1 b).2.1 := by decide +kernel
theorem tyX1_ok : ∀ k, k < 1 → parseFieldDescriptor (TX1 k).2.2.1 = some (tyX1 k) := by decide +kernel
abbrev cX1_init : ByteArray := prog_13_method_1_code
def yX1_init : MethodName := ⟨RX1, "<init>", "()V"⟩
theorem dX1_init_0 : decode cX1_init 0 = .ok (.aload_n 0, 1) := by decide +kernel
theorem dX1_init_1 : decode cX1_init 1 = .ok (.invokespecial 1, 3) := by decide +kernel
theorem dX1_init_4 : decode cX1_init 4 = .ok (.return_, 1) := by decide +kernel
theorem q145 : (Jvm.Cond.initialized "LetMe$Tray") ∈ lw_all := lw_g (lw_at lw_m1 2 rfl) rfl
theorem q183 : (Jvm.Cond.instantiable "LetMe$Tray" (1 : Nat)) ∈ lw_all := lw_g (lw_at lw_m1 40 rfl) rfl
theorem q185 : (Jvm.Cond.instanceMethod ({ cls := "LetMe$Tray", name := "<init>", desc := "()V" } : Jvm.MethodName)) ∈ lw_all := lw_g (lw_at lw_m1 42 rfl) rfl
theorem q186 : (Jvm.Cond.code ({ cls := "LetMe$Tray", name := "<init>", desc := "()V" } : Jvm.MethodName) prog_13_method_1_code (1 : Nat) (Option.none : Option Jvm.ClassFile.FieldType)) ∈ lw_all := lw_g (lw_at lw_m1 43 rfl) rfl
theorem q187 : (Jvm.Cond.methodLink "LetMe$Tray" (1 : Nat) ({ cls := "java/lang/Object", name := "<init>", desc := "()V" } : Jvm.MethodName)) ∈ lw_all := lw_g (lw_at lw_m1 44 rfl) rfl
theorem q189 : (Jvm.Cond.lays "LetMe$Tray" "LetMe$Tray" "row" "Ljava/lang/Object;") ∈ lw_all := lw_g (lw_at lw_m1 46 rfl) rfl
theorem q190 : (Jvm.Cond.soleField "LetMe$Tray" "row") ∈ lw_all := lw_g (lw_at lw_m1 47 rfl) rfl
theorem q191 : (Jvm.Cond.superclass "LetMe$Tray" "java/lang/Object") ∈ lw_all := lw_g (lw_at lw_m1 48 rfl) rfl
theorem in_X1 : ∀ w ∈ wsX10, w ∈ lw_all := lw_in wsX10 [189] (by decide +kernel) (by decide +kernel)

/-! LetMe$Bad -/
set_option maxRecDepth 100000
def RX2 : String := "LetMe$Bad"
def TX2 : u_T := fun k => match k with
  | 0 => ("java/lang/Throwable", "cause", "Ljava/lang/Throwable;", false)
  | 1 => ("java/lang/Throwable", "stackTrace", "[Ljava/lang/StackTraceElement;", false)
  | 2 => ("java/lang/Throwable", "suppressedExceptions", "Ljava/util/List;", false)
  | 3 => ("java/lang/Throwable", "detailMessage", "Ljava/lang/String;", false)
  | 4 => ("java/lang/Throwable", "backtrace", "Ljava/lang/Object;", false)
  | 5 => ("java/lang/Throwable", "depth", "I", false)
  | 6 => ("LetMe$Bad", "kind", "I", false)
  | _ => ("LetMe$Bad", "place", "I", false)
def tyX2 : Nat → FieldType := fun k => match k with
  | 0 => .object "java/lang/Throwable"
  | 1 => .array (.object "java/lang/StackTraceElement")
  | 2 => .object "java/util/List"
  | 3 => .object "java/lang/String"
  | 4 => .object "java/lang/Object"
  | 5 => .int
  | 6 => .int
  | _ => .int
abbrev wsX20 : List Cond := u_ws RX2 TX2 8
theorem nmX2 : ∀ a, a < 8 → ∀ b, b < 8 → a ≠ b → (TX2 a).2.1 ≠ (TX2 b).2.1 := by decide +kernel
theorem tyX2_ok : ∀ k, k < 8 → parseFieldDescriptor (TX2 k).2.2.1 = some (tyX2 k) := by decide +kernel
abbrev cX2_init : ByteArray := prog_3_method_1_code
def yX2_init : MethodName := ⟨RX2, "<init>", "()V"⟩
def dkwX2_init_0 : List UInt8 := [42, 1, 1, 3, 3, 183, 0, 1, 177]
abbrev dktX2_init_0 : List UInt8 := dkwX2_init_0 ++ []
theorem dksX2_init_0 : cX2_init.data.toList.drop 0 = dktX2_init_0 := by decide +kernel
theorem dX2_init_0 : decode cX2_init 0 = .ok (.aload_n 0, 1) := dk_42 (dk_at dksX2_init_0 0 rfl rfl)
theorem dX2_init_1 : decode cX2_init 1 = .ok (.aconst_null, 1) := dk_1 (dk_at dksX2_init_0 1 rfl rfl)
theorem dX2_init_2 : decode cX2_init 2 = .ok (.aconst_null, 1) := dk_1 (dk_at dksX2_init_0 2 rfl rfl)
theorem dX2_init_3 : decode cX2_init 3 = .ok (.iconst 0, 1) := dk_3 (dk_at dksX2_init_0 3 rfl rfl)
theorem dX2_init_4 : decode cX2_init 4 = .ok (.iconst 0, 1) := dk_3 (dk_at dksX2_init_0 4 rfl rfl)
theorem dX2_init_5 : decode cX2_init 5 = .ok (.invokespecial 1, 3) := dk_183 0 1 (dk_at dksX2_init_0 5 rfl rfl)
theorem dX2_init_8 : decode cX2_init 8 = .ok (.return_, 1) := dk_177 (dk_at dksX2_init_0 8 rfl rfl)
abbrev cX2_at : ByteArray := prog_3_method_2_code
def yX2_at : MethodName := ⟨RX2, "at", "(II)LLetMe$Bad;"⟩
def dkwX2_at_0 : List UInt8 := [42, 27, 181, 0, 7, 42, 28, 181, 0, 13, 42, 176]
abbrev dktX2_at_0 : List UInt8 := dkwX2_at_0 ++ []
theorem dksX2_at_0 : cX2_at.data.toList.drop 0 = dktX2_at_0 := by decide +kernel
theorem dX2_at_0 : decode cX2_at 0 = .ok (.aload_n 0, 1) := dk_42 (dk_at dksX2_at_0 0 rfl rfl)
theorem dX2_at_1 : decode cX2_at 1 = .ok (.iload_n 1, 1) := dk_27 (dk_at dksX2_at_0 1 rfl rfl)
theorem dX2_at_2 : decode cX2_at 2 = .ok (.putfield 7, 3) := dk_181 0 7 (dk_at dksX2_at_0 2 rfl rfl)
theorem dX2_at_5 : decode cX2_at 5 = .ok (.aload_n 0, 1) := dk_42 (dk_at dksX2_at_0 5 rfl rfl)
theorem dX2_at_6 : decode cX2_at 6 = .ok (.iload_n 2, 1) := dk_28 (dk_at dksX2_at_0 6 rfl rfl)
theorem dX2_at_7 : decode cX2_at 7 = .ok (.putfield 13, 3) := dk_181 0 13 (dk_at dksX2_at_0 7 rfl rfl)
theorem dX2_at_10 : decode cX2_at 10 = .ok (.aload_n 0, 1) := dk_42 (dk_at dksX2_at_0 10 rfl rfl)
theorem dX2_at_11 : decode cX2_at 11 = .ok (.areturn, 1) := dk_176 (dk_at dksX2_at_0 11 rfl rfl)
theorem q148 : (Jvm.Cond.initialized "LetMe$Bad") ∈ lw_all := lw_g (lw_at lw_m1 5 rfl) rfl
theorem q193 : (Jvm.Cond.instantiable "LetMe$Bad" (8 : Nat)) ∈ lw_all := lw_g (lw_at lw_m1 50 rfl) rfl
theorem q194 : (Jvm.Cond.castable "LetMe$Bad" "LetMe$Bad") ∈ lw_tbl := lw_at lw_m1 51 rfl
theorem q199 : (Jvm.Cond.selects "LetMe$Bad" ({ cls := "java/lang/Throwable", name := "fillInStackTrace", desc := "(I)Ljava/lang/Throwable;" } : Jvm.MethodName) ({ cls := "java/lang/Throwable", name := "fillInStackTrace", desc := "(I)Ljava/lang/Throwable;" } : Jvm.MethodName)) ∈ lw_all := lw_g (lw_at lw_m1 56 rfl) rfl
theorem q200 : (Jvm.Cond.selects "LetMe$Bad" ({ cls := "java/lang/Throwable", name := "fillInStackTrace", desc := "()Ljava/lang/Throwable;" } : Jvm.MethodName) ({ cls := "java/lang/Throwable", name := "fillInStackTrace", desc := "()Ljava/lang/Throwable;" } : Jvm.MethodName)) ∈ lw_all := lw_g (lw_at lw_m1 57 rfl) rfl
theorem q201 : (Jvm.Cond.lays "LetMe$Bad" "java/lang/Throwable" "cause" "Ljava/lang/Throwable;") ∈ lw_all := lw_g (lw_at lw_m1 58 rfl) rfl
theorem q203 : (Jvm.Cond.lays "LetMe$Bad" "java/lang/Throwable" "stackTrace" "[Ljava/lang/StackTraceElement;") ∈ lw_all := lw_g (lw_at lw_m1 60 rfl) rfl
theorem q205 : (Jvm.Cond.lays "LetMe$Bad" "java/lang/Throwable" "suppressedExceptions" "Ljava/util/List;") ∈ lw_all := lw_g (lw_at lw_m1 62 rfl) rfl
theorem q207 : (Jvm.Cond.lays "LetMe$Bad" "java/lang/Throwable" "detailMessage" "Ljava/lang/String;") ∈ lw_all := lw_g (lw_at lw_m1 64 rfl) rfl
theorem q209 : (Jvm.Cond.lays "LetMe$Bad" "java/lang/Throwable" "backtrace" "Ljava/lang/Object;") ∈ lw_all := lw_g (lw_at lw_m1 66 rfl) rfl
theorem q233 : (Jvm.Cond.instanceMethod ({ cls := "LetMe$Bad", name := "<init>", desc := "()V" } : Jvm.MethodName)) ∈ lw_all := lw_g (lw_at lw_m1 90 rfl) rfl
theorem q234 : (Jvm.Cond.code ({ cls := "LetMe$Bad", name := "<init>", desc := "()V" } : Jvm.MethodName) prog_3_method_1_code (1 : Nat) (Option.none : Option Jvm.ClassFile.FieldType)) ∈ lw_all := lw_g (lw_at lw_m1 91 rfl) rfl
theorem q235 : (Jvm.Cond.methodLink "LetMe$Bad" (1 : Nat) ({ cls := "java/lang/Exception", name := "<init>", desc := "(Ljava/lang/String;Ljava/lang/Throwable;ZZ)V" } : Jvm.MethodName)) ∈ lw_all := lw_g (lw_at lw_m1 92 rfl) rfl
theorem q241 : (Jvm.Cond.fieldLink "LetMe$Bad" (7 : Nat) "LetMe$Bad" "kind" "I") ∈ lw_all := lw_g (lw_at lw_m1 98 rfl) rfl
theorem q243 : (Jvm.Cond.fieldLink "LetMe$Bad" (13 : Nat) "LetMe$Bad" "place" "I") ∈ lw_all := lw_g (lw_at lw_m1 100 rfl) rfl
theorem q250 : (Jvm.Cond.lays "LetMe$Bad" "LetMe$Bad" "kind" "I") ∈ lw_all := lw_g (lw_at lw_m1 107 rfl) rfl
theorem q251 : (Jvm.Cond.soleField "LetMe$Bad" "kind") ∈ lw_all := lw_g (lw_at lw_m1 108 rfl) rfl
theorem q252 : (Jvm.Cond.lays "LetMe$Bad" "LetMe$Bad" "place" "I") ∈ lw_all := lw_g (lw_at lw_m1 109 rfl) rfl
theorem q253 : (Jvm.Cond.soleField "LetMe$Bad" "place") ∈ lw_all := lw_g (lw_at lw_m1 110 rfl) rfl
theorem q258 : (Jvm.Cond.lays "LetMe$Bad" "java/lang/Throwable" "depth" "I") ∈ lw_all := lw_g (lw_at lw_m1 115 rfl) rfl
theorem q261 : (Jvm.Cond.superclass "LetMe$Bad" "java/lang/Exception") ∈ lw_all := lw_g (lw_at lw_m1 118 rfl) rfl
theorem q693 : (Jvm.Cond.instanceMethod ({ cls := "LetMe$Bad", name := "at", desc := "(II)LLetMe$Bad;" } : Jvm.MethodName)) ∈ lw_all := lw_g (lw_at lw_m3 70 rfl) rfl
theorem q694 : (Jvm.Cond.selects "LetMe$Bad" ({ cls := "LetMe$Bad", name := "at", desc := "(II)LLetMe$Bad;" } : Jvm.MethodName) ({ cls := "LetMe$Bad", name := "at", desc := "(II)LLetMe$Bad;" } : Jvm.MethodName)) ∈ lw_all := lw_g (lw_at lw_m3 71 rfl) rfl
theorem q695 : (Jvm.Cond.code ({ cls := "LetMe$Bad", name := "at", desc := "(II)LLetMe$Bad;" } : Jvm.MethodName) prog_3_method_2_code (3 : Nat) (Option.some (Jvm.ClassFile.FieldType.object "LetMe$Bad"))) ∈ lw_all := lw_g (lw_at lw_m3 72 rfl) rfl
theorem in_X2 : ∀ w ∈ wsX20, w ∈ lw_all := lw_in wsX20 [201, 203, 205, 207, 209, 258, 250, 252] (by decide +kernel) (by decide +kernel)

/-! LetMe$Refused -/
set_option maxRecDepth 100000
def RX3 : String := "LetMe$Refused"
def TX3 : u_T := fun k => match k with
  | 0 => ("java/lang/Throwable", "cause", "Ljava/lang/Throwable;", false)
  | 1 => ("java/lang/Throwable", "stackTrace", "[Ljava/lang/StackTraceElement;", false)
  | 2 => ("java/lang/Throwable", "suppressedExceptions", "Ljava/util/List;", false)
  | 3 => ("java/lang/Throwable", "detailMessage", "Ljava/lang/String;", false)
  | 4 => ("java/lang/Throwable", "backtrace", "Ljava/lang/Object;", false)
  | 5 => ("java/lang/Throwable", "depth", "I", false)
  | _ => ("LetMe$Refused", "why", "I", false)
def tyX3 : Nat → FieldType := fun k => match k with
  | 0 => .object "java/lang/Throwable"
  | 1 => .array (.object "java/lang/StackTraceElement")
  | 2 => .object "java/util/List"
  | 3 => .object "java/lang/String"
  | 4 => .object "java/lang/Object"
  | 5 => .int
  | _ => .int
abbrev wsX30 : List Cond := u_ws RX3 TX3 7
theorem nmX3 : ∀ a, a < 7 → ∀ b, b < 7 → a ≠ b → (TX3 a).2.1 ≠ (TX3 b).2.1 := by decide +kernel
theorem tyX3_ok : ∀ k, k < 7 → parseFieldDescriptor (TX3 k).2.2.1 = some (tyX3 k) := by decide +kernel
abbrev cX3_init : ByteArray := prog_10_method_1_code
def yX3_init : MethodName := ⟨RX3, "<init>", "()V"⟩
def dkwX3_init_0 : List UInt8 := [42, 1, 1, 3, 3, 183, 0, 1, 177]
abbrev dktX3_init_0 : List UInt8 := dkwX3_init_0 ++ []
theorem dksX3_init_0 : cX3_init.data.toList.drop 0 = dktX3_init_0 := by decide +kernel
theorem dX3_init_0 : decode cX3_init 0 = .ok (.aload_n 0, 1) := dk_42 (dk_at dksX3_init_0 0 rfl rfl)
theorem dX3_init_1 : decode cX3_init 1 = .ok (.aconst_null, 1) := dk_1 (dk_at dksX3_init_0 1 rfl rfl)
theorem dX3_init_2 : decode cX3_init 2 = .ok (.aconst_null, 1) := dk_1 (dk_at dksX3_init_0 2 rfl rfl)
theorem dX3_init_3 : decode cX3_init 3 = .ok (.iconst 0, 1) := dk_3 (dk_at dksX3_init_0 3 rfl rfl)
theorem dX3_init_4 : decode cX3_init 4 = .ok (.iconst 0, 1) := dk_3 (dk_at dksX3_init_0 4 rfl rfl)
theorem dX3_init_5 : decode cX3_init 5 = .ok (.invokespecial 1, 3) := dk_183 0 1 (dk_at dksX3_init_0 5 rfl rfl)
theorem dX3_init_8 : decode cX3_init 8 = .ok (.return_, 1) := dk_177 (dk_at dksX3_init_0 8 rfl rfl)
abbrev cX3_by : ByteArray := prog_10_method_2_code
def yX3_by : MethodName := ⟨RX3, "by", "(I)LLetMe$Refused;"⟩
def dkwX3_by_0 : List UInt8 := [42, 27, 181, 0, 7, 42, 176]
abbrev dktX3_by_0 : List UInt8 := dkwX3_by_0 ++ []
theorem dksX3_by_0 : cX3_by.data.toList.drop 0 = dktX3_by_0 := by decide +kernel
theorem dX3_by_0 : decode cX3_by 0 = .ok (.aload_n 0, 1) := dk_42 (dk_at dksX3_by_0 0 rfl rfl)
theorem dX3_by_1 : decode cX3_by 1 = .ok (.iload_n 1, 1) := dk_27 (dk_at dksX3_by_0 1 rfl rfl)
theorem dX3_by_2 : decode cX3_by 2 = .ok (.putfield 7, 3) := dk_181 0 7 (dk_at dksX3_by_0 2 rfl rfl)
theorem dX3_by_5 : decode cX3_by 5 = .ok (.aload_n 0, 1) := dk_42 (dk_at dksX3_by_0 5 rfl rfl)
theorem dX3_by_6 : decode cX3_by 6 = .ok (.areturn, 1) := dk_176 (dk_at dksX3_by_0 6 rfl rfl)
theorem q149 : (Jvm.Cond.initialized "LetMe$Refused") ∈ lw_all := lw_g (lw_at lw_m1 6 rfl) rfl
theorem q223 : (Jvm.Cond.selects "LetMe$Refused" ({ cls := "java/lang/Throwable", name := "fillInStackTrace", desc := "()Ljava/lang/Throwable;" } : Jvm.MethodName) ({ cls := "java/lang/Throwable", name := "fillInStackTrace", desc := "()Ljava/lang/Throwable;" } : Jvm.MethodName)) ∈ lw_all := lw_g (lw_at lw_m1 80 rfl) rfl
theorem q264 : (Jvm.Cond.instantiable "LetMe$Refused" (7 : Nat)) ∈ lw_all := lw_g (lw_at lw_m1 121 rfl) rfl
theorem q265 : (Jvm.Cond.castable "LetMe$Refused" "LetMe$Refused") ∈ lw_tbl := lw_at lw_m1 122 rfl
theorem q266 : (Jvm.Cond.selects "LetMe$Refused" ({ cls := "java/lang/Throwable", name := "fillInStackTrace", desc := "(I)Ljava/lang/Throwable;" } : Jvm.MethodName) ({ cls := "java/lang/Throwable", name := "fillInStackTrace", desc := "(I)Ljava/lang/Throwable;" } : Jvm.MethodName)) ∈ lw_all := lw_g (lw_at lw_m1 123 rfl) rfl
theorem q267 : (Jvm.Cond.lays "LetMe$Refused" "java/lang/Throwable" "cause" "Ljava/lang/Throwable;") ∈ lw_all := lw_g (lw_at lw_m1 124 rfl) rfl
theorem q268 : (Jvm.Cond.lays "LetMe$Refused" "java/lang/Throwable" "stackTrace" "[Ljava/lang/StackTraceElement;") ∈ lw_all := lw_g (lw_at lw_m1 125 rfl) rfl
theorem q269 : (Jvm.Cond.lays "LetMe$Refused" "java/lang/Throwable" "suppressedExceptions" "Ljava/util/List;") ∈ lw_all := lw_g (lw_at lw_m1 126 rfl) rfl
theorem q270 : (Jvm.Cond.lays "LetMe$Refused" "java/lang/Throwable" "detailMessage" "Ljava/lang/String;") ∈ lw_all := lw_g (lw_at lw_m1 127 rfl) rfl
theorem q271 : (Jvm.Cond.lays "LetMe$Refused" "java/lang/Throwable" "backtrace" "Ljava/lang/Object;") ∈ lw_all := lw_g (lw_at lw_m1 128 rfl) rfl
theorem q273 : (Jvm.Cond.instanceMethod ({ cls := "LetMe$Refused", name := "<init>", desc := "()V" } : Jvm.MethodName)) ∈ lw_all := lw_g (lw_at lw_m1 130 rfl) rfl
theorem q274 : (Jvm.Cond.code ({ cls := "LetMe$Refused", name := "<init>", desc := "()V" } : Jvm.MethodName) prog_10_method_1_code (1 : Nat) (Option.none : Option Jvm.ClassFile.FieldType)) ∈ lw_all := lw_g (lw_at lw_m1 131 rfl) rfl
theorem q275 : (Jvm.Cond.methodLink "LetMe$Refused" (1 : Nat) ({ cls := "java/lang/Exception", name := "<init>", desc := "(Ljava/lang/String;Ljava/lang/Throwable;ZZ)V" } : Jvm.MethodName)) ∈ lw_all := lw_g (lw_at lw_m1 132 rfl) rfl
theorem q276 : (Jvm.Cond.fieldLink "LetMe$Refused" (7 : Nat) "LetMe$Refused" "why" "I") ∈ lw_all := lw_g (lw_at lw_m1 133 rfl) rfl
theorem q278 : (Jvm.Cond.lays "LetMe$Refused" "LetMe$Refused" "why" "I") ∈ lw_all := lw_g (lw_at lw_m1 135 rfl) rfl
theorem q279 : (Jvm.Cond.soleField "LetMe$Refused" "why") ∈ lw_all := lw_g (lw_at lw_m1 136 rfl) rfl
theorem q280 : (Jvm.Cond.lays "LetMe$Refused" "java/lang/Throwable" "depth" "I") ∈ lw_all := lw_g (lw_at lw_m1 137 rfl) rfl
theorem q281 : (Jvm.Cond.superclass "LetMe$Refused" "java/lang/Exception") ∈ lw_all := lw_g (lw_at lw_m1 138 rfl) rfl
theorem q499 : (Jvm.Cond.instanceMethod ({ cls := "LetMe$Refused", name := "by", desc := "(I)LLetMe$Refused;" } : Jvm.MethodName)) ∈ lw_all := lw_g (lw_at lw_m2 116 rfl) rfl
theorem q500 : (Jvm.Cond.selects "LetMe$Refused" ({ cls := "LetMe$Refused", name := "by", desc := "(I)LLetMe$Refused;" } : Jvm.MethodName) ({ cls := "LetMe$Refused", name := "by", desc := "(I)LLetMe$Refused;" } : Jvm.MethodName)) ∈ lw_all := lw_g (lw_at lw_m2 117 rfl) rfl
theorem q501 : (Jvm.Cond.code ({ cls := "LetMe$Refused", name := "by", desc := "(I)LLetMe$Refused;" } : Jvm.MethodName) prog_10_method_2_code (2 : Nat) (Option.some (Jvm.ClassFile.FieldType.object "LetMe$Refused"))) ∈ lw_all := lw_g (lw_at lw_m2 118 rfl) rfl
theorem in_X3 : ∀ w ∈ wsX30, w ∈ lw_all := lw_in wsX30 [267, 268, 269, 270, 271, 280, 278] (by decide +kernel) (by decide +kernel)

/-! LetMe$House -/
set_option maxRecDepth 100000
def RX4 : String := "LetMe$House"
def TX4 : u_T := fun k => match k with
  | 0 => ("LetMe$House", "table", "LLetMe$Table;", true)
  | _ => ("LetMe$House", "year", "LLetMe$Loop;", false)
def tyX4 : Nat → FieldType := fun k => match k with
  | 0 => .object "LetMe$Table"
  | _ => .object "LetMe$Loop"
abbrev wsX40 : List Cond := u_ws RX4 TX4 2
theorem nmX4 : ∀ a, a < 2 → ∀ b, b < 2 → a ≠ b → (TX4 a).2.1 ≠ (TX4 b).2.1 := by decide +kernel
theorem tyX4_ok : ∀ k, k < 2 → parseFieldDescriptor (TX4 k).2.2.1 = some (tyX4 k) := by decide +kernel
abbrev cX4_init : ByteArray := prog_5_method_1_code
def yX4_init : MethodName := ⟨RX4, "<init>", "()V"⟩
def dkwX4_init_0 : List UInt8 := [42, 183, 0, 1, 42, 187, 0, 7, 89, 183, 0, 9, 181, 0, 10, 177]
abbrev dktX4_init_0 : List UInt8 := dkwX4_init_0 ++ []
theorem dksX4_init_0 : cX4_init.data.toList.drop 0 = dktX4_init_0 := by decide +kernel
theorem dX4_init_0 : decode cX4_init 0 = .ok (.aload_n 0, 1) := dk_42 (dk_at dksX4_init_0 0 rfl rfl)
theorem dX4_init_1 : decode cX4_init 1 = .ok (.invokespecial 1, 3) := dk_183 0 1 (dk_at dksX4_init_0 1 rfl rfl)
theorem dX4_init_4 : decode cX4_init 4 = .ok (.aload_n 0, 1) := dk_42 (dk_at dksX4_init_0 4 rfl rfl)
theorem dX4_init_5 : decode cX4_init 5 = .ok (.new 7, 3) := dk_187 0 7 (dk_at dksX4_init_0 5 rfl rfl)
theorem dX4_init_8 : decode cX4_init 8 = .ok (.dup, 1) := dk_89 (dk_at dksX4_init_0 8 rfl rfl)
theorem dX4_init_9 : decode cX4_init 9 = .ok (.invokespecial 9, 3) := dk_183 0 9 (dk_at dksX4_init_0 9 rfl rfl)
theorem dX4_init_12 : decode cX4_init 12 = .ok (.putfield 10, 3) := dk_181 0 10 (dk_at dksX4_init_0 12 rfl rfl)
theorem dX4_init_15 : decode cX4_init 15 = .ok (.return_, 1) := dk_177 (dk_at dksX4_init_0 15 rfl rfl)
abbrev cX4_be : ByteArray := prog_5_method_2_code
def yX4_be : MethodName := ⟨RX4, "be", "(LLetMe$House;)V"⟩
def dkwX4_be_0 : List UInt8 := [42, 180, 0, 10, 43, 180, 0, 10, 182, 0, 16, 42, 43, 180, 0, 20, 181, 0, 20, 177]
abbrev dktX4_be_0 : List UInt8 := dkwX4_be_0 ++ []
theorem dksX4_be_0 : cX4_be.data.toList.drop 0 = dktX4_be_0 := by decide +kernel
theorem dX4_be_0 : decode cX4_be 0 = .ok (.aload_n 0, 1) := dk_42 (dk_at dksX4_be_0 0 rfl rfl)
theorem dX4_be_1 : decode cX4_be 1 = .ok (.getfield 10, 3) := dk_180 0 10 (dk_at dksX4_be_0 1 rfl rfl)
theorem dX4_be_4 : decode cX4_be 4 = .ok (.aload_n 1, 1) := dk_43 (dk_at dksX4_be_0 4 rfl rfl)
theorem dX4_be_5 : decode cX4_be 5 = .ok (.getfield 10, 3) := dk_180 0 10 (dk_at dksX4_be_0 5 rfl rfl)
theorem dX4_be_8 : decode cX4_be 8 = .ok (.invokevirtual 16, 3) := dk_182 0 16 (dk_at dksX4_be_0 8 rfl rfl)
theorem dX4_be_11 : decode cX4_be 11 = .ok (.aload_n 0, 1) := dk_42 (dk_at dksX4_be_0 11 rfl rfl)
theorem dX4_be_12 : decode cX4_be 12 = .ok (.aload_n 1, 1) := dk_43 (dk_at dksX4_be_0 12 rfl rfl)
theorem dX4_be_13 : decode cX4_be 13 = .ok (.getfield 20, 3) := dk_180 0 20 (dk_at dksX4_be_0 13 rfl rfl)
theorem dX4_be_16 : decode cX4_be 16 = .ok (.putfield 20, 3) := dk_181 0 20 (dk_at dksX4_be_0 16 rfl rfl)
theorem dX4_be_19 : decode cX4_be 19 = .ok (.return_, 1) := dk_177 (dk_at dksX4_be_0 19 rfl rfl)
theorem q150 : (Jvm.Cond.initialized "LetMe$House") ∈ lw_all := lw_g (lw_at lw_m1 7 rfl) rfl
theorem q283 : (Jvm.Cond.instantiable "LetMe$House" (2 : Nat)) ∈ lw_all := lw_g (lw_at lw_m1 140 rfl) rfl
theorem q285 : (Jvm.Cond.instanceMethod ({ cls := "LetMe$House", name := "<init>", desc := "()V" } : Jvm.MethodName)) ∈ lw_all := lw_g (lw_at lw_m1 142 rfl) rfl
theorem q286 : (Jvm.Cond.code ({ cls := "LetMe$House", name := "<init>", desc := "()V" } : Jvm.MethodName) prog_5_method_1_code (1 : Nat) (Option.none : Option Jvm.ClassFile.FieldType)) ∈ lw_all := lw_g (lw_at lw_m1 143 rfl) rfl
theorem q287 : (Jvm.Cond.methodLink "LetMe$House" (1 : Nat) ({ cls := "java/lang/Object", name := "<init>", desc := "()V" } : Jvm.MethodName)) ∈ lw_all := lw_g (lw_at lw_m1 144 rfl) rfl
theorem q288 : (Jvm.Cond.classLink "LetMe$House" (7 : Nat) "LetMe$Table") ∈ lw_all := lw_g (lw_at lw_m1 145 rfl) rfl
theorem q290 : (Jvm.Cond.methodLinkNest "LetMe$House" (9 : Nat) ({ cls := "LetMe$Table", name := "<init>", desc := "()V" } : Jvm.MethodName) "LetMe") ∈ lw_tbl := lw_at lw_m1 147 rfl
theorem q365 : (Jvm.Cond.fieldLink "LetMe$House" (10 : Nat) "LetMe$House" "table" "LLetMe$Table;") ∈ lw_all := lw_g (lw_at lw_m1 222 rfl) rfl
theorem q367 : (Jvm.Cond.fieldLink "LetMe$House" (20 : Nat) "LetMe$House" "year" "LLetMe$Loop;") ∈ lw_all := lw_g (lw_at lw_m1 224 rfl) rfl
theorem q369 : (Jvm.Cond.laysFinal "LetMe$House" "LetMe$House" "table" "LLetMe$Table;") ∈ lw_all := lw_g (lw_at lw_m1 226 rfl) rfl
theorem q370 : (Jvm.Cond.soleField "LetMe$House" "table") ∈ lw_all := lw_g (lw_at lw_m1 227 rfl) rfl
theorem q371 : (Jvm.Cond.lays "LetMe$House" "LetMe$House" "year" "LLetMe$Loop;") ∈ lw_all := lw_g (lw_at lw_m1 228 rfl) rfl
theorem q372 : (Jvm.Cond.soleField "LetMe$House" "year") ∈ lw_all := lw_g (lw_at lw_m1 229 rfl) rfl
theorem q373 : (Jvm.Cond.superclass "LetMe$House" "java/lang/Object") ∈ lw_all := lw_g (lw_at lw_m1 230 rfl) rfl
theorem q1520 : (Jvm.Cond.instanceMethod ({ cls := "LetMe$House", name := "be", desc := "(LLetMe$House;)V" } : Jvm.MethodName)) ∈ lw_all := lw_g (lw_at lw_m6 177 rfl) rfl
theorem q1521 : (Jvm.Cond.selects "LetMe$House" ({ cls := "LetMe$House", name := "be", desc := "(LLetMe$House;)V" } : Jvm.MethodName) ({ cls := "LetMe$House", name := "be", desc := "(LLetMe$House;)V" } : Jvm.MethodName)) ∈ lw_all := lw_g (lw_at lw_m6 178 rfl) rfl
theorem q1522 : (Jvm.Cond.code ({ cls := "LetMe$House", name := "be", desc := "(LLetMe$House;)V" } : Jvm.MethodName) prog_5_method_2_code (2 : Nat) (Option.none : Option Jvm.ClassFile.FieldType)) ∈ lw_all := lw_g (lw_at lw_m6 179 rfl) rfl
theorem q1523 : (Jvm.Cond.methodLink "LetMe$House" (16 : Nat) ({ cls := "LetMe$Table", name := "be", desc := "(LLetMe$Table;)V" } : Jvm.MethodName)) ∈ lw_all := lw_g (lw_at lw_m6 180 rfl) rfl
theorem in_X4 : ∀ w ∈ wsX40, w ∈ lw_all := lw_in wsX40 [369, 371] (by decide +kernel) (by decide +kernel)

/-! LetMe$Table -/
set_option maxRecDepth 100000
def RX5 : String := "LetMe$Table"
def TX5 : u_T := fun k => match k with
  | 0 => ("LetMe$Table", "person", "[LLetMe$Person;", false)
  | 1 => ("LetMe$Table", "people", "I", false)
  | 2 => ("LetMe$Table", "couples", "I", false)
  | 3 => ("LetMe$Table", "dishes", "I", false)
  | 4 => ("LetMe$Table", "split", "I", false)
  | 5 => ("LetMe$Table", "law", "I", false)
  | 6 => ("LetMe$Table", "rounds", "I", false)
  | 7 => ("LetMe$Table", "gifts", "I", false)
  | 8 => ("LetMe$Table", "inside", "I", false)
  | 9 => ("LetMe$Table", "price", "[I", false)
  | 10 => ("LetMe$Table", "by", "[I", false)
  | 11 => ("LetMe$Table", "paid", "[I", true)
  | 12 => ("LetMe$Table", "owes", "[I", true)
  | _ => ("LetMe$Table", "drinks", "[I", true)
def tyX5 : Nat → FieldType := fun k => match k with
  | 0 => .array (.object "LetMe$Person")
  | 1 => .int
  | 2 => .int
  | 3 => .int
  | 4 => .int
  | 5 => .int
  | 6 => .int
  | 7 => .int
  | 8 => .int
  | 9 => .array .int
  | 10 => .array .int
  | 11 => .array .int
  | 12 => .array .int
  | _ => .array .int
abbrev wsX50 : List Cond := u_ws RX5 TX5 14
set_option maxRecDepth 100000 in
theorem nmX5 : ∀ a, a < 14 → ∀ b, b < 14 → a ≠ b → (TX5 a).2.1 ≠ (TX5 b).2.1 := by decide +kernel
set_option maxRecDepth 100000 in
theorem tyX5_ok : ∀ k, k < 14 → parseFieldDescriptor (TX5 k).2.2.1 = some (tyX5 k) := by decide +kernel
abbrev cX5_init : ByteArray := prog_12_method_1_code
def yX5_init : MethodName := ⟨RX5, "<init>", "()V"⟩
def dkwX5_init_2 : List UInt8 := [181, 0, 30, 177]
abbrev dktX5_init_2 : List UInt8 := dkwX5_init_2 ++ []
def dkwX5_init_1 : List UInt8 := [181, 0, 21, 42, 16, 6, 188, 10, 181, 0, 24, 42, 16, 36, 188, 10, 181, 0, 27, 42, 16, 6, 188, 10]
abbrev dktX5_init_1 : List UInt8 := dkwX5_init_1 ++ dktX5_init_2
def dkwX5_init_0 : List UInt8 := [42, 183, 0, 3, 42, 16, 6, 189, 0, 9, 181, 0, 11, 42, 7, 188, 10, 181, 0, 17, 42, 7, 188, 10]
abbrev dktX5_init_0 : List UInt8 := dkwX5_init_0 ++ dktX5_init_1
theorem dksX5_init_0 : cX5_init.data.toList.drop 0 = dktX5_init_0 := by decide +kernel
theorem dksX5_init_1 : cX5_init.data.toList.drop 24 = dktX5_init_1 := dk_seg dksX5_init_0 24 rfl rfl
theorem dksX5_init_2 : cX5_init.data.toList.drop 48 = dktX5_init_2 := dk_seg dksX5_init_1 24 rfl rfl
theorem dX5_init_0 : decode cX5_init 0 = .ok (.aload_n 0, 1) := dk_42 (dk_at dksX5_init_0 0 rfl rfl)
theorem dX5_init_1 : decode cX5_init 1 = .ok (.invokespecial 3, 3) := dk_183 0 3 (dk_at dksX5_init_0 1 rfl rfl)
theorem dX5_init_4 : decode cX5_init 4 = .ok (.aload_n 0, 1) := dk_42 (dk_at dksX5_init_0 4 rfl rfl)
theorem dX5_init_5 : decode cX5_init 5 = .ok (.bipush 6, 2) := dk_16 6 (dk_at dksX5_init_0 5 rfl rfl)
theorem dX5_init_7 : decode cX5_init 7 = .ok (.anewarray 9, 3) := dk_189 0 9 (dk_at dksX5_init_0 7 rfl rfl)
theorem dX5_init_10 : decode cX5_init 10 = .ok (.putfield 11, 3) := dk_181 0 11 (dk_at dksX5_init_0 10 rfl rfl)
theorem dX5_init_13 : decode cX5_init 13 = .ok (.aload_n 0, 1) := dk_42 (dk_at dksX5_init_0 13 rfl rfl)
theorem dX5_init_14 : decode cX5_init 14 = .ok (.iconst 4, 1) := dk_7 (dk_at dksX5_init_0 14 rfl rfl)
theorem dX5_init_15 : decode cX5_init 15 = .ok (.newarray .int, 2) := dk_188_10 (dk_at dksX5_init_0 15 rfl rfl)
theorem dX5_init_17 : decode cX5_init 17 = .ok (.putfield 17, 3) := dk_181 0 17 (dk_at dksX5_init_0 17 rfl rfl)
theorem dX5_init_20 : decode cX5_init 20 = .ok (.aload_n 0, 1) := dk_42 (dk_at dksX5_init_0 20 rfl rfl)
theorem dX5_init_21 : decode cX5_init 21 = .ok (.iconst 4, 1) := dk_7 (dk_at dksX5_init_0 21 rfl rfl)
theorem dX5_init_22 : decode cX5_init 22 = .ok (.newarray .int, 2) := dk_188_10 (dk_at dksX5_init_0 22 rfl rfl)
theorem dX5_init_24 : decode cX5_init 24 = .ok (.putfield 21, 3) := dk_181 0 21 (dk_at dksX5_init_1 0 rfl rfl)
theorem dX5_init_27 : decode cX5_init 27 = .ok (.aload_n 0, 1) := dk_42 (dk_at dksX5_init_1 3 rfl rfl)
theorem dX5_init_28 : decode cX5_init 28 = .ok (.bipush 6, 2) := dk_16 6 (dk_at dksX5_init_1 4 rfl rfl)
theorem dX5_init_30 : decode cX5_init 30 = .ok (.newarray .int, 2) := dk_188_10 (dk_at dksX5_init_1 6 rfl rfl)
theorem dX5_init_32 : decode cX5_init 32 = .ok (.putfield 24, 3) := dk_181 0 24 (dk_at dksX5_init_1 8 rfl rfl)
theorem dX5_init_35 : decode cX5_init 35 = .ok (.aload_n 0, 1) := dk_42 (dk_at dksX5_init_1 11 rfl rfl)
theorem dX5_init_36 : decode cX5_init 36 = .ok (.bipush 36, 2) := dk_16 36 (dk_at dksX5_init_1 12 rfl rfl)
theorem dX5_init_38 : decode cX5_init 38 = .ok (.newarray .int, 2) := dk_188_10 (dk_at dksX5_init_1 14 rfl rfl)
theorem dX5_init_40 : decode cX5_init 40 = .ok (.putfield 27, 3) := dk_181 0 27 (dk_at dksX5_init_1 16 rfl rfl)
theorem dX5_init_43 : decode cX5_init 43 = .ok (.aload_n 0, 1) := dk_42 (dk_at dksX5_init_1 19 rfl rfl)
theorem dX5_init_44 : decode cX5_init 44 = .ok (.bipush 6, 2) := dk_16 6 (dk_at dksX5_init_1 20 rfl rfl)
theorem dX5_init_46 : decode cX5_init 46 = .ok (.newarray .int, 2) := dk_188_10 (dk_at dksX5_init_1 22 rfl rfl)
theorem dX5_init_48 : decode cX5_init 48 = .ok (.putfield 30, 3) := dk_181 0 30 (dk_at dksX5_init_2 0 rfl rfl)
theorem dX5_init_51 : decode cX5_init 51 = .ok (.return_, 1) := dk_177 (dk_at dksX5_init_2 3 rfl rfl)
abbrev cX5_named : ByteArray := prog_12_method_3_code
def yX5_named : MethodName := ⟨RX5, "named", "(J)I"⟩
def dkwX5_named_1 : List UInt8 := [29, 172, 132, 3, 1, 167, 255, 229, 2, 172]
abbrev dktX5_named_1 : List UInt8 := dkwX5_named_1 ++ []
def dkwX5_named_0 : List UInt8 := [3, 62, 29, 42, 180, 0, 33, 162, 0, 25, 42, 180, 0, 11, 29, 50, 180, 0, 64, 31, 148, 154, 0, 5]
abbrev dktX5_named_0 : List UInt8 := dkwX5_named_0 ++ dktX5_named_1
theorem dksX5_named_0 : cX5_named.data.toList.drop 0 = dktX5_named_0 := by decide +kernel
theorem dksX5_named_1 : cX5_named.data.toList.drop 24 = dktX5_named_1 := dk_seg dksX5_named_0 24 rfl rfl
theorem dX5_named_0 : decode cX5_named 0 = .ok (.iconst 0, 1) := dk_3 (dk_at dksX5_named_0 0 rfl rfl)
theorem dX5_named_1 : decode cX5_named 1 = .ok (.istore_n 3, 1) := dk_62 (dk_at dksX5_named_0 1 rfl rfl)
theorem dX5_named_2 : decode cX5_named 2 = .ok (.iload_n 3, 1) := dk_29 (dk_at dksX5_named_0 2 rfl rfl)
theorem dX5_named_3 : decode cX5_named 3 = .ok (.aload_n 0, 1) := dk_42 (dk_at dksX5_named_0 3 rfl rfl)
theorem dX5_named_4 : decode cX5_named 4 = .ok (.getfield 33, 3) := dk_180 0 33 (dk_at dksX5_named_0 4 rfl rfl)
theorem dX5_named_7 : decode cX5_named 7 = .ok (.if_icmp .ge 25, 3) := dk_162 0 25 (dk_at dksX5_named_0 7 rfl rfl)
theorem dX5_named_10 : decode cX5_named 10 = .ok (.aload_n 0, 1) := dk_42 (dk_at dksX5_named_0 10 rfl rfl)
theorem dX5_named_11 : decode cX5_named 11 = .ok (.getfield 11, 3) := dk_180 0 11 (dk_at dksX5_named_0 11 rfl rfl)
theorem dX5_named_14 : decode cX5_named 14 = .ok (.iload_n 3, 1) := dk_29 (dk_at dksX5_named_0 14 rfl rfl)
theorem dX5_named_15 : decode cX5_named 15 = .ok (.aaload, 1) := dk_50 (dk_at dksX5_named_0 15 rfl rfl)
theorem dX5_named_16 : decode cX5_named 16 = .ok (.getfield 64, 3) := dk_180 0 64 (dk_at dksX5_named_0 16 rfl rfl)
theorem dX5_named_19 : decode cX5_named 19 = .ok (.lload_n 1, 1) := dk_31 (dk_at dksX5_named_0 19 rfl rfl)
theorem dX5_named_20 : decode cX5_named 20 = .ok (.lcmp, 1) := dk_148 (dk_at dksX5_named_0 20 rfl rfl)
theorem dX5_named_21 : decode cX5_named 21 = .ok (.ifCond .ne 5, 3) := dk_154 0 5 (dk_at dksX5_named_0 21 rfl rfl)
theorem dX5_named_24 : decode cX5_named 24 = .ok (.iload_n 3, 1) := dk_29 (dk_at dksX5_named_1 0 rfl rfl)
theorem dX5_named_25 : decode cX5_named 25 = .ok (.ireturn, 1) := dk_172 (dk_at dksX5_named_1 1 rfl rfl)
theorem dX5_named_26 : decode cX5_named 26 = .ok (.iinc 3 1, 3) := dk_132 3 1 (dk_at dksX5_named_1 2 rfl rfl)
theorem dX5_named_29 : decode cX5_named 29 = .ok (.goto (-27), 3) := dk_167 255 229 (dk_at dksX5_named_1 5 rfl rfl)
theorem dX5_named_32 : decode cX5_named 32 = .ok (.iconst (-1), 1) := dk_2 (dk_at dksX5_named_1 8 rfl rfl)
theorem dX5_named_33 : decode cX5_named 33 = .ok (.ireturn, 1) := dk_172 (dk_at dksX5_named_1 9 rfl rfl)
abbrev cX5_order : ByteArray := prog_12_method_5_code
def yX5_order : MethodName := ⟨RX5, "order", "(II)V"⟩
def dkwX5_order_2 : List UInt8 := [42, 180, 0, 40, 28, 79, 42, 89, 180, 0, 40, 4, 96, 181, 0, 40, 177]
abbrev dktX5_order_2 : List UInt8 := dkwX5_order_2 ++ []
def dkwX5_order_1 : List UInt8 := [42, 180, 0, 21, 184, 0, 68, 181, 0, 21, 42, 180, 0, 17, 42, 180, 0, 40, 27, 79, 42, 180, 0, 21]
abbrev dktX5_order_1 : List UInt8 := dkwX5_order_1 ++ dktX5_order_2
def dkwX5_order_0 : List UInt8 := [42, 180, 0, 40, 42, 180, 0, 17, 190, 160, 0, 25, 42, 42, 180, 0, 17, 184, 0, 68, 181, 0, 17, 42]
abbrev dktX5_order_0 : List UInt8 := dkwX5_order_0 ++ dktX5_order_1
theorem dksX5_order_0 : cX5_order.data.toList.drop 0 = dktX5_order_0 := by decide +kernel
theorem dksX5_order_1 : cX5_order.data.toList.drop 24 = dktX5_order_1 := dk_seg dksX5_order_0 24 rfl rfl
theorem dksX5_order_2 : cX5_order.data.toList.drop 48 = dktX5_order_2 := dk_seg dksX5_order_1 24 rfl rfl
theorem dX5_order_0 : decode cX5_order 0 = .ok (.aload_n 0, 1) := dk_42 (dk_at dksX5_order_0 0 rfl rfl)
theorem dX5_order_1 : decode cX5_order 1 = .ok (.getfield 40, 3) := dk_180 0 40 (dk_at dksX5_order_0 1 rfl rfl)
theorem dX5_order_4 : decode cX5_order 4 = .ok (.aload_n 0, 1) := dk_42 (dk_at dksX5_order_0 4 rfl rfl)
theorem dX5_order_5 : decode cX5_order 5 = .ok (.getfield 17, 3) := dk_180 0 17 (dk_at dksX5_order_0 5 rfl rfl)
theorem dX5_order_8 : decode cX5_order 8 = .ok (.arraylength, 1) := dk_190 (dk_at dksX5_order_0 8 rfl rfl)
theorem dX5_order_9 : decode cX5_order 9 = .ok (.if_icmp .ne 25, 3) := dk_160 0 25 (dk_at dksX5_order_0 9 rfl rfl)
theorem dX5_order_12 : decode cX5_order 12 = .ok (.aload_n 0, 1) := dk_42 (dk_at dksX5_order_0 12 rfl rfl)
theorem dX5_order_13 : decode cX5_order 13 = .ok (.aload_n 0, 1) := dk_42 (dk_at dksX5_order_0 13 rfl rfl)
theorem dX5_order_14 : decode cX5_order 14 = .ok (.getfield 17, 3) := dk_180 0 17 (dk_at dksX5_order_0 14 rfl rfl)
theorem dX5_order_17 : decode cX5_order 17 = .ok (.invokestatic 68, 3) := dk_184 0 68 (dk_at dksX5_order_0 17 rfl rfl)
theorem dX5_order_20 : decode cX5_order 20 = .ok (.putfield 17, 3) := dk_181 0 17 (dk_at dksX5_order_0 20 rfl rfl)
theorem dX5_order_23 : decode cX5_order 23 = .ok (.aload_n 0, 1) := dk_42 (dk_at dksX5_order_0 23 rfl rfl)
theorem dX5_order_24 : decode cX5_order 24 = .ok (.aload_n 0, 1) := dk_42 (dk_at dksX5_order_1 0 rfl rfl)
theorem dX5_order_25 : decode cX5_order 25 = .ok (.getfield 21, 3) := dk_180 0 21 (dk_at dksX5_order_1 1 rfl rfl)
theorem dX5_order_28 : decode cX5_order 28 = .ok (.invokestatic 68, 3) := dk_184 0 68 (dk_at dksX5_order_1 4 rfl rfl)
theorem dX5_order_31 : decode cX5_order 31 = .ok (.putfield 21, 3) := dk_181 0 21 (dk_at dksX5_order_1 7 rfl rfl)
theorem dX5_order_34 : decode cX5_order 34 = .ok (.aload_n 0, 1) := dk_42 (dk_at dksX5_order_1 10 rfl rfl)
theorem dX5_order_35 : decode cX5_order 35 = .ok (.getfield 17, 3) := dk_180 0 17 (dk_at dksX5_order_1 11 rfl rfl)
theorem dX5_order_38 : decode cX5_order 38 = .ok (.aload_n 0, 1) := dk_42 (dk_at dksX5_order_1 14 rfl rfl)
theorem dX5_order_39 : decode cX5_order 39 = .ok (.getfield 40, 3) := dk_180 0 40 (dk_at dksX5_order_1 15 rfl rfl)
theorem dX5_order_42 : decode cX5_order 42 = .ok (.iload_n 1, 1) := dk_27 (dk_at dksX5_order_1 18 rfl rfl)
theorem dX5_order_43 : decode cX5_order 43 = .ok (.iastore, 1) := dk_79 (dk_at dksX5_order_1 19 rfl rfl)
theorem dX5_order_44 : decode cX5_order 44 = .ok (.aload_n 0, 1) := dk_42 (dk_at dksX5_order_1 20 rfl rfl)
theorem dX5_order_45 : decode cX5_order 45 = .ok (.getfield 21, 3) := dk_180 0 21 (dk_at dksX5_order_1 21 rfl rfl)
theorem dX5_order_48 : decode cX5_order 48 = .ok (.aload_n 0, 1) := dk_42 (dk_at dksX5_order_2 0 rfl rfl)
theorem dX5_order_49 : decode cX5_order 49 = .ok (.getfield 40, 3) := dk_180 0 40 (dk_at dksX5_order_2 1 rfl rfl)
theorem dX5_order_52 : decode cX5_order 52 = .ok (.iload_n 2, 1) := dk_28 (dk_at dksX5_order_2 4 rfl rfl)
theorem dX5_order_53 : decode cX5_order 53 = .ok (.iastore, 1) := dk_79 (dk_at dksX5_order_2 5 rfl rfl)
theorem dX5_order_54 : decode cX5_order 54 = .ok (.aload_n 0, 1) := dk_42 (dk_at dksX5_order_2 6 rfl rfl)
theorem dX5_order_55 : decode cX5_order 55 = .ok (.dup, 1) := dk_89 (dk_at dksX5_order_2 7 rfl rfl)
theorem dX5_order_56 : decode cX5_order 56 = .ok (.getfield 40, 3) := dk_180 0 40 (dk_at dksX5_order_2 8 rfl rfl)
theorem dX5_order_59 : decode cX5_order 59 = .ok (.iconst 1, 1) := dk_4 (dk_at dksX5_order_2 11 rfl rfl)
theorem dX5_order_60 : decode cX5_order 60 = .ok (.iadd, 1) := dk_96 (dk_at dksX5_order_2 12 rfl rfl)
theorem dX5_order_61 : decode cX5_order 61 = .ok (.putfield 40, 3) := dk_181 0 40 (dk_at dksX5_order_2 13 rfl rfl)
theorem dX5_order_64 : decode cX5_order 64 = .ok (.return_, 1) := dk_177 (dk_at dksX5_order_2 16 rfl rfl)
abbrev cX5_longer : ByteArray := prog_12_method_4_code
def yX5_longer : MethodName := ⟨RX5, "longer", "([I)[I"⟩
def dkwX5_longer_0 : List UInt8 := [5, 42, 190, 104, 188, 10, 76, 42, 3, 43, 3, 42, 190, 184, 0, 58, 43, 176]
abbrev dktX5_longer_0 : List UInt8 := dkwX5_longer_0 ++ []
theorem dksX5_longer_0 : cX5_longer.data.toList.drop 0 = dktX5_longer_0 := by decide +kernel
theorem dX5_longer_0 : decode cX5_longer 0 = .ok (.iconst 2, 1) := dk_5 (dk_at dksX5_longer_0 0 rfl rfl)
theorem dX5_longer_1 : decode cX5_longer 1 = .ok (.aload_n 0, 1) := dk_42 (dk_at dksX5_longer_0 1 rfl rfl)
theorem dX5_longer_2 : decode cX5_longer 2 = .ok (.arraylength, 1) := dk_190 (dk_at dksX5_longer_0 2 rfl rfl)
theorem dX5_longer_3 : decode cX5_longer 3 = .ok (.imul, 1) := dk_104 (dk_at dksX5_longer_0 3 rfl rfl)
theorem dX5_longer_4 : decode cX5_longer 4 = .ok (.newarray .int, 2) := dk_188_10 (dk_at dksX5_longer_0 4 rfl rfl)
theorem dX5_longer_6 : decode cX5_longer 6 = .ok (.astore_n 1, 1) := dk_76 (dk_at dksX5_longer_0 6 rfl rfl)
theorem dX5_longer_7 : decode cX5_longer 7 = .ok (.aload_n 0, 1) := dk_42 (dk_at dksX5_longer_0 7 rfl rfl)
theorem dX5_longer_8 : decode cX5_longer 8 = .ok (.iconst 0, 1) := dk_3 (dk_at dksX5_longer_0 8 rfl rfl)
theorem dX5_longer_9 : decode cX5_longer 9 = .ok (.aload_n 1, 1) := dk_43 (dk_at dksX5_longer_0 9 rfl rfl)
theorem dX5_longer_10 : decode cX5_longer 10 = .ok (.iconst 0, 1) := dk_3 (dk_at dksX5_longer_0 10 rfl rfl)
theorem dX5_longer_11 : decode cX5_longer 11 = .ok (.aload_n 0, 1) := dk_42 (dk_at dksX5_longer_0 11 rfl rfl)
theorem dX5_longer_12 : decode cX5_longer 12 = .ok (.arraylength, 1) := dk_190 (dk_at dksX5_longer_0 12 rfl rfl)
theorem dX5_longer_13 : decode cX5_longer 13 = .ok (.invokestatic 58, 3) := dk_184 0 58 (dk_at dksX5_longer_0 13 rfl rfl)
theorem dX5_longer_16 : decode cX5_longer 16 = .ok (.aload_n 1, 1) := dk_43 (dk_at dksX5_longer_0 16 rfl rfl)
theorem dX5_longer_17 : decode cX5_longer 17 = .ok (.areturn, 1) := dk_176 (dk_at dksX5_longer_0 17 rfl rfl)
abbrev cX5_owe : ByteArray := prog_12_method_15_code
def yX5_owe : MethodName := ⟨RX5, "owe", "(III)V"⟩
def dkwX5_owe_0 : List UInt8 := [42, 180, 0, 27, 16, 6, 27, 104, 28, 96, 29, 79, 177]
abbrev dktX5_owe_0 : List UInt8 := dkwX5_owe_0 ++ []
theorem dksX5_owe_0 : cX5_owe.data.toList.drop 0 = dktX5_owe_0 := by decide +kernel
theorem dX5_owe_0 : decode cX5_owe 0 = .ok (.aload_n 0, 1) := dk_42 (dk_at dksX5_owe_0 0 rfl rfl)
theorem dX5_owe_1 : decode cX5_owe 1 = .ok (.getfield 27, 3) := dk_180 0 27 (dk_at dksX5_owe_0 1 rfl rfl)
theorem dX5_owe_4 : decode cX5_owe 4 = .ok (.bipush 6, 2) := dk_16 6 (dk_at dksX5_owe_0 4 rfl rfl)
theorem dX5_owe_6 : decode cX5_owe 6 = .ok (.iload_n 1, 1) := dk_27 (dk_at dksX5_owe_0 6 rfl rfl)
theorem dX5_owe_7 : decode cX5_owe 7 = .ok (.imul, 1) := dk_104 (dk_at dksX5_owe_0 7 rfl rfl)
theorem dX5_owe_8 : decode cX5_owe 8 = .ok (.iload_n 2, 1) := dk_28 (dk_at dksX5_owe_0 8 rfl rfl)
theorem dX5_owe_9 : decode cX5_owe 9 = .ok (.iadd, 1) := dk_96 (dk_at dksX5_owe_0 9 rfl rfl)
theorem dX5_owe_10 : decode cX5_owe 10 = .ok (.iload_n 3, 1) := dk_29 (dk_at dksX5_owe_0 10 rfl rfl)
theorem dX5_owe_11 : decode cX5_owe 11 = .ok (.iastore, 1) := dk_79 (dk_at dksX5_owe_0 11 rfl rfl)
theorem dX5_owe_12 : decode cX5_owe 12 = .ok (.return_, 1) := dk_177 (dk_at dksX5_owe_0 12 rfl rfl)
abbrev cX5_be : ByteArray := prog_12_method_2_code
def yX5_be : MethodName := ⟨RX5, "be", "(LLetMe$Table;)V"⟩
def dkwX5_be_7 : List UInt8 := [184, 0, 58, 43, 180, 0, 30, 3, 42, 180, 0, 30, 3, 16, 6, 184, 0, 58, 177]
abbrev dktX5_be_7 : List UInt8 := dkwX5_be_7 ++ []
def dkwX5_be_6 : List UInt8 := [3, 42, 180, 0, 24, 3, 16, 6, 184, 0, 58, 43, 180, 0, 27, 3, 42, 180, 0, 27, 3, 16, 36]
abbrev dktX5_be_6 : List UInt8 := dkwX5_be_6 ++ dktX5_be_7
def dkwX5_be_5 : List UInt8 := [184, 0, 58, 43, 180, 0, 21, 3, 42, 180, 0, 21, 3, 42, 180, 0, 40, 184, 0, 58, 43, 180, 0, 24]
abbrev dktX5_be_5 : List UInt8 := dkwX5_be_5 ++ dktX5_be_6
def dkwX5_be_4 : List UInt8 := [43, 180, 0, 17, 190, 188, 10, 181, 0, 21, 43, 180, 0, 17, 3, 42, 180, 0, 17, 3, 42, 180, 0, 40]
abbrev dktX5_be_4 : List UInt8 := dkwX5_be_4 ++ dktX5_be_5
def dkwX5_be_3 : List UInt8 := [42, 180, 0, 17, 190, 42, 180, 0, 40, 162, 0, 25, 42, 43, 180, 0, 17, 190, 188, 10, 181, 0, 17, 42]
abbrev dktX5_be_3 : List UInt8 := dkwX5_be_3 ++ dktX5_be_4
def dkwX5_be_2 : List UInt8 := [42, 43, 180, 0, 49, 181, 0, 49, 42, 43, 180, 0, 52, 181, 0, 52, 42, 43, 180, 0, 55, 181, 0, 55]
abbrev dktX5_be_2 : List UInt8 := dkwX5_be_2 ++ dktX5_be_3
def dkwX5_be_1 : List UInt8 := [42, 43, 180, 0, 40, 181, 0, 40, 42, 43, 180, 0, 43, 181, 0, 43, 42, 43, 180, 0, 46, 181, 0, 46]
abbrev dktX5_be_1 : List UInt8 := dkwX5_be_1 ++ dktX5_be_2
def dkwX5_be_0 : List UInt8 := [42, 43, 180, 0, 11, 181, 0, 11, 42, 43, 180, 0, 33, 181, 0, 33, 42, 43, 180, 0, 37, 181, 0, 37]
abbrev dktX5_be_0 : List UInt8 := dkwX5_be_0 ++ dktX5_be_1
theorem dksX5_be_0 : cX5_be.data.toList.drop 0 = dktX5_be_0 := by decide +kernel
theorem dksX5_be_1 : cX5_be.data.toList.drop 24 = dktX5_be_1 := dk_seg dksX5_be_0 24 rfl rfl
theorem dksX5_be_2 : cX5_be.data.toList.drop 48 = dktX5_be_2 := dk_seg dksX5_be_1 24 rfl rfl
theorem dksX5_be_3 : cX5_be.data.toList.drop 72 = dktX5_be_3 := dk_seg dksX5_be_2 24 rfl rfl
theorem dksX5_be_4 : cX5_be.data.toList.drop 96 = dktX5_be_4 := dk_seg dksX5_be_3 24 rfl rfl
theorem dksX5_be_5 : cX5_be.data.toList.drop 120 = dktX5_be_5 := dk_seg dksX5_be_4 24 rfl rfl
theorem dksX5_be_6 : cX5_be.data.toList.drop 144 = dktX5_be_6 := dk_seg dksX5_be_5 24 rfl rfl
theorem dksX5_be_7 : cX5_be.data.toList.drop 167 = dktX5_be_7 := dk_seg dksX5_be_6 23 rfl rfl
theorem dX5_be_0 : decode cX5_be 0 = .ok (.aload_n 0, 1) := dk_42 (dk_at dksX5_be_0 0 rfl rfl)
theorem dX5_be_1 : decode cX5_be 1 = .ok (.aload_n 1, 1) := dk_43 (dk_at dksX5_be_0 1 rfl rfl)
theorem dX5_be_2 : decode cX5_be 2 = .ok (.getfield 11, 3) := dk_180 0 11 (dk_at dksX5_be_0 2 rfl rfl)
theorem dX5_be_5 : decode cX5_be 5 = .ok (.putfield 11, 3) := dk_181 0 11 (dk_at dksX5_be_0 5 rfl rfl)
theorem dX5_be_8 : decode cX5_be 8 = .ok (.aload_n 0, 1) := dk_42 (dk_at dksX5_be_0 8 rfl rfl)
theorem dX5_be_9 : decode cX5_be 9 = .ok (.aload_n 1, 1) := dk_43 (dk_at dksX5_be_0 9 rfl rfl)
theorem dX5_be_10 : decode cX5_be 10 = .ok (.getfield 33, 3) := dk_180 0 33 (dk_at dksX5_be_0 10 rfl rfl)
theorem dX5_be_13 : decode cX5_be 13 = .ok (.putfield 33, 3) := dk_181 0 33 (dk_at dksX5_be_0 13 rfl rfl)
theorem dX5_be_16 : decode cX5_be 16 = .ok (.aload_n 0, 1) := dk_42 (dk_at dksX5_be_0 16 rfl rfl)
theorem dX5_be_17 : decode cX5_be 17 = .ok (.aload_n 1, 1) := dk_43 (dk_at dksX5_be_0 17 rfl rfl)
theorem dX5_be_18 : decode cX5_be 18 = .ok (.getfield 37, 3) := dk_180 0 37 (dk_at dksX5_be_0 18 rfl rfl)
theorem dX5_be_21 : decode cX5_be 21 = .ok (.putfield 37, 3) := dk_181 0 37 (dk_at dksX5_be_0 21 rfl rfl)
theorem dX5_be_24 : decode cX5_be 24 = .ok (.aload_n 0, 1) := dk_42 (dk_at dksX5_be_1 0 rfl rfl)
theorem dX5_be_25 : decode cX5_be 25 = .ok (.aload_n 1, 1) := dk_43 (dk_at dksX5_be_1 1 rfl rfl)
theorem dX5_be_26 : decode cX5_be 26 = .ok (.getfield 40, 3) := dk_180 0 40 (dk_at dksX5_be_1 2 rfl rfl)
theorem dX5_be_29 : decode cX5_be 29 = .ok (.putfield 40, 3) := dk_181 0 40 (dk_at dksX5_be_1 5 rfl rfl)
theorem dX5_be_32 : decode cX5_be 32 = .ok (.aload_n 0, 1) := dk_42 (dk_at dksX5_be_1 8 rfl rfl)
theorem dX5_be_33 : decode cX5_be 33 = .ok (.aload_n 1, 1) := dk_43 (dk_at dksX5_be_1 9 rfl rfl)
theorem dX5_be_34 : decode cX5_be 34 = .ok (.getfield 43, 3) := dk_180 0 43 (dk_at dksX5_be_1 10 rfl rfl)
theorem dX5_be_37 : decode cX5_be 37 = .ok (.putfield 43, 3) := dk_181 0 43 (dk_at dksX5_be_1 13 rfl rfl)
theorem dX5_be_40 : decode cX5_be 40 = .ok (.aload_n 0, 1) := dk_42 (dk_at dksX5_be_1 16 rfl rfl)
theorem dX5_be_41 : decode cX5_be 41 = .ok (.aload_n 1, 1) := dk_43 (dk_at dksX5_be_1 17 rfl rfl)
theorem dX5_be_42 : decode cX5_be 42 = .ok (.getfield 46, 3) := dk_180 0 46 (dk_at dksX5_be_1 18 rfl rfl)
theorem dX5_be_45 : decode cX5_be 45 = .ok (.putfield 46, 3) := dk_181 0 46 (dk_at dksX5_be_1 21 rfl rfl)
theorem dX5_be_48 : decode cX5_be 48 = .ok (.aload_n 0, 1) := dk_42 (dk_at dksX5_be_2 0 rfl rfl)
theorem dX5_be_49 : decode cX5_be 49 = .ok (.aload_n 1, 1) := dk_43 (dk_at dksX5_be_2 1 rfl rfl)
theorem dX5_be_50 : decode cX5_be 50 = .ok (.getfield 49, 3) := dk_180 0 49 (dk_at dksX5_be_2 2 rfl rfl)
theorem dX5_be_53 : decode cX5_be 53 = .ok (.putfield 49, 3) := dk_181 0 49 (dk_at dksX5_be_2 5 rfl rfl)
theorem dX5_be_56 : decode cX5_be 56 = .ok (.aload_n 0, 1) := dk_42 (dk_at dksX5_be_2 8 rfl rfl)
theorem dX5_be_57 : decode cX5_be 57 = .ok (.aload_n 1, 1) := dk_43 (dk_at dksX5_be_2 9 rfl rfl)
theorem dX5_be_58 : decode cX5_be 58 = .ok (.getfield 52, 3) := dk_180 0 52 (dk_at dksX5_be_2 10 rfl rfl)
theorem dX5_be_61 : decode cX5_be 61 = .ok (.putfield 52, 3) := dk_181 0 52 (dk_at dksX5_be_2 13 rfl rfl)
theorem dX5_be_64 : decode cX5_be 64 = .ok (.aload_n 0, 1) := dk_42 (dk_at dksX5_be_2 16 rfl rfl)
theorem dX5_be_65 : decode cX5_be 65 = .ok (.aload_n 1, 1) := dk_43 (dk_at dksX5_be_2 17 rfl rfl)
theorem dX5_be_66 : decode cX5_be 66 = .ok (.getfield 55, 3) := dk_180 0 55 (dk_at dksX5_be_2 18 rfl rfl)
theorem dX5_be_69 : decode cX5_be 69 = .ok (.putfield 55, 3) := dk_181 0 55 (dk_at dksX5_be_2 21 rfl rfl)
theorem dX5_be_72 : decode cX5_be 72 = .ok (.aload_n 0, 1) := dk_42 (dk_at dksX5_be_3 0 rfl rfl)
theorem dX5_be_73 : decode cX5_be 73 = .ok (.getfield 17, 3) := dk_180 0 17 (dk_at dksX5_be_3 1 rfl rfl)
theorem dX5_be_76 : decode cX5_be 76 = .ok (.arraylength, 1) := dk_190 (dk_at dksX5_be_3 4 rfl rfl)
theorem dX5_be_77 : decode cX5_be 77 = .ok (.aload_n 0, 1) := dk_42 (dk_at dksX5_be_3 5 rfl rfl)
theorem dX5_be_78 : decode cX5_be 78 = .ok (.getfield 40, 3) := dk_180 0 40 (dk_at dksX5_be_3 6 rfl rfl)
theorem dX5_be_81 : decode cX5_be 81 = .ok (.if_icmp .ge 25, 3) := dk_162 0 25 (dk_at dksX5_be_3 9 rfl rfl)
theorem dX5_be_84 : decode cX5_be 84 = .ok (.aload_n 0, 1) := dk_42 (dk_at dksX5_be_3 12 rfl rfl)
theorem dX5_be_85 : decode cX5_be 85 = .ok (.aload_n 1, 1) := dk_43 (dk_at dksX5_be_3 13 rfl rfl)
theorem dX5_be_86 : decode cX5_be 86 = .ok (.getfield 17, 3) := dk_180 0 17 (dk_at dksX5_be_3 14 rfl rfl)
theorem dX5_be_89 : decode cX5_be 89 = .ok (.arraylength, 1) := dk_190 (dk_at dksX5_be_3 17 rfl rfl)
theorem dX5_be_90 : decode cX5_be 90 = .ok (.newarray .int, 2) := dk_188_10 (dk_at dksX5_be_3 18 rfl rfl)
theorem dX5_be_92 : decode cX5_be 92 = .ok (.putfield 17, 3) := dk_181 0 17 (dk_at dksX5_be_3 20 rfl rfl)
theorem dX5_be_95 : decode cX5_be 95 = .ok (.aload_n 0, 1) := dk_42 (dk_at dksX5_be_3 23 rfl rfl)
theorem dX5_be_96 : decode cX5_be 96 = .ok (.aload_n 1, 1) := dk_43 (dk_at dksX5_be_4 0 rfl rfl)
theorem dX5_be_97 : decode cX5_be 97 = .ok (.getfield 17, 3) := dk_180 0 17 (dk_at dksX5_be_4 1 rfl rfl)
theorem dX5_be_100 : decode cX5_be 100 = .ok (.arraylength, 1) := dk_190 (dk_at dksX5_be_4 4 rfl rfl)
theorem dX5_be_101 : decode cX5_be 101 = .ok (.newarray .int, 2) := dk_188_10 (dk_at dksX5_be_4 5 rfl rfl)
theorem dX5_be_103 : decode cX5_be 103 = .ok (.putfield 21, 3) := dk_181 0 21 (dk_at dksX5_be_4 7 rfl rfl)
theorem dX5_be_106 : decode cX5_be 106 = .ok (.aload_n 1, 1) := dk_43 (dk_at dksX5_be_4 10 rfl rfl)
theorem dX5_be_107 : decode cX5_be 107 = .ok (.getfield 17, 3) := dk_180 0 17 (dk_at dksX5_be_4 11 rfl rfl)
theorem dX5_be_110 : decode cX5_be 110 = .ok (.iconst 0, 1) := dk_3 (dk_at dksX5_be_4 14 rfl rfl)
theorem dX5_be_111 : decode cX5_be 111 = .ok (.aload_n 0, 1) := dk_42 (dk_at dksX5_be_4 15 rfl rfl)
theorem dX5_be_112 : decode cX5_be 112 = .ok (.getfield 17, 3) := dk_180 0 17 (dk_at dksX5_be_4 16 rfl rfl)
theorem dX5_be_115 : decode cX5_be 115 = .ok (.iconst 0, 1) := dk_3 (dk_at dksX5_be_4 19 rfl rfl)
theorem dX5_be_116 : decode cX5_be 116 = .ok (.aload_n 0, 1) := dk_42 (dk_at dksX5_be_4 20 rfl rfl)
theorem dX5_be_117 : decode cX5_be 117 = .ok (.getfield 40, 3) := dk_180 0 40 (dk_at dksX5_be_4 21 rfl rfl)
theorem dX5_be_120 : decode cX5_be 120 = .ok (.invokestatic 58, 3) := dk_184 0 58 (dk_at dksX5_be_5 0 rfl rfl)
theorem dX5_be_123 : decode cX5_be 123 = .ok (.aload_n 1, 1) := dk_43 (dk_at dksX5_be_5 3 rfl rfl)
theorem dX5_be_124 : decode cX5_be 124 = .ok (.getfield 21, 3) := dk_180 0 21 (dk_at dksX5_be_5 4 rfl rfl)
theorem dX5_be_127 : decode cX5_be 127 = .ok (.iconst 0, 1) := dk_3 (dk_at dksX5_be_5 7 rfl rfl)
theorem dX5_be_128 : decode cX5_be 128 = .ok (.aload_n 0, 1) := dk_42 (dk_at dksX5_be_5 8 rfl rfl)
theorem dX5_be_129 : decode cX5_be 129 = .ok (.getfield 21, 3) := dk_180 0 21 (dk_at dksX5_be_5 9 rfl rfl)
theorem dX5_be_132 : decode cX5_be 132 = .ok (.iconst 0, 1) := dk_3 (dk_at dksX5_be_5 12 rfl rfl)
theorem dX5_be_133 : decode cX5_be 133 = .ok (.aload_n 0, 1) := dk_42 (dk_at dksX5_be_5 13 rfl rfl)
theorem dX5_be_134 : decode cX5_be 134 = .ok (.getfield 40, 3) := dk_180 0 40 (dk_at dksX5_be_5 14 rfl rfl)
theorem dX5_be_137 : decode cX5_be 137 = .ok (.invokestatic 58, 3) := dk_184 0 58 (dk_at dksX5_be_5 17 rfl rfl)
theorem dX5_be_140 : decode cX5_be 140 = .ok (.aload_n 1, 1) := dk_43 (dk_at dksX5_be_5 20 rfl rfl)
theorem dX5_be_141 : decode cX5_be 141 = .ok (.getfield 24, 3) := dk_180 0 24 (dk_at dksX5_be_5 21 rfl rfl)
theorem dX5_be_144 : decode cX5_be 144 = .ok (.iconst 0, 1) := dk_3 (dk_at dksX5_be_6 0 rfl rfl)
theorem dX5_be_145 : decode cX5_be 145 = .ok (.aload_n 0, 1) := dk_42 (dk_at dksX5_be_6 1 rfl rfl)
theorem dX5_be_146 : decode cX5_be 146 = .ok (.getfield 24, 3) := dk_180 0 24 (dk_at dksX5_be_6 2 rfl rfl)
theorem dX5_be_149 : decode cX5_be 149 = .ok (.iconst 0, 1) := dk_3 (dk_at dksX5_be_6 5 rfl rfl)
theorem dX5_be_150 : decode cX5_be 150 = .ok (.bipush 6, 2) := dk_16 6 (dk_at dksX5_be_6 6 rfl rfl)
theorem dX5_be_152 : decode cX5_be 152 = .ok (.invokestatic 58, 3) := dk_184 0 58 (dk_at dksX5_be_6 8 rfl rfl)
theorem dX5_be_155 : decode cX5_be 155 = .ok (.aload_n 1, 1) := dk_43 (dk_at dksX5_be_6 11 rfl rfl)
theorem dX5_be_156 : decode cX5_be 156 = .ok (.getfield 27, 3) := dk_180 0 27 (dk_at dksX5_be_6 12 rfl rfl)
theorem dX5_be_159 : decode cX5_be 159 = .ok (.iconst 0, 1) := dk_3 (dk_at dksX5_be_6 15 rfl rfl)
theorem dX5_be_160 : decode cX5_be 160 = .ok (.aload_n 0, 1) := dk_42 (dk_at dksX5_be_6 16 rfl rfl)
theorem dX5_be_161 : decode cX5_be 161 = .ok (.getfield 27, 3) := dk_180 0 27 (dk_at dksX5_be_6 17 rfl rfl)
theorem dX5_be_164 : decode cX5_be 164 = .ok (.iconst 0, 1) := dk_3 (dk_at dksX5_be_6 20 rfl rfl)
theorem dX5_be_165 : decode cX5_be 165 = .ok (.bipush 36, 2) := dk_16 36 (dk_at dksX5_be_6 21 rfl rfl)
theorem dX5_be_167 : decode cX5_be 167 = .ok (.invokestatic 58, 3) := dk_184 0 58 (dk_at dksX5_be_7 0 rfl rfl)
theorem dX5_be_170 : decode cX5_be 170 = .ok (.aload_n 1, 1) := dk_43 (dk_at dksX5_be_7 3 rfl rfl)
theorem dX5_be_171 : decode cX5_be 171 = .ok (.getfield 30, 3) := dk_180 0 30 (dk_at dksX5_be_7 4 rfl rfl)
theorem dX5_be_174 : decode cX5_be 174 = .ok (.iconst 0, 1) := dk_3 (dk_at dksX5_be_7 7 rfl rfl)
theorem dX5_be_175 : decode cX5_be 175 = .ok (.aload_n 0, 1) := dk_42 (dk_at dksX5_be_7 8 rfl rfl)
theorem dX5_be_176 : decode cX5_be 176 = .ok (.getfield 30, 3) := dk_180 0 30 (dk_at dksX5_be_7 9 rfl rfl)
theorem dX5_be_179 : decode cX5_be 179 = .ok (.iconst 0, 1) := dk_3 (dk_at dksX5_be_7 12 rfl rfl)
theorem dX5_be_180 : decode cX5_be 180 = .ok (.bipush 6, 2) := dk_16 6 (dk_at dksX5_be_7 13 rfl rfl)
theorem dX5_be_182 : decode cX5_be 182 = .ok (.invokestatic 58, 3) := dk_184 0 58 (dk_at dksX5_be_7 15 rfl rfl)
theorem dX5_be_185 : decode cX5_be 185 = .ok (.return_, 1) := dk_177 (dk_at dksX5_be_7 18 rfl rfl)
abbrev cX5_bill : ByteArray := prog_12_method_6_code
def yX5_bill : MethodName := ⟨RX5, "bill", "()I"⟩
def dkwX5_bill_1 : List UInt8 := [167, 255, 236, 27, 172]
abbrev dktX5_bill_1 : List UInt8 := dkwX5_bill_1 ++ []
def dkwX5_bill_0 : List UInt8 := [3, 60, 3, 61, 28, 42, 180, 0, 40, 162, 0, 18, 27, 42, 180, 0, 17, 28, 46, 96, 60, 132, 2, 1]
abbrev dktX5_bill_0 : List UInt8 := dkwX5_bill_0 ++ dktX5_bill_1
theorem dksX5_bill_0 : cX5_bill.data.toList.drop 0 = dktX5_bill_0 := by decide +kernel
theorem dksX5_bill_1 : cX5_bill.data.toList.drop 24 = dktX5_bill_1 := dk_seg dksX5_bill_0 24 rfl rfl
theorem dX5_bill_0 : decode cX5_bill 0 = .ok (.iconst 0, 1) := dk_3 (dk_at dksX5_bill_0 0 rfl rfl)
theorem dX5_bill_1 : decode cX5_bill 1 = .ok (.istore_n 1, 1) := dk_60 (dk_at dksX5_bill_0 1 rfl rfl)
theorem dX5_bill_2 : decode cX5_bill 2 = .ok (.iconst 0, 1) := dk_3 (dk_at dksX5_bill_0 2 rfl rfl)
theorem dX5_bill_3 : decode cX5_bill 3 = .ok (.istore_n 2, 1) := dk_61 (dk_at dksX5_bill_0 3 rfl rfl)
theorem dX5_bill_4 : decode cX5_bill 4 = .ok (.iload_n 2, 1) := dk_28 (dk_at dksX5_bill_0 4 rfl rfl)
theorem dX5_bill_5 : decode cX5_bill 5 = .ok (.aload_n 0, 1) := dk_42 (dk_at dksX5_bill_0 5 rfl rfl)
theorem dX5_bill_6 : decode cX5_bill 6 = .ok (.getfield 40, 3) := dk_180 0 40 (dk_at dksX5_bill_0 6 rfl rfl)
theorem dX5_bill_9 : decode cX5_bill 9 = .ok (.if_icmp .ge 18, 3) := dk_162 0 18 (dk_at dksX5_bill_0 9 rfl rfl)
theorem dX5_bill_12 : decode cX5_bill 12 = .ok (.iload_n 1, 1) := dk_27 (dk_at dksX5_bill_0 12 rfl rfl)
theorem dX5_bill_13 : decode cX5_bill 13 = .ok (.aload_n 0, 1) := dk_42 (dk_at dksX5_bill_0 13 rfl rfl)
theorem dX5_bill_14 : decode cX5_bill 14 = .ok (.getfield 17, 3) := dk_180 0 17 (dk_at dksX5_bill_0 14 rfl rfl)
theorem dX5_bill_17 : decode cX5_bill 17 = .ok (.iload_n 2, 1) := dk_28 (dk_at dksX5_bill_0 17 rfl rfl)
theorem dX5_bill_18 : decode cX5_bill 18 = .ok (.iaload, 1) := dk_46 (dk_at dksX5_bill_0 18 rfl rfl)
theorem dX5_bill_19 : decode cX5_bill 19 = .ok (.iadd, 1) := dk_96 (dk_at dksX5_bill_0 19 rfl rfl)
theorem dX5_bill_20 : decode cX5_bill 20 = .ok (.istore_n 1, 1) := dk_60 (dk_at dksX5_bill_0 20 rfl rfl)
theorem dX5_bill_21 : decode cX5_bill 21 = .ok (.iinc 2 1, 3) := dk_132 2 1 (dk_at dksX5_bill_0 21 rfl rfl)
theorem dX5_bill_24 : decode cX5_bill 24 = .ok (.goto (-20), 3) := dk_167 255 236 (dk_at dksX5_bill_1 0 rfl rfl)
theorem dX5_bill_27 : decode cX5_bill 27 = .ok (.iload_n 1, 1) := dk_27 (dk_at dksX5_bill_1 3 rfl rfl)
theorem dX5_bill_28 : decode cX5_bill 28 = .ok (.ireturn, 1) := dk_172 (dk_at dksX5_bill_1 4 rfl rfl)
abbrev cX5_heads : ByteArray := prog_12_method_9_code
def yX5_heads : MethodName := ⟨RX5, "heads", "()I"⟩
def dkwX5_heads_1 : List UInt8 := [182, 0, 76, 2, 130, 126, 172]
abbrev dktX5_heads_1 : List UInt8 := dkwX5_heads_1 ++ []
def dkwX5_heads_0 : List UInt8 := [4, 42, 180, 0, 33, 120, 4, 100, 60, 42, 182, 0, 76, 27, 160, 0, 7, 27, 167, 0, 11, 27, 42]
abbrev dktX5_heads_0 : List UInt8 := dkwX5_heads_0 ++ dktX5_heads_1
theorem dksX5_heads_0 : cX5_heads.data.toList.drop 0 = dktX5_heads_0 := by decide +kernel
theorem dksX5_heads_1 : cX5_heads.data.toList.drop 23 = dktX5_heads_1 := dk_seg dksX5_heads_0 23 rfl rfl
theorem dX5_heads_0 : decode cX5_heads 0 = .ok (.iconst 1, 1) := dk_4 (dk_at dksX5_heads_0 0 rfl rfl)
theorem dX5_heads_1 : decode cX5_heads 1 = .ok (.aload_n 0, 1) := dk_42 (dk_at dksX5_heads_0 1 rfl rfl)
theorem dX5_heads_2 : decode cX5_heads 2 = .ok (.getfield 33, 3) := dk_180 0 33 (dk_at dksX5_heads_0 2 rfl rfl)
theorem dX5_heads_5 : decode cX5_heads 5 = .ok (.ishl, 1) := dk_120 (dk_at dksX5_heads_0 5 rfl rfl)
theorem dX5_heads_6 : decode cX5_heads 6 = .ok (.iconst 1, 1) := dk_4 (dk_at dksX5_heads_0 6 rfl rfl)
theorem dX5_heads_7 : decode cX5_heads 7 = .ok (.isub, 1) := dk_100 (dk_at dksX5_heads_0 7 rfl rfl)
theorem dX5_heads_8 : decode cX5_heads 8 = .ok (.istore_n 1, 1) := dk_60 (dk_at dksX5_heads_0 8 rfl rfl)
theorem dX5_heads_9 : decode cX5_heads 9 = .ok (.aload_n 0, 1) := dk_42 (dk_at dksX5_heads_0 9 rfl rfl)
theorem dX5_heads_10 : decode cX5_heads 10 = .ok (.invokevirtual 76, 3) := dk_182 0 76 (dk_at dksX5_heads_0 10 rfl rfl)
theorem dX5_heads_13 : decode cX5_heads 13 = .ok (.iload_n 1, 1) := dk_27 (dk_at dksX5_heads_0 13 rfl rfl)
theorem dX5_heads_14 : decode cX5_heads 14 = .ok (.if_icmp .ne 7, 3) := dk_160 0 7 (dk_at dksX5_heads_0 14 rfl rfl)
theorem dX5_heads_17 : decode cX5_heads 17 = .ok (.iload_n 1, 1) := dk_27 (dk_at dksX5_heads_0 17 rfl rfl)
theorem dX5_heads_18 : decode cX5_heads 18 = .ok (.goto 11, 3) := dk_167 0 11 (dk_at dksX5_heads_0 18 rfl rfl)
theorem dX5_heads_21 : decode cX5_heads 21 = .ok (.iload_n 1, 1) := dk_27 (dk_at dksX5_heads_0 21 rfl rfl)
theorem dX5_heads_22 : decode cX5_heads 22 = .ok (.aload_n 0, 1) := dk_42 (dk_at dksX5_heads_0 22 rfl rfl)
theorem dX5_heads_23 : decode cX5_heads 23 = .ok (.invokevirtual 76, 3) := dk_182 0 76 (dk_at dksX5_heads_1 0 rfl rfl)
theorem dX5_heads_26 : decode cX5_heads 26 = .ok (.iconst (-1), 1) := dk_2 (dk_at dksX5_heads_1 3 rfl rfl)
theorem dX5_heads_27 : decode cX5_heads 27 = .ok (.ixor, 1) := dk_130 (dk_at dksX5_heads_1 4 rfl rfl)
theorem dX5_heads_28 : decode cX5_heads 28 = .ok (.iand, 1) := dk_126 (dk_at dksX5_heads_1 5 rfl rfl)
theorem dX5_heads_29 : decode cX5_heads 29 = .ok (.ireturn, 1) := dk_172 (dk_at dksX5_heads_1 6 rfl rfl)
abbrev cX5_guests : ByteArray := prog_12_method_8_code
def yX5_guests : MethodName := ⟨RX5, "guests", "()I"⟩
def dkwX5_guests_1 : List UInt8 := [153, 0, 9, 4, 28, 120, 167, 0, 4, 3, 128, 60, 132, 2, 1, 167, 255, 223, 27, 172]
abbrev dktX5_guests_1 : List UInt8 := dkwX5_guests_1 ++ []
def dkwX5_guests_0 : List UInt8 := [3, 60, 3, 61, 28, 42, 180, 0, 33, 162, 0, 31, 27, 42, 180, 0, 11, 28, 50, 180, 0, 72]
abbrev dktX5_guests_0 : List UInt8 := dkwX5_guests_0 ++ dktX5_guests_1
theorem dksX5_guests_0 : cX5_guests.data.toList.drop 0 = dktX5_guests_0 := by decide +kernel
theorem dksX5_guests_1 : cX5_guests.data.toList.drop 22 = dktX5_guests_1 := dk_seg dksX5_guests_0 22 rfl rfl
theorem dX5_guests_0 : decode cX5_guests 0 = .ok (.iconst 0, 1) := dk_3 (dk_at dksX5_guests_0 0 rfl rfl)
theorem dX5_guests_1 : decode cX5_guests 1 = .ok (.istore_n 1, 1) := dk_60 (dk_at dksX5_guests_0 1 rfl rfl)
theorem dX5_guests_2 : decode cX5_guests 2 = .ok (.iconst 0, 1) := dk_3 (dk_at dksX5_guests_0 2 rfl rfl)
theorem dX5_guests_3 : decode cX5_guests 3 = .ok (.istore_n 2, 1) := dk_61 (dk_at dksX5_guests_0 3 rfl rfl)
theorem dX5_guests_4 : decode cX5_guests 4 = .ok (.iload_n 2, 1) := dk_28 (dk_at dksX5_guests_0 4 rfl rfl)
theorem dX5_guests_5 : decode cX5_guests 5 = .ok (.aload_n 0, 1) := dk_42 (dk_at dksX5_guests_0 5 rfl rfl)
theorem dX5_guests_6 : decode cX5_guests 6 = .ok (.getfield 33, 3) := dk_180 0 33 (dk_at dksX5_guests_0 6 rfl rfl)
theorem dX5_guests_9 : decode cX5_guests 9 = .ok (.if_icmp .ge 31, 3) := dk_162 0 31 (dk_at dksX5_guests_0 9 rfl rfl)
theorem dX5_guests_12 : decode cX5_guests 12 = .ok (.iload_n 1, 1) := dk_27 (dk_at dksX5_guests_0 12 rfl rfl)
theorem dX5_guests_13 : decode cX5_guests 13 = .ok (.aload_n 0, 1) := dk_42 (dk_at dksX5_guests_0 13 rfl rfl)
theorem dX5_guests_14 : decode cX5_guests 14 = .ok (.getfield 11, 3) := dk_180 0 11 (dk_at dksX5_guests_0 14 rfl rfl)
theorem dX5_guests_17 : decode cX5_guests 17 = .ok (.iload_n 2, 1) := dk_28 (dk_at dksX5_guests_0 17 rfl rfl)
theorem dX5_guests_18 : decode cX5_guests 18 = .ok (.aaload, 1) := dk_50 (dk_at dksX5_guests_0 18 rfl rfl)
theorem dX5_guests_19 : decode cX5_guests 19 = .ok (.getfield 72, 3) := dk_180 0 72 (dk_at dksX5_guests_0 19 rfl rfl)
theorem dX5_guests_22 : decode cX5_guests 22 = .ok (.ifCond .eq 9, 3) := dk_153 0 9 (dk_at dksX5_guests_1 0 rfl rfl)
theorem dX5_guests_25 : decode cX5_guests 25 = .ok (.iconst 1, 1) := dk_4 (dk_at dksX5_guests_1 3 rfl rfl)
theorem dX5_guests_26 : decode cX5_guests 26 = .ok (.iload_n 2, 1) := dk_28 (dk_at dksX5_guests_1 4 rfl rfl)
theorem dX5_guests_27 : decode cX5_guests 27 = .ok (.ishl, 1) := dk_120 (dk_at dksX5_guests_1 5 rfl rfl)
theorem dX5_guests_28 : decode cX5_guests 28 = .ok (.goto 4, 3) := dk_167 0 4 (dk_at dksX5_guests_1 6 rfl rfl)
theorem dX5_guests_31 : decode cX5_guests 31 = .ok (.iconst 0, 1) := dk_3 (dk_at dksX5_guests_1 9 rfl rfl)
theorem dX5_guests_32 : decode cX5_guests 32 = .ok (.ior, 1) := dk_128 (dk_at dksX5_guests_1 10 rfl rfl)
theorem dX5_guests_33 : decode cX5_guests 33 = .ok (.istore_n 1, 1) := dk_60 (dk_at dksX5_guests_1 11 rfl rfl)
theorem dX5_guests_34 : decode cX5_guests 34 = .ok (.iinc 2 1, 3) := dk_132 2 1 (dk_at dksX5_guests_1 12 rfl rfl)
theorem dX5_guests_37 : decode cX5_guests 37 = .ok (.goto (-33), 3) := dk_167 255 223 (dk_at dksX5_guests_1 15 rfl rfl)
theorem dX5_guests_40 : decode cX5_guests 40 = .ok (.iload_n 1, 1) := dk_27 (dk_at dksX5_guests_1 18 rfl rfl)
theorem dX5_guests_41 : decode cX5_guests 41 = .ok (.ireturn, 1) := dk_172 (dk_at dksX5_guests_1 19 rfl rfl)
abbrev cX5_eaten : ByteArray := prog_12_method_11_code
def yX5_eaten : MethodName := ⟨RX5, "eaten", "(I)I"⟩
def dkwX5_eaten_0 : List UInt8 := [42, 27, 182, 0, 86, 42, 2, 182, 0, 86, 4, 42, 180, 0, 33, 120, 4, 100, 27, 184, 0, 89, 96, 172]
abbrev dktX5_eaten_0 : List UInt8 := dkwX5_eaten_0 ++ []
theorem dksX5_eaten_0 : cX5_eaten.data.toList.drop 0 = dktX5_eaten_0 := by decide +kernel
theorem dX5_eaten_0 : decode cX5_eaten 0 = .ok (.aload_n 0, 1) := dk_42 (dk_at dksX5_eaten_0 0 rfl rfl)
theorem dX5_eaten_1 : decode cX5_eaten 1 = .ok (.iload_n 1, 1) := dk_27 (dk_at dksX5_eaten_0 1 rfl rfl)
theorem dX5_eaten_2 : decode cX5_eaten 2 = .ok (.invokevirtual 86, 3) := dk_182 0 86 (dk_at dksX5_eaten_0 2 rfl rfl)
theorem dX5_eaten_5 : decode cX5_eaten 5 = .ok (.aload_n 0, 1) := dk_42 (dk_at dksX5_eaten_0 5 rfl rfl)
theorem dX5_eaten_6 : decode cX5_eaten 6 = .ok (.iconst (-1), 1) := dk_2 (dk_at dksX5_eaten_0 6 rfl rfl)
theorem dX5_eaten_7 : decode cX5_eaten 7 = .ok (.invokevirtual 86, 3) := dk_182 0 86 (dk_at dksX5_eaten_0 7 rfl rfl)
theorem dX5_eaten_10 : decode cX5_eaten 10 = .ok (.iconst 1, 1) := dk_4 (dk_at dksX5_eaten_0 10 rfl rfl)
theorem dX5_eaten_11 : decode cX5_eaten 11 = .ok (.aload_n 0, 1) := dk_42 (dk_at dksX5_eaten_0 11 rfl rfl)
theorem dX5_eaten_12 : decode cX5_eaten 12 = .ok (.getfield 33, 3) := dk_180 0 33 (dk_at dksX5_eaten_0 12 rfl rfl)
theorem dX5_eaten_15 : decode cX5_eaten 15 = .ok (.ishl, 1) := dk_120 (dk_at dksX5_eaten_0 15 rfl rfl)
theorem dX5_eaten_16 : decode cX5_eaten 16 = .ok (.iconst 1, 1) := dk_4 (dk_at dksX5_eaten_0 16 rfl rfl)
theorem dX5_eaten_17 : decode cX5_eaten 17 = .ok (.isub, 1) := dk_100 (dk_at dksX5_eaten_0 17 rfl rfl)
theorem dX5_eaten_18 : decode cX5_eaten 18 = .ok (.iload_n 1, 1) := dk_27 (dk_at dksX5_eaten_0 18 rfl rfl)
theorem dX5_eaten_19 : decode cX5_eaten 19 = .ok (.invokestatic 89, 3) := dk_184 0 89 (dk_at dksX5_eaten_0 19 rfl rfl)
theorem dX5_eaten_22 : decode cX5_eaten 22 = .ok (.iadd, 1) := dk_96 (dk_at dksX5_eaten_0 22 rfl rfl)
theorem dX5_eaten_23 : decode cX5_eaten 23 = .ok (.ireturn, 1) := dk_172 (dk_at dksX5_eaten_0 23 rfl rfl)
abbrev cX5_had : ByteArray := prog_12_method_7_code
def yX5_had : MethodName := ⟨RX5, "had", "(I)I"⟩
def dkwX5_had_1 : List UInt8 := [180, 0, 17, 29, 46, 167, 0, 4, 3, 96, 61, 132, 3, 1, 167, 255, 222, 28, 172]
abbrev dktX5_had_1 : List UInt8 := dkwX5_had_1 ++ []
def dkwX5_had_0 : List UInt8 := [3, 61, 3, 62, 29, 42, 180, 0, 40, 162, 0, 32, 28, 42, 180, 0, 21, 29, 46, 27, 160, 0, 12, 42]
abbrev dktX5_had_0 : List UInt8 := dkwX5_had_0 ++ dktX5_had_1
theorem dksX5_had_0 : cX5_had.data.toList.drop 0 = dktX5_had_0 := by decide +kernel
theorem dksX5_had_1 : cX5_had.data.toList.drop 24 = dktX5_had_1 := dk_seg dksX5_had_0 24 rfl rfl
theorem dX5_had_0 : decode cX5_had 0 = .ok (.iconst 0, 1) := dk_3 (dk_at dksX5_had_0 0 rfl rfl)
theorem dX5_had_1 : decode cX5_had 1 = .ok (.istore_n 2, 1) := dk_61 (dk_at dksX5_had_0 1 rfl rfl)
theorem dX5_had_2 : decode cX5_had 2 = .ok (.iconst 0, 1) := dk_3 (dk_at dksX5_had_0 2 rfl rfl)
theorem dX5_had_3 : decode cX5_had 3 = .ok (.istore_n 3, 1) := dk_62 (dk_at dksX5_had_0 3 rfl rfl)
theorem dX5_had_4 : decode cX5_had 4 = .ok (.iload_n 3, 1) := dk_29 (dk_at dksX5_had_0 4 rfl rfl)
theorem dX5_had_5 : decode cX5_had 5 = .ok (.aload_n 0, 1) := dk_42 (dk_at dksX5_had_0 5 rfl rfl)
theorem dX5_had_6 : decode cX5_had 6 = .ok (.getfield 40, 3) := dk_180 0 40 (dk_at dksX5_had_0 6 rfl rfl)
theorem dX5_had_9 : decode cX5_had 9 = .ok (.if_icmp .ge 32, 3) := dk_162 0 32 (dk_at dksX5_had_0 9 rfl rfl)
theorem dX5_had_12 : decode cX5_had 12 = .ok (.iload_n 2, 1) := dk_28 (dk_at dksX5_had_0 12 rfl rfl)
theorem dX5_had_13 : decode cX5_had 13 = .ok (.aload_n 0, 1) := dk_42 (dk_at dksX5_had_0 13 rfl rfl)
theorem dX5_had_14 : decode cX5_had 14 = .ok (.getfield 21, 3) := dk_180 0 21 (dk_at dksX5_had_0 14 rfl rfl)
theorem dX5_had_17 : decode cX5_had 17 = .ok (.iload_n 3, 1) := dk_29 (dk_at dksX5_had_0 17 rfl rfl)
theorem dX5_had_18 : decode cX5_had 18 = .ok (.iaload, 1) := dk_46 (dk_at dksX5_had_0 18 rfl rfl)
theorem dX5_had_19 : decode cX5_had 19 = .ok (.iload_n 1, 1) := dk_27 (dk_at dksX5_had_0 19 rfl rfl)
theorem dX5_had_20 : decode cX5_had 20 = .ok (.if_icmp .ne 12, 3) := dk_160 0 12 (dk_at dksX5_had_0 20 rfl rfl)
theorem dX5_had_23 : decode cX5_had 23 = .ok (.aload_n 0, 1) := dk_42 (dk_at dksX5_had_0 23 rfl rfl)
theorem dX5_had_24 : decode cX5_had 24 = .ok (.getfield 17, 3) := dk_180 0 17 (dk_at dksX5_had_1 0 rfl rfl)
theorem dX5_had_27 : decode cX5_had 27 = .ok (.iload_n 3, 1) := dk_29 (dk_at dksX5_had_1 3 rfl rfl)
theorem dX5_had_28 : decode cX5_had 28 = .ok (.iaload, 1) := dk_46 (dk_at dksX5_had_1 4 rfl rfl)
theorem dX5_had_29 : decode cX5_had 29 = .ok (.goto 4, 3) := dk_167 0 4 (dk_at dksX5_had_1 5 rfl rfl)
theorem dX5_had_32 : decode cX5_had 32 = .ok (.iconst 0, 1) := dk_3 (dk_at dksX5_had_1 8 rfl rfl)
theorem dX5_had_33 : decode cX5_had 33 = .ok (.iadd, 1) := dk_96 (dk_at dksX5_had_1 9 rfl rfl)
theorem dX5_had_34 : decode cX5_had 34 = .ok (.istore_n 2, 1) := dk_61 (dk_at dksX5_had_1 10 rfl rfl)
theorem dX5_had_35 : decode cX5_had 35 = .ok (.iinc 3 1, 3) := dk_132 3 1 (dk_at dksX5_had_1 11 rfl rfl)
theorem dX5_had_38 : decode cX5_had 38 = .ok (.goto (-34), 3) := dk_167 255 222 (dk_at dksX5_had_1 14 rfl rfl)
theorem dX5_had_41 : decode cX5_had 41 = .ok (.iload_n 2, 1) := dk_28 (dk_at dksX5_had_1 17 rfl rfl)
theorem dX5_had_42 : decode cX5_had 42 = .ok (.ireturn, 1) := dk_172 (dk_at dksX5_had_1 18 rfl rfl)
abbrev cX5_part : ByteArray := prog_12_method_10_code
def yX5_part : MethodName := ⟨RX5, "part", "(III)I"⟩
def dkwX5_part_1 : List UInt8 := [184, 0, 80, 54, 4, 26, 29, 108, 21, 4, 26, 29, 112, 162, 0, 7, 4, 167, 0, 4, 3, 96, 172]
abbrev dktX5_part_1 : List UInt8 := dkwX5_part_1 ++ []
def dkwX5_part_0 : List UInt8 := [27, 28, 122, 4, 126, 154, 0, 5, 3, 172, 27, 184, 0, 80, 62, 27, 4, 28, 120, 4, 100, 126]
abbrev dktX5_part_0 : List UInt8 := dkwX5_part_0 ++ dktX5_part_1
theorem dksX5_part_0 : cX5_part.data.toList.drop 0 = dktX5_part_0 := by decide +kernel
theorem dksX5_part_1 : cX5_part.data.toList.drop 22 = dktX5_part_1 := dk_seg dksX5_part_0 22 rfl rfl
theorem dX5_part_0 : decode cX5_part 0 = .ok (.iload_n 1, 1) := dk_27 (dk_at dksX5_part_0 0 rfl rfl)
theorem dX5_part_1 : decode cX5_part 1 = .ok (.iload_n 2, 1) := dk_28 (dk_at dksX5_part_0 1 rfl rfl)
theorem dX5_part_2 : decode cX5_part 2 = .ok (.ishr, 1) := dk_122 (dk_at dksX5_part_0 2 rfl rfl)
theorem dX5_part_3 : decode cX5_part 3 = .ok (.iconst 1, 1) := dk_4 (dk_at dksX5_part_0 3 rfl rfl)
theorem dX5_part_4 : decode cX5_part 4 = .ok (.iand, 1) := dk_126 (dk_at dksX5_part_0 4 rfl rfl)
theorem dX5_part_5 : decode cX5_part 5 = .ok (.ifCond .ne 5, 3) := dk_154 0 5 (dk_at dksX5_part_0 5 rfl rfl)
theorem dX5_part_8 : decode cX5_part 8 = .ok (.iconst 0, 1) := dk_3 (dk_at dksX5_part_0 8 rfl rfl)
theorem dX5_part_9 : decode cX5_part 9 = .ok (.ireturn, 1) := dk_172 (dk_at dksX5_part_0 9 rfl rfl)
theorem dX5_part_10 : decode cX5_part 10 = .ok (.iload_n 1, 1) := dk_27 (dk_at dksX5_part_0 10 rfl rfl)
theorem dX5_part_11 : decode cX5_part 11 = .ok (.invokestatic 80, 3) := dk_184 0 80 (dk_at dksX5_part_0 11 rfl rfl)
theorem dX5_part_14 : decode cX5_part 14 = .ok (.istore_n 3, 1) := dk_62 (dk_at dksX5_part_0 14 rfl rfl)
theorem dX5_part_15 : decode cX5_part 15 = .ok (.iload_n 1, 1) := dk_27 (dk_at dksX5_part_0 15 rfl rfl)
theorem dX5_part_16 : decode cX5_part 16 = .ok (.iconst 1, 1) := dk_4 (dk_at dksX5_part_0 16 rfl rfl)
theorem dX5_part_17 : decode cX5_part 17 = .ok (.iload_n 2, 1) := dk_28 (dk_at dksX5_part_0 17 rfl rfl)
theorem dX5_part_18 : decode cX5_part 18 = .ok (.ishl, 1) := dk_120 (dk_at dksX5_part_0 18 rfl rfl)
theorem dX5_part_19 : decode cX5_part 19 = .ok (.iconst 1, 1) := dk_4 (dk_at dksX5_part_0 19 rfl rfl)
theorem dX5_part_20 : decode cX5_part 20 = .ok (.isub, 1) := dk_100 (dk_at dksX5_part_0 20 rfl rfl)
theorem dX5_part_21 : decode cX5_part 21 = .ok (.iand, 1) := dk_126 (dk_at dksX5_part_0 21 rfl rfl)
theorem dX5_part_22 : decode cX5_part 22 = .ok (.invokestatic 80, 3) := dk_184 0 80 (dk_at dksX5_part_1 0 rfl rfl)
theorem dX5_part_25 : decode cX5_part 25 = .ok (.istore 4, 2) := dk_54 4 (dk_at dksX5_part_1 3 rfl rfl)
theorem dX5_part_27 : decode cX5_part 27 = .ok (.iload_n 0, 1) := dk_26 (dk_at dksX5_part_1 5 rfl rfl)
theorem dX5_part_28 : decode cX5_part 28 = .ok (.iload_n 3, 1) := dk_29 (dk_at dksX5_part_1 6 rfl rfl)
theorem dX5_part_29 : decode cX5_part 29 = .ok (.idiv, 1) := dk_108 (dk_at dksX5_part_1 7 rfl rfl)
theorem dX5_part_30 : decode cX5_part 30 = .ok (.iload 4, 2) := dk_21 4 (dk_at dksX5_part_1 8 rfl rfl)
theorem dX5_part_32 : decode cX5_part 32 = .ok (.iload_n 0, 1) := dk_26 (dk_at dksX5_part_1 10 rfl rfl)
theorem dX5_part_33 : decode cX5_part 33 = .ok (.iload_n 3, 1) := dk_29 (dk_at dksX5_part_1 11 rfl rfl)
theorem dX5_part_34 : decode cX5_part 34 = .ok (.irem, 1) := dk_112 (dk_at dksX5_part_1 12 rfl rfl)
theorem dX5_part_35 : decode cX5_part 35 = .ok (.if_icmp .ge 7, 3) := dk_162 0 7 (dk_at dksX5_part_1 13 rfl rfl)
theorem dX5_part_38 : decode cX5_part 38 = .ok (.iconst 1, 1) := dk_4 (dk_at dksX5_part_1 16 rfl rfl)
theorem dX5_part_39 : decode cX5_part 39 = .ok (.goto 4, 3) := dk_167 0 4 (dk_at dksX5_part_1 17 rfl rfl)
theorem dX5_part_42 : decode cX5_part 42 = .ok (.iconst 0, 1) := dk_3 (dk_at dksX5_part_1 20 rfl rfl)
theorem dX5_part_43 : decode cX5_part 43 = .ok (.iadd, 1) := dk_96 (dk_at dksX5_part_1 21 rfl rfl)
theorem dX5_part_44 : decode cX5_part 44 = .ok (.ireturn, 1) := dk_172 (dk_at dksX5_part_1 22 rfl rfl)
abbrev cX5_due : ByteArray := prog_12_method_13_code
def yX5_due : MethodName := ⟨RX5, "due", "(II)I"⟩
def dkwX5_due_4 : List UInt8 := [182, 0, 105, 29, 42, 182, 0, 93, 27, 184, 0, 89, 96, 172]
abbrev dktX5_due_4 : List UInt8 := dkwX5_due_4 ++ []
def dkwX5_due_3 : List UInt8 := [126, 154, 0, 12, 42, 21, 4, 182, 0, 105, 167, 0, 4, 3, 96, 62, 132, 4, 1, 167, 255, 219, 42, 27]
abbrev dktX5_due_3 : List UInt8 := dkwX5_due_3 ++ dktX5_due_4
def dkwX5_due_2 : List UInt8 := [172, 3, 62, 3, 54, 4, 21, 4, 42, 180, 0, 33, 162, 0, 34, 29, 42, 182, 0, 93, 21, 4, 122, 4]
abbrev dktX5_due_2 : List UInt8 := dkwX5_due_2 ++ dktX5_due_3
def dkwX5_due_1 : List UInt8 := [182, 0, 99, 42, 182, 0, 102, 27, 184, 0, 89, 172, 42, 182, 0, 93, 27, 122, 4, 126, 154, 0, 5, 3]
abbrev dktX5_due_1 : List UInt8 := dkwX5_due_1 ++ dktX5_due_2
def dkwX5_due_0 : List UInt8 := [28, 154, 0, 16, 42, 182, 0, 99, 42, 182, 0, 93, 27, 184, 0, 89, 172, 28, 5, 160, 0, 16, 42]
abbrev dktX5_due_0 : List UInt8 := dkwX5_due_0 ++ dktX5_due_1
theorem dksX5_due_0 : cX5_due.data.toList.drop 0 = dktX5_due_0 := by decide +kernel
theorem dksX5_due_1 : cX5_due.data.toList.drop 23 = dktX5_due_1 := dk_seg dksX5_due_0 23 rfl rfl
theorem dksX5_due_2 : cX5_due.data.toList.drop 47 = dktX5_due_2 := dk_seg dksX5_due_1 24 rfl rfl
theorem dksX5_due_3 : cX5_due.data.toList.drop 71 = dktX5_due_3 := dk_seg dksX5_due_2 24 rfl rfl
theorem dksX5_due_4 : cX5_due.data.toList.drop 95 = dktX5_due_4 := dk_seg dksX5_due_3 24 rfl rfl
theorem dX5_due_0 : decode cX5_due 0 = .ok (.iload_n 2, 1) := dk_28 (dk_at dksX5_due_0 0 rfl rfl)
theorem dX5_due_1 : decode cX5_due 1 = .ok (.ifCond .ne 16, 3) := dk_154 0 16 (dk_at dksX5_due_0 1 rfl rfl)
theorem dX5_due_4 : decode cX5_due 4 = .ok (.aload_n 0, 1) := dk_42 (dk_at dksX5_due_0 4 rfl rfl)
theorem dX5_due_5 : decode cX5_due 5 = .ok (.invokevirtual 99, 3) := dk_182 0 99 (dk_at dksX5_due_0 5 rfl rfl)
theorem dX5_due_8 : decode cX5_due 8 = .ok (.aload_n 0, 1) := dk_42 (dk_at dksX5_due_0 8 rfl rfl)
theorem dX5_due_9 : decode cX5_due 9 = .ok (.invokevirtual 93, 3) := dk_182 0 93 (dk_at dksX5_due_0 9 rfl rfl)
theorem dX5_due_12 : decode cX5_due 12 = .ok (.iload_n 1, 1) := dk_27 (dk_at dksX5_due_0 12 rfl rfl)
theorem dX5_due_13 : decode cX5_due 13 = .ok (.invokestatic 89, 3) := dk_184 0 89 (dk_at dksX5_due_0 13 rfl rfl)
theorem dX5_due_16 : decode cX5_due 16 = .ok (.ireturn, 1) := dk_172 (dk_at dksX5_due_0 16 rfl rfl)
theorem dX5_due_17 : decode cX5_due 17 = .ok (.iload_n 2, 1) := dk_28 (dk_at dksX5_due_0 17 rfl rfl)
theorem dX5_due_18 : decode cX5_due 18 = .ok (.iconst 2, 1) := dk_5 (dk_at dksX5_due_0 18 rfl rfl)
theorem dX5_due_19 : decode cX5_due 19 = .ok (.if_icmp .ne 16, 3) := dk_160 0 16 (dk_at dksX5_due_0 19 rfl rfl)
theorem dX5_due_22 : decode cX5_due 22 = .ok (.aload_n 0, 1) := dk_42 (dk_at dksX5_due_0 22 rfl rfl)
theorem dX5_due_23 : decode cX5_due 23 = .ok (.invokevirtual 99, 3) := dk_182 0 99 (dk_at dksX5_due_1 0 rfl rfl)
theorem dX5_due_26 : decode cX5_due 26 = .ok (.aload_n 0, 1) := dk_42 (dk_at dksX5_due_1 3 rfl rfl)
theorem dX5_due_27 : decode cX5_due 27 = .ok (.invokevirtual 102, 3) := dk_182 0 102 (dk_at dksX5_due_1 4 rfl rfl)
theorem dX5_due_30 : decode cX5_due 30 = .ok (.iload_n 1, 1) := dk_27 (dk_at dksX5_due_1 7 rfl rfl)
theorem dX5_due_31 : decode cX5_due 31 = .ok (.invokestatic 89, 3) := dk_184 0 89 (dk_at dksX5_due_1 8 rfl rfl)
theorem dX5_due_34 : decode cX5_due 34 = .ok (.ireturn, 1) := dk_172 (dk_at dksX5_due_1 11 rfl rfl)
theorem dX5_due_35 : decode cX5_due 35 = .ok (.aload_n 0, 1) := dk_42 (dk_at dksX5_due_1 12 rfl rfl)
theorem dX5_due_36 : decode cX5_due 36 = .ok (.invokevirtual 93, 3) := dk_182 0 93 (dk_at dksX5_due_1 13 rfl rfl)
theorem dX5_due_39 : decode cX5_due 39 = .ok (.iload_n 1, 1) := dk_27 (dk_at dksX5_due_1 16 rfl rfl)
theorem dX5_due_40 : decode cX5_due 40 = .ok (.ishr, 1) := dk_122 (dk_at dksX5_due_1 17 rfl rfl)
theorem dX5_due_41 : decode cX5_due 41 = .ok (.iconst 1, 1) := dk_4 (dk_at dksX5_due_1 18 rfl rfl)
theorem dX5_due_42 : decode cX5_due 42 = .ok (.iand, 1) := dk_126 (dk_at dksX5_due_1 19 rfl rfl)
theorem dX5_due_43 : decode cX5_due 43 = .ok (.ifCond .ne 5, 3) := dk_154 0 5 (dk_at dksX5_due_1 20 rfl rfl)
theorem dX5_due_46 : decode cX5_due 46 = .ok (.iconst 0, 1) := dk_3 (dk_at dksX5_due_1 23 rfl rfl)
theorem dX5_due_47 : decode cX5_due 47 = .ok (.ireturn, 1) := dk_172 (dk_at dksX5_due_2 0 rfl rfl)
theorem dX5_due_48 : decode cX5_due 48 = .ok (.iconst 0, 1) := dk_3 (dk_at dksX5_due_2 1 rfl rfl)
theorem dX5_due_49 : decode cX5_due 49 = .ok (.istore_n 3, 1) := dk_62 (dk_at dksX5_due_2 2 rfl rfl)
theorem dX5_due_50 : decode cX5_due 50 = .ok (.iconst 0, 1) := dk_3 (dk_at dksX5_due_2 3 rfl rfl)
theorem dX5_due_51 : decode cX5_due 51 = .ok (.istore 4, 2) := dk_54 4 (dk_at dksX5_due_2 4 rfl rfl)
theorem dX5_due_53 : decode cX5_due 53 = .ok (.iload 4, 2) := dk_21 4 (dk_at dksX5_due_2 6 rfl rfl)
theorem dX5_due_55 : decode cX5_due 55 = .ok (.aload_n 0, 1) := dk_42 (dk_at dksX5_due_2 8 rfl rfl)
theorem dX5_due_56 : decode cX5_due 56 = .ok (.getfield 33, 3) := dk_180 0 33 (dk_at dksX5_due_2 9 rfl rfl)
theorem dX5_due_59 : decode cX5_due 59 = .ok (.if_icmp .ge 34, 3) := dk_162 0 34 (dk_at dksX5_due_2 12 rfl rfl)
theorem dX5_due_62 : decode cX5_due 62 = .ok (.iload_n 3, 1) := dk_29 (dk_at dksX5_due_2 15 rfl rfl)
theorem dX5_due_63 : decode cX5_due 63 = .ok (.aload_n 0, 1) := dk_42 (dk_at dksX5_due_2 16 rfl rfl)
theorem dX5_due_64 : decode cX5_due 64 = .ok (.invokevirtual 93, 3) := dk_182 0 93 (dk_at dksX5_due_2 17 rfl rfl)
theorem dX5_due_67 : decode cX5_due 67 = .ok (.iload 4, 2) := dk_21 4 (dk_at dksX5_due_2 20 rfl rfl)
theorem dX5_due_69 : decode cX5_due 69 = .ok (.ishr, 1) := dk_122 (dk_at dksX5_due_2 22 rfl rfl)
theorem dX5_due_70 : decode cX5_due 70 = .ok (.iconst 1, 1) := dk_4 (dk_at dksX5_due_2 23 rfl rfl)
theorem dX5_due_71 : decode cX5_due 71 = .ok (.iand, 1) := dk_126 (dk_at dksX5_due_3 0 rfl rfl)
theorem dX5_due_72 : decode cX5_due 72 = .ok (.ifCond .ne 12, 3) := dk_154 0 12 (dk_at dksX5_due_3 1 rfl rfl)
theorem dX5_due_75 : decode cX5_due 75 = .ok (.aload_n 0, 1) := dk_42 (dk_at dksX5_due_3 4 rfl rfl)
theorem dX5_due_76 : decode cX5_due 76 = .ok (.iload 4, 2) := dk_21 4 (dk_at dksX5_due_3 5 rfl rfl)
theorem dX5_due_78 : decode cX5_due 78 = .ok (.invokevirtual 105, 3) := dk_182 0 105 (dk_at dksX5_due_3 7 rfl rfl)
theorem dX5_due_81 : decode cX5_due 81 = .ok (.goto 4, 3) := dk_167 0 4 (dk_at dksX5_due_3 10 rfl rfl)
theorem dX5_due_84 : decode cX5_due 84 = .ok (.iconst 0, 1) := dk_3 (dk_at dksX5_due_3 13 rfl rfl)
theorem dX5_due_85 : decode cX5_due 85 = .ok (.iadd, 1) := dk_96 (dk_at dksX5_due_3 14 rfl rfl)
theorem dX5_due_86 : decode cX5_due 86 = .ok (.istore_n 3, 1) := dk_62 (dk_at dksX5_due_3 15 rfl rfl)
theorem dX5_due_87 : decode cX5_due 87 = .ok (.iinc 4 1, 3) := dk_132 4 1 (dk_at dksX5_due_3 16 rfl rfl)
theorem dX5_due_90 : decode cX5_due 90 = .ok (.goto (-37), 3) := dk_167 255 219 (dk_at dksX5_due_3 19 rfl rfl)
theorem dX5_due_93 : decode cX5_due 93 = .ok (.aload_n 0, 1) := dk_42 (dk_at dksX5_due_3 22 rfl rfl)
theorem dX5_due_94 : decode cX5_due 94 = .ok (.iload_n 1, 1) := dk_27 (dk_at dksX5_due_3 23 rfl rfl)
theorem dX5_due_95 : decode cX5_due 95 = .ok (.invokevirtual 105, 3) := dk_182 0 105 (dk_at dksX5_due_4 0 rfl rfl)
theorem dX5_due_98 : decode cX5_due 98 = .ok (.iload_n 3, 1) := dk_29 (dk_at dksX5_due_4 3 rfl rfl)
theorem dX5_due_99 : decode cX5_due 99 = .ok (.aload_n 0, 1) := dk_42 (dk_at dksX5_due_4 4 rfl rfl)
theorem dX5_due_100 : decode cX5_due 100 = .ok (.invokevirtual 93, 3) := dk_182 0 93 (dk_at dksX5_due_4 5 rfl rfl)
theorem dX5_due_103 : decode cX5_due 103 = .ok (.iload_n 1, 1) := dk_27 (dk_at dksX5_due_4 8 rfl rfl)
theorem dX5_due_104 : decode cX5_due 104 = .ok (.invokestatic 89, 3) := dk_184 0 89 (dk_at dksX5_due_4 9 rfl rfl)
theorem dX5_due_107 : decode cX5_due 107 = .ok (.iadd, 1) := dk_96 (dk_at dksX5_due_4 12 rfl rfl)
theorem dX5_due_108 : decode cX5_due 108 = .ok (.ireturn, 1) := dk_172 (dk_at dksX5_due_4 13 rfl rfl)
abbrev cX5_units : ByteArray := prog_12_method_12_code
def yX5_units : MethodName := ⟨RX5, "units", "()I"⟩
def dkwX5_units_3 : List UInt8 := [167, 255, 196, 28, 172]
abbrev dktX5_units_3 : List UInt8 := dkwX5_units_3 ++ []
def dkwX5_units_2 : List UInt8 := [160, 0, 21, 27, 21, 4, 122, 4, 126, 4, 160, 0, 11, 28, 4, 29, 120, 2, 130, 126, 61, 132, 3, 1]
abbrev dktX5_units_2 : List UInt8 := dkwX5_units_2 ++ dktX5_units_3
def dkwX5_units_1 : List UInt8 := [180, 0, 96, 54, 4, 21, 4, 155, 0, 36, 21, 4, 29, 162, 0, 30, 27, 29, 122, 4, 126, 4]
abbrev dktX5_units_1 : List UInt8 := dkwX5_units_1 ++ dktX5_units_2
def dkwX5_units_0 : List UInt8 := [42, 182, 0, 93, 60, 27, 61, 3, 62, 29, 42, 180, 0, 33, 162, 0, 58, 42, 180, 0, 11, 29, 50]
abbrev dktX5_units_0 : List UInt8 := dkwX5_units_0 ++ dktX5_units_1
theorem dksX5_units_0 : cX5_units.data.toList.drop 0 = dktX5_units_0 := by decide +kernel
theorem dksX5_units_1 : cX5_units.data.toList.drop 23 = dktX5_units_1 := dk_seg dksX5_units_0 23 rfl rfl
theorem dksX5_units_2 : cX5_units.data.toList.drop 45 = dktX5_units_2 := dk_seg dksX5_units_1 22 rfl rfl
theorem dksX5_units_3 : cX5_units.data.toList.drop 69 = dktX5_units_3 := dk_seg dksX5_units_2 24 rfl rfl
theorem dX5_units_0 : decode cX5_units 0 = .ok (.aload_n 0, 1) := dk_42 (dk_at dksX5_units_0 0 rfl rfl)
theorem dX5_units_1 : decode cX5_units 1 = .ok (.invokevirtual 93, 3) := dk_182 0 93 (dk_at dksX5_units_0 1 rfl rfl)
theorem dX5_units_4 : decode cX5_units 4 = .ok (.istore_n 1, 1) := dk_60 (dk_at dksX5_units_0 4 rfl rfl)
theorem dX5_units_5 : decode cX5_units 5 = .ok (.iload_n 1, 1) := dk_27 (dk_at dksX5_units_0 5 rfl rfl)
theorem dX5_units_6 : decode cX5_units 6 = .ok (.istore_n 2, 1) := dk_61 (dk_at dksX5_units_0 6 rfl rfl)
theorem dX5_units_7 : decode cX5_units 7 = .ok (.iconst 0, 1) := dk_3 (dk_at dksX5_units_0 7 rfl rfl)
theorem dX5_units_8 : decode cX5_units 8 = .ok (.istore_n 3, 1) := dk_62 (dk_at dksX5_units_0 8 rfl rfl)
theorem dX5_units_9 : decode cX5_units 9 = .ok (.iload_n 3, 1) := dk_29 (dk_at dksX5_units_0 9 rfl rfl)
theorem dX5_units_10 : decode cX5_units 10 = .ok (.aload_n 0, 1) := dk_42 (dk_at dksX5_units_0 10 rfl rfl)
theorem dX5_units_11 : decode cX5_units 11 = .ok (.getfield 33, 3) := dk_180 0 33 (dk_at dksX5_units_0 11 rfl rfl)
theorem dX5_units_14 : decode cX5_units 14 = .ok (.if_icmp .ge 58, 3) := dk_162 0 58 (dk_at dksX5_units_0 14 rfl rfl)
theorem dX5_units_17 : decode cX5_units 17 = .ok (.aload_n 0, 1) := dk_42 (dk_at dksX5_units_0 17 rfl rfl)
theorem dX5_units_18 : decode cX5_units 18 = .ok (.getfield 11, 3) := dk_180 0 11 (dk_at dksX5_units_0 18 rfl rfl)
theorem dX5_units_21 : decode cX5_units 21 = .ok (.iload_n 3, 1) := dk_29 (dk_at dksX5_units_0 21 rfl rfl)
theorem dX5_units_22 : decode cX5_units 22 = .ok (.aaload, 1) := dk_50 (dk_at dksX5_units_0 22 rfl rfl)
theorem dX5_units_23 : decode cX5_units 23 = .ok (.getfield 96, 3) := dk_180 0 96 (dk_at dksX5_units_1 0 rfl rfl)
theorem dX5_units_26 : decode cX5_units 26 = .ok (.istore 4, 2) := dk_54 4 (dk_at dksX5_units_1 3 rfl rfl)
theorem dX5_units_28 : decode cX5_units 28 = .ok (.iload 4, 2) := dk_21 4 (dk_at dksX5_units_1 5 rfl rfl)
theorem dX5_units_30 : decode cX5_units 30 = .ok (.ifCond .lt 36, 3) := dk_155 0 36 (dk_at dksX5_units_1 7 rfl rfl)
theorem dX5_units_33 : decode cX5_units 33 = .ok (.iload 4, 2) := dk_21 4 (dk_at dksX5_units_1 10 rfl rfl)
theorem dX5_units_35 : decode cX5_units 35 = .ok (.iload_n 3, 1) := dk_29 (dk_at dksX5_units_1 12 rfl rfl)
theorem dX5_units_36 : decode cX5_units 36 = .ok (.if_icmp .ge 30, 3) := dk_162 0 30 (dk_at dksX5_units_1 13 rfl rfl)
theorem dX5_units_39 : decode cX5_units 39 = .ok (.iload_n 1, 1) := dk_27 (dk_at dksX5_units_1 16 rfl rfl)
theorem dX5_units_40 : decode cX5_units 40 = .ok (.iload_n 3, 1) := dk_29 (dk_at dksX5_units_1 17 rfl rfl)
theorem dX5_units_41 : decode cX5_units 41 = .ok (.ishr, 1) := dk_122 (dk_at dksX5_units_1 18 rfl rfl)
theorem dX5_units_42 : decode cX5_units 42 = .ok (.iconst 1, 1) := dk_4 (dk_at dksX5_units_1 19 rfl rfl)
theorem dX5_units_43 : decode cX5_units 43 = .ok (.iand, 1) := dk_126 (dk_at dksX5_units_1 20 rfl rfl)
theorem dX5_units_44 : decode cX5_units 44 = .ok (.iconst 1, 1) := dk_4 (dk_at dksX5_units_1 21 rfl rfl)
theorem dX5_units_45 : decode cX5_units 45 = .ok (.if_icmp .ne 21, 3) := dk_160 0 21 (dk_at dksX5_units_2 0 rfl rfl)
theorem dX5_units_48 : decode cX5_units 48 = .ok (.iload_n 1, 1) := dk_27 (dk_at dksX5_units_2 3 rfl rfl)
theorem dX5_units_49 : decode cX5_units 49 = .ok (.iload 4, 2) := dk_21 4 (dk_at dksX5_units_2 4 rfl rfl)
theorem dX5_units_51 : decode cX5_units 51 = .ok (.ishr, 1) := dk_122 (dk_at dksX5_units_2 6 rfl rfl)
theorem dX5_units_52 : decode cX5_units 52 = .ok (.iconst 1, 1) := dk_4 (dk_at dksX5_units_2 7 rfl rfl)
theorem dX5_units_53 : decode cX5_units 53 = .ok (.iand, 1) := dk_126 (dk_at dksX5_units_2 8 rfl rfl)
theorem dX5_units_54 : decode cX5_units 54 = .ok (.iconst 1, 1) := dk_4 (dk_at dksX5_units_2 9 rfl rfl)
theorem dX5_units_55 : decode cX5_units 55 = .ok (.if_icmp .ne 11, 3) := dk_160 0 11 (dk_at dksX5_units_2 10 rfl rfl)
theorem dX5_units_58 : decode cX5_units 58 = .ok (.iload_n 2, 1) := dk_28 (dk_at dksX5_units_2 13 rfl rfl)
theorem dX5_units_59 : decode cX5_units 59 = .ok (.iconst 1, 1) := dk_4 (dk_at dksX5_units_2 14 rfl rfl)
theorem dX5_units_60 : decode cX5_units 60 = .ok (.iload_n 3, 1) := dk_29 (dk_at dksX5_units_2 15 rfl rfl)
theorem dX5_units_61 : decode cX5_units 61 = .ok (.ishl, 1) := dk_120 (dk_at dksX5_units_2 16 rfl rfl)
theorem dX5_units_62 : decode cX5_units 62 = .ok (.iconst (-1), 1) := dk_2 (dk_at dksX5_units_2 17 rfl rfl)
theorem dX5_units_63 : decode cX5_units 63 = .ok (.ixor, 1) := dk_130 (dk_at dksX5_units_2 18 rfl rfl)
theorem dX5_units_64 : decode cX5_units 64 = .ok (.iand, 1) := dk_126 (dk_at dksX5_units_2 19 rfl rfl)
theorem dX5_units_65 : decode cX5_units 65 = .ok (.istore_n 2, 1) := dk_61 (dk_at dksX5_units_2 20 rfl rfl)
theorem dX5_units_66 : decode cX5_units 66 = .ok (.iinc 3 1, 3) := dk_132 3 1 (dk_at dksX5_units_2 21 rfl rfl)
theorem dX5_units_69 : decode cX5_units 69 = .ok (.goto (-60), 3) := dk_167 255 196 (dk_at dksX5_units_3 0 rfl rfl)
theorem dX5_units_72 : decode cX5_units 72 = .ok (.iload_n 2, 1) := dk_28 (dk_at dksX5_units_3 3 rfl rfl)
theorem dX5_units_73 : decode cX5_units 73 = .ok (.ireturn, 1) := dk_172 (dk_at dksX5_units_3 4 rfl rfl)
abbrev cX5_pays : ByteArray := prog_12_method_17_code
def yX5_pays : MethodName := ⟨RX5, "pays", "(I)Z"⟩
def dkwX5_pays_4 : List UInt8 := [96, 79, 4, 172]
abbrev dktX5_pays_4 : List UInt8 := dkwX5_pays_4 ++ []
def dkwX5_pays_3 : List UInt8 := [180, 0, 43, 182, 0, 111, 96, 182, 0, 115, 132, 2, 1, 167, 255, 218, 42, 180, 0, 24, 27, 92, 46, 4]
abbrev dktX5_pays_3 : List UInt8 := dkwX5_pays_3 ++ dktX5_pays_4
def dkwX5_pays_2 : List UInt8 := [180, 0, 33, 162, 0, 36, 28, 27, 159, 0, 25, 42, 28, 27, 42, 28, 27, 182, 0, 108, 42, 28, 42]
abbrev dktX5_pays_2 : List UInt8 := dkwX5_pays_2 ++ dktX5_pays_3
def dkwX5_pays_1 : List UInt8 := [180, 0, 43, 182, 0, 111, 96, 18, 114, 164, 0, 5, 3, 172, 132, 2, 1, 167, 255, 217, 3, 61, 28, 42]
abbrev dktX5_pays_1 : List UInt8 := dkwX5_pays_1 ++ dktX5_pays_2
def dkwX5_pays_0 : List UInt8 := [3, 61, 28, 42, 180, 0, 33, 162, 0, 37, 28, 27, 159, 0, 26, 42, 28, 27, 182, 0, 108, 42, 28, 42]
abbrev dktX5_pays_0 : List UInt8 := dkwX5_pays_0 ++ dktX5_pays_1
theorem dksX5_pays_0 : cX5_pays.data.toList.drop 0 = dktX5_pays_0 := by decide +kernel
theorem dksX5_pays_1 : cX5_pays.data.toList.drop 24 = dktX5_pays_1 := dk_seg dksX5_pays_0 24 rfl rfl
theorem dksX5_pays_2 : cX5_pays.data.toList.drop 48 = dktX5_pays_2 := dk_seg dksX5_pays_1 24 rfl rfl
theorem dksX5_pays_3 : cX5_pays.data.toList.drop 71 = dktX5_pays_3 := dk_seg dksX5_pays_2 23 rfl rfl
theorem dksX5_pays_4 : cX5_pays.data.toList.drop 95 = dktX5_pays_4 := dk_seg dksX5_pays_3 24 rfl rfl
theorem dX5_pays_0 : decode cX5_pays 0 = .ok (.iconst 0, 1) := dk_3 (dk_at dksX5_pays_0 0 rfl rfl)
theorem dX5_pays_1 : decode cX5_pays 1 = .ok (.istore_n 2, 1) := dk_61 (dk_at dksX5_pays_0 1 rfl rfl)
theorem dX5_pays_2 : decode cX5_pays 2 = .ok (.iload_n 2, 1) := dk_28 (dk_at dksX5_pays_0 2 rfl rfl)
theorem dX5_pays_3 : decode cX5_pays 3 = .ok (.aload_n 0, 1) := dk_42 (dk_at dksX5_pays_0 3 rfl rfl)
theorem dX5_pays_4 : decode cX5_pays 4 = .ok (.getfield 33, 3) := dk_180 0 33 (dk_at dksX5_pays_0 4 rfl rfl)
theorem dX5_pays_7 : decode cX5_pays 7 = .ok (.if_icmp .ge 37, 3) := dk_162 0 37 (dk_at dksX5_pays_0 7 rfl rfl)
theorem dX5_pays_10 : decode cX5_pays 10 = .ok (.iload_n 2, 1) := dk_28 (dk_at dksX5_pays_0 10 rfl rfl)
theorem dX5_pays_11 : decode cX5_pays 11 = .ok (.iload_n 1, 1) := dk_27 (dk_at dksX5_pays_0 11 rfl rfl)
theorem dX5_pays_12 : decode cX5_pays 12 = .ok (.if_icmp .eq 26, 3) := dk_159 0 26 (dk_at dksX5_pays_0 12 rfl rfl)
theorem dX5_pays_15 : decode cX5_pays 15 = .ok (.aload_n 0, 1) := dk_42 (dk_at dksX5_pays_0 15 rfl rfl)
theorem dX5_pays_16 : decode cX5_pays 16 = .ok (.iload_n 2, 1) := dk_28 (dk_at dksX5_pays_0 16 rfl rfl)
theorem dX5_pays_17 : decode cX5_pays 17 = .ok (.iload_n 1, 1) := dk_27 (dk_at dksX5_pays_0 17 rfl rfl)
theorem dX5_pays_18 : decode cX5_pays 18 = .ok (.invokevirtual 108, 3) := dk_182 0 108 (dk_at dksX5_pays_0 18 rfl rfl)
theorem dX5_pays_21 : decode cX5_pays 21 = .ok (.aload_n 0, 1) := dk_42 (dk_at dksX5_pays_0 21 rfl rfl)
theorem dX5_pays_22 : decode cX5_pays 22 = .ok (.iload_n 2, 1) := dk_28 (dk_at dksX5_pays_0 22 rfl rfl)
theorem dX5_pays_23 : decode cX5_pays 23 = .ok (.aload_n 0, 1) := dk_42 (dk_at dksX5_pays_0 23 rfl rfl)
theorem dX5_pays_24 : decode cX5_pays 24 = .ok (.getfield 43, 3) := dk_180 0 43 (dk_at dksX5_pays_1 0 rfl rfl)
theorem dX5_pays_27 : decode cX5_pays 27 = .ok (.invokevirtual 111, 3) := dk_182 0 111 (dk_at dksX5_pays_1 3 rfl rfl)
theorem dX5_pays_30 : decode cX5_pays 30 = .ok (.iadd, 1) := dk_96 (dk_at dksX5_pays_1 6 rfl rfl)
theorem dX5_pays_31 : decode cX5_pays 31 = .ok (.ldc 114, 2) := dk_18 114 (dk_at dksX5_pays_1 7 rfl rfl)
theorem dX5_pays_33 : decode cX5_pays 33 = .ok (.if_icmp .le 5, 3) := dk_164 0 5 (dk_at dksX5_pays_1 9 rfl rfl)
theorem dX5_pays_36 : decode cX5_pays 36 = .ok (.iconst 0, 1) := dk_3 (dk_at dksX5_pays_1 12 rfl rfl)
theorem dX5_pays_37 : decode cX5_pays 37 = .ok (.ireturn, 1) := dk_172 (dk_at dksX5_pays_1 13 rfl rfl)
theorem dX5_pays_38 : decode cX5_pays 38 = .ok (.iinc 2 1, 3) := dk_132 2 1 (dk_at dksX5_pays_1 14 rfl rfl)
theorem dX5_pays_41 : decode cX5_pays 41 = .ok (.goto (-39), 3) := dk_167 255 217 (dk_at dksX5_pays_1 17 rfl rfl)
theorem dX5_pays_44 : decode cX5_pays 44 = .ok (.iconst 0, 1) := dk_3 (dk_at dksX5_pays_1 20 rfl rfl)
theorem dX5_pays_45 : decode cX5_pays 45 = .ok (.istore_n 2, 1) := dk_61 (dk_at dksX5_pays_1 21 rfl rfl)
theorem dX5_pays_46 : decode cX5_pays 46 = .ok (.iload_n 2, 1) := dk_28 (dk_at dksX5_pays_1 22 rfl rfl)
theorem dX5_pays_47 : decode cX5_pays 47 = .ok (.aload_n 0, 1) := dk_42 (dk_at dksX5_pays_1 23 rfl rfl)
theorem dX5_pays_48 : decode cX5_pays 48 = .ok (.getfield 33, 3) := dk_180 0 33 (dk_at dksX5_pays_2 0 rfl rfl)
theorem dX5_pays_51 : decode cX5_pays 51 = .ok (.if_icmp .ge 36, 3) := dk_162 0 36 (dk_at dksX5_pays_2 3 rfl rfl)
theorem dX5_pays_54 : decode cX5_pays 54 = .ok (.iload_n 2, 1) := dk_28 (dk_at dksX5_pays_2 6 rfl rfl)
theorem dX5_pays_55 : decode cX5_pays 55 = .ok (.iload_n 1, 1) := dk_27 (dk_at dksX5_pays_2 7 rfl rfl)
theorem dX5_pays_56 : decode cX5_pays 56 = .ok (.if_icmp .eq 25, 3) := dk_159 0 25 (dk_at dksX5_pays_2 8 rfl rfl)
theorem dX5_pays_59 : decode cX5_pays 59 = .ok (.aload_n 0, 1) := dk_42 (dk_at dksX5_pays_2 11 rfl rfl)
theorem dX5_pays_60 : decode cX5_pays 60 = .ok (.iload_n 2, 1) := dk_28 (dk_at dksX5_pays_2 12 rfl rfl)
theorem dX5_pays_61 : decode cX5_pays 61 = .ok (.iload_n 1, 1) := dk_27 (dk_at dksX5_pays_2 13 rfl rfl)
theorem dX5_pays_62 : decode cX5_pays 62 = .ok (.aload_n 0, 1) := dk_42 (dk_at dksX5_pays_2 14 rfl rfl)
theorem dX5_pays_63 : decode cX5_pays 63 = .ok (.iload_n 2, 1) := dk_28 (dk_at dksX5_pays_2 15 rfl rfl)
theorem dX5_pays_64 : decode cX5_pays 64 = .ok (.iload_n 1, 1) := dk_27 (dk_at dksX5_pays_2 16 rfl rfl)
theorem dX5_pays_65 : decode cX5_pays 65 = .ok (.invokevirtual 108, 3) := dk_182 0 108 (dk_at dksX5_pays_2 17 rfl rfl)
theorem dX5_pays_68 : decode cX5_pays 68 = .ok (.aload_n 0, 1) := dk_42 (dk_at dksX5_pays_2 20 rfl rfl)
theorem dX5_pays_69 : decode cX5_pays 69 = .ok (.iload_n 2, 1) := dk_28 (dk_at dksX5_pays_2 21 rfl rfl)
theorem dX5_pays_70 : decode cX5_pays 70 = .ok (.aload_n 0, 1) := dk_42 (dk_at dksX5_pays_2 22 rfl rfl)
theorem dX5_pays_71 : decode cX5_pays 71 = .ok (.getfield 43, 3) := dk_180 0 43 (dk_at dksX5_pays_3 0 rfl rfl)
theorem dX5_pays_74 : decode cX5_pays 74 = .ok (.invokevirtual 111, 3) := dk_182 0 111 (dk_at dksX5_pays_3 3 rfl rfl)
theorem dX5_pays_77 : decode cX5_pays 77 = .ok (.iadd, 1) := dk_96 (dk_at dksX5_pays_3 6 rfl rfl)
theorem dX5_pays_78 : decode cX5_pays 78 = .ok (.invokevirtual 115, 3) := dk_182 0 115 (dk_at dksX5_pays_3 7 rfl rfl)
theorem dX5_pays_81 : decode cX5_pays 81 = .ok (.iinc 2 1, 3) := dk_132 2 1 (dk_at dksX5_pays_3 10 rfl rfl)
theorem dX5_pays_84 : decode cX5_pays 84 = .ok (.goto (-38), 3) := dk_167 255 218 (dk_at dksX5_pays_3 13 rfl rfl)
theorem dX5_pays_87 : decode cX5_pays 87 = .ok (.aload_n 0, 1) := dk_42 (dk_at dksX5_pays_3 16 rfl rfl)
theorem dX5_pays_88 : decode cX5_pays 88 = .ok (.getfield 24, 3) := dk_180 0 24 (dk_at dksX5_pays_3 17 rfl rfl)
theorem dX5_pays_91 : decode cX5_pays 91 = .ok (.iload_n 1, 1) := dk_27 (dk_at dksX5_pays_3 20 rfl rfl)
theorem dX5_pays_92 : decode cX5_pays 92 = .ok (.dup2, 1) := dk_92 (dk_at dksX5_pays_3 21 rfl rfl)
theorem dX5_pays_93 : decode cX5_pays 93 = .ok (.iaload, 1) := dk_46 (dk_at dksX5_pays_3 22 rfl rfl)
theorem dX5_pays_94 : decode cX5_pays 94 = .ok (.iconst 1, 1) := dk_4 (dk_at dksX5_pays_3 23 rfl rfl)
theorem dX5_pays_95 : decode cX5_pays 95 = .ok (.iadd, 1) := dk_96 (dk_at dksX5_pays_4 0 rfl rfl)
theorem dX5_pays_96 : decode cX5_pays 96 = .ok (.iastore, 1) := dk_79 (dk_at dksX5_pays_4 1 rfl rfl)
theorem dX5_pays_97 : decode cX5_pays 97 = .ok (.iconst 1, 1) := dk_4 (dk_at dksX5_pays_4 2 rfl rfl)
theorem dX5_pays_98 : decode cX5_pays 98 = .ok (.ireturn, 1) := dk_172 (dk_at dksX5_pays_4 3 rfl rfl)
abbrev cX5_owes : ByteArray := prog_12_method_14_code
def yX5_owes : MethodName := ⟨RX5, "owes", "(II)I"⟩
def dkwX5_owes_0 : List UInt8 := [42, 180, 0, 27, 16, 6, 27, 104, 28, 96, 46, 172]
abbrev dktX5_owes_0 : List UInt8 := dkwX5_owes_0 ++ []
theorem dksX5_owes_0 : cX5_owes.data.toList.drop 0 = dktX5_owes_0 := by decide +kernel
theorem dX5_owes_0 : decode cX5_owes 0 = .ok (.aload_n 0, 1) := dk_42 (dk_at dksX5_owes_0 0 rfl rfl)
theorem dX5_owes_1 : decode cX5_owes 1 = .ok (.getfield 27, 3) := dk_180 0 27 (dk_at dksX5_owes_0 1 rfl rfl)
theorem dX5_owes_4 : decode cX5_owes 4 = .ok (.bipush 6, 2) := dk_16 6 (dk_at dksX5_owes_0 4 rfl rfl)
theorem dX5_owes_6 : decode cX5_owes 6 = .ok (.iload_n 1, 1) := dk_27 (dk_at dksX5_owes_0 6 rfl rfl)
theorem dX5_owes_7 : decode cX5_owes 7 = .ok (.imul, 1) := dk_104 (dk_at dksX5_owes_0 7 rfl rfl)
theorem dX5_owes_8 : decode cX5_owes 8 = .ok (.iload_n 2, 1) := dk_28 (dk_at dksX5_owes_0 8 rfl rfl)
theorem dX5_owes_9 : decode cX5_owes 9 = .ok (.iadd, 1) := dk_96 (dk_at dksX5_owes_0 9 rfl rfl)
theorem dX5_owes_10 : decode cX5_owes 10 = .ok (.iaload, 1) := dk_46 (dk_at dksX5_owes_0 10 rfl rfl)
theorem dX5_owes_11 : decode cX5_owes 11 = .ok (.ireturn, 1) := dk_172 (dk_at dksX5_owes_0 11 rfl rfl)
abbrev cX5_turn : ByteArray := prog_12_method_19_code
def yX5_turn : MethodName := ⟨RX5, "turn", "(I)I"⟩
def dkwX5_turn_2 : List UInt8 := [167, 255, 212, 28, 172]
abbrev dktX5_turn_2 : List UInt8 := dkwX5_turn_2 ++ []
def dkwX5_turn_1 : List UInt8 := [28, 155, 0, 18, 42, 29, 27, 182, 0, 128, 42, 28, 27, 182, 0, 128, 164, 0, 5, 29, 61, 132, 3, 1]
abbrev dktX5_turn_1 : List UInt8 := dkwX5_turn_1 ++ dktX5_turn_2
def dkwX5_turn_0 : List UInt8 := [2, 61, 3, 62, 29, 42, 180, 0, 33, 162, 0, 42, 42, 182, 0, 93, 29, 122, 4, 126, 4, 160, 0, 24]
abbrev dktX5_turn_0 : List UInt8 := dkwX5_turn_0 ++ dktX5_turn_1
theorem dksX5_turn_0 : cX5_turn.data.toList.drop 0 = dktX5_turn_0 := by decide +kernel
theorem dksX5_turn_1 : cX5_turn.data.toList.drop 24 = dktX5_turn_1 := dk_seg dksX5_turn_0 24 rfl rfl
theorem dksX5_turn_2 : cX5_turn.data.toList.drop 48 = dktX5_turn_2 := dk_seg dksX5_turn_1 24 rfl rfl
theorem dX5_turn_0 : decode cX5_turn 0 = .ok (.iconst (-1), 1) := dk_2 (dk_at dksX5_turn_0 0 rfl rfl)
theorem dX5_turn_1 : decode cX5_turn 1 = .ok (.istore_n 2, 1) := dk_61 (dk_at dksX5_turn_0 1 rfl rfl)
theorem dX5_turn_2 : decode cX5_turn 2 = .ok (.iconst 0, 1) := dk_3 (dk_at dksX5_turn_0 2 rfl rfl)
theorem dX5_turn_3 : decode cX5_turn 3 = .ok (.istore_n 3, 1) := dk_62 (dk_at dksX5_turn_0 3 rfl rfl)
theorem dX5_turn_4 : decode cX5_turn 4 = .ok (.iload_n 3, 1) := dk_29 (dk_at dksX5_turn_0 4 rfl rfl)
theorem dX5_turn_5 : decode cX5_turn 5 = .ok (.aload_n 0, 1) := dk_42 (dk_at dksX5_turn_0 5 rfl rfl)
theorem dX5_turn_6 : decode cX5_turn 6 = .ok (.getfield 33, 3) := dk_180 0 33 (dk_at dksX5_turn_0 6 rfl rfl)
theorem dX5_turn_9 : decode cX5_turn 9 = .ok (.if_icmp .ge 42, 3) := dk_162 0 42 (dk_at dksX5_turn_0 9 rfl rfl)
theorem dX5_turn_12 : decode cX5_turn 12 = .ok (.aload_n 0, 1) := dk_42 (dk_at dksX5_turn_0 12 rfl rfl)
theorem dX5_turn_13 : decode cX5_turn 13 = .ok (.invokevirtual 93, 3) := dk_182 0 93 (dk_at dksX5_turn_0 13 rfl rfl)
theorem dX5_turn_16 : decode cX5_turn 16 = .ok (.iload_n 3, 1) := dk_29 (dk_at dksX5_turn_0 16 rfl rfl)
theorem dX5_turn_17 : decode cX5_turn 17 = .ok (.ishr, 1) := dk_122 (dk_at dksX5_turn_0 17 rfl rfl)
theorem dX5_turn_18 : decode cX5_turn 18 = .ok (.iconst 1, 1) := dk_4 (dk_at dksX5_turn_0 18 rfl rfl)
theorem dX5_turn_19 : decode cX5_turn 19 = .ok (.iand, 1) := dk_126 (dk_at dksX5_turn_0 19 rfl rfl)
theorem dX5_turn_20 : decode cX5_turn 20 = .ok (.iconst 1, 1) := dk_4 (dk_at dksX5_turn_0 20 rfl rfl)
theorem dX5_turn_21 : decode cX5_turn 21 = .ok (.if_icmp .ne 24, 3) := dk_160 0 24 (dk_at dksX5_turn_0 21 rfl rfl)
theorem dX5_turn_24 : decode cX5_turn 24 = .ok (.iload_n 2, 1) := dk_28 (dk_at dksX5_turn_1 0 rfl rfl)
theorem dX5_turn_25 : decode cX5_turn 25 = .ok (.ifCond .lt 18, 3) := dk_155 0 18 (dk_at dksX5_turn_1 1 rfl rfl)
theorem dX5_turn_28 : decode cX5_turn 28 = .ok (.aload_n 0, 1) := dk_42 (dk_at dksX5_turn_1 4 rfl rfl)
theorem dX5_turn_29 : decode cX5_turn 29 = .ok (.iload_n 3, 1) := dk_29 (dk_at dksX5_turn_1 5 rfl rfl)
theorem dX5_turn_30 : decode cX5_turn 30 = .ok (.iload_n 1, 1) := dk_27 (dk_at dksX5_turn_1 6 rfl rfl)
theorem dX5_turn_31 : decode cX5_turn 31 = .ok (.invokevirtual 128, 3) := dk_182 0 128 (dk_at dksX5_turn_1 7 rfl rfl)
theorem dX5_turn_34 : decode cX5_turn 34 = .ok (.aload_n 0, 1) := dk_42 (dk_at dksX5_turn_1 10 rfl rfl)
theorem dX5_turn_35 : decode cX5_turn 35 = .ok (.iload_n 2, 1) := dk_28 (dk_at dksX5_turn_1 11 rfl rfl)
theorem dX5_turn_36 : decode cX5_turn 36 = .ok (.iload_n 1, 1) := dk_27 (dk_at dksX5_turn_1 12 rfl rfl)
theorem dX5_turn_37 : decode cX5_turn 37 = .ok (.invokevirtual 128, 3) := dk_182 0 128 (dk_at dksX5_turn_1 13 rfl rfl)
theorem dX5_turn_40 : decode cX5_turn 40 = .ok (.if_icmp .le 5, 3) := dk_164 0 5 (dk_at dksX5_turn_1 16 rfl rfl)
theorem dX5_turn_43 : decode cX5_turn 43 = .ok (.iload_n 3, 1) := dk_29 (dk_at dksX5_turn_1 19 rfl rfl)
theorem dX5_turn_44 : decode cX5_turn 44 = .ok (.istore_n 2, 1) := dk_61 (dk_at dksX5_turn_1 20 rfl rfl)
theorem dX5_turn_45 : decode cX5_turn 45 = .ok (.iinc 3 1, 3) := dk_132 3 1 (dk_at dksX5_turn_1 21 rfl rfl)
theorem dX5_turn_48 : decode cX5_turn 48 = .ok (.goto (-44), 3) := dk_167 255 212 (dk_at dksX5_turn_2 0 rfl rfl)
theorem dX5_turn_51 : decode cX5_turn 51 = .ok (.iload_n 2, 1) := dk_28 (dk_at dksX5_turn_2 3 rfl rfl)
theorem dX5_turn_52 : decode cX5_turn 52 = .ok (.ireturn, 1) := dk_172 (dk_at dksX5_turn_2 4 rfl rfl)
abbrev cX5_first : ByteArray := prog_12_method_18_code
def yX5_first : MethodName := ⟨RX5, "first", "(II)I"⟩
def dkwX5_first_2 : List UInt8 := [180, 0, 11, 27, 50, 180, 0, 125, 172]
abbrev dktX5_first_2 : List UInt8 := dkwX5_first_2 ++ []
def dkwX5_first_1 : List UInt8 := [116, 167, 0, 29, 28, 5, 160, 0, 15, 42, 180, 0, 11, 27, 50, 180, 0, 122, 167, 0, 12, 42]
abbrev dktX5_first_1 : List UInt8 := dkwX5_first_1 ++ dktX5_first_2
def dkwX5_first_0 : List UInt8 := [28, 154, 0, 13, 42, 180, 0, 24, 27, 46, 116, 167, 0, 43, 28, 4, 160, 0, 12, 42, 27, 182, 0, 119]
abbrev dktX5_first_0 : List UInt8 := dkwX5_first_0 ++ dktX5_first_1
theorem dksX5_first_0 : cX5_first.data.toList.drop 0 = dktX5_first_0 := by decide +kernel
theorem dksX5_first_1 : cX5_first.data.toList.drop 24 = dktX5_first_1 := dk_seg dksX5_first_0 24 rfl rfl
theorem dksX5_first_2 : cX5_first.data.toList.drop 46 = dktX5_first_2 := dk_seg dksX5_first_1 22 rfl rfl
theorem dX5_first_0 : decode cX5_first 0 = .ok (.iload_n 2, 1) := dk_28 (dk_at dksX5_first_0 0 rfl rfl)
theorem dX5_first_1 : decode cX5_first 1 = .ok (.ifCond .ne 13, 3) := dk_154 0 13 (dk_at dksX5_first_0 1 rfl rfl)
theorem dX5_first_4 : decode cX5_first 4 = .ok (.aload_n 0, 1) := dk_42 (dk_at dksX5_first_0 4 rfl rfl)
theorem dX5_first_5 : decode cX5_first 5 = .ok (.getfield 24, 3) := dk_180 0 24 (dk_at dksX5_first_0 5 rfl rfl)
theorem dX5_first_8 : decode cX5_first 8 = .ok (.iload_n 1, 1) := dk_27 (dk_at dksX5_first_0 8 rfl rfl)
theorem dX5_first_9 : decode cX5_first 9 = .ok (.iaload, 1) := dk_46 (dk_at dksX5_first_0 9 rfl rfl)
theorem dX5_first_10 : decode cX5_first 10 = .ok (.ineg, 1) := dk_116 (dk_at dksX5_first_0 10 rfl rfl)
theorem dX5_first_11 : decode cX5_first 11 = .ok (.goto 43, 3) := dk_167 0 43 (dk_at dksX5_first_0 11 rfl rfl)
theorem dX5_first_14 : decode cX5_first 14 = .ok (.iload_n 2, 1) := dk_28 (dk_at dksX5_first_0 14 rfl rfl)
theorem dX5_first_15 : decode cX5_first 15 = .ok (.iconst 1, 1) := dk_4 (dk_at dksX5_first_0 15 rfl rfl)
theorem dX5_first_16 : decode cX5_first 16 = .ok (.if_icmp .ne 12, 3) := dk_160 0 12 (dk_at dksX5_first_0 16 rfl rfl)
theorem dX5_first_19 : decode cX5_first 19 = .ok (.aload_n 0, 1) := dk_42 (dk_at dksX5_first_0 19 rfl rfl)
theorem dX5_first_20 : decode cX5_first 20 = .ok (.iload_n 1, 1) := dk_27 (dk_at dksX5_first_0 20 rfl rfl)
theorem dX5_first_21 : decode cX5_first 21 = .ok (.invokevirtual 119, 3) := dk_182 0 119 (dk_at dksX5_first_0 21 rfl rfl)
theorem dX5_first_24 : decode cX5_first 24 = .ok (.ineg, 1) := dk_116 (dk_at dksX5_first_1 0 rfl rfl)
theorem dX5_first_25 : decode cX5_first 25 = .ok (.goto 29, 3) := dk_167 0 29 (dk_at dksX5_first_1 1 rfl rfl)
theorem dX5_first_28 : decode cX5_first 28 = .ok (.iload_n 2, 1) := dk_28 (dk_at dksX5_first_1 4 rfl rfl)
theorem dX5_first_29 : decode cX5_first 29 = .ok (.iconst 2, 1) := dk_5 (dk_at dksX5_first_1 5 rfl rfl)
theorem dX5_first_30 : decode cX5_first 30 = .ok (.if_icmp .ne 15, 3) := dk_160 0 15 (dk_at dksX5_first_1 6 rfl rfl)
theorem dX5_first_33 : decode cX5_first 33 = .ok (.aload_n 0, 1) := dk_42 (dk_at dksX5_first_1 9 rfl rfl)
theorem dX5_first_34 : decode cX5_first 34 = .ok (.getfield 11, 3) := dk_180 0 11 (dk_at dksX5_first_1 10 rfl rfl)
theorem dX5_first_37 : decode cX5_first 37 = .ok (.iload_n 1, 1) := dk_27 (dk_at dksX5_first_1 13 rfl rfl)
theorem dX5_first_38 : decode cX5_first 38 = .ok (.aaload, 1) := dk_50 (dk_at dksX5_first_1 14 rfl rfl)
theorem dX5_first_39 : decode cX5_first 39 = .ok (.getfield 122, 3) := dk_180 0 122 (dk_at dksX5_first_1 15 rfl rfl)
theorem dX5_first_42 : decode cX5_first 42 = .ok (.goto 12, 3) := dk_167 0 12 (dk_at dksX5_first_1 18 rfl rfl)
theorem dX5_first_45 : decode cX5_first 45 = .ok (.aload_n 0, 1) := dk_42 (dk_at dksX5_first_1 21 rfl rfl)
theorem dX5_first_46 : decode cX5_first 46 = .ok (.getfield 11, 3) := dk_180 0 11 (dk_at dksX5_first_2 0 rfl rfl)
theorem dX5_first_49 : decode cX5_first 49 = .ok (.iload_n 1, 1) := dk_27 (dk_at dksX5_first_2 3 rfl rfl)
theorem dX5_first_50 : decode cX5_first 50 = .ok (.aaload, 1) := dk_50 (dk_at dksX5_first_2 4 rfl rfl)
theorem dX5_first_51 : decode cX5_first 51 = .ok (.getfield 125, 3) := dk_180 0 125 (dk_at dksX5_first_2 5 rfl rfl)
theorem dX5_first_54 : decode cX5_first 54 = .ok (.ireturn, 1) := dk_172 (dk_at dksX5_first_2 8 rfl rfl)
abbrev cX5_balance : ByteArray := prog_12_method_16_code
def yX5_balance : MethodName := ⟨RX5, "balance", "(I)I"⟩
def dkwX5_balance_1 : List UInt8 := [182, 0, 108, 100, 96, 61, 132, 3, 1, 167, 255, 229, 28, 172]
abbrev dktX5_balance_1 : List UInt8 := dkwX5_balance_1 ++ []
def dkwX5_balance_0 : List UInt8 := [3, 61, 3, 62, 29, 42, 180, 0, 33, 162, 0, 25, 28, 42, 29, 27, 182, 0, 108, 42, 27, 29]
abbrev dktX5_balance_0 : List UInt8 := dkwX5_balance_0 ++ dktX5_balance_1
theorem dksX5_balance_0 : cX5_balance.data.toList.drop 0 = dktX5_balance_0 := by decide +kernel
theorem dksX5_balance_1 : cX5_balance.data.toList.drop 22 = dktX5_balance_1 := dk_seg dksX5_balance_0 22 rfl rfl
theorem dX5_balance_0 : decode cX5_balance 0 = .ok (.iconst 0, 1) := dk_3 (dk_at dksX5_balance_0 0 rfl rfl)
theorem dX5_balance_1 : decode cX5_balance 1 = .ok (.istore_n 2, 1) := dk_61 (dk_at dksX5_balance_0 1 rfl rfl)
theorem dX5_balance_2 : decode cX5_balance 2 = .ok (.iconst 0, 1) := dk_3 (dk_at dksX5_balance_0 2 rfl rfl)
theorem dX5_balance_3 : decode cX5_balance 3 = .ok (.istore_n 3, 1) := dk_62 (dk_at dksX5_balance_0 3 rfl rfl)
theorem dX5_balance_4 : decode cX5_balance 4 = .ok (.iload_n 3, 1) := dk_29 (dk_at dksX5_balance_0 4 rfl rfl)
theorem dX5_balance_5 : decode cX5_balance 5 = .ok (.aload_n 0, 1) := dk_42 (dk_at dksX5_balance_0 5 rfl rfl)
theorem dX5_balance_6 : decode cX5_balance 6 = .ok (.getfield 33, 3) := dk_180 0 33 (dk_at dksX5_balance_0 6 rfl rfl)
theorem dX5_balance_9 : decode cX5_balance 9 = .ok (.if_icmp .ge 25, 3) := dk_162 0 25 (dk_at dksX5_balance_0 9 rfl rfl)
theorem dX5_balance_12 : decode cX5_balance 12 = .ok (.iload_n 2, 1) := dk_28 (dk_at dksX5_balance_0 12 rfl rfl)
theorem dX5_balance_13 : decode cX5_balance 13 = .ok (.aload_n 0, 1) := dk_42 (dk_at dksX5_balance_0 13 rfl rfl)
theorem dX5_balance_14 : decode cX5_balance 14 = .ok (.iload_n 3, 1) := dk_29 (dk_at dksX5_balance_0 14 rfl rfl)
theorem dX5_balance_15 : decode cX5_balance 15 = .ok (.iload_n 1, 1) := dk_27 (dk_at dksX5_balance_0 15 rfl rfl)
theorem dX5_balance_16 : decode cX5_balance 16 = .ok (.invokevirtual 108, 3) := dk_182 0 108 (dk_at dksX5_balance_0 16 rfl rfl)
theorem dX5_balance_19 : decode cX5_balance 19 = .ok (.aload_n 0, 1) := dk_42 (dk_at dksX5_balance_0 19 rfl rfl)
theorem dX5_balance_20 : decode cX5_balance 20 = .ok (.iload_n 1, 1) := dk_27 (dk_at dksX5_balance_0 20 rfl rfl)
theorem dX5_balance_21 : decode cX5_balance 21 = .ok (.iload_n 3, 1) := dk_29 (dk_at dksX5_balance_0 21 rfl rfl)
theorem dX5_balance_22 : decode cX5_balance 22 = .ok (.invokevirtual 108, 3) := dk_182 0 108 (dk_at dksX5_balance_1 0 rfl rfl)
theorem dX5_balance_25 : decode cX5_balance 25 = .ok (.isub, 1) := dk_100 (dk_at dksX5_balance_1 3 rfl rfl)
theorem dX5_balance_26 : decode cX5_balance 26 = .ok (.iadd, 1) := dk_96 (dk_at dksX5_balance_1 4 rfl rfl)
theorem dX5_balance_27 : decode cX5_balance 27 = .ok (.istore_n 2, 1) := dk_61 (dk_at dksX5_balance_1 5 rfl rfl)
theorem dX5_balance_28 : decode cX5_balance 28 = .ok (.iinc 3 1, 3) := dk_132 3 1 (dk_at dksX5_balance_1 6 rfl rfl)
theorem dX5_balance_31 : decode cX5_balance 31 = .ok (.goto (-27), 3) := dk_167 255 229 (dk_at dksX5_balance_1 9 rfl rfl)
theorem dX5_balance_34 : decode cX5_balance 34 = .ok (.iload_n 2, 1) := dk_28 (dk_at dksX5_balance_1 12 rfl rfl)
theorem dX5_balance_35 : decode cX5_balance 35 = .ok (.ireturn, 1) := dk_172 (dk_at dksX5_balance_1 13 rfl rfl)
abbrev cX5_lends : ByteArray := prog_12_method_22_code
def yX5_lends : MethodName := ⟨RX5, "lends", "(III)Z"⟩
def dkwX5_lends_1 : List UInt8 := [29, 96, 182, 0, 115, 4, 172]
abbrev dktX5_lends_1 : List UInt8 := dkwX5_lends_1 ++ []
def dkwX5_lends_0 : List UInt8 := [42, 28, 27, 182, 0, 108, 29, 96, 18, 114, 164, 0, 5, 3, 172, 42, 28, 27, 42, 28, 27, 182, 0, 108]
abbrev dktX5_lends_0 : List UInt8 := dkwX5_lends_0 ++ dktX5_lends_1
theorem dksX5_lends_0 : cX5_lends.data.toList.drop 0 = dktX5_lends_0 := by decide +kernel
theorem dksX5_lends_1 : cX5_lends.data.toList.drop 24 = dktX5_lends_1 := dk_seg dksX5_lends_0 24 rfl rfl
theorem dX5_lends_0 : decode cX5_lends 0 = .ok (.aload_n 0, 1) := dk_42 (dk_at dksX5_lends_0 0 rfl rfl)
theorem dX5_lends_1 : decode cX5_lends 1 = .ok (.iload_n 2, 1) := dk_28 (dk_at dksX5_lends_0 1 rfl rfl)
theorem dX5_lends_2 : decode cX5_lends 2 = .ok (.iload_n 1, 1) := dk_27 (dk_at dksX5_lends_0 2 rfl rfl)
theorem dX5_lends_3 : decode cX5_lends 3 = .ok (.invokevirtual 108, 3) := dk_182 0 108 (dk_at dksX5_lends_0 3 rfl rfl)
theorem dX5_lends_6 : decode cX5_lends 6 = .ok (.iload_n 3, 1) := dk_29 (dk_at dksX5_lends_0 6 rfl rfl)
theorem dX5_lends_7 : decode cX5_lends 7 = .ok (.iadd, 1) := dk_96 (dk_at dksX5_lends_0 7 rfl rfl)
theorem dX5_lends_8 : decode cX5_lends 8 = .ok (.ldc 114, 2) := dk_18 114 (dk_at dksX5_lends_0 8 rfl rfl)
theorem dX5_lends_10 : decode cX5_lends 10 = .ok (.if_icmp .le 5, 3) := dk_164 0 5 (dk_at dksX5_lends_0 10 rfl rfl)
theorem dX5_lends_13 : decode cX5_lends 13 = .ok (.iconst 0, 1) := dk_3 (dk_at dksX5_lends_0 13 rfl rfl)
theorem dX5_lends_14 : decode cX5_lends 14 = .ok (.ireturn, 1) := dk_172 (dk_at dksX5_lends_0 14 rfl rfl)
theorem dX5_lends_15 : decode cX5_lends 15 = .ok (.aload_n 0, 1) := dk_42 (dk_at dksX5_lends_0 15 rfl rfl)
theorem dX5_lends_16 : decode cX5_lends 16 = .ok (.iload_n 2, 1) := dk_28 (dk_at dksX5_lends_0 16 rfl rfl)
theorem dX5_lends_17 : decode cX5_lends 17 = .ok (.iload_n 1, 1) := dk_27 (dk_at dksX5_lends_0 17 rfl rfl)
theorem dX5_lends_18 : decode cX5_lends 18 = .ok (.aload_n 0, 1) := dk_42 (dk_at dksX5_lends_0 18 rfl rfl)
theorem dX5_lends_19 : decode cX5_lends 19 = .ok (.iload_n 2, 1) := dk_28 (dk_at dksX5_lends_0 19 rfl rfl)
theorem dX5_lends_20 : decode cX5_lends 20 = .ok (.iload_n 1, 1) := dk_27 (dk_at dksX5_lends_0 20 rfl rfl)
theorem dX5_lends_21 : decode cX5_lends 21 = .ok (.invokevirtual 108, 3) := dk_182 0 108 (dk_at dksX5_lends_0 21 rfl rfl)
theorem dX5_lends_24 : decode cX5_lends 24 = .ok (.iload_n 3, 1) := dk_29 (dk_at dksX5_lends_1 0 rfl rfl)
theorem dX5_lends_25 : decode cX5_lends 25 = .ok (.iadd, 1) := dk_96 (dk_at dksX5_lends_1 1 rfl rfl)
theorem dX5_lends_26 : decode cX5_lends 26 = .ok (.invokevirtual 115, 3) := dk_182 0 115 (dk_at dksX5_lends_1 2 rfl rfl)
theorem dX5_lends_29 : decode cX5_lends 29 = .ok (.iconst 1, 1) := dk_4 (dk_at dksX5_lends_1 5 rfl rfl)
theorem dX5_lends_30 : decode cX5_lends 30 = .ok (.ireturn, 1) := dk_172 (dk_at dksX5_lends_1 6 rfl rfl)
abbrev cX5_buys : ByteArray := prog_12_method_20_code
def yX5_buys : MethodName := ⟨RX5, "buys", "()I"⟩
def dkwX5_buys_2 : List UInt8 := [167, 255, 212, 27, 172]
abbrev dktX5_buys_2 : List UInt8 := dkwX5_buys_2 ++ []
def dkwX5_buys_1 : List UInt8 := [27, 155, 0, 18, 42, 180, 0, 30, 28, 46, 42, 180, 0, 30, 27, 46, 164, 0, 5, 28, 60, 132, 2, 1]
abbrev dktX5_buys_1 : List UInt8 := dkwX5_buys_1 ++ dktX5_buys_2
def dkwX5_buys_0 : List UInt8 := [2, 60, 3, 61, 28, 42, 180, 0, 33, 162, 0, 42, 42, 180, 0, 55, 28, 122, 4, 126, 4, 160, 0, 24]
abbrev dktX5_buys_0 : List UInt8 := dkwX5_buys_0 ++ dktX5_buys_1
theorem dksX5_buys_0 : cX5_buys.data.toList.drop 0 = dktX5_buys_0 := by decide +kernel
theorem dksX5_buys_1 : cX5_buys.data.toList.drop 24 = dktX5_buys_1 := dk_seg dksX5_buys_0 24 rfl rfl
theorem dksX5_buys_2 : cX5_buys.data.toList.drop 48 = dktX5_buys_2 := dk_seg dksX5_buys_1 24 rfl rfl
theorem dX5_buys_0 : decode cX5_buys 0 = .ok (.iconst (-1), 1) := dk_2 (dk_at dksX5_buys_0 0 rfl rfl)
theorem dX5_buys_1 : decode cX5_buys 1 = .ok (.istore_n 1, 1) := dk_60 (dk_at dksX5_buys_0 1 rfl rfl)
theorem dX5_buys_2 : decode cX5_buys 2 = .ok (.iconst 0, 1) := dk_3 (dk_at dksX5_buys_0 2 rfl rfl)
theorem dX5_buys_3 : decode cX5_buys 3 = .ok (.istore_n 2, 1) := dk_61 (dk_at dksX5_buys_0 3 rfl rfl)
theorem dX5_buys_4 : decode cX5_buys 4 = .ok (.iload_n 2, 1) := dk_28 (dk_at dksX5_buys_0 4 rfl rfl)
theorem dX5_buys_5 : decode cX5_buys 5 = .ok (.aload_n 0, 1) := dk_42 (dk_at dksX5_buys_0 5 rfl rfl)
theorem dX5_buys_6 : decode cX5_buys 6 = .ok (.getfield 33, 3) := dk_180 0 33 (dk_at dksX5_buys_0 6 rfl rfl)
theorem dX5_buys_9 : decode cX5_buys 9 = .ok (.if_icmp .ge 42, 3) := dk_162 0 42 (dk_at dksX5_buys_0 9 rfl rfl)
theorem dX5_buys_12 : decode cX5_buys 12 = .ok (.aload_n 0, 1) := dk_42 (dk_at dksX5_buys_0 12 rfl rfl)
theorem dX5_buys_13 : decode cX5_buys 13 = .ok (.getfield 55, 3) := dk_180 0 55 (dk_at dksX5_buys_0 13 rfl rfl)
theorem dX5_buys_16 : decode cX5_buys 16 = .ok (.iload_n 2, 1) := dk_28 (dk_at dksX5_buys_0 16 rfl rfl)
theorem dX5_buys_17 : decode cX5_buys 17 = .ok (.ishr, 1) := dk_122 (dk_at dksX5_buys_0 17 rfl rfl)
theorem dX5_buys_18 : decode cX5_buys 18 = .ok (.iconst 1, 1) := dk_4 (dk_at dksX5_buys_0 18 rfl rfl)
theorem dX5_buys_19 : decode cX5_buys 19 = .ok (.iand, 1) := dk_126 (dk_at dksX5_buys_0 19 rfl rfl)
theorem dX5_buys_20 : decode cX5_buys 20 = .ok (.iconst 1, 1) := dk_4 (dk_at dksX5_buys_0 20 rfl rfl)
theorem dX5_buys_21 : decode cX5_buys 21 = .ok (.if_icmp .ne 24, 3) := dk_160 0 24 (dk_at dksX5_buys_0 21 rfl rfl)
theorem dX5_buys_24 : decode cX5_buys 24 = .ok (.iload_n 1, 1) := dk_27 (dk_at dksX5_buys_1 0 rfl rfl)
theorem dX5_buys_25 : decode cX5_buys 25 = .ok (.ifCond .lt 18, 3) := dk_155 0 18 (dk_at dksX5_buys_1 1 rfl rfl)
theorem dX5_buys_28 : decode cX5_buys 28 = .ok (.aload_n 0, 1) := dk_42 (dk_at dksX5_buys_1 4 rfl rfl)
theorem dX5_buys_29 : decode cX5_buys 29 = .ok (.getfield 30, 3) := dk_180 0 30 (dk_at dksX5_buys_1 5 rfl rfl)
theorem dX5_buys_32 : decode cX5_buys 32 = .ok (.iload_n 2, 1) := dk_28 (dk_at dksX5_buys_1 8 rfl rfl)
theorem dX5_buys_33 : decode cX5_buys 33 = .ok (.iaload, 1) := dk_46 (dk_at dksX5_buys_1 9 rfl rfl)
theorem dX5_buys_34 : decode cX5_buys 34 = .ok (.aload_n 0, 1) := dk_42 (dk_at dksX5_buys_1 10 rfl rfl)
theorem dX5_buys_35 : decode cX5_buys 35 = .ok (.getfield 30, 3) := dk_180 0 30 (dk_at dksX5_buys_1 11 rfl rfl)
theorem dX5_buys_38 : decode cX5_buys 38 = .ok (.iload_n 1, 1) := dk_27 (dk_at dksX5_buys_1 14 rfl rfl)
theorem dX5_buys_39 : decode cX5_buys 39 = .ok (.iaload, 1) := dk_46 (dk_at dksX5_buys_1 15 rfl rfl)
theorem dX5_buys_40 : decode cX5_buys 40 = .ok (.if_icmp .le 5, 3) := dk_164 0 5 (dk_at dksX5_buys_1 16 rfl rfl)
theorem dX5_buys_43 : decode cX5_buys 43 = .ok (.iload_n 2, 1) := dk_28 (dk_at dksX5_buys_1 19 rfl rfl)
theorem dX5_buys_44 : decode cX5_buys 44 = .ok (.istore_n 1, 1) := dk_60 (dk_at dksX5_buys_1 20 rfl rfl)
theorem dX5_buys_45 : decode cX5_buys 45 = .ok (.iinc 2 1, 3) := dk_132 2 1 (dk_at dksX5_buys_1 21 rfl rfl)
theorem dX5_buys_48 : decode cX5_buys 48 = .ok (.goto (-44), 3) := dk_167 255 212 (dk_at dksX5_buys_2 0 rfl rfl)
theorem dX5_buys_51 : decode cX5_buys 51 = .ok (.iload_n 1, 1) := dk_27 (dk_at dksX5_buys_2 3 rfl rfl)
theorem dX5_buys_52 : decode cX5_buys 52 = .ok (.ireturn, 1) := dk_172 (dk_at dksX5_buys_2 4 rfl rfl)
abbrev cX5_round : ByteArray := prog_12_method_21_code
def yX5_round : MethodName := ⟨RX5, "round", "()I"⟩
def dkwX5_round_3 : List UInt8 := [181, 0, 49, 27, 172]
abbrev dktX5_round_3 : List UInt8 := dkwX5_round_3 ++ []
def dkwX5_round_2 : List UInt8 := [180, 0, 30, 27, 92, 46, 42, 180, 0, 55, 184, 0, 80, 100, 79, 42, 89, 180, 0, 49, 4, 96]
abbrev dktX5_round_2 : List UInt8 := dkwX5_round_2 ++ dktX5_round_3
def dkwX5_round_1 : List UInt8 := [180, 0, 30, 28, 92, 46, 42, 180, 0, 55, 28, 122, 4, 126, 96, 79, 132, 2, 1, 167, 255, 228, 42]
abbrev dktX5_round_1 : List UInt8 := dkwX5_round_1 ++ dktX5_round_2
def dkwX5_round_0 : List UInt8 := [42, 182, 0, 131, 60, 27, 156, 0, 5, 2, 172, 3, 61, 28, 42, 180, 0, 33, 162, 0, 26, 42]
abbrev dktX5_round_0 : List UInt8 := dkwX5_round_0 ++ dktX5_round_1
theorem dksX5_round_0 : cX5_round.data.toList.drop 0 = dktX5_round_0 := by decide +kernel
theorem dksX5_round_1 : cX5_round.data.toList.drop 22 = dktX5_round_1 := dk_seg dksX5_round_0 22 rfl rfl
theorem dksX5_round_2 : cX5_round.data.toList.drop 45 = dktX5_round_2 := dk_seg dksX5_round_1 23 rfl rfl
theorem dksX5_round_3 : cX5_round.data.toList.drop 67 = dktX5_round_3 := dk_seg dksX5_round_2 22 rfl rfl
theorem dX5_round_0 : decode cX5_round 0 = .ok (.aload_n 0, 1) := dk_42 (dk_at dksX5_round_0 0 rfl rfl)
theorem dX5_round_1 : decode cX5_round 1 = .ok (.invokevirtual 131, 3) := dk_182 0 131 (dk_at dksX5_round_0 1 rfl rfl)
theorem dX5_round_4 : decode cX5_round 4 = .ok (.istore_n 1, 1) := dk_60 (dk_at dksX5_round_0 4 rfl rfl)
theorem dX5_round_5 : decode cX5_round 5 = .ok (.iload_n 1, 1) := dk_27 (dk_at dksX5_round_0 5 rfl rfl)
theorem dX5_round_6 : decode cX5_round 6 = .ok (.ifCond .ge 5, 3) := dk_156 0 5 (dk_at dksX5_round_0 6 rfl rfl)
theorem dX5_round_9 : decode cX5_round 9 = .ok (.iconst (-1), 1) := dk_2 (dk_at dksX5_round_0 9 rfl rfl)
theorem dX5_round_10 : decode cX5_round 10 = .ok (.ireturn, 1) := dk_172 (dk_at dksX5_round_0 10 rfl rfl)
theorem dX5_round_11 : decode cX5_round 11 = .ok (.iconst 0, 1) := dk_3 (dk_at dksX5_round_0 11 rfl rfl)
theorem dX5_round_12 : decode cX5_round 12 = .ok (.istore_n 2, 1) := dk_61 (dk_at dksX5_round_0 12 rfl rfl)
theorem dX5_round_13 : decode cX5_round 13 = .ok (.iload_n 2, 1) := dk_28 (dk_at dksX5_round_0 13 rfl rfl)
theorem dX5_round_14 : decode cX5_round 14 = .ok (.aload_n 0, 1) := dk_42 (dk_at dksX5_round_0 14 rfl rfl)
theorem dX5_round_15 : decode cX5_round 15 = .ok (.getfield 33, 3) := dk_180 0 33 (dk_at dksX5_round_0 15 rfl rfl)
theorem dX5_round_18 : decode cX5_round 18 = .ok (.if_icmp .ge 26, 3) := dk_162 0 26 (dk_at dksX5_round_0 18 rfl rfl)
theorem dX5_round_21 : decode cX5_round 21 = .ok (.aload_n 0, 1) := dk_42 (dk_at dksX5_round_0 21 rfl rfl)
theorem dX5_round_22 : decode cX5_round 22 = .ok (.getfield 30, 3) := dk_180 0 30 (dk_at dksX5_round_1 0 rfl rfl)
theorem dX5_round_25 : decode cX5_round 25 = .ok (.iload_n 2, 1) := dk_28 (dk_at dksX5_round_1 3 rfl rfl)
theorem dX5_round_26 : decode cX5_round 26 = .ok (.dup2, 1) := dk_92 (dk_at dksX5_round_1 4 rfl rfl)
theorem dX5_round_27 : decode cX5_round 27 = .ok (.iaload, 1) := dk_46 (dk_at dksX5_round_1 5 rfl rfl)
theorem dX5_round_28 : decode cX5_round 28 = .ok (.aload_n 0, 1) := dk_42 (dk_at dksX5_round_1 6 rfl rfl)
theorem dX5_round_29 : decode cX5_round 29 = .ok (.getfield 55, 3) := dk_180 0 55 (dk_at dksX5_round_1 7 rfl rfl)
theorem dX5_round_32 : decode cX5_round 32 = .ok (.iload_n 2, 1) := dk_28 (dk_at dksX5_round_1 10 rfl rfl)
theorem dX5_round_33 : decode cX5_round 33 = .ok (.ishr, 1) := dk_122 (dk_at dksX5_round_1 11 rfl rfl)
theorem dX5_round_34 : decode cX5_round 34 = .ok (.iconst 1, 1) := dk_4 (dk_at dksX5_round_1 12 rfl rfl)
theorem dX5_round_35 : decode cX5_round 35 = .ok (.iand, 1) := dk_126 (dk_at dksX5_round_1 13 rfl rfl)
theorem dX5_round_36 : decode cX5_round 36 = .ok (.iadd, 1) := dk_96 (dk_at dksX5_round_1 14 rfl rfl)
theorem dX5_round_37 : decode cX5_round 37 = .ok (.iastore, 1) := dk_79 (dk_at dksX5_round_1 15 rfl rfl)
theorem dX5_round_38 : decode cX5_round 38 = .ok (.iinc 2 1, 3) := dk_132 2 1 (dk_at dksX5_round_1 16 rfl rfl)
theorem dX5_round_41 : decode cX5_round 41 = .ok (.goto (-28), 3) := dk_167 255 228 (dk_at dksX5_round_1 19 rfl rfl)
theorem dX5_round_44 : decode cX5_round 44 = .ok (.aload_n 0, 1) := dk_42 (dk_at dksX5_round_1 22 rfl rfl)
theorem dX5_round_45 : decode cX5_round 45 = .ok (.getfield 30, 3) := dk_180 0 30 (dk_at dksX5_round_2 0 rfl rfl)
theorem dX5_round_48 : decode cX5_round 48 = .ok (.iload_n 1, 1) := dk_27 (dk_at dksX5_round_2 3 rfl rfl)
theorem dX5_round_49 : decode cX5_round 49 = .ok (.dup2, 1) := dk_92 (dk_at dksX5_round_2 4 rfl rfl)
theorem dX5_round_50 : decode cX5_round 50 = .ok (.iaload, 1) := dk_46 (dk_at dksX5_round_2 5 rfl rfl)
theorem dX5_round_51 : decode cX5_round 51 = .ok (.aload_n 0, 1) := dk_42 (dk_at dksX5_round_2 6 rfl rfl)
theorem dX5_round_52 : decode cX5_round 52 = .ok (.getfield 55, 3) := dk_180 0 55 (dk_at dksX5_round_2 7 rfl rfl)
theorem dX5_round_55 : decode cX5_round 55 = .ok (.invokestatic 80, 3) := dk_184 0 80 (dk_at dksX5_round_2 10 rfl rfl)
theorem dX5_round_58 : decode cX5_round 58 = .ok (.isub, 1) := dk_100 (dk_at dksX5_round_2 13 rfl rfl)
theorem dX5_round_59 : decode cX5_round 59 = .ok (.iastore, 1) := dk_79 (dk_at dksX5_round_2 14 rfl rfl)
theorem dX5_round_60 : decode cX5_round 60 = .ok (.aload_n 0, 1) := dk_42 (dk_at dksX5_round_2 15 rfl rfl)
theorem dX5_round_61 : decode cX5_round 61 = .ok (.dup, 1) := dk_89 (dk_at dksX5_round_2 16 rfl rfl)
theorem dX5_round_62 : decode cX5_round 62 = .ok (.getfield 49, 3) := dk_180 0 49 (dk_at dksX5_round_2 17 rfl rfl)
theorem dX5_round_65 : decode cX5_round 65 = .ok (.iconst 1, 1) := dk_4 (dk_at dksX5_round_2 20 rfl rfl)
theorem dX5_round_66 : decode cX5_round 66 = .ok (.iadd, 1) := dk_96 (dk_at dksX5_round_2 21 rfl rfl)
theorem dX5_round_67 : decode cX5_round 67 = .ok (.putfield 49, 3) := dk_181 0 49 (dk_at dksX5_round_3 0 rfl rfl)
theorem dX5_round_70 : decode cX5_round 70 = .ok (.iload_n 1, 1) := dk_27 (dk_at dksX5_round_3 3 rfl rfl)
theorem dX5_round_71 : decode cX5_round 71 = .ok (.ireturn, 1) := dk_172 (dk_at dksX5_round_3 4 rfl rfl)
abbrev cX5_gives : ByteArray := prog_12_method_23_code
def yX5_gives : MethodName := ⟨RX5, "gives", "(III)I"⟩
def dkwX5_gives_1 : List UInt8 := [96, 181, 0, 52, 42, 28, 27, 182, 0, 108, 172]
abbrev dktX5_gives_1 : List UInt8 := dkwX5_gives_1 ++ []
def dkwX5_gives_0 : List UInt8 := [42, 28, 27, 3, 42, 28, 27, 182, 0, 108, 29, 100, 184, 0, 134, 182, 0, 115, 42, 89, 180, 0, 52, 4]
abbrev dktX5_gives_0 : List UInt8 := dkwX5_gives_0 ++ dktX5_gives_1
theorem dksX5_gives_0 : cX5_gives.data.toList.drop 0 = dktX5_gives_0 := by decide +kernel
theorem dksX5_gives_1 : cX5_gives.data.toList.drop 24 = dktX5_gives_1 := dk_seg dksX5_gives_0 24 rfl rfl
theorem dX5_gives_0 : decode cX5_gives 0 = .ok (.aload_n 0, 1) := dk_42 (dk_at dksX5_gives_0 0 rfl rfl)
theorem dX5_gives_1 : decode cX5_gives 1 = .ok (.iload_n 2, 1) := dk_28 (dk_at dksX5_gives_0 1 rfl rfl)
theorem dX5_gives_2 : decode cX5_gives 2 = .ok (.iload_n 1, 1) := dk_27 (dk_at dksX5_gives_0 2 rfl rfl)
theorem dX5_gives_3 : decode cX5_gives 3 = .ok (.iconst 0, 1) := dk_3 (dk_at dksX5_gives_0 3 rfl rfl)
theorem dX5_gives_4 : decode cX5_gives 4 = .ok (.aload_n 0, 1) := dk_42 (dk_at dksX5_gives_0 4 rfl rfl)
theorem dX5_gives_5 : decode cX5_gives 5 = .ok (.iload_n 2, 1) := dk_28 (dk_at dksX5_gives_0 5 rfl rfl)
theorem dX5_gives_6 : decode cX5_gives 6 = .ok (.iload_n 1, 1) := dk_27 (dk_at dksX5_gives_0 6 rfl rfl)
theorem dX5_gives_7 : decode cX5_gives 7 = .ok (.invokevirtual 108, 3) := dk_182 0 108 (dk_at dksX5_gives_0 7 rfl rfl)
theorem dX5_gives_10 : decode cX5_gives 10 = .ok (.iload_n 3, 1) := dk_29 (dk_at dksX5_gives_0 10 rfl rfl)
theorem dX5_gives_11 : decode cX5_gives 11 = .ok (.isub, 1) := dk_100 (dk_at dksX5_gives_0 11 rfl rfl)
theorem dX5_gives_12 : decode cX5_gives 12 = .ok (.invokestatic 134, 3) := dk_184 0 134 (dk_at dksX5_gives_0 12 rfl rfl)
theorem dX5_gives_15 : decode cX5_gives 15 = .ok (.invokevirtual 115, 3) := dk_182 0 115 (dk_at dksX5_gives_0 15 rfl rfl)
theorem dX5_gives_18 : decode cX5_gives 18 = .ok (.aload_n 0, 1) := dk_42 (dk_at dksX5_gives_0 18 rfl rfl)
theorem dX5_gives_19 : decode cX5_gives 19 = .ok (.dup, 1) := dk_89 (dk_at dksX5_gives_0 19 rfl rfl)
theorem dX5_gives_20 : decode cX5_gives 20 = .ok (.getfield 52, 3) := dk_180 0 52 (dk_at dksX5_gives_0 20 rfl rfl)
theorem dX5_gives_23 : decode cX5_gives 23 = .ok (.iconst 1, 1) := dk_4 (dk_at dksX5_gives_0 23 rfl rfl)
theorem dX5_gives_24 : decode cX5_gives 24 = .ok (.iadd, 1) := dk_96 (dk_at dksX5_gives_1 0 rfl rfl)
theorem dX5_gives_25 : decode cX5_gives 25 = .ok (.putfield 52, 3) := dk_181 0 52 (dk_at dksX5_gives_1 1 rfl rfl)
theorem dX5_gives_28 : decode cX5_gives 28 = .ok (.aload_n 0, 1) := dk_42 (dk_at dksX5_gives_1 4 rfl rfl)
theorem dX5_gives_29 : decode cX5_gives 29 = .ok (.iload_n 2, 1) := dk_28 (dk_at dksX5_gives_1 5 rfl rfl)
theorem dX5_gives_30 : decode cX5_gives 30 = .ok (.iload_n 1, 1) := dk_27 (dk_at dksX5_gives_1 6 rfl rfl)
theorem dX5_gives_31 : decode cX5_gives 31 = .ok (.invokevirtual 108, 3) := dk_182 0 108 (dk_at dksX5_gives_1 7 rfl rfl)
theorem dX5_gives_34 : decode cX5_gives 34 = .ok (.ireturn, 1) := dk_172 (dk_at dksX5_gives_1 10 rfl rfl)
theorem q151 : (Jvm.Cond.initialized "LetMe$Table") ∈ lw_all := lw_g (lw_at lw_m1 8 rfl) rfl
theorem q289 : (Jvm.Cond.instantiable "LetMe$Table" (14 : Nat)) ∈ lw_all := lw_g (lw_at lw_m1 146 rfl) rfl
theorem q291 : (Jvm.Cond.instanceMethod ({ cls := "LetMe$Table", name := "<init>", desc := "()V" } : Jvm.MethodName)) ∈ lw_all := lw_g (lw_at lw_m1 148 rfl) rfl
theorem q292 : (Jvm.Cond.code ({ cls := "LetMe$Table", name := "<init>", desc := "()V" } : Jvm.MethodName) prog_12_method_1_code (1 : Nat) (Option.none : Option Jvm.ClassFile.FieldType)) ∈ lw_all := lw_g (lw_at lw_m1 149 rfl) rfl
theorem q293 : (Jvm.Cond.methodLink "LetMe$Table" (3 : Nat) ({ cls := "java/lang/Object", name := "<init>", desc := "()V" } : Jvm.MethodName)) ∈ lw_all := lw_g (lw_at lw_m1 150 rfl) rfl
theorem q294 : (Jvm.Cond.classLink "LetMe$Table" (9 : Nat) "LetMe$Person") ∈ lw_all := lw_g (lw_at lw_m1 151 rfl) rfl
theorem q296 : (Jvm.Cond.fieldLink "LetMe$Table" (11 : Nat) "LetMe$Table" "person" "[LLetMe$Person;") ∈ lw_all := lw_g (lw_at lw_m1 153 rfl) rfl
theorem q300 : (Jvm.Cond.fieldLink "LetMe$Table" (33 : Nat) "LetMe$Table" "people" "I") ∈ lw_all := lw_g (lw_at lw_m1 157 rfl) rfl
theorem q304 : (Jvm.Cond.fieldLink "LetMe$Table" (37 : Nat) "LetMe$Table" "couples" "I") ∈ lw_all := lw_g (lw_at lw_m1 161 rfl) rfl
theorem q307 : (Jvm.Cond.fieldLink "LetMe$Table" (40 : Nat) "LetMe$Table" "dishes" "I") ∈ lw_all := lw_g (lw_at lw_m1 164 rfl) rfl
theorem q310 : (Jvm.Cond.fieldLink "LetMe$Table" (43 : Nat) "LetMe$Table" "split" "I") ∈ lw_all := lw_g (lw_at lw_m1 167 rfl) rfl
theorem q314 : (Jvm.Cond.fieldLink "LetMe$Table" (46 : Nat) "LetMe$Table" "law" "I") ∈ lw_all := lw_g (lw_at lw_m1 171 rfl) rfl
theorem q317 : (Jvm.Cond.fieldLink "LetMe$Table" (49 : Nat) "LetMe$Table" "rounds" "I") ∈ lw_all := lw_g (lw_at lw_m1 174 rfl) rfl
theorem q319 : (Jvm.Cond.fieldLink "LetMe$Table" (52 : Nat) "LetMe$Table" "gifts" "I") ∈ lw_all := lw_g (lw_at lw_m1 176 rfl) rfl
theorem q321 : (Jvm.Cond.fieldLink "LetMe$Table" (55 : Nat) "LetMe$Table" "inside" "I") ∈ lw_all := lw_g (lw_at lw_m1 178 rfl) rfl
theorem q324 : (Jvm.Cond.fieldLink "LetMe$Table" (17 : Nat) "LetMe$Table" "price" "[I") ∈ lw_all := lw_g (lw_at lw_m1 181 rfl) rfl
theorem q326 : (Jvm.Cond.fieldLink "LetMe$Table" (21 : Nat) "LetMe$Table" "by" "[I") ∈ lw_all := lw_g (lw_at lw_m1 183 rfl) rfl
theorem q328 : (Jvm.Cond.fieldLink "LetMe$Table" (24 : Nat) "LetMe$Table" "paid" "[I") ∈ lw_all := lw_g (lw_at lw_m1 185 rfl) rfl
theorem q331 : (Jvm.Cond.fieldLink "LetMe$Table" (27 : Nat) "LetMe$Table" "owes" "[I") ∈ lw_all := lw_g (lw_at lw_m1 188 rfl) rfl
theorem q333 : (Jvm.Cond.fieldLink "LetMe$Table" (30 : Nat) "LetMe$Table" "drinks" "[I") ∈ lw_all := lw_g (lw_at lw_m1 190 rfl) rfl
theorem q335 : (Jvm.Cond.lays "LetMe$Table" "LetMe$Table" "person" "[LLetMe$Person;") ∈ lw_all := lw_g (lw_at lw_m1 192 rfl) rfl
theorem q336 : (Jvm.Cond.soleField "LetMe$Table" "person") ∈ lw_all := lw_g (lw_at lw_m1 193 rfl) rfl
theorem q337 : (Jvm.Cond.lays "LetMe$Table" "LetMe$Table" "people" "I") ∈ lw_all := lw_g (lw_at lw_m1 194 rfl) rfl
theorem q338 : (Jvm.Cond.soleField "LetMe$Table" "people") ∈ lw_all := lw_g (lw_at lw_m1 195 rfl) rfl
theorem q339 : (Jvm.Cond.lays "LetMe$Table" "LetMe$Table" "couples" "I") ∈ lw_all := lw_g (lw_at lw_m1 196 rfl) rfl
theorem q340 : (Jvm.Cond.soleField "LetMe$Table" "couples") ∈ lw_all := lw_g (lw_at lw_m1 197 rfl) rfl
theorem q341 : (Jvm.Cond.lays "LetMe$Table" "LetMe$Table" "dishes" "I") ∈ lw_all := lw_g (lw_at lw_m1 198 rfl) rfl
theorem q342 : (Jvm.Cond.soleField "LetMe$Table" "dishes") ∈ lw_all := lw_g (lw_at lw_m1 199 rfl) rfl
theorem q343 : (Jvm.Cond.lays "LetMe$Table" "LetMe$Table" "split" "I") ∈ lw_all := lw_g (lw_at lw_m1 200 rfl) rfl
theorem q344 : (Jvm.Cond.soleField "LetMe$Table" "split") ∈ lw_all := lw_g (lw_at lw_m1 201 rfl) rfl
theorem q345 : (Jvm.Cond.lays "LetMe$Table" "LetMe$Table" "law" "I") ∈ lw_all := lw_g (lw_at lw_m1 202 rfl) rfl
theorem q346 : (Jvm.Cond.soleField "LetMe$Table" "law") ∈ lw_all := lw_g (lw_at lw_m1 203 rfl) rfl
theorem q347 : (Jvm.Cond.lays "LetMe$Table" "LetMe$Table" "rounds" "I") ∈ lw_all := lw_g (lw_at lw_m1 204 rfl) rfl
theorem q348 : (Jvm.Cond.soleField "LetMe$Table" "rounds") ∈ lw_all := lw_g (lw_at lw_m1 205 rfl) rfl
theorem q349 : (Jvm.Cond.lays "LetMe$Table" "LetMe$Table" "gifts" "I") ∈ lw_all := lw_g (lw_at lw_m1 206 rfl) rfl
theorem q350 : (Jvm.Cond.soleField "LetMe$Table" "gifts") ∈ lw_all := lw_g (lw_at lw_m1 207 rfl) rfl
theorem q351 : (Jvm.Cond.lays "LetMe$Table" "LetMe$Table" "inside" "I") ∈ lw_all := lw_g (lw_at lw_m1 208 rfl) rfl
theorem q352 : (Jvm.Cond.soleField "LetMe$Table" "inside") ∈ lw_all := lw_g (lw_at lw_m1 209 rfl) rfl
theorem q353 : (Jvm.Cond.lays "LetMe$Table" "LetMe$Table" "price" "[I") ∈ lw_all := lw_g (lw_at lw_m1 210 rfl) rfl
theorem q354 : (Jvm.Cond.soleField "LetMe$Table" "price") ∈ lw_all := lw_g (lw_at lw_m1 211 rfl) rfl
theorem q355 : (Jvm.Cond.lays "LetMe$Table" "LetMe$Table" "by" "[I") ∈ lw_all := lw_g (lw_at lw_m1 212 rfl) rfl
theorem q356 : (Jvm.Cond.soleField "LetMe$Table" "by") ∈ lw_all := lw_g (lw_at lw_m1 213 rfl) rfl
theorem q357 : (Jvm.Cond.laysFinal "LetMe$Table" "LetMe$Table" "paid" "[I") ∈ lw_all := lw_g (lw_at lw_m1 214 rfl) rfl
theorem q358 : (Jvm.Cond.soleField "LetMe$Table" "paid") ∈ lw_all := lw_g (lw_at lw_m1 215 rfl) rfl
theorem q359 : (Jvm.Cond.laysFinal "LetMe$Table" "LetMe$Table" "owes" "[I") ∈ lw_all := lw_g (lw_at lw_m1 216 rfl) rfl
theorem q360 : (Jvm.Cond.soleField "LetMe$Table" "owes") ∈ lw_all := lw_g (lw_at lw_m1 217 rfl) rfl
theorem q361 : (Jvm.Cond.laysFinal "LetMe$Table" "LetMe$Table" "drinks" "[I") ∈ lw_all := lw_g (lw_at lw_m1 218 rfl) rfl
theorem q362 : (Jvm.Cond.soleField "LetMe$Table" "drinks") ∈ lw_all := lw_g (lw_at lw_m1 219 rfl) rfl
theorem q363 : (Jvm.Cond.superclass "LetMe$Table" "java/lang/Object") ∈ lw_all := lw_g (lw_at lw_m1 220 rfl) rfl
theorem q755 : (Jvm.Cond.instanceMethod ({ cls := "LetMe$Table", name := "named", desc := "(J)I" } : Jvm.MethodName)) ∈ lw_all := lw_g (lw_at lw_m3 132 rfl) rfl
theorem q756 : (Jvm.Cond.selects "LetMe$Table" ({ cls := "LetMe$Table", name := "named", desc := "(J)I" } : Jvm.MethodName) ({ cls := "LetMe$Table", name := "named", desc := "(J)I" } : Jvm.MethodName)) ∈ lw_all := lw_g (lw_at lw_m3 133 rfl) rfl
theorem q757 : (Jvm.Cond.code ({ cls := "LetMe$Table", name := "named", desc := "(J)I" } : Jvm.MethodName) prog_12_method_3_code (4 : Nat) (Option.some Jvm.ClassFile.FieldType.int)) ∈ lw_all := lw_g (lw_at lw_m3 134 rfl) rfl
theorem q765 : (Jvm.Cond.fieldLinkNest "LetMe$Table" (64 : Nat) "LetMe$Person" "name" "J" "LetMe") ∈ lw_tbl := lw_at lw_m3 142 rfl
theorem q767 : (Jvm.Cond.fieldLinkNest "LetMe$Table" (125 : Nat) "LetMe$Person" "insists" "I" "LetMe") ∈ lw_tbl := lw_at lw_m3 144 rfl
theorem q772 : (Jvm.Cond.fieldLinkNest "LetMe$Table" (122 : Nat) "LetMe$Person" "quick" "I" "LetMe") ∈ lw_tbl := lw_at lw_m3 149 rfl
theorem q781 : (Jvm.Cond.fieldLinkNest "LetMe$Table" (96 : Nat) "LetMe$Person" "mate" "I" "LetMe") ∈ lw_tbl := lw_at lw_m3 158 rfl
theorem q784 : (Jvm.Cond.fieldLinkNest "LetMe$Table" (72 : Nat) "LetMe$Person" "guest" "Z" "LetMe") ∈ lw_tbl := lw_at lw_m3 161 rfl
theorem q830 : (Jvm.Cond.instanceMethod ({ cls := "LetMe$Table", name := "order", desc := "(II)V" } : Jvm.MethodName)) ∈ lw_all := lw_g (lw_at lw_m3 207 rfl) rfl
theorem q831 : (Jvm.Cond.selects "LetMe$Table" ({ cls := "LetMe$Table", name := "order", desc := "(II)V" } : Jvm.MethodName) ({ cls := "LetMe$Table", name := "order", desc := "(II)V" } : Jvm.MethodName)) ∈ lw_all := lw_g (lw_at lw_m3 208 rfl) rfl
theorem q832 : (Jvm.Cond.code ({ cls := "LetMe$Table", name := "order", desc := "(II)V" } : Jvm.MethodName) prog_12_method_5_code (3 : Nat) (Option.none : Option Jvm.ClassFile.FieldType)) ∈ lw_all := lw_g (lw_at lw_m3 209 rfl) rfl
theorem q833 : (Jvm.Cond.methodLink "LetMe$Table" (68 : Nat) ({ cls := "LetMe$Table", name := "longer", desc := "([I)[I" } : Jvm.MethodName)) ∈ lw_all := lw_g (lw_at lw_m3 210 rfl) rfl
theorem q834 : (Jvm.Cond.static ({ cls := "LetMe$Table", name := "longer", desc := "([I)[I" } : Jvm.MethodName)) ∈ lw_all := lw_g (lw_at lw_m3 211 rfl) rfl
theorem q835 : (Jvm.Cond.code ({ cls := "LetMe$Table", name := "longer", desc := "([I)[I" } : Jvm.MethodName) prog_12_method_4_code (2 : Nat) (Option.some (Jvm.ClassFile.FieldType.array Jvm.ClassFile.FieldType.int))) ∈ lw_all := lw_g (lw_at lw_m3 212 rfl) rfl
theorem q836 : (Jvm.Cond.methodLink "LetMe$Table" (58 : Nat) ({ cls := "java/lang/System", name := "arraycopy", desc := "(Ljava/lang/Object;ILjava/lang/Object;II)V" } : Jvm.MethodName)) ∈ lw_all := lw_g (lw_at lw_m3 213 rfl) rfl
theorem q846 : (Jvm.Cond.instanceMethod ({ cls := "LetMe$Table", name := "owe", desc := "(III)V" } : Jvm.MethodName)) ∈ lw_all := lw_g (lw_at lw_m3 223 rfl) rfl
theorem q847 : (Jvm.Cond.selects "LetMe$Table" ({ cls := "LetMe$Table", name := "owe", desc := "(III)V" } : Jvm.MethodName) ({ cls := "LetMe$Table", name := "owe", desc := "(III)V" } : Jvm.MethodName)) ∈ lw_all := lw_g (lw_at lw_m3 224 rfl) rfl
theorem q848 : (Jvm.Cond.code ({ cls := "LetMe$Table", name := "owe", desc := "(III)V" } : Jvm.MethodName) prog_12_method_15_code (4 : Nat) (Option.none : Option Jvm.ClassFile.FieldType)) ∈ lw_all := lw_g (lw_at lw_m3 225 rfl) rfl
theorem q870 : (Jvm.Cond.instanceMethod ({ cls := "LetMe$Table", name := "be", desc := "(LLetMe$Table;)V" } : Jvm.MethodName)) ∈ lw_all := lw_g (lw_at lw_m4 7 rfl) rfl
theorem q871 : (Jvm.Cond.selects "LetMe$Table" ({ cls := "LetMe$Table", name := "be", desc := "(LLetMe$Table;)V" } : Jvm.MethodName) ({ cls := "LetMe$Table", name := "be", desc := "(LLetMe$Table;)V" } : Jvm.MethodName)) ∈ lw_all := lw_g (lw_at lw_m4 8 rfl) rfl
theorem q872 : (Jvm.Cond.code ({ cls := "LetMe$Table", name := "be", desc := "(LLetMe$Table;)V" } : Jvm.MethodName) prog_12_method_2_code (2 : Nat) (Option.none : Option Jvm.ClassFile.FieldType)) ∈ lw_all := lw_g (lw_at lw_m4 9 rfl) rfl
theorem q998 : (Jvm.Cond.instanceMethod ({ cls := "LetMe$Table", name := "bill", desc := "()I" } : Jvm.MethodName)) ∈ lw_all := lw_g (lw_at lw_m4 135 rfl) rfl
theorem q999 : (Jvm.Cond.selects "LetMe$Table" ({ cls := "LetMe$Table", name := "bill", desc := "()I" } : Jvm.MethodName) ({ cls := "LetMe$Table", name := "bill", desc := "()I" } : Jvm.MethodName)) ∈ lw_all := lw_g (lw_at lw_m4 136 rfl) rfl
theorem q1000 : (Jvm.Cond.code ({ cls := "LetMe$Table", name := "bill", desc := "()I" } : Jvm.MethodName) prog_12_method_6_code (3 : Nat) (Option.some Jvm.ClassFile.FieldType.int)) ∈ lw_all := lw_g (lw_at lw_m4 137 rfl) rfl
theorem q1002 : (Jvm.Cond.instanceMethod ({ cls := "LetMe$Table", name := "heads", desc := "()I" } : Jvm.MethodName)) ∈ lw_all := lw_g (lw_at lw_m4 139 rfl) rfl
theorem q1003 : (Jvm.Cond.selects "LetMe$Table" ({ cls := "LetMe$Table", name := "heads", desc := "()I" } : Jvm.MethodName) ({ cls := "LetMe$Table", name := "heads", desc := "()I" } : Jvm.MethodName)) ∈ lw_all := lw_g (lw_at lw_m4 140 rfl) rfl
theorem q1004 : (Jvm.Cond.code ({ cls := "LetMe$Table", name := "heads", desc := "()I" } : Jvm.MethodName) prog_12_method_9_code (2 : Nat) (Option.some Jvm.ClassFile.FieldType.int)) ∈ lw_all := lw_g (lw_at lw_m4 141 rfl) rfl
theorem q1005 : (Jvm.Cond.methodLink "LetMe$Table" (76 : Nat) ({ cls := "LetMe$Table", name := "guests", desc := "()I" } : Jvm.MethodName)) ∈ lw_all := lw_g (lw_at lw_m4 142 rfl) rfl
theorem q1006 : (Jvm.Cond.instanceMethod ({ cls := "LetMe$Table", name := "guests", desc := "()I" } : Jvm.MethodName)) ∈ lw_all := lw_g (lw_at lw_m4 143 rfl) rfl
theorem q1007 : (Jvm.Cond.selects "LetMe$Table" ({ cls := "LetMe$Table", name := "guests", desc := "()I" } : Jvm.MethodName) ({ cls := "LetMe$Table", name := "guests", desc := "()I" } : Jvm.MethodName)) ∈ lw_all := lw_g (lw_at lw_m4 144 rfl) rfl
theorem q1008 : (Jvm.Cond.code ({ cls := "LetMe$Table", name := "guests", desc := "()I" } : Jvm.MethodName) prog_12_method_8_code (3 : Nat) (Option.some Jvm.ClassFile.FieldType.int)) ∈ lw_all := lw_g (lw_at lw_m4 145 rfl) rfl
theorem q1046 : (Jvm.Cond.instanceMethod ({ cls := "LetMe$Table", name := "eaten", desc := "(I)I" } : Jvm.MethodName)) ∈ lw_all := lw_g (lw_at lw_m4 183 rfl) rfl
theorem q1047 : (Jvm.Cond.selects "LetMe$Table" ({ cls := "LetMe$Table", name := "eaten", desc := "(I)I" } : Jvm.MethodName) ({ cls := "LetMe$Table", name := "eaten", desc := "(I)I" } : Jvm.MethodName)) ∈ lw_all := lw_g (lw_at lw_m4 184 rfl) rfl
theorem q1048 : (Jvm.Cond.code ({ cls := "LetMe$Table", name := "eaten", desc := "(I)I" } : Jvm.MethodName) prog_12_method_11_code (2 : Nat) (Option.some Jvm.ClassFile.FieldType.int)) ∈ lw_all := lw_g (lw_at lw_m4 185 rfl) rfl
theorem q1049 : (Jvm.Cond.methodLink "LetMe$Table" (86 : Nat) ({ cls := "LetMe$Table", name := "had", desc := "(I)I" } : Jvm.MethodName)) ∈ lw_all := lw_g (lw_at lw_m4 186 rfl) rfl
theorem q1050 : (Jvm.Cond.instanceMethod ({ cls := "LetMe$Table", name := "had", desc := "(I)I" } : Jvm.MethodName)) ∈ lw_all := lw_g (lw_at lw_m4 187 rfl) rfl
theorem q1051 : (Jvm.Cond.selects "LetMe$Table" ({ cls := "LetMe$Table", name := "had", desc := "(I)I" } : Jvm.MethodName) ({ cls := "LetMe$Table", name := "had", desc := "(I)I" } : Jvm.MethodName)) ∈ lw_all := lw_g (lw_at lw_m4 188 rfl) rfl
theorem q1052 : (Jvm.Cond.code ({ cls := "LetMe$Table", name := "had", desc := "(I)I" } : Jvm.MethodName) prog_12_method_7_code (4 : Nat) (Option.some Jvm.ClassFile.FieldType.int)) ∈ lw_all := lw_g (lw_at lw_m4 189 rfl) rfl
theorem q1053 : (Jvm.Cond.methodLink "LetMe$Table" (89 : Nat) ({ cls := "LetMe$Table", name := "part", desc := "(III)I" } : Jvm.MethodName)) ∈ lw_all := lw_g (lw_at lw_m4 190 rfl) rfl
theorem q1054 : (Jvm.Cond.static ({ cls := "LetMe$Table", name := "part", desc := "(III)I" } : Jvm.MethodName)) ∈ lw_all := lw_g (lw_at lw_m4 191 rfl) rfl
theorem q1055 : (Jvm.Cond.code ({ cls := "LetMe$Table", name := "part", desc := "(III)I" } : Jvm.MethodName) prog_12_method_10_code (5 : Nat) (Option.some Jvm.ClassFile.FieldType.int)) ∈ lw_all := lw_g (lw_at lw_m4 192 rfl) rfl
theorem q1056 : (Jvm.Cond.methodLink "LetMe$Table" (80 : Nat) ({ cls := "java/lang/Integer", name := "bitCount", desc := "(I)I" } : Jvm.MethodName)) ∈ lw_all := lw_g (lw_at lw_m4 193 rfl) rfl
theorem q1066 : (Jvm.Cond.instanceMethod ({ cls := "LetMe$Table", name := "due", desc := "(II)I" } : Jvm.MethodName)) ∈ lw_all := lw_g (lw_at lw_m4 203 rfl) rfl
theorem q1067 : (Jvm.Cond.selects "LetMe$Table" ({ cls := "LetMe$Table", name := "due", desc := "(II)I" } : Jvm.MethodName) ({ cls := "LetMe$Table", name := "due", desc := "(II)I" } : Jvm.MethodName)) ∈ lw_all := lw_g (lw_at lw_m4 204 rfl) rfl
theorem q1068 : (Jvm.Cond.code ({ cls := "LetMe$Table", name := "due", desc := "(II)I" } : Jvm.MethodName) prog_12_method_13_code (5 : Nat) (Option.some Jvm.ClassFile.FieldType.int)) ∈ lw_all := lw_g (lw_at lw_m4 205 rfl) rfl
theorem q1069 : (Jvm.Cond.methodLink "LetMe$Table" (99 : Nat) ({ cls := "LetMe$Table", name := "bill", desc := "()I" } : Jvm.MethodName)) ∈ lw_all := lw_g (lw_at lw_m4 206 rfl) rfl
theorem q1070 : (Jvm.Cond.methodLink "LetMe$Table" (93 : Nat) ({ cls := "LetMe$Table", name := "heads", desc := "()I" } : Jvm.MethodName)) ∈ lw_all := lw_g (lw_at lw_m4 207 rfl) rfl
theorem q1071 : (Jvm.Cond.methodLink "LetMe$Table" (102 : Nat) ({ cls := "LetMe$Table", name := "units", desc := "()I" } : Jvm.MethodName)) ∈ lw_all := lw_g (lw_at lw_m4 208 rfl) rfl
theorem q1072 : (Jvm.Cond.instanceMethod ({ cls := "LetMe$Table", name := "units", desc := "()I" } : Jvm.MethodName)) ∈ lw_all := lw_g (lw_at lw_m4 209 rfl) rfl
theorem q1073 : (Jvm.Cond.selects "LetMe$Table" ({ cls := "LetMe$Table", name := "units", desc := "()I" } : Jvm.MethodName) ({ cls := "LetMe$Table", name := "units", desc := "()I" } : Jvm.MethodName)) ∈ lw_all := lw_g (lw_at lw_m4 210 rfl) rfl
theorem q1074 : (Jvm.Cond.code ({ cls := "LetMe$Table", name := "units", desc := "()I" } : Jvm.MethodName) prog_12_method_12_code (5 : Nat) (Option.some Jvm.ClassFile.FieldType.int)) ∈ lw_all := lw_g (lw_at lw_m4 211 rfl) rfl
theorem q1075 : (Jvm.Cond.methodLink "LetMe$Table" (105 : Nat) ({ cls := "LetMe$Table", name := "eaten", desc := "(I)I" } : Jvm.MethodName)) ∈ lw_all := lw_g (lw_at lw_m4 212 rfl) rfl
theorem q1140 : (Jvm.Cond.instanceMethod ({ cls := "LetMe$Table", name := "pays", desc := "(I)Z" } : Jvm.MethodName)) ∈ lw_all := lw_g (lw_at lw_m5 37 rfl) rfl
theorem q1141 : (Jvm.Cond.selects "LetMe$Table" ({ cls := "LetMe$Table", name := "pays", desc := "(I)Z" } : Jvm.MethodName) ({ cls := "LetMe$Table", name := "pays", desc := "(I)Z" } : Jvm.MethodName)) ∈ lw_all := lw_g (lw_at lw_m5 38 rfl) rfl
theorem q1142 : (Jvm.Cond.code ({ cls := "LetMe$Table", name := "pays", desc := "(I)Z" } : Jvm.MethodName) prog_12_method_17_code (3 : Nat) (Option.some Jvm.ClassFile.FieldType.boolean)) ∈ lw_all := lw_g (lw_at lw_m5 39 rfl) rfl
theorem q1143 : (Jvm.Cond.methodLink "LetMe$Table" (108 : Nat) ({ cls := "LetMe$Table", name := "owes", desc := "(II)I" } : Jvm.MethodName)) ∈ lw_all := lw_g (lw_at lw_m5 40 rfl) rfl
theorem q1144 : (Jvm.Cond.instanceMethod ({ cls := "LetMe$Table", name := "owes", desc := "(II)I" } : Jvm.MethodName)) ∈ lw_all := lw_g (lw_at lw_m5 41 rfl) rfl
theorem q1145 : (Jvm.Cond.selects "LetMe$Table" ({ cls := "LetMe$Table", name := "owes", desc := "(II)I" } : Jvm.MethodName) ({ cls := "LetMe$Table", name := "owes", desc := "(II)I" } : Jvm.MethodName)) ∈ lw_all := lw_g (lw_at lw_m5 42 rfl) rfl
theorem q1146 : (Jvm.Cond.code ({ cls := "LetMe$Table", name := "owes", desc := "(II)I" } : Jvm.MethodName) prog_12_method_14_code (3 : Nat) (Option.some Jvm.ClassFile.FieldType.int)) ∈ lw_all := lw_g (lw_at lw_m5 43 rfl) rfl
theorem q1147 : (Jvm.Cond.methodLink "LetMe$Table" (111 : Nat) ({ cls := "LetMe$Table", name := "due", desc := "(II)I" } : Jvm.MethodName)) ∈ lw_all := lw_g (lw_at lw_m5 44 rfl) rfl
theorem q1148 : (Jvm.Cond.constant "LetMe$Table" (114 : Nat) (999999 : Int32)) ∈ lw_all := lw_g (lw_at lw_m5 45 rfl) rfl
theorem q1149 : (Jvm.Cond.methodLink "LetMe$Table" (115 : Nat) ({ cls := "LetMe$Table", name := "owe", desc := "(III)V" } : Jvm.MethodName)) ∈ lw_all := lw_g (lw_at lw_m5 46 rfl) rfl
theorem q1155 : (Jvm.Cond.instanceMethod ({ cls := "LetMe$Table", name := "turn", desc := "(I)I" } : Jvm.MethodName)) ∈ lw_all := lw_g (lw_at lw_m5 52 rfl) rfl
theorem q1156 : (Jvm.Cond.selects "LetMe$Table" ({ cls := "LetMe$Table", name := "turn", desc := "(I)I" } : Jvm.MethodName) ({ cls := "LetMe$Table", name := "turn", desc := "(I)I" } : Jvm.MethodName)) ∈ lw_all := lw_g (lw_at lw_m5 53 rfl) rfl
theorem q1157 : (Jvm.Cond.code ({ cls := "LetMe$Table", name := "turn", desc := "(I)I" } : Jvm.MethodName) prog_12_method_19_code (4 : Nat) (Option.some Jvm.ClassFile.FieldType.int)) ∈ lw_all := lw_g (lw_at lw_m5 54 rfl) rfl
theorem q1158 : (Jvm.Cond.methodLink "LetMe$Table" (128 : Nat) ({ cls := "LetMe$Table", name := "first", desc := "(II)I" } : Jvm.MethodName)) ∈ lw_all := lw_g (lw_at lw_m5 55 rfl) rfl
theorem q1159 : (Jvm.Cond.privateMethod ({ cls := "LetMe$Table", name := "first", desc := "(II)I" } : Jvm.MethodName)) ∈ lw_tbl := lw_at lw_m5 56 rfl
theorem q1160 : (Jvm.Cond.instanceMethod ({ cls := "LetMe$Table", name := "first", desc := "(II)I" } : Jvm.MethodName)) ∈ lw_all := lw_g (lw_at lw_m5 57 rfl) rfl
theorem q1161 : (Jvm.Cond.code ({ cls := "LetMe$Table", name := "first", desc := "(II)I" } : Jvm.MethodName) prog_12_method_18_code (3 : Nat) (Option.some Jvm.ClassFile.FieldType.int)) ∈ lw_all := lw_g (lw_at lw_m5 58 rfl) rfl
theorem q1162 : (Jvm.Cond.methodLink "LetMe$Table" (119 : Nat) ({ cls := "LetMe$Table", name := "balance", desc := "(I)I" } : Jvm.MethodName)) ∈ lw_all := lw_g (lw_at lw_m5 59 rfl) rfl
theorem q1163 : (Jvm.Cond.instanceMethod ({ cls := "LetMe$Table", name := "balance", desc := "(I)I" } : Jvm.MethodName)) ∈ lw_all := lw_g (lw_at lw_m5 60 rfl) rfl
theorem q1164 : (Jvm.Cond.selects "LetMe$Table" ({ cls := "LetMe$Table", name := "balance", desc := "(I)I" } : Jvm.MethodName) ({ cls := "LetMe$Table", name := "balance", desc := "(I)I" } : Jvm.MethodName)) ∈ lw_all := lw_g (lw_at lw_m5 61 rfl) rfl
theorem q1165 : (Jvm.Cond.code ({ cls := "LetMe$Table", name := "balance", desc := "(I)I" } : Jvm.MethodName) prog_12_method_16_code (4 : Nat) (Option.some Jvm.ClassFile.FieldType.int)) ∈ lw_all := lw_g (lw_at lw_m5 62 rfl) rfl
theorem q1249 : (Jvm.Cond.instanceMethod ({ cls := "LetMe$Table", name := "lends", desc := "(III)Z" } : Jvm.MethodName)) ∈ lw_all := lw_g (lw_at lw_m5 146 rfl) rfl
theorem q1250 : (Jvm.Cond.selects "LetMe$Table" ({ cls := "LetMe$Table", name := "lends", desc := "(III)Z" } : Jvm.MethodName) ({ cls := "LetMe$Table", name := "lends", desc := "(III)Z" } : Jvm.MethodName)) ∈ lw_all := lw_g (lw_at lw_m5 147 rfl) rfl
theorem q1251 : (Jvm.Cond.code ({ cls := "LetMe$Table", name := "lends", desc := "(III)Z" } : Jvm.MethodName) prog_12_method_22_code (4 : Nat) (Option.some Jvm.ClassFile.FieldType.boolean)) ∈ lw_all := lw_g (lw_at lw_m5 148 rfl) rfl
theorem q1326 : (Jvm.Cond.instanceMethod ({ cls := "LetMe$Table", name := "buys", desc := "()I" } : Jvm.MethodName)) ∈ lw_all := lw_g (lw_at lw_m5 223 rfl) rfl
theorem q1327 : (Jvm.Cond.selects "LetMe$Table" ({ cls := "LetMe$Table", name := "buys", desc := "()I" } : Jvm.MethodName) ({ cls := "LetMe$Table", name := "buys", desc := "()I" } : Jvm.MethodName)) ∈ lw_all := lw_g (lw_at lw_m5 224 rfl) rfl
theorem q1328 : (Jvm.Cond.code ({ cls := "LetMe$Table", name := "buys", desc := "()I" } : Jvm.MethodName) prog_12_method_20_code (3 : Nat) (Option.some Jvm.ClassFile.FieldType.int)) ∈ lw_all := lw_g (lw_at lw_m5 225 rfl) rfl
theorem q1334 : (Jvm.Cond.instanceMethod ({ cls := "LetMe$Table", name := "round", desc := "()I" } : Jvm.MethodName)) ∈ lw_all := lw_g (lw_at lw_m5 231 rfl) rfl
theorem q1335 : (Jvm.Cond.selects "LetMe$Table" ({ cls := "LetMe$Table", name := "round", desc := "()I" } : Jvm.MethodName) ({ cls := "LetMe$Table", name := "round", desc := "()I" } : Jvm.MethodName)) ∈ lw_all := lw_g (lw_at lw_m5 232 rfl) rfl
theorem q1336 : (Jvm.Cond.code ({ cls := "LetMe$Table", name := "round", desc := "()I" } : Jvm.MethodName) prog_12_method_21_code (3 : Nat) (Option.some Jvm.ClassFile.FieldType.int)) ∈ lw_all := lw_g (lw_at lw_m5 233 rfl) rfl
theorem q1337 : (Jvm.Cond.methodLink "LetMe$Table" (131 : Nat) ({ cls := "LetMe$Table", name := "buys", desc := "()I" } : Jvm.MethodName)) ∈ lw_all := lw_g (lw_at lw_m5 234 rfl) rfl
theorem q1378 : (Jvm.Cond.instanceMethod ({ cls := "LetMe$Table", name := "gives", desc := "(III)I" } : Jvm.MethodName)) ∈ lw_all := lw_g (lw_at lw_m6 35 rfl) rfl
theorem q1379 : (Jvm.Cond.selects "LetMe$Table" ({ cls := "LetMe$Table", name := "gives", desc := "(III)I" } : Jvm.MethodName) ({ cls := "LetMe$Table", name := "gives", desc := "(III)I" } : Jvm.MethodName)) ∈ lw_all := lw_g (lw_at lw_m6 36 rfl) rfl
theorem q1380 : (Jvm.Cond.code ({ cls := "LetMe$Table", name := "gives", desc := "(III)I" } : Jvm.MethodName) prog_12_method_23_code (4 : Nat) (Option.some Jvm.ClassFile.FieldType.int)) ∈ lw_all := lw_g (lw_at lw_m6 37 rfl) rfl
theorem q1381 : (Jvm.Cond.methodLink "LetMe$Table" (134 : Nat) ({ cls := "java/lang/Math", name := "max", desc := "(II)I" } : Jvm.MethodName)) ∈ lw_all := lw_g (lw_at lw_m6 38 rfl) rfl
theorem in_X5 : ∀ w ∈ wsX50, w ∈ lw_all := lw_in wsX50 [335, 337, 339, 341, 343, 345, 347, 349, 351, 353, 355, 357, 359, 361] (by decide +kernel) (by decide +kernel)

/-! LetMe$Reader -/
set_option maxRecDepth 100000
def RX7 : String := "LetMe$Reader"
def TX7 : u_T := fun k => match k with
  | 0 => ("LetMe$Reader", "size", "I", true)
  | 1 => ("LetMe$Reader", "at", "I", false)
  | 2 => ("LetMe$Reader", "behind", "I", false)
  | 3 => ("LetMe$Reader", "sort", "I", false)
  | 4 => ("LetMe$Reader", "number", "I", false)
  | 5 => ("LetMe$Reader", "steps", "I", false)
  | 6 => ("LetMe$Reader", "hasSplit", "Z", false)
  | 7 => ("LetMe$Reader", "hasLaw", "Z", false)
  | _ => ("LetMe$Reader", "this$0", "LLetMe;", true)
def tyX7 : Nat → FieldType := fun k => match k with
  | 0 => .int
  | 1 => .int
  | 2 => .int
  | 3 => .int
  | 4 => .int
  | 5 => .int
  | 6 => .boolean
  | 7 => .boolean
  | _ => .object "LetMe"
abbrev wsX70 : List Cond := u_ws RX7 TX7 9
theorem nmX7 : ∀ a, a < 9 → ∀ b, b < 9 → a ≠ b → (TX7 a).2.1 ≠ (TX7 b).2.1 := by decide +kernel
theorem tyX7_ok : ∀ k, k < 9 → parseFieldDescriptor (TX7 k).2.2.1 = some (tyX7 k) := by decide +kernel
abbrev cX7_init : ByteArray := prog_9_method_1_code
def yX7_init : MethodName := ⟨RX7, "<init>", "(LLetMe;I)V"⟩
def dkwX7_init_0 : List UInt8 := [42, 43, 181, 0, 3, 42, 183, 0, 9, 42, 28, 181, 0, 15, 42, 182, 0, 19, 177]
abbrev dktX7_init_0 : List UInt8 := dkwX7_init_0 ++ []
theorem dksX7_init_0 : cX7_init.data.toList.drop 0 = dktX7_init_0 := by decide +kernel
theorem dX7_init_0 : decode cX7_init 0 = .ok (.aload_n 0, 1) := dk_42 (dk_at dksX7_init_0 0 rfl rfl)
theorem dX7_init_1 : decode cX7_init 1 = .ok (.aload_n 1, 1) := dk_43 (dk_at dksX7_init_0 1 rfl rfl)
theorem dX7_init_2 : decode cX7_init 2 = .ok (.putfield 3, 3) := dk_181 0 3 (dk_at dksX7_init_0 2 rfl rfl)
theorem dX7_init_5 : decode cX7_init 5 = .ok (.aload_n 0, 1) := dk_42 (dk_at dksX7_init_0 5 rfl rfl)
theorem dX7_init_6 : decode cX7_init 6 = .ok (.invokespecial 9, 3) := dk_183 0 9 (dk_at dksX7_init_0 6 rfl rfl)
theorem dX7_init_9 : decode cX7_init 9 = .ok (.aload_n 0, 1) := dk_42 (dk_at dksX7_init_0 9 rfl rfl)
theorem dX7_init_10 : decode cX7_init 10 = .ok (.iload_n 2, 1) := dk_28 (dk_at dksX7_init_0 10 rfl rfl)
theorem dX7_init_11 : decode cX7_init 11 = .ok (.putfield 15, 3) := dk_181 0 15 (dk_at dksX7_init_0 11 rfl rfl)
theorem dX7_init_14 : decode cX7_init 14 = .ok (.aload_n 0, 1) := dk_42 (dk_at dksX7_init_0 14 rfl rfl)
theorem dX7_init_15 : decode cX7_init 15 = .ok (.invokevirtual 19, 3) := dk_182 0 19 (dk_at dksX7_init_0 15 rfl rfl)
theorem dX7_init_18 : decode cX7_init 18 = .ok (.return_, 1) := dk_177 (dk_at dksX7_init_0 18 rfl rfl)
abbrev cX7_next : ByteArray := prog_9_method_4_code
def yX7_next : MethodName := ⟨RX7, "next", "()V"⟩
def dkwX7_next_13 : List UInt8 := [180, 0, 22, 42, 180, 0, 29, 51, 16, 61, 160, 0, 7, 6, 167, 0, 4, 7, 181, 0, 32, 177]
abbrev dktX7_next_13 : List UInt8 := dkwX7_next_13 ++ []
def dkwX7_next_12 : List UInt8 := [159, 0, 37, 42, 180, 0, 3, 180, 0, 22, 42, 180, 0, 29, 51, 16, 62, 159, 0, 20, 42, 180, 0, 3]
abbrev dktX7_next_12 : List UInt8 := dkwX7_next_12 ++ dktX7_next_13
def dkwX7_next_11 : List UInt8 := [180, 0, 29, 51, 16, 59, 159, 0, 54, 42, 180, 0, 3, 180, 0, 22, 42, 180, 0, 29, 51, 16, 60]
abbrev dktX7_next_11 : List UInt8 := dkwX7_next_11 ++ dktX7_next_12
def dkwX7_next_10 : List UInt8 := [167, 0, 90, 42, 42, 180, 0, 29, 4, 96, 181, 0, 26, 42, 42, 180, 0, 3, 180, 0, 22, 42]
abbrev dktX7_next_10 : List UInt8 := dkwX7_next_10 ++ dktX7_next_11
def dkwX7_next_9 : List UInt8 := [42, 42, 180, 0, 26, 42, 180, 0, 29, 100, 7, 164, 0, 7, 7, 167, 0, 4, 5, 181, 0, 32]
abbrev dktX7_next_9 : List UInt8 := dkwX7_next_9 ++ dktX7_next_10
def dkwX7_next_8 : List UInt8 := [180, 0, 26, 51, 96, 16, 48, 100, 181, 0, 42, 42, 89, 180, 0, 26, 4, 96, 181, 0, 26, 167, 255, 195]
abbrev dktX7_next_8 : List UInt8 := dkwX7_next_8 ++ dktX7_next_9
def dkwX7_next_7 : List UInt8 := [180, 0, 29, 100, 7, 162, 0, 30, 42, 16, 10, 42, 180, 0, 42, 104, 42, 180, 0, 3, 180, 0, 22, 42]
abbrev dktX7_next_7 : List UInt8 := dkwX7_next_7 ++ dktX7_next_8
def dkwX7_next_6 : List UInt8 := [153, 0, 97, 42, 3, 181, 0, 42, 42, 42, 180, 0, 26, 182, 0, 39, 153, 0, 56, 42, 180, 0, 26, 42]
abbrev dktX7_next_6 : List UInt8 := dkwX7_next_6 ++ dktX7_next_7
def dkwX7_next_5 : List UInt8 := [153, 0, 208, 42, 89, 180, 0, 26, 4, 96, 181, 0, 26, 167, 255, 235, 42, 42, 180, 0, 29, 182, 0, 39]
abbrev dktX7_next_5 : List UInt8 := dkwX7_next_5 ++ dktX7_next_6
def dkwX7_next_4 : List UInt8 := [180, 0, 29, 182, 0, 35, 153, 0, 32, 42, 4, 181, 0, 32, 42, 42, 180, 0, 26, 182, 0, 35]
abbrev dktX7_next_4 : List UInt8 := dkwX7_next_4 ++ dktX7_next_5
def dkwX7_next_3 : List UInt8 := [181, 0, 26, 42, 3, 181, 0, 32, 42, 180, 0, 29, 42, 180, 0, 15, 161, 0, 4, 177, 42, 42]
abbrev dktX7_next_3 : List UInt8 := dkwX7_next_3 ++ dktX7_next_4
def dkwX7_next_2 : List UInt8 := [51, 16, 32, 160, 0, 16, 42, 89, 180, 0, 29, 4, 96, 181, 0, 29, 167, 255, 201, 42, 42, 180, 0, 29]
abbrev dktX7_next_2 : List UInt8 := dkwX7_next_2 ++ dktX7_next_3
def dkwX7_next_1 : List UInt8 := [180, 0, 22, 42, 180, 0, 29, 51, 16, 10, 159, 0, 20, 42, 180, 0, 3, 180, 0, 22, 42, 180, 0, 29]
abbrev dktX7_next_1 : List UInt8 := dkwX7_next_1 ++ dktX7_next_2
def dkwX7_next_0 : List UInt8 := [42, 42, 180, 0, 26, 181, 0, 29, 42, 180, 0, 29, 42, 180, 0, 15, 162, 0, 50, 42, 180, 0, 3]
abbrev dktX7_next_0 : List UInt8 := dkwX7_next_0 ++ dktX7_next_1
theorem dksX7_next_0 : cX7_next.data.toList.drop 0 = dktX7_next_0 := by decide +kernel
theorem dksX7_next_1 : cX7_next.data.toList.drop 23 = dktX7_next_1 := dk_seg dksX7_next_0 23 rfl rfl
theorem dksX7_next_2 : cX7_next.data.toList.drop 47 = dktX7_next_2 := dk_seg dksX7_next_1 24 rfl rfl
theorem dksX7_next_3 : cX7_next.data.toList.drop 71 = dktX7_next_3 := dk_seg dksX7_next_2 24 rfl rfl
theorem dksX7_next_4 : cX7_next.data.toList.drop 93 = dktX7_next_4 := dk_seg dksX7_next_3 22 rfl rfl
theorem dksX7_next_5 : cX7_next.data.toList.drop 115 = dktX7_next_5 := dk_seg dksX7_next_4 22 rfl rfl
theorem dksX7_next_6 : cX7_next.data.toList.drop 139 = dktX7_next_6 := dk_seg dksX7_next_5 24 rfl rfl
theorem dksX7_next_7 : cX7_next.data.toList.drop 163 = dktX7_next_7 := dk_seg dksX7_next_6 24 rfl rfl
theorem dksX7_next_8 : cX7_next.data.toList.drop 187 = dktX7_next_8 := dk_seg dksX7_next_7 24 rfl rfl
theorem dksX7_next_9 : cX7_next.data.toList.drop 211 = dktX7_next_9 := dk_seg dksX7_next_8 24 rfl rfl
theorem dksX7_next_10 : cX7_next.data.toList.drop 233 = dktX7_next_10 := dk_seg dksX7_next_9 22 rfl rfl
theorem dksX7_next_11 : cX7_next.data.toList.drop 255 = dktX7_next_11 := dk_seg dksX7_next_10 22 rfl rfl
theorem dksX7_next_12 : cX7_next.data.toList.drop 278 = dktX7_next_12 := dk_seg dksX7_next_11 23 rfl rfl
theorem dksX7_next_13 : cX7_next.data.toList.drop 302 = dktX7_next_13 := dk_seg dksX7_next_12 24 rfl rfl
theorem dX7_next_0 : decode cX7_next 0 = .ok (.aload_n 0, 1) := dk_42 (dk_at dksX7_next_0 0 rfl rfl)
theorem dX7_next_1 : decode cX7_next 1 = .ok (.aload_n 0, 1) := dk_42 (dk_at dksX7_next_0 1 rfl rfl)
theorem dX7_next_2 : decode cX7_next 2 = .ok (.getfield 26, 3) := dk_180 0 26 (dk_at dksX7_next_0 2 rfl rfl)
theorem dX7_next_5 : decode cX7_next 5 = .ok (.putfield 29, 3) := dk_181 0 29 (dk_at dksX7_next_0 5 rfl rfl)
theorem dX7_next_8 : decode cX7_next 8 = .ok (.aload_n 0, 1) := dk_42 (dk_at dksX7_next_0 8 rfl rfl)
theorem dX7_next_9 : decode cX7_next 9 = .ok (.getfield 29, 3) := dk_180 0 29 (dk_at dksX7_next_0 9 rfl rfl)
theorem dX7_next_12 : decode cX7_next 12 = .ok (.aload_n 0, 1) := dk_42 (dk_at dksX7_next_0 12 rfl rfl)
theorem dX7_next_13 : decode cX7_next 13 = .ok (.getfield 15, 3) := dk_180 0 15 (dk_at dksX7_next_0 13 rfl rfl)
theorem dX7_next_16 : decode cX7_next 16 = .ok (.if_icmp .ge 50, 3) := dk_162 0 50 (dk_at dksX7_next_0 16 rfl rfl)
theorem dX7_next_19 : decode cX7_next 19 = .ok (.aload_n 0, 1) := dk_42 (dk_at dksX7_next_0 19 rfl rfl)
theorem dX7_next_20 : decode cX7_next 20 = .ok (.getfield 3, 3) := dk_180 0 3 (dk_at dksX7_next_0 20 rfl rfl)
theorem dX7_next_23 : decode cX7_next 23 = .ok (.getfield 22, 3) := dk_180 0 22 (dk_at dksX7_next_1 0 rfl rfl)
theorem dX7_next_26 : decode cX7_next 26 = .ok (.aload_n 0, 1) := dk_42 (dk_at dksX7_next_1 3 rfl rfl)
theorem dX7_next_27 : decode cX7_next 27 = .ok (.getfield 29, 3) := dk_180 0 29 (dk_at dksX7_next_1 4 rfl rfl)
theorem dX7_next_30 : decode cX7_next 30 = .ok (.baload, 1) := dk_51 (dk_at dksX7_next_1 7 rfl rfl)
theorem dX7_next_31 : decode cX7_next 31 = .ok (.bipush 10, 2) := dk_16 10 (dk_at dksX7_next_1 8 rfl rfl)
theorem dX7_next_33 : decode cX7_next 33 = .ok (.if_icmp .eq 20, 3) := dk_159 0 20 (dk_at dksX7_next_1 10 rfl rfl)
theorem dX7_next_36 : decode cX7_next 36 = .ok (.aload_n 0, 1) := dk_42 (dk_at dksX7_next_1 13 rfl rfl)
theorem dX7_next_37 : decode cX7_next 37 = .ok (.getfield 3, 3) := dk_180 0 3 (dk_at dksX7_next_1 14 rfl rfl)
theorem dX7_next_40 : decode cX7_next 40 = .ok (.getfield 22, 3) := dk_180 0 22 (dk_at dksX7_next_1 17 rfl rfl)
theorem dX7_next_43 : decode cX7_next 43 = .ok (.aload_n 0, 1) := dk_42 (dk_at dksX7_next_1 20 rfl rfl)
theorem dX7_next_44 : decode cX7_next 44 = .ok (.getfield 29, 3) := dk_180 0 29 (dk_at dksX7_next_1 21 rfl rfl)
theorem dX7_next_47 : decode cX7_next 47 = .ok (.baload, 1) := dk_51 (dk_at dksX7_next_2 0 rfl rfl)
theorem dX7_next_48 : decode cX7_next 48 = .ok (.bipush 32, 2) := dk_16 32 (dk_at dksX7_next_2 1 rfl rfl)
theorem dX7_next_50 : decode cX7_next 50 = .ok (.if_icmp .ne 16, 3) := dk_160 0 16 (dk_at dksX7_next_2 3 rfl rfl)
theorem dX7_next_53 : decode cX7_next 53 = .ok (.aload_n 0, 1) := dk_42 (dk_at dksX7_next_2 6 rfl rfl)
theorem dX7_next_54 : decode cX7_next 54 = .ok (.dup, 1) := dk_89 (dk_at dksX7_next_2 7 rfl rfl)
theorem dX7_next_55 : decode cX7_next 55 = .ok (.getfield 29, 3) := dk_180 0 29 (dk_at dksX7_next_2 8 rfl rfl)
theorem dX7_next_58 : decode cX7_next 58 = .ok (.iconst 1, 1) := dk_4 (dk_at dksX7_next_2 11 rfl rfl)
theorem dX7_next_59 : decode cX7_next 59 = .ok (.iadd, 1) := dk_96 (dk_at dksX7_next_2 12 rfl rfl)
theorem dX7_next_60 : decode cX7_next 60 = .ok (.putfield 29, 3) := dk_181 0 29 (dk_at dksX7_next_2 13 rfl rfl)
theorem dX7_next_63 : decode cX7_next 63 = .ok (.goto (-55), 3) := dk_167 255 201 (dk_at dksX7_next_2 16 rfl rfl)
theorem dX7_next_66 : decode cX7_next 66 = .ok (.aload_n 0, 1) := dk_42 (dk_at dksX7_next_2 19 rfl rfl)
theorem dX7_next_67 : decode cX7_next 67 = .ok (.aload_n 0, 1) := dk_42 (dk_at dksX7_next_2 20 rfl rfl)
theorem dX7_next_68 : decode cX7_next 68 = .ok (.getfield 29, 3) := dk_180 0 29 (dk_at dksX7_next_2 21 rfl rfl)
theorem dX7_next_71 : decode cX7_next 71 = .ok (.putfield 26, 3) := dk_181 0 26 (dk_at dksX7_next_3 0 rfl rfl)
theorem dX7_next_74 : decode cX7_next 74 = .ok (.aload_n 0, 1) := dk_42 (dk_at dksX7_next_3 3 rfl rfl)
theorem dX7_next_75 : decode cX7_next 75 = .ok (.iconst 0, 1) := dk_3 (dk_at dksX7_next_3 4 rfl rfl)
theorem dX7_next_76 : decode cX7_next 76 = .ok (.putfield 32, 3) := dk_181 0 32 (dk_at dksX7_next_3 5 rfl rfl)
theorem dX7_next_79 : decode cX7_next 79 = .ok (.aload_n 0, 1) := dk_42 (dk_at dksX7_next_3 8 rfl rfl)
theorem dX7_next_80 : decode cX7_next 80 = .ok (.getfield 29, 3) := dk_180 0 29 (dk_at dksX7_next_3 9 rfl rfl)
theorem dX7_next_83 : decode cX7_next 83 = .ok (.aload_n 0, 1) := dk_42 (dk_at dksX7_next_3 12 rfl rfl)
theorem dX7_next_84 : decode cX7_next 84 = .ok (.getfield 15, 3) := dk_180 0 15 (dk_at dksX7_next_3 13 rfl rfl)
theorem dX7_next_87 : decode cX7_next 87 = .ok (.if_icmp .lt 4, 3) := dk_161 0 4 (dk_at dksX7_next_3 16 rfl rfl)
theorem dX7_next_90 : decode cX7_next 90 = .ok (.return_, 1) := dk_177 (dk_at dksX7_next_3 19 rfl rfl)
theorem dX7_next_91 : decode cX7_next 91 = .ok (.aload_n 0, 1) := dk_42 (dk_at dksX7_next_3 20 rfl rfl)
theorem dX7_next_92 : decode cX7_next 92 = .ok (.aload_n 0, 1) := dk_42 (dk_at dksX7_next_3 21 rfl rfl)
theorem dX7_next_93 : decode cX7_next 93 = .ok (.getfield 29, 3) := dk_180 0 29 (dk_at dksX7_next_4 0 rfl rfl)
theorem dX7_next_96 : decode cX7_next 96 = .ok (.invokevirtual 35, 3) := dk_182 0 35 (dk_at dksX7_next_4 3 rfl rfl)
theorem dX7_next_99 : decode cX7_next 99 = .ok (.ifCond .eq 32, 3) := dk_153 0 32 (dk_at dksX7_next_4 6 rfl rfl)
theorem dX7_next_102 : decode cX7_next 102 = .ok (.aload_n 0, 1) := dk_42 (dk_at dksX7_next_4 9 rfl rfl)
theorem dX7_next_103 : decode cX7_next 103 = .ok (.iconst 1, 1) := dk_4 (dk_at dksX7_next_4 10 rfl rfl)
theorem dX7_next_104 : decode cX7_next 104 = .ok (.putfield 32, 3) := dk_181 0 32 (dk_at dksX7_next_4 11 rfl rfl)
theorem dX7_next_107 : decode cX7_next 107 = .ok (.aload_n 0, 1) := dk_42 (dk_at dksX7_next_4 14 rfl rfl)
theorem dX7_next_108 : decode cX7_next 108 = .ok (.aload_n 0, 1) := dk_42 (dk_at dksX7_next_4 15 rfl rfl)
theorem dX7_next_109 : decode cX7_next 109 = .ok (.getfield 26, 3) := dk_180 0 26 (dk_at dksX7_next_4 16 rfl rfl)
theorem dX7_next_112 : decode cX7_next 112 = .ok (.invokevirtual 35, 3) := dk_182 0 35 (dk_at dksX7_next_4 19 rfl rfl)
theorem dX7_next_115 : decode cX7_next 115 = .ok (.ifCond .eq 208, 3) := dk_153 0 208 (dk_at dksX7_next_5 0 rfl rfl)
theorem dX7_next_118 : decode cX7_next 118 = .ok (.aload_n 0, 1) := dk_42 (dk_at dksX7_next_5 3 rfl rfl)
theorem dX7_next_119 : decode cX7_next 119 = .ok (.dup, 1) := dk_89 (dk_at dksX7_next_5 4 rfl rfl)
theorem dX7_next_120 : decode cX7_next 120 = .ok (.getfield 26, 3) := dk_180 0 26 (dk_at dksX7_next_5 5 rfl rfl)
theorem dX7_next_123 : decode cX7_next 123 = .ok (.iconst 1, 1) := dk_4 (dk_at dksX7_next_5 8 rfl rfl)
theorem dX7_next_124 : decode cX7_next 124 = .ok (.iadd, 1) := dk_96 (dk_at dksX7_next_5 9 rfl rfl)
theorem dX7_next_125 : decode cX7_next 125 = .ok (.putfield 26, 3) := dk_181 0 26 (dk_at dksX7_next_5 10 rfl rfl)
theorem dX7_next_128 : decode cX7_next 128 = .ok (.goto (-21), 3) := dk_167 255 235 (dk_at dksX7_next_5 13 rfl rfl)
theorem dX7_next_131 : decode cX7_next 131 = .ok (.aload_n 0, 1) := dk_42 (dk_at dksX7_next_5 16 rfl rfl)
theorem dX7_next_132 : decode cX7_next 132 = .ok (.aload_n 0, 1) := dk_42 (dk_at dksX7_next_5 17 rfl rfl)
theorem dX7_next_133 : decode cX7_next 133 = .ok (.getfield 29, 3) := dk_180 0 29 (dk_at dksX7_next_5 18 rfl rfl)
theorem dX7_next_136 : decode cX7_next 136 = .ok (.invokevirtual 39, 3) := dk_182 0 39 (dk_at dksX7_next_5 21 rfl rfl)
theorem dX7_next_139 : decode cX7_next 139 = .ok (.ifCond .eq 97, 3) := dk_153 0 97 (dk_at dksX7_next_6 0 rfl rfl)
theorem dX7_next_142 : decode cX7_next 142 = .ok (.aload_n 0, 1) := dk_42 (dk_at dksX7_next_6 3 rfl rfl)
theorem dX7_next_143 : decode cX7_next 143 = .ok (.iconst 0, 1) := dk_3 (dk_at dksX7_next_6 4 rfl rfl)
theorem dX7_next_144 : decode cX7_next 144 = .ok (.putfield 42, 3) := dk_181 0 42 (dk_at dksX7_next_6 5 rfl rfl)
theorem dX7_next_147 : decode cX7_next 147 = .ok (.aload_n 0, 1) := dk_42 (dk_at dksX7_next_6 8 rfl rfl)
theorem dX7_next_148 : decode cX7_next 148 = .ok (.aload_n 0, 1) := dk_42 (dk_at dksX7_next_6 9 rfl rfl)
theorem dX7_next_149 : decode cX7_next 149 = .ok (.getfield 26, 3) := dk_180 0 26 (dk_at dksX7_next_6 10 rfl rfl)
theorem dX7_next_152 : decode cX7_next 152 = .ok (.invokevirtual 39, 3) := dk_182 0 39 (dk_at dksX7_next_6 13 rfl rfl)
theorem dX7_next_155 : decode cX7_next 155 = .ok (.ifCond .eq 56, 3) := dk_153 0 56 (dk_at dksX7_next_6 16 rfl rfl)
theorem dX7_next_158 : decode cX7_next 158 = .ok (.aload_n 0, 1) := dk_42 (dk_at dksX7_next_6 19 rfl rfl)
theorem dX7_next_159 : decode cX7_next 159 = .ok (.getfield 26, 3) := dk_180 0 26 (dk_at dksX7_next_6 20 rfl rfl)
theorem dX7_next_162 : decode cX7_next 162 = .ok (.aload_n 0, 1) := dk_42 (dk_at dksX7_next_6 23 rfl rfl)
theorem dX7_next_163 : decode cX7_next 163 = .ok (.getfield 29, 3) := dk_180 0 29 (dk_at dksX7_next_7 0 rfl rfl)
theorem dX7_next_166 : decode cX7_next 166 = .ok (.isub, 1) := dk_100 (dk_at dksX7_next_7 3 rfl rfl)
theorem dX7_next_167 : decode cX7_next 167 = .ok (.iconst 4, 1) := dk_7 (dk_at dksX7_next_7 4 rfl rfl)
theorem dX7_next_168 : decode cX7_next 168 = .ok (.if_icmp .ge 30, 3) := dk_162 0 30 (dk_at dksX7_next_7 5 rfl rfl)
theorem dX7_next_171 : decode cX7_next 171 = .ok (.aload_n 0, 1) := dk_42 (dk_at dksX7_next_7 8 rfl rfl)
theorem dX7_next_172 : decode cX7_next 172 = .ok (.bipush 10, 2) := dk_16 10 (dk_at dksX7_next_7 9 rfl rfl)
theorem dX7_next_174 : decode cX7_next 174 = .ok (.aload_n 0, 1) := dk_42 (dk_at dksX7_next_7 11 rfl rfl)
theorem dX7_next_175 : decode cX7_next 175 = .ok (.getfield 42, 3) := dk_180 0 42 (dk_at dksX7_next_7 12 rfl rfl)
theorem dX7_next_178 : decode cX7_next 178 = .ok (.imul, 1) := dk_104 (dk_at dksX7_next_7 15 rfl rfl)
theorem dX7_next_179 : decode cX7_next 179 = .ok (.aload_n 0, 1) := dk_42 (dk_at dksX7_next_7 16 rfl rfl)
theorem dX7_next_180 : decode cX7_next 180 = .ok (.getfield 3, 3) := dk_180 0 3 (dk_at dksX7_next_7 17 rfl rfl)
theorem dX7_next_183 : decode cX7_next 183 = .ok (.getfield 22, 3) := dk_180 0 22 (dk_at dksX7_next_7 20 rfl rfl)
theorem dX7_next_186 : decode cX7_next 186 = .ok (.aload_n 0, 1) := dk_42 (dk_at dksX7_next_7 23 rfl rfl)
theorem dX7_next_187 : decode cX7_next 187 = .ok (.getfield 26, 3) := dk_180 0 26 (dk_at dksX7_next_8 0 rfl rfl)
theorem dX7_next_190 : decode cX7_next 190 = .ok (.baload, 1) := dk_51 (dk_at dksX7_next_8 3 rfl rfl)
theorem dX7_next_191 : decode cX7_next 191 = .ok (.iadd, 1) := dk_96 (dk_at dksX7_next_8 4 rfl rfl)
theorem dX7_next_192 : decode cX7_next 192 = .ok (.bipush 48, 2) := dk_16 48 (dk_at dksX7_next_8 5 rfl rfl)
theorem dX7_next_194 : decode cX7_next 194 = .ok (.isub, 1) := dk_100 (dk_at dksX7_next_8 7 rfl rfl)
theorem dX7_next_195 : decode cX7_next 195 = .ok (.putfield 42, 3) := dk_181 0 42 (dk_at dksX7_next_8 8 rfl rfl)
theorem dX7_next_198 : decode cX7_next 198 = .ok (.aload_n 0, 1) := dk_42 (dk_at dksX7_next_8 11 rfl rfl)
theorem dX7_next_199 : decode cX7_next 199 = .ok (.dup, 1) := dk_89 (dk_at dksX7_next_8 12 rfl rfl)
theorem dX7_next_200 : decode cX7_next 200 = .ok (.getfield 26, 3) := dk_180 0 26 (dk_at dksX7_next_8 13 rfl rfl)
theorem dX7_next_203 : decode cX7_next 203 = .ok (.iconst 1, 1) := dk_4 (dk_at dksX7_next_8 16 rfl rfl)
theorem dX7_next_204 : decode cX7_next 204 = .ok (.iadd, 1) := dk_96 (dk_at dksX7_next_8 17 rfl rfl)
theorem dX7_next_205 : decode cX7_next 205 = .ok (.putfield 26, 3) := dk_181 0 26 (dk_at dksX7_next_8 18 rfl rfl)
theorem dX7_next_208 : decode cX7_next 208 = .ok (.goto (-61), 3) := dk_167 255 195 (dk_at dksX7_next_8 21 rfl rfl)
theorem dX7_next_211 : decode cX7_next 211 = .ok (.aload_n 0, 1) := dk_42 (dk_at dksX7_next_9 0 rfl rfl)
theorem dX7_next_212 : decode cX7_next 212 = .ok (.aload_n 0, 1) := dk_42 (dk_at dksX7_next_9 1 rfl rfl)
theorem dX7_next_213 : decode cX7_next 213 = .ok (.getfield 26, 3) := dk_180 0 26 (dk_at dksX7_next_9 2 rfl rfl)
theorem dX7_next_216 : decode cX7_next 216 = .ok (.aload_n 0, 1) := dk_42 (dk_at dksX7_next_9 5 rfl rfl)
theorem dX7_next_217 : decode cX7_next 217 = .ok (.getfield 29, 3) := dk_180 0 29 (dk_at dksX7_next_9 6 rfl rfl)
theorem dX7_next_220 : decode cX7_next 220 = .ok (.isub, 1) := dk_100 (dk_at dksX7_next_9 9 rfl rfl)
theorem dX7_next_221 : decode cX7_next 221 = .ok (.iconst 4, 1) := dk_7 (dk_at dksX7_next_9 10 rfl rfl)
theorem dX7_next_222 : decode cX7_next 222 = .ok (.if_icmp .le 7, 3) := dk_164 0 7 (dk_at dksX7_next_9 11 rfl rfl)
theorem dX7_next_225 : decode cX7_next 225 = .ok (.iconst 4, 1) := dk_7 (dk_at dksX7_next_9 14 rfl rfl)
theorem dX7_next_226 : decode cX7_next 226 = .ok (.goto 4, 3) := dk_167 0 4 (dk_at dksX7_next_9 15 rfl rfl)
theorem dX7_next_229 : decode cX7_next 229 = .ok (.iconst 2, 1) := dk_5 (dk_at dksX7_next_9 18 rfl rfl)
theorem dX7_next_230 : decode cX7_next 230 = .ok (.putfield 32, 3) := dk_181 0 32 (dk_at dksX7_next_9 19 rfl rfl)
theorem dX7_next_233 : decode cX7_next 233 = .ok (.goto 90, 3) := dk_167 0 90 (dk_at dksX7_next_10 0 rfl rfl)
theorem dX7_next_236 : decode cX7_next 236 = .ok (.aload_n 0, 1) := dk_42 (dk_at dksX7_next_10 3 rfl rfl)
theorem dX7_next_237 : decode cX7_next 237 = .ok (.aload_n 0, 1) := dk_42 (dk_at dksX7_next_10 4 rfl rfl)
theorem dX7_next_238 : decode cX7_next 238 = .ok (.getfield 29, 3) := dk_180 0 29 (dk_at dksX7_next_10 5 rfl rfl)
theorem dX7_next_241 : decode cX7_next 241 = .ok (.iconst 1, 1) := dk_4 (dk_at dksX7_next_10 8 rfl rfl)
theorem dX7_next_242 : decode cX7_next 242 = .ok (.iadd, 1) := dk_96 (dk_at dksX7_next_10 9 rfl rfl)
theorem dX7_next_243 : decode cX7_next 243 = .ok (.putfield 26, 3) := dk_181 0 26 (dk_at dksX7_next_10 10 rfl rfl)
theorem dX7_next_246 : decode cX7_next 246 = .ok (.aload_n 0, 1) := dk_42 (dk_at dksX7_next_10 13 rfl rfl)
theorem dX7_next_247 : decode cX7_next 247 = .ok (.aload_n 0, 1) := dk_42 (dk_at dksX7_next_10 14 rfl rfl)
theorem dX7_next_248 : decode cX7_next 248 = .ok (.getfield 3, 3) := dk_180 0 3 (dk_at dksX7_next_10 15 rfl rfl)
theorem dX7_next_251 : decode cX7_next 251 = .ok (.getfield 22, 3) := dk_180 0 22 (dk_at dksX7_next_10 18 rfl rfl)
theorem dX7_next_254 : decode cX7_next 254 = .ok (.aload_n 0, 1) := dk_42 (dk_at dksX7_next_10 21 rfl rfl)
theorem dX7_next_255 : decode cX7_next 255 = .ok (.getfield 29, 3) := dk_180 0 29 (dk_at dksX7_next_11 0 rfl rfl)
theorem dX7_next_258 : decode cX7_next 258 = .ok (.baload, 1) := dk_51 (dk_at dksX7_next_11 3 rfl rfl)
theorem dX7_next_259 : decode cX7_next 259 = .ok (.bipush 59, 2) := dk_16 59 (dk_at dksX7_next_11 4 rfl rfl)
theorem dX7_next_261 : decode cX7_next 261 = .ok (.if_icmp .eq 54, 3) := dk_159 0 54 (dk_at dksX7_next_11 6 rfl rfl)
theorem dX7_next_264 : decode cX7_next 264 = .ok (.aload_n 0, 1) := dk_42 (dk_at dksX7_next_11 9 rfl rfl)
theorem dX7_next_265 : decode cX7_next 265 = .ok (.getfield 3, 3) := dk_180 0 3 (dk_at dksX7_next_11 10 rfl rfl)
theorem dX7_next_268 : decode cX7_next 268 = .ok (.getfield 22, 3) := dk_180 0 22 (dk_at dksX7_next_11 13 rfl rfl)
theorem dX7_next_271 : decode cX7_next 271 = .ok (.aload_n 0, 1) := dk_42 (dk_at dksX7_next_11 16 rfl rfl)
theorem dX7_next_272 : decode cX7_next 272 = .ok (.getfield 29, 3) := dk_180 0 29 (dk_at dksX7_next_11 17 rfl rfl)
theorem dX7_next_275 : decode cX7_next 275 = .ok (.baload, 1) := dk_51 (dk_at dksX7_next_11 20 rfl rfl)
theorem dX7_next_276 : decode cX7_next 276 = .ok (.bipush 60, 2) := dk_16 60 (dk_at dksX7_next_11 21 rfl rfl)
theorem dX7_next_278 : decode cX7_next 278 = .ok (.if_icmp .eq 37, 3) := dk_159 0 37 (dk_at dksX7_next_12 0 rfl rfl)
theorem dX7_next_281 : decode cX7_next 281 = .ok (.aload_n 0, 1) := dk_42 (dk_at dksX7_next_12 3 rfl rfl)
theorem dX7_next_282 : decode cX7_next 282 = .ok (.getfield 3, 3) := dk_180 0 3 (dk_at dksX7_next_12 4 rfl rfl)
theorem dX7_next_285 : decode cX7_next 285 = .ok (.getfield 22, 3) := dk_180 0 22 (dk_at dksX7_next_12 7 rfl rfl)
theorem dX7_next_288 : decode cX7_next 288 = .ok (.aload_n 0, 1) := dk_42 (dk_at dksX7_next_12 10 rfl rfl)
theorem dX7_next_289 : decode cX7_next 289 = .ok (.getfield 29, 3) := dk_180 0 29 (dk_at dksX7_next_12 11 rfl rfl)
theorem dX7_next_292 : decode cX7_next 292 = .ok (.baload, 1) := dk_51 (dk_at dksX7_next_12 14 rfl rfl)
theorem dX7_next_293 : decode cX7_next 293 = .ok (.bipush 62, 2) := dk_16 62 (dk_at dksX7_next_12 15 rfl rfl)
theorem dX7_next_295 : decode cX7_next 295 = .ok (.if_icmp .eq 20, 3) := dk_159 0 20 (dk_at dksX7_next_12 17 rfl rfl)
theorem dX7_next_298 : decode cX7_next 298 = .ok (.aload_n 0, 1) := dk_42 (dk_at dksX7_next_12 20 rfl rfl)
theorem dX7_next_299 : decode cX7_next 299 = .ok (.getfield 3, 3) := dk_180 0 3 (dk_at dksX7_next_12 21 rfl rfl)
theorem dX7_next_302 : decode cX7_next 302 = .ok (.getfield 22, 3) := dk_180 0 22 (dk_at dksX7_next_13 0 rfl rfl)
theorem dX7_next_305 : decode cX7_next 305 = .ok (.aload_n 0, 1) := dk_42 (dk_at dksX7_next_13 3 rfl rfl)
theorem dX7_next_306 : decode cX7_next 306 = .ok (.getfield 29, 3) := dk_180 0 29 (dk_at dksX7_next_13 4 rfl rfl)
theorem dX7_next_309 : decode cX7_next 309 = .ok (.baload, 1) := dk_51 (dk_at dksX7_next_13 7 rfl rfl)
theorem dX7_next_310 : decode cX7_next 310 = .ok (.bipush 61, 2) := dk_16 61 (dk_at dksX7_next_13 8 rfl rfl)
theorem dX7_next_312 : decode cX7_next 312 = .ok (.if_icmp .ne 7, 3) := dk_160 0 7 (dk_at dksX7_next_13 10 rfl rfl)
theorem dX7_next_315 : decode cX7_next 315 = .ok (.iconst 3, 1) := dk_6 (dk_at dksX7_next_13 13 rfl rfl)
theorem dX7_next_316 : decode cX7_next 316 = .ok (.goto 4, 3) := dk_167 0 4 (dk_at dksX7_next_13 14 rfl rfl)
theorem dX7_next_319 : decode cX7_next 319 = .ok (.iconst 4, 1) := dk_7 (dk_at dksX7_next_13 17 rfl rfl)
theorem dX7_next_320 : decode cX7_next 320 = .ok (.putfield 32, 3) := dk_181 0 32 (dk_at dksX7_next_13 18 rfl rfl)
theorem dX7_next_323 : decode cX7_next 323 = .ok (.return_, 1) := dk_177 (dk_at dksX7_next_13 21 rfl rfl)
abbrev cX7_isLetter : ByteArray := prog_9_method_2_code
def yX7_isLetter : MethodName := ⟨RX7, "isLetter", "(I)Z"⟩
def dkwX7_isLetter_1 : List UInt8 := [180, 0, 3, 180, 0, 22, 27, 51, 16, 122, 163, 0, 7, 4, 167, 0, 4, 3, 172]
abbrev dktX7_isLetter_1 : List UInt8 := dkwX7_isLetter_1 ++ []
def dkwX7_isLetter_0 : List UInt8 := [27, 42, 180, 0, 15, 162, 0, 35, 42, 180, 0, 3, 180, 0, 22, 27, 51, 16, 97, 161, 0, 21, 42]
abbrev dktX7_isLetter_0 : List UInt8 := dkwX7_isLetter_0 ++ dktX7_isLetter_1
theorem dksX7_isLetter_0 : cX7_isLetter.data.toList.drop 0 = dktX7_isLetter_0 := by decide +kernel
theorem dksX7_isLetter_1 : cX7_isLetter.data.toList.drop 23 = dktX7_isLetter_1 := dk_seg dksX7_isLetter_0 23 rfl rfl
theorem dX7_isLetter_0 : decode cX7_isLetter 0 = .ok (.iload_n 1, 1) := dk_27 (dk_at dksX7_isLetter_0 0 rfl rfl)
theorem dX7_isLetter_1 : decode cX7_isLetter 1 = .ok (.aload_n 0, 1) := dk_42 (dk_at dksX7_isLetter_0 1 rfl rfl)
theorem dX7_isLetter_2 : decode cX7_isLetter 2 = .ok (.getfield 15, 3) := dk_180 0 15 (dk_at dksX7_isLetter_0 2 rfl rfl)
theorem dX7_isLetter_5 : decode cX7_isLetter 5 = .ok (.if_icmp .ge 35, 3) := dk_162 0 35 (dk_at dksX7_isLetter_0 5 rfl rfl)
theorem dX7_isLetter_8 : decode cX7_isLetter 8 = .ok (.aload_n 0, 1) := dk_42 (dk_at dksX7_isLetter_0 8 rfl rfl)
theorem dX7_isLetter_9 : decode cX7_isLetter 9 = .ok (.getfield 3, 3) := dk_180 0 3 (dk_at dksX7_isLetter_0 9 rfl rfl)
theorem dX7_isLetter_12 : decode cX7_isLetter 12 = .ok (.getfield 22, 3) := dk_180 0 22 (dk_at dksX7_isLetter_0 12 rfl rfl)
theorem dX7_isLetter_15 : decode cX7_isLetter 15 = .ok (.iload_n 1, 1) := dk_27 (dk_at dksX7_isLetter_0 15 rfl rfl)
theorem dX7_isLetter_16 : decode cX7_isLetter 16 = .ok (.baload, 1) := dk_51 (dk_at dksX7_isLetter_0 16 rfl rfl)
theorem dX7_isLetter_17 : decode cX7_isLetter 17 = .ok (.bipush 97, 2) := dk_16 97 (dk_at dksX7_isLetter_0 17 rfl rfl)
theorem dX7_isLetter_19 : decode cX7_isLetter 19 = .ok (.if_icmp .lt 21, 3) := dk_161 0 21 (dk_at dksX7_isLetter_0 19 rfl rfl)
theorem dX7_isLetter_22 : decode cX7_isLetter 22 = .ok (.aload_n 0, 1) := dk_42 (dk_at dksX7_isLetter_0 22 rfl rfl)
theorem dX7_isLetter_23 : decode cX7_isLetter 23 = .ok (.getfield 3, 3) := dk_180 0 3 (dk_at dksX7_isLetter_1 0 rfl rfl)
theorem dX7_isLetter_26 : decode cX7_isLetter 26 = .ok (.getfield 22, 3) := dk_180 0 22 (dk_at dksX7_isLetter_1 3 rfl rfl)
theorem dX7_isLetter_29 : decode cX7_isLetter 29 = .ok (.iload_n 1, 1) := dk_27 (dk_at dksX7_isLetter_1 6 rfl rfl)
theorem dX7_isLetter_30 : decode cX7_isLetter 30 = .ok (.baload, 1) := dk_51 (dk_at dksX7_isLetter_1 7 rfl rfl)
theorem dX7_isLetter_31 : decode cX7_isLetter 31 = .ok (.bipush 122, 2) := dk_16 122 (dk_at dksX7_isLetter_1 8 rfl rfl)
theorem dX7_isLetter_33 : decode cX7_isLetter 33 = .ok (.if_icmp .gt 7, 3) := dk_163 0 7 (dk_at dksX7_isLetter_1 10 rfl rfl)
theorem dX7_isLetter_36 : decode cX7_isLetter 36 = .ok (.iconst 1, 1) := dk_4 (dk_at dksX7_isLetter_1 13 rfl rfl)
theorem dX7_isLetter_37 : decode cX7_isLetter 37 = .ok (.goto 4, 3) := dk_167 0 4 (dk_at dksX7_isLetter_1 14 rfl rfl)
theorem dX7_isLetter_40 : decode cX7_isLetter 40 = .ok (.iconst 0, 1) := dk_3 (dk_at dksX7_isLetter_1 17 rfl rfl)
theorem dX7_isLetter_41 : decode cX7_isLetter 41 = .ok (.ireturn, 1) := dk_172 (dk_at dksX7_isLetter_1 18 rfl rfl)
abbrev cX7_isDigit : ByteArray := prog_9_method_3_code
def yX7_isDigit : MethodName := ⟨RX7, "isDigit", "(I)Z"⟩
def dkwX7_isDigit_1 : List UInt8 := [180, 0, 3, 180, 0, 22, 27, 51, 16, 57, 163, 0, 7, 4, 167, 0, 4, 3, 172]
abbrev dktX7_isDigit_1 : List UInt8 := dkwX7_isDigit_1 ++ []
def dkwX7_isDigit_0 : List UInt8 := [27, 42, 180, 0, 15, 162, 0, 35, 42, 180, 0, 3, 180, 0, 22, 27, 51, 16, 48, 161, 0, 21, 42]
abbrev dktX7_isDigit_0 : List UInt8 := dkwX7_isDigit_0 ++ dktX7_isDigit_1
theorem dksX7_isDigit_0 : cX7_isDigit.data.toList.drop 0 = dktX7_isDigit_0 := by decide +kernel
theorem dksX7_isDigit_1 : cX7_isDigit.data.toList.drop 23 = dktX7_isDigit_1 := dk_seg dksX7_isDigit_0 23 rfl rfl
theorem dX7_isDigit_0 : decode cX7_isDigit 0 = .ok (.iload_n 1, 1) := dk_27 (dk_at dksX7_isDigit_0 0 rfl rfl)
theorem dX7_isDigit_1 : decode cX7_isDigit 1 = .ok (.aload_n 0, 1) := dk_42 (dk_at dksX7_isDigit_0 1 rfl rfl)
theorem dX7_isDigit_2 : decode cX7_isDigit 2 = .ok (.getfield 15, 3) := dk_180 0 15 (dk_at dksX7_isDigit_0 2 rfl rfl)
theorem dX7_isDigit_5 : decode cX7_isDigit 5 = .ok (.if_icmp .ge 35, 3) := dk_162 0 35 (dk_at dksX7_isDigit_0 5 rfl rfl)
theorem dX7_isDigit_8 : decode cX7_isDigit 8 = .ok (.aload_n 0, 1) := dk_42 (dk_at dksX7_isDigit_0 8 rfl rfl)
theorem dX7_isDigit_9 : decode cX7_isDigit 9 = .ok (.getfield 3, 3) := dk_180 0 3 (dk_at dksX7_isDigit_0 9 rfl rfl)
theorem dX7_isDigit_12 : decode cX7_isDigit 12 = .ok (.getfield 22, 3) := dk_180 0 22 (dk_at dksX7_isDigit_0 12 rfl rfl)
theorem dX7_isDigit_15 : decode cX7_isDigit 15 = .ok (.iload_n 1, 1) := dk_27 (dk_at dksX7_isDigit_0 15 rfl rfl)
theorem dX7_isDigit_16 : decode cX7_isDigit 16 = .ok (.baload, 1) := dk_51 (dk_at dksX7_isDigit_0 16 rfl rfl)
theorem dX7_isDigit_17 : decode cX7_isDigit 17 = .ok (.bipush 48, 2) := dk_16 48 (dk_at dksX7_isDigit_0 17 rfl rfl)
theorem dX7_isDigit_19 : decode cX7_isDigit 19 = .ok (.if_icmp .lt 21, 3) := dk_161 0 21 (dk_at dksX7_isDigit_0 19 rfl rfl)
theorem dX7_isDigit_22 : decode cX7_isDigit 22 = .ok (.aload_n 0, 1) := dk_42 (dk_at dksX7_isDigit_0 22 rfl rfl)
theorem dX7_isDigit_23 : decode cX7_isDigit 23 = .ok (.getfield 3, 3) := dk_180 0 3 (dk_at dksX7_isDigit_1 0 rfl rfl)
theorem dX7_isDigit_26 : decode cX7_isDigit 26 = .ok (.getfield 22, 3) := dk_180 0 22 (dk_at dksX7_isDigit_1 3 rfl rfl)
theorem dX7_isDigit_29 : decode cX7_isDigit 29 = .ok (.iload_n 1, 1) := dk_27 (dk_at dksX7_isDigit_1 6 rfl rfl)
theorem dX7_isDigit_30 : decode cX7_isDigit 30 = .ok (.baload, 1) := dk_51 (dk_at dksX7_isDigit_1 7 rfl rfl)
theorem dX7_isDigit_31 : decode cX7_isDigit 31 = .ok (.bipush 57, 2) := dk_16 57 (dk_at dksX7_isDigit_1 8 rfl rfl)
theorem dX7_isDigit_33 : decode cX7_isDigit 33 = .ok (.if_icmp .gt 7, 3) := dk_163 0 7 (dk_at dksX7_isDigit_1 10 rfl rfl)
theorem dX7_isDigit_36 : decode cX7_isDigit 36 = .ok (.iconst 1, 1) := dk_4 (dk_at dksX7_isDigit_1 13 rfl rfl)
theorem dX7_isDigit_37 : decode cX7_isDigit 37 = .ok (.goto 4, 3) := dk_167 0 4 (dk_at dksX7_isDigit_1 14 rfl rfl)
theorem dX7_isDigit_40 : decode cX7_isDigit 40 = .ok (.iconst 0, 1) := dk_3 (dk_at dksX7_isDigit_1 17 rfl rfl)
theorem dX7_isDigit_41 : decode cX7_isDigit 41 = .ok (.ireturn, 1) := dk_172 (dk_at dksX7_isDigit_1 18 rfl rfl)
abbrev cX7_table : ByteArray := prog_9_method_21_code
def yX7_table : MethodName := ⟨RX7, "table", "(LLetMe$Table;)V"⟩
def dkwX7_table_5 : List UInt8 := [182, 0, 68, 191, 42, 182, 0, 188, 167, 255, 132, 43, 4, 43, 180, 0, 191, 120, 4, 100, 181, 0, 194, 177]
abbrev dktX7_table_5 : List UInt8 := dkwX7_table_5 ++ []
def dkwX7_table_4 : List UInt8 := [167, 0, 28, 42, 18, 125, 182, 0, 72, 153, 0, 14, 43, 42, 182, 0, 184, 181, 0, 186, 167, 0, 8, 42]
abbrev dktX7_table_4 : List UInt8 := dkwX7_table_4 ++ dktX7_table_5
def dkwX7_table_3 : List UInt8 := [182, 0, 178, 167, 0, 48, 42, 18, 123, 182, 0, 72, 153, 0, 14, 43, 42, 182, 0, 180, 181, 0, 182]
abbrev dktX7_table_3 : List UInt8 := dkwX7_table_3 ++ dktX7_table_4
def dkwX7_table_2 : List UInt8 := [153, 0, 11, 42, 43, 182, 0, 176, 167, 0, 65, 42, 18, 93, 182, 0, 72, 153, 0, 11, 42, 43]
abbrev dktX7_table_2 : List UInt8 := dkwX7_table_2 ++ dktX7_table_3
def dkwX7_table_1 : List UInt8 := [42, 18, 117, 182, 0, 72, 153, 0, 11, 42, 43, 182, 0, 174, 167, 0, 82, 42, 18, 119, 182, 0, 72]
abbrev dktX7_table_1 : List UInt8 := dkwX7_table_1 ++ dktX7_table_2
def dkwX7_table_0 : List UInt8 := [42, 180, 0, 32, 153, 0, 123, 42, 18, 109, 182, 0, 72, 153, 0, 11, 42, 43, 182, 0, 171, 167, 0, 99]
abbrev dktX7_table_0 : List UInt8 := dkwX7_table_0 ++ dktX7_table_1
theorem dksX7_table_0 : cX7_table.data.toList.drop 0 = dktX7_table_0 := by decide +kernel
theorem dksX7_table_1 : cX7_table.data.toList.drop 24 = dktX7_table_1 := dk_seg dksX7_table_0 24 rfl rfl
theorem dksX7_table_2 : cX7_table.data.toList.drop 47 = dktX7_table_2 := dk_seg dksX7_table_1 23 rfl rfl
theorem dksX7_table_3 : cX7_table.data.toList.drop 69 = dktX7_table_3 := dk_seg dksX7_table_2 22 rfl rfl
theorem dksX7_table_4 : cX7_table.data.toList.drop 92 = dktX7_table_4 := dk_seg dksX7_table_3 23 rfl rfl
theorem dksX7_table_5 : cX7_table.data.toList.drop 116 = dktX7_table_5 := dk_seg dksX7_table_4 24 rfl rfl
theorem dX7_table_0 : decode cX7_table 0 = .ok (.aload_n 0, 1) := dk_42 (dk_at dksX7_table_0 0 rfl rfl)
theorem dX7_table_1 : decode cX7_table 1 = .ok (.getfield 32, 3) := dk_180 0 32 (dk_at dksX7_table_0 1 rfl rfl)
theorem dX7_table_4 : decode cX7_table 4 = .ok (.ifCond .eq 123, 3) := dk_153 0 123 (dk_at dksX7_table_0 4 rfl rfl)
theorem dX7_table_7 : decode cX7_table 7 = .ok (.aload_n 0, 1) := dk_42 (dk_at dksX7_table_0 7 rfl rfl)
theorem dX7_table_8 : decode cX7_table 8 = .ok (.ldc 109, 2) := dk_18 109 (dk_at dksX7_table_0 8 rfl rfl)
theorem dX7_table_10 : decode cX7_table 10 = .ok (.invokevirtual 72, 3) := dk_182 0 72 (dk_at dksX7_table_0 10 rfl rfl)
theorem dX7_table_13 : decode cX7_table 13 = .ok (.ifCond .eq 11, 3) := dk_153 0 11 (dk_at dksX7_table_0 13 rfl rfl)
theorem dX7_table_16 : decode cX7_table 16 = .ok (.aload_n 0, 1) := dk_42 (dk_at dksX7_table_0 16 rfl rfl)
theorem dX7_table_17 : decode cX7_table 17 = .ok (.aload_n 1, 1) := dk_43 (dk_at dksX7_table_0 17 rfl rfl)
theorem dX7_table_18 : decode cX7_table 18 = .ok (.invokevirtual 171, 3) := dk_182 0 171 (dk_at dksX7_table_0 18 rfl rfl)
theorem dX7_table_21 : decode cX7_table 21 = .ok (.goto 99, 3) := dk_167 0 99 (dk_at dksX7_table_0 21 rfl rfl)
theorem dX7_table_24 : decode cX7_table 24 = .ok (.aload_n 0, 1) := dk_42 (dk_at dksX7_table_1 0 rfl rfl)
theorem dX7_table_25 : decode cX7_table 25 = .ok (.ldc 117, 2) := dk_18 117 (dk_at dksX7_table_1 1 rfl rfl)
theorem dX7_table_27 : decode cX7_table 27 = .ok (.invokevirtual 72, 3) := dk_182 0 72 (dk_at dksX7_table_1 3 rfl rfl)
theorem dX7_table_30 : decode cX7_table 30 = .ok (.ifCond .eq 11, 3) := dk_153 0 11 (dk_at dksX7_table_1 6 rfl rfl)
theorem dX7_table_33 : decode cX7_table 33 = .ok (.aload_n 0, 1) := dk_42 (dk_at dksX7_table_1 9 rfl rfl)
theorem dX7_table_34 : decode cX7_table 34 = .ok (.aload_n 1, 1) := dk_43 (dk_at dksX7_table_1 10 rfl rfl)
theorem dX7_table_35 : decode cX7_table 35 = .ok (.invokevirtual 174, 3) := dk_182 0 174 (dk_at dksX7_table_1 11 rfl rfl)
theorem dX7_table_38 : decode cX7_table 38 = .ok (.goto 82, 3) := dk_167 0 82 (dk_at dksX7_table_1 14 rfl rfl)
theorem dX7_table_41 : decode cX7_table 41 = .ok (.aload_n 0, 1) := dk_42 (dk_at dksX7_table_1 17 rfl rfl)
theorem dX7_table_42 : decode cX7_table 42 = .ok (.ldc 119, 2) := dk_18 119 (dk_at dksX7_table_1 18 rfl rfl)
theorem dX7_table_44 : decode cX7_table 44 = .ok (.invokevirtual 72, 3) := dk_182 0 72 (dk_at dksX7_table_1 20 rfl rfl)
theorem dX7_table_47 : decode cX7_table 47 = .ok (.ifCond .eq 11, 3) := dk_153 0 11 (dk_at dksX7_table_2 0 rfl rfl)
theorem dX7_table_50 : decode cX7_table 50 = .ok (.aload_n 0, 1) := dk_42 (dk_at dksX7_table_2 3 rfl rfl)
theorem dX7_table_51 : decode cX7_table 51 = .ok (.aload_n 1, 1) := dk_43 (dk_at dksX7_table_2 4 rfl rfl)
theorem dX7_table_52 : decode cX7_table 52 = .ok (.invokevirtual 176, 3) := dk_182 0 176 (dk_at dksX7_table_2 5 rfl rfl)
theorem dX7_table_55 : decode cX7_table 55 = .ok (.goto 65, 3) := dk_167 0 65 (dk_at dksX7_table_2 8 rfl rfl)
theorem dX7_table_58 : decode cX7_table 58 = .ok (.aload_n 0, 1) := dk_42 (dk_at dksX7_table_2 11 rfl rfl)
theorem dX7_table_59 : decode cX7_table 59 = .ok (.ldc 93, 2) := dk_18 93 (dk_at dksX7_table_2 12 rfl rfl)
theorem dX7_table_61 : decode cX7_table 61 = .ok (.invokevirtual 72, 3) := dk_182 0 72 (dk_at dksX7_table_2 14 rfl rfl)
theorem dX7_table_64 : decode cX7_table 64 = .ok (.ifCond .eq 11, 3) := dk_153 0 11 (dk_at dksX7_table_2 17 rfl rfl)
theorem dX7_table_67 : decode cX7_table 67 = .ok (.aload_n 0, 1) := dk_42 (dk_at dksX7_table_2 20 rfl rfl)
theorem dX7_table_68 : decode cX7_table 68 = .ok (.aload_n 1, 1) := dk_43 (dk_at dksX7_table_2 21 rfl rfl)
theorem dX7_table_69 : decode cX7_table 69 = .ok (.invokevirtual 178, 3) := dk_182 0 178 (dk_at dksX7_table_3 0 rfl rfl)
theorem dX7_table_72 : decode cX7_table 72 = .ok (.goto 48, 3) := dk_167 0 48 (dk_at dksX7_table_3 3 rfl rfl)
theorem dX7_table_75 : decode cX7_table 75 = .ok (.aload_n 0, 1) := dk_42 (dk_at dksX7_table_3 6 rfl rfl)
theorem dX7_table_76 : decode cX7_table 76 = .ok (.ldc 123, 2) := dk_18 123 (dk_at dksX7_table_3 7 rfl rfl)
theorem dX7_table_78 : decode cX7_table 78 = .ok (.invokevirtual 72, 3) := dk_182 0 72 (dk_at dksX7_table_3 9 rfl rfl)
theorem dX7_table_81 : decode cX7_table 81 = .ok (.ifCond .eq 14, 3) := dk_153 0 14 (dk_at dksX7_table_3 12 rfl rfl)
theorem dX7_table_84 : decode cX7_table 84 = .ok (.aload_n 1, 1) := dk_43 (dk_at dksX7_table_3 15 rfl rfl)
theorem dX7_table_85 : decode cX7_table 85 = .ok (.aload_n 0, 1) := dk_42 (dk_at dksX7_table_3 16 rfl rfl)
theorem dX7_table_86 : decode cX7_table 86 = .ok (.invokevirtual 180, 3) := dk_182 0 180 (dk_at dksX7_table_3 17 rfl rfl)
theorem dX7_table_89 : decode cX7_table 89 = .ok (.putfield 182, 3) := dk_181 0 182 (dk_at dksX7_table_3 20 rfl rfl)
theorem dX7_table_92 : decode cX7_table 92 = .ok (.goto 28, 3) := dk_167 0 28 (dk_at dksX7_table_4 0 rfl rfl)
theorem dX7_table_95 : decode cX7_table 95 = .ok (.aload_n 0, 1) := dk_42 (dk_at dksX7_table_4 3 rfl rfl)
theorem dX7_table_96 : decode cX7_table 96 = .ok (.ldc 125, 2) := dk_18 125 (dk_at dksX7_table_4 4 rfl rfl)
theorem dX7_table_98 : decode cX7_table 98 = .ok (.invokevirtual 72, 3) := dk_182 0 72 (dk_at dksX7_table_4 6 rfl rfl)
theorem dX7_table_101 : decode cX7_table 101 = .ok (.ifCond .eq 14, 3) := dk_153 0 14 (dk_at dksX7_table_4 9 rfl rfl)
theorem dX7_table_104 : decode cX7_table 104 = .ok (.aload_n 1, 1) := dk_43 (dk_at dksX7_table_4 12 rfl rfl)
theorem dX7_table_105 : decode cX7_table 105 = .ok (.aload_n 0, 1) := dk_42 (dk_at dksX7_table_4 13 rfl rfl)
theorem dX7_table_106 : decode cX7_table 106 = .ok (.invokevirtual 184, 3) := dk_182 0 184 (dk_at dksX7_table_4 14 rfl rfl)
theorem dX7_table_109 : decode cX7_table 109 = .ok (.putfield 186, 3) := dk_181 0 186 (dk_at dksX7_table_4 17 rfl rfl)
theorem dX7_table_112 : decode cX7_table 112 = .ok (.goto 8, 3) := dk_167 0 8 (dk_at dksX7_table_4 20 rfl rfl)
theorem dX7_table_115 : decode cX7_table 115 = .ok (.aload_n 0, 1) := dk_42 (dk_at dksX7_table_4 23 rfl rfl)
theorem dX7_table_116 : decode cX7_table 116 = .ok (.invokevirtual 68, 3) := dk_182 0 68 (dk_at dksX7_table_5 0 rfl rfl)
theorem dX7_table_119 : decode cX7_table 119 = .ok (.athrow, 1) := dk_191 (dk_at dksX7_table_5 3 rfl rfl)
theorem dX7_table_120 : decode cX7_table 120 = .ok (.aload_n 0, 1) := dk_42 (dk_at dksX7_table_5 4 rfl rfl)
theorem dX7_table_121 : decode cX7_table 121 = .ok (.invokevirtual 188, 3) := dk_182 0 188 (dk_at dksX7_table_5 5 rfl rfl)
theorem dX7_table_124 : decode cX7_table 124 = .ok (.goto (-124), 3) := dk_167 255 132 (dk_at dksX7_table_5 8 rfl rfl)
theorem dX7_table_127 : decode cX7_table 127 = .ok (.aload_n 1, 1) := dk_43 (dk_at dksX7_table_5 11 rfl rfl)
theorem dX7_table_128 : decode cX7_table 128 = .ok (.iconst 1, 1) := dk_4 (dk_at dksX7_table_5 12 rfl rfl)
theorem dX7_table_129 : decode cX7_table 129 = .ok (.aload_n 1, 1) := dk_43 (dk_at dksX7_table_5 13 rfl rfl)
theorem dX7_table_130 : decode cX7_table 130 = .ok (.getfield 191, 3) := dk_180 0 191 (dk_at dksX7_table_5 14 rfl rfl)
theorem dX7_table_133 : decode cX7_table 133 = .ok (.ishl, 1) := dk_120 (dk_at dksX7_table_5 17 rfl rfl)
theorem dX7_table_134 : decode cX7_table 134 = .ok (.iconst 1, 1) := dk_4 (dk_at dksX7_table_5 18 rfl rfl)
theorem dX7_table_135 : decode cX7_table 135 = .ok (.isub, 1) := dk_100 (dk_at dksX7_table_5 19 rfl rfl)
theorem dX7_table_136 : decode cX7_table 136 = .ok (.putfield 194, 3) := dk_181 0 194 (dk_at dksX7_table_5 20 rfl rfl)
theorem dX7_table_139 : decode cX7_table 139 = .ok (.return_, 1) := dk_177 (dk_at dksX7_table_5 23 rfl rfl)
abbrev cX7_isWord : ByteArray := prog_9_method_5_code
def yX7_isWord : MethodName := ⟨RX7, "isWord", "(Ljava/lang/String;)Z"⟩
def dkwX7_isWord_2 : List UInt8 := [96, 51, 43, 28, 182, 0, 51, 159, 0, 5, 3, 172, 132, 2, 1, 167, 255, 221, 4, 172]
abbrev dktX7_isWord_2 : List UInt8 := dkwX7_isWord_2 ++ []
def dkwX7_isWord_1 : List UInt8 := [3, 172, 3, 61, 28, 43, 182, 0, 45, 162, 0, 33, 42, 180, 0, 3, 180, 0, 22, 42, 180, 0, 29, 28]
abbrev dktX7_isWord_1 : List UInt8 := dkwX7_isWord_1 ++ dktX7_isWord_2
def dkwX7_isWord_0 : List UInt8 := [42, 180, 0, 32, 4, 160, 0, 19, 42, 180, 0, 26, 42, 180, 0, 29, 100, 43, 182, 0, 45, 159, 0, 5]
abbrev dktX7_isWord_0 : List UInt8 := dkwX7_isWord_0 ++ dktX7_isWord_1
theorem dksX7_isWord_0 : cX7_isWord.data.toList.drop 0 = dktX7_isWord_0 := by decide +kernel
theorem dksX7_isWord_1 : cX7_isWord.data.toList.drop 24 = dktX7_isWord_1 := dk_seg dksX7_isWord_0 24 rfl rfl
theorem dksX7_isWord_2 : cX7_isWord.data.toList.drop 48 = dktX7_isWord_2 := dk_seg dksX7_isWord_1 24 rfl rfl
theorem dX7_isWord_0 : decode cX7_isWord 0 = .ok (.aload_n 0, 1) := dk_42 (dk_at dksX7_isWord_0 0 rfl rfl)
theorem dX7_isWord_1 : decode cX7_isWord 1 = .ok (.getfield 32, 3) := dk_180 0 32 (dk_at dksX7_isWord_0 1 rfl rfl)
theorem dX7_isWord_4 : decode cX7_isWord 4 = .ok (.iconst 1, 1) := dk_4 (dk_at dksX7_isWord_0 4 rfl rfl)
theorem dX7_isWord_5 : decode cX7_isWord 5 = .ok (.if_icmp .ne 19, 3) := dk_160 0 19 (dk_at dksX7_isWord_0 5 rfl rfl)
theorem dX7_isWord_8 : decode cX7_isWord 8 = .ok (.aload_n 0, 1) := dk_42 (dk_at dksX7_isWord_0 8 rfl rfl)
theorem dX7_isWord_9 : decode cX7_isWord 9 = .ok (.getfield 26, 3) := dk_180 0 26 (dk_at dksX7_isWord_0 9 rfl rfl)
theorem dX7_isWord_12 : decode cX7_isWord 12 = .ok (.aload_n 0, 1) := dk_42 (dk_at dksX7_isWord_0 12 rfl rfl)
theorem dX7_isWord_13 : decode cX7_isWord 13 = .ok (.getfield 29, 3) := dk_180 0 29 (dk_at dksX7_isWord_0 13 rfl rfl)
theorem dX7_isWord_16 : decode cX7_isWord 16 = .ok (.isub, 1) := dk_100 (dk_at dksX7_isWord_0 16 rfl rfl)
theorem dX7_isWord_17 : decode cX7_isWord 17 = .ok (.aload_n 1, 1) := dk_43 (dk_at dksX7_isWord_0 17 rfl rfl)
theorem dX7_isWord_18 : decode cX7_isWord 18 = .ok (.invokevirtual 45, 3) := dk_182 0 45 (dk_at dksX7_isWord_0 18 rfl rfl)
theorem dX7_isWord_21 : decode cX7_isWord 21 = .ok (.if_icmp .eq 5, 3) := dk_159 0 5 (dk_at dksX7_isWord_0 21 rfl rfl)
theorem dX7_isWord_24 : decode cX7_isWord 24 = .ok (.iconst 0, 1) := dk_3 (dk_at dksX7_isWord_1 0 rfl rfl)
theorem dX7_isWord_25 : decode cX7_isWord 25 = .ok (.ireturn, 1) := dk_172 (dk_at dksX7_isWord_1 1 rfl rfl)
theorem dX7_isWord_26 : decode cX7_isWord 26 = .ok (.iconst 0, 1) := dk_3 (dk_at dksX7_isWord_1 2 rfl rfl)
theorem dX7_isWord_27 : decode cX7_isWord 27 = .ok (.istore_n 2, 1) := dk_61 (dk_at dksX7_isWord_1 3 rfl rfl)
theorem dX7_isWord_28 : decode cX7_isWord 28 = .ok (.iload_n 2, 1) := dk_28 (dk_at dksX7_isWord_1 4 rfl rfl)
theorem dX7_isWord_29 : decode cX7_isWord 29 = .ok (.aload_n 1, 1) := dk_43 (dk_at dksX7_isWord_1 5 rfl rfl)
theorem dX7_isWord_30 : decode cX7_isWord 30 = .ok (.invokevirtual 45, 3) := dk_182 0 45 (dk_at dksX7_isWord_1 6 rfl rfl)
theorem dX7_isWord_33 : decode cX7_isWord 33 = .ok (.if_icmp .ge 33, 3) := dk_162 0 33 (dk_at dksX7_isWord_1 9 rfl rfl)
theorem dX7_isWord_36 : decode cX7_isWord 36 = .ok (.aload_n 0, 1) := dk_42 (dk_at dksX7_isWord_1 12 rfl rfl)
theorem dX7_isWord_37 : decode cX7_isWord 37 = .ok (.getfield 3, 3) := dk_180 0 3 (dk_at dksX7_isWord_1 13 rfl rfl)
theorem dX7_isWord_40 : decode cX7_isWord 40 = .ok (.getfield 22, 3) := dk_180 0 22 (dk_at dksX7_isWord_1 16 rfl rfl)
theorem dX7_isWord_43 : decode cX7_isWord 43 = .ok (.aload_n 0, 1) := dk_42 (dk_at dksX7_isWord_1 19 rfl rfl)
theorem dX7_isWord_44 : decode cX7_isWord 44 = .ok (.getfield 29, 3) := dk_180 0 29 (dk_at dksX7_isWord_1 20 rfl rfl)
theorem dX7_isWord_47 : decode cX7_isWord 47 = .ok (.iload_n 2, 1) := dk_28 (dk_at dksX7_isWord_1 23 rfl rfl)
theorem dX7_isWord_48 : decode cX7_isWord 48 = .ok (.iadd, 1) := dk_96 (dk_at dksX7_isWord_2 0 rfl rfl)
theorem dX7_isWord_49 : decode cX7_isWord 49 = .ok (.baload, 1) := dk_51 (dk_at dksX7_isWord_2 1 rfl rfl)
theorem dX7_isWord_50 : decode cX7_isWord 50 = .ok (.aload_n 1, 1) := dk_43 (dk_at dksX7_isWord_2 2 rfl rfl)
theorem dX7_isWord_51 : decode cX7_isWord 51 = .ok (.iload_n 2, 1) := dk_28 (dk_at dksX7_isWord_2 3 rfl rfl)
theorem dX7_isWord_52 : decode cX7_isWord 52 = .ok (.invokevirtual 51, 3) := dk_182 0 51 (dk_at dksX7_isWord_2 4 rfl rfl)
theorem dX7_isWord_55 : decode cX7_isWord 55 = .ok (.if_icmp .eq 5, 3) := dk_159 0 5 (dk_at dksX7_isWord_2 7 rfl rfl)
theorem dX7_isWord_58 : decode cX7_isWord 58 = .ok (.iconst 0, 1) := dk_3 (dk_at dksX7_isWord_2 10 rfl rfl)
theorem dX7_isWord_59 : decode cX7_isWord 59 = .ok (.ireturn, 1) := dk_172 (dk_at dksX7_isWord_2 11 rfl rfl)
theorem dX7_isWord_60 : decode cX7_isWord 60 = .ok (.iinc 2 1, 3) := dk_132 2 1 (dk_at dksX7_isWord_2 12 rfl rfl)
theorem dX7_isWord_63 : decode cX7_isWord 63 = .ok (.goto (-35), 3) := dk_167 255 221 (dk_at dksX7_isWord_2 15 rfl rfl)
theorem dX7_isWord_66 : decode cX7_isWord 66 = .ok (.iconst 1, 1) := dk_4 (dk_at dksX7_isWord_2 18 rfl rfl)
theorem dX7_isWord_67 : decode cX7_isWord 67 = .ok (.ireturn, 1) := dk_172 (dk_at dksX7_isWord_2 19 rfl rfl)
abbrev cX7_person : ByteArray := prog_9_method_22_code
def yX7_person : MethodName := ⟨RX7, "person", "(LLetMe$Table;)V"⟩
def dkwX7_person_7 : List UInt8 := [43, 180, 0, 191, 25, 4, 83, 43, 89, 180, 0, 191, 4, 96, 181, 0, 191, 177]
abbrev dktX7_person_7 : List UInt8 := dkwX7_person_7 ++ []
def dkwX7_person_6 : List UInt8 := [18, 115, 182, 0, 72, 181, 0, 214, 25, 4, 180, 0, 214, 153, 0, 7, 42, 182, 0, 19, 43, 180, 0, 217]
abbrev dktX7_person_6 : List UInt8 := dkwX7_person_6 ++ dktX7_person_7
def dkwX7_person_5 : List UInt8 := [181, 0, 210, 25, 4, 42, 18, 113, 3, 17, 3, 231, 17, 3, 231, 182, 0, 202, 181, 0, 212, 25, 4, 42]
abbrev dktX7_person_5 : List UInt8 := dkwX7_person_5 ++ dktX7_person_6
def dkwX7_person_4 : List UInt8 := [18, 105, 3, 16, 20, 4, 182, 0, 202, 181, 0, 208, 25, 4, 42, 18, 111, 3, 16, 99, 3, 182, 0, 202]
abbrev dktX7_person_4 : List UInt8 := dkwX7_person_4 ++ dktX7_person_5
def dkwX7_person_3 : List UInt8 := [183, 0, 199, 58, 4, 25, 4, 42, 18, 107, 3, 16, 16, 3, 182, 0, 202, 181, 0, 206, 25, 4, 42]
abbrev dktX7_person_3 : List UInt8 := dkwX7_person_3 ++ dktX7_person_4
def dkwX7_person_2 : List UInt8 := [180, 0, 3, 180, 0, 55, 6, 42, 180, 0, 29, 182, 0, 59, 191, 42, 182, 0, 19, 187, 0, 197, 89, 32]
abbrev dktX7_person_2 : List UInt8 := dkwX7_person_2 ++ dktX7_person_3
def dkwX7_person_1 : List UInt8 := [182, 0, 59, 191, 42, 182, 0, 19, 42, 182, 0, 157, 65, 43, 32, 182, 0, 161, 155, 0, 19, 42]
abbrev dktX7_person_1 : List UInt8 := dkwX7_person_1 ++ dktX7_person_2
def dkwX7_person_0 : List UInt8 := [43, 180, 0, 191, 16, 6, 160, 0, 20, 42, 180, 0, 3, 180, 0, 55, 16, 6, 42, 180, 0, 29]
abbrev dktX7_person_0 : List UInt8 := dkwX7_person_0 ++ dktX7_person_1
theorem dksX7_person_0 : cX7_person.data.toList.drop 0 = dktX7_person_0 := by decide +kernel
theorem dksX7_person_1 : cX7_person.data.toList.drop 22 = dktX7_person_1 := dk_seg dksX7_person_0 22 rfl rfl
theorem dksX7_person_2 : cX7_person.data.toList.drop 44 = dktX7_person_2 := dk_seg dksX7_person_1 22 rfl rfl
theorem dksX7_person_3 : cX7_person.data.toList.drop 68 = dktX7_person_3 := dk_seg dksX7_person_2 24 rfl rfl
theorem dksX7_person_4 : cX7_person.data.toList.drop 91 = dktX7_person_4 := dk_seg dksX7_person_3 23 rfl rfl
theorem dksX7_person_5 : cX7_person.data.toList.drop 115 = dktX7_person_5 := dk_seg dksX7_person_4 24 rfl rfl
theorem dksX7_person_6 : cX7_person.data.toList.drop 139 = dktX7_person_6 := dk_seg dksX7_person_5 24 rfl rfl
theorem dksX7_person_7 : cX7_person.data.toList.drop 163 = dktX7_person_7 := dk_seg dksX7_person_6 24 rfl rfl
theorem dX7_person_0 : decode cX7_person 0 = .ok (.aload_n 1, 1) := dk_43 (dk_at dksX7_person_0 0 rfl rfl)
theorem dX7_person_1 : decode cX7_person 1 = .ok (.getfield 191, 3) := dk_180 0 191 (dk_at dksX7_person_0 1 rfl rfl)
theorem dX7_person_4 : decode cX7_person 4 = .ok (.bipush 6, 2) := dk_16 6 (dk_at dksX7_person_0 4 rfl rfl)
theorem dX7_person_6 : decode cX7_person 6 = .ok (.if_icmp .ne 20, 3) := dk_160 0 20 (dk_at dksX7_person_0 6 rfl rfl)
theorem dX7_person_9 : decode cX7_person 9 = .ok (.aload_n 0, 1) := dk_42 (dk_at dksX7_person_0 9 rfl rfl)
theorem dX7_person_10 : decode cX7_person 10 = .ok (.getfield 3, 3) := dk_180 0 3 (dk_at dksX7_person_0 10 rfl rfl)
theorem dX7_person_13 : decode cX7_person 13 = .ok (.getfield 55, 3) := dk_180 0 55 (dk_at dksX7_person_0 13 rfl rfl)
theorem dX7_person_16 : decode cX7_person 16 = .ok (.bipush 6, 2) := dk_16 6 (dk_at dksX7_person_0 16 rfl rfl)
theorem dX7_person_18 : decode cX7_person 18 = .ok (.aload_n 0, 1) := dk_42 (dk_at dksX7_person_0 18 rfl rfl)
theorem dX7_person_19 : decode cX7_person 19 = .ok (.getfield 29, 3) := dk_180 0 29 (dk_at dksX7_person_0 19 rfl rfl)
theorem dX7_person_22 : decode cX7_person 22 = .ok (.invokevirtual 59, 3) := dk_182 0 59 (dk_at dksX7_person_1 0 rfl rfl)
theorem dX7_person_25 : decode cX7_person 25 = .ok (.athrow, 1) := dk_191 (dk_at dksX7_person_1 3 rfl rfl)
theorem dX7_person_26 : decode cX7_person 26 = .ok (.aload_n 0, 1) := dk_42 (dk_at dksX7_person_1 4 rfl rfl)
theorem dX7_person_27 : decode cX7_person 27 = .ok (.invokevirtual 19, 3) := dk_182 0 19 (dk_at dksX7_person_1 5 rfl rfl)
theorem dX7_person_30 : decode cX7_person 30 = .ok (.aload_n 0, 1) := dk_42 (dk_at dksX7_person_1 8 rfl rfl)
theorem dX7_person_31 : decode cX7_person 31 = .ok (.invokevirtual 157, 3) := dk_182 0 157 (dk_at dksX7_person_1 9 rfl rfl)
theorem dX7_person_34 : decode cX7_person 34 = .ok (.lstore_n 2, 1) := dk_65 (dk_at dksX7_person_1 12 rfl rfl)
theorem dX7_person_35 : decode cX7_person 35 = .ok (.aload_n 1, 1) := dk_43 (dk_at dksX7_person_1 13 rfl rfl)
theorem dX7_person_36 : decode cX7_person 36 = .ok (.lload_n 2, 1) := dk_32 (dk_at dksX7_person_1 14 rfl rfl)
theorem dX7_person_37 : decode cX7_person 37 = .ok (.invokevirtual 161, 3) := dk_182 0 161 (dk_at dksX7_person_1 15 rfl rfl)
theorem dX7_person_40 : decode cX7_person 40 = .ok (.ifCond .lt 19, 3) := dk_155 0 19 (dk_at dksX7_person_1 18 rfl rfl)
theorem dX7_person_43 : decode cX7_person 43 = .ok (.aload_n 0, 1) := dk_42 (dk_at dksX7_person_1 21 rfl rfl)
theorem dX7_person_44 : decode cX7_person 44 = .ok (.getfield 3, 3) := dk_180 0 3 (dk_at dksX7_person_2 0 rfl rfl)
theorem dX7_person_47 : decode cX7_person 47 = .ok (.getfield 55, 3) := dk_180 0 55 (dk_at dksX7_person_2 3 rfl rfl)
theorem dX7_person_50 : decode cX7_person 50 = .ok (.iconst 3, 1) := dk_6 (dk_at dksX7_person_2 6 rfl rfl)
theorem dX7_person_51 : decode cX7_person 51 = .ok (.aload_n 0, 1) := dk_42 (dk_at dksX7_person_2 7 rfl rfl)
theorem dX7_person_52 : decode cX7_person 52 = .ok (.getfield 29, 3) := dk_180 0 29 (dk_at dksX7_person_2 8 rfl rfl)
theorem dX7_person_55 : decode cX7_person 55 = .ok (.invokevirtual 59, 3) := dk_182 0 59 (dk_at dksX7_person_2 11 rfl rfl)
theorem dX7_person_58 : decode cX7_person 58 = .ok (.athrow, 1) := dk_191 (dk_at dksX7_person_2 14 rfl rfl)
theorem dX7_person_59 : decode cX7_person 59 = .ok (.aload_n 0, 1) := dk_42 (dk_at dksX7_person_2 15 rfl rfl)
theorem dX7_person_60 : decode cX7_person 60 = .ok (.invokevirtual 19, 3) := dk_182 0 19 (dk_at dksX7_person_2 16 rfl rfl)
theorem dX7_person_63 : decode cX7_person 63 = .ok (.new 197, 3) := dk_187 0 197 (dk_at dksX7_person_2 19 rfl rfl)
theorem dX7_person_66 : decode cX7_person 66 = .ok (.dup, 1) := dk_89 (dk_at dksX7_person_2 22 rfl rfl)
theorem dX7_person_67 : decode cX7_person 67 = .ok (.lload_n 2, 1) := dk_32 (dk_at dksX7_person_2 23 rfl rfl)
theorem dX7_person_68 : decode cX7_person 68 = .ok (.invokespecial 199, 3) := dk_183 0 199 (dk_at dksX7_person_3 0 rfl rfl)
theorem dX7_person_71 : decode cX7_person 71 = .ok (.astore 4, 2) := dk_58 4 (dk_at dksX7_person_3 3 rfl rfl)
theorem dX7_person_73 : decode cX7_person 73 = .ok (.aload 4, 2) := dk_25 4 (dk_at dksX7_person_3 5 rfl rfl)
theorem dX7_person_75 : decode cX7_person 75 = .ok (.aload_n 0, 1) := dk_42 (dk_at dksX7_person_3 7 rfl rfl)
theorem dX7_person_76 : decode cX7_person 76 = .ok (.ldc 107, 2) := dk_18 107 (dk_at dksX7_person_3 8 rfl rfl)
theorem dX7_person_78 : decode cX7_person 78 = .ok (.iconst 0, 1) := dk_3 (dk_at dksX7_person_3 10 rfl rfl)
theorem dX7_person_79 : decode cX7_person 79 = .ok (.bipush 16, 2) := dk_16 16 (dk_at dksX7_person_3 11 rfl rfl)
theorem dX7_person_81 : decode cX7_person 81 = .ok (.iconst 0, 1) := dk_3 (dk_at dksX7_person_3 13 rfl rfl)
theorem dX7_person_82 : decode cX7_person 82 = .ok (.invokevirtual 202, 3) := dk_182 0 202 (dk_at dksX7_person_3 14 rfl rfl)
theorem dX7_person_85 : decode cX7_person 85 = .ok (.putfield 206, 3) := dk_181 0 206 (dk_at dksX7_person_3 17 rfl rfl)
theorem dX7_person_88 : decode cX7_person 88 = .ok (.aload 4, 2) := dk_25 4 (dk_at dksX7_person_3 20 rfl rfl)
theorem dX7_person_90 : decode cX7_person 90 = .ok (.aload_n 0, 1) := dk_42 (dk_at dksX7_person_3 22 rfl rfl)
theorem dX7_person_91 : decode cX7_person 91 = .ok (.ldc 105, 2) := dk_18 105 (dk_at dksX7_person_4 0 rfl rfl)
theorem dX7_person_93 : decode cX7_person 93 = .ok (.iconst 0, 1) := dk_3 (dk_at dksX7_person_4 2 rfl rfl)
theorem dX7_person_94 : decode cX7_person 94 = .ok (.bipush 20, 2) := dk_16 20 (dk_at dksX7_person_4 3 rfl rfl)
theorem dX7_person_96 : decode cX7_person 96 = .ok (.iconst 1, 1) := dk_4 (dk_at dksX7_person_4 5 rfl rfl)
theorem dX7_person_97 : decode cX7_person 97 = .ok (.invokevirtual 202, 3) := dk_182 0 202 (dk_at dksX7_person_4 6 rfl rfl)
theorem dX7_person_100 : decode cX7_person 100 = .ok (.putfield 208, 3) := dk_181 0 208 (dk_at dksX7_person_4 9 rfl rfl)
theorem dX7_person_103 : decode cX7_person 103 = .ok (.aload 4, 2) := dk_25 4 (dk_at dksX7_person_4 12 rfl rfl)
theorem dX7_person_105 : decode cX7_person 105 = .ok (.aload_n 0, 1) := dk_42 (dk_at dksX7_person_4 14 rfl rfl)
theorem dX7_person_106 : decode cX7_person 106 = .ok (.ldc 111, 2) := dk_18 111 (dk_at dksX7_person_4 15 rfl rfl)
theorem dX7_person_108 : decode cX7_person 108 = .ok (.iconst 0, 1) := dk_3 (dk_at dksX7_person_4 17 rfl rfl)
theorem dX7_person_109 : decode cX7_person 109 = .ok (.bipush 99, 2) := dk_16 99 (dk_at dksX7_person_4 18 rfl rfl)
theorem dX7_person_111 : decode cX7_person 111 = .ok (.iconst 0, 1) := dk_3 (dk_at dksX7_person_4 20 rfl rfl)
theorem dX7_person_112 : decode cX7_person 112 = .ok (.invokevirtual 202, 3) := dk_182 0 202 (dk_at dksX7_person_4 21 rfl rfl)
theorem dX7_person_115 : decode cX7_person 115 = .ok (.putfield 210, 3) := dk_181 0 210 (dk_at dksX7_person_5 0 rfl rfl)
theorem dX7_person_118 : decode cX7_person 118 = .ok (.aload 4, 2) := dk_25 4 (dk_at dksX7_person_5 3 rfl rfl)
theorem dX7_person_120 : decode cX7_person 120 = .ok (.aload_n 0, 1) := dk_42 (dk_at dksX7_person_5 5 rfl rfl)
theorem dX7_person_121 : decode cX7_person 121 = .ok (.ldc 113, 2) := dk_18 113 (dk_at dksX7_person_5 6 rfl rfl)
theorem dX7_person_123 : decode cX7_person 123 = .ok (.iconst 0, 1) := dk_3 (dk_at dksX7_person_5 8 rfl rfl)
theorem dX7_person_124 : decode cX7_person 124 = .ok (.sipush 999, 3) := dk_17 3 231 (dk_at dksX7_person_5 9 rfl rfl)
theorem dX7_person_127 : decode cX7_person 127 = .ok (.sipush 999, 3) := dk_17 3 231 (dk_at dksX7_person_5 12 rfl rfl)
theorem dX7_person_130 : decode cX7_person 130 = .ok (.invokevirtual 202, 3) := dk_182 0 202 (dk_at dksX7_person_5 15 rfl rfl)
theorem dX7_person_133 : decode cX7_person 133 = .ok (.putfield 212, 3) := dk_181 0 212 (dk_at dksX7_person_5 18 rfl rfl)
theorem dX7_person_136 : decode cX7_person 136 = .ok (.aload 4, 2) := dk_25 4 (dk_at dksX7_person_5 21 rfl rfl)
theorem dX7_person_138 : decode cX7_person 138 = .ok (.aload_n 0, 1) := dk_42 (dk_at dksX7_person_5 23 rfl rfl)
theorem dX7_person_139 : decode cX7_person 139 = .ok (.ldc 115, 2) := dk_18 115 (dk_at dksX7_person_6 0 rfl rfl)
theorem dX7_person_141 : decode cX7_person 141 = .ok (.invokevirtual 72, 3) := dk_182 0 72 (dk_at dksX7_person_6 2 rfl rfl)
theorem dX7_person_144 : decode cX7_person 144 = .ok (.putfield 214, 3) := dk_181 0 214 (dk_at dksX7_person_6 5 rfl rfl)
theorem dX7_person_147 : decode cX7_person 147 = .ok (.aload 4, 2) := dk_25 4 (dk_at dksX7_person_6 8 rfl rfl)
theorem dX7_person_149 : decode cX7_person 149 = .ok (.getfield 214, 3) := dk_180 0 214 (dk_at dksX7_person_6 10 rfl rfl)
theorem dX7_person_152 : decode cX7_person 152 = .ok (.ifCond .eq 7, 3) := dk_153 0 7 (dk_at dksX7_person_6 13 rfl rfl)
theorem dX7_person_155 : decode cX7_person 155 = .ok (.aload_n 0, 1) := dk_42 (dk_at dksX7_person_6 16 rfl rfl)
theorem dX7_person_156 : decode cX7_person 156 = .ok (.invokevirtual 19, 3) := dk_182 0 19 (dk_at dksX7_person_6 17 rfl rfl)
theorem dX7_person_159 : decode cX7_person 159 = .ok (.aload_n 1, 1) := dk_43 (dk_at dksX7_person_6 20 rfl rfl)
theorem dX7_person_160 : decode cX7_person 160 = .ok (.getfield 217, 3) := dk_180 0 217 (dk_at dksX7_person_6 21 rfl rfl)
theorem dX7_person_163 : decode cX7_person 163 = .ok (.aload_n 1, 1) := dk_43 (dk_at dksX7_person_7 0 rfl rfl)
theorem dX7_person_164 : decode cX7_person 164 = .ok (.getfield 191, 3) := dk_180 0 191 (dk_at dksX7_person_7 1 rfl rfl)
theorem dX7_person_167 : decode cX7_person 167 = .ok (.aload 4, 2) := dk_25 4 (dk_at dksX7_person_7 4 rfl rfl)
theorem dX7_person_169 : decode cX7_person 169 = .ok (.aastore, 1) := dk_83 (dk_at dksX7_person_7 6 rfl rfl)
theorem dX7_person_170 : decode cX7_person 170 = .ok (.aload_n 1, 1) := dk_43 (dk_at dksX7_person_7 7 rfl rfl)
theorem dX7_person_171 : decode cX7_person 171 = .ok (.dup, 1) := dk_89 (dk_at dksX7_person_7 8 rfl rfl)
theorem dX7_person_172 : decode cX7_person 172 = .ok (.getfield 191, 3) := dk_180 0 191 (dk_at dksX7_person_7 9 rfl rfl)
theorem dX7_person_175 : decode cX7_person 175 = .ok (.iconst 1, 1) := dk_4 (dk_at dksX7_person_7 12 rfl rfl)
theorem dX7_person_176 : decode cX7_person 176 = .ok (.iadd, 1) := dk_96 (dk_at dksX7_person_7 13 rfl rfl)
theorem dX7_person_177 : decode cX7_person 177 = .ok (.putfield 191, 3) := dk_181 0 191 (dk_at dksX7_person_7 14 rfl rfl)
theorem dX7_person_180 : decode cX7_person 180 = .ok (.return_, 1) := dk_177 (dk_at dksX7_person_7 17 rfl rfl)
abbrev cX7_name : ByteArray := prog_9_method_17_code
def yX7_name : MethodName := ⟨RX7, "name", "()J"⟩
def dkwX7_name_3 : List UInt8 := [132, 3, 1, 167, 255, 224, 31, 173]
abbrev dktX7_name_3 : List UInt8 := dkwX7_name_3 ++ []
def dkwX7_name_2 : List UInt8 := [162, 0, 30, 31, 20, 0, 153, 105, 42, 180, 0, 3, 180, 0, 22, 29, 51, 133, 97, 20, 0, 155, 101, 64]
abbrev dktX7_name_2 : List UInt8 := dkwX7_name_2 ++ dktX7_name_3
def dkwX7_name_1 : List UInt8 := [182, 0, 149, 153, 0, 8, 42, 182, 0, 68, 191, 9, 64, 42, 180, 0, 29, 62, 29, 42, 180, 0, 26]
abbrev dktX7_name_1 : List UInt8 := dkwX7_name_1 ++ dktX7_name_2
def dkwX7_name_0 : List UInt8 := [42, 180, 0, 32, 4, 160, 0, 24, 42, 180, 0, 26, 42, 180, 0, 29, 100, 16, 8, 163, 0, 10, 42]
abbrev dktX7_name_0 : List UInt8 := dkwX7_name_0 ++ dktX7_name_1
theorem dksX7_name_0 : cX7_name.data.toList.drop 0 = dktX7_name_0 := by decide +kernel
theorem dksX7_name_1 : cX7_name.data.toList.drop 23 = dktX7_name_1 := dk_seg dksX7_name_0 23 rfl rfl
theorem dksX7_name_2 : cX7_name.data.toList.drop 46 = dktX7_name_2 := dk_seg dksX7_name_1 23 rfl rfl
theorem dksX7_name_3 : cX7_name.data.toList.drop 70 = dktX7_name_3 := dk_seg dksX7_name_2 24 rfl rfl
theorem dX7_name_0 : decode cX7_name 0 = .ok (.aload_n 0, 1) := dk_42 (dk_at dksX7_name_0 0 rfl rfl)
theorem dX7_name_1 : decode cX7_name 1 = .ok (.getfield 32, 3) := dk_180 0 32 (dk_at dksX7_name_0 1 rfl rfl)
theorem dX7_name_4 : decode cX7_name 4 = .ok (.iconst 1, 1) := dk_4 (dk_at dksX7_name_0 4 rfl rfl)
theorem dX7_name_5 : decode cX7_name 5 = .ok (.if_icmp .ne 24, 3) := dk_160 0 24 (dk_at dksX7_name_0 5 rfl rfl)
theorem dX7_name_8 : decode cX7_name 8 = .ok (.aload_n 0, 1) := dk_42 (dk_at dksX7_name_0 8 rfl rfl)
theorem dX7_name_9 : decode cX7_name 9 = .ok (.getfield 26, 3) := dk_180 0 26 (dk_at dksX7_name_0 9 rfl rfl)
theorem dX7_name_12 : decode cX7_name 12 = .ok (.aload_n 0, 1) := dk_42 (dk_at dksX7_name_0 12 rfl rfl)
theorem dX7_name_13 : decode cX7_name 13 = .ok (.getfield 29, 3) := dk_180 0 29 (dk_at dksX7_name_0 13 rfl rfl)
theorem dX7_name_16 : decode cX7_name 16 = .ok (.isub, 1) := dk_100 (dk_at dksX7_name_0 16 rfl rfl)
theorem dX7_name_17 : decode cX7_name 17 = .ok (.bipush 8, 2) := dk_16 8 (dk_at dksX7_name_0 17 rfl rfl)
theorem dX7_name_19 : decode cX7_name 19 = .ok (.if_icmp .gt 10, 3) := dk_163 0 10 (dk_at dksX7_name_0 19 rfl rfl)
theorem dX7_name_22 : decode cX7_name 22 = .ok (.aload_n 0, 1) := dk_42 (dk_at dksX7_name_0 22 rfl rfl)
theorem dX7_name_23 : decode cX7_name 23 = .ok (.invokevirtual 149, 3) := dk_182 0 149 (dk_at dksX7_name_1 0 rfl rfl)
theorem dX7_name_26 : decode cX7_name 26 = .ok (.ifCond .eq 8, 3) := dk_153 0 8 (dk_at dksX7_name_1 3 rfl rfl)
theorem dX7_name_29 : decode cX7_name 29 = .ok (.aload_n 0, 1) := dk_42 (dk_at dksX7_name_1 6 rfl rfl)
theorem dX7_name_30 : decode cX7_name 30 = .ok (.invokevirtual 68, 3) := dk_182 0 68 (dk_at dksX7_name_1 7 rfl rfl)
theorem dX7_name_33 : decode cX7_name 33 = .ok (.athrow, 1) := dk_191 (dk_at dksX7_name_1 10 rfl rfl)
theorem dX7_name_34 : decode cX7_name 34 = .ok (.lconst 0, 1) := dk_9 (dk_at dksX7_name_1 11 rfl rfl)
theorem dX7_name_35 : decode cX7_name 35 = .ok (.lstore_n 1, 1) := dk_64 (dk_at dksX7_name_1 12 rfl rfl)
theorem dX7_name_36 : decode cX7_name 36 = .ok (.aload_n 0, 1) := dk_42 (dk_at dksX7_name_1 13 rfl rfl)
theorem dX7_name_37 : decode cX7_name 37 = .ok (.getfield 29, 3) := dk_180 0 29 (dk_at dksX7_name_1 14 rfl rfl)
theorem dX7_name_40 : decode cX7_name 40 = .ok (.istore_n 3, 1) := dk_62 (dk_at dksX7_name_1 17 rfl rfl)
theorem dX7_name_41 : decode cX7_name 41 = .ok (.iload_n 3, 1) := dk_29 (dk_at dksX7_name_1 18 rfl rfl)
theorem dX7_name_42 : decode cX7_name 42 = .ok (.aload_n 0, 1) := dk_42 (dk_at dksX7_name_1 19 rfl rfl)
theorem dX7_name_43 : decode cX7_name 43 = .ok (.getfield 26, 3) := dk_180 0 26 (dk_at dksX7_name_1 20 rfl rfl)
theorem dX7_name_46 : decode cX7_name 46 = .ok (.if_icmp .ge 30, 3) := dk_162 0 30 (dk_at dksX7_name_2 0 rfl rfl)
theorem dX7_name_49 : decode cX7_name 49 = .ok (.lload_n 1, 1) := dk_31 (dk_at dksX7_name_2 3 rfl rfl)
theorem dX7_name_50 : decode cX7_name 50 = .ok (.ldc2_w 153, 3) := dk_20 0 153 (dk_at dksX7_name_2 4 rfl rfl)
theorem dX7_name_53 : decode cX7_name 53 = .ok (.lmul, 1) := dk_105 (dk_at dksX7_name_2 7 rfl rfl)
theorem dX7_name_54 : decode cX7_name 54 = .ok (.aload_n 0, 1) := dk_42 (dk_at dksX7_name_2 8 rfl rfl)
theorem dX7_name_55 : decode cX7_name 55 = .ok (.getfield 3, 3) := dk_180 0 3 (dk_at dksX7_name_2 9 rfl rfl)
theorem dX7_name_58 : decode cX7_name 58 = .ok (.getfield 22, 3) := dk_180 0 22 (dk_at dksX7_name_2 12 rfl rfl)
theorem dX7_name_61 : decode cX7_name 61 = .ok (.iload_n 3, 1) := dk_29 (dk_at dksX7_name_2 15 rfl rfl)
theorem dX7_name_62 : decode cX7_name 62 = .ok (.baload, 1) := dk_51 (dk_at dksX7_name_2 16 rfl rfl)
theorem dX7_name_63 : decode cX7_name 63 = .ok (.i2l, 1) := dk_133 (dk_at dksX7_name_2 17 rfl rfl)
theorem dX7_name_64 : decode cX7_name 64 = .ok (.ladd, 1) := dk_97 (dk_at dksX7_name_2 18 rfl rfl)
theorem dX7_name_65 : decode cX7_name 65 = .ok (.ldc2_w 155, 3) := dk_20 0 155 (dk_at dksX7_name_2 19 rfl rfl)
theorem dX7_name_68 : decode cX7_name 68 = .ok (.lsub, 1) := dk_101 (dk_at dksX7_name_2 22 rfl rfl)
theorem dX7_name_69 : decode cX7_name 69 = .ok (.lstore_n 1, 1) := dk_64 (dk_at dksX7_name_2 23 rfl rfl)
theorem dX7_name_70 : decode cX7_name 70 = .ok (.iinc 3 1, 3) := dk_132 3 1 (dk_at dksX7_name_3 0 rfl rfl)
theorem dX7_name_73 : decode cX7_name 73 = .ok (.goto (-32), 3) := dk_167 255 224 (dk_at dksX7_name_3 3 rfl rfl)
theorem dX7_name_76 : decode cX7_name 76 = .ok (.lload_n 1, 1) := dk_31 (dk_at dksX7_name_3 6 rfl rfl)
theorem dX7_name_77 : decode cX7_name 77 = .ok (.lreturn, 1) := dk_173 (dk_at dksX7_name_3 7 rfl rfl)
abbrev cX7_isKept : ByteArray := prog_9_method_16_code
def yX7_isKept : MethodName := ⟨RX7, "isKept", "()Z"⟩
def dkwX7_isKept_7 : List UInt8 := [42, 182, 0, 146, 155, 0, 7, 4, 167, 0, 4, 3, 172]
abbrev dktX7_isKept_7 : List UInt8 := dkwX7_isKept_7 ++ []
def dkwX7_isKept_6 : List UInt8 := [154, 0, 31, 42, 182, 0, 137, 156, 0, 24, 42, 182, 0, 140, 156, 0, 17, 42, 182, 0, 143, 156, 0, 10]
abbrev dktX7_isKept_6 : List UInt8 := dkwX7_isKept_6 ++ dktX7_isKept_7
def dkwX7_isKept_5 : List UInt8 := [154, 0, 12, 42, 18, 135, 182, 0, 72, 153, 0, 7, 4, 167, 0, 4, 3, 61, 27, 154, 0, 35, 28]
abbrev dktX7_isKept_5 : List UInt8 := dkwX7_isKept_5 ++ dktX7_isKept_6
def dkwX7_isKept_4 : List UInt8 := [42, 18, 129, 182, 0, 72, 154, 0, 30, 42, 18, 131, 182, 0, 72, 154, 0, 21, 42, 18, 133, 182, 0, 72]
abbrev dktX7_isKept_4 : List UInt8 := dkwX7_isKept_4 ++ dktX7_isKept_5
def dkwX7_isKept_3 : List UInt8 := [42, 18, 125, 182, 0, 72, 153, 0, 7, 4, 167, 0, 4, 3, 60, 42, 18, 127, 182, 0, 72, 154, 0, 39]
abbrev dktX7_isKept_3 : List UInt8 := dkwX7_isKept_3 ++ dktX7_isKept_4
def dkwX7_isKept_2 : List UInt8 := [182, 0, 72, 154, 0, 30, 42, 18, 121, 182, 0, 72, 154, 0, 21, 42, 18, 123, 182, 0, 72, 154, 0, 12]
abbrev dktX7_isKept_2 : List UInt8 := dkwX7_isKept_2 ++ dktX7_isKept_3
def dkwX7_isKept_1 : List UInt8 := [154, 0, 57, 42, 18, 115, 182, 0, 72, 154, 0, 48, 42, 18, 117, 182, 0, 72, 154, 0, 39, 42, 18, 119]
abbrev dktX7_isKept_1 : List UInt8 := dkwX7_isKept_1 ++ dktX7_isKept_2
def dkwX7_isKept_0 : List UInt8 := [42, 18, 109, 182, 0, 72, 154, 0, 75, 42, 18, 111, 182, 0, 72, 154, 0, 66, 42, 18, 113, 182, 0, 72]
abbrev dktX7_isKept_0 : List UInt8 := dkwX7_isKept_0 ++ dktX7_isKept_1
theorem dksX7_isKept_0 : cX7_isKept.data.toList.drop 0 = dktX7_isKept_0 := by decide +kernel
theorem dksX7_isKept_1 : cX7_isKept.data.toList.drop 24 = dktX7_isKept_1 := dk_seg dksX7_isKept_0 24 rfl rfl
theorem dksX7_isKept_2 : cX7_isKept.data.toList.drop 48 = dktX7_isKept_2 := dk_seg dksX7_isKept_1 24 rfl rfl
theorem dksX7_isKept_3 : cX7_isKept.data.toList.drop 72 = dktX7_isKept_3 := dk_seg dksX7_isKept_2 24 rfl rfl
theorem dksX7_isKept_4 : cX7_isKept.data.toList.drop 96 = dktX7_isKept_4 := dk_seg dksX7_isKept_3 24 rfl rfl
theorem dksX7_isKept_5 : cX7_isKept.data.toList.drop 120 = dktX7_isKept_5 := dk_seg dksX7_isKept_4 24 rfl rfl
theorem dksX7_isKept_6 : cX7_isKept.data.toList.drop 143 = dktX7_isKept_6 := dk_seg dksX7_isKept_5 23 rfl rfl
theorem dksX7_isKept_7 : cX7_isKept.data.toList.drop 167 = dktX7_isKept_7 := dk_seg dksX7_isKept_6 24 rfl rfl
theorem dX7_isKept_0 : decode cX7_isKept 0 = .ok (.aload_n 0, 1) := dk_42 (dk_at dksX7_isKept_0 0 rfl rfl)
theorem dX7_isKept_1 : decode cX7_isKept 1 = .ok (.ldc 109, 2) := dk_18 109 (dk_at dksX7_isKept_0 1 rfl rfl)
theorem dX7_isKept_3 : decode cX7_isKept 3 = .ok (.invokevirtual 72, 3) := dk_182 0 72 (dk_at dksX7_isKept_0 3 rfl rfl)
theorem dX7_isKept_6 : decode cX7_isKept 6 = .ok (.ifCond .ne 75, 3) := dk_154 0 75 (dk_at dksX7_isKept_0 6 rfl rfl)
theorem dX7_isKept_9 : decode cX7_isKept 9 = .ok (.aload_n 0, 1) := dk_42 (dk_at dksX7_isKept_0 9 rfl rfl)
theorem dX7_isKept_10 : decode cX7_isKept 10 = .ok (.ldc 111, 2) := dk_18 111 (dk_at dksX7_isKept_0 10 rfl rfl)
theorem dX7_isKept_12 : decode cX7_isKept 12 = .ok (.invokevirtual 72, 3) := dk_182 0 72 (dk_at dksX7_isKept_0 12 rfl rfl)
theorem dX7_isKept_15 : decode cX7_isKept 15 = .ok (.ifCond .ne 66, 3) := dk_154 0 66 (dk_at dksX7_isKept_0 15 rfl rfl)
theorem dX7_isKept_18 : decode cX7_isKept 18 = .ok (.aload_n 0, 1) := dk_42 (dk_at dksX7_isKept_0 18 rfl rfl)
theorem dX7_isKept_19 : decode cX7_isKept 19 = .ok (.ldc 113, 2) := dk_18 113 (dk_at dksX7_isKept_0 19 rfl rfl)
theorem dX7_isKept_21 : decode cX7_isKept 21 = .ok (.invokevirtual 72, 3) := dk_182 0 72 (dk_at dksX7_isKept_0 21 rfl rfl)
theorem dX7_isKept_24 : decode cX7_isKept 24 = .ok (.ifCond .ne 57, 3) := dk_154 0 57 (dk_at dksX7_isKept_1 0 rfl rfl)
theorem dX7_isKept_27 : decode cX7_isKept 27 = .ok (.aload_n 0, 1) := dk_42 (dk_at dksX7_isKept_1 3 rfl rfl)
theorem dX7_isKept_28 : decode cX7_isKept 28 = .ok (.ldc 115, 2) := dk_18 115 (dk_at dksX7_isKept_1 4 rfl rfl)
theorem dX7_isKept_30 : decode cX7_isKept 30 = .ok (.invokevirtual 72, 3) := dk_182 0 72 (dk_at dksX7_isKept_1 6 rfl rfl)
theorem dX7_isKept_33 : decode cX7_isKept 33 = .ok (.ifCond .ne 48, 3) := dk_154 0 48 (dk_at dksX7_isKept_1 9 rfl rfl)
theorem dX7_isKept_36 : decode cX7_isKept 36 = .ok (.aload_n 0, 1) := dk_42 (dk_at dksX7_isKept_1 12 rfl rfl)
theorem dX7_isKept_37 : decode cX7_isKept 37 = .ok (.ldc 117, 2) := dk_18 117 (dk_at dksX7_isKept_1 13 rfl rfl)
theorem dX7_isKept_39 : decode cX7_isKept 39 = .ok (.invokevirtual 72, 3) := dk_182 0 72 (dk_at dksX7_isKept_1 15 rfl rfl)
theorem dX7_isKept_42 : decode cX7_isKept 42 = .ok (.ifCond .ne 39, 3) := dk_154 0 39 (dk_at dksX7_isKept_1 18 rfl rfl)
theorem dX7_isKept_45 : decode cX7_isKept 45 = .ok (.aload_n 0, 1) := dk_42 (dk_at dksX7_isKept_1 21 rfl rfl)
theorem dX7_isKept_46 : decode cX7_isKept 46 = .ok (.ldc 119, 2) := dk_18 119 (dk_at dksX7_isKept_1 22 rfl rfl)
theorem dX7_isKept_48 : decode cX7_isKept 48 = .ok (.invokevirtual 72, 3) := dk_182 0 72 (dk_at dksX7_isKept_2 0 rfl rfl)
theorem dX7_isKept_51 : decode cX7_isKept 51 = .ok (.ifCond .ne 30, 3) := dk_154 0 30 (dk_at dksX7_isKept_2 3 rfl rfl)
theorem dX7_isKept_54 : decode cX7_isKept 54 = .ok (.aload_n 0, 1) := dk_42 (dk_at dksX7_isKept_2 6 rfl rfl)
theorem dX7_isKept_55 : decode cX7_isKept 55 = .ok (.ldc 121, 2) := dk_18 121 (dk_at dksX7_isKept_2 7 rfl rfl)
theorem dX7_isKept_57 : decode cX7_isKept 57 = .ok (.invokevirtual 72, 3) := dk_182 0 72 (dk_at dksX7_isKept_2 9 rfl rfl)
theorem dX7_isKept_60 : decode cX7_isKept 60 = .ok (.ifCond .ne 21, 3) := dk_154 0 21 (dk_at dksX7_isKept_2 12 rfl rfl)
theorem dX7_isKept_63 : decode cX7_isKept 63 = .ok (.aload_n 0, 1) := dk_42 (dk_at dksX7_isKept_2 15 rfl rfl)
theorem dX7_isKept_64 : decode cX7_isKept 64 = .ok (.ldc 123, 2) := dk_18 123 (dk_at dksX7_isKept_2 16 rfl rfl)
theorem dX7_isKept_66 : decode cX7_isKept 66 = .ok (.invokevirtual 72, 3) := dk_182 0 72 (dk_at dksX7_isKept_2 18 rfl rfl)
theorem dX7_isKept_69 : decode cX7_isKept 69 = .ok (.ifCond .ne 12, 3) := dk_154 0 12 (dk_at dksX7_isKept_2 21 rfl rfl)
theorem dX7_isKept_72 : decode cX7_isKept 72 = .ok (.aload_n 0, 1) := dk_42 (dk_at dksX7_isKept_3 0 rfl rfl)
theorem dX7_isKept_73 : decode cX7_isKept 73 = .ok (.ldc 125, 2) := dk_18 125 (dk_at dksX7_isKept_3 1 rfl rfl)
theorem dX7_isKept_75 : decode cX7_isKept 75 = .ok (.invokevirtual 72, 3) := dk_182 0 72 (dk_at dksX7_isKept_3 3 rfl rfl)
theorem dX7_isKept_78 : decode cX7_isKept 78 = .ok (.ifCond .eq 7, 3) := dk_153 0 7 (dk_at dksX7_isKept_3 6 rfl rfl)
theorem dX7_isKept_81 : decode cX7_isKept 81 = .ok (.iconst 1, 1) := dk_4 (dk_at dksX7_isKept_3 9 rfl rfl)
theorem dX7_isKept_82 : decode cX7_isKept 82 = .ok (.goto 4, 3) := dk_167 0 4 (dk_at dksX7_isKept_3 10 rfl rfl)
theorem dX7_isKept_85 : decode cX7_isKept 85 = .ok (.iconst 0, 1) := dk_3 (dk_at dksX7_isKept_3 13 rfl rfl)
theorem dX7_isKept_86 : decode cX7_isKept 86 = .ok (.istore_n 1, 1) := dk_60 (dk_at dksX7_isKept_3 14 rfl rfl)
theorem dX7_isKept_87 : decode cX7_isKept 87 = .ok (.aload_n 0, 1) := dk_42 (dk_at dksX7_isKept_3 15 rfl rfl)
theorem dX7_isKept_88 : decode cX7_isKept 88 = .ok (.ldc 127, 2) := dk_18 127 (dk_at dksX7_isKept_3 16 rfl rfl)
theorem dX7_isKept_90 : decode cX7_isKept 90 = .ok (.invokevirtual 72, 3) := dk_182 0 72 (dk_at dksX7_isKept_3 18 rfl rfl)
theorem dX7_isKept_93 : decode cX7_isKept 93 = .ok (.ifCond .ne 39, 3) := dk_154 0 39 (dk_at dksX7_isKept_3 21 rfl rfl)
theorem dX7_isKept_96 : decode cX7_isKept 96 = .ok (.aload_n 0, 1) := dk_42 (dk_at dksX7_isKept_4 0 rfl rfl)
theorem dX7_isKept_97 : decode cX7_isKept 97 = .ok (.ldc 129, 2) := dk_18 129 (dk_at dksX7_isKept_4 1 rfl rfl)
theorem dX7_isKept_99 : decode cX7_isKept 99 = .ok (.invokevirtual 72, 3) := dk_182 0 72 (dk_at dksX7_isKept_4 3 rfl rfl)
theorem dX7_isKept_102 : decode cX7_isKept 102 = .ok (.ifCond .ne 30, 3) := dk_154 0 30 (dk_at dksX7_isKept_4 6 rfl rfl)
theorem dX7_isKept_105 : decode cX7_isKept 105 = .ok (.aload_n 0, 1) := dk_42 (dk_at dksX7_isKept_4 9 rfl rfl)
theorem dX7_isKept_106 : decode cX7_isKept 106 = .ok (.ldc 131, 2) := dk_18 131 (dk_at dksX7_isKept_4 10 rfl rfl)
theorem dX7_isKept_108 : decode cX7_isKept 108 = .ok (.invokevirtual 72, 3) := dk_182 0 72 (dk_at dksX7_isKept_4 12 rfl rfl)
theorem dX7_isKept_111 : decode cX7_isKept 111 = .ok (.ifCond .ne 21, 3) := dk_154 0 21 (dk_at dksX7_isKept_4 15 rfl rfl)
theorem dX7_isKept_114 : decode cX7_isKept 114 = .ok (.aload_n 0, 1) := dk_42 (dk_at dksX7_isKept_4 18 rfl rfl)
theorem dX7_isKept_115 : decode cX7_isKept 115 = .ok (.ldc 133, 2) := dk_18 133 (dk_at dksX7_isKept_4 19 rfl rfl)
theorem dX7_isKept_117 : decode cX7_isKept 117 = .ok (.invokevirtual 72, 3) := dk_182 0 72 (dk_at dksX7_isKept_4 21 rfl rfl)
theorem dX7_isKept_120 : decode cX7_isKept 120 = .ok (.ifCond .ne 12, 3) := dk_154 0 12 (dk_at dksX7_isKept_5 0 rfl rfl)
theorem dX7_isKept_123 : decode cX7_isKept 123 = .ok (.aload_n 0, 1) := dk_42 (dk_at dksX7_isKept_5 3 rfl rfl)
theorem dX7_isKept_124 : decode cX7_isKept 124 = .ok (.ldc 135, 2) := dk_18 135 (dk_at dksX7_isKept_5 4 rfl rfl)
theorem dX7_isKept_126 : decode cX7_isKept 126 = .ok (.invokevirtual 72, 3) := dk_182 0 72 (dk_at dksX7_isKept_5 6 rfl rfl)
theorem dX7_isKept_129 : decode cX7_isKept 129 = .ok (.ifCond .eq 7, 3) := dk_153 0 7 (dk_at dksX7_isKept_5 9 rfl rfl)
theorem dX7_isKept_132 : decode cX7_isKept 132 = .ok (.iconst 1, 1) := dk_4 (dk_at dksX7_isKept_5 12 rfl rfl)
theorem dX7_isKept_133 : decode cX7_isKept 133 = .ok (.goto 4, 3) := dk_167 0 4 (dk_at dksX7_isKept_5 13 rfl rfl)
theorem dX7_isKept_136 : decode cX7_isKept 136 = .ok (.iconst 0, 1) := dk_3 (dk_at dksX7_isKept_5 16 rfl rfl)
theorem dX7_isKept_137 : decode cX7_isKept 137 = .ok (.istore_n 2, 1) := dk_61 (dk_at dksX7_isKept_5 17 rfl rfl)
theorem dX7_isKept_138 : decode cX7_isKept 138 = .ok (.iload_n 1, 1) := dk_27 (dk_at dksX7_isKept_5 18 rfl rfl)
theorem dX7_isKept_139 : decode cX7_isKept 139 = .ok (.ifCond .ne 35, 3) := dk_154 0 35 (dk_at dksX7_isKept_5 19 rfl rfl)
theorem dX7_isKept_142 : decode cX7_isKept 142 = .ok (.iload_n 2, 1) := dk_28 (dk_at dksX7_isKept_5 22 rfl rfl)
theorem dX7_isKept_143 : decode cX7_isKept 143 = .ok (.ifCond .ne 31, 3) := dk_154 0 31 (dk_at dksX7_isKept_6 0 rfl rfl)
theorem dX7_isKept_146 : decode cX7_isKept 146 = .ok (.aload_n 0, 1) := dk_42 (dk_at dksX7_isKept_6 3 rfl rfl)
theorem dX7_isKept_147 : decode cX7_isKept 147 = .ok (.invokevirtual 137, 3) := dk_182 0 137 (dk_at dksX7_isKept_6 4 rfl rfl)
theorem dX7_isKept_150 : decode cX7_isKept 150 = .ok (.ifCond .ge 24, 3) := dk_156 0 24 (dk_at dksX7_isKept_6 7 rfl rfl)
theorem dX7_isKept_153 : decode cX7_isKept 153 = .ok (.aload_n 0, 1) := dk_42 (dk_at dksX7_isKept_6 10 rfl rfl)
theorem dX7_isKept_154 : decode cX7_isKept 154 = .ok (.invokevirtual 140, 3) := dk_182 0 140 (dk_at dksX7_isKept_6 11 rfl rfl)
theorem dX7_isKept_157 : decode cX7_isKept 157 = .ok (.ifCond .ge 17, 3) := dk_156 0 17 (dk_at dksX7_isKept_6 14 rfl rfl)
theorem dX7_isKept_160 : decode cX7_isKept 160 = .ok (.aload_n 0, 1) := dk_42 (dk_at dksX7_isKept_6 17 rfl rfl)
theorem dX7_isKept_161 : decode cX7_isKept 161 = .ok (.invokevirtual 143, 3) := dk_182 0 143 (dk_at dksX7_isKept_6 18 rfl rfl)
theorem dX7_isKept_164 : decode cX7_isKept 164 = .ok (.ifCond .ge 10, 3) := dk_156 0 10 (dk_at dksX7_isKept_6 21 rfl rfl)
theorem dX7_isKept_167 : decode cX7_isKept 167 = .ok (.aload_n 0, 1) := dk_42 (dk_at dksX7_isKept_7 0 rfl rfl)
theorem dX7_isKept_168 : decode cX7_isKept 168 = .ok (.invokevirtual 146, 3) := dk_182 0 146 (dk_at dksX7_isKept_7 1 rfl rfl)
theorem dX7_isKept_171 : decode cX7_isKept 171 = .ok (.ifCond .lt 7, 3) := dk_155 0 7 (dk_at dksX7_isKept_7 4 rfl rfl)
theorem dX7_isKept_174 : decode cX7_isKept 174 = .ok (.iconst 1, 1) := dk_4 (dk_at dksX7_isKept_7 7 rfl rfl)
theorem dX7_isKept_175 : decode cX7_isKept 175 = .ok (.goto 4, 3) := dk_167 0 4 (dk_at dksX7_isKept_7 8 rfl rfl)
theorem dX7_isKept_178 : decode cX7_isKept 178 = .ok (.iconst 0, 1) := dk_3 (dk_at dksX7_isKept_7 11 rfl rfl)
theorem dX7_isKept_179 : decode cX7_isKept 179 = .ok (.ireturn, 1) := dk_172 (dk_at dksX7_isKept_7 12 rfl rfl)
abbrev cX7_acts : ByteArray := prog_9_method_12_code
def yX7_acts : MethodName := ⟨RX7, "acts", "()I"⟩
def dkwX7_acts_2 : List UInt8 := [182, 0, 72, 153, 0, 5, 7, 172, 42, 18, 89, 182, 0, 72, 153, 0, 7, 8, 167, 0, 4, 2, 172]
abbrev dktX7_acts_2 : List UInt8 := dkwX7_acts_2 ++ []
def dkwX7_acts_1 : List UInt8 := [18, 83, 182, 0, 72, 153, 0, 5, 5, 172, 42, 18, 85, 182, 0, 72, 153, 0, 5, 6, 172, 42, 18, 87]
abbrev dktX7_acts_1 : List UInt8 := dkwX7_acts_1 ++ dktX7_acts_2
def dkwX7_acts_0 : List UInt8 := [42, 18, 79, 182, 0, 72, 153, 0, 5, 3, 172, 42, 18, 81, 182, 0, 72, 153, 0, 5, 4, 172, 42]
abbrev dktX7_acts_0 : List UInt8 := dkwX7_acts_0 ++ dktX7_acts_1
theorem dksX7_acts_0 : cX7_acts.data.toList.drop 0 = dktX7_acts_0 := by decide +kernel
theorem dksX7_acts_1 : cX7_acts.data.toList.drop 23 = dktX7_acts_1 := dk_seg dksX7_acts_0 23 rfl rfl
theorem dksX7_acts_2 : cX7_acts.data.toList.drop 47 = dktX7_acts_2 := dk_seg dksX7_acts_1 24 rfl rfl
theorem dX7_acts_0 : decode cX7_acts 0 = .ok (.aload_n 0, 1) := dk_42 (dk_at dksX7_acts_0 0 rfl rfl)
theorem dX7_acts_1 : decode cX7_acts 1 = .ok (.ldc 79, 2) := dk_18 79 (dk_at dksX7_acts_0 1 rfl rfl)
theorem dX7_acts_3 : decode cX7_acts 3 = .ok (.invokevirtual 72, 3) := dk_182 0 72 (dk_at dksX7_acts_0 3 rfl rfl)
theorem dX7_acts_6 : decode cX7_acts 6 = .ok (.ifCond .eq 5, 3) := dk_153 0 5 (dk_at dksX7_acts_0 6 rfl rfl)
theorem dX7_acts_9 : decode cX7_acts 9 = .ok (.iconst 0, 1) := dk_3 (dk_at dksX7_acts_0 9 rfl rfl)
theorem dX7_acts_10 : decode cX7_acts 10 = .ok (.ireturn, 1) := dk_172 (dk_at dksX7_acts_0 10 rfl rfl)
theorem dX7_acts_11 : decode cX7_acts 11 = .ok (.aload_n 0, 1) := dk_42 (dk_at dksX7_acts_0 11 rfl rfl)
theorem dX7_acts_12 : decode cX7_acts 12 = .ok (.ldc 81, 2) := dk_18 81 (dk_at dksX7_acts_0 12 rfl rfl)
theorem dX7_acts_14 : decode cX7_acts 14 = .ok (.invokevirtual 72, 3) := dk_182 0 72 (dk_at dksX7_acts_0 14 rfl rfl)
theorem dX7_acts_17 : decode cX7_acts 17 = .ok (.ifCond .eq 5, 3) := dk_153 0 5 (dk_at dksX7_acts_0 17 rfl rfl)
theorem dX7_acts_20 : decode cX7_acts 20 = .ok (.iconst 1, 1) := dk_4 (dk_at dksX7_acts_0 20 rfl rfl)
theorem dX7_acts_21 : decode cX7_acts 21 = .ok (.ireturn, 1) := dk_172 (dk_at dksX7_acts_0 21 rfl rfl)
theorem dX7_acts_22 : decode cX7_acts 22 = .ok (.aload_n 0, 1) := dk_42 (dk_at dksX7_acts_0 22 rfl rfl)
theorem dX7_acts_23 : decode cX7_acts 23 = .ok (.ldc 83, 2) := dk_18 83 (dk_at dksX7_acts_1 0 rfl rfl)
theorem dX7_acts_25 : decode cX7_acts 25 = .ok (.invokevirtual 72, 3) := dk_182 0 72 (dk_at dksX7_acts_1 2 rfl rfl)
theorem dX7_acts_28 : decode cX7_acts 28 = .ok (.ifCond .eq 5, 3) := dk_153 0 5 (dk_at dksX7_acts_1 5 rfl rfl)
theorem dX7_acts_31 : decode cX7_acts 31 = .ok (.iconst 2, 1) := dk_5 (dk_at dksX7_acts_1 8 rfl rfl)
theorem dX7_acts_32 : decode cX7_acts 32 = .ok (.ireturn, 1) := dk_172 (dk_at dksX7_acts_1 9 rfl rfl)
theorem dX7_acts_33 : decode cX7_acts 33 = .ok (.aload_n 0, 1) := dk_42 (dk_at dksX7_acts_1 10 rfl rfl)
theorem dX7_acts_34 : decode cX7_acts 34 = .ok (.ldc 85, 2) := dk_18 85 (dk_at dksX7_acts_1 11 rfl rfl)
theorem dX7_acts_36 : decode cX7_acts 36 = .ok (.invokevirtual 72, 3) := dk_182 0 72 (dk_at dksX7_acts_1 13 rfl rfl)
theorem dX7_acts_39 : decode cX7_acts 39 = .ok (.ifCond .eq 5, 3) := dk_153 0 5 (dk_at dksX7_acts_1 16 rfl rfl)
theorem dX7_acts_42 : decode cX7_acts 42 = .ok (.iconst 3, 1) := dk_6 (dk_at dksX7_acts_1 19 rfl rfl)
theorem dX7_acts_43 : decode cX7_acts 43 = .ok (.ireturn, 1) := dk_172 (dk_at dksX7_acts_1 20 rfl rfl)
theorem dX7_acts_44 : decode cX7_acts 44 = .ok (.aload_n 0, 1) := dk_42 (dk_at dksX7_acts_1 21 rfl rfl)
theorem dX7_acts_45 : decode cX7_acts 45 = .ok (.ldc 87, 2) := dk_18 87 (dk_at dksX7_acts_1 22 rfl rfl)
theorem dX7_acts_47 : decode cX7_acts 47 = .ok (.invokevirtual 72, 3) := dk_182 0 72 (dk_at dksX7_acts_2 0 rfl rfl)
theorem dX7_acts_50 : decode cX7_acts 50 = .ok (.ifCond .eq 5, 3) := dk_153 0 5 (dk_at dksX7_acts_2 3 rfl rfl)
theorem dX7_acts_53 : decode cX7_acts 53 = .ok (.iconst 4, 1) := dk_7 (dk_at dksX7_acts_2 6 rfl rfl)
theorem dX7_acts_54 : decode cX7_acts 54 = .ok (.ireturn, 1) := dk_172 (dk_at dksX7_acts_2 7 rfl rfl)
theorem dX7_acts_55 : decode cX7_acts 55 = .ok (.aload_n 0, 1) := dk_42 (dk_at dksX7_acts_2 8 rfl rfl)
theorem dX7_acts_56 : decode cX7_acts 56 = .ok (.ldc 89, 2) := dk_18 89 (dk_at dksX7_acts_2 9 rfl rfl)
theorem dX7_acts_58 : decode cX7_acts 58 = .ok (.invokevirtual 72, 3) := dk_182 0 72 (dk_at dksX7_acts_2 11 rfl rfl)
theorem dX7_acts_61 : decode cX7_acts 61 = .ok (.ifCond .eq 7, 3) := dk_153 0 7 (dk_at dksX7_acts_2 14 rfl rfl)
theorem dX7_acts_64 : decode cX7_acts 64 = .ok (.iconst 5, 1) := dk_8 (dk_at dksX7_acts_2 17 rfl rfl)
theorem dX7_acts_65 : decode cX7_acts 65 = .ok (.goto 4, 3) := dk_167 0 4 (dk_at dksX7_acts_2 18 rfl rfl)
theorem dX7_acts_68 : decode cX7_acts 68 = .ok (.iconst (-1), 1) := dk_2 (dk_at dksX7_acts_2 21 rfl rfl)
theorem dX7_acts_69 : decode cX7_acts 69 = .ok (.ireturn, 1) := dk_172 (dk_at dksX7_acts_2 22 rfl rfl)
abbrev cX7_tests : ByteArray := prog_9_method_13_code
def yX7_tests : MethodName := ⟨RX7, "tests", "()I"⟩
def dkwX7_tests_1 : List UInt8 := [167, 0, 17, 42, 18, 95, 182, 0, 72, 153, 0, 7, 5, 167, 0, 4, 2, 172]
abbrev dktX7_tests_1 : List UInt8 := dkwX7_tests_1 ++ []
def dkwX7_tests_0 : List UInt8 := [42, 18, 91, 182, 0, 72, 153, 0, 7, 3, 167, 0, 30, 42, 18, 93, 182, 0, 72, 153, 0, 7, 4]
abbrev dktX7_tests_0 : List UInt8 := dkwX7_tests_0 ++ dktX7_tests_1
theorem dksX7_tests_0 : cX7_tests.data.toList.drop 0 = dktX7_tests_0 := by decide +kernel
theorem dksX7_tests_1 : cX7_tests.data.toList.drop 23 = dktX7_tests_1 := dk_seg dksX7_tests_0 23 rfl rfl
theorem dX7_tests_0 : decode cX7_tests 0 = .ok (.aload_n 0, 1) := dk_42 (dk_at dksX7_tests_0 0 rfl rfl)
theorem dX7_tests_1 : decode cX7_tests 1 = .ok (.ldc 91, 2) := dk_18 91 (dk_at dksX7_tests_0 1 rfl rfl)
theorem dX7_tests_3 : decode cX7_tests 3 = .ok (.invokevirtual 72, 3) := dk_182 0 72 (dk_at dksX7_tests_0 3 rfl rfl)
theorem dX7_tests_6 : decode cX7_tests 6 = .ok (.ifCond .eq 7, 3) := dk_153 0 7 (dk_at dksX7_tests_0 6 rfl rfl)
theorem dX7_tests_9 : decode cX7_tests 9 = .ok (.iconst 0, 1) := dk_3 (dk_at dksX7_tests_0 9 rfl rfl)
theorem dX7_tests_10 : decode cX7_tests 10 = .ok (.goto 30, 3) := dk_167 0 30 (dk_at dksX7_tests_0 10 rfl rfl)
theorem dX7_tests_13 : decode cX7_tests 13 = .ok (.aload_n 0, 1) := dk_42 (dk_at dksX7_tests_0 13 rfl rfl)
theorem dX7_tests_14 : decode cX7_tests 14 = .ok (.ldc 93, 2) := dk_18 93 (dk_at dksX7_tests_0 14 rfl rfl)
theorem dX7_tests_16 : decode cX7_tests 16 = .ok (.invokevirtual 72, 3) := dk_182 0 72 (dk_at dksX7_tests_0 16 rfl rfl)
theorem dX7_tests_19 : decode cX7_tests 19 = .ok (.ifCond .eq 7, 3) := dk_153 0 7 (dk_at dksX7_tests_0 19 rfl rfl)
theorem dX7_tests_22 : decode cX7_tests 22 = .ok (.iconst 1, 1) := dk_4 (dk_at dksX7_tests_0 22 rfl rfl)
theorem dX7_tests_23 : decode cX7_tests 23 = .ok (.goto 17, 3) := dk_167 0 17 (dk_at dksX7_tests_1 0 rfl rfl)
theorem dX7_tests_26 : decode cX7_tests 26 = .ok (.aload_n 0, 1) := dk_42 (dk_at dksX7_tests_1 3 rfl rfl)
theorem dX7_tests_27 : decode cX7_tests 27 = .ok (.ldc 95, 2) := dk_18 95 (dk_at dksX7_tests_1 4 rfl rfl)
theorem dX7_tests_29 : decode cX7_tests 29 = .ok (.invokevirtual 72, 3) := dk_182 0 72 (dk_at dksX7_tests_1 6 rfl rfl)
theorem dX7_tests_32 : decode cX7_tests 32 = .ok (.ifCond .eq 7, 3) := dk_153 0 7 (dk_at dksX7_tests_1 9 rfl rfl)
theorem dX7_tests_35 : decode cX7_tests 35 = .ok (.iconst 2, 1) := dk_5 (dk_at dksX7_tests_1 12 rfl rfl)
theorem dX7_tests_36 : decode cX7_tests 36 = .ok (.goto 4, 3) := dk_167 0 4 (dk_at dksX7_tests_1 13 rfl rfl)
theorem dX7_tests_39 : decode cX7_tests 39 = .ok (.iconst (-1), 1) := dk_2 (dk_at dksX7_tests_1 16 rfl rfl)
theorem dX7_tests_40 : decode cX7_tests 40 = .ok (.ireturn, 1) := dk_172 (dk_at dksX7_tests_1 17 rfl rfl)
abbrev cX7_splits : ByteArray := prog_9_method_14_code
def yX7_splits : MethodName := ⟨RX7, "splits", "()I"⟩
def dkwX7_splits_1 : List UInt8 := [167, 0, 17, 42, 18, 101, 182, 0, 72, 153, 0, 7, 5, 167, 0, 4, 2, 172]
abbrev dktX7_splits_1 : List UInt8 := dkwX7_splits_1 ++ []
def dkwX7_splits_0 : List UInt8 := [42, 18, 97, 182, 0, 72, 153, 0, 7, 3, 167, 0, 30, 42, 18, 99, 182, 0, 72, 153, 0, 7, 4]
abbrev dktX7_splits_0 : List UInt8 := dkwX7_splits_0 ++ dktX7_splits_1
theorem dksX7_splits_0 : cX7_splits.data.toList.drop 0 = dktX7_splits_0 := by decide +kernel
theorem dksX7_splits_1 : cX7_splits.data.toList.drop 23 = dktX7_splits_1 := dk_seg dksX7_splits_0 23 rfl rfl
theorem dX7_splits_0 : decode cX7_splits 0 = .ok (.aload_n 0, 1) := dk_42 (dk_at dksX7_splits_0 0 rfl rfl)
theorem dX7_splits_1 : decode cX7_splits 1 = .ok (.ldc 97, 2) := dk_18 97 (dk_at dksX7_splits_0 1 rfl rfl)
theorem dX7_splits_3 : decode cX7_splits 3 = .ok (.invokevirtual 72, 3) := dk_182 0 72 (dk_at dksX7_splits_0 3 rfl rfl)
theorem dX7_splits_6 : decode cX7_splits 6 = .ok (.ifCond .eq 7, 3) := dk_153 0 7 (dk_at dksX7_splits_0 6 rfl rfl)
theorem dX7_splits_9 : decode cX7_splits 9 = .ok (.iconst 0, 1) := dk_3 (dk_at dksX7_splits_0 9 rfl rfl)
theorem dX7_splits_10 : decode cX7_splits 10 = .ok (.goto 30, 3) := dk_167 0 30 (dk_at dksX7_splits_0 10 rfl rfl)
theorem dX7_splits_13 : decode cX7_splits 13 = .ok (.aload_n 0, 1) := dk_42 (dk_at dksX7_splits_0 13 rfl rfl)
theorem dX7_splits_14 : decode cX7_splits 14 = .ok (.ldc 99, 2) := dk_18 99 (dk_at dksX7_splits_0 14 rfl rfl)
theorem dX7_splits_16 : decode cX7_splits 16 = .ok (.invokevirtual 72, 3) := dk_182 0 72 (dk_at dksX7_splits_0 16 rfl rfl)
theorem dX7_splits_19 : decode cX7_splits 19 = .ok (.ifCond .eq 7, 3) := dk_153 0 7 (dk_at dksX7_splits_0 19 rfl rfl)
theorem dX7_splits_22 : decode cX7_splits 22 = .ok (.iconst 1, 1) := dk_4 (dk_at dksX7_splits_0 22 rfl rfl)
theorem dX7_splits_23 : decode cX7_splits 23 = .ok (.goto 17, 3) := dk_167 0 17 (dk_at dksX7_splits_1 0 rfl rfl)
theorem dX7_splits_26 : decode cX7_splits 26 = .ok (.aload_n 0, 1) := dk_42 (dk_at dksX7_splits_1 3 rfl rfl)
theorem dX7_splits_27 : decode cX7_splits 27 = .ok (.ldc 101, 2) := dk_18 101 (dk_at dksX7_splits_1 4 rfl rfl)
theorem dX7_splits_29 : decode cX7_splits 29 = .ok (.invokevirtual 72, 3) := dk_182 0 72 (dk_at dksX7_splits_1 6 rfl rfl)
theorem dX7_splits_32 : decode cX7_splits 32 = .ok (.ifCond .eq 7, 3) := dk_153 0 7 (dk_at dksX7_splits_1 9 rfl rfl)
theorem dX7_splits_35 : decode cX7_splits 35 = .ok (.iconst 2, 1) := dk_5 (dk_at dksX7_splits_1 12 rfl rfl)
theorem dX7_splits_36 : decode cX7_splits 36 = .ok (.goto 4, 3) := dk_167 0 4 (dk_at dksX7_splits_1 13 rfl rfl)
theorem dX7_splits_39 : decode cX7_splits 39 = .ok (.iconst (-1), 1) := dk_2 (dk_at dksX7_splits_1 16 rfl rfl)
theorem dX7_splits_40 : decode cX7_splits 40 = .ok (.ireturn, 1) := dk_172 (dk_at dksX7_splits_1 17 rfl rfl)
abbrev cX7_laws : ByteArray := prog_9_method_15_code
def yX7_laws : MethodName := ⟨RX7, "laws", "()I"⟩
def dkwX7_laws_2 : List UInt8 := [153, 0, 7, 6, 167, 0, 4, 2, 172]
abbrev dktX7_laws_2 : List UInt8 := dkwX7_laws_2 ++ []
def dkwX7_laws_1 : List UInt8 := [167, 0, 30, 42, 18, 105, 182, 0, 72, 153, 0, 7, 5, 167, 0, 17, 42, 18, 107, 182, 0, 72]
abbrev dktX7_laws_1 : List UInt8 := dkwX7_laws_1 ++ dktX7_laws_2
def dkwX7_laws_0 : List UInt8 := [42, 18, 95, 182, 0, 72, 153, 0, 7, 3, 167, 0, 43, 42, 18, 103, 182, 0, 72, 153, 0, 7, 4]
abbrev dktX7_laws_0 : List UInt8 := dkwX7_laws_0 ++ dktX7_laws_1
theorem dksX7_laws_0 : cX7_laws.data.toList.drop 0 = dktX7_laws_0 := by decide +kernel
theorem dksX7_laws_1 : cX7_laws.data.toList.drop 23 = dktX7_laws_1 := dk_seg dksX7_laws_0 23 rfl rfl
theorem dksX7_laws_2 : cX7_laws.data.toList.drop 45 = dktX7_laws_2 := dk_seg dksX7_laws_1 22 rfl rfl
theorem dX7_laws_0 : decode cX7_laws 0 = .ok (.aload_n 0, 1) := dk_42 (dk_at dksX7_laws_0 0 rfl rfl)
theorem dX7_laws_1 : decode cX7_laws 1 = .ok (.ldc 95, 2) := dk_18 95 (dk_at dksX7_laws_0 1 rfl rfl)
theorem dX7_laws_3 : decode cX7_laws 3 = .ok (.invokevirtual 72, 3) := dk_182 0 72 (dk_at dksX7_laws_0 3 rfl rfl)
theorem dX7_laws_6 : decode cX7_laws 6 = .ok (.ifCond .eq 7, 3) := dk_153 0 7 (dk_at dksX7_laws_0 6 rfl rfl)
theorem dX7_laws_9 : decode cX7_laws 9 = .ok (.iconst 0, 1) := dk_3 (dk_at dksX7_laws_0 9 rfl rfl)
theorem dX7_laws_10 : decode cX7_laws 10 = .ok (.goto 43, 3) := dk_167 0 43 (dk_at dksX7_laws_0 10 rfl rfl)
theorem dX7_laws_13 : decode cX7_laws 13 = .ok (.aload_n 0, 1) := dk_42 (dk_at dksX7_laws_0 13 rfl rfl)
theorem dX7_laws_14 : decode cX7_laws 14 = .ok (.ldc 103, 2) := dk_18 103 (dk_at dksX7_laws_0 14 rfl rfl)
theorem dX7_laws_16 : decode cX7_laws 16 = .ok (.invokevirtual 72, 3) := dk_182 0 72 (dk_at dksX7_laws_0 16 rfl rfl)
theorem dX7_laws_19 : decode cX7_laws 19 = .ok (.ifCond .eq 7, 3) := dk_153 0 7 (dk_at dksX7_laws_0 19 rfl rfl)
theorem dX7_laws_22 : decode cX7_laws 22 = .ok (.iconst 1, 1) := dk_4 (dk_at dksX7_laws_0 22 rfl rfl)
theorem dX7_laws_23 : decode cX7_laws 23 = .ok (.goto 30, 3) := dk_167 0 30 (dk_at dksX7_laws_1 0 rfl rfl)
theorem dX7_laws_26 : decode cX7_laws 26 = .ok (.aload_n 0, 1) := dk_42 (dk_at dksX7_laws_1 3 rfl rfl)
theorem dX7_laws_27 : decode cX7_laws 27 = .ok (.ldc 105, 2) := dk_18 105 (dk_at dksX7_laws_1 4 rfl rfl)
theorem dX7_laws_29 : decode cX7_laws 29 = .ok (.invokevirtual 72, 3) := dk_182 0 72 (dk_at dksX7_laws_1 6 rfl rfl)
theorem dX7_laws_32 : decode cX7_laws 32 = .ok (.ifCond .eq 7, 3) := dk_153 0 7 (dk_at dksX7_laws_1 9 rfl rfl)
theorem dX7_laws_35 : decode cX7_laws 35 = .ok (.iconst 2, 1) := dk_5 (dk_at dksX7_laws_1 12 rfl rfl)
theorem dX7_laws_36 : decode cX7_laws 36 = .ok (.goto 17, 3) := dk_167 0 17 (dk_at dksX7_laws_1 13 rfl rfl)
theorem dX7_laws_39 : decode cX7_laws 39 = .ok (.aload_n 0, 1) := dk_42 (dk_at dksX7_laws_1 16 rfl rfl)
theorem dX7_laws_40 : decode cX7_laws 40 = .ok (.ldc 107, 2) := dk_18 107 (dk_at dksX7_laws_1 17 rfl rfl)
theorem dX7_laws_42 : decode cX7_laws 42 = .ok (.invokevirtual 72, 3) := dk_182 0 72 (dk_at dksX7_laws_1 19 rfl rfl)
theorem dX7_laws_45 : decode cX7_laws 45 = .ok (.ifCond .eq 7, 3) := dk_153 0 7 (dk_at dksX7_laws_2 0 rfl rfl)
theorem dX7_laws_48 : decode cX7_laws 48 = .ok (.iconst 3, 1) := dk_6 (dk_at dksX7_laws_2 3 rfl rfl)
theorem dX7_laws_49 : decode cX7_laws 49 = .ok (.goto 4, 3) := dk_167 0 4 (dk_at dksX7_laws_2 4 rfl rfl)
theorem dX7_laws_52 : decode cX7_laws 52 = .ok (.iconst (-1), 1) := dk_2 (dk_at dksX7_laws_2 7 rfl rfl)
theorem dX7_laws_53 : decode cX7_laws 53 = .ok (.ireturn, 1) := dk_172 (dk_at dksX7_laws_2 8 rfl rfl)
abbrev cX7_wrong : ByteArray := prog_9_method_7_code
def yX7_wrong : MethodName := ⟨RX7, "wrong", "()LLetMe$Bad;"⟩
def dkwX7_wrong_1 : List UInt8 := [182, 0, 59, 176]
abbrev dktX7_wrong_1 : List UInt8 := dkwX7_wrong_1 ++ []
def dkwX7_wrong_0 : List UInt8 := [42, 180, 0, 3, 180, 0, 55, 42, 180, 0, 32, 7, 160, 0, 7, 4, 167, 0, 4, 5, 42, 180, 0, 29]
abbrev dktX7_wrong_0 : List UInt8 := dkwX7_wrong_0 ++ dktX7_wrong_1
theorem dksX7_wrong_0 : cX7_wrong.data.toList.drop 0 = dktX7_wrong_0 := by decide +kernel
theorem dksX7_wrong_1 : cX7_wrong.data.toList.drop 24 = dktX7_wrong_1 := dk_seg dksX7_wrong_0 24 rfl rfl
theorem dX7_wrong_0 : decode cX7_wrong 0 = .ok (.aload_n 0, 1) := dk_42 (dk_at dksX7_wrong_0 0 rfl rfl)
theorem dX7_wrong_1 : decode cX7_wrong 1 = .ok (.getfield 3, 3) := dk_180 0 3 (dk_at dksX7_wrong_0 1 rfl rfl)
theorem dX7_wrong_4 : decode cX7_wrong 4 = .ok (.getfield 55, 3) := dk_180 0 55 (dk_at dksX7_wrong_0 4 rfl rfl)
theorem dX7_wrong_7 : decode cX7_wrong 7 = .ok (.aload_n 0, 1) := dk_42 (dk_at dksX7_wrong_0 7 rfl rfl)
theorem dX7_wrong_8 : decode cX7_wrong 8 = .ok (.getfield 32, 3) := dk_180 0 32 (dk_at dksX7_wrong_0 8 rfl rfl)
theorem dX7_wrong_11 : decode cX7_wrong 11 = .ok (.iconst 4, 1) := dk_7 (dk_at dksX7_wrong_0 11 rfl rfl)
theorem dX7_wrong_12 : decode cX7_wrong 12 = .ok (.if_icmp .ne 7, 3) := dk_160 0 7 (dk_at dksX7_wrong_0 12 rfl rfl)
theorem dX7_wrong_15 : decode cX7_wrong 15 = .ok (.iconst 1, 1) := dk_4 (dk_at dksX7_wrong_0 15 rfl rfl)
theorem dX7_wrong_16 : decode cX7_wrong 16 = .ok (.goto 4, 3) := dk_167 0 4 (dk_at dksX7_wrong_0 16 rfl rfl)
theorem dX7_wrong_19 : decode cX7_wrong 19 = .ok (.iconst 2, 1) := dk_5 (dk_at dksX7_wrong_0 19 rfl rfl)
theorem dX7_wrong_20 : decode cX7_wrong 20 = .ok (.aload_n 0, 1) := dk_42 (dk_at dksX7_wrong_0 20 rfl rfl)
theorem dX7_wrong_21 : decode cX7_wrong 21 = .ok (.getfield 29, 3) := dk_180 0 29 (dk_at dksX7_wrong_0 21 rfl rfl)
theorem dX7_wrong_24 : decode cX7_wrong 24 = .ok (.invokevirtual 59, 3) := dk_182 0 59 (dk_at dksX7_wrong_1 0 rfl rfl)
theorem dX7_wrong_27 : decode cX7_wrong 27 = .ok (.areturn, 1) := dk_176 (dk_at dksX7_wrong_1 3 rfl rfl)
abbrev cX7_perhaps : ByteArray := prog_9_method_11_code
def yX7_perhaps : MethodName := ⟨RX7, "perhaps", "(Ljava/lang/String;III)I"⟩
def dkwX7_perhaps_0 : List UInt8 := [42, 43, 182, 0, 72, 154, 0, 6, 21, 4, 172, 42, 182, 0, 19, 42, 28, 29, 182, 0, 76, 172]
abbrev dktX7_perhaps_0 : List UInt8 := dkwX7_perhaps_0 ++ []
theorem dksX7_perhaps_0 : cX7_perhaps.data.toList.drop 0 = dktX7_perhaps_0 := by decide +kernel
theorem dX7_perhaps_0 : decode cX7_perhaps 0 = .ok (.aload_n 0, 1) := dk_42 (dk_at dksX7_perhaps_0 0 rfl rfl)
theorem dX7_perhaps_1 : decode cX7_perhaps 1 = .ok (.aload_n 1, 1) := dk_43 (dk_at dksX7_perhaps_0 1 rfl rfl)
theorem dX7_perhaps_2 : decode cX7_perhaps 2 = .ok (.invokevirtual 72, 3) := dk_182 0 72 (dk_at dksX7_perhaps_0 2 rfl rfl)
theorem dX7_perhaps_5 : decode cX7_perhaps 5 = .ok (.ifCond .ne 6, 3) := dk_154 0 6 (dk_at dksX7_perhaps_0 5 rfl rfl)
theorem dX7_perhaps_8 : decode cX7_perhaps 8 = .ok (.iload 4, 2) := dk_21 4 (dk_at dksX7_perhaps_0 8 rfl rfl)
theorem dX7_perhaps_10 : decode cX7_perhaps 10 = .ok (.ireturn, 1) := dk_172 (dk_at dksX7_perhaps_0 10 rfl rfl)
theorem dX7_perhaps_11 : decode cX7_perhaps 11 = .ok (.aload_n 0, 1) := dk_42 (dk_at dksX7_perhaps_0 11 rfl rfl)
theorem dX7_perhaps_12 : decode cX7_perhaps 12 = .ok (.invokevirtual 19, 3) := dk_182 0 19 (dk_at dksX7_perhaps_0 12 rfl rfl)
theorem dX7_perhaps_15 : decode cX7_perhaps 15 = .ok (.aload_n 0, 1) := dk_42 (dk_at dksX7_perhaps_0 15 rfl rfl)
theorem dX7_perhaps_16 : decode cX7_perhaps 16 = .ok (.iload_n 2, 1) := dk_28 (dk_at dksX7_perhaps_0 16 rfl rfl)
theorem dX7_perhaps_17 : decode cX7_perhaps 17 = .ok (.iload_n 3, 1) := dk_29 (dk_at dksX7_perhaps_0 17 rfl rfl)
theorem dX7_perhaps_18 : decode cX7_perhaps 18 = .ok (.invokevirtual 76, 3) := dk_182 0 76 (dk_at dksX7_perhaps_0 18 rfl rfl)
theorem dX7_perhaps_21 : decode cX7_perhaps 21 = .ok (.ireturn, 1) := dk_172 (dk_at dksX7_perhaps_0 21 rfl rfl)
abbrev cX7_number : ByteArray := prog_9_method_10_code
def yX7_number : MethodName := ⟨RX7, "number", "(II)I"⟩
def dkwX7_number_2 : List UInt8 := [180, 0, 42, 62, 42, 182, 0, 19, 29, 172]
abbrev dktX7_number_2 : List UInt8 := dkwX7_number_2 ++ []
def dkwX7_number_1 : List UInt8 := [180, 0, 42, 28, 164, 0, 19, 42, 180, 0, 3, 180, 0, 55, 7, 42, 180, 0, 29, 182, 0, 59, 191, 42]
abbrev dktX7_number_1 : List UInt8 := dkwX7_number_1 ++ dktX7_number_2
def dkwX7_number_0 : List UInt8 := [42, 180, 0, 32, 5, 159, 0, 8, 42, 182, 0, 68, 191, 42, 180, 0, 42, 27, 161, 0, 11, 42]
abbrev dktX7_number_0 : List UInt8 := dkwX7_number_0 ++ dktX7_number_1
theorem dksX7_number_0 : cX7_number.data.toList.drop 0 = dktX7_number_0 := by decide +kernel
theorem dksX7_number_1 : cX7_number.data.toList.drop 22 = dktX7_number_1 := dk_seg dksX7_number_0 22 rfl rfl
theorem dksX7_number_2 : cX7_number.data.toList.drop 46 = dktX7_number_2 := dk_seg dksX7_number_1 24 rfl rfl
theorem dX7_number_0 : decode cX7_number 0 = .ok (.aload_n 0, 1) := dk_42 (dk_at dksX7_number_0 0 rfl rfl)
theorem dX7_number_1 : decode cX7_number 1 = .ok (.getfield 32, 3) := dk_180 0 32 (dk_at dksX7_number_0 1 rfl rfl)
theorem dX7_number_4 : decode cX7_number 4 = .ok (.iconst 2, 1) := dk_5 (dk_at dksX7_number_0 4 rfl rfl)
theorem dX7_number_5 : decode cX7_number 5 = .ok (.if_icmp .eq 8, 3) := dk_159 0 8 (dk_at dksX7_number_0 5 rfl rfl)
theorem dX7_number_8 : decode cX7_number 8 = .ok (.aload_n 0, 1) := dk_42 (dk_at dksX7_number_0 8 rfl rfl)
theorem dX7_number_9 : decode cX7_number 9 = .ok (.invokevirtual 68, 3) := dk_182 0 68 (dk_at dksX7_number_0 9 rfl rfl)
theorem dX7_number_12 : decode cX7_number 12 = .ok (.athrow, 1) := dk_191 (dk_at dksX7_number_0 12 rfl rfl)
theorem dX7_number_13 : decode cX7_number 13 = .ok (.aload_n 0, 1) := dk_42 (dk_at dksX7_number_0 13 rfl rfl)
theorem dX7_number_14 : decode cX7_number 14 = .ok (.getfield 42, 3) := dk_180 0 42 (dk_at dksX7_number_0 14 rfl rfl)
theorem dX7_number_17 : decode cX7_number 17 = .ok (.iload_n 1, 1) := dk_27 (dk_at dksX7_number_0 17 rfl rfl)
theorem dX7_number_18 : decode cX7_number 18 = .ok (.if_icmp .lt 11, 3) := dk_161 0 11 (dk_at dksX7_number_0 18 rfl rfl)
theorem dX7_number_21 : decode cX7_number 21 = .ok (.aload_n 0, 1) := dk_42 (dk_at dksX7_number_0 21 rfl rfl)
theorem dX7_number_22 : decode cX7_number 22 = .ok (.getfield 42, 3) := dk_180 0 42 (dk_at dksX7_number_1 0 rfl rfl)
theorem dX7_number_25 : decode cX7_number 25 = .ok (.iload_n 2, 1) := dk_28 (dk_at dksX7_number_1 3 rfl rfl)
theorem dX7_number_26 : decode cX7_number 26 = .ok (.if_icmp .le 19, 3) := dk_164 0 19 (dk_at dksX7_number_1 4 rfl rfl)
theorem dX7_number_29 : decode cX7_number 29 = .ok (.aload_n 0, 1) := dk_42 (dk_at dksX7_number_1 7 rfl rfl)
theorem dX7_number_30 : decode cX7_number 30 = .ok (.getfield 3, 3) := dk_180 0 3 (dk_at dksX7_number_1 8 rfl rfl)
theorem dX7_number_33 : decode cX7_number 33 = .ok (.getfield 55, 3) := dk_180 0 55 (dk_at dksX7_number_1 11 rfl rfl)
theorem dX7_number_36 : decode cX7_number 36 = .ok (.iconst 4, 1) := dk_7 (dk_at dksX7_number_1 14 rfl rfl)
theorem dX7_number_37 : decode cX7_number 37 = .ok (.aload_n 0, 1) := dk_42 (dk_at dksX7_number_1 15 rfl rfl)
theorem dX7_number_38 : decode cX7_number 38 = .ok (.getfield 29, 3) := dk_180 0 29 (dk_at dksX7_number_1 16 rfl rfl)
theorem dX7_number_41 : decode cX7_number 41 = .ok (.invokevirtual 59, 3) := dk_182 0 59 (dk_at dksX7_number_1 19 rfl rfl)
theorem dX7_number_44 : decode cX7_number 44 = .ok (.athrow, 1) := dk_191 (dk_at dksX7_number_1 22 rfl rfl)
theorem dX7_number_45 : decode cX7_number 45 = .ok (.aload_n 0, 1) := dk_42 (dk_at dksX7_number_1 23 rfl rfl)
theorem dX7_number_46 : decode cX7_number 46 = .ok (.getfield 42, 3) := dk_180 0 42 (dk_at dksX7_number_2 0 rfl rfl)
theorem dX7_number_49 : decode cX7_number 49 = .ok (.istore_n 3, 1) := dk_62 (dk_at dksX7_number_2 3 rfl rfl)
theorem dX7_number_50 : decode cX7_number 50 = .ok (.aload_n 0, 1) := dk_42 (dk_at dksX7_number_2 4 rfl rfl)
theorem dX7_number_51 : decode cX7_number 51 = .ok (.invokevirtual 19, 3) := dk_182 0 19 (dk_at dksX7_number_2 5 rfl rfl)
theorem dX7_number_54 : decode cX7_number 54 = .ok (.iload_n 3, 1) := dk_29 (dk_at dksX7_number_2 8 rfl rfl)
theorem dX7_number_55 : decode cX7_number 55 = .ok (.ireturn, 1) := dk_172 (dk_at dksX7_number_2 9 rfl rfl)
abbrev cX7_couple : ByteArray := prog_9_method_24_code
def yX7_couple : MethodName := ⟨RX7, "couple", "(LLetMe$Table;)V"⟩
def dkwX7_couple_3 : List UInt8 := [181, 0, 223, 177]
abbrev dktX7_couple_3 : List UInt8 := dkwX7_couple_3 ++ []
def dkwX7_couple_2 : List UInt8 := [50, 29, 181, 0, 220, 43, 180, 0, 217, 29, 50, 28, 181, 0, 220, 43, 89, 180, 0, 223, 4, 96]
abbrev dktX7_couple_2 : List UInt8 := dkwX7_couple_2 ++ dktX7_couple_3
def dkwX7_couple_1 : List UInt8 := [191, 42, 182, 0, 19, 42, 43, 2, 182, 0, 225, 61, 42, 43, 28, 182, 0, 225, 62, 43, 180, 0, 217, 28]
abbrev dktX7_couple_1 : List UInt8 := dkwX7_couple_1 ++ dktX7_couple_2
def dkwX7_couple_0 : List UInt8 := [43, 180, 0, 223, 6, 160, 0, 20, 42, 180, 0, 3, 180, 0, 55, 16, 6, 42, 180, 0, 29, 182, 0, 59]
abbrev dktX7_couple_0 : List UInt8 := dkwX7_couple_0 ++ dktX7_couple_1
theorem dksX7_couple_0 : cX7_couple.data.toList.drop 0 = dktX7_couple_0 := by decide +kernel
theorem dksX7_couple_1 : cX7_couple.data.toList.drop 24 = dktX7_couple_1 := dk_seg dksX7_couple_0 24 rfl rfl
theorem dksX7_couple_2 : cX7_couple.data.toList.drop 48 = dktX7_couple_2 := dk_seg dksX7_couple_1 24 rfl rfl
theorem dksX7_couple_3 : cX7_couple.data.toList.drop 70 = dktX7_couple_3 := dk_seg dksX7_couple_2 22 rfl rfl
theorem dX7_couple_0 : decode cX7_couple 0 = .ok (.aload_n 1, 1) := dk_43 (dk_at dksX7_couple_0 0 rfl rfl)
theorem dX7_couple_1 : decode cX7_couple 1 = .ok (.getfield 223, 3) := dk_180 0 223 (dk_at dksX7_couple_0 1 rfl rfl)
theorem dX7_couple_4 : decode cX7_couple 4 = .ok (.iconst 3, 1) := dk_6 (dk_at dksX7_couple_0 4 rfl rfl)
theorem dX7_couple_5 : decode cX7_couple 5 = .ok (.if_icmp .ne 20, 3) := dk_160 0 20 (dk_at dksX7_couple_0 5 rfl rfl)
theorem dX7_couple_8 : decode cX7_couple 8 = .ok (.aload_n 0, 1) := dk_42 (dk_at dksX7_couple_0 8 rfl rfl)
theorem dX7_couple_9 : decode cX7_couple 9 = .ok (.getfield 3, 3) := dk_180 0 3 (dk_at dksX7_couple_0 9 rfl rfl)
theorem dX7_couple_12 : decode cX7_couple 12 = .ok (.getfield 55, 3) := dk_180 0 55 (dk_at dksX7_couple_0 12 rfl rfl)
theorem dX7_couple_15 : decode cX7_couple 15 = .ok (.bipush 6, 2) := dk_16 6 (dk_at dksX7_couple_0 15 rfl rfl)
theorem dX7_couple_17 : decode cX7_couple 17 = .ok (.aload_n 0, 1) := dk_42 (dk_at dksX7_couple_0 17 rfl rfl)
theorem dX7_couple_18 : decode cX7_couple 18 = .ok (.getfield 29, 3) := dk_180 0 29 (dk_at dksX7_couple_0 18 rfl rfl)
theorem dX7_couple_21 : decode cX7_couple 21 = .ok (.invokevirtual 59, 3) := dk_182 0 59 (dk_at dksX7_couple_0 21 rfl rfl)
theorem dX7_couple_24 : decode cX7_couple 24 = .ok (.athrow, 1) := dk_191 (dk_at dksX7_couple_1 0 rfl rfl)
theorem dX7_couple_25 : decode cX7_couple 25 = .ok (.aload_n 0, 1) := dk_42 (dk_at dksX7_couple_1 1 rfl rfl)
theorem dX7_couple_26 : decode cX7_couple 26 = .ok (.invokevirtual 19, 3) := dk_182 0 19 (dk_at dksX7_couple_1 2 rfl rfl)
theorem dX7_couple_29 : decode cX7_couple 29 = .ok (.aload_n 0, 1) := dk_42 (dk_at dksX7_couple_1 5 rfl rfl)
theorem dX7_couple_30 : decode cX7_couple 30 = .ok (.aload_n 1, 1) := dk_43 (dk_at dksX7_couple_1 6 rfl rfl)
theorem dX7_couple_31 : decode cX7_couple 31 = .ok (.iconst (-1), 1) := dk_2 (dk_at dksX7_couple_1 7 rfl rfl)
theorem dX7_couple_32 : decode cX7_couple 32 = .ok (.invokevirtual 225, 3) := dk_182 0 225 (dk_at dksX7_couple_1 8 rfl rfl)
theorem dX7_couple_35 : decode cX7_couple 35 = .ok (.istore_n 2, 1) := dk_61 (dk_at dksX7_couple_1 11 rfl rfl)
theorem dX7_couple_36 : decode cX7_couple 36 = .ok (.aload_n 0, 1) := dk_42 (dk_at dksX7_couple_1 12 rfl rfl)
theorem dX7_couple_37 : decode cX7_couple 37 = .ok (.aload_n 1, 1) := dk_43 (dk_at dksX7_couple_1 13 rfl rfl)
theorem dX7_couple_38 : decode cX7_couple 38 = .ok (.iload_n 2, 1) := dk_28 (dk_at dksX7_couple_1 14 rfl rfl)
theorem dX7_couple_39 : decode cX7_couple 39 = .ok (.invokevirtual 225, 3) := dk_182 0 225 (dk_at dksX7_couple_1 15 rfl rfl)
theorem dX7_couple_42 : decode cX7_couple 42 = .ok (.istore_n 3, 1) := dk_62 (dk_at dksX7_couple_1 18 rfl rfl)
theorem dX7_couple_43 : decode cX7_couple 43 = .ok (.aload_n 1, 1) := dk_43 (dk_at dksX7_couple_1 19 rfl rfl)
theorem dX7_couple_44 : decode cX7_couple 44 = .ok (.getfield 217, 3) := dk_180 0 217 (dk_at dksX7_couple_1 20 rfl rfl)
theorem dX7_couple_47 : decode cX7_couple 47 = .ok (.iload_n 2, 1) := dk_28 (dk_at dksX7_couple_1 23 rfl rfl)
theorem dX7_couple_48 : decode cX7_couple 48 = .ok (.aaload, 1) := dk_50 (dk_at dksX7_couple_2 0 rfl rfl)
theorem dX7_couple_49 : decode cX7_couple 49 = .ok (.iload_n 3, 1) := dk_29 (dk_at dksX7_couple_2 1 rfl rfl)
theorem dX7_couple_50 : decode cX7_couple 50 = .ok (.putfield 220, 3) := dk_181 0 220 (dk_at dksX7_couple_2 2 rfl rfl)
theorem dX7_couple_53 : decode cX7_couple 53 = .ok (.aload_n 1, 1) := dk_43 (dk_at dksX7_couple_2 5 rfl rfl)
theorem dX7_couple_54 : decode cX7_couple 54 = .ok (.getfield 217, 3) := dk_180 0 217 (dk_at dksX7_couple_2 6 rfl rfl)
theorem dX7_couple_57 : decode cX7_couple 57 = .ok (.iload_n 3, 1) := dk_29 (dk_at dksX7_couple_2 9 rfl rfl)
theorem dX7_couple_58 : decode cX7_couple 58 = .ok (.aaload, 1) := dk_50 (dk_at dksX7_couple_2 10 rfl rfl)
theorem dX7_couple_59 : decode cX7_couple 59 = .ok (.iload_n 2, 1) := dk_28 (dk_at dksX7_couple_2 11 rfl rfl)
theorem dX7_couple_60 : decode cX7_couple 60 = .ok (.putfield 220, 3) := dk_181 0 220 (dk_at dksX7_couple_2 12 rfl rfl)
theorem dX7_couple_63 : decode cX7_couple 63 = .ok (.aload_n 1, 1) := dk_43 (dk_at dksX7_couple_2 15 rfl rfl)
theorem dX7_couple_64 : decode cX7_couple 64 = .ok (.dup, 1) := dk_89 (dk_at dksX7_couple_2 16 rfl rfl)
theorem dX7_couple_65 : decode cX7_couple 65 = .ok (.getfield 223, 3) := dk_180 0 223 (dk_at dksX7_couple_2 17 rfl rfl)
theorem dX7_couple_68 : decode cX7_couple 68 = .ok (.iconst 1, 1) := dk_4 (dk_at dksX7_couple_2 20 rfl rfl)
theorem dX7_couple_69 : decode cX7_couple 69 = .ok (.iadd, 1) := dk_96 (dk_at dksX7_couple_2 21 rfl rfl)
theorem dX7_couple_70 : decode cX7_couple 70 = .ok (.putfield 223, 3) := dk_181 0 223 (dk_at dksX7_couple_3 0 rfl rfl)
theorem dX7_couple_73 : decode cX7_couple 73 = .ok (.return_, 1) := dk_177 (dk_at dksX7_couple_3 3 rfl rfl)
abbrev cX7_single : ByteArray := prog_9_method_23_code
def yX7_single : MethodName := ⟨RX7, "single", "(LLetMe$Table;I)I"⟩
def dkwX7_single_1 : List UInt8 := [180, 0, 3, 180, 0, 55, 8, 42, 180, 0, 29, 182, 0, 59, 191, 42, 182, 0, 19, 29, 172]
abbrev dktX7_single_1 : List UInt8 := dkwX7_single_1 ++ []
def dkwX7_single_0 : List UInt8 := [42, 43, 182, 0, 167, 62, 29, 28, 159, 0, 15, 43, 180, 0, 217, 29, 50, 180, 0, 220, 155, 0, 19, 42]
abbrev dktX7_single_0 : List UInt8 := dkwX7_single_0 ++ dktX7_single_1
theorem dksX7_single_0 : cX7_single.data.toList.drop 0 = dktX7_single_0 := by decide +kernel
theorem dksX7_single_1 : cX7_single.data.toList.drop 24 = dktX7_single_1 := dk_seg dksX7_single_0 24 rfl rfl
theorem dX7_single_0 : decode cX7_single 0 = .ok (.aload_n 0, 1) := dk_42 (dk_at dksX7_single_0 0 rfl rfl)
theorem dX7_single_1 : decode cX7_single 1 = .ok (.aload_n 1, 1) := dk_43 (dk_at dksX7_single_0 1 rfl rfl)
theorem dX7_single_2 : decode cX7_single 2 = .ok (.invokevirtual 167, 3) := dk_182 0 167 (dk_at dksX7_single_0 2 rfl rfl)
theorem dX7_single_5 : decode cX7_single 5 = .ok (.istore_n 3, 1) := dk_62 (dk_at dksX7_single_0 5 rfl rfl)
theorem dX7_single_6 : decode cX7_single 6 = .ok (.iload_n 3, 1) := dk_29 (dk_at dksX7_single_0 6 rfl rfl)
theorem dX7_single_7 : decode cX7_single 7 = .ok (.iload_n 2, 1) := dk_28 (dk_at dksX7_single_0 7 rfl rfl)
theorem dX7_single_8 : decode cX7_single 8 = .ok (.if_icmp .eq 15, 3) := dk_159 0 15 (dk_at dksX7_single_0 8 rfl rfl)
theorem dX7_single_11 : decode cX7_single 11 = .ok (.aload_n 1, 1) := dk_43 (dk_at dksX7_single_0 11 rfl rfl)
theorem dX7_single_12 : decode cX7_single 12 = .ok (.getfield 217, 3) := dk_180 0 217 (dk_at dksX7_single_0 12 rfl rfl)
theorem dX7_single_15 : decode cX7_single 15 = .ok (.iload_n 3, 1) := dk_29 (dk_at dksX7_single_0 15 rfl rfl)
theorem dX7_single_16 : decode cX7_single 16 = .ok (.aaload, 1) := dk_50 (dk_at dksX7_single_0 16 rfl rfl)
theorem dX7_single_17 : decode cX7_single 17 = .ok (.getfield 220, 3) := dk_180 0 220 (dk_at dksX7_single_0 17 rfl rfl)
theorem dX7_single_20 : decode cX7_single 20 = .ok (.ifCond .lt 19, 3) := dk_155 0 19 (dk_at dksX7_single_0 20 rfl rfl)
theorem dX7_single_23 : decode cX7_single 23 = .ok (.aload_n 0, 1) := dk_42 (dk_at dksX7_single_0 23 rfl rfl)
theorem dX7_single_24 : decode cX7_single 24 = .ok (.getfield 3, 3) := dk_180 0 3 (dk_at dksX7_single_1 0 rfl rfl)
theorem dX7_single_27 : decode cX7_single 27 = .ok (.getfield 55, 3) := dk_180 0 55 (dk_at dksX7_single_1 3 rfl rfl)
theorem dX7_single_30 : decode cX7_single 30 = .ok (.iconst 5, 1) := dk_8 (dk_at dksX7_single_1 6 rfl rfl)
theorem dX7_single_31 : decode cX7_single 31 = .ok (.aload_n 0, 1) := dk_42 (dk_at dksX7_single_1 7 rfl rfl)
theorem dX7_single_32 : decode cX7_single 32 = .ok (.getfield 29, 3) := dk_180 0 29 (dk_at dksX7_single_1 8 rfl rfl)
theorem dX7_single_35 : decode cX7_single 35 = .ok (.invokevirtual 59, 3) := dk_182 0 59 (dk_at dksX7_single_1 11 rfl rfl)
theorem dX7_single_38 : decode cX7_single 38 = .ok (.athrow, 1) := dk_191 (dk_at dksX7_single_1 14 rfl rfl)
theorem dX7_single_39 : decode cX7_single 39 = .ok (.aload_n 0, 1) := dk_42 (dk_at dksX7_single_1 15 rfl rfl)
theorem dX7_single_40 : decode cX7_single 40 = .ok (.invokevirtual 19, 3) := dk_182 0 19 (dk_at dksX7_single_1 16 rfl rfl)
theorem dX7_single_43 : decode cX7_single 43 = .ok (.iload_n 3, 1) := dk_29 (dk_at dksX7_single_1 19 rfl rfl)
theorem dX7_single_44 : decode cX7_single 44 = .ok (.ireturn, 1) := dk_172 (dk_at dksX7_single_1 20 rfl rfl)
abbrev cX7_known : ByteArray := prog_9_method_18_code
def yX7_known : MethodName := ⟨RX7, "known", "(LLetMe$Table;)I"⟩
def dkwX7_known_1 : List UInt8 := [180, 0, 29, 182, 0, 59, 191, 28, 172]
abbrev dktX7_known_1 : List UInt8 := dkwX7_known_1 ++ []
def dkwX7_known_0 : List UInt8 := [43, 42, 182, 0, 157, 182, 0, 161, 61, 28, 156, 0, 19, 42, 180, 0, 3, 180, 0, 55, 6, 42]
abbrev dktX7_known_0 : List UInt8 := dkwX7_known_0 ++ dktX7_known_1
theorem dksX7_known_0 : cX7_known.data.toList.drop 0 = dktX7_known_0 := by decide +kernel
theorem dksX7_known_1 : cX7_known.data.toList.drop 22 = dktX7_known_1 := dk_seg dksX7_known_0 22 rfl rfl
theorem dX7_known_0 : decode cX7_known 0 = .ok (.aload_n 1, 1) := dk_43 (dk_at dksX7_known_0 0 rfl rfl)
theorem dX7_known_1 : decode cX7_known 1 = .ok (.aload_n 0, 1) := dk_42 (dk_at dksX7_known_0 1 rfl rfl)
theorem dX7_known_2 : decode cX7_known 2 = .ok (.invokevirtual 157, 3) := dk_182 0 157 (dk_at dksX7_known_0 2 rfl rfl)
theorem dX7_known_5 : decode cX7_known 5 = .ok (.invokevirtual 161, 3) := dk_182 0 161 (dk_at dksX7_known_0 5 rfl rfl)
theorem dX7_known_8 : decode cX7_known 8 = .ok (.istore_n 2, 1) := dk_61 (dk_at dksX7_known_0 8 rfl rfl)
theorem dX7_known_9 : decode cX7_known 9 = .ok (.iload_n 2, 1) := dk_28 (dk_at dksX7_known_0 9 rfl rfl)
theorem dX7_known_10 : decode cX7_known 10 = .ok (.ifCond .ge 19, 3) := dk_156 0 19 (dk_at dksX7_known_0 10 rfl rfl)
theorem dX7_known_13 : decode cX7_known 13 = .ok (.aload_n 0, 1) := dk_42 (dk_at dksX7_known_0 13 rfl rfl)
theorem dX7_known_14 : decode cX7_known 14 = .ok (.getfield 3, 3) := dk_180 0 3 (dk_at dksX7_known_0 14 rfl rfl)
theorem dX7_known_17 : decode cX7_known 17 = .ok (.getfield 55, 3) := dk_180 0 55 (dk_at dksX7_known_0 17 rfl rfl)
theorem dX7_known_20 : decode cX7_known 20 = .ok (.iconst 3, 1) := dk_6 (dk_at dksX7_known_0 20 rfl rfl)
theorem dX7_known_21 : decode cX7_known 21 = .ok (.aload_n 0, 1) := dk_42 (dk_at dksX7_known_0 21 rfl rfl)
theorem dX7_known_22 : decode cX7_known 22 = .ok (.getfield 29, 3) := dk_180 0 29 (dk_at dksX7_known_1 0 rfl rfl)
theorem dX7_known_25 : decode cX7_known 25 = .ok (.invokevirtual 59, 3) := dk_182 0 59 (dk_at dksX7_known_1 3 rfl rfl)
theorem dX7_known_28 : decode cX7_known 28 = .ok (.athrow, 1) := dk_191 (dk_at dksX7_known_1 6 rfl rfl)
theorem dX7_known_29 : decode cX7_known 29 = .ok (.iload_n 2, 1) := dk_28 (dk_at dksX7_known_1 7 rfl rfl)
theorem dX7_known_30 : decode cX7_known 30 = .ok (.ireturn, 1) := dk_172 (dk_at dksX7_known_1 8 rfl rfl)
abbrev cX7_dish : ByteArray := prog_9_method_25_code
def yX7_dish : MethodName := ⟨RX7, "dish", "(LLetMe$Table;)V"⟩
def dkwX7_dish_2 : List UInt8 := [182, 0, 72, 153, 0, 13, 42, 182, 0, 19, 42, 43, 182, 0, 232, 62, 43, 28, 29, 182, 0, 235, 177]
abbrev dktX7_dish_2 : List UInt8 := dkwX7_dish_2 ++ []
def dkwX7_dish_1 : List UInt8 := [182, 0, 59, 191, 42, 182, 0, 19, 42, 4, 17, 3, 231, 182, 0, 76, 61, 2, 62, 42, 18, 121]
abbrev dktX7_dish_1 : List UInt8 := dkwX7_dish_1 ++ dktX7_dish_2
def dkwX7_dish_0 : List UInt8 := [43, 180, 0, 229, 16, 16, 160, 0, 20, 42, 180, 0, 3, 180, 0, 55, 16, 6, 42, 180, 0, 29]
abbrev dktX7_dish_0 : List UInt8 := dkwX7_dish_0 ++ dktX7_dish_1
theorem dksX7_dish_0 : cX7_dish.data.toList.drop 0 = dktX7_dish_0 := by decide +kernel
theorem dksX7_dish_1 : cX7_dish.data.toList.drop 22 = dktX7_dish_1 := dk_seg dksX7_dish_0 22 rfl rfl
theorem dksX7_dish_2 : cX7_dish.data.toList.drop 44 = dktX7_dish_2 := dk_seg dksX7_dish_1 22 rfl rfl
theorem dX7_dish_0 : decode cX7_dish 0 = .ok (.aload_n 1, 1) := dk_43 (dk_at dksX7_dish_0 0 rfl rfl)
theorem dX7_dish_1 : decode cX7_dish 1 = .ok (.getfield 229, 3) := dk_180 0 229 (dk_at dksX7_dish_0 1 rfl rfl)
theorem dX7_dish_4 : decode cX7_dish 4 = .ok (.bipush 16, 2) := dk_16 16 (dk_at dksX7_dish_0 4 rfl rfl)
theorem dX7_dish_6 : decode cX7_dish 6 = .ok (.if_icmp .ne 20, 3) := dk_160 0 20 (dk_at dksX7_dish_0 6 rfl rfl)
theorem dX7_dish_9 : decode cX7_dish 9 = .ok (.aload_n 0, 1) := dk_42 (dk_at dksX7_dish_0 9 rfl rfl)
theorem dX7_dish_10 : decode cX7_dish 10 = .ok (.getfield 3, 3) := dk_180 0 3 (dk_at dksX7_dish_0 10 rfl rfl)
theorem dX7_dish_13 : decode cX7_dish 13 = .ok (.getfield 55, 3) := dk_180 0 55 (dk_at dksX7_dish_0 13 rfl rfl)
theorem dX7_dish_16 : decode cX7_dish 16 = .ok (.bipush 6, 2) := dk_16 6 (dk_at dksX7_dish_0 16 rfl rfl)
theorem dX7_dish_18 : decode cX7_dish 18 = .ok (.aload_n 0, 1) := dk_42 (dk_at dksX7_dish_0 18 rfl rfl)
theorem dX7_dish_19 : decode cX7_dish 19 = .ok (.getfield 29, 3) := dk_180 0 29 (dk_at dksX7_dish_0 19 rfl rfl)
theorem dX7_dish_22 : decode cX7_dish 22 = .ok (.invokevirtual 59, 3) := dk_182 0 59 (dk_at dksX7_dish_1 0 rfl rfl)
theorem dX7_dish_25 : decode cX7_dish 25 = .ok (.athrow, 1) := dk_191 (dk_at dksX7_dish_1 3 rfl rfl)
theorem dX7_dish_26 : decode cX7_dish 26 = .ok (.aload_n 0, 1) := dk_42 (dk_at dksX7_dish_1 4 rfl rfl)
theorem dX7_dish_27 : decode cX7_dish 27 = .ok (.invokevirtual 19, 3) := dk_182 0 19 (dk_at dksX7_dish_1 5 rfl rfl)
theorem dX7_dish_30 : decode cX7_dish 30 = .ok (.aload_n 0, 1) := dk_42 (dk_at dksX7_dish_1 8 rfl rfl)
theorem dX7_dish_31 : decode cX7_dish 31 = .ok (.iconst 1, 1) := dk_4 (dk_at dksX7_dish_1 9 rfl rfl)
theorem dX7_dish_32 : decode cX7_dish 32 = .ok (.sipush 999, 3) := dk_17 3 231 (dk_at dksX7_dish_1 10 rfl rfl)
theorem dX7_dish_35 : decode cX7_dish 35 = .ok (.invokevirtual 76, 3) := dk_182 0 76 (dk_at dksX7_dish_1 13 rfl rfl)
theorem dX7_dish_38 : decode cX7_dish 38 = .ok (.istore_n 2, 1) := dk_61 (dk_at dksX7_dish_1 16 rfl rfl)
theorem dX7_dish_39 : decode cX7_dish 39 = .ok (.iconst (-1), 1) := dk_2 (dk_at dksX7_dish_1 17 rfl rfl)
theorem dX7_dish_40 : decode cX7_dish 40 = .ok (.istore_n 3, 1) := dk_62 (dk_at dksX7_dish_1 18 rfl rfl)
theorem dX7_dish_41 : decode cX7_dish 41 = .ok (.aload_n 0, 1) := dk_42 (dk_at dksX7_dish_1 19 rfl rfl)
theorem dX7_dish_42 : decode cX7_dish 42 = .ok (.ldc 121, 2) := dk_18 121 (dk_at dksX7_dish_1 20 rfl rfl)
theorem dX7_dish_44 : decode cX7_dish 44 = .ok (.invokevirtual 72, 3) := dk_182 0 72 (dk_at dksX7_dish_2 0 rfl rfl)
theorem dX7_dish_47 : decode cX7_dish 47 = .ok (.ifCond .eq 13, 3) := dk_153 0 13 (dk_at dksX7_dish_2 3 rfl rfl)
theorem dX7_dish_50 : decode cX7_dish 50 = .ok (.aload_n 0, 1) := dk_42 (dk_at dksX7_dish_2 6 rfl rfl)
theorem dX7_dish_51 : decode cX7_dish 51 = .ok (.invokevirtual 19, 3) := dk_182 0 19 (dk_at dksX7_dish_2 7 rfl rfl)
theorem dX7_dish_54 : decode cX7_dish 54 = .ok (.aload_n 0, 1) := dk_42 (dk_at dksX7_dish_2 10 rfl rfl)
theorem dX7_dish_55 : decode cX7_dish 55 = .ok (.aload_n 1, 1) := dk_43 (dk_at dksX7_dish_2 11 rfl rfl)
theorem dX7_dish_56 : decode cX7_dish 56 = .ok (.invokevirtual 232, 3) := dk_182 0 232 (dk_at dksX7_dish_2 12 rfl rfl)
theorem dX7_dish_59 : decode cX7_dish 59 = .ok (.istore_n 3, 1) := dk_62 (dk_at dksX7_dish_2 15 rfl rfl)
theorem dX7_dish_60 : decode cX7_dish 60 = .ok (.aload_n 1, 1) := dk_43 (dk_at dksX7_dish_2 16 rfl rfl)
theorem dX7_dish_61 : decode cX7_dish 61 = .ok (.iload_n 2, 1) := dk_28 (dk_at dksX7_dish_2 17 rfl rfl)
theorem dX7_dish_62 : decode cX7_dish 62 = .ok (.iload_n 3, 1) := dk_29 (dk_at dksX7_dish_2 18 rfl rfl)
theorem dX7_dish_63 : decode cX7_dish 63 = .ok (.invokevirtual 235, 3) := dk_182 0 235 (dk_at dksX7_dish_2 19 rfl rfl)
theorem dX7_dish_66 : decode cX7_dish 66 = .ok (.return_, 1) := dk_177 (dk_at dksX7_dish_2 22 rfl rfl)
abbrev cX7_who : ByteArray := prog_9_method_19_code
def yX7_who : MethodName := ⟨RX7, "who", "(LLetMe$Table;)I"⟩
def dkwX7_who_0 : List UInt8 := [42, 43, 182, 0, 167, 61, 42, 182, 0, 19, 28, 172]
abbrev dktX7_who_0 : List UInt8 := dkwX7_who_0 ++ []
theorem dksX7_who_0 : cX7_who.data.toList.drop 0 = dktX7_who_0 := by decide +kernel
theorem dX7_who_0 : decode cX7_who 0 = .ok (.aload_n 0, 1) := dk_42 (dk_at dksX7_who_0 0 rfl rfl)
theorem dX7_who_1 : decode cX7_who 1 = .ok (.aload_n 1, 1) := dk_43 (dk_at dksX7_who_0 1 rfl rfl)
theorem dX7_who_2 : decode cX7_who 2 = .ok (.invokevirtual 167, 3) := dk_182 0 167 (dk_at dksX7_who_0 2 rfl rfl)
theorem dX7_who_5 : decode cX7_who 5 = .ok (.istore_n 2, 1) := dk_61 (dk_at dksX7_who_0 5 rfl rfl)
theorem dX7_who_6 : decode cX7_who 6 = .ok (.aload_n 0, 1) := dk_42 (dk_at dksX7_who_0 6 rfl rfl)
theorem dX7_who_7 : decode cX7_who 7 = .ok (.invokevirtual 19, 3) := dk_182 0 19 (dk_at dksX7_who_0 7 rfl rfl)
theorem dX7_who_10 : decode cX7_who 10 = .ok (.iload_n 2, 1) := dk_28 (dk_at dksX7_who_0 10 rfl rfl)
theorem dX7_who_11 : decode cX7_who 11 = .ok (.ireturn, 1) := dk_172 (dk_at dksX7_who_0 11 rfl rfl)
abbrev cX7_owes : ByteArray := prog_9_method_26_code
def yX7_owes : MethodName := ⟨RX7, "owes", "(LLetMe$Table;)V"⟩
def dkwX7_owes_1 : List UInt8 := [17, 39, 15, 182, 0, 76, 182, 0, 242, 177]
abbrev dktX7_owes_1 : List UInt8 := dkwX7_owes_1 ++ []
def dkwX7_owes_0 : List UInt8 := [42, 182, 0, 19, 42, 43, 182, 0, 232, 61, 42, 43, 28, 182, 0, 239, 62, 43, 28, 29, 42, 3]
abbrev dktX7_owes_0 : List UInt8 := dkwX7_owes_0 ++ dktX7_owes_1
theorem dksX7_owes_0 : cX7_owes.data.toList.drop 0 = dktX7_owes_0 := by decide +kernel
theorem dksX7_owes_1 : cX7_owes.data.toList.drop 22 = dktX7_owes_1 := dk_seg dksX7_owes_0 22 rfl rfl
theorem dX7_owes_0 : decode cX7_owes 0 = .ok (.aload_n 0, 1) := dk_42 (dk_at dksX7_owes_0 0 rfl rfl)
theorem dX7_owes_1 : decode cX7_owes 1 = .ok (.invokevirtual 19, 3) := dk_182 0 19 (dk_at dksX7_owes_0 1 rfl rfl)
theorem dX7_owes_4 : decode cX7_owes 4 = .ok (.aload_n 0, 1) := dk_42 (dk_at dksX7_owes_0 4 rfl rfl)
theorem dX7_owes_5 : decode cX7_owes 5 = .ok (.aload_n 1, 1) := dk_43 (dk_at dksX7_owes_0 5 rfl rfl)
theorem dX7_owes_6 : decode cX7_owes 6 = .ok (.invokevirtual 232, 3) := dk_182 0 232 (dk_at dksX7_owes_0 6 rfl rfl)
theorem dX7_owes_9 : decode cX7_owes 9 = .ok (.istore_n 2, 1) := dk_61 (dk_at dksX7_owes_0 9 rfl rfl)
theorem dX7_owes_10 : decode cX7_owes 10 = .ok (.aload_n 0, 1) := dk_42 (dk_at dksX7_owes_0 10 rfl rfl)
theorem dX7_owes_11 : decode cX7_owes 11 = .ok (.aload_n 1, 1) := dk_43 (dk_at dksX7_owes_0 11 rfl rfl)
theorem dX7_owes_12 : decode cX7_owes 12 = .ok (.iload_n 2, 1) := dk_28 (dk_at dksX7_owes_0 12 rfl rfl)
theorem dX7_owes_13 : decode cX7_owes 13 = .ok (.invokevirtual 239, 3) := dk_182 0 239 (dk_at dksX7_owes_0 13 rfl rfl)
theorem dX7_owes_16 : decode cX7_owes 16 = .ok (.istore_n 3, 1) := dk_62 (dk_at dksX7_owes_0 16 rfl rfl)
theorem dX7_owes_17 : decode cX7_owes 17 = .ok (.aload_n 1, 1) := dk_43 (dk_at dksX7_owes_0 17 rfl rfl)
theorem dX7_owes_18 : decode cX7_owes 18 = .ok (.iload_n 2, 1) := dk_28 (dk_at dksX7_owes_0 18 rfl rfl)
theorem dX7_owes_19 : decode cX7_owes 19 = .ok (.iload_n 3, 1) := dk_29 (dk_at dksX7_owes_0 19 rfl rfl)
theorem dX7_owes_20 : decode cX7_owes 20 = .ok (.aload_n 0, 1) := dk_42 (dk_at dksX7_owes_0 20 rfl rfl)
theorem dX7_owes_21 : decode cX7_owes 21 = .ok (.iconst 0, 1) := dk_3 (dk_at dksX7_owes_0 21 rfl rfl)
theorem dX7_owes_22 : decode cX7_owes 22 = .ok (.sipush 9999, 3) := dk_17 39 15 (dk_at dksX7_owes_1 0 rfl rfl)
theorem dX7_owes_25 : decode cX7_owes 25 = .ok (.invokevirtual 76, 3) := dk_182 0 76 (dk_at dksX7_owes_1 3 rfl rfl)
theorem dX7_owes_28 : decode cX7_owes 28 = .ok (.invokevirtual 242, 3) := dk_182 0 242 (dk_at dksX7_owes_1 6 rfl rfl)
theorem dX7_owes_31 : decode cX7_owes 31 = .ok (.return_, 1) := dk_177 (dk_at dksX7_owes_1 9 rfl rfl)
abbrev cX7_otherThan : ByteArray := prog_9_method_20_code
def yX7_otherThan : MethodName := ⟨RX7, "otherThan", "(LLetMe$Table;I)I"⟩
def dkwX7_otherThan_1 : List UInt8 := [182, 0, 59, 191, 42, 182, 0, 19, 29, 172]
abbrev dktX7_otherThan_1 : List UInt8 := dkwX7_otherThan_1 ++ []
def dkwX7_otherThan_0 : List UInt8 := [42, 43, 182, 0, 167, 62, 29, 28, 160, 0, 19, 42, 180, 0, 3, 180, 0, 55, 8, 42, 180, 0, 29]
abbrev dktX7_otherThan_0 : List UInt8 := dkwX7_otherThan_0 ++ dktX7_otherThan_1
theorem dksX7_otherThan_0 : cX7_otherThan.data.toList.drop 0 = dktX7_otherThan_0 := by decide +kernel
theorem dksX7_otherThan_1 : cX7_otherThan.data.toList.drop 23 = dktX7_otherThan_1 := dk_seg dksX7_otherThan_0 23 rfl rfl
theorem dX7_otherThan_0 : decode cX7_otherThan 0 = .ok (.aload_n 0, 1) := dk_42 (dk_at dksX7_otherThan_0 0 rfl rfl)
theorem dX7_otherThan_1 : decode cX7_otherThan 1 = .ok (.aload_n 1, 1) := dk_43 (dk_at dksX7_otherThan_0 1 rfl rfl)
theorem dX7_otherThan_2 : decode cX7_otherThan 2 = .ok (.invokevirtual 167, 3) := dk_182 0 167 (dk_at dksX7_otherThan_0 2 rfl rfl)
theorem dX7_otherThan_5 : decode cX7_otherThan 5 = .ok (.istore_n 3, 1) := dk_62 (dk_at dksX7_otherThan_0 5 rfl rfl)
theorem dX7_otherThan_6 : decode cX7_otherThan 6 = .ok (.iload_n 3, 1) := dk_29 (dk_at dksX7_otherThan_0 6 rfl rfl)
theorem dX7_otherThan_7 : decode cX7_otherThan 7 = .ok (.iload_n 2, 1) := dk_28 (dk_at dksX7_otherThan_0 7 rfl rfl)
theorem dX7_otherThan_8 : decode cX7_otherThan 8 = .ok (.if_icmp .ne 19, 3) := dk_160 0 19 (dk_at dksX7_otherThan_0 8 rfl rfl)
theorem dX7_otherThan_11 : decode cX7_otherThan 11 = .ok (.aload_n 0, 1) := dk_42 (dk_at dksX7_otherThan_0 11 rfl rfl)
theorem dX7_otherThan_12 : decode cX7_otherThan 12 = .ok (.getfield 3, 3) := dk_180 0 3 (dk_at dksX7_otherThan_0 12 rfl rfl)
theorem dX7_otherThan_15 : decode cX7_otherThan 15 = .ok (.getfield 55, 3) := dk_180 0 55 (dk_at dksX7_otherThan_0 15 rfl rfl)
theorem dX7_otherThan_18 : decode cX7_otherThan 18 = .ok (.iconst 5, 1) := dk_8 (dk_at dksX7_otherThan_0 18 rfl rfl)
theorem dX7_otherThan_19 : decode cX7_otherThan 19 = .ok (.aload_n 0, 1) := dk_42 (dk_at dksX7_otherThan_0 19 rfl rfl)
theorem dX7_otherThan_20 : decode cX7_otherThan 20 = .ok (.getfield 29, 3) := dk_180 0 29 (dk_at dksX7_otherThan_0 20 rfl rfl)
theorem dX7_otherThan_23 : decode cX7_otherThan 23 = .ok (.invokevirtual 59, 3) := dk_182 0 59 (dk_at dksX7_otherThan_1 0 rfl rfl)
theorem dX7_otherThan_26 : decode cX7_otherThan 26 = .ok (.athrow, 1) := dk_191 (dk_at dksX7_otherThan_1 3 rfl rfl)
theorem dX7_otherThan_27 : decode cX7_otherThan 27 = .ok (.aload_n 0, 1) := dk_42 (dk_at dksX7_otherThan_1 4 rfl rfl)
theorem dX7_otherThan_28 : decode cX7_otherThan 28 = .ok (.invokevirtual 19, 3) := dk_182 0 19 (dk_at dksX7_otherThan_1 5 rfl rfl)
theorem dX7_otherThan_31 : decode cX7_otherThan 31 = .ok (.iload_n 3, 1) := dk_29 (dk_at dksX7_otherThan_1 8 rfl rfl)
theorem dX7_otherThan_32 : decode cX7_otherThan 32 = .ok (.ireturn, 1) := dk_172 (dk_at dksX7_otherThan_1 9 rfl rfl)
abbrev cX7_split : ByteArray := prog_9_method_27_code
def yX7_split : MethodName := ⟨RX7, "split", "()I"⟩
def dkwX7_split_2 : List UInt8 := [182, 0, 19, 27, 172]
abbrev dktX7_split_2 : List UInt8 := dkwX7_split_2 ++ []
def dkwX7_split_1 : List UInt8 := [4, 181, 0, 246, 42, 182, 0, 19, 42, 182, 0, 143, 60, 27, 156, 0, 8, 42, 182, 0, 68, 191, 42]
abbrev dktX7_split_1 : List UInt8 := dkwX7_split_1 ++ dktX7_split_2
def dkwX7_split_0 : List UInt8 := [42, 180, 0, 246, 153, 0, 19, 42, 180, 0, 3, 180, 0, 55, 8, 42, 180, 0, 29, 182, 0, 59, 191, 42]
abbrev dktX7_split_0 : List UInt8 := dkwX7_split_0 ++ dktX7_split_1
theorem dksX7_split_0 : cX7_split.data.toList.drop 0 = dktX7_split_0 := by decide +kernel
theorem dksX7_split_1 : cX7_split.data.toList.drop 24 = dktX7_split_1 := dk_seg dksX7_split_0 24 rfl rfl
theorem dksX7_split_2 : cX7_split.data.toList.drop 47 = dktX7_split_2 := dk_seg dksX7_split_1 23 rfl rfl
theorem dX7_split_0 : decode cX7_split 0 = .ok (.aload_n 0, 1) := dk_42 (dk_at dksX7_split_0 0 rfl rfl)
theorem dX7_split_1 : decode cX7_split 1 = .ok (.getfield 246, 3) := dk_180 0 246 (dk_at dksX7_split_0 1 rfl rfl)
theorem dX7_split_4 : decode cX7_split 4 = .ok (.ifCond .eq 19, 3) := dk_153 0 19 (dk_at dksX7_split_0 4 rfl rfl)
theorem dX7_split_7 : decode cX7_split 7 = .ok (.aload_n 0, 1) := dk_42 (dk_at dksX7_split_0 7 rfl rfl)
theorem dX7_split_8 : decode cX7_split 8 = .ok (.getfield 3, 3) := dk_180 0 3 (dk_at dksX7_split_0 8 rfl rfl)
theorem dX7_split_11 : decode cX7_split 11 = .ok (.getfield 55, 3) := dk_180 0 55 (dk_at dksX7_split_0 11 rfl rfl)
theorem dX7_split_14 : decode cX7_split 14 = .ok (.iconst 5, 1) := dk_8 (dk_at dksX7_split_0 14 rfl rfl)
theorem dX7_split_15 : decode cX7_split 15 = .ok (.aload_n 0, 1) := dk_42 (dk_at dksX7_split_0 15 rfl rfl)
theorem dX7_split_16 : decode cX7_split 16 = .ok (.getfield 29, 3) := dk_180 0 29 (dk_at dksX7_split_0 16 rfl rfl)
theorem dX7_split_19 : decode cX7_split 19 = .ok (.invokevirtual 59, 3) := dk_182 0 59 (dk_at dksX7_split_0 19 rfl rfl)
theorem dX7_split_22 : decode cX7_split 22 = .ok (.athrow, 1) := dk_191 (dk_at dksX7_split_0 22 rfl rfl)
theorem dX7_split_23 : decode cX7_split 23 = .ok (.aload_n 0, 1) := dk_42 (dk_at dksX7_split_0 23 rfl rfl)
theorem dX7_split_24 : decode cX7_split 24 = .ok (.iconst 1, 1) := dk_4 (dk_at dksX7_split_1 0 rfl rfl)
theorem dX7_split_25 : decode cX7_split 25 = .ok (.putfield 246, 3) := dk_181 0 246 (dk_at dksX7_split_1 1 rfl rfl)
theorem dX7_split_28 : decode cX7_split 28 = .ok (.aload_n 0, 1) := dk_42 (dk_at dksX7_split_1 4 rfl rfl)
theorem dX7_split_29 : decode cX7_split 29 = .ok (.invokevirtual 19, 3) := dk_182 0 19 (dk_at dksX7_split_1 5 rfl rfl)
theorem dX7_split_32 : decode cX7_split 32 = .ok (.aload_n 0, 1) := dk_42 (dk_at dksX7_split_1 8 rfl rfl)
theorem dX7_split_33 : decode cX7_split 33 = .ok (.invokevirtual 143, 3) := dk_182 0 143 (dk_at dksX7_split_1 9 rfl rfl)
theorem dX7_split_36 : decode cX7_split 36 = .ok (.istore_n 1, 1) := dk_60 (dk_at dksX7_split_1 12 rfl rfl)
theorem dX7_split_37 : decode cX7_split 37 = .ok (.iload_n 1, 1) := dk_27 (dk_at dksX7_split_1 13 rfl rfl)
theorem dX7_split_38 : decode cX7_split 38 = .ok (.ifCond .ge 8, 3) := dk_156 0 8 (dk_at dksX7_split_1 14 rfl rfl)
theorem dX7_split_41 : decode cX7_split 41 = .ok (.aload_n 0, 1) := dk_42 (dk_at dksX7_split_1 17 rfl rfl)
theorem dX7_split_42 : decode cX7_split 42 = .ok (.invokevirtual 68, 3) := dk_182 0 68 (dk_at dksX7_split_1 18 rfl rfl)
theorem dX7_split_45 : decode cX7_split 45 = .ok (.athrow, 1) := dk_191 (dk_at dksX7_split_1 21 rfl rfl)
theorem dX7_split_46 : decode cX7_split 46 = .ok (.aload_n 0, 1) := dk_42 (dk_at dksX7_split_1 22 rfl rfl)
theorem dX7_split_47 : decode cX7_split 47 = .ok (.invokevirtual 19, 3) := dk_182 0 19 (dk_at dksX7_split_2 0 rfl rfl)
theorem dX7_split_50 : decode cX7_split 50 = .ok (.iload_n 1, 1) := dk_27 (dk_at dksX7_split_2 3 rfl rfl)
theorem dX7_split_51 : decode cX7_split 51 = .ok (.ireturn, 1) := dk_172 (dk_at dksX7_split_2 4 rfl rfl)
abbrev cX7_law : ByteArray := prog_9_method_28_code
def yX7_law : MethodName := ⟨RX7, "law", "()I"⟩
def dkwX7_law_2 : List UInt8 := [182, 0, 19, 27, 172]
abbrev dktX7_law_2 : List UInt8 := dkwX7_law_2 ++ []
def dkwX7_law_1 : List UInt8 := [4, 181, 0, 249, 42, 182, 0, 19, 42, 182, 0, 146, 60, 27, 156, 0, 8, 42, 182, 0, 68, 191, 42]
abbrev dktX7_law_1 : List UInt8 := dkwX7_law_1 ++ dktX7_law_2
def dkwX7_law_0 : List UInt8 := [42, 180, 0, 249, 153, 0, 19, 42, 180, 0, 3, 180, 0, 55, 8, 42, 180, 0, 29, 182, 0, 59, 191, 42]
abbrev dktX7_law_0 : List UInt8 := dkwX7_law_0 ++ dktX7_law_1
theorem dksX7_law_0 : cX7_law.data.toList.drop 0 = dktX7_law_0 := by decide +kernel
theorem dksX7_law_1 : cX7_law.data.toList.drop 24 = dktX7_law_1 := dk_seg dksX7_law_0 24 rfl rfl
theorem dksX7_law_2 : cX7_law.data.toList.drop 47 = dktX7_law_2 := dk_seg dksX7_law_1 23 rfl rfl
theorem dX7_law_0 : decode cX7_law 0 = .ok (.aload_n 0, 1) := dk_42 (dk_at dksX7_law_0 0 rfl rfl)
theorem dX7_law_1 : decode cX7_law 1 = .ok (.getfield 249, 3) := dk_180 0 249 (dk_at dksX7_law_0 1 rfl rfl)
theorem dX7_law_4 : decode cX7_law 4 = .ok (.ifCond .eq 19, 3) := dk_153 0 19 (dk_at dksX7_law_0 4 rfl rfl)
theorem dX7_law_7 : decode cX7_law 7 = .ok (.aload_n 0, 1) := dk_42 (dk_at dksX7_law_0 7 rfl rfl)
theorem dX7_law_8 : decode cX7_law 8 = .ok (.getfield 3, 3) := dk_180 0 3 (dk_at dksX7_law_0 8 rfl rfl)
theorem dX7_law_11 : decode cX7_law 11 = .ok (.getfield 55, 3) := dk_180 0 55 (dk_at dksX7_law_0 11 rfl rfl)
theorem dX7_law_14 : decode cX7_law 14 = .ok (.iconst 5, 1) := dk_8 (dk_at dksX7_law_0 14 rfl rfl)
theorem dX7_law_15 : decode cX7_law 15 = .ok (.aload_n 0, 1) := dk_42 (dk_at dksX7_law_0 15 rfl rfl)
theorem dX7_law_16 : decode cX7_law 16 = .ok (.getfield 29, 3) := dk_180 0 29 (dk_at dksX7_law_0 16 rfl rfl)
theorem dX7_law_19 : decode cX7_law 19 = .ok (.invokevirtual 59, 3) := dk_182 0 59 (dk_at dksX7_law_0 19 rfl rfl)
theorem dX7_law_22 : decode cX7_law 22 = .ok (.athrow, 1) := dk_191 (dk_at dksX7_law_0 22 rfl rfl)
theorem dX7_law_23 : decode cX7_law 23 = .ok (.aload_n 0, 1) := dk_42 (dk_at dksX7_law_0 23 rfl rfl)
theorem dX7_law_24 : decode cX7_law 24 = .ok (.iconst 1, 1) := dk_4 (dk_at dksX7_law_1 0 rfl rfl)
theorem dX7_law_25 : decode cX7_law 25 = .ok (.putfield 249, 3) := dk_181 0 249 (dk_at dksX7_law_1 1 rfl rfl)
theorem dX7_law_28 : decode cX7_law 28 = .ok (.aload_n 0, 1) := dk_42 (dk_at dksX7_law_1 4 rfl rfl)
theorem dX7_law_29 : decode cX7_law 29 = .ok (.invokevirtual 19, 3) := dk_182 0 19 (dk_at dksX7_law_1 5 rfl rfl)
theorem dX7_law_32 : decode cX7_law 32 = .ok (.aload_n 0, 1) := dk_42 (dk_at dksX7_law_1 8 rfl rfl)
theorem dX7_law_33 : decode cX7_law 33 = .ok (.invokevirtual 146, 3) := dk_182 0 146 (dk_at dksX7_law_1 9 rfl rfl)
theorem dX7_law_36 : decode cX7_law 36 = .ok (.istore_n 1, 1) := dk_60 (dk_at dksX7_law_1 12 rfl rfl)
theorem dX7_law_37 : decode cX7_law 37 = .ok (.iload_n 1, 1) := dk_27 (dk_at dksX7_law_1 13 rfl rfl)
theorem dX7_law_38 : decode cX7_law 38 = .ok (.ifCond .ge 8, 3) := dk_156 0 8 (dk_at dksX7_law_1 14 rfl rfl)
theorem dX7_law_41 : decode cX7_law 41 = .ok (.aload_n 0, 1) := dk_42 (dk_at dksX7_law_1 17 rfl rfl)
theorem dX7_law_42 : decode cX7_law 42 = .ok (.invokevirtual 68, 3) := dk_182 0 68 (dk_at dksX7_law_1 18 rfl rfl)
theorem dX7_law_45 : decode cX7_law 45 = .ok (.athrow, 1) := dk_191 (dk_at dksX7_law_1 21 rfl rfl)
theorem dX7_law_46 : decode cX7_law 46 = .ok (.aload_n 0, 1) := dk_42 (dk_at dksX7_law_1 22 rfl rfl)
theorem dX7_law_47 : decode cX7_law 47 = .ok (.invokevirtual 19, 3) := dk_182 0 19 (dk_at dksX7_law_2 0 rfl rfl)
theorem dX7_law_50 : decode cX7_law 50 = .ok (.iload_n 1, 1) := dk_27 (dk_at dksX7_law_2 3 rfl rfl)
theorem dX7_law_51 : decode cX7_law 51 = .ok (.ireturn, 1) := dk_172 (dk_at dksX7_law_2 4 rfl rfl)
abbrev cX7_close : ByteArray := prog_9_method_8_code
def yX7_close : MethodName := ⟨RX7, "close", "()V"⟩
def dkwX7_close_0 : List UInt8 := [42, 16, 59, 182, 0, 64, 154, 0, 8, 42, 182, 0, 68, 191, 42, 182, 0, 19, 177]
abbrev dktX7_close_0 : List UInt8 := dkwX7_close_0 ++ []
theorem dksX7_close_0 : cX7_close.data.toList.drop 0 = dktX7_close_0 := by decide +kernel
theorem dX7_close_0 : decode cX7_close 0 = .ok (.aload_n 0, 1) := dk_42 (dk_at dksX7_close_0 0 rfl rfl)
theorem dX7_close_1 : decode cX7_close 1 = .ok (.bipush 59, 2) := dk_16 59 (dk_at dksX7_close_0 1 rfl rfl)
theorem dX7_close_3 : decode cX7_close 3 = .ok (.invokevirtual 64, 3) := dk_182 0 64 (dk_at dksX7_close_0 3 rfl rfl)
theorem dX7_close_6 : decode cX7_close 6 = .ok (.ifCond .ne 8, 3) := dk_154 0 8 (dk_at dksX7_close_0 6 rfl rfl)
theorem dX7_close_9 : decode cX7_close 9 = .ok (.aload_n 0, 1) := dk_42 (dk_at dksX7_close_0 9 rfl rfl)
theorem dX7_close_10 : decode cX7_close 10 = .ok (.invokevirtual 68, 3) := dk_182 0 68 (dk_at dksX7_close_0 10 rfl rfl)
theorem dX7_close_13 : decode cX7_close 13 = .ok (.athrow, 1) := dk_191 (dk_at dksX7_close_0 13 rfl rfl)
theorem dX7_close_14 : decode cX7_close 14 = .ok (.aload_n 0, 1) := dk_42 (dk_at dksX7_close_0 14 rfl rfl)
theorem dX7_close_15 : decode cX7_close 15 = .ok (.invokevirtual 19, 3) := dk_182 0 19 (dk_at dksX7_close_0 15 rfl rfl)
theorem dX7_close_18 : decode cX7_close 18 = .ok (.return_, 1) := dk_177 (dk_at dksX7_close_0 18 rfl rfl)
abbrev cX7_isSign : ByteArray := prog_9_method_6_code
def yX7_isSign : MethodName := ⟨RX7, "isSign", "(C)Z"⟩
def dkwX7_isSign_1 : List UInt8 := [4, 167, 0, 4, 3, 172]
abbrev dktX7_isSign_1 : List UInt8 := dkwX7_isSign_1 ++ []
def dkwX7_isSign_0 : List UInt8 := [42, 180, 0, 32, 6, 160, 0, 23, 42, 180, 0, 3, 180, 0, 22, 42, 180, 0, 29, 51, 27, 160, 0, 7]
abbrev dktX7_isSign_0 : List UInt8 := dkwX7_isSign_0 ++ dktX7_isSign_1
theorem dksX7_isSign_0 : cX7_isSign.data.toList.drop 0 = dktX7_isSign_0 := by decide +kernel
theorem dksX7_isSign_1 : cX7_isSign.data.toList.drop 24 = dktX7_isSign_1 := dk_seg dksX7_isSign_0 24 rfl rfl
theorem dX7_isSign_0 : decode cX7_isSign 0 = .ok (.aload_n 0, 1) := dk_42 (dk_at dksX7_isSign_0 0 rfl rfl)
theorem dX7_isSign_1 : decode cX7_isSign 1 = .ok (.getfield 32, 3) := dk_180 0 32 (dk_at dksX7_isSign_0 1 rfl rfl)
theorem dX7_isSign_4 : decode cX7_isSign 4 = .ok (.iconst 3, 1) := dk_6 (dk_at dksX7_isSign_0 4 rfl rfl)
theorem dX7_isSign_5 : decode cX7_isSign 5 = .ok (.if_icmp .ne 23, 3) := dk_160 0 23 (dk_at dksX7_isSign_0 5 rfl rfl)
theorem dX7_isSign_8 : decode cX7_isSign 8 = .ok (.aload_n 0, 1) := dk_42 (dk_at dksX7_isSign_0 8 rfl rfl)
theorem dX7_isSign_9 : decode cX7_isSign 9 = .ok (.getfield 3, 3) := dk_180 0 3 (dk_at dksX7_isSign_0 9 rfl rfl)
theorem dX7_isSign_12 : decode cX7_isSign 12 = .ok (.getfield 22, 3) := dk_180 0 22 (dk_at dksX7_isSign_0 12 rfl rfl)
theorem dX7_isSign_15 : decode cX7_isSign 15 = .ok (.aload_n 0, 1) := dk_42 (dk_at dksX7_isSign_0 15 rfl rfl)
theorem dX7_isSign_16 : decode cX7_isSign 16 = .ok (.getfield 29, 3) := dk_180 0 29 (dk_at dksX7_isSign_0 16 rfl rfl)
theorem dX7_isSign_19 : decode cX7_isSign 19 = .ok (.baload, 1) := dk_51 (dk_at dksX7_isSign_0 19 rfl rfl)
theorem dX7_isSign_20 : decode cX7_isSign 20 = .ok (.iload_n 1, 1) := dk_27 (dk_at dksX7_isSign_0 20 rfl rfl)
theorem dX7_isSign_21 : decode cX7_isSign 21 = .ok (.if_icmp .ne 7, 3) := dk_160 0 7 (dk_at dksX7_isSign_0 21 rfl rfl)
theorem dX7_isSign_24 : decode cX7_isSign 24 = .ok (.iconst 1, 1) := dk_4 (dk_at dksX7_isSign_1 0 rfl rfl)
theorem dX7_isSign_25 : decode cX7_isSign 25 = .ok (.goto 4, 3) := dk_167 0 4 (dk_at dksX7_isSign_1 1 rfl rfl)
theorem dX7_isSign_28 : decode cX7_isSign 28 = .ok (.iconst 0, 1) := dk_3 (dk_at dksX7_isSign_1 4 rfl rfl)
theorem dX7_isSign_29 : decode cX7_isSign 29 = .ok (.ireturn, 1) := dk_172 (dk_at dksX7_isSign_1 5 rfl rfl)
abbrev cX7_year : ByteArray := prog_9_method_29_code
def yX7_year : MethodName := ⟨RX7, "year", "(LLetMe$Table;LLetMe$Block;)V"⟩
def dkwX7_year_0 : List UInt8 := [42, 180, 0, 32, 153, 0, 13, 42, 43, 44, 3, 182, 0, 252, 167, 255, 242, 177]
abbrev dktX7_year_0 : List UInt8 := dkwX7_year_0 ++ []
theorem dksX7_year_0 : cX7_year.data.toList.drop 0 = dktX7_year_0 := by decide +kernel
theorem dX7_year_0 : decode cX7_year 0 = .ok (.aload_n 0, 1) := dk_42 (dk_at dksX7_year_0 0 rfl rfl)
theorem dX7_year_1 : decode cX7_year 1 = .ok (.getfield 32, 3) := dk_180 0 32 (dk_at dksX7_year_0 1 rfl rfl)
theorem dX7_year_4 : decode cX7_year 4 = .ok (.ifCond .eq 13, 3) := dk_153 0 13 (dk_at dksX7_year_0 4 rfl rfl)
theorem dX7_year_7 : decode cX7_year 7 = .ok (.aload_n 0, 1) := dk_42 (dk_at dksX7_year_0 7 rfl rfl)
theorem dX7_year_8 : decode cX7_year 8 = .ok (.aload_n 1, 1) := dk_43 (dk_at dksX7_year_0 8 rfl rfl)
theorem dX7_year_9 : decode cX7_year 9 = .ok (.aload_n 2, 1) := dk_44 (dk_at dksX7_year_0 9 rfl rfl)
theorem dX7_year_10 : decode cX7_year 10 = .ok (.iconst 0, 1) := dk_3 (dk_at dksX7_year_0 10 rfl rfl)
theorem dX7_year_11 : decode cX7_year 11 = .ok (.invokevirtual 252, 3) := dk_182 0 252 (dk_at dksX7_year_0 11 rfl rfl)
theorem dX7_year_14 : decode cX7_year 14 = .ok (.goto (-14), 3) := dk_167 255 242 (dk_at dksX7_year_0 14 rfl rfl)
theorem dX7_year_17 : decode cX7_year 17 = .ok (.return_, 1) := dk_177 (dk_at dksX7_year_0 17 rfl rfl)
abbrev cX7_step : ByteArray := prog_9_method_30_code
def yX7_step : MethodName := ⟨RX7, "step", "(LLetMe$Table;LLetMe$Block;I)V"⟩
def dkwX7_step_5 : List UInt8 := [182, 1, 3, 167, 0, 8, 42, 43, 182, 1, 7, 58, 6, 42, 182, 0, 188, 44, 25, 6, 182, 1, 11, 177]
abbrev dktX7_step_5 : List UInt8 := dkwX7_step_5 ++ []
def dkwX7_step_4 : List UInt8 := [182, 0, 59, 191, 42, 89, 180, 1, 0, 4, 96, 181, 1, 0, 21, 5, 153, 0, 14, 42, 43, 21, 4, 29]
abbrev dktX7_step_4 : List UInt8 := dkwX7_step_4 ++ dktX7_step_5
def dkwX7_step_3 : List UInt8 := [191, 21, 5, 153, 0, 25, 29, 6, 160, 0, 20, 42, 180, 0, 3, 180, 0, 55, 16, 7, 42, 180, 0, 29]
abbrev dktX7_step_3 : List UInt8 := dkwX7_step_3 ++ dktX7_step_4
def dkwX7_step_2 : List UInt8 := [180, 1, 0, 16, 30, 160, 0, 20, 42, 180, 0, 3, 180, 0, 55, 16, 6, 42, 180, 0, 29, 182, 0, 59]
abbrev dktX7_step_2 : List UInt8 := dkwX7_step_2 ++ dktX7_step_3
def dkwX7_step_1 : List UInt8 := [167, 0, 4, 3, 54, 5, 42, 182, 0, 137, 156, 0, 13, 21, 5, 154, 0, 8, 42, 182, 0, 68, 191, 42]
abbrev dktX7_step_1 : List UInt8 := dkwX7_step_1 ++ dktX7_step_2
def dkwX7_step_0 : List UInt8 := [42, 18, 131, 182, 0, 72, 54, 4, 21, 4, 154, 0, 12, 42, 18, 133, 182, 0, 72, 153, 0, 7, 4]
abbrev dktX7_step_0 : List UInt8 := dkwX7_step_0 ++ dktX7_step_1
theorem dksX7_step_0 : cX7_step.data.toList.drop 0 = dktX7_step_0 := by decide +kernel
theorem dksX7_step_1 : cX7_step.data.toList.drop 23 = dktX7_step_1 := dk_seg dksX7_step_0 23 rfl rfl
theorem dksX7_step_2 : cX7_step.data.toList.drop 47 = dktX7_step_2 := dk_seg dksX7_step_1 24 rfl rfl
theorem dksX7_step_3 : cX7_step.data.toList.drop 71 = dktX7_step_3 := dk_seg dksX7_step_2 24 rfl rfl
theorem dksX7_step_4 : cX7_step.data.toList.drop 95 = dktX7_step_4 := dk_seg dksX7_step_3 24 rfl rfl
theorem dksX7_step_5 : cX7_step.data.toList.drop 119 = dktX7_step_5 := dk_seg dksX7_step_4 24 rfl rfl
theorem dX7_step_0 : decode cX7_step 0 = .ok (.aload_n 0, 1) := dk_42 (dk_at dksX7_step_0 0 rfl rfl)
theorem dX7_step_1 : decode cX7_step 1 = .ok (.ldc 131, 2) := dk_18 131 (dk_at dksX7_step_0 1 rfl rfl)
theorem dX7_step_3 : decode cX7_step 3 = .ok (.invokevirtual 72, 3) := dk_182 0 72 (dk_at dksX7_step_0 3 rfl rfl)
theorem dX7_step_6 : decode cX7_step 6 = .ok (.istore 4, 2) := dk_54 4 (dk_at dksX7_step_0 6 rfl rfl)
theorem dX7_step_8 : decode cX7_step 8 = .ok (.iload 4, 2) := dk_21 4 (dk_at dksX7_step_0 8 rfl rfl)
theorem dX7_step_10 : decode cX7_step 10 = .ok (.ifCond .ne 12, 3) := dk_154 0 12 (dk_at dksX7_step_0 10 rfl rfl)
theorem dX7_step_13 : decode cX7_step 13 = .ok (.aload_n 0, 1) := dk_42 (dk_at dksX7_step_0 13 rfl rfl)
theorem dX7_step_14 : decode cX7_step 14 = .ok (.ldc 133, 2) := dk_18 133 (dk_at dksX7_step_0 14 rfl rfl)
theorem dX7_step_16 : decode cX7_step 16 = .ok (.invokevirtual 72, 3) := dk_182 0 72 (dk_at dksX7_step_0 16 rfl rfl)
theorem dX7_step_19 : decode cX7_step 19 = .ok (.ifCond .eq 7, 3) := dk_153 0 7 (dk_at dksX7_step_0 19 rfl rfl)
theorem dX7_step_22 : decode cX7_step 22 = .ok (.iconst 1, 1) := dk_4 (dk_at dksX7_step_0 22 rfl rfl)
theorem dX7_step_23 : decode cX7_step 23 = .ok (.goto 4, 3) := dk_167 0 4 (dk_at dksX7_step_1 0 rfl rfl)
theorem dX7_step_26 : decode cX7_step 26 = .ok (.iconst 0, 1) := dk_3 (dk_at dksX7_step_1 3 rfl rfl)
theorem dX7_step_27 : decode cX7_step 27 = .ok (.istore 5, 2) := dk_54 5 (dk_at dksX7_step_1 4 rfl rfl)
theorem dX7_step_29 : decode cX7_step 29 = .ok (.aload_n 0, 1) := dk_42 (dk_at dksX7_step_1 6 rfl rfl)
theorem dX7_step_30 : decode cX7_step 30 = .ok (.invokevirtual 137, 3) := dk_182 0 137 (dk_at dksX7_step_1 7 rfl rfl)
theorem dX7_step_33 : decode cX7_step 33 = .ok (.ifCond .ge 13, 3) := dk_156 0 13 (dk_at dksX7_step_1 10 rfl rfl)
theorem dX7_step_36 : decode cX7_step 36 = .ok (.iload 5, 2) := dk_21 5 (dk_at dksX7_step_1 13 rfl rfl)
theorem dX7_step_38 : decode cX7_step 38 = .ok (.ifCond .ne 8, 3) := dk_154 0 8 (dk_at dksX7_step_1 15 rfl rfl)
theorem dX7_step_41 : decode cX7_step 41 = .ok (.aload_n 0, 1) := dk_42 (dk_at dksX7_step_1 18 rfl rfl)
theorem dX7_step_42 : decode cX7_step 42 = .ok (.invokevirtual 68, 3) := dk_182 0 68 (dk_at dksX7_step_1 19 rfl rfl)
theorem dX7_step_45 : decode cX7_step 45 = .ok (.athrow, 1) := dk_191 (dk_at dksX7_step_1 22 rfl rfl)
theorem dX7_step_46 : decode cX7_step 46 = .ok (.aload_n 0, 1) := dk_42 (dk_at dksX7_step_1 23 rfl rfl)
theorem dX7_step_47 : decode cX7_step 47 = .ok (.getfield 256, 3) := dk_180 1 0 (dk_at dksX7_step_2 0 rfl rfl)
theorem dX7_step_50 : decode cX7_step 50 = .ok (.bipush 30, 2) := dk_16 30 (dk_at dksX7_step_2 3 rfl rfl)
theorem dX7_step_52 : decode cX7_step 52 = .ok (.if_icmp .ne 20, 3) := dk_160 0 20 (dk_at dksX7_step_2 5 rfl rfl)
theorem dX7_step_55 : decode cX7_step 55 = .ok (.aload_n 0, 1) := dk_42 (dk_at dksX7_step_2 8 rfl rfl)
theorem dX7_step_56 : decode cX7_step 56 = .ok (.getfield 3, 3) := dk_180 0 3 (dk_at dksX7_step_2 9 rfl rfl)
theorem dX7_step_59 : decode cX7_step 59 = .ok (.getfield 55, 3) := dk_180 0 55 (dk_at dksX7_step_2 12 rfl rfl)
theorem dX7_step_62 : decode cX7_step 62 = .ok (.bipush 6, 2) := dk_16 6 (dk_at dksX7_step_2 15 rfl rfl)
theorem dX7_step_64 : decode cX7_step 64 = .ok (.aload_n 0, 1) := dk_42 (dk_at dksX7_step_2 17 rfl rfl)
theorem dX7_step_65 : decode cX7_step 65 = .ok (.getfield 29, 3) := dk_180 0 29 (dk_at dksX7_step_2 18 rfl rfl)
theorem dX7_step_68 : decode cX7_step 68 = .ok (.invokevirtual 59, 3) := dk_182 0 59 (dk_at dksX7_step_2 21 rfl rfl)
theorem dX7_step_71 : decode cX7_step 71 = .ok (.athrow, 1) := dk_191 (dk_at dksX7_step_3 0 rfl rfl)
theorem dX7_step_72 : decode cX7_step 72 = .ok (.iload 5, 2) := dk_21 5 (dk_at dksX7_step_3 1 rfl rfl)
theorem dX7_step_74 : decode cX7_step 74 = .ok (.ifCond .eq 25, 3) := dk_153 0 25 (dk_at dksX7_step_3 3 rfl rfl)
theorem dX7_step_77 : decode cX7_step 77 = .ok (.iload_n 3, 1) := dk_29 (dk_at dksX7_step_3 6 rfl rfl)
theorem dX7_step_78 : decode cX7_step 78 = .ok (.iconst 3, 1) := dk_6 (dk_at dksX7_step_3 7 rfl rfl)
theorem dX7_step_79 : decode cX7_step 79 = .ok (.if_icmp .ne 20, 3) := dk_160 0 20 (dk_at dksX7_step_3 8 rfl rfl)
theorem dX7_step_82 : decode cX7_step 82 = .ok (.aload_n 0, 1) := dk_42 (dk_at dksX7_step_3 11 rfl rfl)
theorem dX7_step_83 : decode cX7_step 83 = .ok (.getfield 3, 3) := dk_180 0 3 (dk_at dksX7_step_3 12 rfl rfl)
theorem dX7_step_86 : decode cX7_step 86 = .ok (.getfield 55, 3) := dk_180 0 55 (dk_at dksX7_step_3 15 rfl rfl)
theorem dX7_step_89 : decode cX7_step 89 = .ok (.bipush 7, 2) := dk_16 7 (dk_at dksX7_step_3 18 rfl rfl)
theorem dX7_step_91 : decode cX7_step 91 = .ok (.aload_n 0, 1) := dk_42 (dk_at dksX7_step_3 20 rfl rfl)
theorem dX7_step_92 : decode cX7_step 92 = .ok (.getfield 29, 3) := dk_180 0 29 (dk_at dksX7_step_3 21 rfl rfl)
theorem dX7_step_95 : decode cX7_step 95 = .ok (.invokevirtual 59, 3) := dk_182 0 59 (dk_at dksX7_step_4 0 rfl rfl)
theorem dX7_step_98 : decode cX7_step 98 = .ok (.athrow, 1) := dk_191 (dk_at dksX7_step_4 3 rfl rfl)
theorem dX7_step_99 : decode cX7_step 99 = .ok (.aload_n 0, 1) := dk_42 (dk_at dksX7_step_4 4 rfl rfl)
theorem dX7_step_100 : decode cX7_step 100 = .ok (.dup, 1) := dk_89 (dk_at dksX7_step_4 5 rfl rfl)
theorem dX7_step_101 : decode cX7_step 101 = .ok (.getfield 256, 3) := dk_180 1 0 (dk_at dksX7_step_4 6 rfl rfl)
theorem dX7_step_104 : decode cX7_step 104 = .ok (.iconst 1, 1) := dk_4 (dk_at dksX7_step_4 9 rfl rfl)
theorem dX7_step_105 : decode cX7_step 105 = .ok (.iadd, 1) := dk_96 (dk_at dksX7_step_4 10 rfl rfl)
theorem dX7_step_106 : decode cX7_step 106 = .ok (.putfield 256, 3) := dk_181 1 0 (dk_at dksX7_step_4 11 rfl rfl)
theorem dX7_step_109 : decode cX7_step 109 = .ok (.iload 5, 2) := dk_21 5 (dk_at dksX7_step_4 14 rfl rfl)
theorem dX7_step_111 : decode cX7_step 111 = .ok (.ifCond .eq 14, 3) := dk_153 0 14 (dk_at dksX7_step_4 16 rfl rfl)
theorem dX7_step_114 : decode cX7_step 114 = .ok (.aload_n 0, 1) := dk_42 (dk_at dksX7_step_4 19 rfl rfl)
theorem dX7_step_115 : decode cX7_step 115 = .ok (.aload_n 1, 1) := dk_43 (dk_at dksX7_step_4 20 rfl rfl)
theorem dX7_step_116 : decode cX7_step 116 = .ok (.iload 4, 2) := dk_21 4 (dk_at dksX7_step_4 21 rfl rfl)
theorem dX7_step_118 : decode cX7_step 118 = .ok (.iload_n 3, 1) := dk_29 (dk_at dksX7_step_4 23 rfl rfl)
theorem dX7_step_119 : decode cX7_step 119 = .ok (.invokevirtual 259, 3) := dk_182 1 3 (dk_at dksX7_step_5 0 rfl rfl)
theorem dX7_step_122 : decode cX7_step 122 = .ok (.goto 8, 3) := dk_167 0 8 (dk_at dksX7_step_5 3 rfl rfl)
theorem dX7_step_125 : decode cX7_step 125 = .ok (.aload_n 0, 1) := dk_42 (dk_at dksX7_step_5 6 rfl rfl)
theorem dX7_step_126 : decode cX7_step 126 = .ok (.aload_n 1, 1) := dk_43 (dk_at dksX7_step_5 7 rfl rfl)
theorem dX7_step_127 : decode cX7_step 127 = .ok (.invokevirtual 263, 3) := dk_182 1 7 (dk_at dksX7_step_5 8 rfl rfl)
theorem dX7_step_130 : decode cX7_step 130 = .ok (.astore 6, 2) := dk_58 6 (dk_at dksX7_step_5 11 rfl rfl)
theorem dX7_step_132 : decode cX7_step 132 = .ok (.aload_n 0, 1) := dk_42 (dk_at dksX7_step_5 13 rfl rfl)
theorem dX7_step_133 : decode cX7_step 133 = .ok (.invokevirtual 188, 3) := dk_182 0 188 (dk_at dksX7_step_5 14 rfl rfl)
theorem dX7_step_136 : decode cX7_step 136 = .ok (.aload_n 2, 1) := dk_44 (dk_at dksX7_step_5 17 rfl rfl)
theorem dX7_step_137 : decode cX7_step 137 = .ok (.aload 6, 2) := dk_25 6 (dk_at dksX7_step_5 18 rfl rfl)
theorem dX7_step_139 : decode cX7_step 139 = .ok (.invokevirtual 267, 3) := dk_182 1 11 (dk_at dksX7_step_5 20 rfl rfl)
theorem dX7_step_142 : decode cX7_step 142 = .ok (.return_, 1) := dk_177 (dk_at dksX7_step_5 23 rfl rfl)
abbrev cX7_block : ByteArray := prog_9_method_33_code
def yX7_block : MethodName := ⟨RX7, "block", "(LLetMe$Table;ZI)LLetMe$Block;"⟩
def dkwX7_block_2 : List UInt8 := [25, 4, 29, 4, 96, 182, 0, 252, 167, 255, 237, 42, 182, 0, 19, 25, 4, 176]
abbrev dktX7_block_2 : List UInt8 := dkwX7_block_2 ++ []
def dkwX7_block_1 : List UInt8 := [182, 0, 76, 183, 1, 34, 58, 4, 42, 182, 0, 188, 42, 18, 135, 182, 0, 72, 154, 0, 16, 42, 43]
abbrev dktX7_block_1 : List UInt8 := dkwX7_block_1 ++ dktX7_block_2
def dkwX7_block_0 : List UInt8 := [42, 182, 0, 19, 28, 153, 0, 11, 42, 43, 182, 1, 29, 167, 0, 17, 187, 1, 32, 89, 42, 4, 16, 99]
abbrev dktX7_block_0 : List UInt8 := dkwX7_block_0 ++ dktX7_block_1
theorem dksX7_block_0 : cX7_block.data.toList.drop 0 = dktX7_block_0 := by decide +kernel
theorem dksX7_block_1 : cX7_block.data.toList.drop 24 = dktX7_block_1 := dk_seg dksX7_block_0 24 rfl rfl
theorem dksX7_block_2 : cX7_block.data.toList.drop 47 = dktX7_block_2 := dk_seg dksX7_block_1 23 rfl rfl
theorem dX7_block_0 : decode cX7_block 0 = .ok (.aload_n 0, 1) := dk_42 (dk_at dksX7_block_0 0 rfl rfl)
theorem dX7_block_1 : decode cX7_block 1 = .ok (.invokevirtual 19, 3) := dk_182 0 19 (dk_at dksX7_block_0 1 rfl rfl)
theorem dX7_block_4 : decode cX7_block 4 = .ok (.iload_n 2, 1) := dk_28 (dk_at dksX7_block_0 4 rfl rfl)
theorem dX7_block_5 : decode cX7_block 5 = .ok (.ifCond .eq 11, 3) := dk_153 0 11 (dk_at dksX7_block_0 5 rfl rfl)
theorem dX7_block_8 : decode cX7_block 8 = .ok (.aload_n 0, 1) := dk_42 (dk_at dksX7_block_0 8 rfl rfl)
theorem dX7_block_9 : decode cX7_block 9 = .ok (.aload_n 1, 1) := dk_43 (dk_at dksX7_block_0 9 rfl rfl)
theorem dX7_block_10 : decode cX7_block 10 = .ok (.invokevirtual 285, 3) := dk_182 1 29 (dk_at dksX7_block_0 10 rfl rfl)
theorem dX7_block_13 : decode cX7_block 13 = .ok (.goto 17, 3) := dk_167 0 17 (dk_at dksX7_block_0 13 rfl rfl)
theorem dX7_block_16 : decode cX7_block 16 = .ok (.new 288, 3) := dk_187 1 32 (dk_at dksX7_block_0 16 rfl rfl)
theorem dX7_block_19 : decode cX7_block 19 = .ok (.dup, 1) := dk_89 (dk_at dksX7_block_0 19 rfl rfl)
theorem dX7_block_20 : decode cX7_block 20 = .ok (.aload_n 0, 1) := dk_42 (dk_at dksX7_block_0 20 rfl rfl)
theorem dX7_block_21 : decode cX7_block 21 = .ok (.iconst 1, 1) := dk_4 (dk_at dksX7_block_0 21 rfl rfl)
theorem dX7_block_22 : decode cX7_block 22 = .ok (.bipush 99, 2) := dk_16 99 (dk_at dksX7_block_0 22 rfl rfl)
theorem dX7_block_24 : decode cX7_block 24 = .ok (.invokevirtual 76, 3) := dk_182 0 76 (dk_at dksX7_block_1 0 rfl rfl)
theorem dX7_block_27 : decode cX7_block 27 = .ok (.invokespecial 290, 3) := dk_183 1 34 (dk_at dksX7_block_1 3 rfl rfl)
theorem dX7_block_30 : decode cX7_block 30 = .ok (.astore 4, 2) := dk_58 4 (dk_at dksX7_block_1 6 rfl rfl)
theorem dX7_block_32 : decode cX7_block 32 = .ok (.aload_n 0, 1) := dk_42 (dk_at dksX7_block_1 8 rfl rfl)
theorem dX7_block_33 : decode cX7_block 33 = .ok (.invokevirtual 188, 3) := dk_182 0 188 (dk_at dksX7_block_1 9 rfl rfl)
theorem dX7_block_36 : decode cX7_block 36 = .ok (.aload_n 0, 1) := dk_42 (dk_at dksX7_block_1 12 rfl rfl)
theorem dX7_block_37 : decode cX7_block 37 = .ok (.ldc 135, 2) := dk_18 135 (dk_at dksX7_block_1 13 rfl rfl)
theorem dX7_block_39 : decode cX7_block 39 = .ok (.invokevirtual 72, 3) := dk_182 0 72 (dk_at dksX7_block_1 15 rfl rfl)
theorem dX7_block_42 : decode cX7_block 42 = .ok (.ifCond .ne 16, 3) := dk_154 0 16 (dk_at dksX7_block_1 18 rfl rfl)
theorem dX7_block_45 : decode cX7_block 45 = .ok (.aload_n 0, 1) := dk_42 (dk_at dksX7_block_1 21 rfl rfl)
theorem dX7_block_46 : decode cX7_block 46 = .ok (.aload_n 1, 1) := dk_43 (dk_at dksX7_block_1 22 rfl rfl)
theorem dX7_block_47 : decode cX7_block 47 = .ok (.aload 4, 2) := dk_25 4 (dk_at dksX7_block_2 0 rfl rfl)
theorem dX7_block_49 : decode cX7_block 49 = .ok (.iload_n 3, 1) := dk_29 (dk_at dksX7_block_2 2 rfl rfl)
theorem dX7_block_50 : decode cX7_block 50 = .ok (.iconst 1, 1) := dk_4 (dk_at dksX7_block_2 3 rfl rfl)
theorem dX7_block_51 : decode cX7_block 51 = .ok (.iadd, 1) := dk_96 (dk_at dksX7_block_2 4 rfl rfl)
theorem dX7_block_52 : decode cX7_block 52 = .ok (.invokevirtual 252, 3) := dk_182 0 252 (dk_at dksX7_block_2 5 rfl rfl)
theorem dX7_block_55 : decode cX7_block 55 = .ok (.goto (-19), 3) := dk_167 255 237 (dk_at dksX7_block_2 8 rfl rfl)
theorem dX7_block_58 : decode cX7_block 58 = .ok (.aload_n 0, 1) := dk_42 (dk_at dksX7_block_2 11 rfl rfl)
theorem dX7_block_59 : decode cX7_block 59 = .ok (.invokevirtual 19, 3) := dk_182 0 19 (dk_at dksX7_block_2 12 rfl rfl)
theorem dX7_block_62 : decode cX7_block 62 = .ok (.aload 4, 2) := dk_25 4 (dk_at dksX7_block_2 15 rfl rfl)
theorem dX7_block_64 : decode cX7_block 64 = .ok (.areturn, 1) := dk_176 (dk_at dksX7_block_2 17 rfl rfl)
abbrev cX7_when : ByteArray := prog_9_method_34_code
def yX7_when : MethodName := ⟨RX7, "when", "(LLetMe$Table;)LLetMe$When;"⟩
def dkwX7_when_5 : List UInt8 := [21, 5, 42, 3, 28, 154, 0, 9, 17, 3, 231, 167, 0, 6, 17, 39, 15, 182, 0, 76, 183, 1, 39, 176]
abbrev dktX7_when_5 : List UInt8 := dkwX7_when_5 ++ []
def dkwX7_when_4 : List UInt8 := [146, 182, 0, 64, 154, 0, 8, 42, 182, 0, 68, 191, 42, 182, 0, 19, 187, 1, 37, 89, 28, 29, 21, 4]
abbrev dktX7_when_4 : List UInt8 := dkwX7_when_4 ++ dktX7_when_5
def dkwX7_when_3 : List UInt8 := [167, 0, 19, 42, 16, 62, 182, 0, 64, 153, 0, 8, 16, 62, 167, 0, 5, 16, 61, 54, 5, 42, 21, 5]
abbrev dktX7_when_3 : List UInt8 := dkwX7_when_3 ++ dktX7_when_4
def dkwX7_when_2 : List UInt8 := [43, 29, 182, 0, 239, 167, 0, 4, 2, 54, 4, 42, 16, 60, 182, 0, 64, 153, 0, 8, 16, 60]
abbrev dktX7_when_2 : List UInt8 := dkwX7_when_2 ++ dktX7_when_3
def dkwX7_when_1 : List UInt8 := [28, 5, 160, 0, 16, 187, 1, 37, 89, 28, 29, 2, 3, 3, 183, 1, 39, 176, 28, 4, 160, 0, 12, 42]
abbrev dktX7_when_1 : List UInt8 := dkwX7_when_1 ++ dktX7_when_2
def dkwX7_when_0 : List UInt8 := [42, 182, 0, 140, 61, 28, 156, 0, 8, 42, 182, 0, 68, 191, 42, 182, 0, 19, 42, 43, 182, 0, 232, 62]
abbrev dktX7_when_0 : List UInt8 := dkwX7_when_0 ++ dktX7_when_1
theorem dksX7_when_0 : cX7_when.data.toList.drop 0 = dktX7_when_0 := by decide +kernel
theorem dksX7_when_1 : cX7_when.data.toList.drop 24 = dktX7_when_1 := dk_seg dksX7_when_0 24 rfl rfl
theorem dksX7_when_2 : cX7_when.data.toList.drop 48 = dktX7_when_2 := dk_seg dksX7_when_1 24 rfl rfl
theorem dksX7_when_3 : cX7_when.data.toList.drop 70 = dktX7_when_3 := dk_seg dksX7_when_2 22 rfl rfl
theorem dksX7_when_4 : cX7_when.data.toList.drop 94 = dktX7_when_4 := dk_seg dksX7_when_3 24 rfl rfl
theorem dksX7_when_5 : cX7_when.data.toList.drop 118 = dktX7_when_5 := dk_seg dksX7_when_4 24 rfl rfl
theorem dX7_when_0 : decode cX7_when 0 = .ok (.aload_n 0, 1) := dk_42 (dk_at dksX7_when_0 0 rfl rfl)
theorem dX7_when_1 : decode cX7_when 1 = .ok (.invokevirtual 140, 3) := dk_182 0 140 (dk_at dksX7_when_0 1 rfl rfl)
theorem dX7_when_4 : decode cX7_when 4 = .ok (.istore_n 2, 1) := dk_61 (dk_at dksX7_when_0 4 rfl rfl)
theorem dX7_when_5 : decode cX7_when 5 = .ok (.iload_n 2, 1) := dk_28 (dk_at dksX7_when_0 5 rfl rfl)
theorem dX7_when_6 : decode cX7_when 6 = .ok (.ifCond .ge 8, 3) := dk_156 0 8 (dk_at dksX7_when_0 6 rfl rfl)
theorem dX7_when_9 : decode cX7_when 9 = .ok (.aload_n 0, 1) := dk_42 (dk_at dksX7_when_0 9 rfl rfl)
theorem dX7_when_10 : decode cX7_when 10 = .ok (.invokevirtual 68, 3) := dk_182 0 68 (dk_at dksX7_when_0 10 rfl rfl)
theorem dX7_when_13 : decode cX7_when 13 = .ok (.athrow, 1) := dk_191 (dk_at dksX7_when_0 13 rfl rfl)
theorem dX7_when_14 : decode cX7_when 14 = .ok (.aload_n 0, 1) := dk_42 (dk_at dksX7_when_0 14 rfl rfl)
theorem dX7_when_15 : decode cX7_when 15 = .ok (.invokevirtual 19, 3) := dk_182 0 19 (dk_at dksX7_when_0 15 rfl rfl)
theorem dX7_when_18 : decode cX7_when 18 = .ok (.aload_n 0, 1) := dk_42 (dk_at dksX7_when_0 18 rfl rfl)
theorem dX7_when_19 : decode cX7_when 19 = .ok (.aload_n 1, 1) := dk_43 (dk_at dksX7_when_0 19 rfl rfl)
theorem dX7_when_20 : decode cX7_when 20 = .ok (.invokevirtual 232, 3) := dk_182 0 232 (dk_at dksX7_when_0 20 rfl rfl)
theorem dX7_when_23 : decode cX7_when 23 = .ok (.istore_n 3, 1) := dk_62 (dk_at dksX7_when_0 23 rfl rfl)
theorem dX7_when_24 : decode cX7_when 24 = .ok (.iload_n 2, 1) := dk_28 (dk_at dksX7_when_1 0 rfl rfl)
theorem dX7_when_25 : decode cX7_when 25 = .ok (.iconst 2, 1) := dk_5 (dk_at dksX7_when_1 1 rfl rfl)
theorem dX7_when_26 : decode cX7_when 26 = .ok (.if_icmp .ne 16, 3) := dk_160 0 16 (dk_at dksX7_when_1 2 rfl rfl)
theorem dX7_when_29 : decode cX7_when 29 = .ok (.new 293, 3) := dk_187 1 37 (dk_at dksX7_when_1 5 rfl rfl)
theorem dX7_when_32 : decode cX7_when 32 = .ok (.dup, 1) := dk_89 (dk_at dksX7_when_1 8 rfl rfl)
theorem dX7_when_33 : decode cX7_when 33 = .ok (.iload_n 2, 1) := dk_28 (dk_at dksX7_when_1 9 rfl rfl)
theorem dX7_when_34 : decode cX7_when 34 = .ok (.iload_n 3, 1) := dk_29 (dk_at dksX7_when_1 10 rfl rfl)
theorem dX7_when_35 : decode cX7_when 35 = .ok (.iconst (-1), 1) := dk_2 (dk_at dksX7_when_1 11 rfl rfl)
theorem dX7_when_36 : decode cX7_when 36 = .ok (.iconst 0, 1) := dk_3 (dk_at dksX7_when_1 12 rfl rfl)
theorem dX7_when_37 : decode cX7_when 37 = .ok (.iconst 0, 1) := dk_3 (dk_at dksX7_when_1 13 rfl rfl)
theorem dX7_when_38 : decode cX7_when 38 = .ok (.invokespecial 295, 3) := dk_183 1 39 (dk_at dksX7_when_1 14 rfl rfl)
theorem dX7_when_41 : decode cX7_when 41 = .ok (.areturn, 1) := dk_176 (dk_at dksX7_when_1 17 rfl rfl)
theorem dX7_when_42 : decode cX7_when 42 = .ok (.iload_n 2, 1) := dk_28 (dk_at dksX7_when_1 18 rfl rfl)
theorem dX7_when_43 : decode cX7_when 43 = .ok (.iconst 1, 1) := dk_4 (dk_at dksX7_when_1 19 rfl rfl)
theorem dX7_when_44 : decode cX7_when 44 = .ok (.if_icmp .ne 12, 3) := dk_160 0 12 (dk_at dksX7_when_1 20 rfl rfl)
theorem dX7_when_47 : decode cX7_when 47 = .ok (.aload_n 0, 1) := dk_42 (dk_at dksX7_when_1 23 rfl rfl)
theorem dX7_when_48 : decode cX7_when 48 = .ok (.aload_n 1, 1) := dk_43 (dk_at dksX7_when_2 0 rfl rfl)
theorem dX7_when_49 : decode cX7_when 49 = .ok (.iload_n 3, 1) := dk_29 (dk_at dksX7_when_2 1 rfl rfl)
theorem dX7_when_50 : decode cX7_when 50 = .ok (.invokevirtual 239, 3) := dk_182 0 239 (dk_at dksX7_when_2 2 rfl rfl)
theorem dX7_when_53 : decode cX7_when 53 = .ok (.goto 4, 3) := dk_167 0 4 (dk_at dksX7_when_2 5 rfl rfl)
theorem dX7_when_56 : decode cX7_when 56 = .ok (.iconst (-1), 1) := dk_2 (dk_at dksX7_when_2 8 rfl rfl)
theorem dX7_when_57 : decode cX7_when 57 = .ok (.istore 4, 2) := dk_54 4 (dk_at dksX7_when_2 9 rfl rfl)
theorem dX7_when_59 : decode cX7_when 59 = .ok (.aload_n 0, 1) := dk_42 (dk_at dksX7_when_2 11 rfl rfl)
theorem dX7_when_60 : decode cX7_when 60 = .ok (.bipush 60, 2) := dk_16 60 (dk_at dksX7_when_2 12 rfl rfl)
theorem dX7_when_62 : decode cX7_when 62 = .ok (.invokevirtual 64, 3) := dk_182 0 64 (dk_at dksX7_when_2 14 rfl rfl)
theorem dX7_when_65 : decode cX7_when 65 = .ok (.ifCond .eq 8, 3) := dk_153 0 8 (dk_at dksX7_when_2 17 rfl rfl)
theorem dX7_when_68 : decode cX7_when 68 = .ok (.bipush 60, 2) := dk_16 60 (dk_at dksX7_when_2 20 rfl rfl)
theorem dX7_when_70 : decode cX7_when 70 = .ok (.goto 19, 3) := dk_167 0 19 (dk_at dksX7_when_3 0 rfl rfl)
theorem dX7_when_73 : decode cX7_when 73 = .ok (.aload_n 0, 1) := dk_42 (dk_at dksX7_when_3 3 rfl rfl)
theorem dX7_when_74 : decode cX7_when 74 = .ok (.bipush 62, 2) := dk_16 62 (dk_at dksX7_when_3 4 rfl rfl)
theorem dX7_when_76 : decode cX7_when 76 = .ok (.invokevirtual 64, 3) := dk_182 0 64 (dk_at dksX7_when_3 6 rfl rfl)
theorem dX7_when_79 : decode cX7_when 79 = .ok (.ifCond .eq 8, 3) := dk_153 0 8 (dk_at dksX7_when_3 9 rfl rfl)
theorem dX7_when_82 : decode cX7_when 82 = .ok (.bipush 62, 2) := dk_16 62 (dk_at dksX7_when_3 12 rfl rfl)
theorem dX7_when_84 : decode cX7_when 84 = .ok (.goto 5, 3) := dk_167 0 5 (dk_at dksX7_when_3 14 rfl rfl)
theorem dX7_when_87 : decode cX7_when 87 = .ok (.bipush 61, 2) := dk_16 61 (dk_at dksX7_when_3 17 rfl rfl)
theorem dX7_when_89 : decode cX7_when 89 = .ok (.istore 5, 2) := dk_54 5 (dk_at dksX7_when_3 19 rfl rfl)
theorem dX7_when_91 : decode cX7_when 91 = .ok (.aload_n 0, 1) := dk_42 (dk_at dksX7_when_3 21 rfl rfl)
theorem dX7_when_92 : decode cX7_when 92 = .ok (.iload 5, 2) := dk_21 5 (dk_at dksX7_when_3 22 rfl rfl)
theorem dX7_when_94 : decode cX7_when 94 = .ok (.i2c, 1) := dk_146 (dk_at dksX7_when_4 0 rfl rfl)
theorem dX7_when_95 : decode cX7_when 95 = .ok (.invokevirtual 64, 3) := dk_182 0 64 (dk_at dksX7_when_4 1 rfl rfl)
theorem dX7_when_98 : decode cX7_when 98 = .ok (.ifCond .ne 8, 3) := dk_154 0 8 (dk_at dksX7_when_4 4 rfl rfl)
theorem dX7_when_101 : decode cX7_when 101 = .ok (.aload_n 0, 1) := dk_42 (dk_at dksX7_when_4 7 rfl rfl)
theorem dX7_when_102 : decode cX7_when 102 = .ok (.invokevirtual 68, 3) := dk_182 0 68 (dk_at dksX7_when_4 8 rfl rfl)
theorem dX7_when_105 : decode cX7_when 105 = .ok (.athrow, 1) := dk_191 (dk_at dksX7_when_4 11 rfl rfl)
theorem dX7_when_106 : decode cX7_when 106 = .ok (.aload_n 0, 1) := dk_42 (dk_at dksX7_when_4 12 rfl rfl)
theorem dX7_when_107 : decode cX7_when 107 = .ok (.invokevirtual 19, 3) := dk_182 0 19 (dk_at dksX7_when_4 13 rfl rfl)
theorem dX7_when_110 : decode cX7_when 110 = .ok (.new 293, 3) := dk_187 1 37 (dk_at dksX7_when_4 16 rfl rfl)
theorem dX7_when_113 : decode cX7_when 113 = .ok (.dup, 1) := dk_89 (dk_at dksX7_when_4 19 rfl rfl)
theorem dX7_when_114 : decode cX7_when 114 = .ok (.iload_n 2, 1) := dk_28 (dk_at dksX7_when_4 20 rfl rfl)
theorem dX7_when_115 : decode cX7_when 115 = .ok (.iload_n 3, 1) := dk_29 (dk_at dksX7_when_4 21 rfl rfl)
theorem dX7_when_116 : decode cX7_when 116 = .ok (.iload 4, 2) := dk_21 4 (dk_at dksX7_when_4 22 rfl rfl)
theorem dX7_when_118 : decode cX7_when 118 = .ok (.iload 5, 2) := dk_21 5 (dk_at dksX7_when_5 0 rfl rfl)
theorem dX7_when_120 : decode cX7_when 120 = .ok (.aload_n 0, 1) := dk_42 (dk_at dksX7_when_5 2 rfl rfl)
theorem dX7_when_121 : decode cX7_when 121 = .ok (.iconst 0, 1) := dk_3 (dk_at dksX7_when_5 3 rfl rfl)
theorem dX7_when_122 : decode cX7_when 122 = .ok (.iload_n 2, 1) := dk_28 (dk_at dksX7_when_5 4 rfl rfl)
theorem dX7_when_123 : decode cX7_when 123 = .ok (.ifCond .ne 9, 3) := dk_154 0 9 (dk_at dksX7_when_5 5 rfl rfl)
theorem dX7_when_126 : decode cX7_when 126 = .ok (.sipush 999, 3) := dk_17 3 231 (dk_at dksX7_when_5 8 rfl rfl)
theorem dX7_when_129 : decode cX7_when 129 = .ok (.goto 6, 3) := dk_167 0 6 (dk_at dksX7_when_5 11 rfl rfl)
theorem dX7_when_132 : decode cX7_when 132 = .ok (.sipush 9999, 3) := dk_17 39 15 (dk_at dksX7_when_5 14 rfl rfl)
theorem dX7_when_135 : decode cX7_when 135 = .ok (.invokevirtual 76, 3) := dk_182 0 76 (dk_at dksX7_when_5 17 rfl rfl)
theorem dX7_when_138 : decode cX7_when 138 = .ok (.invokespecial 295, 3) := dk_183 1 39 (dk_at dksX7_when_5 20 rfl rfl)
theorem dX7_when_141 : decode cX7_when 141 = .ok (.areturn, 1) := dk_176 (dk_at dksX7_when_5 23 rfl rfl)
abbrev cX7_plain : ByteArray := prog_9_method_31_code
def yX7_plain : MethodName := ⟨RX7, "plain", "(LLetMe$Table;)LLetMe$Step;"⟩
def dkwX7_plain_4 : List UInt8 := [3, 167, 0, 11, 42, 4, 17, 3, 231, 182, 0, 76, 183, 1, 22, 176]
abbrev dktX7_plain_4 : List UInt8 := dkwX7_plain_4 ++ []
def dkwX7_plain_3 : List UInt8 := [182, 1, 25, 42, 43, 29, 182, 0, 239, 54, 4, 187, 1, 17, 89, 28, 29, 21, 4, 28, 4, 160, 0, 7]
abbrev dktX7_plain_3 : List UInt8 := dkwX7_plain_3 ++ dktX7_plain_4
def dkwX7_plain_2 : List UInt8 := [183, 1, 22, 176, 42, 43, 182, 0, 232, 62, 42, 28, 4, 160, 0, 8, 18, 127, 167, 0, 5, 18, 129]
abbrev dktX7_plain_2 : List UInt8 := dkwX7_plain_2 ++ dktX7_plain_3
def dkwX7_plain_1 : List UInt8 := [3, 183, 1, 22, 176, 28, 7, 159, 0, 8, 28, 8, 160, 0, 15, 187, 1, 17, 89, 28, 2, 2, 3]
abbrev dktX7_plain_1 : List UInt8 := dkwX7_plain_1 ++ dktX7_plain_2
def dkwX7_plain_0 : List UInt8 := [42, 182, 0, 137, 61, 42, 182, 0, 19, 28, 154, 0, 19, 187, 1, 17, 89, 28, 42, 43, 182, 1, 19, 2]
abbrev dktX7_plain_0 : List UInt8 := dkwX7_plain_0 ++ dktX7_plain_1
theorem dksX7_plain_0 : cX7_plain.data.toList.drop 0 = dktX7_plain_0 := by decide +kernel
theorem dksX7_plain_1 : cX7_plain.data.toList.drop 24 = dktX7_plain_1 := dk_seg dksX7_plain_0 24 rfl rfl
theorem dksX7_plain_2 : cX7_plain.data.toList.drop 47 = dktX7_plain_2 := dk_seg dksX7_plain_1 23 rfl rfl
theorem dksX7_plain_3 : cX7_plain.data.toList.drop 70 = dktX7_plain_3 := dk_seg dksX7_plain_2 23 rfl rfl
theorem dksX7_plain_4 : cX7_plain.data.toList.drop 94 = dktX7_plain_4 := dk_seg dksX7_plain_3 24 rfl rfl
theorem dX7_plain_0 : decode cX7_plain 0 = .ok (.aload_n 0, 1) := dk_42 (dk_at dksX7_plain_0 0 rfl rfl)
theorem dX7_plain_1 : decode cX7_plain 1 = .ok (.invokevirtual 137, 3) := dk_182 0 137 (dk_at dksX7_plain_0 1 rfl rfl)
theorem dX7_plain_4 : decode cX7_plain 4 = .ok (.istore_n 2, 1) := dk_61 (dk_at dksX7_plain_0 4 rfl rfl)
theorem dX7_plain_5 : decode cX7_plain 5 = .ok (.aload_n 0, 1) := dk_42 (dk_at dksX7_plain_0 5 rfl rfl)
theorem dX7_plain_6 : decode cX7_plain 6 = .ok (.invokevirtual 19, 3) := dk_182 0 19 (dk_at dksX7_plain_0 6 rfl rfl)
theorem dX7_plain_9 : decode cX7_plain 9 = .ok (.iload_n 2, 1) := dk_28 (dk_at dksX7_plain_0 9 rfl rfl)
theorem dX7_plain_10 : decode cX7_plain 10 = .ok (.ifCond .ne 19, 3) := dk_154 0 19 (dk_at dksX7_plain_0 10 rfl rfl)
theorem dX7_plain_13 : decode cX7_plain 13 = .ok (.new 273, 3) := dk_187 1 17 (dk_at dksX7_plain_0 13 rfl rfl)
theorem dX7_plain_16 : decode cX7_plain 16 = .ok (.dup, 1) := dk_89 (dk_at dksX7_plain_0 16 rfl rfl)
theorem dX7_plain_17 : decode cX7_plain 17 = .ok (.iload_n 2, 1) := dk_28 (dk_at dksX7_plain_0 17 rfl rfl)
theorem dX7_plain_18 : decode cX7_plain 18 = .ok (.aload_n 0, 1) := dk_42 (dk_at dksX7_plain_0 18 rfl rfl)
theorem dX7_plain_19 : decode cX7_plain 19 = .ok (.aload_n 1, 1) := dk_43 (dk_at dksX7_plain_0 19 rfl rfl)
theorem dX7_plain_20 : decode cX7_plain 20 = .ok (.invokevirtual 275, 3) := dk_182 1 19 (dk_at dksX7_plain_0 20 rfl rfl)
theorem dX7_plain_23 : decode cX7_plain 23 = .ok (.iconst (-1), 1) := dk_2 (dk_at dksX7_plain_0 23 rfl rfl)
theorem dX7_plain_24 : decode cX7_plain 24 = .ok (.iconst 0, 1) := dk_3 (dk_at dksX7_plain_1 0 rfl rfl)
theorem dX7_plain_25 : decode cX7_plain 25 = .ok (.invokespecial 278, 3) := dk_183 1 22 (dk_at dksX7_plain_1 1 rfl rfl)
theorem dX7_plain_28 : decode cX7_plain 28 = .ok (.areturn, 1) := dk_176 (dk_at dksX7_plain_1 4 rfl rfl)
theorem dX7_plain_29 : decode cX7_plain 29 = .ok (.iload_n 2, 1) := dk_28 (dk_at dksX7_plain_1 5 rfl rfl)
theorem dX7_plain_30 : decode cX7_plain 30 = .ok (.iconst 4, 1) := dk_7 (dk_at dksX7_plain_1 6 rfl rfl)
theorem dX7_plain_31 : decode cX7_plain 31 = .ok (.if_icmp .eq 8, 3) := dk_159 0 8 (dk_at dksX7_plain_1 7 rfl rfl)
theorem dX7_plain_34 : decode cX7_plain 34 = .ok (.iload_n 2, 1) := dk_28 (dk_at dksX7_plain_1 10 rfl rfl)
theorem dX7_plain_35 : decode cX7_plain 35 = .ok (.iconst 5, 1) := dk_8 (dk_at dksX7_plain_1 11 rfl rfl)
theorem dX7_plain_36 : decode cX7_plain 36 = .ok (.if_icmp .ne 15, 3) := dk_160 0 15 (dk_at dksX7_plain_1 12 rfl rfl)
theorem dX7_plain_39 : decode cX7_plain 39 = .ok (.new 273, 3) := dk_187 1 17 (dk_at dksX7_plain_1 15 rfl rfl)
theorem dX7_plain_42 : decode cX7_plain 42 = .ok (.dup, 1) := dk_89 (dk_at dksX7_plain_1 18 rfl rfl)
theorem dX7_plain_43 : decode cX7_plain 43 = .ok (.iload_n 2, 1) := dk_28 (dk_at dksX7_plain_1 19 rfl rfl)
theorem dX7_plain_44 : decode cX7_plain 44 = .ok (.iconst (-1), 1) := dk_2 (dk_at dksX7_plain_1 20 rfl rfl)
theorem dX7_plain_45 : decode cX7_plain 45 = .ok (.iconst (-1), 1) := dk_2 (dk_at dksX7_plain_1 21 rfl rfl)
theorem dX7_plain_46 : decode cX7_plain 46 = .ok (.iconst 0, 1) := dk_3 (dk_at dksX7_plain_1 22 rfl rfl)
theorem dX7_plain_47 : decode cX7_plain 47 = .ok (.invokespecial 278, 3) := dk_183 1 22 (dk_at dksX7_plain_2 0 rfl rfl)
theorem dX7_plain_50 : decode cX7_plain 50 = .ok (.areturn, 1) := dk_176 (dk_at dksX7_plain_2 3 rfl rfl)
theorem dX7_plain_51 : decode cX7_plain 51 = .ok (.aload_n 0, 1) := dk_42 (dk_at dksX7_plain_2 4 rfl rfl)
theorem dX7_plain_52 : decode cX7_plain 52 = .ok (.aload_n 1, 1) := dk_43 (dk_at dksX7_plain_2 5 rfl rfl)
theorem dX7_plain_53 : decode cX7_plain 53 = .ok (.invokevirtual 232, 3) := dk_182 0 232 (dk_at dksX7_plain_2 6 rfl rfl)
theorem dX7_plain_56 : decode cX7_plain 56 = .ok (.istore_n 3, 1) := dk_62 (dk_at dksX7_plain_2 9 rfl rfl)
theorem dX7_plain_57 : decode cX7_plain 57 = .ok (.aload_n 0, 1) := dk_42 (dk_at dksX7_plain_2 10 rfl rfl)
theorem dX7_plain_58 : decode cX7_plain 58 = .ok (.iload_n 2, 1) := dk_28 (dk_at dksX7_plain_2 11 rfl rfl)
theorem dX7_plain_59 : decode cX7_plain 59 = .ok (.iconst 1, 1) := dk_4 (dk_at dksX7_plain_2 12 rfl rfl)
theorem dX7_plain_60 : decode cX7_plain 60 = .ok (.if_icmp .ne 8, 3) := dk_160 0 8 (dk_at dksX7_plain_2 13 rfl rfl)
theorem dX7_plain_63 : decode cX7_plain 63 = .ok (.ldc 127, 2) := dk_18 127 (dk_at dksX7_plain_2 16 rfl rfl)
theorem dX7_plain_65 : decode cX7_plain 65 = .ok (.goto 5, 3) := dk_167 0 5 (dk_at dksX7_plain_2 18 rfl rfl)
theorem dX7_plain_68 : decode cX7_plain 68 = .ok (.ldc 129, 2) := dk_18 129 (dk_at dksX7_plain_2 21 rfl rfl)
theorem dX7_plain_70 : decode cX7_plain 70 = .ok (.invokevirtual 281, 3) := dk_182 1 25 (dk_at dksX7_plain_3 0 rfl rfl)
theorem dX7_plain_73 : decode cX7_plain 73 = .ok (.aload_n 0, 1) := dk_42 (dk_at dksX7_plain_3 3 rfl rfl)
theorem dX7_plain_74 : decode cX7_plain 74 = .ok (.aload_n 1, 1) := dk_43 (dk_at dksX7_plain_3 4 rfl rfl)
theorem dX7_plain_75 : decode cX7_plain 75 = .ok (.iload_n 3, 1) := dk_29 (dk_at dksX7_plain_3 5 rfl rfl)
theorem dX7_plain_76 : decode cX7_plain 76 = .ok (.invokevirtual 239, 3) := dk_182 0 239 (dk_at dksX7_plain_3 6 rfl rfl)
theorem dX7_plain_79 : decode cX7_plain 79 = .ok (.istore 4, 2) := dk_54 4 (dk_at dksX7_plain_3 9 rfl rfl)
theorem dX7_plain_81 : decode cX7_plain 81 = .ok (.new 273, 3) := dk_187 1 17 (dk_at dksX7_plain_3 11 rfl rfl)
theorem dX7_plain_84 : decode cX7_plain 84 = .ok (.dup, 1) := dk_89 (dk_at dksX7_plain_3 14 rfl rfl)
theorem dX7_plain_85 : decode cX7_plain 85 = .ok (.iload_n 2, 1) := dk_28 (dk_at dksX7_plain_3 15 rfl rfl)
theorem dX7_plain_86 : decode cX7_plain 86 = .ok (.iload_n 3, 1) := dk_29 (dk_at dksX7_plain_3 16 rfl rfl)
theorem dX7_plain_87 : decode cX7_plain 87 = .ok (.iload 4, 2) := dk_21 4 (dk_at dksX7_plain_3 17 rfl rfl)
theorem dX7_plain_89 : decode cX7_plain 89 = .ok (.iload_n 2, 1) := dk_28 (dk_at dksX7_plain_3 19 rfl rfl)
theorem dX7_plain_90 : decode cX7_plain 90 = .ok (.iconst 1, 1) := dk_4 (dk_at dksX7_plain_3 20 rfl rfl)
theorem dX7_plain_91 : decode cX7_plain 91 = .ok (.if_icmp .ne 7, 3) := dk_160 0 7 (dk_at dksX7_plain_3 21 rfl rfl)
theorem dX7_plain_94 : decode cX7_plain 94 = .ok (.iconst 0, 1) := dk_3 (dk_at dksX7_plain_4 0 rfl rfl)
theorem dX7_plain_95 : decode cX7_plain 95 = .ok (.goto 11, 3) := dk_167 0 11 (dk_at dksX7_plain_4 1 rfl rfl)
theorem dX7_plain_98 : decode cX7_plain 98 = .ok (.aload_n 0, 1) := dk_42 (dk_at dksX7_plain_4 4 rfl rfl)
theorem dX7_plain_99 : decode cX7_plain 99 = .ok (.iconst 1, 1) := dk_4 (dk_at dksX7_plain_4 5 rfl rfl)
theorem dX7_plain_100 : decode cX7_plain 100 = .ok (.sipush 999, 3) := dk_17 3 231 (dk_at dksX7_plain_4 6 rfl rfl)
theorem dX7_plain_103 : decode cX7_plain 103 = .ok (.invokevirtual 76, 3) := dk_182 0 76 (dk_at dksX7_plain_4 9 rfl rfl)
theorem dX7_plain_106 : decode cX7_plain 106 = .ok (.invokespecial 278, 3) := dk_183 1 22 (dk_at dksX7_plain_4 12 rfl rfl)
theorem dX7_plain_109 : decode cX7_plain 109 = .ok (.areturn, 1) := dk_176 (dk_at dksX7_plain_4 15 rfl rfl)
abbrev cX7_payer : ByteArray := prog_9_method_32_code
def yX7_payer : MethodName := ⟨RX7, "payer", "(LLetMe$Table;)I"⟩
def dkwX7_payer_0 : List UInt8 := [42, 18, 121, 182, 0, 72, 154, 0, 5, 2, 172, 42, 182, 0, 19, 42, 43, 182, 0, 232, 172]
abbrev dktX7_payer_0 : List UInt8 := dkwX7_payer_0 ++ []
theorem dksX7_payer_0 : cX7_payer.data.toList.drop 0 = dktX7_payer_0 := by decide +kernel
theorem dX7_payer_0 : decode cX7_payer 0 = .ok (.aload_n 0, 1) := dk_42 (dk_at dksX7_payer_0 0 rfl rfl)
theorem dX7_payer_1 : decode cX7_payer 1 = .ok (.ldc 121, 2) := dk_18 121 (dk_at dksX7_payer_0 1 rfl rfl)
theorem dX7_payer_3 : decode cX7_payer 3 = .ok (.invokevirtual 72, 3) := dk_182 0 72 (dk_at dksX7_payer_0 3 rfl rfl)
theorem dX7_payer_6 : decode cX7_payer 6 = .ok (.ifCond .ne 5, 3) := dk_154 0 5 (dk_at dksX7_payer_0 6 rfl rfl)
theorem dX7_payer_9 : decode cX7_payer 9 = .ok (.iconst (-1), 1) := dk_2 (dk_at dksX7_payer_0 9 rfl rfl)
theorem dX7_payer_10 : decode cX7_payer 10 = .ok (.ireturn, 1) := dk_172 (dk_at dksX7_payer_0 10 rfl rfl)
theorem dX7_payer_11 : decode cX7_payer 11 = .ok (.aload_n 0, 1) := dk_42 (dk_at dksX7_payer_0 11 rfl rfl)
theorem dX7_payer_12 : decode cX7_payer 12 = .ok (.invokevirtual 19, 3) := dk_182 0 19 (dk_at dksX7_payer_0 12 rfl rfl)
theorem dX7_payer_15 : decode cX7_payer 15 = .ok (.aload_n 0, 1) := dk_42 (dk_at dksX7_payer_0 15 rfl rfl)
theorem dX7_payer_16 : decode cX7_payer 16 = .ok (.aload_n 1, 1) := dk_43 (dk_at dksX7_payer_0 16 rfl rfl)
theorem dX7_payer_17 : decode cX7_payer 17 = .ok (.invokevirtual 232, 3) := dk_182 0 232 (dk_at dksX7_payer_0 17 rfl rfl)
theorem dX7_payer_20 : decode cX7_payer 20 = .ok (.ireturn, 1) := dk_172 (dk_at dksX7_payer_0 20 rfl rfl)
abbrev cX7_word : ByteArray := prog_9_method_9_code
def yX7_word : MethodName := ⟨RX7, "word", "(Ljava/lang/String;)V"⟩
def dkwX7_word_0 : List UInt8 := [42, 43, 182, 0, 72, 154, 0, 8, 42, 182, 0, 68, 191, 42, 182, 0, 19, 177]
abbrev dktX7_word_0 : List UInt8 := dkwX7_word_0 ++ []
theorem dksX7_word_0 : cX7_word.data.toList.drop 0 = dktX7_word_0 := by decide +kernel
theorem dX7_word_0 : decode cX7_word 0 = .ok (.aload_n 0, 1) := dk_42 (dk_at dksX7_word_0 0 rfl rfl)
theorem dX7_word_1 : decode cX7_word 1 = .ok (.aload_n 1, 1) := dk_43 (dk_at dksX7_word_0 1 rfl rfl)
theorem dX7_word_2 : decode cX7_word 2 = .ok (.invokevirtual 72, 3) := dk_182 0 72 (dk_at dksX7_word_0 2 rfl rfl)
theorem dX7_word_5 : decode cX7_word 5 = .ok (.ifCond .ne 8, 3) := dk_154 0 8 (dk_at dksX7_word_0 5 rfl rfl)
theorem dX7_word_8 : decode cX7_word 8 = .ok (.aload_n 0, 1) := dk_42 (dk_at dksX7_word_0 8 rfl rfl)
theorem dX7_word_9 : decode cX7_word 9 = .ok (.invokevirtual 68, 3) := dk_182 0 68 (dk_at dksX7_word_0 9 rfl rfl)
theorem dX7_word_12 : decode cX7_word 12 = .ok (.athrow, 1) := dk_191 (dk_at dksX7_word_0 12 rfl rfl)
theorem dX7_word_13 : decode cX7_word 13 = .ok (.aload_n 0, 1) := dk_42 (dk_at dksX7_word_0 13 rfl rfl)
theorem dX7_word_14 : decode cX7_word 14 = .ok (.invokevirtual 19, 3) := dk_182 0 19 (dk_at dksX7_word_0 14 rfl rfl)
theorem dX7_word_17 : decode cX7_word 17 = .ok (.return_, 1) := dk_177 (dk_at dksX7_word_0 17 rfl rfl)
theorem q159 : (Jvm.Cond.initialized "LetMe$Reader") ∈ lw_all := lw_g (lw_at lw_m1 16 rfl) rfl
theorem q299 : (Jvm.Cond.fieldLinkNest "LetMe$Reader" (217 : Nat) "LetMe$Table" "person" "[LLetMe$Person;" "LetMe") ∈ lw_tbl := lw_at lw_m1 156 rfl
theorem q302 : (Jvm.Cond.fieldLinkNest "LetMe$Reader" (191 : Nat) "LetMe$Table" "people" "I" "LetMe") ∈ lw_tbl := lw_at lw_m1 159 rfl
theorem q305 : (Jvm.Cond.fieldLinkNest "LetMe$Reader" (223 : Nat) "LetMe$Table" "couples" "I" "LetMe") ∈ lw_tbl := lw_at lw_m1 162 rfl
theorem q308 : (Jvm.Cond.fieldLinkNest "LetMe$Reader" (229 : Nat) "LetMe$Table" "dishes" "I" "LetMe") ∈ lw_tbl := lw_at lw_m1 165 rfl
theorem q311 : (Jvm.Cond.fieldLinkNest "LetMe$Reader" (182 : Nat) "LetMe$Table" "split" "I" "LetMe") ∈ lw_tbl := lw_at lw_m1 168 rfl
theorem q315 : (Jvm.Cond.fieldLinkNest "LetMe$Reader" (186 : Nat) "LetMe$Table" "law" "I" "LetMe") ∈ lw_tbl := lw_at lw_m1 172 rfl
theorem q322 : (Jvm.Cond.fieldLinkNest "LetMe$Reader" (194 : Nat) "LetMe$Table" "inside" "I" "LetMe") ∈ lw_tbl := lw_at lw_m1 179 rfl
theorem q378 : (Jvm.Cond.fieldLinkNest "LetMe$Reader" (22 : Nat) "LetMe" "tape" "[B" "LetMe") ∈ lw_tbl := lw_at lw_m1 235 rfl
theorem q384 : (Jvm.Cond.fieldLinkNest "LetMe$Reader" (55 : Nat) "LetMe" "bad" "LLetMe$Bad;" "LetMe") ∈ lw_tbl := lw_at lw_m2 1 rfl
theorem q585 : (Jvm.Cond.instantiable "LetMe$Reader" (9 : Nat)) ∈ lw_all := lw_g (lw_at lw_m2 202 rfl) rfl
theorem q587 : (Jvm.Cond.instanceMethod ({ cls := "LetMe$Reader", name := "<init>", desc := "(LLetMe;I)V" } : Jvm.MethodName)) ∈ lw_all := lw_g (lw_at lw_m2 204 rfl) rfl
theorem q588 : (Jvm.Cond.code ({ cls := "LetMe$Reader", name := "<init>", desc := "(LLetMe;I)V" } : Jvm.MethodName) prog_9_method_1_code (3 : Nat) (Option.none : Option Jvm.ClassFile.FieldType)) ∈ lw_all := lw_g (lw_at lw_m2 205 rfl) rfl
theorem q589 : (Jvm.Cond.methodLink "LetMe$Reader" (9 : Nat) ({ cls := "java/lang/Object", name := "<init>", desc := "()V" } : Jvm.MethodName)) ∈ lw_all := lw_g (lw_at lw_m2 206 rfl) rfl
theorem q590 : (Jvm.Cond.methodLink "LetMe$Reader" (19 : Nat) ({ cls := "LetMe$Reader", name := "next", desc := "()V" } : Jvm.MethodName)) ∈ lw_all := lw_g (lw_at lw_m2 207 rfl) rfl
theorem q591 : (Jvm.Cond.privateMethod ({ cls := "LetMe$Reader", name := "next", desc := "()V" } : Jvm.MethodName)) ∈ lw_tbl := lw_at lw_m2 208 rfl
theorem q592 : (Jvm.Cond.instanceMethod ({ cls := "LetMe$Reader", name := "next", desc := "()V" } : Jvm.MethodName)) ∈ lw_all := lw_g (lw_at lw_m2 209 rfl) rfl
theorem q593 : (Jvm.Cond.code ({ cls := "LetMe$Reader", name := "next", desc := "()V" } : Jvm.MethodName) prog_9_method_4_code (1 : Nat) (Option.none : Option Jvm.ClassFile.FieldType)) ∈ lw_all := lw_g (lw_at lw_m2 210 rfl) rfl
theorem q594 : (Jvm.Cond.methodLink "LetMe$Reader" (35 : Nat) ({ cls := "LetMe$Reader", name := "isLetter", desc := "(I)Z" } : Jvm.MethodName)) ∈ lw_all := lw_g (lw_at lw_m2 211 rfl) rfl
theorem q595 : (Jvm.Cond.privateMethod ({ cls := "LetMe$Reader", name := "isLetter", desc := "(I)Z" } : Jvm.MethodName)) ∈ lw_tbl := lw_at lw_m2 212 rfl
theorem q596 : (Jvm.Cond.instanceMethod ({ cls := "LetMe$Reader", name := "isLetter", desc := "(I)Z" } : Jvm.MethodName)) ∈ lw_all := lw_g (lw_at lw_m2 213 rfl) rfl
theorem q597 : (Jvm.Cond.code ({ cls := "LetMe$Reader", name := "isLetter", desc := "(I)Z" } : Jvm.MethodName) prog_9_method_2_code (2 : Nat) (Option.some Jvm.ClassFile.FieldType.boolean)) ∈ lw_all := lw_g (lw_at lw_m2 214 rfl) rfl
theorem q598 : (Jvm.Cond.methodLink "LetMe$Reader" (39 : Nat) ({ cls := "LetMe$Reader", name := "isDigit", desc := "(I)Z" } : Jvm.MethodName)) ∈ lw_all := lw_g (lw_at lw_m2 215 rfl) rfl
theorem q599 : (Jvm.Cond.privateMethod ({ cls := "LetMe$Reader", name := "isDigit", desc := "(I)Z" } : Jvm.MethodName)) ∈ lw_tbl := lw_at lw_m2 216 rfl
theorem q600 : (Jvm.Cond.instanceMethod ({ cls := "LetMe$Reader", name := "isDigit", desc := "(I)Z" } : Jvm.MethodName)) ∈ lw_all := lw_g (lw_at lw_m2 217 rfl) rfl
theorem q601 : (Jvm.Cond.code ({ cls := "LetMe$Reader", name := "isDigit", desc := "(I)Z" } : Jvm.MethodName) prog_9_method_3_code (2 : Nat) (Option.some Jvm.ClassFile.FieldType.boolean)) ∈ lw_all := lw_g (lw_at lw_m2 218 rfl) rfl
theorem q602 : (Jvm.Cond.fieldLink "LetMe$Reader" (15 : Nat) "LetMe$Reader" "size" "I") ∈ lw_all := lw_g (lw_at lw_m2 219 rfl) rfl
theorem q603 : (Jvm.Cond.fieldLink "LetMe$Reader" (29 : Nat) "LetMe$Reader" "at" "I") ∈ lw_all := lw_g (lw_at lw_m2 220 rfl) rfl
theorem q604 : (Jvm.Cond.fieldLink "LetMe$Reader" (26 : Nat) "LetMe$Reader" "behind" "I") ∈ lw_all := lw_g (lw_at lw_m2 221 rfl) rfl
theorem q605 : (Jvm.Cond.fieldLink "LetMe$Reader" (32 : Nat) "LetMe$Reader" "sort" "I") ∈ lw_all := lw_g (lw_at lw_m2 222 rfl) rfl
theorem q606 : (Jvm.Cond.fieldLink "LetMe$Reader" (42 : Nat) "LetMe$Reader" "number" "I") ∈ lw_all := lw_g (lw_at lw_m2 223 rfl) rfl
theorem q607 : (Jvm.Cond.fieldLink "LetMe$Reader" (256 : Nat) "LetMe$Reader" "steps" "I") ∈ lw_all := lw_g (lw_at lw_m2 224 rfl) rfl
theorem q609 : (Jvm.Cond.fieldLink "LetMe$Reader" (246 : Nat) "LetMe$Reader" "hasSplit" "Z") ∈ lw_all := lw_g (lw_at lw_m2 226 rfl) rfl
theorem q610 : (Jvm.Cond.fieldLink "LetMe$Reader" (249 : Nat) "LetMe$Reader" "hasLaw" "Z") ∈ lw_all := lw_g (lw_at lw_m2 227 rfl) rfl
theorem q611 : (Jvm.Cond.fieldLink "LetMe$Reader" (3 : Nat) "LetMe$Reader" "this$0" "LLetMe;") ∈ lw_all := lw_g (lw_at lw_m2 228 rfl) rfl
theorem q612 : (Jvm.Cond.laysFinal "LetMe$Reader" "LetMe$Reader" "size" "I") ∈ lw_all := lw_g (lw_at lw_m2 229 rfl) rfl
theorem q613 : (Jvm.Cond.soleField "LetMe$Reader" "size") ∈ lw_all := lw_g (lw_at lw_m2 230 rfl) rfl
theorem q614 : (Jvm.Cond.lays "LetMe$Reader" "LetMe$Reader" "at" "I") ∈ lw_all := lw_g (lw_at lw_m2 231 rfl) rfl
theorem q615 : (Jvm.Cond.soleField "LetMe$Reader" "at") ∈ lw_all := lw_g (lw_at lw_m2 232 rfl) rfl
theorem q616 : (Jvm.Cond.lays "LetMe$Reader" "LetMe$Reader" "behind" "I") ∈ lw_all := lw_g (lw_at lw_m2 233 rfl) rfl
theorem q617 : (Jvm.Cond.soleField "LetMe$Reader" "behind") ∈ lw_all := lw_g (lw_at lw_m2 234 rfl) rfl
theorem q618 : (Jvm.Cond.lays "LetMe$Reader" "LetMe$Reader" "sort" "I") ∈ lw_all := lw_g (lw_at lw_m2 235 rfl) rfl
theorem q619 : (Jvm.Cond.soleField "LetMe$Reader" "sort") ∈ lw_all := lw_g (lw_at lw_m2 236 rfl) rfl
theorem q620 : (Jvm.Cond.lays "LetMe$Reader" "LetMe$Reader" "number" "I") ∈ lw_all := lw_g (lw_at lw_m2 237 rfl) rfl
theorem q621 : (Jvm.Cond.soleField "LetMe$Reader" "number") ∈ lw_all := lw_g (lw_at lw_m2 238 rfl) rfl
theorem q622 : (Jvm.Cond.lays "LetMe$Reader" "LetMe$Reader" "steps" "I") ∈ lw_all := lw_g (lw_at lw_m2 239 rfl) rfl
theorem q623 : (Jvm.Cond.soleField "LetMe$Reader" "steps") ∈ lw_all := lw_g (lw_at lw_m3 0 rfl) rfl
theorem q624 : (Jvm.Cond.lays "LetMe$Reader" "LetMe$Reader" "hasSplit" "Z") ∈ lw_all := lw_g (lw_at lw_m3 1 rfl) rfl
theorem q625 : (Jvm.Cond.soleField "LetMe$Reader" "hasSplit") ∈ lw_all := lw_g (lw_at lw_m3 2 rfl) rfl
theorem q626 : (Jvm.Cond.lays "LetMe$Reader" "LetMe$Reader" "hasLaw" "Z") ∈ lw_all := lw_g (lw_at lw_m3 3 rfl) rfl
theorem q627 : (Jvm.Cond.soleField "LetMe$Reader" "hasLaw") ∈ lw_all := lw_g (lw_at lw_m3 4 rfl) rfl
theorem q628 : (Jvm.Cond.laysFinal "LetMe$Reader" "LetMe$Reader" "this$0" "LLetMe;") ∈ lw_all := lw_g (lw_at lw_m3 5 rfl) rfl
theorem q629 : (Jvm.Cond.soleField "LetMe$Reader" "this$0") ∈ lw_all := lw_g (lw_at lw_m3 6 rfl) rfl
theorem q630 : (Jvm.Cond.superclass "LetMe$Reader" "java/lang/Object") ∈ lw_all := lw_g (lw_at lw_m3 7 rfl) rfl
theorem q632 : (Jvm.Cond.instanceMethod ({ cls := "LetMe$Reader", name := "table", desc := "(LLetMe$Table;)V" } : Jvm.MethodName)) ∈ lw_all := lw_g (lw_at lw_m3 9 rfl) rfl
theorem q633 : (Jvm.Cond.selects "LetMe$Reader" ({ cls := "LetMe$Reader", name := "table", desc := "(LLetMe$Table;)V" } : Jvm.MethodName) ({ cls := "LetMe$Reader", name := "table", desc := "(LLetMe$Table;)V" } : Jvm.MethodName)) ∈ lw_all := lw_g (lw_at lw_m3 10 rfl) rfl
theorem q634 : (Jvm.Cond.code ({ cls := "LetMe$Reader", name := "table", desc := "(LLetMe$Table;)V" } : Jvm.MethodName) prog_9_method_21_code (2 : Nat) (Option.none : Option Jvm.ClassFile.FieldType)) ∈ lw_all := lw_g (lw_at lw_m3 11 rfl) rfl
theorem q635 : (Jvm.Cond.stringRef "LetMe$Reader" (109 : Nat) "person") ∈ lw_tbl := lw_at lw_m3 12 rfl
theorem q636 : (Jvm.Cond.methodLink "LetMe$Reader" (72 : Nat) ({ cls := "LetMe$Reader", name := "isWord", desc := "(Ljava/lang/String;)Z" } : Jvm.MethodName)) ∈ lw_all := lw_g (lw_at lw_m3 13 rfl) rfl
theorem q637 : (Jvm.Cond.privateMethod ({ cls := "LetMe$Reader", name := "isWord", desc := "(Ljava/lang/String;)Z" } : Jvm.MethodName)) ∈ lw_tbl := lw_at lw_m3 14 rfl
theorem q638 : (Jvm.Cond.instanceMethod ({ cls := "LetMe$Reader", name := "isWord", desc := "(Ljava/lang/String;)Z" } : Jvm.MethodName)) ∈ lw_all := lw_g (lw_at lw_m3 15 rfl) rfl
theorem q639 : (Jvm.Cond.code ({ cls := "LetMe$Reader", name := "isWord", desc := "(Ljava/lang/String;)Z" } : Jvm.MethodName) prog_9_method_5_code (3 : Nat) (Option.some Jvm.ClassFile.FieldType.boolean)) ∈ lw_all := lw_g (lw_at lw_m3 16 rfl) rfl
theorem q640 : (Jvm.Cond.methodLink "LetMe$Reader" (45 : Nat) ({ cls := "java/lang/String", name := "length", desc := "()I" } : Jvm.MethodName)) ∈ lw_all := lw_g (lw_at lw_m3 17 rfl) rfl
theorem q650 : (Jvm.Cond.methodLink "LetMe$Reader" (51 : Nat) ({ cls := "java/lang/String", name := "charAt", desc := "(I)C" } : Jvm.MethodName)) ∈ lw_all := lw_g (lw_at lw_m3 27 rfl) rfl
theorem q688 : (Jvm.Cond.methodLink "LetMe$Reader" (171 : Nat) ({ cls := "LetMe$Reader", name := "person", desc := "(LLetMe$Table;)V" } : Jvm.MethodName)) ∈ lw_all := lw_g (lw_at lw_m3 65 rfl) rfl
theorem q689 : (Jvm.Cond.privateMethod ({ cls := "LetMe$Reader", name := "person", desc := "(LLetMe$Table;)V" } : Jvm.MethodName)) ∈ lw_tbl := lw_at lw_m3 66 rfl
theorem q690 : (Jvm.Cond.instanceMethod ({ cls := "LetMe$Reader", name := "person", desc := "(LLetMe$Table;)V" } : Jvm.MethodName)) ∈ lw_all := lw_g (lw_at lw_m3 67 rfl) rfl
theorem q691 : (Jvm.Cond.code ({ cls := "LetMe$Reader", name := "person", desc := "(LLetMe$Table;)V" } : Jvm.MethodName) prog_9_method_22_code (5 : Nat) (Option.none : Option Jvm.ClassFile.FieldType)) ∈ lw_all := lw_g (lw_at lw_m3 68 rfl) rfl
theorem q692 : (Jvm.Cond.methodLink "LetMe$Reader" (59 : Nat) ({ cls := "LetMe$Bad", name := "at", desc := "(II)LLetMe$Bad;" } : Jvm.MethodName)) ∈ lw_all := lw_g (lw_at lw_m3 69 rfl) rfl
theorem q696 : (Jvm.Cond.methodLink "LetMe$Reader" (157 : Nat) ({ cls := "LetMe$Reader", name := "name", desc := "()J" } : Jvm.MethodName)) ∈ lw_all := lw_g (lw_at lw_m3 73 rfl) rfl
theorem q697 : (Jvm.Cond.privateMethod ({ cls := "LetMe$Reader", name := "name", desc := "()J" } : Jvm.MethodName)) ∈ lw_tbl := lw_at lw_m3 74 rfl
theorem q698 : (Jvm.Cond.instanceMethod ({ cls := "LetMe$Reader", name := "name", desc := "()J" } : Jvm.MethodName)) ∈ lw_all := lw_g (lw_at lw_m3 75 rfl) rfl
theorem q699 : (Jvm.Cond.code ({ cls := "LetMe$Reader", name := "name", desc := "()J" } : Jvm.MethodName) prog_9_method_17_code (4 : Nat) (Option.some Jvm.ClassFile.FieldType.long)) ∈ lw_all := lw_g (lw_at lw_m3 76 rfl) rfl
theorem q700 : (Jvm.Cond.methodLink "LetMe$Reader" (149 : Nat) ({ cls := "LetMe$Reader", name := "isKept", desc := "()Z" } : Jvm.MethodName)) ∈ lw_all := lw_g (lw_at lw_m3 77 rfl) rfl
theorem q701 : (Jvm.Cond.privateMethod ({ cls := "LetMe$Reader", name := "isKept", desc := "()Z" } : Jvm.MethodName)) ∈ lw_tbl := lw_at lw_m3 78 rfl
theorem q702 : (Jvm.Cond.instanceMethod ({ cls := "LetMe$Reader", name := "isKept", desc := "()Z" } : Jvm.MethodName)) ∈ lw_all := lw_g (lw_at lw_m3 79 rfl) rfl
theorem q703 : (Jvm.Cond.code ({ cls := "LetMe$Reader", name := "isKept", desc := "()Z" } : Jvm.MethodName) prog_9_method_16_code (3 : Nat) (Option.some Jvm.ClassFile.FieldType.boolean)) ∈ lw_all := lw_g (lw_at lw_m3 80 rfl) rfl
theorem q704 : (Jvm.Cond.stringRef "LetMe$Reader" (111 : Nat) "minds") ∈ lw_tbl := lw_at lw_m3 81 rfl
theorem q705 : (Jvm.Cond.stringRef "LetMe$Reader" (113 : Nat) "means") ∈ lw_tbl := lw_at lw_m3 82 rfl
theorem q706 : (Jvm.Cond.stringRef "LetMe$Reader" (115 : Nat) "guest") ∈ lw_tbl := lw_at lw_m3 83 rfl
theorem q707 : (Jvm.Cond.stringRef "LetMe$Reader" (117 : Nat) "couple") ∈ lw_tbl := lw_at lw_m3 84 rfl
theorem q708 : (Jvm.Cond.stringRef "LetMe$Reader" (119 : Nat) "dish") ∈ lw_tbl := lw_at lw_m3 85 rfl
theorem q709 : (Jvm.Cond.stringRef "LetMe$Reader" (121 : Nat) "by") ∈ lw_tbl := lw_at lw_m3 86 rfl
theorem q710 : (Jvm.Cond.stringRef "LetMe$Reader" (123 : Nat) "split") ∈ lw_tbl := lw_at lw_m3 87 rfl
theorem q711 : (Jvm.Cond.stringRef "LetMe$Reader" (125 : Nat) "law") ∈ lw_tbl := lw_at lw_m3 88 rfl
theorem q712 : (Jvm.Cond.stringRef "LetMe$Reader" (127 : Nat) "with") ∈ lw_tbl := lw_at lw_m3 89 rfl
theorem q713 : (Jvm.Cond.stringRef "LetMe$Reader" (129 : Nat) "to") ∈ lw_tbl := lw_at lw_m3 90 rfl
theorem q714 : (Jvm.Cond.stringRef "LetMe$Reader" (131 : Nat) "when") ∈ lw_tbl := lw_at lw_m3 91 rfl
theorem q715 : (Jvm.Cond.stringRef "LetMe$Reader" (133 : Nat) "loop") ∈ lw_tbl := lw_at lw_m3 92 rfl
theorem q716 : (Jvm.Cond.stringRef "LetMe$Reader" (135 : Nat) "end") ∈ lw_tbl := lw_at lw_m3 93 rfl
theorem q717 : (Jvm.Cond.methodLink "LetMe$Reader" (137 : Nat) ({ cls := "LetMe$Reader", name := "acts", desc := "()I" } : Jvm.MethodName)) ∈ lw_all := lw_g (lw_at lw_m3 94 rfl) rfl
theorem q718 : (Jvm.Cond.privateMethod ({ cls := "LetMe$Reader", name := "acts", desc := "()I" } : Jvm.MethodName)) ∈ lw_tbl := lw_at lw_m3 95 rfl
theorem q719 : (Jvm.Cond.instanceMethod ({ cls := "LetMe$Reader", name := "acts", desc := "()I" } : Jvm.MethodName)) ∈ lw_all := lw_g (lw_at lw_m3 96 rfl) rfl
theorem q720 : (Jvm.Cond.code ({ cls := "LetMe$Reader", name := "acts", desc := "()I" } : Jvm.MethodName) prog_9_method_12_code (1 : Nat) (Option.some Jvm.ClassFile.FieldType.int)) ∈ lw_all := lw_g (lw_at lw_m3 97 rfl) rfl
theorem q721 : (Jvm.Cond.stringRef "LetMe$Reader" (79 : Nat) "dinner") ∈ lw_tbl := lw_at lw_m3 98 rfl
theorem q722 : (Jvm.Cond.stringRef "LetMe$Reader" (81 : Nat) "duel") ∈ lw_tbl := lw_at lw_m3 99 rfl
theorem q723 : (Jvm.Cond.stringRef "LetMe$Reader" (83 : Nat) "lend") ∈ lw_tbl := lw_at lw_m3 100 rfl
theorem q724 : (Jvm.Cond.stringRef "LetMe$Reader" (85 : Nat) "gift") ∈ lw_tbl := lw_at lw_m3 101 rfl
theorem q725 : (Jvm.Cond.stringRef "LetMe$Reader" (87 : Nat) "round") ∈ lw_tbl := lw_at lw_m3 102 rfl
theorem q726 : (Jvm.Cond.stringRef "LetMe$Reader" (89 : Nat) "stop") ∈ lw_tbl := lw_at lw_m3 103 rfl
theorem q727 : (Jvm.Cond.methodLink "LetMe$Reader" (140 : Nat) ({ cls := "LetMe$Reader", name := "tests", desc := "()I" } : Jvm.MethodName)) ∈ lw_all := lw_g (lw_at lw_m3 104 rfl) rfl
theorem q728 : (Jvm.Cond.privateMethod ({ cls := "LetMe$Reader", name := "tests", desc := "()I" } : Jvm.MethodName)) ∈ lw_tbl := lw_at lw_m3 105 rfl
theorem q729 : (Jvm.Cond.instanceMethod ({ cls := "LetMe$Reader", name := "tests", desc := "()I" } : Jvm.MethodName)) ∈ lw_all := lw_g (lw_at lw_m3 106 rfl) rfl
theorem q730 : (Jvm.Cond.code ({ cls := "LetMe$Reader", name := "tests", desc := "()I" } : Jvm.MethodName) prog_9_method_13_code (1 : Nat) (Option.some Jvm.ClassFile.FieldType.int)) ∈ lw_all := lw_g (lw_at lw_m3 107 rfl) rfl
theorem q731 : (Jvm.Cond.stringRef "LetMe$Reader" (91 : Nat) "paid") ∈ lw_tbl := lw_at lw_m3 108 rfl
theorem q732 : (Jvm.Cond.stringRef "LetMe$Reader" (93 : Nat) "owes") ∈ lw_tbl := lw_at lw_m3 109 rfl
theorem q733 : (Jvm.Cond.stringRef "LetMe$Reader" (95 : Nat) "turn") ∈ lw_tbl := lw_at lw_m3 110 rfl
theorem q734 : (Jvm.Cond.methodLink "LetMe$Reader" (143 : Nat) ({ cls := "LetMe$Reader", name := "splits", desc := "()I" } : Jvm.MethodName)) ∈ lw_all := lw_g (lw_at lw_m3 111 rfl) rfl
theorem q735 : (Jvm.Cond.privateMethod ({ cls := "LetMe$Reader", name := "splits", desc := "()I" } : Jvm.MethodName)) ∈ lw_tbl := lw_at lw_m3 112 rfl
theorem q736 : (Jvm.Cond.instanceMethod ({ cls := "LetMe$Reader", name := "splits", desc := "()I" } : Jvm.MethodName)) ∈ lw_all := lw_g (lw_at lw_m3 113 rfl) rfl
theorem q737 : (Jvm.Cond.code ({ cls := "LetMe$Reader", name := "splits", desc := "()I" } : Jvm.MethodName) prog_9_method_14_code (1 : Nat) (Option.some Jvm.ClassFile.FieldType.int)) ∈ lw_all := lw_g (lw_at lw_m3 114 rfl) rfl
theorem q738 : (Jvm.Cond.stringRef "LetMe$Reader" (97 : Nat) "heads") ∈ lw_tbl := lw_at lw_m3 115 rfl
theorem q739 : (Jvm.Cond.stringRef "LetMe$Reader" (99 : Nat) "eaten") ∈ lw_tbl := lw_at lw_m3 116 rfl
theorem q740 : (Jvm.Cond.stringRef "LetMe$Reader" (101 : Nat) "couples") ∈ lw_tbl := lw_at lw_m3 117 rfl
theorem q741 : (Jvm.Cond.methodLink "LetMe$Reader" (146 : Nat) ({ cls := "LetMe$Reader", name := "laws", desc := "()I" } : Jvm.MethodName)) ∈ lw_all := lw_g (lw_at lw_m3 118 rfl) rfl
theorem q742 : (Jvm.Cond.privateMethod ({ cls := "LetMe$Reader", name := "laws", desc := "()I" } : Jvm.MethodName)) ∈ lw_tbl := lw_at lw_m3 119 rfl
theorem q743 : (Jvm.Cond.instanceMethod ({ cls := "LetMe$Reader", name := "laws", desc := "()I" } : Jvm.MethodName)) ∈ lw_all := lw_g (lw_at lw_m3 120 rfl) rfl
theorem q744 : (Jvm.Cond.code ({ cls := "LetMe$Reader", name := "laws", desc := "()I" } : Jvm.MethodName) prog_9_method_15_code (1 : Nat) (Option.some Jvm.ClassFile.FieldType.int)) ∈ lw_all := lw_g (lw_at lw_m3 121 rfl) rfl
theorem q745 : (Jvm.Cond.stringRef "LetMe$Reader" (103 : Nat) "owing") ∈ lw_tbl := lw_at lw_m3 122 rfl
theorem q746 : (Jvm.Cond.stringRef "LetMe$Reader" (105 : Nat) "quick") ∈ lw_tbl := lw_at lw_m3 123 rfl
theorem q747 : (Jvm.Cond.stringRef "LetMe$Reader" (107 : Nat) "insists") ∈ lw_tbl := lw_at lw_m3 124 rfl
theorem q748 : (Jvm.Cond.methodLink "LetMe$Reader" (68 : Nat) ({ cls := "LetMe$Reader", name := "wrong", desc := "()LLetMe$Bad;" } : Jvm.MethodName)) ∈ lw_all := lw_g (lw_at lw_m3 125 rfl) rfl
theorem q749 : (Jvm.Cond.privateMethod ({ cls := "LetMe$Reader", name := "wrong", desc := "()LLetMe$Bad;" } : Jvm.MethodName)) ∈ lw_tbl := lw_at lw_m3 126 rfl
theorem q750 : (Jvm.Cond.instanceMethod ({ cls := "LetMe$Reader", name := "wrong", desc := "()LLetMe$Bad;" } : Jvm.MethodName)) ∈ lw_all := lw_g (lw_at lw_m3 127 rfl) rfl
theorem q751 : (Jvm.Cond.code ({ cls := "LetMe$Reader", name := "wrong", desc := "()LLetMe$Bad;" } : Jvm.MethodName) prog_9_method_7_code (1 : Nat) (Option.some (Jvm.ClassFile.FieldType.object "LetMe$Bad"))) ∈ lw_all := lw_g (lw_at lw_m3 128 rfl) rfl
theorem q752 : (Jvm.Cond.constantLong "LetMe$Reader" (153 : Nat) (32 : Int64)) ∈ lw_all := lw_g (lw_at lw_m3 129 rfl) rfl
theorem q753 : (Jvm.Cond.constantLong "LetMe$Reader" (155 : Nat) (96 : Int64)) ∈ lw_all := lw_g (lw_at lw_m3 130 rfl) rfl
theorem q754 : (Jvm.Cond.methodLink "LetMe$Reader" (161 : Nat) ({ cls := "LetMe$Table", name := "named", desc := "(J)I" } : Jvm.MethodName)) ∈ lw_all := lw_g (lw_at lw_m3 131 rfl) rfl
theorem q758 : (Jvm.Cond.classLink "LetMe$Reader" (197 : Nat) "LetMe$Person") ∈ lw_all := lw_g (lw_at lw_m3 135 rfl) rfl
theorem q760 : (Jvm.Cond.methodLink "LetMe$Reader" (199 : Nat) ({ cls := "LetMe$Person", name := "<init>", desc := "(J)V" } : Jvm.MethodName)) ∈ lw_all := lw_g (lw_at lw_m3 137 rfl) rfl
theorem q768 : (Jvm.Cond.fieldLinkNest "LetMe$Reader" (206 : Nat) "LetMe$Person" "insists" "I" "LetMe") ∈ lw_tbl := lw_at lw_m3 145 rfl
theorem q773 : (Jvm.Cond.fieldLinkNest "LetMe$Reader" (208 : Nat) "LetMe$Person" "quick" "I" "LetMe") ∈ lw_tbl := lw_at lw_m3 150 rfl
theorem q775 : (Jvm.Cond.fieldLinkNest "LetMe$Reader" (210 : Nat) "LetMe$Person" "minds" "I" "LetMe") ∈ lw_tbl := lw_at lw_m3 152 rfl
theorem q778 : (Jvm.Cond.fieldLinkNest "LetMe$Reader" (212 : Nat) "LetMe$Person" "means" "I" "LetMe") ∈ lw_tbl := lw_at lw_m3 155 rfl
theorem q782 : (Jvm.Cond.fieldLinkNest "LetMe$Reader" (220 : Nat) "LetMe$Person" "mate" "I" "LetMe") ∈ lw_tbl := lw_at lw_m3 159 rfl
theorem q785 : (Jvm.Cond.fieldLinkNest "LetMe$Reader" (214 : Nat) "LetMe$Person" "guest" "Z" "LetMe") ∈ lw_tbl := lw_at lw_m3 162 rfl
theorem q801 : (Jvm.Cond.methodLink "LetMe$Reader" (202 : Nat) ({ cls := "LetMe$Reader", name := "perhaps", desc := "(Ljava/lang/String;III)I" } : Jvm.MethodName)) ∈ lw_all := lw_g (lw_at lw_m3 178 rfl) rfl
theorem q802 : (Jvm.Cond.privateMethod ({ cls := "LetMe$Reader", name := "perhaps", desc := "(Ljava/lang/String;III)I" } : Jvm.MethodName)) ∈ lw_tbl := lw_at lw_m3 179 rfl
theorem q803 : (Jvm.Cond.instanceMethod ({ cls := "LetMe$Reader", name := "perhaps", desc := "(Ljava/lang/String;III)I" } : Jvm.MethodName)) ∈ lw_all := lw_g (lw_at lw_m3 180 rfl) rfl
theorem q804 : (Jvm.Cond.code ({ cls := "LetMe$Reader", name := "perhaps", desc := "(Ljava/lang/String;III)I" } : Jvm.MethodName) prog_9_method_11_code (5 : Nat) (Option.some Jvm.ClassFile.FieldType.int)) ∈ lw_all := lw_g (lw_at lw_m3 181 rfl) rfl
theorem q805 : (Jvm.Cond.methodLink "LetMe$Reader" (76 : Nat) ({ cls := "LetMe$Reader", name := "number", desc := "(II)I" } : Jvm.MethodName)) ∈ lw_all := lw_g (lw_at lw_m3 182 rfl) rfl
theorem q806 : (Jvm.Cond.privateMethod ({ cls := "LetMe$Reader", name := "number", desc := "(II)I" } : Jvm.MethodName)) ∈ lw_tbl := lw_at lw_m3 183 rfl
theorem q807 : (Jvm.Cond.instanceMethod ({ cls := "LetMe$Reader", name := "number", desc := "(II)I" } : Jvm.MethodName)) ∈ lw_all := lw_g (lw_at lw_m3 184 rfl) rfl
theorem q808 : (Jvm.Cond.code ({ cls := "LetMe$Reader", name := "number", desc := "(II)I" } : Jvm.MethodName) prog_9_method_10_code (4 : Nat) (Option.some Jvm.ClassFile.FieldType.int)) ∈ lw_all := lw_g (lw_at lw_m3 185 rfl) rfl
theorem q809 : (Jvm.Cond.methodLink "LetMe$Reader" (174 : Nat) ({ cls := "LetMe$Reader", name := "couple", desc := "(LLetMe$Table;)V" } : Jvm.MethodName)) ∈ lw_all := lw_g (lw_at lw_m3 186 rfl) rfl
theorem q810 : (Jvm.Cond.privateMethod ({ cls := "LetMe$Reader", name := "couple", desc := "(LLetMe$Table;)V" } : Jvm.MethodName)) ∈ lw_tbl := lw_at lw_m3 187 rfl
theorem q811 : (Jvm.Cond.instanceMethod ({ cls := "LetMe$Reader", name := "couple", desc := "(LLetMe$Table;)V" } : Jvm.MethodName)) ∈ lw_all := lw_g (lw_at lw_m3 188 rfl) rfl
theorem q812 : (Jvm.Cond.code ({ cls := "LetMe$Reader", name := "couple", desc := "(LLetMe$Table;)V" } : Jvm.MethodName) prog_9_method_24_code (4 : Nat) (Option.none : Option Jvm.ClassFile.FieldType)) ∈ lw_all := lw_g (lw_at lw_m3 189 rfl) rfl
theorem q813 : (Jvm.Cond.methodLink "LetMe$Reader" (225 : Nat) ({ cls := "LetMe$Reader", name := "single", desc := "(LLetMe$Table;I)I" } : Jvm.MethodName)) ∈ lw_all := lw_g (lw_at lw_m3 190 rfl) rfl
theorem q814 : (Jvm.Cond.privateMethod ({ cls := "LetMe$Reader", name := "single", desc := "(LLetMe$Table;I)I" } : Jvm.MethodName)) ∈ lw_tbl := lw_at lw_m3 191 rfl
theorem q815 : (Jvm.Cond.instanceMethod ({ cls := "LetMe$Reader", name := "single", desc := "(LLetMe$Table;I)I" } : Jvm.MethodName)) ∈ lw_all := lw_g (lw_at lw_m3 192 rfl) rfl
theorem q816 : (Jvm.Cond.code ({ cls := "LetMe$Reader", name := "single", desc := "(LLetMe$Table;I)I" } : Jvm.MethodName) prog_9_method_23_code (4 : Nat) (Option.some Jvm.ClassFile.FieldType.int)) ∈ lw_all := lw_g (lw_at lw_m3 193 rfl) rfl
theorem q817 : (Jvm.Cond.methodLink "LetMe$Reader" (167 : Nat) ({ cls := "LetMe$Reader", name := "known", desc := "(LLetMe$Table;)I" } : Jvm.MethodName)) ∈ lw_all := lw_g (lw_at lw_m3 194 rfl) rfl
theorem q818 : (Jvm.Cond.privateMethod ({ cls := "LetMe$Reader", name := "known", desc := "(LLetMe$Table;)I" } : Jvm.MethodName)) ∈ lw_tbl := lw_at lw_m3 195 rfl
theorem q819 : (Jvm.Cond.instanceMethod ({ cls := "LetMe$Reader", name := "known", desc := "(LLetMe$Table;)I" } : Jvm.MethodName)) ∈ lw_all := lw_g (lw_at lw_m3 196 rfl) rfl
theorem q820 : (Jvm.Cond.code ({ cls := "LetMe$Reader", name := "known", desc := "(LLetMe$Table;)I" } : Jvm.MethodName) prog_9_method_18_code (3 : Nat) (Option.some Jvm.ClassFile.FieldType.int)) ∈ lw_all := lw_g (lw_at lw_m3 197 rfl) rfl
theorem q821 : (Jvm.Cond.methodLink "LetMe$Reader" (176 : Nat) ({ cls := "LetMe$Reader", name := "dish", desc := "(LLetMe$Table;)V" } : Jvm.MethodName)) ∈ lw_all := lw_g (lw_at lw_m3 198 rfl) rfl
theorem q822 : (Jvm.Cond.privateMethod ({ cls := "LetMe$Reader", name := "dish", desc := "(LLetMe$Table;)V" } : Jvm.MethodName)) ∈ lw_tbl := lw_at lw_m3 199 rfl
theorem q823 : (Jvm.Cond.instanceMethod ({ cls := "LetMe$Reader", name := "dish", desc := "(LLetMe$Table;)V" } : Jvm.MethodName)) ∈ lw_all := lw_g (lw_at lw_m3 200 rfl) rfl
theorem q824 : (Jvm.Cond.code ({ cls := "LetMe$Reader", name := "dish", desc := "(LLetMe$Table;)V" } : Jvm.MethodName) prog_9_method_25_code (4 : Nat) (Option.none : Option Jvm.ClassFile.FieldType)) ∈ lw_all := lw_g (lw_at lw_m3 201 rfl) rfl
theorem q825 : (Jvm.Cond.methodLink "LetMe$Reader" (232 : Nat) ({ cls := "LetMe$Reader", name := "who", desc := "(LLetMe$Table;)I" } : Jvm.MethodName)) ∈ lw_all := lw_g (lw_at lw_m3 202 rfl) rfl
theorem q826 : (Jvm.Cond.privateMethod ({ cls := "LetMe$Reader", name := "who", desc := "(LLetMe$Table;)I" } : Jvm.MethodName)) ∈ lw_tbl := lw_at lw_m3 203 rfl
theorem q827 : (Jvm.Cond.instanceMethod ({ cls := "LetMe$Reader", name := "who", desc := "(LLetMe$Table;)I" } : Jvm.MethodName)) ∈ lw_all := lw_g (lw_at lw_m3 204 rfl) rfl
theorem q828 : (Jvm.Cond.code ({ cls := "LetMe$Reader", name := "who", desc := "(LLetMe$Table;)I" } : Jvm.MethodName) prog_9_method_19_code (3 : Nat) (Option.some Jvm.ClassFile.FieldType.int)) ∈ lw_all := lw_g (lw_at lw_m3 205 rfl) rfl
theorem q829 : (Jvm.Cond.methodLink "LetMe$Reader" (235 : Nat) ({ cls := "LetMe$Table", name := "order", desc := "(II)V" } : Jvm.MethodName)) ∈ lw_all := lw_g (lw_at lw_m3 206 rfl) rfl
theorem q837 : (Jvm.Cond.methodLink "LetMe$Reader" (178 : Nat) ({ cls := "LetMe$Reader", name := "owes", desc := "(LLetMe$Table;)V" } : Jvm.MethodName)) ∈ lw_all := lw_g (lw_at lw_m3 214 rfl) rfl
theorem q838 : (Jvm.Cond.privateMethod ({ cls := "LetMe$Reader", name := "owes", desc := "(LLetMe$Table;)V" } : Jvm.MethodName)) ∈ lw_tbl := lw_at lw_m3 215 rfl
theorem q839 : (Jvm.Cond.instanceMethod ({ cls := "LetMe$Reader", name := "owes", desc := "(LLetMe$Table;)V" } : Jvm.MethodName)) ∈ lw_all := lw_g (lw_at lw_m3 216 rfl) rfl
theorem q840 : (Jvm.Cond.code ({ cls := "LetMe$Reader", name := "owes", desc := "(LLetMe$Table;)V" } : Jvm.MethodName) prog_9_method_26_code (4 : Nat) (Option.none : Option Jvm.ClassFile.FieldType)) ∈ lw_all := lw_g (lw_at lw_m3 217 rfl) rfl
theorem q841 : (Jvm.Cond.methodLink "LetMe$Reader" (239 : Nat) ({ cls := "LetMe$Reader", name := "otherThan", desc := "(LLetMe$Table;I)I" } : Jvm.MethodName)) ∈ lw_all := lw_g (lw_at lw_m3 218 rfl) rfl
theorem q842 : (Jvm.Cond.privateMethod ({ cls := "LetMe$Reader", name := "otherThan", desc := "(LLetMe$Table;I)I" } : Jvm.MethodName)) ∈ lw_tbl := lw_at lw_m3 219 rfl
theorem q843 : (Jvm.Cond.instanceMethod ({ cls := "LetMe$Reader", name := "otherThan", desc := "(LLetMe$Table;I)I" } : Jvm.MethodName)) ∈ lw_all := lw_g (lw_at lw_m3 220 rfl) rfl
theorem q844 : (Jvm.Cond.code ({ cls := "LetMe$Reader", name := "otherThan", desc := "(LLetMe$Table;I)I" } : Jvm.MethodName) prog_9_method_20_code (4 : Nat) (Option.some Jvm.ClassFile.FieldType.int)) ∈ lw_all := lw_g (lw_at lw_m3 221 rfl) rfl
theorem q845 : (Jvm.Cond.methodLink "LetMe$Reader" (242 : Nat) ({ cls := "LetMe$Table", name := "owe", desc := "(III)V" } : Jvm.MethodName)) ∈ lw_all := lw_g (lw_at lw_m3 222 rfl) rfl
theorem q849 : (Jvm.Cond.methodLink "LetMe$Reader" (180 : Nat) ({ cls := "LetMe$Reader", name := "split", desc := "()I" } : Jvm.MethodName)) ∈ lw_all := lw_g (lw_at lw_m3 226 rfl) rfl
theorem q850 : (Jvm.Cond.privateMethod ({ cls := "LetMe$Reader", name := "split", desc := "()I" } : Jvm.MethodName)) ∈ lw_tbl := lw_at lw_m3 227 rfl
theorem q851 : (Jvm.Cond.instanceMethod ({ cls := "LetMe$Reader", name := "split", desc := "()I" } : Jvm.MethodName)) ∈ lw_all := lw_g (lw_at lw_m3 228 rfl) rfl
theorem q852 : (Jvm.Cond.code ({ cls := "LetMe$Reader", name := "split", desc := "()I" } : Jvm.MethodName) prog_9_method_27_code (2 : Nat) (Option.some Jvm.ClassFile.FieldType.int)) ∈ lw_all := lw_g (lw_at lw_m3 229 rfl) rfl
theorem q853 : (Jvm.Cond.methodLink "LetMe$Reader" (184 : Nat) ({ cls := "LetMe$Reader", name := "law", desc := "()I" } : Jvm.MethodName)) ∈ lw_all := lw_g (lw_at lw_m3 230 rfl) rfl
theorem q854 : (Jvm.Cond.privateMethod ({ cls := "LetMe$Reader", name := "law", desc := "()I" } : Jvm.MethodName)) ∈ lw_tbl := lw_at lw_m3 231 rfl
theorem q855 : (Jvm.Cond.instanceMethod ({ cls := "LetMe$Reader", name := "law", desc := "()I" } : Jvm.MethodName)) ∈ lw_all := lw_g (lw_at lw_m3 232 rfl) rfl
theorem q856 : (Jvm.Cond.code ({ cls := "LetMe$Reader", name := "law", desc := "()I" } : Jvm.MethodName) prog_9_method_28_code (2 : Nat) (Option.some Jvm.ClassFile.FieldType.int)) ∈ lw_all := lw_g (lw_at lw_m3 233 rfl) rfl
theorem q857 : (Jvm.Cond.methodLink "LetMe$Reader" (188 : Nat) ({ cls := "LetMe$Reader", name := "close", desc := "()V" } : Jvm.MethodName)) ∈ lw_all := lw_g (lw_at lw_m3 234 rfl) rfl
theorem q858 : (Jvm.Cond.privateMethod ({ cls := "LetMe$Reader", name := "close", desc := "()V" } : Jvm.MethodName)) ∈ lw_tbl := lw_at lw_m3 235 rfl
theorem q859 : (Jvm.Cond.instanceMethod ({ cls := "LetMe$Reader", name := "close", desc := "()V" } : Jvm.MethodName)) ∈ lw_all := lw_g (lw_at lw_m3 236 rfl) rfl
theorem q860 : (Jvm.Cond.code ({ cls := "LetMe$Reader", name := "close", desc := "()V" } : Jvm.MethodName) prog_9_method_8_code (1 : Nat) (Option.none : Option Jvm.ClassFile.FieldType)) ∈ lw_all := lw_g (lw_at lw_m3 237 rfl) rfl
theorem q861 : (Jvm.Cond.methodLink "LetMe$Reader" (64 : Nat) ({ cls := "LetMe$Reader", name := "isSign", desc := "(C)Z" } : Jvm.MethodName)) ∈ lw_all := lw_g (lw_at lw_m3 238 rfl) rfl
theorem q862 : (Jvm.Cond.privateMethod ({ cls := "LetMe$Reader", name := "isSign", desc := "(C)Z" } : Jvm.MethodName)) ∈ lw_tbl := lw_at lw_m3 239 rfl
theorem q863 : (Jvm.Cond.instanceMethod ({ cls := "LetMe$Reader", name := "isSign", desc := "(C)Z" } : Jvm.MethodName)) ∈ lw_all := lw_g (lw_at lw_m4 0 rfl) rfl
theorem q864 : (Jvm.Cond.code ({ cls := "LetMe$Reader", name := "isSign", desc := "(C)Z" } : Jvm.MethodName) prog_9_method_6_code (2 : Nat) (Option.some Jvm.ClassFile.FieldType.boolean)) ∈ lw_all := lw_g (lw_at lw_m4 1 rfl) rfl
theorem q906 : (Jvm.Cond.instanceMethod ({ cls := "LetMe$Reader", name := "year", desc := "(LLetMe$Table;LLetMe$Block;)V" } : Jvm.MethodName)) ∈ lw_all := lw_g (lw_at lw_m4 43 rfl) rfl
theorem q907 : (Jvm.Cond.selects "LetMe$Reader" ({ cls := "LetMe$Reader", name := "year", desc := "(LLetMe$Table;LLetMe$Block;)V" } : Jvm.MethodName) ({ cls := "LetMe$Reader", name := "year", desc := "(LLetMe$Table;LLetMe$Block;)V" } : Jvm.MethodName)) ∈ lw_all := lw_g (lw_at lw_m4 44 rfl) rfl
theorem q908 : (Jvm.Cond.code ({ cls := "LetMe$Reader", name := "year", desc := "(LLetMe$Table;LLetMe$Block;)V" } : Jvm.MethodName) prog_9_method_29_code (3 : Nat) (Option.none : Option Jvm.ClassFile.FieldType)) ∈ lw_all := lw_g (lw_at lw_m4 45 rfl) rfl
theorem q909 : (Jvm.Cond.methodLink "LetMe$Reader" (252 : Nat) ({ cls := "LetMe$Reader", name := "step", desc := "(LLetMe$Table;LLetMe$Block;I)V" } : Jvm.MethodName)) ∈ lw_all := lw_g (lw_at lw_m4 46 rfl) rfl
theorem q910 : (Jvm.Cond.privateMethod ({ cls := "LetMe$Reader", name := "step", desc := "(LLetMe$Table;LLetMe$Block;I)V" } : Jvm.MethodName)) ∈ lw_tbl := lw_at lw_m4 47 rfl
theorem q911 : (Jvm.Cond.instanceMethod ({ cls := "LetMe$Reader", name := "step", desc := "(LLetMe$Table;LLetMe$Block;I)V" } : Jvm.MethodName)) ∈ lw_all := lw_g (lw_at lw_m4 48 rfl) rfl
theorem q912 : (Jvm.Cond.code ({ cls := "LetMe$Reader", name := "step", desc := "(LLetMe$Table;LLetMe$Block;I)V" } : Jvm.MethodName) prog_9_method_30_code (7 : Nat) (Option.none : Option Jvm.ClassFile.FieldType)) ∈ lw_all := lw_g (lw_at lw_m4 49 rfl) rfl
theorem q913 : (Jvm.Cond.methodLink "LetMe$Reader" (259 : Nat) ({ cls := "LetMe$Reader", name := "block", desc := "(LLetMe$Table;ZI)LLetMe$Block;" } : Jvm.MethodName)) ∈ lw_all := lw_g (lw_at lw_m4 50 rfl) rfl
theorem q914 : (Jvm.Cond.privateMethod ({ cls := "LetMe$Reader", name := "block", desc := "(LLetMe$Table;ZI)LLetMe$Block;" } : Jvm.MethodName)) ∈ lw_tbl := lw_at lw_m4 51 rfl
theorem q915 : (Jvm.Cond.instanceMethod ({ cls := "LetMe$Reader", name := "block", desc := "(LLetMe$Table;ZI)LLetMe$Block;" } : Jvm.MethodName)) ∈ lw_all := lw_g (lw_at lw_m4 52 rfl) rfl
theorem q916 : (Jvm.Cond.code ({ cls := "LetMe$Reader", name := "block", desc := "(LLetMe$Table;ZI)LLetMe$Block;" } : Jvm.MethodName) prog_9_method_33_code (5 : Nat) (Option.some (Jvm.ClassFile.FieldType.object "LetMe$Block"))) ∈ lw_all := lw_g (lw_at lw_m4 53 rfl) rfl
theorem q917 : (Jvm.Cond.methodLink "LetMe$Reader" (285 : Nat) ({ cls := "LetMe$Reader", name := "when", desc := "(LLetMe$Table;)LLetMe$When;" } : Jvm.MethodName)) ∈ lw_all := lw_g (lw_at lw_m4 54 rfl) rfl
theorem q918 : (Jvm.Cond.privateMethod ({ cls := "LetMe$Reader", name := "when", desc := "(LLetMe$Table;)LLetMe$When;" } : Jvm.MethodName)) ∈ lw_tbl := lw_at lw_m4 55 rfl
theorem q919 : (Jvm.Cond.instanceMethod ({ cls := "LetMe$Reader", name := "when", desc := "(LLetMe$Table;)LLetMe$When;" } : Jvm.MethodName)) ∈ lw_all := lw_g (lw_at lw_m4 56 rfl) rfl
theorem q920 : (Jvm.Cond.code ({ cls := "LetMe$Reader", name := "when", desc := "(LLetMe$Table;)LLetMe$When;" } : Jvm.MethodName) prog_9_method_34_code (6 : Nat) (Option.some (Jvm.ClassFile.FieldType.object "LetMe$When"))) ∈ lw_all := lw_g (lw_at lw_m4 57 rfl) rfl
theorem q921 : (Jvm.Cond.classLink "LetMe$Reader" (293 : Nat) "LetMe$When") ∈ lw_all := lw_g (lw_at lw_m4 58 rfl) rfl
theorem q923 : (Jvm.Cond.methodLink "LetMe$Reader" (295 : Nat) ({ cls := "LetMe$When", name := "<init>", desc := "(IIIII)V" } : Jvm.MethodName)) ∈ lw_all := lw_g (lw_at lw_m4 60 rfl) rfl
theorem q945 : (Jvm.Cond.classLink "LetMe$Reader" (288 : Nat) "LetMe$Loop") ∈ lw_all := lw_g (lw_at lw_m4 82 rfl) rfl
theorem q946 : (Jvm.Cond.methodLink "LetMe$Reader" (290 : Nat) ({ cls := "LetMe$Loop", name := "<init>", desc := "(I)V" } : Jvm.MethodName)) ∈ lw_all := lw_g (lw_at lw_m4 83 rfl) rfl
theorem q947 : (Jvm.Cond.methodLink "LetMe$Reader" (263 : Nat) ({ cls := "LetMe$Reader", name := "plain", desc := "(LLetMe$Table;)LLetMe$Step;" } : Jvm.MethodName)) ∈ lw_all := lw_g (lw_at lw_m4 84 rfl) rfl
theorem q948 : (Jvm.Cond.privateMethod ({ cls := "LetMe$Reader", name := "plain", desc := "(LLetMe$Table;)LLetMe$Step;" } : Jvm.MethodName)) ∈ lw_tbl := lw_at lw_m4 85 rfl
theorem q949 : (Jvm.Cond.instanceMethod ({ cls := "LetMe$Reader", name := "plain", desc := "(LLetMe$Table;)LLetMe$Step;" } : Jvm.MethodName)) ∈ lw_all := lw_g (lw_at lw_m4 86 rfl) rfl
theorem q950 : (Jvm.Cond.code ({ cls := "LetMe$Reader", name := "plain", desc := "(LLetMe$Table;)LLetMe$Step;" } : Jvm.MethodName) prog_9_method_31_code (5 : Nat) (Option.some (Jvm.ClassFile.FieldType.object "LetMe$Step"))) ∈ lw_all := lw_g (lw_at lw_m4 87 rfl) rfl
theorem q951 : (Jvm.Cond.classLink "LetMe$Reader" (273 : Nat) "LetMe$Act") ∈ lw_all := lw_g (lw_at lw_m4 88 rfl) rfl
theorem q953 : (Jvm.Cond.methodLink "LetMe$Reader" (275 : Nat) ({ cls := "LetMe$Reader", name := "payer", desc := "(LLetMe$Table;)I" } : Jvm.MethodName)) ∈ lw_all := lw_g (lw_at lw_m4 90 rfl) rfl
theorem q954 : (Jvm.Cond.privateMethod ({ cls := "LetMe$Reader", name := "payer", desc := "(LLetMe$Table;)I" } : Jvm.MethodName)) ∈ lw_tbl := lw_at lw_m4 91 rfl
theorem q955 : (Jvm.Cond.instanceMethod ({ cls := "LetMe$Reader", name := "payer", desc := "(LLetMe$Table;)I" } : Jvm.MethodName)) ∈ lw_all := lw_g (lw_at lw_m4 92 rfl) rfl
theorem q956 : (Jvm.Cond.code ({ cls := "LetMe$Reader", name := "payer", desc := "(LLetMe$Table;)I" } : Jvm.MethodName) prog_9_method_32_code (2 : Nat) (Option.some Jvm.ClassFile.FieldType.int)) ∈ lw_all := lw_g (lw_at lw_m4 93 rfl) rfl
theorem q957 : (Jvm.Cond.methodLink "LetMe$Reader" (278 : Nat) ({ cls := "LetMe$Act", name := "<init>", desc := "(IIII)V" } : Jvm.MethodName)) ∈ lw_all := lw_g (lw_at lw_m4 94 rfl) rfl
theorem q974 : (Jvm.Cond.methodLink "LetMe$Reader" (281 : Nat) ({ cls := "LetMe$Reader", name := "word", desc := "(Ljava/lang/String;)V" } : Jvm.MethodName)) ∈ lw_all := lw_g (lw_at lw_m4 111 rfl) rfl
theorem q975 : (Jvm.Cond.privateMethod ({ cls := "LetMe$Reader", name := "word", desc := "(Ljava/lang/String;)V" } : Jvm.MethodName)) ∈ lw_tbl := lw_at lw_m4 112 rfl
theorem q976 : (Jvm.Cond.instanceMethod ({ cls := "LetMe$Reader", name := "word", desc := "(Ljava/lang/String;)V" } : Jvm.MethodName)) ∈ lw_all := lw_g (lw_at lw_m4 113 rfl) rfl
theorem q977 : (Jvm.Cond.code ({ cls := "LetMe$Reader", name := "word", desc := "(Ljava/lang/String;)V" } : Jvm.MethodName) prog_9_method_9_code (2 : Nat) (Option.none : Option Jvm.ClassFile.FieldType)) ∈ lw_all := lw_g (lw_at lw_m4 114 rfl) rfl
theorem q978 : (Jvm.Cond.methodLink "LetMe$Reader" (267 : Nat) ({ cls := "LetMe$Block", name := "add", desc := "(LLetMe$Step;)V" } : Jvm.MethodName)) ∈ lw_all := lw_g (lw_at lw_m4 115 rfl) rfl
theorem in_X7 : ∀ w ∈ wsX70, w ∈ lw_all := lw_in wsX70 [612, 614, 616, 618, 620, 622, 624, 626, 628] (by decide +kernel) (by decide +kernel)

/-! LetMe$Person -/
set_option maxRecDepth 100000
def RX8 : String := "LetMe$Person"
def TX8 : u_T := fun k => match k with
  | 0 => ("LetMe$Person", "name", "J", true)
  | 1 => ("LetMe$Person", "insists", "I", false)
  | 2 => ("LetMe$Person", "quick", "I", false)
  | 3 => ("LetMe$Person", "minds", "I", false)
  | 4 => ("LetMe$Person", "means", "I", false)
  | 5 => ("LetMe$Person", "mate", "I", false)
  | _ => ("LetMe$Person", "guest", "Z", false)
def tyX8 : Nat → FieldType := fun k => match k with
  | 0 => .long
  | 1 => .int
  | 2 => .int
  | 3 => .int
  | 4 => .int
  | 5 => .int
  | _ => .boolean
abbrev wsX80 : List Cond := u_ws RX8 TX8 7
theorem nmX8 : ∀ a, a < 7 → ∀ b, b < 7 → a ≠ b → (TX8 a).2.1 ≠ (TX8 b).2.1 := by decide +kernel
theorem tyX8_ok : ∀ k, k < 7 → parseFieldDescriptor (TX8 k).2.2.1 = some (tyX8 k) := by decide +kernel
abbrev cX8_init : ByteArray := prog_8_method_1_code
def yX8_init : MethodName := ⟨RX8, "<init>", "(J)V"⟩
def dkwX8_init_1 : List UInt8 := [181, 0, 21, 177]
abbrev dktX8_init_1 : List UInt8 := dkwX8_init_1 ++ []
def dkwX8_init_0 : List UInt8 := [42, 183, 0, 3, 42, 4, 181, 0, 9, 42, 17, 3, 231, 181, 0, 15, 42, 2, 181, 0, 18, 42, 31]
abbrev dktX8_init_0 : List UInt8 := dkwX8_init_0 ++ dktX8_init_1
theorem dksX8_init_0 : cX8_init.data.toList.drop 0 = dktX8_init_0 := by decide +kernel
theorem dksX8_init_1 : cX8_init.data.toList.drop 23 = dktX8_init_1 := dk_seg dksX8_init_0 23 rfl rfl
theorem dX8_init_0 : decode cX8_init 0 = .ok (.aload_n 0, 1) := dk_42 (dk_at dksX8_init_0 0 rfl rfl)
theorem dX8_init_1 : decode cX8_init 1 = .ok (.invokespecial 3, 3) := dk_183 0 3 (dk_at dksX8_init_0 1 rfl rfl)
theorem dX8_init_4 : decode cX8_init 4 = .ok (.aload_n 0, 1) := dk_42 (dk_at dksX8_init_0 4 rfl rfl)
theorem dX8_init_5 : decode cX8_init 5 = .ok (.iconst 1, 1) := dk_4 (dk_at dksX8_init_0 5 rfl rfl)
theorem dX8_init_6 : decode cX8_init 6 = .ok (.putfield 9, 3) := dk_181 0 9 (dk_at dksX8_init_0 6 rfl rfl)
theorem dX8_init_9 : decode cX8_init 9 = .ok (.aload_n 0, 1) := dk_42 (dk_at dksX8_init_0 9 rfl rfl)
theorem dX8_init_10 : decode cX8_init 10 = .ok (.sipush 999, 3) := dk_17 3 231 (dk_at dksX8_init_0 10 rfl rfl)
theorem dX8_init_13 : decode cX8_init 13 = .ok (.putfield 15, 3) := dk_181 0 15 (dk_at dksX8_init_0 13 rfl rfl)
theorem dX8_init_16 : decode cX8_init 16 = .ok (.aload_n 0, 1) := dk_42 (dk_at dksX8_init_0 16 rfl rfl)
theorem dX8_init_17 : decode cX8_init 17 = .ok (.iconst (-1), 1) := dk_2 (dk_at dksX8_init_0 17 rfl rfl)
theorem dX8_init_18 : decode cX8_init 18 = .ok (.putfield 18, 3) := dk_181 0 18 (dk_at dksX8_init_0 18 rfl rfl)
theorem dX8_init_21 : decode cX8_init 21 = .ok (.aload_n 0, 1) := dk_42 (dk_at dksX8_init_0 21 rfl rfl)
theorem dX8_init_22 : decode cX8_init 22 = .ok (.lload_n 1, 1) := dk_31 (dk_at dksX8_init_0 22 rfl rfl)
theorem dX8_init_23 : decode cX8_init 23 = .ok (.putfield 21, 3) := dk_181 0 21 (dk_at dksX8_init_1 0 rfl rfl)
theorem dX8_init_26 : decode cX8_init 26 = .ok (.return_, 1) := dk_177 (dk_at dksX8_init_1 3 rfl rfl)
theorem q163 : (Jvm.Cond.initialized "LetMe$Person") ∈ lw_all := lw_g (lw_at lw_m1 20 rfl) rfl
theorem q759 : (Jvm.Cond.instantiable "LetMe$Person" (7 : Nat)) ∈ lw_all := lw_g (lw_at lw_m3 136 rfl) rfl
theorem q761 : (Jvm.Cond.instanceMethod ({ cls := "LetMe$Person", name := "<init>", desc := "(J)V" } : Jvm.MethodName)) ∈ lw_all := lw_g (lw_at lw_m3 138 rfl) rfl
theorem q762 : (Jvm.Cond.code ({ cls := "LetMe$Person", name := "<init>", desc := "(J)V" } : Jvm.MethodName) prog_8_method_1_code (3 : Nat) (Option.none : Option Jvm.ClassFile.FieldType)) ∈ lw_all := lw_g (lw_at lw_m3 139 rfl) rfl
theorem q763 : (Jvm.Cond.methodLink "LetMe$Person" (3 : Nat) ({ cls := "java/lang/Object", name := "<init>", desc := "()V" } : Jvm.MethodName)) ∈ lw_all := lw_g (lw_at lw_m3 140 rfl) rfl
theorem q764 : (Jvm.Cond.fieldLink "LetMe$Person" (21 : Nat) "LetMe$Person" "name" "J") ∈ lw_all := lw_g (lw_at lw_m3 141 rfl) rfl
theorem q770 : (Jvm.Cond.fieldLink "LetMe$Person" (9 : Nat) "LetMe$Person" "quick" "I") ∈ lw_all := lw_g (lw_at lw_m3 147 rfl) rfl
theorem q777 : (Jvm.Cond.fieldLink "LetMe$Person" (15 : Nat) "LetMe$Person" "means" "I") ∈ lw_all := lw_g (lw_at lw_m3 154 rfl) rfl
theorem q780 : (Jvm.Cond.fieldLink "LetMe$Person" (18 : Nat) "LetMe$Person" "mate" "I") ∈ lw_all := lw_g (lw_at lw_m3 157 rfl) rfl
theorem q786 : (Jvm.Cond.laysFinal "LetMe$Person" "LetMe$Person" "name" "J") ∈ lw_all := lw_g (lw_at lw_m3 163 rfl) rfl
theorem q787 : (Jvm.Cond.soleField "LetMe$Person" "name") ∈ lw_all := lw_g (lw_at lw_m3 164 rfl) rfl
theorem q788 : (Jvm.Cond.lays "LetMe$Person" "LetMe$Person" "insists" "I") ∈ lw_all := lw_g (lw_at lw_m3 165 rfl) rfl
theorem q789 : (Jvm.Cond.soleField "LetMe$Person" "insists") ∈ lw_all := lw_g (lw_at lw_m3 166 rfl) rfl
theorem q790 : (Jvm.Cond.lays "LetMe$Person" "LetMe$Person" "quick" "I") ∈ lw_all := lw_g (lw_at lw_m3 167 rfl) rfl
theorem q791 : (Jvm.Cond.soleField "LetMe$Person" "quick") ∈ lw_all := lw_g (lw_at lw_m3 168 rfl) rfl
theorem q792 : (Jvm.Cond.lays "LetMe$Person" "LetMe$Person" "minds" "I") ∈ lw_all := lw_g (lw_at lw_m3 169 rfl) rfl
theorem q793 : (Jvm.Cond.soleField "LetMe$Person" "minds") ∈ lw_all := lw_g (lw_at lw_m3 170 rfl) rfl
theorem q794 : (Jvm.Cond.lays "LetMe$Person" "LetMe$Person" "means" "I") ∈ lw_all := lw_g (lw_at lw_m3 171 rfl) rfl
theorem q795 : (Jvm.Cond.soleField "LetMe$Person" "means") ∈ lw_all := lw_g (lw_at lw_m3 172 rfl) rfl
theorem q796 : (Jvm.Cond.lays "LetMe$Person" "LetMe$Person" "mate" "I") ∈ lw_all := lw_g (lw_at lw_m3 173 rfl) rfl
theorem q797 : (Jvm.Cond.soleField "LetMe$Person" "mate") ∈ lw_all := lw_g (lw_at lw_m3 174 rfl) rfl
theorem q798 : (Jvm.Cond.lays "LetMe$Person" "LetMe$Person" "guest" "Z") ∈ lw_all := lw_g (lw_at lw_m3 175 rfl) rfl
theorem q799 : (Jvm.Cond.soleField "LetMe$Person" "guest") ∈ lw_all := lw_g (lw_at lw_m3 176 rfl) rfl
theorem q800 : (Jvm.Cond.superclass "LetMe$Person" "java/lang/Object") ∈ lw_all := lw_g (lw_at lw_m3 177 rfl) rfl
theorem in_X8 : ∀ w ∈ wsX80, w ∈ lw_all := lw_in wsX80 [786, 788, 790, 792, 794, 796, 798] (by decide +kernel) (by decide +kernel)

/-! LetMe$Step -/
set_option maxRecDepth 100000
def RX9 : String := "LetMe$Step"
abbrev cX9_init : ByteArray := prog_11_method_1_code
def yX9_init : MethodName := ⟨RX9, "<init>", "()V"⟩
theorem dX9_init_0 : decode cX9_init 0 = .ok (.aload_n 0, 1) := by decide +kernel
theorem dX9_init_1 : decode cX9_init 1 = .ok (.invokespecial 3, 3) := by decide +kernel
theorem dX9_init_4 : decode cX9_init 4 = .ok (.return_, 1) := by decide +kernel
abbrev cX9_go : ByteArray := prog_11_method_3_code
def yX9_go : MethodName := ⟨RX9, "go", "(LLetMe$Living;)V"⟩
def dkwX9_go_1 : List UInt8 := [180, 0, 9, 4, 96, 181, 0, 9, 42, 43, 182, 0, 22, 177]
abbrev dktX9_go_1 : List UInt8 := dkwX9_go_1 ++ []
def dkwX9_go_0 : List UInt8 := [43, 180, 0, 9, 17, 1, 44, 160, 0, 14, 43, 4, 181, 0, 15, 43, 4, 181, 0, 19, 177, 43, 89]
abbrev dktX9_go_0 : List UInt8 := dkwX9_go_0 ++ dktX9_go_1
theorem dksX9_go_0 : cX9_go.data.toList.drop 0 = dktX9_go_0 := by decide +kernel
theorem dksX9_go_1 : cX9_go.data.toList.drop 23 = dktX9_go_1 := dk_seg dksX9_go_0 23 rfl rfl
theorem dX9_go_0 : decode cX9_go 0 = .ok (.aload_n 1, 1) := dk_43 (dk_at dksX9_go_0 0 rfl rfl)
theorem dX9_go_1 : decode cX9_go 1 = .ok (.getfield 9, 3) := dk_180 0 9 (dk_at dksX9_go_0 1 rfl rfl)
theorem dX9_go_4 : decode cX9_go 4 = .ok (.sipush 300, 3) := dk_17 1 44 (dk_at dksX9_go_0 4 rfl rfl)
theorem dX9_go_7 : decode cX9_go 7 = .ok (.if_icmp .ne 14, 3) := dk_160 0 14 (dk_at dksX9_go_0 7 rfl rfl)
theorem dX9_go_10 : decode cX9_go 10 = .ok (.aload_n 1, 1) := dk_43 (dk_at dksX9_go_0 10 rfl rfl)
theorem dX9_go_11 : decode cX9_go 11 = .ok (.iconst 1, 1) := dk_4 (dk_at dksX9_go_0 11 rfl rfl)
theorem dX9_go_12 : decode cX9_go 12 = .ok (.putfield 15, 3) := dk_181 0 15 (dk_at dksX9_go_0 12 rfl rfl)
theorem dX9_go_15 : decode cX9_go 15 = .ok (.aload_n 1, 1) := dk_43 (dk_at dksX9_go_0 15 rfl rfl)
theorem dX9_go_16 : decode cX9_go 16 = .ok (.iconst 1, 1) := dk_4 (dk_at dksX9_go_0 16 rfl rfl)
theorem dX9_go_17 : decode cX9_go 17 = .ok (.putfield 19, 3) := dk_181 0 19 (dk_at dksX9_go_0 17 rfl rfl)
theorem dX9_go_20 : decode cX9_go 20 = .ok (.return_, 1) := dk_177 (dk_at dksX9_go_0 20 rfl rfl)
theorem dX9_go_21 : decode cX9_go 21 = .ok (.aload_n 1, 1) := dk_43 (dk_at dksX9_go_0 21 rfl rfl)
theorem dX9_go_22 : decode cX9_go 22 = .ok (.dup, 1) := dk_89 (dk_at dksX9_go_0 22 rfl rfl)
theorem dX9_go_23 : decode cX9_go 23 = .ok (.getfield 9, 3) := dk_180 0 9 (dk_at dksX9_go_1 0 rfl rfl)
theorem dX9_go_26 : decode cX9_go 26 = .ok (.iconst 1, 1) := dk_4 (dk_at dksX9_go_1 3 rfl rfl)
theorem dX9_go_27 : decode cX9_go 27 = .ok (.iadd, 1) := dk_96 (dk_at dksX9_go_1 4 rfl rfl)
theorem dX9_go_28 : decode cX9_go 28 = .ok (.putfield 9, 3) := dk_181 0 9 (dk_at dksX9_go_1 5 rfl rfl)
theorem dX9_go_31 : decode cX9_go 31 = .ok (.aload_n 0, 1) := dk_42 (dk_at dksX9_go_1 8 rfl rfl)
theorem dX9_go_32 : decode cX9_go 32 = .ok (.aload_n 1, 1) := dk_43 (dk_at dksX9_go_1 9 rfl rfl)
theorem dX9_go_33 : decode cX9_go 33 = .ok (.invokevirtual 22, 3) := dk_182 0 22 (dk_at dksX9_go_1 10 rfl rfl)
theorem dX9_go_36 : decode cX9_go 36 = .ok (.return_, 1) := dk_177 (dk_at dksX9_go_1 13 rfl rfl)
theorem q165 : (Jvm.Cond.initialized "LetMe$Step") ∈ lw_all := lw_g (lw_at lw_m1 22 rfl) rfl
theorem q890 : (Jvm.Cond.instanceMethod ({ cls := "LetMe$Step", name := "<init>", desc := "()V" } : Jvm.MethodName)) ∈ lw_all := lw_g (lw_at lw_m4 27 rfl) rfl
theorem q891 : (Jvm.Cond.code ({ cls := "LetMe$Step", name := "<init>", desc := "()V" } : Jvm.MethodName) prog_11_method_1_code (1 : Nat) (Option.none : Option Jvm.ClassFile.FieldType)) ∈ lw_all := lw_g (lw_at lw_m4 28 rfl) rfl
theorem q892 : (Jvm.Cond.methodLink "LetMe$Step" (3 : Nat) ({ cls := "java/lang/Object", name := "<init>", desc := "()V" } : Jvm.MethodName)) ∈ lw_all := lw_g (lw_at lw_m4 29 rfl) rfl
theorem q1410 : (Jvm.Cond.fieldLinkNest "LetMe$Step" (9 : Nat) "LetMe$Living" "done" "I" "LetMe") ∈ lw_tbl := lw_at lw_m6 67 rfl
theorem q1423 : (Jvm.Cond.fieldLinkNest "LetMe$Step" (15 : Nat) "LetMe$Living" "isOver" "Z" "LetMe") ∈ lw_tbl := lw_at lw_m6 80 rfl
theorem q1424 : (Jvm.Cond.fieldLinkNest "LetMe$Step" (19 : Nat) "LetMe$Living" "isLeft" "Z" "LetMe") ∈ lw_tbl := lw_at lw_m6 81 rfl
theorem q1452 : (Jvm.Cond.instanceMethod ({ cls := "LetMe$Step", name := "go", desc := "(LLetMe$Living;)V" } : Jvm.MethodName)) ∈ lw_all := lw_g (lw_at lw_m6 109 rfl) rfl
theorem q1453 : (Jvm.Cond.sameMethod "LetMe$Step" "LetMe$Step" "go" "(LLetMe$Living;)V") ∈ lw_all := lw_g (lw_at lw_m6 110 rfl) rfl
theorem q1457 : (Jvm.Cond.code ({ cls := "LetMe$Step", name := "go", desc := "(LLetMe$Living;)V" } : Jvm.MethodName) prog_11_method_3_code (2 : Nat) (Option.none : Option Jvm.ClassFile.FieldType)) ∈ lw_all := lw_g (lw_at lw_m6 114 rfl) rfl
theorem q1458 : (Jvm.Cond.methodLink "LetMe$Step" (22 : Nat) ({ cls := "LetMe$Step", name := "does", desc := "(LLetMe$Living;)V" } : Jvm.MethodName)) ∈ lw_all := lw_g (lw_at lw_m6 115 rfl) rfl
theorem q1459 : (Jvm.Cond.declares ({ cls := "LetMe$Step", name := "does", desc := "(LLetMe$Living;)V" } : Jvm.MethodName)) ∈ lw_tbl := lw_at lw_m6 116 rfl
theorem q1460 : (Jvm.Cond.sameMethod "LetMe$Step" "LetMe$Step" "does" "(LLetMe$Living;)V") ∈ lw_all := lw_g (lw_at lw_m6 117 rfl) rfl

/-! LetMe$Block -/
set_option maxRecDepth 100000
def RX10 : String := "LetMe$Block"
abbrev cX10_init : ByteArray := prog_4_method_1_code
def yX10_init : MethodName := ⟨RX10, "<init>", "()V"⟩
def dkwX10_init_0 : List UInt8 := [42, 183, 0, 1, 42, 7, 189, 0, 2, 181, 0, 7, 177]
abbrev dktX10_init_0 : List UInt8 := dkwX10_init_0 ++ []
theorem dksX10_init_0 : cX10_init.data.toList.drop 0 = dktX10_init_0 := by decide +kernel
theorem dX10_init_0 : decode cX10_init 0 = .ok (.aload_n 0, 1) := dk_42 (dk_at dksX10_init_0 0 rfl rfl)
theorem dX10_init_1 : decode cX10_init 1 = .ok (.invokespecial 1, 3) := dk_183 0 1 (dk_at dksX10_init_0 1 rfl rfl)
theorem dX10_init_4 : decode cX10_init 4 = .ok (.aload_n 0, 1) := dk_42 (dk_at dksX10_init_0 4 rfl rfl)
theorem dX10_init_5 : decode cX10_init 5 = .ok (.iconst 4, 1) := dk_7 (dk_at dksX10_init_0 5 rfl rfl)
theorem dX10_init_6 : decode cX10_init 6 = .ok (.anewarray 2, 3) := dk_189 0 2 (dk_at dksX10_init_0 6 rfl rfl)
theorem dX10_init_9 : decode cX10_init 9 = .ok (.putfield 7, 3) := dk_181 0 7 (dk_at dksX10_init_0 9 rfl rfl)
theorem dX10_init_12 : decode cX10_init 12 = .ok (.return_, 1) := dk_177 (dk_at dksX10_init_0 12 rfl rfl)
abbrev cX10_add : ByteArray := prog_4_method_2_code
def yX10_add : MethodName := ⟨RX10, "add", "(LLetMe$Step;)V"⟩
def dkwX10_add_2 : List UInt8 := [180, 0, 13, 43, 83, 42, 89, 180, 0, 13, 4, 96, 181, 0, 13, 177]
abbrev dktX10_add_2 : List UInt8 := dkwX10_add_2 ++ []
def dkwX10_add_1 : List UInt8 := [180, 0, 7, 3, 44, 3, 42, 180, 0, 13, 184, 0, 17, 42, 44, 181, 0, 7, 42, 180, 0, 7, 42]
abbrev dktX10_add_1 : List UInt8 := dkwX10_add_1 ++ dktX10_add_2
def dkwX10_add_0 : List UInt8 := [42, 180, 0, 13, 42, 180, 0, 7, 190, 160, 0, 32, 5, 42, 180, 0, 13, 104, 189, 0, 2, 77, 42]
abbrev dktX10_add_0 : List UInt8 := dkwX10_add_0 ++ dktX10_add_1
theorem dksX10_add_0 : cX10_add.data.toList.drop 0 = dktX10_add_0 := by decide +kernel
theorem dksX10_add_1 : cX10_add.data.toList.drop 23 = dktX10_add_1 := dk_seg dksX10_add_0 23 rfl rfl
theorem dksX10_add_2 : cX10_add.data.toList.drop 46 = dktX10_add_2 := dk_seg dksX10_add_1 23 rfl rfl
theorem dX10_add_0 : decode cX10_add 0 = .ok (.aload_n 0, 1) := dk_42 (dk_at dksX10_add_0 0 rfl rfl)
theorem dX10_add_1 : decode cX10_add 1 = .ok (.getfield 13, 3) := dk_180 0 13 (dk_at dksX10_add_0 1 rfl rfl)
theorem dX10_add_4 : decode cX10_add 4 = .ok (.aload_n 0, 1) := dk_42 (dk_at dksX10_add_0 4 rfl rfl)
theorem dX10_add_5 : decode cX10_add 5 = .ok (.getfield 7, 3) := dk_180 0 7 (dk_at dksX10_add_0 5 rfl rfl)
theorem dX10_add_8 : decode cX10_add 8 = .ok (.arraylength, 1) := dk_190 (dk_at dksX10_add_0 8 rfl rfl)
theorem dX10_add_9 : decode cX10_add 9 = .ok (.if_icmp .ne 32, 3) := dk_160 0 32 (dk_at dksX10_add_0 9 rfl rfl)
theorem dX10_add_12 : decode cX10_add 12 = .ok (.iconst 2, 1) := dk_5 (dk_at dksX10_add_0 12 rfl rfl)
theorem dX10_add_13 : decode cX10_add 13 = .ok (.aload_n 0, 1) := dk_42 (dk_at dksX10_add_0 13 rfl rfl)
theorem dX10_add_14 : decode cX10_add 14 = .ok (.getfield 13, 3) := dk_180 0 13 (dk_at dksX10_add_0 14 rfl rfl)
theorem dX10_add_17 : decode cX10_add 17 = .ok (.imul, 1) := dk_104 (dk_at dksX10_add_0 17 rfl rfl)
theorem dX10_add_18 : decode cX10_add 18 = .ok (.anewarray 2, 3) := dk_189 0 2 (dk_at dksX10_add_0 18 rfl rfl)
theorem dX10_add_21 : decode cX10_add 21 = .ok (.astore_n 2, 1) := dk_77 (dk_at dksX10_add_0 21 rfl rfl)
theorem dX10_add_22 : decode cX10_add 22 = .ok (.aload_n 0, 1) := dk_42 (dk_at dksX10_add_0 22 rfl rfl)
theorem dX10_add_23 : decode cX10_add 23 = .ok (.getfield 7, 3) := dk_180 0 7 (dk_at dksX10_add_1 0 rfl rfl)
theorem dX10_add_26 : decode cX10_add 26 = .ok (.iconst 0, 1) := dk_3 (dk_at dksX10_add_1 3 rfl rfl)
theorem dX10_add_27 : decode cX10_add 27 = .ok (.aload_n 2, 1) := dk_44 (dk_at dksX10_add_1 4 rfl rfl)
theorem dX10_add_28 : decode cX10_add 28 = .ok (.iconst 0, 1) := dk_3 (dk_at dksX10_add_1 5 rfl rfl)
theorem dX10_add_29 : decode cX10_add 29 = .ok (.aload_n 0, 1) := dk_42 (dk_at dksX10_add_1 6 rfl rfl)
theorem dX10_add_30 : decode cX10_add 30 = .ok (.getfield 13, 3) := dk_180 0 13 (dk_at dksX10_add_1 7 rfl rfl)
theorem dX10_add_33 : decode cX10_add 33 = .ok (.invokestatic 17, 3) := dk_184 0 17 (dk_at dksX10_add_1 10 rfl rfl)
theorem dX10_add_36 : decode cX10_add 36 = .ok (.aload_n 0, 1) := dk_42 (dk_at dksX10_add_1 13 rfl rfl)
theorem dX10_add_37 : decode cX10_add 37 = .ok (.aload_n 2, 1) := dk_44 (dk_at dksX10_add_1 14 rfl rfl)
theorem dX10_add_38 : decode cX10_add 38 = .ok (.putfield 7, 3) := dk_181 0 7 (dk_at dksX10_add_1 15 rfl rfl)
theorem dX10_add_41 : decode cX10_add 41 = .ok (.aload_n 0, 1) := dk_42 (dk_at dksX10_add_1 18 rfl rfl)
theorem dX10_add_42 : decode cX10_add 42 = .ok (.getfield 7, 3) := dk_180 0 7 (dk_at dksX10_add_1 19 rfl rfl)
theorem dX10_add_45 : decode cX10_add 45 = .ok (.aload_n 0, 1) := dk_42 (dk_at dksX10_add_1 22 rfl rfl)
theorem dX10_add_46 : decode cX10_add 46 = .ok (.getfield 13, 3) := dk_180 0 13 (dk_at dksX10_add_2 0 rfl rfl)
theorem dX10_add_49 : decode cX10_add 49 = .ok (.aload_n 1, 1) := dk_43 (dk_at dksX10_add_2 3 rfl rfl)
theorem dX10_add_50 : decode cX10_add 50 = .ok (.aastore, 1) := dk_83 (dk_at dksX10_add_2 4 rfl rfl)
theorem dX10_add_51 : decode cX10_add 51 = .ok (.aload_n 0, 1) := dk_42 (dk_at dksX10_add_2 5 rfl rfl)
theorem dX10_add_52 : decode cX10_add 52 = .ok (.dup, 1) := dk_89 (dk_at dksX10_add_2 6 rfl rfl)
theorem dX10_add_53 : decode cX10_add 53 = .ok (.getfield 13, 3) := dk_180 0 13 (dk_at dksX10_add_2 7 rfl rfl)
theorem dX10_add_56 : decode cX10_add 56 = .ok (.iconst 1, 1) := dk_4 (dk_at dksX10_add_2 10 rfl rfl)
theorem dX10_add_57 : decode cX10_add 57 = .ok (.iadd, 1) := dk_96 (dk_at dksX10_add_2 11 rfl rfl)
theorem dX10_add_58 : decode cX10_add 58 = .ok (.putfield 13, 3) := dk_181 0 13 (dk_at dksX10_add_2 12 rfl rfl)
theorem dX10_add_61 : decode cX10_add 61 = .ok (.return_, 1) := dk_177 (dk_at dksX10_add_2 15 rfl rfl)
abbrev cX10_all : ByteArray := prog_4_method_3_code
def yX10_all : MethodName := ⟨RX10, "all", "(LLetMe$Living;)V"⟩
def dkwX10_all_1 : List UInt8 := [182, 0, 29, 132, 2, 1, 167, 255, 228, 177]
abbrev dktX10_all_1 : List UInt8 := dkwX10_all_1 ++ []
def dkwX10_all_0 : List UInt8 := [3, 61, 28, 42, 180, 0, 13, 162, 0, 26, 43, 180, 0, 23, 154, 0, 19, 42, 180, 0, 7, 28, 50, 43]
abbrev dktX10_all_0 : List UInt8 := dkwX10_all_0 ++ dktX10_all_1
theorem dksX10_all_0 : cX10_all.data.toList.drop 0 = dktX10_all_0 := by decide +kernel
theorem dksX10_all_1 : cX10_all.data.toList.drop 24 = dktX10_all_1 := dk_seg dksX10_all_0 24 rfl rfl
theorem dX10_all_0 : decode cX10_all 0 = .ok (.iconst 0, 1) := dk_3 (dk_at dksX10_all_0 0 rfl rfl)
theorem dX10_all_1 : decode cX10_all 1 = .ok (.istore_n 2, 1) := dk_61 (dk_at dksX10_all_0 1 rfl rfl)
theorem dX10_all_2 : decode cX10_all 2 = .ok (.iload_n 2, 1) := dk_28 (dk_at dksX10_all_0 2 rfl rfl)
theorem dX10_all_3 : decode cX10_all 3 = .ok (.aload_n 0, 1) := dk_42 (dk_at dksX10_all_0 3 rfl rfl)
theorem dX10_all_4 : decode cX10_all 4 = .ok (.getfield 13, 3) := dk_180 0 13 (dk_at dksX10_all_0 4 rfl rfl)
theorem dX10_all_7 : decode cX10_all 7 = .ok (.if_icmp .ge 26, 3) := dk_162 0 26 (dk_at dksX10_all_0 7 rfl rfl)
theorem dX10_all_10 : decode cX10_all 10 = .ok (.aload_n 1, 1) := dk_43 (dk_at dksX10_all_0 10 rfl rfl)
theorem dX10_all_11 : decode cX10_all 11 = .ok (.getfield 23, 3) := dk_180 0 23 (dk_at dksX10_all_0 11 rfl rfl)
theorem dX10_all_14 : decode cX10_all 14 = .ok (.ifCond .ne 19, 3) := dk_154 0 19 (dk_at dksX10_all_0 14 rfl rfl)
theorem dX10_all_17 : decode cX10_all 17 = .ok (.aload_n 0, 1) := dk_42 (dk_at dksX10_all_0 17 rfl rfl)
theorem dX10_all_18 : decode cX10_all 18 = .ok (.getfield 7, 3) := dk_180 0 7 (dk_at dksX10_all_0 18 rfl rfl)
theorem dX10_all_21 : decode cX10_all 21 = .ok (.iload_n 2, 1) := dk_28 (dk_at dksX10_all_0 21 rfl rfl)
theorem dX10_all_22 : decode cX10_all 22 = .ok (.aaload, 1) := dk_50 (dk_at dksX10_all_0 22 rfl rfl)
theorem dX10_all_23 : decode cX10_all 23 = .ok (.aload_n 1, 1) := dk_43 (dk_at dksX10_all_0 23 rfl rfl)
theorem dX10_all_24 : decode cX10_all 24 = .ok (.invokevirtual 29, 3) := dk_182 0 29 (dk_at dksX10_all_1 0 rfl rfl)
theorem dX10_all_27 : decode cX10_all 27 = .ok (.iinc 2 1, 3) := dk_132 2 1 (dk_at dksX10_all_1 3 rfl rfl)
theorem dX10_all_30 : decode cX10_all 30 = .ok (.goto (-28), 3) := dk_167 255 228 (dk_at dksX10_all_1 6 rfl rfl)
theorem dX10_all_33 : decode cX10_all 33 = .ok (.return_, 1) := dk_177 (dk_at dksX10_all_1 9 rfl rfl)
theorem q166 : (Jvm.Cond.initialized "LetMe$Block") ∈ lw_all := lw_g (lw_at lw_m1 23 rfl) rfl
theorem q887 : (Jvm.Cond.instanceMethod ({ cls := "LetMe$Block", name := "<init>", desc := "()V" } : Jvm.MethodName)) ∈ lw_all := lw_g (lw_at lw_m4 24 rfl) rfl
theorem q888 : (Jvm.Cond.code ({ cls := "LetMe$Block", name := "<init>", desc := "()V" } : Jvm.MethodName) prog_4_method_1_code (1 : Nat) (Option.none : Option Jvm.ClassFile.FieldType)) ∈ lw_all := lw_g (lw_at lw_m4 25 rfl) rfl
theorem q889 : (Jvm.Cond.methodLinkNest "LetMe$Block" (1 : Nat) ({ cls := "LetMe$Step", name := "<init>", desc := "()V" } : Jvm.MethodName) "LetMe") ∈ lw_tbl := lw_at lw_m4 26 rfl
theorem q893 : (Jvm.Cond.classLink "LetMe$Block" (2 : Nat) "LetMe$Step") ∈ lw_all := lw_g (lw_at lw_m4 30 rfl) rfl
theorem q896 : (Jvm.Cond.fieldLink "LetMe$Block" (7 : Nat) "LetMe$Block" "steps" "[LLetMe$Step;") ∈ lw_all := lw_g (lw_at lw_m4 33 rfl) rfl
theorem q897 : (Jvm.Cond.fieldLink "LetMe$Block" (13 : Nat) "LetMe$Block" "size" "I") ∈ lw_all := lw_g (lw_at lw_m4 34 rfl) rfl
theorem q901 : (Jvm.Cond.soleField "LetMe$Block" "steps") ∈ lw_all := lw_g (lw_at lw_m4 38 rfl) rfl
theorem q903 : (Jvm.Cond.soleField "LetMe$Block" "size") ∈ lw_all := lw_g (lw_at lw_m4 40 rfl) rfl
theorem q979 : (Jvm.Cond.instanceMethod ({ cls := "LetMe$Block", name := "add", desc := "(LLetMe$Step;)V" } : Jvm.MethodName)) ∈ lw_all := lw_g (lw_at lw_m4 116 rfl) rfl
theorem q980 : (Jvm.Cond.sameMethod "LetMe$Block" "LetMe$Block" "add" "(LLetMe$Step;)V") ∈ lw_all := lw_g (lw_at lw_m4 117 rfl) rfl
theorem q983 : (Jvm.Cond.code ({ cls := "LetMe$Block", name := "add", desc := "(LLetMe$Step;)V" } : Jvm.MethodName) prog_4_method_2_code (3 : Nat) (Option.none : Option Jvm.ClassFile.FieldType)) ∈ lw_all := lw_g (lw_at lw_m4 120 rfl) rfl
theorem q984 : (Jvm.Cond.methodLink "LetMe$Block" (17 : Nat) ({ cls := "java/lang/System", name := "arraycopy", desc := "(Ljava/lang/Object;ILjava/lang/Object;II)V" } : Jvm.MethodName)) ∈ lw_all := lw_g (lw_at lw_m4 121 rfl) rfl
theorem q1422 : (Jvm.Cond.fieldLinkNest "LetMe$Block" (23 : Nat) "LetMe$Living" "isOver" "Z" "LetMe") ∈ lw_tbl := lw_at lw_m6 79 rfl
theorem q1447 : (Jvm.Cond.declares ({ cls := "LetMe$Block", name := "all", desc := "(LLetMe$Living;)V" } : Jvm.MethodName)) ∈ lw_tbl := lw_at lw_m6 104 rfl
theorem q1449 : (Jvm.Cond.instanceMethod ({ cls := "LetMe$Block", name := "all", desc := "(LLetMe$Living;)V" } : Jvm.MethodName)) ∈ lw_all := lw_g (lw_at lw_m6 106 rfl) rfl
theorem q1450 : (Jvm.Cond.code ({ cls := "LetMe$Block", name := "all", desc := "(LLetMe$Living;)V" } : Jvm.MethodName) prog_4_method_3_code (3 : Nat) (Option.none : Option Jvm.ClassFile.FieldType)) ∈ lw_all := lw_g (lw_at lw_m6 107 rfl) rfl
theorem q1451 : (Jvm.Cond.methodLink "LetMe$Block" (29 : Nat) ({ cls := "LetMe$Step", name := "go", desc := "(LLetMe$Living;)V" } : Jvm.MethodName)) ∈ lw_all := lw_g (lw_at lw_m6 108 rfl) rfl

/-! LetMe$Loop -/
set_option maxRecDepth 100000
def RX11 : String := "LetMe$Loop"
def TX11 : u_T := fun k => match k with
  | 0 => ("LetMe$Block", "steps", "[LLetMe$Step;", false)
  | 1 => ("LetMe$Block", "size", "I", false)
  | _ => ("LetMe$Loop", "times", "I", true)
def tyX11 : Nat → FieldType := fun k => match k with
  | 0 => .array (.object "LetMe$Step")
  | 1 => .int
  | _ => .int
abbrev wsX110 : List Cond := u_ws RX11 TX11 3
theorem nmX11 : ∀ a, a < 3 → ∀ b, b < 3 → a ≠ b → (TX11 a).2.1 ≠ (TX11 b).2.1 := by decide +kernel
theorem tyX11_ok : ∀ k, k < 3 → parseFieldDescriptor (TX11 k).2.2.1 = some (tyX11 k) := by decide +kernel
abbrev cX11_init : ByteArray := prog_7_method_1_code
def yX11_init : MethodName := ⟨RX11, "<init>", "(I)V"⟩
def dkwX11_init_0 : List UInt8 := [42, 183, 0, 1, 42, 27, 181, 0, 7, 177]
abbrev dktX11_init_0 : List UInt8 := dkwX11_init_0 ++ []
theorem dksX11_init_0 : cX11_init.data.toList.drop 0 = dktX11_init_0 := by decide +kernel
theorem dX11_init_0 : decode cX11_init 0 = .ok (.aload_n 0, 1) := dk_42 (dk_at dksX11_init_0 0 rfl rfl)
theorem dX11_init_1 : decode cX11_init 1 = .ok (.invokespecial 1, 3) := dk_183 0 1 (dk_at dksX11_init_0 1 rfl rfl)
theorem dX11_init_4 : decode cX11_init 4 = .ok (.aload_n 0, 1) := dk_42 (dk_at dksX11_init_0 4 rfl rfl)
theorem dX11_init_5 : decode cX11_init 5 = .ok (.iload_n 1, 1) := dk_27 (dk_at dksX11_init_0 5 rfl rfl)
theorem dX11_init_6 : decode cX11_init 6 = .ok (.putfield 7, 3) := dk_181 0 7 (dk_at dksX11_init_0 6 rfl rfl)
theorem dX11_init_9 : decode cX11_init 9 = .ok (.return_, 1) := dk_177 (dk_at dksX11_init_0 9 rfl rfl)
abbrev cX11_does : ByteArray := prog_7_method_2_code
def yX11_does : MethodName := ⟨RX11, "does", "(LLetMe$Living;)V"⟩
def dkwX11_does_1 : List UInt8 := [132, 2, 1, 167, 255, 233, 177]
abbrev dktX11_does_1 : List UInt8 := dkwX11_does_1 ++ []
def dkwX11_does_0 : List UInt8 := [3, 61, 28, 42, 180, 0, 7, 162, 0, 21, 43, 180, 0, 13, 154, 0, 14, 42, 43, 182, 0, 19]
abbrev dktX11_does_0 : List UInt8 := dkwX11_does_0 ++ dktX11_does_1
theorem dksX11_does_0 : cX11_does.data.toList.drop 0 = dktX11_does_0 := by decide +kernel
theorem dksX11_does_1 : cX11_does.data.toList.drop 22 = dktX11_does_1 := dk_seg dksX11_does_0 22 rfl rfl
theorem dX11_does_0 : decode cX11_does 0 = .ok (.iconst 0, 1) := dk_3 (dk_at dksX11_does_0 0 rfl rfl)
theorem dX11_does_1 : decode cX11_does 1 = .ok (.istore_n 2, 1) := dk_61 (dk_at dksX11_does_0 1 rfl rfl)
theorem dX11_does_2 : decode cX11_does 2 = .ok (.iload_n 2, 1) := dk_28 (dk_at dksX11_does_0 2 rfl rfl)
theorem dX11_does_3 : decode cX11_does 3 = .ok (.aload_n 0, 1) := dk_42 (dk_at dksX11_does_0 3 rfl rfl)
theorem dX11_does_4 : decode cX11_does 4 = .ok (.getfield 7, 3) := dk_180 0 7 (dk_at dksX11_does_0 4 rfl rfl)
theorem dX11_does_7 : decode cX11_does 7 = .ok (.if_icmp .ge 21, 3) := dk_162 0 21 (dk_at dksX11_does_0 7 rfl rfl)
theorem dX11_does_10 : decode cX11_does 10 = .ok (.aload_n 1, 1) := dk_43 (dk_at dksX11_does_0 10 rfl rfl)
theorem dX11_does_11 : decode cX11_does 11 = .ok (.getfield 13, 3) := dk_180 0 13 (dk_at dksX11_does_0 11 rfl rfl)
theorem dX11_does_14 : decode cX11_does 14 = .ok (.ifCond .ne 14, 3) := dk_154 0 14 (dk_at dksX11_does_0 14 rfl rfl)
theorem dX11_does_17 : decode cX11_does 17 = .ok (.aload_n 0, 1) := dk_42 (dk_at dksX11_does_0 17 rfl rfl)
theorem dX11_does_18 : decode cX11_does 18 = .ok (.aload_n 1, 1) := dk_43 (dk_at dksX11_does_0 18 rfl rfl)
theorem dX11_does_19 : decode cX11_does 19 = .ok (.invokevirtual 19, 3) := dk_182 0 19 (dk_at dksX11_does_0 19 rfl rfl)
theorem dX11_does_22 : decode cX11_does 22 = .ok (.iinc 2 1, 3) := dk_132 2 1 (dk_at dksX11_does_1 0 rfl rfl)
theorem dX11_does_25 : decode cX11_does 25 = .ok (.goto (-23), 3) := dk_167 255 233 (dk_at dksX11_does_1 3 rfl rfl)
theorem dX11_does_28 : decode cX11_does 28 = .ok (.return_, 1) := dk_177 (dk_at dksX11_does_1 6 rfl rfl)
theorem q167 : (Jvm.Cond.initialized "LetMe$Loop") ∈ lw_all := lw_g (lw_at lw_m1 24 rfl) rfl
theorem q882 : (Jvm.Cond.instantiable "LetMe$Loop" (3 : Nat)) ∈ lw_all := lw_g (lw_at lw_m4 19 rfl) rfl
theorem q884 : (Jvm.Cond.instanceMethod ({ cls := "LetMe$Loop", name := "<init>", desc := "(I)V" } : Jvm.MethodName)) ∈ lw_all := lw_g (lw_at lw_m4 21 rfl) rfl
theorem q885 : (Jvm.Cond.code ({ cls := "LetMe$Loop", name := "<init>", desc := "(I)V" } : Jvm.MethodName) prog_7_method_1_code (2 : Nat) (Option.none : Option Jvm.ClassFile.FieldType)) ∈ lw_all := lw_g (lw_at lw_m4 22 rfl) rfl
theorem q886 : (Jvm.Cond.methodLinkNest "LetMe$Loop" (1 : Nat) ({ cls := "LetMe$Block", name := "<init>", desc := "()V" } : Jvm.MethodName) "LetMe") ∈ lw_tbl := lw_at lw_m4 23 rfl
theorem q895 : (Jvm.Cond.fieldLink "LetMe$Loop" (7 : Nat) "LetMe$Loop" "times" "I") ∈ lw_all := lw_g (lw_at lw_m4 32 rfl) rfl
theorem q898 : (Jvm.Cond.laysFinal "LetMe$Loop" "LetMe$Loop" "times" "I") ∈ lw_all := lw_g (lw_at lw_m4 35 rfl) rfl
theorem q899 : (Jvm.Cond.soleField "LetMe$Loop" "times") ∈ lw_all := lw_g (lw_at lw_m4 36 rfl) rfl
theorem q900 : (Jvm.Cond.lays "LetMe$Loop" "LetMe$Block" "steps" "[LLetMe$Step;") ∈ lw_all := lw_g (lw_at lw_m4 37 rfl) rfl
theorem q902 : (Jvm.Cond.lays "LetMe$Loop" "LetMe$Block" "size" "I") ∈ lw_all := lw_g (lw_at lw_m4 39 rfl) rfl
theorem q904 : (Jvm.Cond.superclass "LetMe$Loop" "LetMe$Block") ∈ lw_all := lw_g (lw_at lw_m4 41 rfl) rfl
theorem q981 : (Jvm.Cond.selects "LetMe$Loop" ({ cls := "LetMe$Block", name := "add", desc := "(LLetMe$Step;)V" } : Jvm.MethodName) ({ cls := "LetMe$Block", name := "add", desc := "(LLetMe$Step;)V" } : Jvm.MethodName)) ∈ lw_all := lw_g (lw_at lw_m4 118 rfl) rfl
theorem q1420 : (Jvm.Cond.fieldLinkNest "LetMe$Loop" (13 : Nat) "LetMe$Living" "isOver" "Z" "LetMe") ∈ lw_tbl := lw_at lw_m6 77 rfl
theorem q1446 : (Jvm.Cond.sameMethod "LetMe$Loop" "LetMe$Block" "all" "(LLetMe$Living;)V") ∈ lw_all := lw_g (lw_at lw_m6 103 rfl) rfl
theorem q1448 : (Jvm.Cond.selects "LetMe$Loop" ({ cls := "LetMe$Loop", name := "all", desc := "(LLetMe$Living;)V" } : Jvm.MethodName) ({ cls := "LetMe$Block", name := "all", desc := "(LLetMe$Living;)V" } : Jvm.MethodName)) ∈ lw_all := lw_g (lw_at lw_m6 105 rfl) rfl
theorem q1455 : (Jvm.Cond.selects "LetMe$Loop" ({ cls := "LetMe$Step", name := "go", desc := "(LLetMe$Living;)V" } : Jvm.MethodName) ({ cls := "LetMe$Step", name := "go", desc := "(LLetMe$Living;)V" } : Jvm.MethodName)) ∈ lw_all := lw_g (lw_at lw_m6 112 rfl) rfl
theorem q1489 : (Jvm.Cond.selects "LetMe$Loop" ({ cls := "LetMe$Step", name := "does", desc := "(LLetMe$Living;)V" } : Jvm.MethodName) ({ cls := "LetMe$Loop", name := "does", desc := "(LLetMe$Living;)V" } : Jvm.MethodName)) ∈ lw_all := lw_g (lw_at lw_m6 146 rfl) rfl
theorem q1490 : (Jvm.Cond.instanceMethod ({ cls := "LetMe$Loop", name := "does", desc := "(LLetMe$Living;)V" } : Jvm.MethodName)) ∈ lw_all := lw_g (lw_at lw_m6 147 rfl) rfl
theorem q1491 : (Jvm.Cond.code ({ cls := "LetMe$Loop", name := "does", desc := "(LLetMe$Living;)V" } : Jvm.MethodName) prog_7_method_2_code (3 : Nat) (Option.none : Option Jvm.ClassFile.FieldType)) ∈ lw_all := lw_g (lw_at lw_m6 148 rfl) rfl
theorem q1492 : (Jvm.Cond.methodLink "LetMe$Loop" (19 : Nat) ({ cls := "LetMe$Loop", name := "all", desc := "(LLetMe$Living;)V" } : Jvm.MethodName)) ∈ lw_all := lw_g (lw_at lw_m6 149 rfl) rfl
theorem q2268 : (Jvm.Cond.castable "LetMe$Loop" "LetMe$Step") ∈ lw_tbl := lw_at lw_m9 205 rfl
theorem in_X11 : ∀ w ∈ wsX110, w ∈ lw_all := lw_in wsX110 [900, 902, 898] (by decide +kernel) (by decide +kernel)

/-! LetMe$When -/
set_option maxRecDepth 100000
def RX12 : String := "LetMe$When"
def TX12 : u_T := fun k => match k with
  | 0 => ("LetMe$Block", "steps", "[LLetMe$Step;", false)
  | 1 => ("LetMe$Block", "size", "I", false)
  | 2 => ("LetMe$When", "what", "I", true)
  | 3 => ("LetMe$When", "one", "I", true)
  | 4 => ("LetMe$When", "other", "I", true)
  | 5 => ("LetMe$When", "sign", "I", true)
  | _ => ("LetMe$When", "number", "I", true)
def tyX12 : Nat → FieldType := fun k => match k with
  | 0 => .array (.object "LetMe$Step")
  | 1 => .int
  | 2 => .int
  | 3 => .int
  | 4 => .int
  | 5 => .int
  | _ => .int
abbrev wsX120 : List Cond := u_ws RX12 TX12 7
theorem nmX12 : ∀ a, a < 7 → ∀ b, b < 7 → a ≠ b → (TX12 a).2.1 ≠ (TX12 b).2.1 := by decide +kernel
theorem tyX12_ok : ∀ k, k < 7 → parseFieldDescriptor (TX12 k).2.2.1 = some (tyX12 k) := by decide +kernel
abbrev cX12_init : ByteArray := prog_14_method_1_code
def yX12_init : MethodName := ⟨RX12, "<init>", "(IIIII)V"⟩
def dkwX12_init_1 : List UInt8 := [181, 0, 21, 42, 21, 5, 181, 0, 24, 177]
abbrev dktX12_init_1 : List UInt8 := dkwX12_init_1 ++ []
def dkwX12_init_0 : List UInt8 := [42, 183, 0, 3, 42, 27, 181, 0, 9, 42, 28, 181, 0, 15, 42, 29, 181, 0, 18, 42, 21, 4]
abbrev dktX12_init_0 : List UInt8 := dkwX12_init_0 ++ dktX12_init_1
theorem dksX12_init_0 : cX12_init.data.toList.drop 0 = dktX12_init_0 := by decide +kernel
theorem dksX12_init_1 : cX12_init.data.toList.drop 22 = dktX12_init_1 := dk_seg dksX12_init_0 22 rfl rfl
theorem dX12_init_0 : decode cX12_init 0 = .ok (.aload_n 0, 1) := dk_42 (dk_at dksX12_init_0 0 rfl rfl)
theorem dX12_init_1 : decode cX12_init 1 = .ok (.invokespecial 3, 3) := dk_183 0 3 (dk_at dksX12_init_0 1 rfl rfl)
theorem dX12_init_4 : decode cX12_init 4 = .ok (.aload_n 0, 1) := dk_42 (dk_at dksX12_init_0 4 rfl rfl)
theorem dX12_init_5 : decode cX12_init 5 = .ok (.iload_n 1, 1) := dk_27 (dk_at dksX12_init_0 5 rfl rfl)
theorem dX12_init_6 : decode cX12_init 6 = .ok (.putfield 9, 3) := dk_181 0 9 (dk_at dksX12_init_0 6 rfl rfl)
theorem dX12_init_9 : decode cX12_init 9 = .ok (.aload_n 0, 1) := dk_42 (dk_at dksX12_init_0 9 rfl rfl)
theorem dX12_init_10 : decode cX12_init 10 = .ok (.iload_n 2, 1) := dk_28 (dk_at dksX12_init_0 10 rfl rfl)
theorem dX12_init_11 : decode cX12_init 11 = .ok (.putfield 15, 3) := dk_181 0 15 (dk_at dksX12_init_0 11 rfl rfl)
theorem dX12_init_14 : decode cX12_init 14 = .ok (.aload_n 0, 1) := dk_42 (dk_at dksX12_init_0 14 rfl rfl)
theorem dX12_init_15 : decode cX12_init 15 = .ok (.iload_n 3, 1) := dk_29 (dk_at dksX12_init_0 15 rfl rfl)
theorem dX12_init_16 : decode cX12_init 16 = .ok (.putfield 18, 3) := dk_181 0 18 (dk_at dksX12_init_0 16 rfl rfl)
theorem dX12_init_19 : decode cX12_init 19 = .ok (.aload_n 0, 1) := dk_42 (dk_at dksX12_init_0 19 rfl rfl)
theorem dX12_init_20 : decode cX12_init 20 = .ok (.iload 4, 2) := dk_21 4 (dk_at dksX12_init_0 20 rfl rfl)
theorem dX12_init_22 : decode cX12_init 22 = .ok (.putfield 21, 3) := dk_181 0 21 (dk_at dksX12_init_1 0 rfl rfl)
theorem dX12_init_25 : decode cX12_init 25 = .ok (.aload_n 0, 1) := dk_42 (dk_at dksX12_init_1 3 rfl rfl)
theorem dX12_init_26 : decode cX12_init 26 = .ok (.iload 5, 2) := dk_21 5 (dk_at dksX12_init_1 4 rfl rfl)
theorem dX12_init_28 : decode cX12_init 28 = .ok (.putfield 24, 3) := dk_181 0 24 (dk_at dksX12_init_1 6 rfl rfl)
theorem dX12_init_31 : decode cX12_init 31 = .ok (.return_, 1) := dk_177 (dk_at dksX12_init_1 9 rfl rfl)
abbrev cX12_does : ByteArray := prog_14_method_3_code
def yX12_does : MethodName := ⟨RX12, "does", "(LLetMe$Living;)V"⟩
def dkwX12_does_0 : List UInt8 := [42, 43, 180, 0, 44, 182, 0, 50, 153, 0, 8, 42, 43, 182, 0, 54, 177]
abbrev dktX12_does_0 : List UInt8 := dkwX12_does_0 ++ []
theorem dksX12_does_0 : cX12_does.data.toList.drop 0 = dktX12_does_0 := by decide +kernel
theorem dX12_does_0 : decode cX12_does 0 = .ok (.aload_n 0, 1) := dk_42 (dk_at dksX12_does_0 0 rfl rfl)
theorem dX12_does_1 : decode cX12_does 1 = .ok (.aload_n 1, 1) := dk_43 (dk_at dksX12_does_0 1 rfl rfl)
theorem dX12_does_2 : decode cX12_does 2 = .ok (.getfield 44, 3) := dk_180 0 44 (dk_at dksX12_does_0 2 rfl rfl)
theorem dX12_does_5 : decode cX12_does 5 = .ok (.invokevirtual 50, 3) := dk_182 0 50 (dk_at dksX12_does_0 5 rfl rfl)
theorem dX12_does_8 : decode cX12_does 8 = .ok (.ifCond .eq 8, 3) := dk_153 0 8 (dk_at dksX12_does_0 8 rfl rfl)
theorem dX12_does_11 : decode cX12_does 11 = .ok (.aload_n 0, 1) := dk_42 (dk_at dksX12_does_0 11 rfl rfl)
theorem dX12_does_12 : decode cX12_does 12 = .ok (.aload_n 1, 1) := dk_43 (dk_at dksX12_does_0 12 rfl rfl)
theorem dX12_does_13 : decode cX12_does 13 = .ok (.invokevirtual 54, 3) := dk_182 0 54 (dk_at dksX12_does_0 13 rfl rfl)
theorem dX12_does_16 : decode cX12_does 16 = .ok (.return_, 1) := dk_177 (dk_at dksX12_does_0 16 rfl rfl)
abbrev cX12_is : ByteArray := prog_14_method_2_code
def yX12_is : MethodName := ⟨RX12, "is", "(LLetMe$Table;)Z"⟩
def dkwX12_is_5 : List UInt8 := [167, 0, 4, 3, 172]
abbrev dktX12_is_5 : List UInt8 := dkwX12_is_5 ++ []
def dkwX12_is_4 : List UInt8 := [42, 180, 0, 24, 164, 0, 7, 4, 167, 0, 20, 3, 167, 0, 16, 28, 42, 180, 0, 24, 160, 0, 7, 4]
abbrev dktX12_is_4 : List UInt8 := dkwX12_is_4 ++ dktX12_is_5
def dkwX12_is_3 : List UInt8 := [180, 0, 24, 162, 0, 7, 4, 167, 0, 45, 3, 167, 0, 41, 42, 180, 0, 21, 16, 62, 160, 0, 19, 28]
abbrev dktX12_is_3 : List UInt8 := dkwX12_is_3 ++ dktX12_is_4
def dkwX12_is_2 : List UInt8 := [43, 42, 180, 0, 15, 42, 180, 0, 18, 182, 0, 40, 61, 42, 180, 0, 21, 16, 60, 160, 0, 19, 28, 42]
abbrev dktX12_is_2 : List UInt8 := dkwX12_is_2 ++ dktX12_is_3
def dkwX12_is_1 : List UInt8 := [167, 0, 4, 3, 172, 42, 180, 0, 9, 154, 0, 15, 43, 180, 0, 36, 42, 180, 0, 15, 46, 167, 0, 15]
abbrev dktX12_is_1 : List UInt8 := dkwX12_is_1 ++ dktX12_is_2
def dkwX12_is_0 : List UInt8 := [42, 180, 0, 9, 5, 160, 0, 24, 43, 43, 180, 0, 27, 182, 0, 32, 42, 180, 0, 15, 160, 0, 7, 4]
abbrev dktX12_is_0 : List UInt8 := dkwX12_is_0 ++ dktX12_is_1
theorem dksX12_is_0 : cX12_is.data.toList.drop 0 = dktX12_is_0 := by decide +kernel
theorem dksX12_is_1 : cX12_is.data.toList.drop 24 = dktX12_is_1 := dk_seg dksX12_is_0 24 rfl rfl
theorem dksX12_is_2 : cX12_is.data.toList.drop 48 = dktX12_is_2 := dk_seg dksX12_is_1 24 rfl rfl
theorem dksX12_is_3 : cX12_is.data.toList.drop 72 = dktX12_is_3 := dk_seg dksX12_is_2 24 rfl rfl
theorem dksX12_is_4 : cX12_is.data.toList.drop 96 = dktX12_is_4 := dk_seg dksX12_is_3 24 rfl rfl
theorem dksX12_is_5 : cX12_is.data.toList.drop 120 = dktX12_is_5 := dk_seg dksX12_is_4 24 rfl rfl
theorem dX12_is_0 : decode cX12_is 0 = .ok (.aload_n 0, 1) := dk_42 (dk_at dksX12_is_0 0 rfl rfl)
theorem dX12_is_1 : decode cX12_is 1 = .ok (.getfield 9, 3) := dk_180 0 9 (dk_at dksX12_is_0 1 rfl rfl)
theorem dX12_is_4 : decode cX12_is 4 = .ok (.iconst 2, 1) := dk_5 (dk_at dksX12_is_0 4 rfl rfl)
theorem dX12_is_5 : decode cX12_is 5 = .ok (.if_icmp .ne 24, 3) := dk_160 0 24 (dk_at dksX12_is_0 5 rfl rfl)
theorem dX12_is_8 : decode cX12_is 8 = .ok (.aload_n 1, 1) := dk_43 (dk_at dksX12_is_0 8 rfl rfl)
theorem dX12_is_9 : decode cX12_is 9 = .ok (.aload_n 1, 1) := dk_43 (dk_at dksX12_is_0 9 rfl rfl)
theorem dX12_is_10 : decode cX12_is 10 = .ok (.getfield 27, 3) := dk_180 0 27 (dk_at dksX12_is_0 10 rfl rfl)
theorem dX12_is_13 : decode cX12_is 13 = .ok (.invokevirtual 32, 3) := dk_182 0 32 (dk_at dksX12_is_0 13 rfl rfl)
theorem dX12_is_16 : decode cX12_is 16 = .ok (.aload_n 0, 1) := dk_42 (dk_at dksX12_is_0 16 rfl rfl)
theorem dX12_is_17 : decode cX12_is 17 = .ok (.getfield 15, 3) := dk_180 0 15 (dk_at dksX12_is_0 17 rfl rfl)
theorem dX12_is_20 : decode cX12_is 20 = .ok (.if_icmp .ne 7, 3) := dk_160 0 7 (dk_at dksX12_is_0 20 rfl rfl)
theorem dX12_is_23 : decode cX12_is 23 = .ok (.iconst 1, 1) := dk_4 (dk_at dksX12_is_0 23 rfl rfl)
theorem dX12_is_24 : decode cX12_is 24 = .ok (.goto 4, 3) := dk_167 0 4 (dk_at dksX12_is_1 0 rfl rfl)
theorem dX12_is_27 : decode cX12_is 27 = .ok (.iconst 0, 1) := dk_3 (dk_at dksX12_is_1 3 rfl rfl)
theorem dX12_is_28 : decode cX12_is 28 = .ok (.ireturn, 1) := dk_172 (dk_at dksX12_is_1 4 rfl rfl)
theorem dX12_is_29 : decode cX12_is 29 = .ok (.aload_n 0, 1) := dk_42 (dk_at dksX12_is_1 5 rfl rfl)
theorem dX12_is_30 : decode cX12_is 30 = .ok (.getfield 9, 3) := dk_180 0 9 (dk_at dksX12_is_1 6 rfl rfl)
theorem dX12_is_33 : decode cX12_is 33 = .ok (.ifCond .ne 15, 3) := dk_154 0 15 (dk_at dksX12_is_1 9 rfl rfl)
theorem dX12_is_36 : decode cX12_is 36 = .ok (.aload_n 1, 1) := dk_43 (dk_at dksX12_is_1 12 rfl rfl)
theorem dX12_is_37 : decode cX12_is 37 = .ok (.getfield 36, 3) := dk_180 0 36 (dk_at dksX12_is_1 13 rfl rfl)
theorem dX12_is_40 : decode cX12_is 40 = .ok (.aload_n 0, 1) := dk_42 (dk_at dksX12_is_1 16 rfl rfl)
theorem dX12_is_41 : decode cX12_is 41 = .ok (.getfield 15, 3) := dk_180 0 15 (dk_at dksX12_is_1 17 rfl rfl)
theorem dX12_is_44 : decode cX12_is 44 = .ok (.iaload, 1) := dk_46 (dk_at dksX12_is_1 20 rfl rfl)
theorem dX12_is_45 : decode cX12_is 45 = .ok (.goto 15, 3) := dk_167 0 15 (dk_at dksX12_is_1 21 rfl rfl)
theorem dX12_is_48 : decode cX12_is 48 = .ok (.aload_n 1, 1) := dk_43 (dk_at dksX12_is_2 0 rfl rfl)
theorem dX12_is_49 : decode cX12_is 49 = .ok (.aload_n 0, 1) := dk_42 (dk_at dksX12_is_2 1 rfl rfl)
theorem dX12_is_50 : decode cX12_is 50 = .ok (.getfield 15, 3) := dk_180 0 15 (dk_at dksX12_is_2 2 rfl rfl)
theorem dX12_is_53 : decode cX12_is 53 = .ok (.aload_n 0, 1) := dk_42 (dk_at dksX12_is_2 5 rfl rfl)
theorem dX12_is_54 : decode cX12_is 54 = .ok (.getfield 18, 3) := dk_180 0 18 (dk_at dksX12_is_2 6 rfl rfl)
theorem dX12_is_57 : decode cX12_is 57 = .ok (.invokevirtual 40, 3) := dk_182 0 40 (dk_at dksX12_is_2 9 rfl rfl)
theorem dX12_is_60 : decode cX12_is 60 = .ok (.istore_n 2, 1) := dk_61 (dk_at dksX12_is_2 12 rfl rfl)
theorem dX12_is_61 : decode cX12_is 61 = .ok (.aload_n 0, 1) := dk_42 (dk_at dksX12_is_2 13 rfl rfl)
theorem dX12_is_62 : decode cX12_is 62 = .ok (.getfield 21, 3) := dk_180 0 21 (dk_at dksX12_is_2 14 rfl rfl)
theorem dX12_is_65 : decode cX12_is 65 = .ok (.bipush 60, 2) := dk_16 60 (dk_at dksX12_is_2 17 rfl rfl)
theorem dX12_is_67 : decode cX12_is 67 = .ok (.if_icmp .ne 19, 3) := dk_160 0 19 (dk_at dksX12_is_2 19 rfl rfl)
theorem dX12_is_70 : decode cX12_is 70 = .ok (.iload_n 2, 1) := dk_28 (dk_at dksX12_is_2 22 rfl rfl)
theorem dX12_is_71 : decode cX12_is 71 = .ok (.aload_n 0, 1) := dk_42 (dk_at dksX12_is_2 23 rfl rfl)
theorem dX12_is_72 : decode cX12_is 72 = .ok (.getfield 24, 3) := dk_180 0 24 (dk_at dksX12_is_3 0 rfl rfl)
theorem dX12_is_75 : decode cX12_is 75 = .ok (.if_icmp .ge 7, 3) := dk_162 0 7 (dk_at dksX12_is_3 3 rfl rfl)
theorem dX12_is_78 : decode cX12_is 78 = .ok (.iconst 1, 1) := dk_4 (dk_at dksX12_is_3 6 rfl rfl)
theorem dX12_is_79 : decode cX12_is 79 = .ok (.goto 45, 3) := dk_167 0 45 (dk_at dksX12_is_3 7 rfl rfl)
theorem dX12_is_82 : decode cX12_is 82 = .ok (.iconst 0, 1) := dk_3 (dk_at dksX12_is_3 10 rfl rfl)
theorem dX12_is_83 : decode cX12_is 83 = .ok (.goto 41, 3) := dk_167 0 41 (dk_at dksX12_is_3 11 rfl rfl)
theorem dX12_is_86 : decode cX12_is 86 = .ok (.aload_n 0, 1) := dk_42 (dk_at dksX12_is_3 14 rfl rfl)
theorem dX12_is_87 : decode cX12_is 87 = .ok (.getfield 21, 3) := dk_180 0 21 (dk_at dksX12_is_3 15 rfl rfl)
theorem dX12_is_90 : decode cX12_is 90 = .ok (.bipush 62, 2) := dk_16 62 (dk_at dksX12_is_3 18 rfl rfl)
theorem dX12_is_92 : decode cX12_is 92 = .ok (.if_icmp .ne 19, 3) := dk_160 0 19 (dk_at dksX12_is_3 20 rfl rfl)
theorem dX12_is_95 : decode cX12_is 95 = .ok (.iload_n 2, 1) := dk_28 (dk_at dksX12_is_3 23 rfl rfl)
theorem dX12_is_96 : decode cX12_is 96 = .ok (.aload_n 0, 1) := dk_42 (dk_at dksX12_is_4 0 rfl rfl)
theorem dX12_is_97 : decode cX12_is 97 = .ok (.getfield 24, 3) := dk_180 0 24 (dk_at dksX12_is_4 1 rfl rfl)
theorem dX12_is_100 : decode cX12_is 100 = .ok (.if_icmp .le 7, 3) := dk_164 0 7 (dk_at dksX12_is_4 4 rfl rfl)
theorem dX12_is_103 : decode cX12_is 103 = .ok (.iconst 1, 1) := dk_4 (dk_at dksX12_is_4 7 rfl rfl)
theorem dX12_is_104 : decode cX12_is 104 = .ok (.goto 20, 3) := dk_167 0 20 (dk_at dksX12_is_4 8 rfl rfl)
theorem dX12_is_107 : decode cX12_is 107 = .ok (.iconst 0, 1) := dk_3 (dk_at dksX12_is_4 11 rfl rfl)
theorem dX12_is_108 : decode cX12_is 108 = .ok (.goto 16, 3) := dk_167 0 16 (dk_at dksX12_is_4 12 rfl rfl)
theorem dX12_is_111 : decode cX12_is 111 = .ok (.iload_n 2, 1) := dk_28 (dk_at dksX12_is_4 15 rfl rfl)
theorem dX12_is_112 : decode cX12_is 112 = .ok (.aload_n 0, 1) := dk_42 (dk_at dksX12_is_4 16 rfl rfl)
theorem dX12_is_113 : decode cX12_is 113 = .ok (.getfield 24, 3) := dk_180 0 24 (dk_at dksX12_is_4 17 rfl rfl)
theorem dX12_is_116 : decode cX12_is 116 = .ok (.if_icmp .ne 7, 3) := dk_160 0 7 (dk_at dksX12_is_4 20 rfl rfl)
theorem dX12_is_119 : decode cX12_is 119 = .ok (.iconst 1, 1) := dk_4 (dk_at dksX12_is_4 23 rfl rfl)
theorem dX12_is_120 : decode cX12_is 120 = .ok (.goto 4, 3) := dk_167 0 4 (dk_at dksX12_is_5 0 rfl rfl)
theorem dX12_is_123 : decode cX12_is 123 = .ok (.iconst 0, 1) := dk_3 (dk_at dksX12_is_5 3 rfl rfl)
theorem dX12_is_124 : decode cX12_is 124 = .ok (.ireturn, 1) := dk_172 (dk_at dksX12_is_5 4 rfl rfl)
theorem q168 : (Jvm.Cond.initialized "LetMe$When") ∈ lw_all := lw_g (lw_at lw_m1 25 rfl) rfl
theorem q313 : (Jvm.Cond.fieldLinkNest "LetMe$When" (27 : Nat) "LetMe$Table" "law" "I" "LetMe") ∈ lw_tbl := lw_at lw_m1 170 rfl
theorem q329 : (Jvm.Cond.fieldLinkNest "LetMe$When" (36 : Nat) "LetMe$Table" "paid" "[I" "LetMe") ∈ lw_tbl := lw_at lw_m1 186 rfl
theorem q922 : (Jvm.Cond.instantiable "LetMe$When" (7 : Nat)) ∈ lw_all := lw_g (lw_at lw_m4 59 rfl) rfl
theorem q924 : (Jvm.Cond.instanceMethod ({ cls := "LetMe$When", name := "<init>", desc := "(IIIII)V" } : Jvm.MethodName)) ∈ lw_all := lw_g (lw_at lw_m4 61 rfl) rfl
theorem q925 : (Jvm.Cond.code ({ cls := "LetMe$When", name := "<init>", desc := "(IIIII)V" } : Jvm.MethodName) prog_14_method_1_code (6 : Nat) (Option.none : Option Jvm.ClassFile.FieldType)) ∈ lw_all := lw_g (lw_at lw_m4 62 rfl) rfl
theorem q926 : (Jvm.Cond.methodLinkNest "LetMe$When" (3 : Nat) ({ cls := "LetMe$Block", name := "<init>", desc := "()V" } : Jvm.MethodName) "LetMe") ∈ lw_tbl := lw_at lw_m4 63 rfl
theorem q927 : (Jvm.Cond.fieldLink "LetMe$When" (9 : Nat) "LetMe$When" "what" "I") ∈ lw_all := lw_g (lw_at lw_m4 64 rfl) rfl
theorem q928 : (Jvm.Cond.fieldLink "LetMe$When" (15 : Nat) "LetMe$When" "one" "I") ∈ lw_all := lw_g (lw_at lw_m4 65 rfl) rfl
theorem q929 : (Jvm.Cond.fieldLink "LetMe$When" (18 : Nat) "LetMe$When" "other" "I") ∈ lw_all := lw_g (lw_at lw_m4 66 rfl) rfl
theorem q930 : (Jvm.Cond.fieldLink "LetMe$When" (21 : Nat) "LetMe$When" "sign" "I") ∈ lw_all := lw_g (lw_at lw_m4 67 rfl) rfl
theorem q931 : (Jvm.Cond.fieldLink "LetMe$When" (24 : Nat) "LetMe$When" "number" "I") ∈ lw_all := lw_g (lw_at lw_m4 68 rfl) rfl
theorem q932 : (Jvm.Cond.laysFinal "LetMe$When" "LetMe$When" "what" "I") ∈ lw_all := lw_g (lw_at lw_m4 69 rfl) rfl
theorem q933 : (Jvm.Cond.soleField "LetMe$When" "what") ∈ lw_all := lw_g (lw_at lw_m4 70 rfl) rfl
theorem q934 : (Jvm.Cond.laysFinal "LetMe$When" "LetMe$When" "one" "I") ∈ lw_all := lw_g (lw_at lw_m4 71 rfl) rfl
theorem q935 : (Jvm.Cond.soleField "LetMe$When" "one") ∈ lw_all := lw_g (lw_at lw_m4 72 rfl) rfl
theorem q936 : (Jvm.Cond.laysFinal "LetMe$When" "LetMe$When" "other" "I") ∈ lw_all := lw_g (lw_at lw_m4 73 rfl) rfl
theorem q937 : (Jvm.Cond.soleField "LetMe$When" "other") ∈ lw_all := lw_g (lw_at lw_m4 74 rfl) rfl
theorem q938 : (Jvm.Cond.laysFinal "LetMe$When" "LetMe$When" "sign" "I") ∈ lw_all := lw_g (lw_at lw_m4 75 rfl) rfl
theorem q939 : (Jvm.Cond.soleField "LetMe$When" "sign") ∈ lw_all := lw_g (lw_at lw_m4 76 rfl) rfl
theorem q940 : (Jvm.Cond.laysFinal "LetMe$When" "LetMe$When" "number" "I") ∈ lw_all := lw_g (lw_at lw_m4 77 rfl) rfl
theorem q941 : (Jvm.Cond.soleField "LetMe$When" "number") ∈ lw_all := lw_g (lw_at lw_m4 78 rfl) rfl
theorem q942 : (Jvm.Cond.lays "LetMe$When" "LetMe$Block" "steps" "[LLetMe$Step;") ∈ lw_all := lw_g (lw_at lw_m4 79 rfl) rfl
theorem q943 : (Jvm.Cond.lays "LetMe$When" "LetMe$Block" "size" "I") ∈ lw_all := lw_g (lw_at lw_m4 80 rfl) rfl
theorem q944 : (Jvm.Cond.superclass "LetMe$When" "LetMe$Block") ∈ lw_all := lw_g (lw_at lw_m4 81 rfl) rfl
theorem q982 : (Jvm.Cond.selects "LetMe$When" ({ cls := "LetMe$Block", name := "add", desc := "(LLetMe$Step;)V" } : Jvm.MethodName) ({ cls := "LetMe$Block", name := "add", desc := "(LLetMe$Step;)V" } : Jvm.MethodName)) ∈ lw_all := lw_g (lw_at lw_m4 119 rfl) rfl
theorem q1408 : (Jvm.Cond.fieldLinkNest "LetMe$When" (44 : Nat) "LetMe$Living" "table" "LLetMe$Table;" "LetMe") ∈ lw_tbl := lw_at lw_m6 65 rfl
theorem q1456 : (Jvm.Cond.selects "LetMe$When" ({ cls := "LetMe$Step", name := "go", desc := "(LLetMe$Living;)V" } : Jvm.MethodName) ({ cls := "LetMe$Step", name := "go", desc := "(LLetMe$Living;)V" } : Jvm.MethodName)) ∈ lw_all := lw_g (lw_at lw_m6 113 rfl) rfl
theorem q1493 : (Jvm.Cond.selects "LetMe$When" ({ cls := "LetMe$Step", name := "does", desc := "(LLetMe$Living;)V" } : Jvm.MethodName) ({ cls := "LetMe$When", name := "does", desc := "(LLetMe$Living;)V" } : Jvm.MethodName)) ∈ lw_all := lw_g (lw_at lw_m6 150 rfl) rfl
theorem q1494 : (Jvm.Cond.instanceMethod ({ cls := "LetMe$When", name := "does", desc := "(LLetMe$Living;)V" } : Jvm.MethodName)) ∈ lw_all := lw_g (lw_at lw_m6 151 rfl) rfl
theorem q1495 : (Jvm.Cond.code ({ cls := "LetMe$When", name := "does", desc := "(LLetMe$Living;)V" } : Jvm.MethodName) prog_14_method_3_code (2 : Nat) (Option.none : Option Jvm.ClassFile.FieldType)) ∈ lw_all := lw_g (lw_at lw_m6 152 rfl) rfl
theorem q1496 : (Jvm.Cond.methodLink "LetMe$When" (50 : Nat) ({ cls := "LetMe$When", name := "is", desc := "(LLetMe$Table;)Z" } : Jvm.MethodName)) ∈ lw_all := lw_g (lw_at lw_m6 153 rfl) rfl
theorem q1497 : (Jvm.Cond.privateMethod ({ cls := "LetMe$When", name := "is", desc := "(LLetMe$Table;)Z" } : Jvm.MethodName)) ∈ lw_tbl := lw_at lw_m6 154 rfl
theorem q1498 : (Jvm.Cond.instanceMethod ({ cls := "LetMe$When", name := "is", desc := "(LLetMe$Table;)Z" } : Jvm.MethodName)) ∈ lw_all := lw_g (lw_at lw_m6 155 rfl) rfl
theorem q1499 : (Jvm.Cond.code ({ cls := "LetMe$When", name := "is", desc := "(LLetMe$Table;)Z" } : Jvm.MethodName) prog_14_method_2_code (3 : Nat) (Option.some Jvm.ClassFile.FieldType.boolean)) ∈ lw_all := lw_g (lw_at lw_m6 156 rfl) rfl
theorem q1500 : (Jvm.Cond.methodLink "LetMe$When" (32 : Nat) ({ cls := "LetMe$Table", name := "turn", desc := "(I)I" } : Jvm.MethodName)) ∈ lw_all := lw_g (lw_at lw_m6 157 rfl) rfl
theorem q1501 : (Jvm.Cond.methodLink "LetMe$When" (40 : Nat) ({ cls := "LetMe$Table", name := "owes", desc := "(II)I" } : Jvm.MethodName)) ∈ lw_all := lw_g (lw_at lw_m6 158 rfl) rfl
theorem q1502 : (Jvm.Cond.methodLink "LetMe$When" (54 : Nat) ({ cls := "LetMe$When", name := "all", desc := "(LLetMe$Living;)V" } : Jvm.MethodName)) ∈ lw_all := lw_g (lw_at lw_m6 159 rfl) rfl
theorem q1503 : (Jvm.Cond.sameMethod "LetMe$When" "LetMe$Block" "all" "(LLetMe$Living;)V") ∈ lw_all := lw_g (lw_at lw_m6 160 rfl) rfl
theorem q1504 : (Jvm.Cond.selects "LetMe$When" ({ cls := "LetMe$When", name := "all", desc := "(LLetMe$Living;)V" } : Jvm.MethodName) ({ cls := "LetMe$Block", name := "all", desc := "(LLetMe$Living;)V" } : Jvm.MethodName)) ∈ lw_all := lw_g (lw_at lw_m6 161 rfl) rfl
theorem q2269 : (Jvm.Cond.castable "LetMe$When" "LetMe$Step") ∈ lw_tbl := lw_at lw_m9 206 rfl
theorem in_X12 : ∀ w ∈ wsX120, w ∈ lw_all := lw_in wsX120 [942, 943, 932, 934, 936, 938, 940] (by decide +kernel) (by decide +kernel)

/-! LetMe$Act -/
set_option maxRecDepth 100000
def RX13 : String := "LetMe$Act"
def TX13 : u_T := fun k => match k with
  | 0 => ("LetMe$Act", "what", "I", true)
  | 1 => ("LetMe$Act", "one", "I", true)
  | 2 => ("LetMe$Act", "other", "I", true)
  | _ => ("LetMe$Act", "number", "I", true)
def tyX13 : Nat → FieldType := fun k => match k with
  | 0 => .int
  | 1 => .int
  | 2 => .int
  | _ => .int
abbrev wsX130 : List Cond := u_ws RX13 TX13 4
theorem nmX13 : ∀ a, a < 4 → ∀ b, b < 4 → a ≠ b → (TX13 a).2.1 ≠ (TX13 b).2.1 := by decide +kernel
theorem tyX13_ok : ∀ k, k < 4 → parseFieldDescriptor (TX13 k).2.2.1 = some (tyX13 k) := by decide +kernel
abbrev cX13_init : ByteArray := prog_2_method_1_code
def yX13_init : MethodName := ⟨RX13, "<init>", "(IIII)V"⟩
def dkwX13_init_1 : List UInt8 := [181, 0, 21, 177]
abbrev dktX13_init_1 : List UInt8 := dkwX13_init_1 ++ []
def dkwX13_init_0 : List UInt8 := [42, 183, 0, 3, 42, 27, 181, 0, 9, 42, 28, 181, 0, 15, 42, 29, 181, 0, 18, 42, 21, 4]
abbrev dktX13_init_0 : List UInt8 := dkwX13_init_0 ++ dktX13_init_1
theorem dksX13_init_0 : cX13_init.data.toList.drop 0 = dktX13_init_0 := by decide +kernel
theorem dksX13_init_1 : cX13_init.data.toList.drop 22 = dktX13_init_1 := dk_seg dksX13_init_0 22 rfl rfl
theorem dX13_init_0 : decode cX13_init 0 = .ok (.aload_n 0, 1) := dk_42 (dk_at dksX13_init_0 0 rfl rfl)
theorem dX13_init_1 : decode cX13_init 1 = .ok (.invokespecial 3, 3) := dk_183 0 3 (dk_at dksX13_init_0 1 rfl rfl)
theorem dX13_init_4 : decode cX13_init 4 = .ok (.aload_n 0, 1) := dk_42 (dk_at dksX13_init_0 4 rfl rfl)
theorem dX13_init_5 : decode cX13_init 5 = .ok (.iload_n 1, 1) := dk_27 (dk_at dksX13_init_0 5 rfl rfl)
theorem dX13_init_6 : decode cX13_init 6 = .ok (.putfield 9, 3) := dk_181 0 9 (dk_at dksX13_init_0 6 rfl rfl)
theorem dX13_init_9 : decode cX13_init 9 = .ok (.aload_n 0, 1) := dk_42 (dk_at dksX13_init_0 9 rfl rfl)
theorem dX13_init_10 : decode cX13_init 10 = .ok (.iload_n 2, 1) := dk_28 (dk_at dksX13_init_0 10 rfl rfl)
theorem dX13_init_11 : decode cX13_init 11 = .ok (.putfield 15, 3) := dk_181 0 15 (dk_at dksX13_init_0 11 rfl rfl)
theorem dX13_init_14 : decode cX13_init 14 = .ok (.aload_n 0, 1) := dk_42 (dk_at dksX13_init_0 14 rfl rfl)
theorem dX13_init_15 : decode cX13_init 15 = .ok (.iload_n 3, 1) := dk_29 (dk_at dksX13_init_0 15 rfl rfl)
theorem dX13_init_16 : decode cX13_init 16 = .ok (.putfield 18, 3) := dk_181 0 18 (dk_at dksX13_init_0 16 rfl rfl)
theorem dX13_init_19 : decode cX13_init 19 = .ok (.aload_n 0, 1) := dk_42 (dk_at dksX13_init_0 19 rfl rfl)
theorem dX13_init_20 : decode cX13_init 20 = .ok (.iload 4, 2) := dk_21 4 (dk_at dksX13_init_0 20 rfl rfl)
theorem dX13_init_22 : decode cX13_init 22 = .ok (.putfield 21, 3) := dk_181 0 21 (dk_at dksX13_init_1 0 rfl rfl)
theorem dX13_init_25 : decode cX13_init 25 = .ok (.return_, 1) := dk_177 (dk_at dksX13_init_1 3 rfl rfl)
abbrev cX13_does : ByteArray := prog_2_method_5_code
def yX13_does : MethodName := ⟨RX13, "does", "(LLetMe$Living;)V"⟩
def dkwX13_does_0 : List UInt8 := [42, 43, 182, 0, 84, 154, 0, 13, 43, 89, 180, 0, 88, 4, 96, 181, 0, 88, 177]
abbrev dktX13_does_0 : List UInt8 := dkwX13_does_0 ++ []
theorem dksX13_does_0 : cX13_does.data.toList.drop 0 = dktX13_does_0 := by decide +kernel
theorem dX13_does_0 : decode cX13_does 0 = .ok (.aload_n 0, 1) := dk_42 (dk_at dksX13_does_0 0 rfl rfl)
theorem dX13_does_1 : decode cX13_does 1 = .ok (.aload_n 1, 1) := dk_43 (dk_at dksX13_does_0 1 rfl rfl)
theorem dX13_does_2 : decode cX13_does 2 = .ok (.invokevirtual 84, 3) := dk_182 0 84 (dk_at dksX13_does_0 2 rfl rfl)
theorem dX13_does_5 : decode cX13_does 5 = .ok (.ifCond .ne 13, 3) := dk_154 0 13 (dk_at dksX13_does_0 5 rfl rfl)
theorem dX13_does_8 : decode cX13_does 8 = .ok (.aload_n 1, 1) := dk_43 (dk_at dksX13_does_0 8 rfl rfl)
theorem dX13_does_9 : decode cX13_does 9 = .ok (.dup, 1) := dk_89 (dk_at dksX13_does_0 9 rfl rfl)
theorem dX13_does_10 : decode cX13_does 10 = .ok (.getfield 88, 3) := dk_180 0 88 (dk_at dksX13_does_0 10 rfl rfl)
theorem dX13_does_13 : decode cX13_does 13 = .ok (.iconst 1, 1) := dk_4 (dk_at dksX13_does_0 13 rfl rfl)
theorem dX13_does_14 : decode cX13_does 14 = .ok (.iadd, 1) := dk_96 (dk_at dksX13_does_0 14 rfl rfl)
theorem dX13_does_15 : decode cX13_does 15 = .ok (.putfield 88, 3) := dk_181 0 88 (dk_at dksX13_does_0 15 rfl rfl)
theorem dX13_does_18 : decode cX13_does 18 = .ok (.return_, 1) := dk_177 (dk_at dksX13_does_0 18 rfl rfl)
abbrev cX13_can : ByteArray := prog_2_method_2_code
def yX13_can : MethodName := ⟨RX13, "can", "(LLetMe$Living;)Z"⟩
def dkwX13_can_5 : List UInt8 := [156, 0, 5, 3, 172, 43, 89, 180, 0, 55, 4, 96, 181, 0, 55, 4, 172, 43, 4, 181, 0, 58, 4, 172]
abbrev dktX13_can_5 : List UInt8 := dkwX13_can_5 ++ []
def dkwX13_can_4 : List UInt8 := [172, 44, 42, 180, 0, 15, 42, 180, 0, 18, 42, 180, 0, 21, 182, 0, 47, 87, 4, 172, 44, 182, 0, 51]
abbrev dktX13_can_4 : List UInt8 := dkwX13_can_4 ++ dktX13_can_5
def dkwX13_can_3 : List UInt8 := [172, 42, 43, 44, 182, 0, 38, 172, 44, 42, 180, 0, 15, 42, 180, 0, 18, 42, 180, 0, 21, 182, 0, 41]
abbrev dktX13_can_3 : List UInt8 := dkwX13_can_3 ++ dktX13_can_4
def dkwX13_can_2 : List UInt8 := [42, 180, 0, 15, 155, 0, 14, 43, 42, 180, 0, 15, 182, 0, 30, 167, 0, 9, 42, 43, 44, 182, 0, 34]
abbrev dktX13_can_2 : List UInt8 := dkwX13_can_2 ++ dktX13_can_3
def dkwX13_can_1 : List UInt8 := [170, 0, 0, 0, 0, 0, 124, 0, 0, 0, 0, 0, 0, 0, 4, 0, 0, 0, 35, 0, 0, 0, 60, 0, 0, 0, 67, 0, 0, 0, 84, 0, 0, 0, 103]
abbrev dktX13_can_1 : List UInt8 := dkwX13_can_1 ++ dktX13_can_2
def dkwX13_can_0 : List UInt8 := [43, 180, 0, 24, 77, 42, 180, 0, 9]
abbrev dktX13_can_0 : List UInt8 := dkwX13_can_0 ++ dktX13_can_1
theorem dksX13_can_0 : cX13_can.data.toList.drop 0 = dktX13_can_0 := by decide +kernel
theorem dksX13_can_1 : cX13_can.data.toList.drop 9 = dktX13_can_1 := dk_seg dksX13_can_0 9 rfl rfl
theorem dksX13_can_2 : cX13_can.data.toList.drop 44 = dktX13_can_2 := dk_seg dksX13_can_1 35 rfl rfl
theorem dksX13_can_3 : cX13_can.data.toList.drop 68 = dktX13_can_3 := dk_seg dksX13_can_2 24 rfl rfl
theorem dksX13_can_4 : cX13_can.data.toList.drop 92 = dktX13_can_4 := dk_seg dksX13_can_3 24 rfl rfl
theorem dksX13_can_5 : cX13_can.data.toList.drop 116 = dktX13_can_5 := dk_seg dksX13_can_4 24 rfl rfl
theorem dX13_can_0 : decode cX13_can 0 = .ok (.aload_n 1, 1) := dk_43 (dk_at dksX13_can_0 0 rfl rfl)
theorem dX13_can_1 : decode cX13_can 1 = .ok (.getfield 24, 3) := dk_180 0 24 (dk_at dksX13_can_0 1 rfl rfl)
theorem dX13_can_4 : decode cX13_can 4 = .ok (.astore_n 2, 1) := dk_77 (dk_at dksX13_can_0 4 rfl rfl)
theorem dX13_can_5 : decode cX13_can 5 = .ok (.aload_n 0, 1) := dk_42 (dk_at dksX13_can_0 5 rfl rfl)
theorem dX13_can_6 : decode cX13_can 6 = .ok (.getfield 9, 3) := dk_180 0 9 (dk_at dksX13_can_0 6 rfl rfl)
theorem dX13_can_9 : decode cX13_can 9 = .ok (.tableswitch 124 0 4 #[35, 60, 67, 84, 103], 35) := by decide +kernel
theorem dX13_can_44 : decode cX13_can 44 = .ok (.aload_n 0, 1) := dk_42 (dk_at dksX13_can_2 0 rfl rfl)
theorem dX13_can_45 : decode cX13_can 45 = .ok (.getfield 15, 3) := dk_180 0 15 (dk_at dksX13_can_2 1 rfl rfl)
theorem dX13_can_48 : decode cX13_can 48 = .ok (.ifCond .lt 14, 3) := dk_155 0 14 (dk_at dksX13_can_2 4 rfl rfl)
theorem dX13_can_51 : decode cX13_can 51 = .ok (.aload_n 1, 1) := dk_43 (dk_at dksX13_can_2 7 rfl rfl)
theorem dX13_can_52 : decode cX13_can 52 = .ok (.aload_n 0, 1) := dk_42 (dk_at dksX13_can_2 8 rfl rfl)
theorem dX13_can_53 : decode cX13_can 53 = .ok (.getfield 15, 3) := dk_180 0 15 (dk_at dksX13_can_2 9 rfl rfl)
theorem dX13_can_56 : decode cX13_can 56 = .ok (.invokevirtual 30, 3) := dk_182 0 30 (dk_at dksX13_can_2 12 rfl rfl)
theorem dX13_can_59 : decode cX13_can 59 = .ok (.goto 9, 3) := dk_167 0 9 (dk_at dksX13_can_2 15 rfl rfl)
theorem dX13_can_62 : decode cX13_can 62 = .ok (.aload_n 0, 1) := dk_42 (dk_at dksX13_can_2 18 rfl rfl)
theorem dX13_can_63 : decode cX13_can 63 = .ok (.aload_n 1, 1) := dk_43 (dk_at dksX13_can_2 19 rfl rfl)
theorem dX13_can_64 : decode cX13_can 64 = .ok (.aload_n 2, 1) := dk_44 (dk_at dksX13_can_2 20 rfl rfl)
theorem dX13_can_65 : decode cX13_can 65 = .ok (.invokevirtual 34, 3) := dk_182 0 34 (dk_at dksX13_can_2 21 rfl rfl)
theorem dX13_can_68 : decode cX13_can 68 = .ok (.ireturn, 1) := dk_172 (dk_at dksX13_can_3 0 rfl rfl)
theorem dX13_can_69 : decode cX13_can 69 = .ok (.aload_n 0, 1) := dk_42 (dk_at dksX13_can_3 1 rfl rfl)
theorem dX13_can_70 : decode cX13_can 70 = .ok (.aload_n 1, 1) := dk_43 (dk_at dksX13_can_3 2 rfl rfl)
theorem dX13_can_71 : decode cX13_can 71 = .ok (.aload_n 2, 1) := dk_44 (dk_at dksX13_can_3 3 rfl rfl)
theorem dX13_can_72 : decode cX13_can 72 = .ok (.invokevirtual 38, 3) := dk_182 0 38 (dk_at dksX13_can_3 4 rfl rfl)
theorem dX13_can_75 : decode cX13_can 75 = .ok (.ireturn, 1) := dk_172 (dk_at dksX13_can_3 7 rfl rfl)
theorem dX13_can_76 : decode cX13_can 76 = .ok (.aload_n 2, 1) := dk_44 (dk_at dksX13_can_3 8 rfl rfl)
theorem dX13_can_77 : decode cX13_can 77 = .ok (.aload_n 0, 1) := dk_42 (dk_at dksX13_can_3 9 rfl rfl)
theorem dX13_can_78 : decode cX13_can 78 = .ok (.getfield 15, 3) := dk_180 0 15 (dk_at dksX13_can_3 10 rfl rfl)
theorem dX13_can_81 : decode cX13_can 81 = .ok (.aload_n 0, 1) := dk_42 (dk_at dksX13_can_3 13 rfl rfl)
theorem dX13_can_82 : decode cX13_can 82 = .ok (.getfield 18, 3) := dk_180 0 18 (dk_at dksX13_can_3 14 rfl rfl)
theorem dX13_can_85 : decode cX13_can 85 = .ok (.aload_n 0, 1) := dk_42 (dk_at dksX13_can_3 17 rfl rfl)
theorem dX13_can_86 : decode cX13_can 86 = .ok (.getfield 21, 3) := dk_180 0 21 (dk_at dksX13_can_3 18 rfl rfl)
theorem dX13_can_89 : decode cX13_can 89 = .ok (.invokevirtual 41, 3) := dk_182 0 41 (dk_at dksX13_can_3 21 rfl rfl)
theorem dX13_can_92 : decode cX13_can 92 = .ok (.ireturn, 1) := dk_172 (dk_at dksX13_can_4 0 rfl rfl)
theorem dX13_can_93 : decode cX13_can 93 = .ok (.aload_n 2, 1) := dk_44 (dk_at dksX13_can_4 1 rfl rfl)
theorem dX13_can_94 : decode cX13_can 94 = .ok (.aload_n 0, 1) := dk_42 (dk_at dksX13_can_4 2 rfl rfl)
theorem dX13_can_95 : decode cX13_can 95 = .ok (.getfield 15, 3) := dk_180 0 15 (dk_at dksX13_can_4 3 rfl rfl)
theorem dX13_can_98 : decode cX13_can 98 = .ok (.aload_n 0, 1) := dk_42 (dk_at dksX13_can_4 6 rfl rfl)
theorem dX13_can_99 : decode cX13_can 99 = .ok (.getfield 18, 3) := dk_180 0 18 (dk_at dksX13_can_4 7 rfl rfl)
theorem dX13_can_102 : decode cX13_can 102 = .ok (.aload_n 0, 1) := dk_42 (dk_at dksX13_can_4 10 rfl rfl)
theorem dX13_can_103 : decode cX13_can 103 = .ok (.getfield 21, 3) := dk_180 0 21 (dk_at dksX13_can_4 11 rfl rfl)
theorem dX13_can_106 : decode cX13_can 106 = .ok (.invokevirtual 47, 3) := dk_182 0 47 (dk_at dksX13_can_4 14 rfl rfl)
theorem dX13_can_109 : decode cX13_can 109 = .ok (.pop, 1) := dk_87 (dk_at dksX13_can_4 17 rfl rfl)
theorem dX13_can_110 : decode cX13_can 110 = .ok (.iconst 1, 1) := dk_4 (dk_at dksX13_can_4 18 rfl rfl)
theorem dX13_can_111 : decode cX13_can 111 = .ok (.ireturn, 1) := dk_172 (dk_at dksX13_can_4 19 rfl rfl)
theorem dX13_can_112 : decode cX13_can 112 = .ok (.aload_n 2, 1) := dk_44 (dk_at dksX13_can_4 20 rfl rfl)
theorem dX13_can_113 : decode cX13_can 113 = .ok (.invokevirtual 51, 3) := dk_182 0 51 (dk_at dksX13_can_4 21 rfl rfl)
theorem dX13_can_116 : decode cX13_can 116 = .ok (.ifCond .ge 5, 3) := dk_156 0 5 (dk_at dksX13_can_5 0 rfl rfl)
theorem dX13_can_119 : decode cX13_can 119 = .ok (.iconst 0, 1) := dk_3 (dk_at dksX13_can_5 3 rfl rfl)
theorem dX13_can_120 : decode cX13_can 120 = .ok (.ireturn, 1) := dk_172 (dk_at dksX13_can_5 4 rfl rfl)
theorem dX13_can_121 : decode cX13_can 121 = .ok (.aload_n 1, 1) := dk_43 (dk_at dksX13_can_5 5 rfl rfl)
theorem dX13_can_122 : decode cX13_can 122 = .ok (.dup, 1) := dk_89 (dk_at dksX13_can_5 6 rfl rfl)
theorem dX13_can_123 : decode cX13_can 123 = .ok (.getfield 55, 3) := dk_180 0 55 (dk_at dksX13_can_5 7 rfl rfl)
theorem dX13_can_126 : decode cX13_can 126 = .ok (.iconst 1, 1) := dk_4 (dk_at dksX13_can_5 10 rfl rfl)
theorem dX13_can_127 : decode cX13_can 127 = .ok (.iadd, 1) := dk_96 (dk_at dksX13_can_5 11 rfl rfl)
theorem dX13_can_128 : decode cX13_can 128 = .ok (.putfield 55, 3) := dk_181 0 55 (dk_at dksX13_can_5 12 rfl rfl)
theorem dX13_can_131 : decode cX13_can 131 = .ok (.iconst 1, 1) := dk_4 (dk_at dksX13_can_5 15 rfl rfl)
theorem dX13_can_132 : decode cX13_can 132 = .ok (.ireturn, 1) := dk_172 (dk_at dksX13_can_5 16 rfl rfl)
theorem dX13_can_133 : decode cX13_can 133 = .ok (.aload_n 1, 1) := dk_43 (dk_at dksX13_can_5 17 rfl rfl)
theorem dX13_can_134 : decode cX13_can 134 = .ok (.iconst 1, 1) := dk_4 (dk_at dksX13_can_5 18 rfl rfl)
theorem dX13_can_135 : decode cX13_can 135 = .ok (.putfield 58, 3) := dk_181 0 58 (dk_at dksX13_can_5 19 rfl rfl)
theorem dX13_can_138 : decode cX13_can 138 = .ok (.iconst 1, 1) := dk_4 (dk_at dksX13_can_5 22 rfl rfl)
theorem dX13_can_139 : decode cX13_can 139 = .ok (.ireturn, 1) := dk_172 (dk_at dksX13_can_5 23 rfl rfl)
abbrev cX13_reaches : ByteArray := prog_2_method_3_code
def yX13_reaches : MethodName := ⟨RX13, "reaches", "(LLetMe$Living;LLetMe$Table;)Z"⟩
def dkwX13_reaches_3 : List UInt8 := [21, 5, 50, 180, 0, 69, 100, 54, 4, 132, 5, 1, 167, 255, 223, 43, 21, 5, 182, 0, 30, 172]
abbrev dktX13_reaches_3 : List UInt8 := dkwX13_reaches_3 ++ []
def dkwX13_reaches_2 : List UInt8 := [3, 54, 5, 21, 4, 44, 180, 0, 65, 21, 5, 50, 180, 0, 69, 161, 0, 24, 21, 4, 44, 180, 0, 65]
abbrev dktX13_reaches_2 : List UInt8 := dkwX13_reaches_2 ++ dktX13_reaches_3
def dkwX13_reaches_1 : List UInt8 := [180, 0, 69, 96, 62, 132, 4, 1, 167, 255, 231, 29, 154, 0, 5, 3, 172, 43, 29, 182, 0, 74, 54, 4]
abbrev dktX13_reaches_1 : List UInt8 := dkwX13_reaches_1 ++ dktX13_reaches_2
def dkwX13_reaches_0 : List UInt8 := [3, 62, 3, 54, 4, 21, 4, 44, 180, 0, 62, 162, 0, 22, 29, 44, 180, 0, 65, 21, 4, 50]
abbrev dktX13_reaches_0 : List UInt8 := dkwX13_reaches_0 ++ dktX13_reaches_1
theorem dksX13_reaches_0 : cX13_reaches.data.toList.drop 0 = dktX13_reaches_0 := by decide +kernel
theorem dksX13_reaches_1 : cX13_reaches.data.toList.drop 22 = dktX13_reaches_1 := dk_seg dksX13_reaches_0 22 rfl rfl
theorem dksX13_reaches_2 : cX13_reaches.data.toList.drop 46 = dktX13_reaches_2 := dk_seg dksX13_reaches_1 24 rfl rfl
theorem dksX13_reaches_3 : cX13_reaches.data.toList.drop 70 = dktX13_reaches_3 := dk_seg dksX13_reaches_2 24 rfl rfl
theorem dX13_reaches_0 : decode cX13_reaches 0 = .ok (.iconst 0, 1) := dk_3 (dk_at dksX13_reaches_0 0 rfl rfl)
theorem dX13_reaches_1 : decode cX13_reaches 1 = .ok (.istore_n 3, 1) := dk_62 (dk_at dksX13_reaches_0 1 rfl rfl)
theorem dX13_reaches_2 : decode cX13_reaches 2 = .ok (.iconst 0, 1) := dk_3 (dk_at dksX13_reaches_0 2 rfl rfl)
theorem dX13_reaches_3 : decode cX13_reaches 3 = .ok (.istore 4, 2) := dk_54 4 (dk_at dksX13_reaches_0 3 rfl rfl)
theorem dX13_reaches_5 : decode cX13_reaches 5 = .ok (.iload 4, 2) := dk_21 4 (dk_at dksX13_reaches_0 5 rfl rfl)
theorem dX13_reaches_7 : decode cX13_reaches 7 = .ok (.aload_n 2, 1) := dk_44 (dk_at dksX13_reaches_0 7 rfl rfl)
theorem dX13_reaches_8 : decode cX13_reaches 8 = .ok (.getfield 62, 3) := dk_180 0 62 (dk_at dksX13_reaches_0 8 rfl rfl)
theorem dX13_reaches_11 : decode cX13_reaches 11 = .ok (.if_icmp .ge 22, 3) := dk_162 0 22 (dk_at dksX13_reaches_0 11 rfl rfl)
theorem dX13_reaches_14 : decode cX13_reaches 14 = .ok (.iload_n 3, 1) := dk_29 (dk_at dksX13_reaches_0 14 rfl rfl)
theorem dX13_reaches_15 : decode cX13_reaches 15 = .ok (.aload_n 2, 1) := dk_44 (dk_at dksX13_reaches_0 15 rfl rfl)
theorem dX13_reaches_16 : decode cX13_reaches 16 = .ok (.getfield 65, 3) := dk_180 0 65 (dk_at dksX13_reaches_0 16 rfl rfl)
theorem dX13_reaches_19 : decode cX13_reaches 19 = .ok (.iload 4, 2) := dk_21 4 (dk_at dksX13_reaches_0 19 rfl rfl)
theorem dX13_reaches_21 : decode cX13_reaches 21 = .ok (.aaload, 1) := dk_50 (dk_at dksX13_reaches_0 21 rfl rfl)
theorem dX13_reaches_22 : decode cX13_reaches 22 = .ok (.getfield 69, 3) := dk_180 0 69 (dk_at dksX13_reaches_1 0 rfl rfl)
theorem dX13_reaches_25 : decode cX13_reaches 25 = .ok (.iadd, 1) := dk_96 (dk_at dksX13_reaches_1 3 rfl rfl)
theorem dX13_reaches_26 : decode cX13_reaches 26 = .ok (.istore_n 3, 1) := dk_62 (dk_at dksX13_reaches_1 4 rfl rfl)
theorem dX13_reaches_27 : decode cX13_reaches 27 = .ok (.iinc 4 1, 3) := dk_132 4 1 (dk_at dksX13_reaches_1 5 rfl rfl)
theorem dX13_reaches_30 : decode cX13_reaches 30 = .ok (.goto (-25), 3) := dk_167 255 231 (dk_at dksX13_reaches_1 8 rfl rfl)
theorem dX13_reaches_33 : decode cX13_reaches 33 = .ok (.iload_n 3, 1) := dk_29 (dk_at dksX13_reaches_1 11 rfl rfl)
theorem dX13_reaches_34 : decode cX13_reaches 34 = .ok (.ifCond .ne 5, 3) := dk_154 0 5 (dk_at dksX13_reaches_1 12 rfl rfl)
theorem dX13_reaches_37 : decode cX13_reaches 37 = .ok (.iconst 0, 1) := dk_3 (dk_at dksX13_reaches_1 15 rfl rfl)
theorem dX13_reaches_38 : decode cX13_reaches 38 = .ok (.ireturn, 1) := dk_172 (dk_at dksX13_reaches_1 16 rfl rfl)
theorem dX13_reaches_39 : decode cX13_reaches 39 = .ok (.aload_n 1, 1) := dk_43 (dk_at dksX13_reaches_1 17 rfl rfl)
theorem dX13_reaches_40 : decode cX13_reaches 40 = .ok (.iload_n 3, 1) := dk_29 (dk_at dksX13_reaches_1 18 rfl rfl)
theorem dX13_reaches_41 : decode cX13_reaches 41 = .ok (.invokevirtual 74, 3) := dk_182 0 74 (dk_at dksX13_reaches_1 19 rfl rfl)
theorem dX13_reaches_44 : decode cX13_reaches 44 = .ok (.istore 4, 2) := dk_54 4 (dk_at dksX13_reaches_1 22 rfl rfl)
theorem dX13_reaches_46 : decode cX13_reaches 46 = .ok (.iconst 0, 1) := dk_3 (dk_at dksX13_reaches_2 0 rfl rfl)
theorem dX13_reaches_47 : decode cX13_reaches 47 = .ok (.istore 5, 2) := dk_54 5 (dk_at dksX13_reaches_2 1 rfl rfl)
theorem dX13_reaches_49 : decode cX13_reaches 49 = .ok (.iload 4, 2) := dk_21 4 (dk_at dksX13_reaches_2 3 rfl rfl)
theorem dX13_reaches_51 : decode cX13_reaches 51 = .ok (.aload_n 2, 1) := dk_44 (dk_at dksX13_reaches_2 5 rfl rfl)
theorem dX13_reaches_52 : decode cX13_reaches 52 = .ok (.getfield 65, 3) := dk_180 0 65 (dk_at dksX13_reaches_2 6 rfl rfl)
theorem dX13_reaches_55 : decode cX13_reaches 55 = .ok (.iload 5, 2) := dk_21 5 (dk_at dksX13_reaches_2 9 rfl rfl)
theorem dX13_reaches_57 : decode cX13_reaches 57 = .ok (.aaload, 1) := dk_50 (dk_at dksX13_reaches_2 11 rfl rfl)
theorem dX13_reaches_58 : decode cX13_reaches 58 = .ok (.getfield 69, 3) := dk_180 0 69 (dk_at dksX13_reaches_2 12 rfl rfl)
theorem dX13_reaches_61 : decode cX13_reaches 61 = .ok (.if_icmp .lt 24, 3) := dk_161 0 24 (dk_at dksX13_reaches_2 15 rfl rfl)
theorem dX13_reaches_64 : decode cX13_reaches 64 = .ok (.iload 4, 2) := dk_21 4 (dk_at dksX13_reaches_2 18 rfl rfl)
theorem dX13_reaches_66 : decode cX13_reaches 66 = .ok (.aload_n 2, 1) := dk_44 (dk_at dksX13_reaches_2 20 rfl rfl)
theorem dX13_reaches_67 : decode cX13_reaches 67 = .ok (.getfield 65, 3) := dk_180 0 65 (dk_at dksX13_reaches_2 21 rfl rfl)
theorem dX13_reaches_70 : decode cX13_reaches 70 = .ok (.iload 5, 2) := dk_21 5 (dk_at dksX13_reaches_3 0 rfl rfl)
theorem dX13_reaches_72 : decode cX13_reaches 72 = .ok (.aaload, 1) := dk_50 (dk_at dksX13_reaches_3 2 rfl rfl)
theorem dX13_reaches_73 : decode cX13_reaches 73 = .ok (.getfield 69, 3) := dk_180 0 69 (dk_at dksX13_reaches_3 3 rfl rfl)
theorem dX13_reaches_76 : decode cX13_reaches 76 = .ok (.isub, 1) := dk_100 (dk_at dksX13_reaches_3 6 rfl rfl)
theorem dX13_reaches_77 : decode cX13_reaches 77 = .ok (.istore 4, 2) := dk_54 4 (dk_at dksX13_reaches_3 7 rfl rfl)
theorem dX13_reaches_79 : decode cX13_reaches 79 = .ok (.iinc 5 1, 3) := dk_132 5 1 (dk_at dksX13_reaches_3 9 rfl rfl)
theorem dX13_reaches_82 : decode cX13_reaches 82 = .ok (.goto (-33), 3) := dk_167 255 223 (dk_at dksX13_reaches_3 12 rfl rfl)
theorem dX13_reaches_85 : decode cX13_reaches 85 = .ok (.aload_n 1, 1) := dk_43 (dk_at dksX13_reaches_3 15 rfl rfl)
theorem dX13_reaches_86 : decode cX13_reaches 86 = .ok (.iload 5, 2) := dk_21 5 (dk_at dksX13_reaches_3 16 rfl rfl)
theorem dX13_reaches_88 : decode cX13_reaches 88 = .ok (.invokevirtual 30, 3) := dk_182 0 30 (dk_at dksX13_reaches_3 18 rfl rfl)
theorem dX13_reaches_91 : decode cX13_reaches 91 = .ok (.ireturn, 1) := dk_172 (dk_at dksX13_reaches_3 21 rfl rfl)
abbrev cX13_duels : ByteArray := prog_2_method_4_code
def yX13_duels : MethodName := ⟨RX13, "duels", "(LLetMe$Living;LLetMe$Table;)Z"⟩
def dkwX13_duels_3 : List UInt8 := [167, 255, 201, 43, 21, 4, 182, 0, 30, 172]
abbrev dktX13_duels_3 : List UInt8 := dkwX13_duels_3 ++ []
def dkwX13_duels_2 : List UInt8 := [161, 0, 10, 43, 21, 4, 182, 0, 30, 172, 29, 54, 6, 21, 4, 62, 21, 6, 54, 4, 132, 5, 1]
abbrev dktX13_duels_2 : List UInt8 := dkwX13_duels_2 ++ dktX13_duels_3
def dkwX13_duels_1 : List UInt8 := [180, 0, 78, 4, 96, 181, 0, 78, 43, 16, 16, 182, 0, 74, 44, 180, 0, 65, 29, 50, 180, 0, 81]
abbrev dktX13_duels_1 : List UInt8 := dkwX13_duels_1 ++ dktX13_duels_2
def dkwX13_duels_0 : List UInt8 := [42, 180, 0, 15, 62, 42, 180, 0, 18, 54, 4, 3, 54, 5, 21, 5, 16, 20, 162, 0, 54, 43, 89]
abbrev dktX13_duels_0 : List UInt8 := dkwX13_duels_0 ++ dktX13_duels_1
theorem dksX13_duels_0 : cX13_duels.data.toList.drop 0 = dktX13_duels_0 := by decide +kernel
theorem dksX13_duels_1 : cX13_duels.data.toList.drop 23 = dktX13_duels_1 := dk_seg dksX13_duels_0 23 rfl rfl
theorem dksX13_duels_2 : cX13_duels.data.toList.drop 46 = dktX13_duels_2 := dk_seg dksX13_duels_1 23 rfl rfl
theorem dksX13_duels_3 : cX13_duels.data.toList.drop 69 = dktX13_duels_3 := dk_seg dksX13_duels_2 23 rfl rfl
theorem dX13_duels_0 : decode cX13_duels 0 = .ok (.aload_n 0, 1) := dk_42 (dk_at dksX13_duels_0 0 rfl rfl)
theorem dX13_duels_1 : decode cX13_duels 1 = .ok (.getfield 15, 3) := dk_180 0 15 (dk_at dksX13_duels_0 1 rfl rfl)
theorem dX13_duels_4 : decode cX13_duels 4 = .ok (.istore_n 3, 1) := dk_62 (dk_at dksX13_duels_0 4 rfl rfl)
theorem dX13_duels_5 : decode cX13_duels 5 = .ok (.aload_n 0, 1) := dk_42 (dk_at dksX13_duels_0 5 rfl rfl)
theorem dX13_duels_6 : decode cX13_duels 6 = .ok (.getfield 18, 3) := dk_180 0 18 (dk_at dksX13_duels_0 6 rfl rfl)
theorem dX13_duels_9 : decode cX13_duels 9 = .ok (.istore 4, 2) := dk_54 4 (dk_at dksX13_duels_0 9 rfl rfl)
theorem dX13_duels_11 : decode cX13_duels 11 = .ok (.iconst 0, 1) := dk_3 (dk_at dksX13_duels_0 11 rfl rfl)
theorem dX13_duels_12 : decode cX13_duels 12 = .ok (.istore 5, 2) := dk_54 5 (dk_at dksX13_duels_0 12 rfl rfl)
theorem dX13_duels_14 : decode cX13_duels 14 = .ok (.iload 5, 2) := dk_21 5 (dk_at dksX13_duels_0 14 rfl rfl)
theorem dX13_duels_16 : decode cX13_duels 16 = .ok (.bipush 20, 2) := dk_16 20 (dk_at dksX13_duels_0 16 rfl rfl)
theorem dX13_duels_18 : decode cX13_duels 18 = .ok (.if_icmp .ge 54, 3) := dk_162 0 54 (dk_at dksX13_duels_0 18 rfl rfl)
theorem dX13_duels_21 : decode cX13_duels 21 = .ok (.aload_n 1, 1) := dk_43 (dk_at dksX13_duels_0 21 rfl rfl)
theorem dX13_duels_22 : decode cX13_duels 22 = .ok (.dup, 1) := dk_89 (dk_at dksX13_duels_0 22 rfl rfl)
theorem dX13_duels_23 : decode cX13_duels 23 = .ok (.getfield 78, 3) := dk_180 0 78 (dk_at dksX13_duels_1 0 rfl rfl)
theorem dX13_duels_26 : decode cX13_duels 26 = .ok (.iconst 1, 1) := dk_4 (dk_at dksX13_duels_1 3 rfl rfl)
theorem dX13_duels_27 : decode cX13_duels 27 = .ok (.iadd, 1) := dk_96 (dk_at dksX13_duels_1 4 rfl rfl)
theorem dX13_duels_28 : decode cX13_duels 28 = .ok (.putfield 78, 3) := dk_181 0 78 (dk_at dksX13_duels_1 5 rfl rfl)
theorem dX13_duels_31 : decode cX13_duels 31 = .ok (.aload_n 1, 1) := dk_43 (dk_at dksX13_duels_1 8 rfl rfl)
theorem dX13_duels_32 : decode cX13_duels 32 = .ok (.bipush 16, 2) := dk_16 16 (dk_at dksX13_duels_1 9 rfl rfl)
theorem dX13_duels_34 : decode cX13_duels 34 = .ok (.invokevirtual 74, 3) := dk_182 0 74 (dk_at dksX13_duels_1 11 rfl rfl)
theorem dX13_duels_37 : decode cX13_duels 37 = .ok (.aload_n 2, 1) := dk_44 (dk_at dksX13_duels_1 14 rfl rfl)
theorem dX13_duels_38 : decode cX13_duels 38 = .ok (.getfield 65, 3) := dk_180 0 65 (dk_at dksX13_duels_1 15 rfl rfl)
theorem dX13_duels_41 : decode cX13_duels 41 = .ok (.iload_n 3, 1) := dk_29 (dk_at dksX13_duels_1 18 rfl rfl)
theorem dX13_duels_42 : decode cX13_duels 42 = .ok (.aaload, 1) := dk_50 (dk_at dksX13_duels_1 19 rfl rfl)
theorem dX13_duels_43 : decode cX13_duels 43 = .ok (.getfield 81, 3) := dk_180 0 81 (dk_at dksX13_duels_1 20 rfl rfl)
theorem dX13_duels_46 : decode cX13_duels 46 = .ok (.if_icmp .lt 10, 3) := dk_161 0 10 (dk_at dksX13_duels_2 0 rfl rfl)
theorem dX13_duels_49 : decode cX13_duels 49 = .ok (.aload_n 1, 1) := dk_43 (dk_at dksX13_duels_2 3 rfl rfl)
theorem dX13_duels_50 : decode cX13_duels 50 = .ok (.iload 4, 2) := dk_21 4 (dk_at dksX13_duels_2 4 rfl rfl)
theorem dX13_duels_52 : decode cX13_duels 52 = .ok (.invokevirtual 30, 3) := dk_182 0 30 (dk_at dksX13_duels_2 6 rfl rfl)
theorem dX13_duels_55 : decode cX13_duels 55 = .ok (.ireturn, 1) := dk_172 (dk_at dksX13_duels_2 9 rfl rfl)
theorem dX13_duels_56 : decode cX13_duels 56 = .ok (.iload_n 3, 1) := dk_29 (dk_at dksX13_duels_2 10 rfl rfl)
theorem dX13_duels_57 : decode cX13_duels 57 = .ok (.istore 6, 2) := dk_54 6 (dk_at dksX13_duels_2 11 rfl rfl)
theorem dX13_duels_59 : decode cX13_duels 59 = .ok (.iload 4, 2) := dk_21 4 (dk_at dksX13_duels_2 13 rfl rfl)
theorem dX13_duels_61 : decode cX13_duels 61 = .ok (.istore_n 3, 1) := dk_62 (dk_at dksX13_duels_2 15 rfl rfl)
theorem dX13_duels_62 : decode cX13_duels 62 = .ok (.iload 6, 2) := dk_21 6 (dk_at dksX13_duels_2 16 rfl rfl)
theorem dX13_duels_64 : decode cX13_duels 64 = .ok (.istore 4, 2) := dk_54 4 (dk_at dksX13_duels_2 18 rfl rfl)
theorem dX13_duels_66 : decode cX13_duels 66 = .ok (.iinc 5 1, 3) := dk_132 5 1 (dk_at dksX13_duels_2 20 rfl rfl)
theorem dX13_duels_69 : decode cX13_duels 69 = .ok (.goto (-55), 3) := dk_167 255 201 (dk_at dksX13_duels_3 0 rfl rfl)
theorem dX13_duels_72 : decode cX13_duels 72 = .ok (.aload_n 1, 1) := dk_43 (dk_at dksX13_duels_3 3 rfl rfl)
theorem dX13_duels_73 : decode cX13_duels 73 = .ok (.iload 4, 2) := dk_21 4 (dk_at dksX13_duels_3 4 rfl rfl)
theorem dX13_duels_75 : decode cX13_duels 75 = .ok (.invokevirtual 30, 3) := dk_182 0 30 (dk_at dksX13_duels_3 6 rfl rfl)
theorem dX13_duels_78 : decode cX13_duels 78 = .ok (.ireturn, 1) := dk_172 (dk_at dksX13_duels_3 9 rfl rfl)
theorem q169 : (Jvm.Cond.initialized "LetMe$Act") ∈ lw_all := lw_g (lw_at lw_m1 26 rfl) rfl
theorem q297 : (Jvm.Cond.fieldLinkNest "LetMe$Act" (65 : Nat) "LetMe$Table" "person" "[LLetMe$Person;" "LetMe") ∈ lw_tbl := lw_at lw_m1 154 rfl
theorem q301 : (Jvm.Cond.fieldLinkNest "LetMe$Act" (62 : Nat) "LetMe$Table" "people" "I" "LetMe") ∈ lw_tbl := lw_at lw_m1 158 rfl
theorem q766 : (Jvm.Cond.fieldLinkNest "LetMe$Act" (81 : Nat) "LetMe$Person" "insists" "I" "LetMe") ∈ lw_tbl := lw_at lw_m3 143 rfl
theorem q771 : (Jvm.Cond.fieldLinkNest "LetMe$Act" (69 : Nat) "LetMe$Person" "quick" "I" "LetMe") ∈ lw_tbl := lw_at lw_m3 148 rfl
theorem q952 : (Jvm.Cond.instantiable "LetMe$Act" (4 : Nat)) ∈ lw_all := lw_g (lw_at lw_m4 89 rfl) rfl
theorem q958 : (Jvm.Cond.instanceMethod ({ cls := "LetMe$Act", name := "<init>", desc := "(IIII)V" } : Jvm.MethodName)) ∈ lw_all := lw_g (lw_at lw_m4 95 rfl) rfl
theorem q959 : (Jvm.Cond.code ({ cls := "LetMe$Act", name := "<init>", desc := "(IIII)V" } : Jvm.MethodName) prog_2_method_1_code (5 : Nat) (Option.none : Option Jvm.ClassFile.FieldType)) ∈ lw_all := lw_g (lw_at lw_m4 96 rfl) rfl
theorem q960 : (Jvm.Cond.methodLinkNest "LetMe$Act" (3 : Nat) ({ cls := "LetMe$Step", name := "<init>", desc := "()V" } : Jvm.MethodName) "LetMe") ∈ lw_tbl := lw_at lw_m4 97 rfl
theorem q961 : (Jvm.Cond.fieldLink "LetMe$Act" (9 : Nat) "LetMe$Act" "what" "I") ∈ lw_all := lw_g (lw_at lw_m4 98 rfl) rfl
theorem q962 : (Jvm.Cond.fieldLink "LetMe$Act" (15 : Nat) "LetMe$Act" "one" "I") ∈ lw_all := lw_g (lw_at lw_m4 99 rfl) rfl
theorem q963 : (Jvm.Cond.fieldLink "LetMe$Act" (18 : Nat) "LetMe$Act" "other" "I") ∈ lw_all := lw_g (lw_at lw_m4 100 rfl) rfl
theorem q964 : (Jvm.Cond.fieldLink "LetMe$Act" (21 : Nat) "LetMe$Act" "number" "I") ∈ lw_all := lw_g (lw_at lw_m4 101 rfl) rfl
theorem q965 : (Jvm.Cond.laysFinal "LetMe$Act" "LetMe$Act" "what" "I") ∈ lw_all := lw_g (lw_at lw_m4 102 rfl) rfl
theorem q966 : (Jvm.Cond.soleField "LetMe$Act" "what") ∈ lw_all := lw_g (lw_at lw_m4 103 rfl) rfl
theorem q967 : (Jvm.Cond.laysFinal "LetMe$Act" "LetMe$Act" "one" "I") ∈ lw_all := lw_g (lw_at lw_m4 104 rfl) rfl
theorem q968 : (Jvm.Cond.soleField "LetMe$Act" "one") ∈ lw_all := lw_g (lw_at lw_m4 105 rfl) rfl
theorem q969 : (Jvm.Cond.laysFinal "LetMe$Act" "LetMe$Act" "other" "I") ∈ lw_all := lw_g (lw_at lw_m4 106 rfl) rfl
theorem q970 : (Jvm.Cond.soleField "LetMe$Act" "other") ∈ lw_all := lw_g (lw_at lw_m4 107 rfl) rfl
theorem q971 : (Jvm.Cond.laysFinal "LetMe$Act" "LetMe$Act" "number" "I") ∈ lw_all := lw_g (lw_at lw_m4 108 rfl) rfl
theorem q972 : (Jvm.Cond.soleField "LetMe$Act" "number") ∈ lw_all := lw_g (lw_at lw_m4 109 rfl) rfl
theorem q973 : (Jvm.Cond.superclass "LetMe$Act" "LetMe$Step") ∈ lw_all := lw_g (lw_at lw_m4 110 rfl) rfl
theorem q1407 : (Jvm.Cond.fieldLinkNest "LetMe$Act" (24 : Nat) "LetMe$Living" "table" "LLetMe$Table;" "LetMe") ∈ lw_tbl := lw_at lw_m6 64 rfl
theorem q1412 : (Jvm.Cond.fieldLinkNest "LetMe$Act" (88 : Nat) "LetMe$Living" "missed" "I" "LetMe") ∈ lw_tbl := lw_at lw_m6 69 rfl
theorem q1416 : (Jvm.Cond.fieldLinkNest "LetMe$Act" (78 : Nat) "LetMe$Living" "draws" "I" "LetMe") ∈ lw_tbl := lw_at lw_m6 73 rfl
theorem q1418 : (Jvm.Cond.fieldLinkNest "LetMe$Act" (55 : Nat) "LetMe$Living" "rounds" "I" "LetMe") ∈ lw_tbl := lw_at lw_m6 75 rfl
theorem q1421 : (Jvm.Cond.fieldLinkNest "LetMe$Act" (58 : Nat) "LetMe$Living" "isOver" "Z" "LetMe") ∈ lw_tbl := lw_at lw_m6 78 rfl
theorem q1454 : (Jvm.Cond.selects "LetMe$Act" ({ cls := "LetMe$Step", name := "go", desc := "(LLetMe$Living;)V" } : Jvm.MethodName) ({ cls := "LetMe$Step", name := "go", desc := "(LLetMe$Living;)V" } : Jvm.MethodName)) ∈ lw_all := lw_g (lw_at lw_m6 111 rfl) rfl
theorem q1461 : (Jvm.Cond.selects "LetMe$Act" ({ cls := "LetMe$Step", name := "does", desc := "(LLetMe$Living;)V" } : Jvm.MethodName) ({ cls := "LetMe$Act", name := "does", desc := "(LLetMe$Living;)V" } : Jvm.MethodName)) ∈ lw_all := lw_g (lw_at lw_m6 118 rfl) rfl
theorem q1462 : (Jvm.Cond.instanceMethod ({ cls := "LetMe$Act", name := "does", desc := "(LLetMe$Living;)V" } : Jvm.MethodName)) ∈ lw_all := lw_g (lw_at lw_m6 119 rfl) rfl
theorem q1463 : (Jvm.Cond.code ({ cls := "LetMe$Act", name := "does", desc := "(LLetMe$Living;)V" } : Jvm.MethodName) prog_2_method_5_code (2 : Nat) (Option.none : Option Jvm.ClassFile.FieldType)) ∈ lw_all := lw_g (lw_at lw_m6 120 rfl) rfl
theorem q1464 : (Jvm.Cond.methodLink "LetMe$Act" (84 : Nat) ({ cls := "LetMe$Act", name := "can", desc := "(LLetMe$Living;)Z" } : Jvm.MethodName)) ∈ lw_all := lw_g (lw_at lw_m6 121 rfl) rfl
theorem q1465 : (Jvm.Cond.privateMethod ({ cls := "LetMe$Act", name := "can", desc := "(LLetMe$Living;)Z" } : Jvm.MethodName)) ∈ lw_tbl := lw_at lw_m6 122 rfl
theorem q1466 : (Jvm.Cond.instanceMethod ({ cls := "LetMe$Act", name := "can", desc := "(LLetMe$Living;)Z" } : Jvm.MethodName)) ∈ lw_all := lw_g (lw_at lw_m6 123 rfl) rfl
theorem q1467 : (Jvm.Cond.code ({ cls := "LetMe$Act", name := "can", desc := "(LLetMe$Living;)Z" } : Jvm.MethodName) prog_2_method_2_code (3 : Nat) (Option.some Jvm.ClassFile.FieldType.boolean)) ∈ lw_all := lw_g (lw_at lw_m6 124 rfl) rfl
theorem q1468 : (Jvm.Cond.methodLink "LetMe$Act" (30 : Nat) ({ cls := "LetMe$Living", name := "pays", desc := "(I)Z" } : Jvm.MethodName)) ∈ lw_all := lw_g (lw_at lw_m6 125 rfl) rfl
theorem q1473 : (Jvm.Cond.methodLink "LetMe$Act" (34 : Nat) ({ cls := "LetMe$Act", name := "reaches", desc := "(LLetMe$Living;LLetMe$Table;)Z" } : Jvm.MethodName)) ∈ lw_all := lw_g (lw_at lw_m6 130 rfl) rfl
theorem q1474 : (Jvm.Cond.privateMethod ({ cls := "LetMe$Act", name := "reaches", desc := "(LLetMe$Living;LLetMe$Table;)Z" } : Jvm.MethodName)) ∈ lw_tbl := lw_at lw_m6 131 rfl
theorem q1475 : (Jvm.Cond.instanceMethod ({ cls := "LetMe$Act", name := "reaches", desc := "(LLetMe$Living;LLetMe$Table;)Z" } : Jvm.MethodName)) ∈ lw_all := lw_g (lw_at lw_m6 132 rfl) rfl
theorem q1476 : (Jvm.Cond.code ({ cls := "LetMe$Act", name := "reaches", desc := "(LLetMe$Living;LLetMe$Table;)Z" } : Jvm.MethodName) prog_2_method_3_code (6 : Nat) (Option.some Jvm.ClassFile.FieldType.boolean)) ∈ lw_all := lw_g (lw_at lw_m6 133 rfl) rfl
theorem q1477 : (Jvm.Cond.methodLink "LetMe$Act" (74 : Nat) ({ cls := "LetMe$Living", name := "draw", desc := "(I)I" } : Jvm.MethodName)) ∈ lw_all := lw_g (lw_at lw_m6 134 rfl) rfl
theorem q1482 : (Jvm.Cond.methodLink "LetMe$Act" (38 : Nat) ({ cls := "LetMe$Act", name := "duels", desc := "(LLetMe$Living;LLetMe$Table;)Z" } : Jvm.MethodName)) ∈ lw_all := lw_g (lw_at lw_m6 139 rfl) rfl
theorem q1483 : (Jvm.Cond.privateMethod ({ cls := "LetMe$Act", name := "duels", desc := "(LLetMe$Living;LLetMe$Table;)Z" } : Jvm.MethodName)) ∈ lw_tbl := lw_at lw_m6 140 rfl
theorem q1484 : (Jvm.Cond.instanceMethod ({ cls := "LetMe$Act", name := "duels", desc := "(LLetMe$Living;LLetMe$Table;)Z" } : Jvm.MethodName)) ∈ lw_all := lw_g (lw_at lw_m6 141 rfl) rfl
theorem q1485 : (Jvm.Cond.code ({ cls := "LetMe$Act", name := "duels", desc := "(LLetMe$Living;LLetMe$Table;)Z" } : Jvm.MethodName) prog_2_method_4_code (7 : Nat) (Option.some Jvm.ClassFile.FieldType.boolean)) ∈ lw_all := lw_g (lw_at lw_m6 142 rfl) rfl
theorem q1486 : (Jvm.Cond.methodLink "LetMe$Act" (41 : Nat) ({ cls := "LetMe$Table", name := "lends", desc := "(III)Z" } : Jvm.MethodName)) ∈ lw_all := lw_g (lw_at lw_m6 143 rfl) rfl
theorem q1487 : (Jvm.Cond.methodLink "LetMe$Act" (47 : Nat) ({ cls := "LetMe$Table", name := "gives", desc := "(III)I" } : Jvm.MethodName)) ∈ lw_all := lw_g (lw_at lw_m6 144 rfl) rfl
theorem q1488 : (Jvm.Cond.methodLink "LetMe$Act" (51 : Nat) ({ cls := "LetMe$Table", name := "round", desc := "()I" } : Jvm.MethodName)) ∈ lw_all := lw_g (lw_at lw_m6 145 rfl) rfl
theorem q2270 : (Jvm.Cond.castable "LetMe$Act" "LetMe$Step") ∈ lw_tbl := lw_at lw_m9 207 rfl
theorem in_X13 : ∀ w ∈ wsX130, w ∈ lw_all := lw_in wsX130 [965, 967, 969, 971] (by decide +kernel) (by decide +kernel)

/-! LetMe$Living -/
set_option maxRecDepth 100000
def RX14 : String := "LetMe$Living"
def TX14 : u_T := fun k => match k with
  | 0 => ("LetMe$Living", "table", "LLetMe$Table;", true)
  | 1 => ("LetMe$Living", "state", "I", false)
  | 2 => ("LetMe$Living", "done", "I", false)
  | 3 => ("LetMe$Living", "missed", "I", false)
  | 4 => ("LetMe$Living", "dinners", "I", false)
  | 5 => ("LetMe$Living", "draws", "I", false)
  | 6 => ("LetMe$Living", "rounds", "I", false)
  | 7 => ("LetMe$Living", "isOver", "Z", false)
  | _ => ("LetMe$Living", "isLeft", "Z", false)
def tyX14 : Nat → FieldType := fun k => match k with
  | 0 => .object "LetMe$Table"
  | 1 => .int
  | 2 => .int
  | 3 => .int
  | 4 => .int
  | 5 => .int
  | 6 => .int
  | 7 => .boolean
  | _ => .boolean
abbrev wsX140 : List Cond := u_ws RX14 TX14 9
theorem nmX14 : ∀ a, a < 9 → ∀ b, b < 9 → a ≠ b → (TX14 a).2.1 ≠ (TX14 b).2.1 := by decide +kernel
theorem tyX14_ok : ∀ k, k < 9 → parseFieldDescriptor (TX14 k).2.2.1 = some (tyX14 k) := by decide +kernel
abbrev cX14_init : ByteArray := prog_6_method_1_code
def yX14_init : MethodName := ⟨RX14, "<init>", "(LLetMe$Table;I)V"⟩
def dkwX14_init_0 : List UInt8 := [42, 183, 0, 1, 42, 43, 181, 0, 7, 42, 28, 181, 0, 13, 177]
abbrev dktX14_init_0 : List UInt8 := dkwX14_init_0 ++ []
theorem dksX14_init_0 : cX14_init.data.toList.drop 0 = dktX14_init_0 := by decide +kernel
theorem dX14_init_0 : decode cX14_init 0 = .ok (.aload_n 0, 1) := dk_42 (dk_at dksX14_init_0 0 rfl rfl)
theorem dX14_init_1 : decode cX14_init 1 = .ok (.invokespecial 1, 3) := dk_183 0 1 (dk_at dksX14_init_0 1 rfl rfl)
theorem dX14_init_4 : decode cX14_init 4 = .ok (.aload_n 0, 1) := dk_42 (dk_at dksX14_init_0 4 rfl rfl)
theorem dX14_init_5 : decode cX14_init 5 = .ok (.aload_n 1, 1) := dk_43 (dk_at dksX14_init_0 5 rfl rfl)
theorem dX14_init_6 : decode cX14_init 6 = .ok (.putfield 7, 3) := dk_181 0 7 (dk_at dksX14_init_0 6 rfl rfl)
theorem dX14_init_9 : decode cX14_init 9 = .ok (.aload_n 0, 1) := dk_42 (dk_at dksX14_init_0 9 rfl rfl)
theorem dX14_init_10 : decode cX14_init 10 = .ok (.iload_n 2, 1) := dk_28 (dk_at dksX14_init_0 10 rfl rfl)
theorem dX14_init_11 : decode cX14_init 11 = .ok (.putfield 13, 3) := dk_181 0 13 (dk_at dksX14_init_0 11 rfl rfl)
theorem dX14_init_14 : decode cX14_init 14 = .ok (.return_, 1) := dk_177 (dk_at dksX14_init_0 14 rfl rfl)
abbrev cX14_pays : ByteArray := prog_6_method_3_code
def yX14_pays : MethodName := ⟨RX14, "pays", "(I)Z"⟩
def dkwX14_pays_1 : List UInt8 := [172]
abbrev dktX14_pays_1 : List UInt8 := dkwX14_pays_1 ++ []
def dkwX14_pays_0 : List UInt8 := [42, 180, 0, 7, 27, 182, 0, 18, 154, 0, 5, 3, 172, 42, 89, 180, 0, 24, 4, 96, 181, 0, 24, 4]
abbrev dktX14_pays_0 : List UInt8 := dkwX14_pays_0 ++ dktX14_pays_1
theorem dksX14_pays_0 : cX14_pays.data.toList.drop 0 = dktX14_pays_0 := by decide +kernel
theorem dksX14_pays_1 : cX14_pays.data.toList.drop 24 = dktX14_pays_1 := dk_seg dksX14_pays_0 24 rfl rfl
theorem dX14_pays_0 : decode cX14_pays 0 = .ok (.aload_n 0, 1) := dk_42 (dk_at dksX14_pays_0 0 rfl rfl)
theorem dX14_pays_1 : decode cX14_pays 1 = .ok (.getfield 7, 3) := dk_180 0 7 (dk_at dksX14_pays_0 1 rfl rfl)
theorem dX14_pays_4 : decode cX14_pays 4 = .ok (.iload_n 1, 1) := dk_27 (dk_at dksX14_pays_0 4 rfl rfl)
theorem dX14_pays_5 : decode cX14_pays 5 = .ok (.invokevirtual 18, 3) := dk_182 0 18 (dk_at dksX14_pays_0 5 rfl rfl)
theorem dX14_pays_8 : decode cX14_pays 8 = .ok (.ifCond .ne 5, 3) := dk_154 0 5 (dk_at dksX14_pays_0 8 rfl rfl)
theorem dX14_pays_11 : decode cX14_pays 11 = .ok (.iconst 0, 1) := dk_3 (dk_at dksX14_pays_0 11 rfl rfl)
theorem dX14_pays_12 : decode cX14_pays 12 = .ok (.ireturn, 1) := dk_172 (dk_at dksX14_pays_0 12 rfl rfl)
theorem dX14_pays_13 : decode cX14_pays 13 = .ok (.aload_n 0, 1) := dk_42 (dk_at dksX14_pays_0 13 rfl rfl)
theorem dX14_pays_14 : decode cX14_pays 14 = .ok (.dup, 1) := dk_89 (dk_at dksX14_pays_0 14 rfl rfl)
theorem dX14_pays_15 : decode cX14_pays 15 = .ok (.getfield 24, 3) := dk_180 0 24 (dk_at dksX14_pays_0 15 rfl rfl)
theorem dX14_pays_18 : decode cX14_pays 18 = .ok (.iconst 1, 1) := dk_4 (dk_at dksX14_pays_0 18 rfl rfl)
theorem dX14_pays_19 : decode cX14_pays 19 = .ok (.iadd, 1) := dk_96 (dk_at dksX14_pays_0 19 rfl rfl)
theorem dX14_pays_20 : decode cX14_pays 20 = .ok (.putfield 24, 3) := dk_181 0 24 (dk_at dksX14_pays_0 20 rfl rfl)
theorem dX14_pays_23 : decode cX14_pays 23 = .ok (.iconst 1, 1) := dk_4 (dk_at dksX14_pays_0 23 rfl rfl)
theorem dX14_pays_24 : decode cX14_pays 24 = .ok (.ireturn, 1) := dk_172 (dk_at dksX14_pays_1 0 rfl rfl)
abbrev cX14_draw : ByteArray := prog_6_method_2_code
def yX14_draw : MethodName := ⟨RX14, "draw", "(I)I"⟩
def dkwX14_draw_1 : List UInt8 := [16, 8, 108, 27, 112, 172]
abbrev dktX14_draw_1 : List UInt8 := dkwX14_draw_1 ++ []
def dkwX14_draw_0 : List UInt8 := [42, 42, 180, 0, 13, 17, 11, 101, 104, 17, 43, 111, 96, 18, 17, 112, 181, 0, 13, 42, 180, 0, 13]
abbrev dktX14_draw_0 : List UInt8 := dkwX14_draw_0 ++ dktX14_draw_1
theorem dksX14_draw_0 : cX14_draw.data.toList.drop 0 = dktX14_draw_0 := by decide +kernel
theorem dksX14_draw_1 : cX14_draw.data.toList.drop 23 = dktX14_draw_1 := dk_seg dksX14_draw_0 23 rfl rfl
theorem dX14_draw_0 : decode cX14_draw 0 = .ok (.aload_n 0, 1) := dk_42 (dk_at dksX14_draw_0 0 rfl rfl)
theorem dX14_draw_1 : decode cX14_draw 1 = .ok (.aload_n 0, 1) := dk_42 (dk_at dksX14_draw_0 1 rfl rfl)
theorem dX14_draw_2 : decode cX14_draw 2 = .ok (.getfield 13, 3) := dk_180 0 13 (dk_at dksX14_draw_0 2 rfl rfl)
theorem dX14_draw_5 : decode cX14_draw 5 = .ok (.sipush 2917, 3) := dk_17 11 101 (dk_at dksX14_draw_0 5 rfl rfl)
theorem dX14_draw_8 : decode cX14_draw 8 = .ok (.imul, 1) := dk_104 (dk_at dksX14_draw_0 8 rfl rfl)
theorem dX14_draw_9 : decode cX14_draw 9 = .ok (.sipush 11119, 3) := dk_17 43 111 (dk_at dksX14_draw_0 9 rfl rfl)
theorem dX14_draw_12 : decode cX14_draw 12 = .ok (.iadd, 1) := dk_96 (dk_at dksX14_draw_0 12 rfl rfl)
theorem dX14_draw_13 : decode cX14_draw 13 = .ok (.ldc 17, 2) := dk_18 17 (dk_at dksX14_draw_0 13 rfl rfl)
theorem dX14_draw_15 : decode cX14_draw 15 = .ok (.irem, 1) := dk_112 (dk_at dksX14_draw_0 15 rfl rfl)
theorem dX14_draw_16 : decode cX14_draw 16 = .ok (.putfield 13, 3) := dk_181 0 13 (dk_at dksX14_draw_0 16 rfl rfl)
theorem dX14_draw_19 : decode cX14_draw 19 = .ok (.aload_n 0, 1) := dk_42 (dk_at dksX14_draw_0 19 rfl rfl)
theorem dX14_draw_20 : decode cX14_draw 20 = .ok (.getfield 13, 3) := dk_180 0 13 (dk_at dksX14_draw_0 20 rfl rfl)
theorem dX14_draw_23 : decode cX14_draw 23 = .ok (.bipush 8, 2) := dk_16 8 (dk_at dksX14_draw_1 0 rfl rfl)
theorem dX14_draw_25 : decode cX14_draw 25 = .ok (.idiv, 1) := dk_108 (dk_at dksX14_draw_1 2 rfl rfl)
theorem dX14_draw_26 : decode cX14_draw 26 = .ok (.iload_n 1, 1) := dk_27 (dk_at dksX14_draw_1 3 rfl rfl)
theorem dX14_draw_27 : decode cX14_draw 27 = .ok (.irem, 1) := dk_112 (dk_at dksX14_draw_1 4 rfl rfl)
theorem dX14_draw_28 : decode cX14_draw 28 = .ok (.ireturn, 1) := dk_172 (dk_at dksX14_draw_1 5 rfl rfl)
theorem q172 : (Jvm.Cond.initialized "LetMe$Living") ∈ lw_all := lw_g (lw_at lw_m1 29 rfl) rfl
theorem q1401 : (Jvm.Cond.instantiable "LetMe$Living" (9 : Nat)) ∈ lw_all := lw_g (lw_at lw_m6 58 rfl) rfl
theorem q1403 : (Jvm.Cond.instanceMethod ({ cls := "LetMe$Living", name := "<init>", desc := "(LLetMe$Table;I)V" } : Jvm.MethodName)) ∈ lw_all := lw_g (lw_at lw_m6 60 rfl) rfl
theorem q1404 : (Jvm.Cond.code ({ cls := "LetMe$Living", name := "<init>", desc := "(LLetMe$Table;I)V" } : Jvm.MethodName) prog_6_method_1_code (3 : Nat) (Option.none : Option Jvm.ClassFile.FieldType)) ∈ lw_all := lw_g (lw_at lw_m6 61 rfl) rfl
theorem q1405 : (Jvm.Cond.methodLink "LetMe$Living" (1 : Nat) ({ cls := "java/lang/Object", name := "<init>", desc := "()V" } : Jvm.MethodName)) ∈ lw_all := lw_g (lw_at lw_m6 62 rfl) rfl
theorem q1406 : (Jvm.Cond.fieldLink "LetMe$Living" (7 : Nat) "LetMe$Living" "table" "LLetMe$Table;") ∈ lw_all := lw_g (lw_at lw_m6 63 rfl) rfl
theorem q1409 : (Jvm.Cond.fieldLink "LetMe$Living" (13 : Nat) "LetMe$Living" "state" "I") ∈ lw_all := lw_g (lw_at lw_m6 66 rfl) rfl
theorem q1414 : (Jvm.Cond.fieldLink "LetMe$Living" (24 : Nat) "LetMe$Living" "dinners" "I") ∈ lw_all := lw_g (lw_at lw_m6 71 rfl) rfl
theorem q1426 : (Jvm.Cond.laysFinal "LetMe$Living" "LetMe$Living" "table" "LLetMe$Table;") ∈ lw_all := lw_g (lw_at lw_m6 83 rfl) rfl
theorem q1427 : (Jvm.Cond.soleField "LetMe$Living" "table") ∈ lw_all := lw_g (lw_at lw_m6 84 rfl) rfl
theorem q1428 : (Jvm.Cond.lays "LetMe$Living" "LetMe$Living" "state" "I") ∈ lw_all := lw_g (lw_at lw_m6 85 rfl) rfl
theorem q1429 : (Jvm.Cond.soleField "LetMe$Living" "state") ∈ lw_all := lw_g (lw_at lw_m6 86 rfl) rfl
theorem q1430 : (Jvm.Cond.lays "LetMe$Living" "LetMe$Living" "done" "I") ∈ lw_all := lw_g (lw_at lw_m6 87 rfl) rfl
theorem q1431 : (Jvm.Cond.soleField "LetMe$Living" "done") ∈ lw_all := lw_g (lw_at lw_m6 88 rfl) rfl
theorem q1432 : (Jvm.Cond.lays "LetMe$Living" "LetMe$Living" "missed" "I") ∈ lw_all := lw_g (lw_at lw_m6 89 rfl) rfl
theorem q1433 : (Jvm.Cond.soleField "LetMe$Living" "missed") ∈ lw_all := lw_g (lw_at lw_m6 90 rfl) rfl
theorem q1434 : (Jvm.Cond.lays "LetMe$Living" "LetMe$Living" "dinners" "I") ∈ lw_all := lw_g (lw_at lw_m6 91 rfl) rfl
theorem q1435 : (Jvm.Cond.soleField "LetMe$Living" "dinners") ∈ lw_all := lw_g (lw_at lw_m6 92 rfl) rfl
theorem q1436 : (Jvm.Cond.lays "LetMe$Living" "LetMe$Living" "draws" "I") ∈ lw_all := lw_g (lw_at lw_m6 93 rfl) rfl
theorem q1437 : (Jvm.Cond.soleField "LetMe$Living" "draws") ∈ lw_all := lw_g (lw_at lw_m6 94 rfl) rfl
theorem q1438 : (Jvm.Cond.lays "LetMe$Living" "LetMe$Living" "rounds" "I") ∈ lw_all := lw_g (lw_at lw_m6 95 rfl) rfl
theorem q1439 : (Jvm.Cond.soleField "LetMe$Living" "rounds") ∈ lw_all := lw_g (lw_at lw_m6 96 rfl) rfl
theorem q1440 : (Jvm.Cond.lays "LetMe$Living" "LetMe$Living" "isOver" "Z") ∈ lw_all := lw_g (lw_at lw_m6 97 rfl) rfl
theorem q1441 : (Jvm.Cond.soleField "LetMe$Living" "isOver") ∈ lw_all := lw_g (lw_at lw_m6 98 rfl) rfl
theorem q1442 : (Jvm.Cond.lays "LetMe$Living" "LetMe$Living" "isLeft" "Z") ∈ lw_all := lw_g (lw_at lw_m6 99 rfl) rfl
theorem q1443 : (Jvm.Cond.soleField "LetMe$Living" "isLeft") ∈ lw_all := lw_g (lw_at lw_m6 100 rfl) rfl
theorem q1444 : (Jvm.Cond.superclass "LetMe$Living" "java/lang/Object") ∈ lw_all := lw_g (lw_at lw_m6 101 rfl) rfl
theorem q1469 : (Jvm.Cond.instanceMethod ({ cls := "LetMe$Living", name := "pays", desc := "(I)Z" } : Jvm.MethodName)) ∈ lw_all := lw_g (lw_at lw_m6 126 rfl) rfl
theorem q1470 : (Jvm.Cond.selects "LetMe$Living" ({ cls := "LetMe$Living", name := "pays", desc := "(I)Z" } : Jvm.MethodName) ({ cls := "LetMe$Living", name := "pays", desc := "(I)Z" } : Jvm.MethodName)) ∈ lw_all := lw_g (lw_at lw_m6 127 rfl) rfl
theorem q1471 : (Jvm.Cond.code ({ cls := "LetMe$Living", name := "pays", desc := "(I)Z" } : Jvm.MethodName) prog_6_method_3_code (2 : Nat) (Option.some Jvm.ClassFile.FieldType.boolean)) ∈ lw_all := lw_g (lw_at lw_m6 128 rfl) rfl
theorem q1472 : (Jvm.Cond.methodLink "LetMe$Living" (18 : Nat) ({ cls := "LetMe$Table", name := "pays", desc := "(I)Z" } : Jvm.MethodName)) ∈ lw_all := lw_g (lw_at lw_m6 129 rfl) rfl
theorem q1478 : (Jvm.Cond.instanceMethod ({ cls := "LetMe$Living", name := "draw", desc := "(I)I" } : Jvm.MethodName)) ∈ lw_all := lw_g (lw_at lw_m6 135 rfl) rfl
theorem q1479 : (Jvm.Cond.selects "LetMe$Living" ({ cls := "LetMe$Living", name := "draw", desc := "(I)I" } : Jvm.MethodName) ({ cls := "LetMe$Living", name := "draw", desc := "(I)I" } : Jvm.MethodName)) ∈ lw_all := lw_g (lw_at lw_m6 136 rfl) rfl
theorem q1480 : (Jvm.Cond.code ({ cls := "LetMe$Living", name := "draw", desc := "(I)I" } : Jvm.MethodName) prog_6_method_2_code (2 : Nat) (Option.some Jvm.ClassFile.FieldType.int)) ∈ lw_all := lw_g (lw_at lw_m6 137 rfl) rfl
theorem q1481 : (Jvm.Cond.constant "LetMe$Living" (17 : Nat) (65536 : Int32)) ∈ lw_all := lw_g (lw_at lw_m6 138 rfl) rfl
theorem in_X14 : ∀ w ∈ wsX140, w ∈ lw_all := lw_in wsX140 [1426, 1428, 1430, 1432, 1434, 1436, 1438, 1440, 1442] (by decide +kernel) (by decide +kernel)
