/-! WindowHill$Tray -/
set_option maxRecDepth 100000
def RX1 : String := "WindowHill$Tray"
def TX1 : u_T := fun k => match k with
  | _ => ("WindowHill$Tray", "row", "Ljava/lang/Object;", false)
def tyX1 : Nat → FieldType := fun k => match k with
  | _ => .object "java/lang/Object"
abbrev wsX10 : List Cond := u_ws RX1 TX1 1
theorem nmX1 : ∀ a, a < 1 → ∀ b, b < 1 → a ≠ b → (TX1 a).2.1 ≠ (TX1 b).2.1 := by decide +kernel
theorem tyX1_ok : ∀ k, k < 1 → parseFieldDescriptor (TX1 k).2.2.1 = some (tyX1 k) := by decide +kernel
abbrev cX1_init : ByteArray := prog_13_method_1_code
def yX1_init : MethodName := ⟨RX1, "<init>", "()V"⟩
theorem dX1_init_0 : decode cX1_init 0 = .ok (.aload_n 0, 1) := by decide +kernel
theorem dX1_init_1 : decode cX1_init 1 = .ok (.invokespecial 1, 3) := by decide +kernel
theorem dX1_init_4 : decode cX1_init 4 = .ok (.return_, 1) := by decide +kernel
theorem q136 : (Jvm.Cond.initialized "WindowHill$Tray") ∈ lw_all := lw_g (lw_at lw_m1 2 rfl) rfl
theorem q174 : (Jvm.Cond.instantiable "WindowHill$Tray" (1 : Nat)) ∈ lw_all := lw_g (lw_at lw_m1 40 rfl) rfl
theorem q176 : (Jvm.Cond.instanceMethod ({ cls := "WindowHill$Tray", name := "<init>", desc := "()V" } : Jvm.MethodName)) ∈ lw_all := lw_g (lw_at lw_m1 42 rfl) rfl
theorem q177 : (Jvm.Cond.code ({ cls := "WindowHill$Tray", name := "<init>", desc := "()V" } : Jvm.MethodName) prog_13_method_1_code (1 : Nat) (Option.none : Option Jvm.ClassFile.FieldType)) ∈ lw_all := lw_g (lw_at lw_m1 43 rfl) rfl
theorem q178 : (Jvm.Cond.methodLink "WindowHill$Tray" (1 : Nat) ({ cls := "java/lang/Object", name := "<init>", desc := "()V" } : Jvm.MethodName)) ∈ lw_all := lw_g (lw_at lw_m1 44 rfl) rfl
theorem q180 : (Jvm.Cond.lays "WindowHill$Tray" "WindowHill$Tray" "row" "Ljava/lang/Object;") ∈ lw_all := lw_g (lw_at lw_m1 46 rfl) rfl
theorem q181 : (Jvm.Cond.soleField "WindowHill$Tray" "row") ∈ lw_all := lw_g (lw_at lw_m1 47 rfl) rfl
theorem q182 : (Jvm.Cond.superclass "WindowHill$Tray" "java/lang/Object") ∈ lw_all := lw_g (lw_at lw_m1 48 rfl) rfl
theorem in_X1 : ∀ w ∈ wsX10, w ∈ lw_all := lw_in wsX10 [180] (by decide +kernel) (by decide +kernel)

/-! WindowHill$Bad -/
set_option maxRecDepth 100000
def RX2 : String := "WindowHill$Bad"
def TX2 : u_T := fun k => match k with
  | 0 => ("java/lang/Throwable", "cause", "Ljava/lang/Throwable;", false)
  | 1 => ("java/lang/Throwable", "stackTrace", "[Ljava/lang/StackTraceElement;", false)
  | 2 => ("java/lang/Throwable", "suppressedExceptions", "Ljava/util/List;", false)
  | 3 => ("java/lang/Throwable", "detailMessage", "Ljava/lang/String;", false)
  | 4 => ("java/lang/Throwable", "backtrace", "Ljava/lang/Object;", false)
  | 5 => ("java/lang/Throwable", "depth", "I", false)
  | 6 => ("WindowHill$Bad", "kind", "I", false)
  | _ => ("WindowHill$Bad", "place", "I", false)
def tyX2 : Nat → FieldType := fun k => match k with
  | 0 => .object "java/lang/Throwable"
  | 1 => .array (.object "java/lang/StackTraceElement")
  | 2 => .object "java/util/List"
  | 3 => .object "java/lang/String"
  | 4 => .object "java/lang/Object"
  | 5 => .int
  | 6 => .int
  | _ => .int
abbrev wsX20 : List Cond := u_ws RX2 TX2 8
theorem nmX2 : ∀ a, a < 8 → ∀ b, b < 8 → a ≠ b → (TX2 a).2.1 ≠ (TX2 b).2.1 := by decide +kernel
theorem tyX2_ok : ∀ k, k < 8 → parseFieldDescriptor (TX2 k).2.2.1 = some (tyX2 k) := by decide +kernel
abbrev cX2_init : ByteArray := prog_3_method_1_code
def yX2_init : MethodName := ⟨RX2, "<init>", "()V"⟩
def dkwX2_init_0 : List UInt8 := [42, 1, 1, 3, 3, 183, 0, 1, 177]
abbrev dktX2_init_0 : List UInt8 := dkwX2_init_0 ++ []
theorem dksX2_init_0 : cX2_init.data.toList.drop 0 = dktX2_init_0 := by decide +kernel
theorem dX2_init_0 : decode cX2_init 0 = .ok (.aload_n 0, 1) := dk_42 (dk_at dksX2_init_0 0 rfl rfl)
theorem dX2_init_1 : decode cX2_init 1 = .ok (.aconst_null, 1) := dk_1 (dk_at dksX2_init_0 1 rfl rfl)
theorem dX2_init_2 : decode cX2_init 2 = .ok (.aconst_null, 1) := dk_1 (dk_at dksX2_init_0 2 rfl rfl)
theorem dX2_init_3 : decode cX2_init 3 = .ok (.iconst 0, 1) := dk_3 (dk_at dksX2_init_0 3 rfl rfl)
theorem dX2_init_4 : decode cX2_init 4 = .ok (.iconst 0, 1) := dk_3 (dk_at dksX2_init_0 4 rfl rfl)
theorem dX2_init_5 : decode cX2_init 5 = .ok (.invokespecial 1, 3) := dk_183 0 1 (dk_at dksX2_init_0 5 rfl rfl)
theorem dX2_init_8 : decode cX2_init 8 = .ok (.return_, 1) := dk_177 (dk_at dksX2_init_0 8 rfl rfl)
abbrev cX2_at : ByteArray := prog_3_method_2_code
def yX2_at : MethodName := ⟨RX2, "at", "(II)LWindowHill$Bad;"⟩
def dkwX2_at_0 : List UInt8 := [42, 27, 181, 0, 7, 42, 28, 181, 0, 13, 42, 176]
abbrev dktX2_at_0 : List UInt8 := dkwX2_at_0 ++ []
theorem dksX2_at_0 : cX2_at.data.toList.drop 0 = dktX2_at_0 := by decide +kernel
theorem dX2_at_0 : decode cX2_at 0 = .ok (.aload_n 0, 1) := dk_42 (dk_at dksX2_at_0 0 rfl rfl)
theorem dX2_at_1 : decode cX2_at 1 = .ok (.iload_n 1, 1) := dk_27 (dk_at dksX2_at_0 1 rfl rfl)
theorem dX2_at_2 : decode cX2_at 2 = .ok (.putfield 7, 3) := dk_181 0 7 (dk_at dksX2_at_0 2 rfl rfl)
theorem dX2_at_5 : decode cX2_at 5 = .ok (.aload_n 0, 1) := dk_42 (dk_at dksX2_at_0 5 rfl rfl)
theorem dX2_at_6 : decode cX2_at 6 = .ok (.iload_n 2, 1) := dk_28 (dk_at dksX2_at_0 6 rfl rfl)
theorem dX2_at_7 : decode cX2_at 7 = .ok (.putfield 13, 3) := dk_181 0 13 (dk_at dksX2_at_0 7 rfl rfl)
theorem dX2_at_10 : decode cX2_at 10 = .ok (.aload_n 0, 1) := dk_42 (dk_at dksX2_at_0 10 rfl rfl)
theorem dX2_at_11 : decode cX2_at 11 = .ok (.areturn, 1) := dk_176 (dk_at dksX2_at_0 11 rfl rfl)
theorem q139 : (Jvm.Cond.initialized "WindowHill$Bad") ∈ lw_all := lw_g (lw_at lw_m1 5 rfl) rfl
theorem q184 : (Jvm.Cond.instantiable "WindowHill$Bad" (8 : Nat)) ∈ lw_all := lw_g (lw_at lw_m1 50 rfl) rfl
theorem q185 : (Jvm.Cond.castable "WindowHill$Bad" "WindowHill$Bad") ∈ lw_tbl := lw_at lw_m1 51 rfl
theorem q190 : (Jvm.Cond.selects "WindowHill$Bad" ({ cls := "java/lang/Throwable", name := "fillInStackTrace", desc := "(I)Ljava/lang/Throwable;" } : Jvm.MethodName) ({ cls := "java/lang/Throwable", name := "fillInStackTrace", desc := "(I)Ljava/lang/Throwable;" } : Jvm.MethodName)) ∈ lw_all := lw_g (lw_at lw_m1 56 rfl) rfl
theorem q191 : (Jvm.Cond.selects "WindowHill$Bad" ({ cls := "java/lang/Throwable", name := "fillInStackTrace", desc := "()Ljava/lang/Throwable;" } : Jvm.MethodName) ({ cls := "java/lang/Throwable", name := "fillInStackTrace", desc := "()Ljava/lang/Throwable;" } : Jvm.MethodName)) ∈ lw_all := lw_g (lw_at lw_m1 57 rfl) rfl
theorem q192 : (Jvm.Cond.lays "WindowHill$Bad" "java/lang/Throwable" "cause" "Ljava/lang/Throwable;") ∈ lw_all := lw_g (lw_at lw_m1 58 rfl) rfl
theorem q194 : (Jvm.Cond.lays "WindowHill$Bad" "java/lang/Throwable" "stackTrace" "[Ljava/lang/StackTraceElement;") ∈ lw_all := lw_g (lw_at lw_m1 60 rfl) rfl
theorem q196 : (Jvm.Cond.lays "WindowHill$Bad" "java/lang/Throwable" "suppressedExceptions" "Ljava/util/List;") ∈ lw_all := lw_g (lw_at lw_m1 62 rfl) rfl
theorem q198 : (Jvm.Cond.lays "WindowHill$Bad" "java/lang/Throwable" "detailMessage" "Ljava/lang/String;") ∈ lw_all := lw_g (lw_at lw_m1 64 rfl) rfl
theorem q200 : (Jvm.Cond.lays "WindowHill$Bad" "java/lang/Throwable" "backtrace" "Ljava/lang/Object;") ∈ lw_all := lw_g (lw_at lw_m1 66 rfl) rfl
theorem q224 : (Jvm.Cond.instanceMethod ({ cls := "WindowHill$Bad", name := "<init>", desc := "()V" } : Jvm.MethodName)) ∈ lw_all := lw_g (lw_at lw_m1 90 rfl) rfl
theorem q225 : (Jvm.Cond.code ({ cls := "WindowHill$Bad", name := "<init>", desc := "()V" } : Jvm.MethodName) prog_3_method_1_code (1 : Nat) (Option.none : Option Jvm.ClassFile.FieldType)) ∈ lw_all := lw_g (lw_at lw_m1 91 rfl) rfl
theorem q226 : (Jvm.Cond.methodLink "WindowHill$Bad" (1 : Nat) ({ cls := "java/lang/Exception", name := "<init>", desc := "(Ljava/lang/String;Ljava/lang/Throwable;ZZ)V" } : Jvm.MethodName)) ∈ lw_all := lw_g (lw_at lw_m1 92 rfl) rfl
theorem q232 : (Jvm.Cond.fieldLink "WindowHill$Bad" (7 : Nat) "WindowHill$Bad" "kind" "I") ∈ lw_all := lw_g (lw_at lw_m1 98 rfl) rfl
theorem q234 : (Jvm.Cond.fieldLink "WindowHill$Bad" (13 : Nat) "WindowHill$Bad" "place" "I") ∈ lw_all := lw_g (lw_at lw_m1 100 rfl) rfl
theorem q241 : (Jvm.Cond.lays "WindowHill$Bad" "WindowHill$Bad" "kind" "I") ∈ lw_all := lw_g (lw_at lw_m1 107 rfl) rfl
theorem q242 : (Jvm.Cond.soleField "WindowHill$Bad" "kind") ∈ lw_all := lw_g (lw_at lw_m1 108 rfl) rfl
theorem q243 : (Jvm.Cond.lays "WindowHill$Bad" "WindowHill$Bad" "place" "I") ∈ lw_all := lw_g (lw_at lw_m1 109 rfl) rfl
theorem q244 : (Jvm.Cond.soleField "WindowHill$Bad" "place") ∈ lw_all := lw_g (lw_at lw_m1 110 rfl) rfl
theorem q249 : (Jvm.Cond.lays "WindowHill$Bad" "java/lang/Throwable" "depth" "I") ∈ lw_all := lw_g (lw_at lw_m1 115 rfl) rfl
theorem q252 : (Jvm.Cond.superclass "WindowHill$Bad" "java/lang/Exception") ∈ lw_all := lw_g (lw_at lw_m1 118 rfl) rfl
theorem q742 : (Jvm.Cond.instanceMethod ({ cls := "WindowHill$Bad", name := "at", desc := "(II)LWindowHill$Bad;" } : Jvm.MethodName)) ∈ lw_all := lw_g (lw_at lw_m3 128 rfl) rfl
theorem q743 : (Jvm.Cond.selects "WindowHill$Bad" ({ cls := "WindowHill$Bad", name := "at", desc := "(II)LWindowHill$Bad;" } : Jvm.MethodName) ({ cls := "WindowHill$Bad", name := "at", desc := "(II)LWindowHill$Bad;" } : Jvm.MethodName)) ∈ lw_all := lw_g (lw_at lw_m3 129 rfl) rfl
theorem q744 : (Jvm.Cond.code ({ cls := "WindowHill$Bad", name := "at", desc := "(II)LWindowHill$Bad;" } : Jvm.MethodName) prog_3_method_2_code (3 : Nat) (Option.some (Jvm.ClassFile.FieldType.object "WindowHill$Bad"))) ∈ lw_all := lw_g (lw_at lw_m3 130 rfl) rfl
theorem in_X2 : ∀ w ∈ wsX20, w ∈ lw_all := lw_in wsX20 [192, 194, 196, 198, 200, 249, 241, 243] (by decide +kernel) (by decide +kernel)

/-! WindowHill$Refused -/
set_option maxRecDepth 100000
def RX3 : String := "WindowHill$Refused"
def TX3 : u_T := fun k => match k with
  | 0 => ("java/lang/Throwable", "cause", "Ljava/lang/Throwable;", false)
  | 1 => ("java/lang/Throwable", "stackTrace", "[Ljava/lang/StackTraceElement;", false)
  | 2 => ("java/lang/Throwable", "suppressedExceptions", "Ljava/util/List;", false)
  | 3 => ("java/lang/Throwable", "detailMessage", "Ljava/lang/String;", false)
  | 4 => ("java/lang/Throwable", "backtrace", "Ljava/lang/Object;", false)
  | 5 => ("java/lang/Throwable", "depth", "I", false)
  | _ => ("WindowHill$Refused", "why", "I", false)
def tyX3 : Nat → FieldType := fun k => match k with
  | 0 => .object "java/lang/Throwable"
  | 1 => .array (.object "java/lang/StackTraceElement")
  | 2 => .object "java/util/List"
  | 3 => .object "java/lang/String"
  | 4 => .object "java/lang/Object"
  | 5 => .int
  | _ => .int
abbrev wsX30 : List Cond := u_ws RX3 TX3 7
theorem nmX3 : ∀ a, a < 7 → ∀ b, b < 7 → a ≠ b → (TX3 a).2.1 ≠ (TX3 b).2.1 := by decide +kernel
theorem tyX3_ok : ∀ k, k < 7 → parseFieldDescriptor (TX3 k).2.2.1 = some (tyX3 k) := by decide +kernel
abbrev cX3_init : ByteArray := prog_10_method_1_code
def yX3_init : MethodName := ⟨RX3, "<init>", "()V"⟩
def dkwX3_init_0 : List UInt8 := [42, 1, 1, 3, 3, 183, 0, 1, 177]
abbrev dktX3_init_0 : List UInt8 := dkwX3_init_0 ++ []
theorem dksX3_init_0 : cX3_init.data.toList.drop 0 = dktX3_init_0 := by decide +kernel
theorem dX3_init_0 : decode cX3_init 0 = .ok (.aload_n 0, 1) := dk_42 (dk_at dksX3_init_0 0 rfl rfl)
theorem dX3_init_1 : decode cX3_init 1 = .ok (.aconst_null, 1) := dk_1 (dk_at dksX3_init_0 1 rfl rfl)
theorem dX3_init_2 : decode cX3_init 2 = .ok (.aconst_null, 1) := dk_1 (dk_at dksX3_init_0 2 rfl rfl)
theorem dX3_init_3 : decode cX3_init 3 = .ok (.iconst 0, 1) := dk_3 (dk_at dksX3_init_0 3 rfl rfl)
theorem dX3_init_4 : decode cX3_init 4 = .ok (.iconst 0, 1) := dk_3 (dk_at dksX3_init_0 4 rfl rfl)
theorem dX3_init_5 : decode cX3_init 5 = .ok (.invokespecial 1, 3) := dk_183 0 1 (dk_at dksX3_init_0 5 rfl rfl)
theorem dX3_init_8 : decode cX3_init 8 = .ok (.return_, 1) := dk_177 (dk_at dksX3_init_0 8 rfl rfl)
abbrev cX3_by : ByteArray := prog_10_method_2_code
def yX3_by : MethodName := ⟨RX3, "by", "(I)LWindowHill$Refused;"⟩
def dkwX3_by_0 : List UInt8 := [42, 27, 181, 0, 7, 42, 176]
abbrev dktX3_by_0 : List UInt8 := dkwX3_by_0 ++ []
theorem dksX3_by_0 : cX3_by.data.toList.drop 0 = dktX3_by_0 := by decide +kernel
theorem dX3_by_0 : decode cX3_by 0 = .ok (.aload_n 0, 1) := dk_42 (dk_at dksX3_by_0 0 rfl rfl)
theorem dX3_by_1 : decode cX3_by 1 = .ok (.iload_n 1, 1) := dk_27 (dk_at dksX3_by_0 1 rfl rfl)
theorem dX3_by_2 : decode cX3_by 2 = .ok (.putfield 7, 3) := dk_181 0 7 (dk_at dksX3_by_0 2 rfl rfl)
theorem dX3_by_5 : decode cX3_by 5 = .ok (.aload_n 0, 1) := dk_42 (dk_at dksX3_by_0 5 rfl rfl)
theorem dX3_by_6 : decode cX3_by 6 = .ok (.areturn, 1) := dk_176 (dk_at dksX3_by_0 6 rfl rfl)
theorem q140 : (Jvm.Cond.initialized "WindowHill$Refused") ∈ lw_all := lw_g (lw_at lw_m1 6 rfl) rfl
theorem q214 : (Jvm.Cond.selects "WindowHill$Refused" ({ cls := "java/lang/Throwable", name := "fillInStackTrace", desc := "()Ljava/lang/Throwable;" } : Jvm.MethodName) ({ cls := "java/lang/Throwable", name := "fillInStackTrace", desc := "()Ljava/lang/Throwable;" } : Jvm.MethodName)) ∈ lw_all := lw_g (lw_at lw_m1 80 rfl) rfl
theorem q255 : (Jvm.Cond.instantiable "WindowHill$Refused" (7 : Nat)) ∈ lw_all := lw_g (lw_at lw_m1 121 rfl) rfl
theorem q256 : (Jvm.Cond.castable "WindowHill$Refused" "WindowHill$Refused") ∈ lw_tbl := lw_at lw_m1 122 rfl
theorem q257 : (Jvm.Cond.selects "WindowHill$Refused" ({ cls := "java/lang/Throwable", name := "fillInStackTrace", desc := "(I)Ljava/lang/Throwable;" } : Jvm.MethodName) ({ cls := "java/lang/Throwable", name := "fillInStackTrace", desc := "(I)Ljava/lang/Throwable;" } : Jvm.MethodName)) ∈ lw_all := lw_g (lw_at lw_m1 123 rfl) rfl
theorem q258 : (Jvm.Cond.lays "WindowHill$Refused" "java/lang/Throwable" "cause" "Ljava/lang/Throwable;") ∈ lw_all := lw_g (lw_at lw_m1 124 rfl) rfl
theorem q259 : (Jvm.Cond.lays "WindowHill$Refused" "java/lang/Throwable" "stackTrace" "[Ljava/lang/StackTraceElement;") ∈ lw_all := lw_g (lw_at lw_m1 125 rfl) rfl
theorem q260 : (Jvm.Cond.lays "WindowHill$Refused" "java/lang/Throwable" "suppressedExceptions" "Ljava/util/List;") ∈ lw_all := lw_g (lw_at lw_m1 126 rfl) rfl
theorem q261 : (Jvm.Cond.lays "WindowHill$Refused" "java/lang/Throwable" "detailMessage" "Ljava/lang/String;") ∈ lw_all := lw_g (lw_at lw_m1 127 rfl) rfl
theorem q262 : (Jvm.Cond.lays "WindowHill$Refused" "java/lang/Throwable" "backtrace" "Ljava/lang/Object;") ∈ lw_all := lw_g (lw_at lw_m1 128 rfl) rfl
theorem q264 : (Jvm.Cond.instanceMethod ({ cls := "WindowHill$Refused", name := "<init>", desc := "()V" } : Jvm.MethodName)) ∈ lw_all := lw_g (lw_at lw_m1 130 rfl) rfl
theorem q265 : (Jvm.Cond.code ({ cls := "WindowHill$Refused", name := "<init>", desc := "()V" } : Jvm.MethodName) prog_10_method_1_code (1 : Nat) (Option.none : Option Jvm.ClassFile.FieldType)) ∈ lw_all := lw_g (lw_at lw_m1 131 rfl) rfl
theorem q266 : (Jvm.Cond.methodLink "WindowHill$Refused" (1 : Nat) ({ cls := "java/lang/Exception", name := "<init>", desc := "(Ljava/lang/String;Ljava/lang/Throwable;ZZ)V" } : Jvm.MethodName)) ∈ lw_all := lw_g (lw_at lw_m1 132 rfl) rfl
theorem q267 : (Jvm.Cond.fieldLink "WindowHill$Refused" (7 : Nat) "WindowHill$Refused" "why" "I") ∈ lw_all := lw_g (lw_at lw_m1 133 rfl) rfl
theorem q269 : (Jvm.Cond.lays "WindowHill$Refused" "WindowHill$Refused" "why" "I") ∈ lw_all := lw_g (lw_at lw_m1 135 rfl) rfl
theorem q270 : (Jvm.Cond.soleField "WindowHill$Refused" "why") ∈ lw_all := lw_g (lw_at lw_m1 136 rfl) rfl
theorem q271 : (Jvm.Cond.lays "WindowHill$Refused" "java/lang/Throwable" "depth" "I") ∈ lw_all := lw_g (lw_at lw_m1 137 rfl) rfl
theorem q272 : (Jvm.Cond.superclass "WindowHill$Refused" "java/lang/Exception") ∈ lw_all := lw_g (lw_at lw_m1 138 rfl) rfl
theorem q545 : (Jvm.Cond.instanceMethod ({ cls := "WindowHill$Refused", name := "by", desc := "(I)LWindowHill$Refused;" } : Jvm.MethodName)) ∈ lw_all := lw_g (lw_at lw_m2 171 rfl) rfl
theorem q546 : (Jvm.Cond.selects "WindowHill$Refused" ({ cls := "WindowHill$Refused", name := "by", desc := "(I)LWindowHill$Refused;" } : Jvm.MethodName) ({ cls := "WindowHill$Refused", name := "by", desc := "(I)LWindowHill$Refused;" } : Jvm.MethodName)) ∈ lw_all := lw_g (lw_at lw_m2 172 rfl) rfl
theorem q547 : (Jvm.Cond.code ({ cls := "WindowHill$Refused", name := "by", desc := "(I)LWindowHill$Refused;" } : Jvm.MethodName) prog_10_method_2_code (2 : Nat) (Option.some (Jvm.ClassFile.FieldType.object "WindowHill$Refused"))) ∈ lw_all := lw_g (lw_at lw_m2 173 rfl) rfl
theorem in_X3 : ∀ w ∈ wsX30, w ∈ lw_all := lw_in wsX30 [258, 259, 260, 261, 262, 271, 269] (by decide +kernel) (by decide +kernel)

/-! WindowHill$House -/
set_option maxRecDepth 100000
def RX4 : String := "WindowHill$House"
def TX4 : u_T := fun k => match k with
  | 0 => ("WindowHill$House", "hill", "LWindowHill$Hill;", true)
  | _ => ("WindowHill$House", "year", "LWindowHill$Loop;", false)
def tyX4 : Nat → FieldType := fun k => match k with
  | 0 => .object "WindowHill$Hill"
  | _ => .object "WindowHill$Loop"
abbrev wsX40 : List Cond := u_ws RX4 TX4 2
theorem nmX4 : ∀ a, a < 2 → ∀ b, b < 2 → a ≠ b → (TX4 a).2.1 ≠ (TX4 b).2.1 := by decide +kernel
theorem tyX4_ok : ∀ k, k < 2 → parseFieldDescriptor (TX4 k).2.2.1 = some (tyX4 k) := by decide +kernel
abbrev cX4_init : ByteArray := prog_6_method_1_code
def yX4_init : MethodName := ⟨RX4, "<init>", "()V"⟩
def dkwX4_init_0 : List UInt8 := [42, 183, 0, 1, 42, 187, 0, 7, 89, 183, 0, 9, 181, 0, 10, 177]
abbrev dktX4_init_0 : List UInt8 := dkwX4_init_0 ++ []
theorem dksX4_init_0 : cX4_init.data.toList.drop 0 = dktX4_init_0 := by decide +kernel
theorem dX4_init_0 : decode cX4_init 0 = .ok (.aload_n 0, 1) := dk_42 (dk_at dksX4_init_0 0 rfl rfl)
theorem dX4_init_1 : decode cX4_init 1 = .ok (.invokespecial 1, 3) := dk_183 0 1 (dk_at dksX4_init_0 1 rfl rfl)
theorem dX4_init_4 : decode cX4_init 4 = .ok (.aload_n 0, 1) := dk_42 (dk_at dksX4_init_0 4 rfl rfl)
theorem dX4_init_5 : decode cX4_init 5 = .ok (.new 7, 3) := dk_187 0 7 (dk_at dksX4_init_0 5 rfl rfl)
theorem dX4_init_8 : decode cX4_init 8 = .ok (.dup, 1) := dk_89 (dk_at dksX4_init_0 8 rfl rfl)
theorem dX4_init_9 : decode cX4_init 9 = .ok (.invokespecial 9, 3) := dk_183 0 9 (dk_at dksX4_init_0 9 rfl rfl)
theorem dX4_init_12 : decode cX4_init 12 = .ok (.putfield 10, 3) := dk_181 0 10 (dk_at dksX4_init_0 12 rfl rfl)
theorem dX4_init_15 : decode cX4_init 15 = .ok (.return_, 1) := dk_177 (dk_at dksX4_init_0 15 rfl rfl)
abbrev cX4_be : ByteArray := prog_6_method_2_code
def yX4_be : MethodName := ⟨RX4, "be", "(LWindowHill$House;)V"⟩
def dkwX4_be_0 : List UInt8 := [42, 180, 0, 10, 43, 180, 0, 10, 182, 0, 16, 42, 43, 180, 0, 20, 181, 0, 20, 177]
abbrev dktX4_be_0 : List UInt8 := dkwX4_be_0 ++ []
theorem dksX4_be_0 : cX4_be.data.toList.drop 0 = dktX4_be_0 := by decide +kernel
theorem dX4_be_0 : decode cX4_be 0 = .ok (.aload_n 0, 1) := dk_42 (dk_at dksX4_be_0 0 rfl rfl)
theorem dX4_be_1 : decode cX4_be 1 = .ok (.getfield 10, 3) := dk_180 0 10 (dk_at dksX4_be_0 1 rfl rfl)
theorem dX4_be_4 : decode cX4_be 4 = .ok (.aload_n 1, 1) := dk_43 (dk_at dksX4_be_0 4 rfl rfl)
theorem dX4_be_5 : decode cX4_be 5 = .ok (.getfield 10, 3) := dk_180 0 10 (dk_at dksX4_be_0 5 rfl rfl)
theorem dX4_be_8 : decode cX4_be 8 = .ok (.invokevirtual 16, 3) := dk_182 0 16 (dk_at dksX4_be_0 8 rfl rfl)
theorem dX4_be_11 : decode cX4_be 11 = .ok (.aload_n 0, 1) := dk_42 (dk_at dksX4_be_0 11 rfl rfl)
theorem dX4_be_12 : decode cX4_be 12 = .ok (.aload_n 1, 1) := dk_43 (dk_at dksX4_be_0 12 rfl rfl)
theorem dX4_be_13 : decode cX4_be 13 = .ok (.getfield 20, 3) := dk_180 0 20 (dk_at dksX4_be_0 13 rfl rfl)
theorem dX4_be_16 : decode cX4_be 16 = .ok (.putfield 20, 3) := dk_181 0 20 (dk_at dksX4_be_0 16 rfl rfl)
theorem dX4_be_19 : decode cX4_be 19 = .ok (.return_, 1) := dk_177 (dk_at dksX4_be_0 19 rfl rfl)
theorem q141 : (Jvm.Cond.initialized "WindowHill$House") ∈ lw_all := lw_g (lw_at lw_m1 7 rfl) rfl
theorem q274 : (Jvm.Cond.instantiable "WindowHill$House" (2 : Nat)) ∈ lw_all := lw_g (lw_at lw_m1 140 rfl) rfl
theorem q276 : (Jvm.Cond.instanceMethod ({ cls := "WindowHill$House", name := "<init>", desc := "()V" } : Jvm.MethodName)) ∈ lw_all := lw_g (lw_at lw_m1 142 rfl) rfl
theorem q277 : (Jvm.Cond.code ({ cls := "WindowHill$House", name := "<init>", desc := "()V" } : Jvm.MethodName) prog_6_method_1_code (1 : Nat) (Option.none : Option Jvm.ClassFile.FieldType)) ∈ lw_all := lw_g (lw_at lw_m1 143 rfl) rfl
theorem q278 : (Jvm.Cond.methodLink "WindowHill$House" (1 : Nat) ({ cls := "java/lang/Object", name := "<init>", desc := "()V" } : Jvm.MethodName)) ∈ lw_all := lw_g (lw_at lw_m1 144 rfl) rfl
theorem q279 : (Jvm.Cond.classLink "WindowHill$House" (7 : Nat) "WindowHill$Hill") ∈ lw_all := lw_g (lw_at lw_m1 145 rfl) rfl
theorem q281 : (Jvm.Cond.methodLinkNest "WindowHill$House" (9 : Nat) ({ cls := "WindowHill$Hill", name := "<init>", desc := "()V" } : Jvm.MethodName) "WindowHill") ∈ lw_tbl := lw_at lw_m1 147 rfl
theorem q409 : (Jvm.Cond.fieldLink "WindowHill$House" (10 : Nat) "WindowHill$House" "hill" "LWindowHill$Hill;") ∈ lw_all := lw_g (lw_at lw_m2 35 rfl) rfl
theorem q411 : (Jvm.Cond.fieldLink "WindowHill$House" (20 : Nat) "WindowHill$House" "year" "LWindowHill$Loop;") ∈ lw_all := lw_g (lw_at lw_m2 37 rfl) rfl
theorem q413 : (Jvm.Cond.laysFinal "WindowHill$House" "WindowHill$House" "hill" "LWindowHill$Hill;") ∈ lw_all := lw_g (lw_at lw_m2 39 rfl) rfl
theorem q414 : (Jvm.Cond.soleField "WindowHill$House" "hill") ∈ lw_all := lw_g (lw_at lw_m2 40 rfl) rfl
theorem q415 : (Jvm.Cond.lays "WindowHill$House" "WindowHill$House" "year" "LWindowHill$Loop;") ∈ lw_all := lw_g (lw_at lw_m2 41 rfl) rfl
theorem q416 : (Jvm.Cond.soleField "WindowHill$House" "year") ∈ lw_all := lw_g (lw_at lw_m2 42 rfl) rfl
theorem q417 : (Jvm.Cond.superclass "WindowHill$House" "java/lang/Object") ∈ lw_all := lw_g (lw_at lw_m2 43 rfl) rfl
theorem q1449 : (Jvm.Cond.instanceMethod ({ cls := "WindowHill$House", name := "be", desc := "(LWindowHill$House;)V" } : Jvm.MethodName)) ∈ lw_all := lw_g (lw_at lw_m6 115 rfl) rfl
theorem q1450 : (Jvm.Cond.selects "WindowHill$House" ({ cls := "WindowHill$House", name := "be", desc := "(LWindowHill$House;)V" } : Jvm.MethodName) ({ cls := "WindowHill$House", name := "be", desc := "(LWindowHill$House;)V" } : Jvm.MethodName)) ∈ lw_all := lw_g (lw_at lw_m6 116 rfl) rfl
theorem q1451 : (Jvm.Cond.code ({ cls := "WindowHill$House", name := "be", desc := "(LWindowHill$House;)V" } : Jvm.MethodName) prog_6_method_2_code (2 : Nat) (Option.none : Option Jvm.ClassFile.FieldType)) ∈ lw_all := lw_g (lw_at lw_m6 117 rfl) rfl
theorem q1452 : (Jvm.Cond.methodLink "WindowHill$House" (16 : Nat) ({ cls := "WindowHill$Hill", name := "be", desc := "(LWindowHill$Hill;)V" } : Jvm.MethodName)) ∈ lw_all := lw_g (lw_at lw_m6 118 rfl) rfl
theorem in_X4 : ∀ w ∈ wsX40, w ∈ lw_all := lw_in wsX40 [413, 415] (by decide +kernel) (by decide +kernel)

/-! WindowHill$Hill -/
set_option maxRecDepth 100000
def RX5 : String := "WindowHill$Hill"
def TX5 : u_T := fun k => match k with
  | 0 => ("WindowHill$Hill", "town", "LWindowHill$Town;", false)
  | 1 => ("WindowHill$Hill", "born", "[I", true)
  | 2 => ("WindowHill$Hill", "stays", "[I", true)
  | 3 => ("WindowHill$Hill", "seen", "[I", true)
  | 4 => ("WindowHill$Hill", "lit", "I", false)
  | 5 => ("WindowHill$Hill", "mayor", "I", false)
  | 6 => ("WindowHill$Hill", "night", "I", false)
  | _ => ("WindowHill$Hill", "oil", "I", false)
def tyX5 : Nat → FieldType := fun k => match k with
  | 0 => .object "WindowHill$Town"
  | 1 => .array .int
  | 2 => .array .int
  | 3 => .array .int
  | 4 => .int
  | 5 => .int
  | 6 => .int
  | _ => .int
abbrev wsX50 : List Cond := u_ws RX5 TX5 8
theorem nmX5 : ∀ a, a < 8 → ∀ b, b < 8 → a ≠ b → (TX5 a).2.1 ≠ (TX5 b).2.1 := by decide +kernel
theorem tyX5_ok : ∀ k, k < 8 → parseFieldDescriptor (TX5 k).2.2.1 = some (tyX5 k) := by decide +kernel
abbrev cX5_init : ByteArray := prog_5_method_1_code
def yX5_init : MethodName := ⟨RX5, "<init>", "()V"⟩
def dkwX5_init_1 : List UInt8 := [188, 10, 181, 0, 22, 42, 16, 10, 188, 10, 181, 0, 25, 42, 2, 181, 0, 28, 177]
abbrev dktX5_init_1 : List UInt8 := dkwX5_init_1 ++ []
def dkwX5_init_0 : List UInt8 := [42, 183, 0, 3, 42, 187, 0, 9, 89, 183, 0, 11, 181, 0, 12, 42, 7, 188, 10, 181, 0, 18, 42, 7]
abbrev dktX5_init_0 : List UInt8 := dkwX5_init_0 ++ dktX5_init_1
theorem dksX5_init_0 : cX5_init.data.toList.drop 0 = dktX5_init_0 := by decide +kernel
theorem dksX5_init_1 : cX5_init.data.toList.drop 24 = dktX5_init_1 := dk_seg dksX5_init_0 24 rfl rfl
theorem dX5_init_0 : decode cX5_init 0 = .ok (.aload_n 0, 1) := dk_42 (dk_at dksX5_init_0 0 rfl rfl)
theorem dX5_init_1 : decode cX5_init 1 = .ok (.invokespecial 3, 3) := dk_183 0 3 (dk_at dksX5_init_0 1 rfl rfl)
theorem dX5_init_4 : decode cX5_init 4 = .ok (.aload_n 0, 1) := dk_42 (dk_at dksX5_init_0 4 rfl rfl)
theorem dX5_init_5 : decode cX5_init 5 = .ok (.new 9, 3) := dk_187 0 9 (dk_at dksX5_init_0 5 rfl rfl)
theorem dX5_init_8 : decode cX5_init 8 = .ok (.dup, 1) := dk_89 (dk_at dksX5_init_0 8 rfl rfl)
theorem dX5_init_9 : decode cX5_init 9 = .ok (.invokespecial 11, 3) := dk_183 0 11 (dk_at dksX5_init_0 9 rfl rfl)
theorem dX5_init_12 : decode cX5_init 12 = .ok (.putfield 12, 3) := dk_181 0 12 (dk_at dksX5_init_0 12 rfl rfl)
theorem dX5_init_15 : decode cX5_init 15 = .ok (.aload_n 0, 1) := dk_42 (dk_at dksX5_init_0 15 rfl rfl)
theorem dX5_init_16 : decode cX5_init 16 = .ok (.iconst 4, 1) := dk_7 (dk_at dksX5_init_0 16 rfl rfl)
theorem dX5_init_17 : decode cX5_init 17 = .ok (.newarray .int, 2) := dk_188_10 (dk_at dksX5_init_0 17 rfl rfl)
theorem dX5_init_19 : decode cX5_init 19 = .ok (.putfield 18, 3) := dk_181 0 18 (dk_at dksX5_init_0 19 rfl rfl)
theorem dX5_init_22 : decode cX5_init 22 = .ok (.aload_n 0, 1) := dk_42 (dk_at dksX5_init_0 22 rfl rfl)
theorem dX5_init_23 : decode cX5_init 23 = .ok (.iconst 4, 1) := dk_7 (dk_at dksX5_init_0 23 rfl rfl)
theorem dX5_init_24 : decode cX5_init 24 = .ok (.newarray .int, 2) := dk_188_10 (dk_at dksX5_init_1 0 rfl rfl)
theorem dX5_init_26 : decode cX5_init 26 = .ok (.putfield 22, 3) := dk_181 0 22 (dk_at dksX5_init_1 2 rfl rfl)
theorem dX5_init_29 : decode cX5_init 29 = .ok (.aload_n 0, 1) := dk_42 (dk_at dksX5_init_1 5 rfl rfl)
theorem dX5_init_30 : decode cX5_init 30 = .ok (.bipush 10, 2) := dk_16 10 (dk_at dksX5_init_1 6 rfl rfl)
theorem dX5_init_32 : decode cX5_init 32 = .ok (.newarray .int, 2) := dk_188_10 (dk_at dksX5_init_1 8 rfl rfl)
theorem dX5_init_34 : decode cX5_init 34 = .ok (.putfield 25, 3) := dk_181 0 25 (dk_at dksX5_init_1 10 rfl rfl)
theorem dX5_init_37 : decode cX5_init 37 = .ok (.aload_n 0, 1) := dk_42 (dk_at dksX5_init_1 13 rfl rfl)
theorem dX5_init_38 : decode cX5_init 38 = .ok (.iconst (-1), 1) := dk_2 (dk_at dksX5_init_1 14 rfl rfl)
theorem dX5_init_39 : decode cX5_init 39 = .ok (.putfield 28, 3) := dk_181 0 28 (dk_at dksX5_init_1 15 rfl rfl)
theorem dX5_init_42 : decode cX5_init 42 = .ok (.return_, 1) := dk_177 (dk_at dksX5_init_1 18 rfl rfl)
abbrev cX5_begin : ByteArray := prog_5_method_2_code
def yX5_begin : MethodName := ⟨RX5, "begin", "(LWindowHill$Town;I)V"⟩
def dkwX5_begin_3 : List UInt8 := [167, 0, 4, 2, 181, 0, 28, 42, 3, 181, 0, 46, 42, 3, 181, 0, 49, 177]
abbrev dktX5_begin_3 : List UInt8 := dkwX5_begin_3 ++ []
def dkwX5_begin_2 : List UInt8 := [29, 3, 79, 132, 3, 1, 167, 255, 237, 42, 28, 181, 0, 40, 42, 43, 180, 0, 43, 158, 0, 7, 3]
abbrev dktX5_begin_2 : List UInt8 := dkwX5_begin_2 ++ dktX5_begin_3
def dkwX5_begin_1 : List UInt8 := [42, 180, 0, 22, 3, 7, 184, 0, 33, 3, 62, 29, 42, 180, 0, 25, 190, 162, 0, 16, 42, 180, 0, 25]
abbrev dktX5_begin_1 : List UInt8 := dkwX5_begin_1 ++ dktX5_begin_2
def dkwX5_begin_0 : List UInt8 := [42, 43, 181, 0, 12, 43, 180, 0, 32, 3, 42, 180, 0, 18, 3, 7, 184, 0, 33, 43, 180, 0, 39, 3]
abbrev dktX5_begin_0 : List UInt8 := dkwX5_begin_0 ++ dktX5_begin_1
theorem dksX5_begin_0 : cX5_begin.data.toList.drop 0 = dktX5_begin_0 := by decide +kernel
theorem dksX5_begin_1 : cX5_begin.data.toList.drop 24 = dktX5_begin_1 := dk_seg dksX5_begin_0 24 rfl rfl
theorem dksX5_begin_2 : cX5_begin.data.toList.drop 48 = dktX5_begin_2 := dk_seg dksX5_begin_1 24 rfl rfl
theorem dksX5_begin_3 : cX5_begin.data.toList.drop 71 = dktX5_begin_3 := dk_seg dksX5_begin_2 23 rfl rfl
theorem dX5_begin_0 : decode cX5_begin 0 = .ok (.aload_n 0, 1) := dk_42 (dk_at dksX5_begin_0 0 rfl rfl)
theorem dX5_begin_1 : decode cX5_begin 1 = .ok (.aload_n 1, 1) := dk_43 (dk_at dksX5_begin_0 1 rfl rfl)
theorem dX5_begin_2 : decode cX5_begin 2 = .ok (.putfield 12, 3) := dk_181 0 12 (dk_at dksX5_begin_0 2 rfl rfl)
theorem dX5_begin_5 : decode cX5_begin 5 = .ok (.aload_n 1, 1) := dk_43 (dk_at dksX5_begin_0 5 rfl rfl)
theorem dX5_begin_6 : decode cX5_begin 6 = .ok (.getfield 32, 3) := dk_180 0 32 (dk_at dksX5_begin_0 6 rfl rfl)
theorem dX5_begin_9 : decode cX5_begin 9 = .ok (.iconst 0, 1) := dk_3 (dk_at dksX5_begin_0 9 rfl rfl)
theorem dX5_begin_10 : decode cX5_begin 10 = .ok (.aload_n 0, 1) := dk_42 (dk_at dksX5_begin_0 10 rfl rfl)
theorem dX5_begin_11 : decode cX5_begin 11 = .ok (.getfield 18, 3) := dk_180 0 18 (dk_at dksX5_begin_0 11 rfl rfl)
theorem dX5_begin_14 : decode cX5_begin 14 = .ok (.iconst 0, 1) := dk_3 (dk_at dksX5_begin_0 14 rfl rfl)
theorem dX5_begin_15 : decode cX5_begin 15 = .ok (.iconst 4, 1) := dk_7 (dk_at dksX5_begin_0 15 rfl rfl)
theorem dX5_begin_16 : decode cX5_begin 16 = .ok (.invokestatic 33, 3) := dk_184 0 33 (dk_at dksX5_begin_0 16 rfl rfl)
theorem dX5_begin_19 : decode cX5_begin 19 = .ok (.aload_n 1, 1) := dk_43 (dk_at dksX5_begin_0 19 rfl rfl)
theorem dX5_begin_20 : decode cX5_begin 20 = .ok (.getfield 39, 3) := dk_180 0 39 (dk_at dksX5_begin_0 20 rfl rfl)
theorem dX5_begin_23 : decode cX5_begin 23 = .ok (.iconst 0, 1) := dk_3 (dk_at dksX5_begin_0 23 rfl rfl)
theorem dX5_begin_24 : decode cX5_begin 24 = .ok (.aload_n 0, 1) := dk_42 (dk_at dksX5_begin_1 0 rfl rfl)
theorem dX5_begin_25 : decode cX5_begin 25 = .ok (.getfield 22, 3) := dk_180 0 22 (dk_at dksX5_begin_1 1 rfl rfl)
theorem dX5_begin_28 : decode cX5_begin 28 = .ok (.iconst 0, 1) := dk_3 (dk_at dksX5_begin_1 4 rfl rfl)
theorem dX5_begin_29 : decode cX5_begin 29 = .ok (.iconst 4, 1) := dk_7 (dk_at dksX5_begin_1 5 rfl rfl)
theorem dX5_begin_30 : decode cX5_begin 30 = .ok (.invokestatic 33, 3) := dk_184 0 33 (dk_at dksX5_begin_1 6 rfl rfl)
theorem dX5_begin_33 : decode cX5_begin 33 = .ok (.iconst 0, 1) := dk_3 (dk_at dksX5_begin_1 9 rfl rfl)
theorem dX5_begin_34 : decode cX5_begin 34 = .ok (.istore_n 3, 1) := dk_62 (dk_at dksX5_begin_1 10 rfl rfl)
theorem dX5_begin_35 : decode cX5_begin 35 = .ok (.iload_n 3, 1) := dk_29 (dk_at dksX5_begin_1 11 rfl rfl)
theorem dX5_begin_36 : decode cX5_begin 36 = .ok (.aload_n 0, 1) := dk_42 (dk_at dksX5_begin_1 12 rfl rfl)
theorem dX5_begin_37 : decode cX5_begin 37 = .ok (.getfield 25, 3) := dk_180 0 25 (dk_at dksX5_begin_1 13 rfl rfl)
theorem dX5_begin_40 : decode cX5_begin 40 = .ok (.arraylength, 1) := dk_190 (dk_at dksX5_begin_1 16 rfl rfl)
theorem dX5_begin_41 : decode cX5_begin 41 = .ok (.if_icmp .ge 16, 3) := dk_162 0 16 (dk_at dksX5_begin_1 17 rfl rfl)
theorem dX5_begin_44 : decode cX5_begin 44 = .ok (.aload_n 0, 1) := dk_42 (dk_at dksX5_begin_1 20 rfl rfl)
theorem dX5_begin_45 : decode cX5_begin 45 = .ok (.getfield 25, 3) := dk_180 0 25 (dk_at dksX5_begin_1 21 rfl rfl)
theorem dX5_begin_48 : decode cX5_begin 48 = .ok (.iload_n 3, 1) := dk_29 (dk_at dksX5_begin_2 0 rfl rfl)
theorem dX5_begin_49 : decode cX5_begin 49 = .ok (.iconst 0, 1) := dk_3 (dk_at dksX5_begin_2 1 rfl rfl)
theorem dX5_begin_50 : decode cX5_begin 50 = .ok (.iastore, 1) := dk_79 (dk_at dksX5_begin_2 2 rfl rfl)
theorem dX5_begin_51 : decode cX5_begin 51 = .ok (.iinc 3 1, 3) := dk_132 3 1 (dk_at dksX5_begin_2 3 rfl rfl)
theorem dX5_begin_54 : decode cX5_begin 54 = .ok (.goto (-19), 3) := dk_167 255 237 (dk_at dksX5_begin_2 6 rfl rfl)
theorem dX5_begin_57 : decode cX5_begin 57 = .ok (.aload_n 0, 1) := dk_42 (dk_at dksX5_begin_2 9 rfl rfl)
theorem dX5_begin_58 : decode cX5_begin 58 = .ok (.iload_n 2, 1) := dk_28 (dk_at dksX5_begin_2 10 rfl rfl)
theorem dX5_begin_59 : decode cX5_begin 59 = .ok (.putfield 40, 3) := dk_181 0 40 (dk_at dksX5_begin_2 11 rfl rfl)
theorem dX5_begin_62 : decode cX5_begin 62 = .ok (.aload_n 0, 1) := dk_42 (dk_at dksX5_begin_2 14 rfl rfl)
theorem dX5_begin_63 : decode cX5_begin 63 = .ok (.aload_n 1, 1) := dk_43 (dk_at dksX5_begin_2 15 rfl rfl)
theorem dX5_begin_64 : decode cX5_begin 64 = .ok (.getfield 43, 3) := dk_180 0 43 (dk_at dksX5_begin_2 16 rfl rfl)
theorem dX5_begin_67 : decode cX5_begin 67 = .ok (.ifCond .le 7, 3) := dk_158 0 7 (dk_at dksX5_begin_2 19 rfl rfl)
theorem dX5_begin_70 : decode cX5_begin 70 = .ok (.iconst 0, 1) := dk_3 (dk_at dksX5_begin_2 22 rfl rfl)
theorem dX5_begin_71 : decode cX5_begin 71 = .ok (.goto 4, 3) := dk_167 0 4 (dk_at dksX5_begin_3 0 rfl rfl)
theorem dX5_begin_74 : decode cX5_begin 74 = .ok (.iconst (-1), 1) := dk_2 (dk_at dksX5_begin_3 3 rfl rfl)
theorem dX5_begin_75 : decode cX5_begin 75 = .ok (.putfield 28, 3) := dk_181 0 28 (dk_at dksX5_begin_3 4 rfl rfl)
theorem dX5_begin_78 : decode cX5_begin 78 = .ok (.aload_n 0, 1) := dk_42 (dk_at dksX5_begin_3 7 rfl rfl)
theorem dX5_begin_79 : decode cX5_begin 79 = .ok (.iconst 0, 1) := dk_3 (dk_at dksX5_begin_3 8 rfl rfl)
theorem dX5_begin_80 : decode cX5_begin 80 = .ok (.putfield 46, 3) := dk_181 0 46 (dk_at dksX5_begin_3 9 rfl rfl)
theorem dX5_begin_83 : decode cX5_begin 83 = .ok (.aload_n 0, 1) := dk_42 (dk_at dksX5_begin_3 12 rfl rfl)
theorem dX5_begin_84 : decode cX5_begin 84 = .ok (.iconst 0, 1) := dk_3 (dk_at dksX5_begin_3 13 rfl rfl)
theorem dX5_begin_85 : decode cX5_begin 85 = .ok (.putfield 49, 3) := dk_181 0 49 (dk_at dksX5_begin_3 14 rfl rfl)
theorem dX5_begin_88 : decode cX5_begin 88 = .ok (.return_, 1) := dk_177 (dk_at dksX5_begin_3 17 rfl rfl)
abbrev cX5_paint : ByteArray := prog_5_method_10_code
def yX5_paint : MethodName := ⟨RX5, "paint", "(I)V"⟩
def dkwX5_paint_0 : List UInt8 := [42, 27, 42, 180, 0, 12, 182, 0, 55, 126, 42, 180, 0, 12, 180, 0, 52, 128, 181, 0, 40, 177]
abbrev dktX5_paint_0 : List UInt8 := dkwX5_paint_0 ++ []
theorem dksX5_paint_0 : cX5_paint.data.toList.drop 0 = dktX5_paint_0 := by decide +kernel
theorem dX5_paint_0 : decode cX5_paint 0 = .ok (.aload_n 0, 1) := dk_42 (dk_at dksX5_paint_0 0 rfl rfl)
theorem dX5_paint_1 : decode cX5_paint 1 = .ok (.iload_n 1, 1) := dk_27 (dk_at dksX5_paint_0 1 rfl rfl)
theorem dX5_paint_2 : decode cX5_paint 2 = .ok (.aload_n 0, 1) := dk_42 (dk_at dksX5_paint_0 2 rfl rfl)
theorem dX5_paint_3 : decode cX5_paint 3 = .ok (.getfield 12, 3) := dk_180 0 12 (dk_at dksX5_paint_0 3 rfl rfl)
theorem dX5_paint_6 : decode cX5_paint 6 = .ok (.invokevirtual 55, 3) := dk_182 0 55 (dk_at dksX5_paint_0 6 rfl rfl)
theorem dX5_paint_9 : decode cX5_paint 9 = .ok (.iand, 1) := dk_126 (dk_at dksX5_paint_0 9 rfl rfl)
theorem dX5_paint_10 : decode cX5_paint 10 = .ok (.aload_n 0, 1) := dk_42 (dk_at dksX5_paint_0 10 rfl rfl)
theorem dX5_paint_11 : decode cX5_paint 11 = .ok (.getfield 12, 3) := dk_180 0 12 (dk_at dksX5_paint_0 11 rfl rfl)
theorem dX5_paint_14 : decode cX5_paint 14 = .ok (.getfield 52, 3) := dk_180 0 52 (dk_at dksX5_paint_0 14 rfl rfl)
theorem dX5_paint_17 : decode cX5_paint 17 = .ok (.ior, 1) := dk_128 (dk_at dksX5_paint_0 17 rfl rfl)
theorem dX5_paint_18 : decode cX5_paint 18 = .ok (.putfield 40, 3) := dk_181 0 40 (dk_at dksX5_paint_0 18 rfl rfl)
theorem dX5_paint_21 : decode cX5_paint 21 = .ok (.return_, 1) := dk_177 (dk_at dksX5_paint_0 21 rfl rfl)
abbrev cX5_night : ByteArray := prog_5_method_9_code
def yX5_night : MethodName := ⟨RX5, "night", "()V"⟩
def dkwX5_night_4 : List UInt8 := [4, 96, 181, 0, 46, 42, 27, 181, 0, 40, 177]
abbrev dktX5_night_4 : List UInt8 := dkwX5_night_4 ++ []
def dkwX5_night_3 : List UInt8 := [167, 255, 196, 42, 89, 180, 0, 49, 42, 180, 0, 40, 184, 0, 65, 96, 181, 0, 49, 42, 89, 180, 0, 46]
abbrev dktX5_night_3 : List UInt8 := dkwX5_night_3 ++ dktX5_night_4
def dkwX5_night_2 : List UInt8 := [182, 0, 82, 92, 46, 27, 28, 122, 4, 126, 4, 160, 0, 7, 5, 167, 0, 4, 4, 128, 79, 132, 2, 1]
abbrev dktX5_night_2 : List UInt8 := dkwX5_night_2 ++ dktX5_night_3
def dkwX5_night_1 : List UInt8 := [180, 0, 12, 182, 0, 55, 28, 122, 4, 126, 4, 160, 0, 34, 42, 180, 0, 25, 42, 42, 180, 0, 40, 28]
abbrev dktX5_night_1 : List UInt8 := dkwX5_night_1 ++ dktX5_night_2
def dkwX5_night_0 : List UInt8 := [42, 42, 180, 0, 40, 182, 0, 79, 60, 3, 61, 28, 42, 180, 0, 12, 182, 0, 59, 162, 0, 55, 42]
abbrev dktX5_night_0 : List UInt8 := dkwX5_night_0 ++ dktX5_night_1
theorem dksX5_night_0 : cX5_night.data.toList.drop 0 = dktX5_night_0 := by decide +kernel
theorem dksX5_night_1 : cX5_night.data.toList.drop 23 = dktX5_night_1 := dk_seg dksX5_night_0 23 rfl rfl
theorem dksX5_night_2 : cX5_night.data.toList.drop 47 = dktX5_night_2 := dk_seg dksX5_night_1 24 rfl rfl
theorem dksX5_night_3 : cX5_night.data.toList.drop 71 = dktX5_night_3 := dk_seg dksX5_night_2 24 rfl rfl
theorem dksX5_night_4 : cX5_night.data.toList.drop 95 = dktX5_night_4 := dk_seg dksX5_night_3 24 rfl rfl
theorem dX5_night_0 : decode cX5_night 0 = .ok (.aload_n 0, 1) := dk_42 (dk_at dksX5_night_0 0 rfl rfl)
theorem dX5_night_1 : decode cX5_night 1 = .ok (.aload_n 0, 1) := dk_42 (dk_at dksX5_night_0 1 rfl rfl)
theorem dX5_night_2 : decode cX5_night 2 = .ok (.getfield 40, 3) := dk_180 0 40 (dk_at dksX5_night_0 2 rfl rfl)
theorem dX5_night_5 : decode cX5_night 5 = .ok (.invokevirtual 79, 3) := dk_182 0 79 (dk_at dksX5_night_0 5 rfl rfl)
theorem dX5_night_8 : decode cX5_night 8 = .ok (.istore_n 1, 1) := dk_60 (dk_at dksX5_night_0 8 rfl rfl)
theorem dX5_night_9 : decode cX5_night 9 = .ok (.iconst 0, 1) := dk_3 (dk_at dksX5_night_0 9 rfl rfl)
theorem dX5_night_10 : decode cX5_night 10 = .ok (.istore_n 2, 1) := dk_61 (dk_at dksX5_night_0 10 rfl rfl)
theorem dX5_night_11 : decode cX5_night 11 = .ok (.iload_n 2, 1) := dk_28 (dk_at dksX5_night_0 11 rfl rfl)
theorem dX5_night_12 : decode cX5_night 12 = .ok (.aload_n 0, 1) := dk_42 (dk_at dksX5_night_0 12 rfl rfl)
theorem dX5_night_13 : decode cX5_night 13 = .ok (.getfield 12, 3) := dk_180 0 12 (dk_at dksX5_night_0 13 rfl rfl)
theorem dX5_night_16 : decode cX5_night 16 = .ok (.invokevirtual 59, 3) := dk_182 0 59 (dk_at dksX5_night_0 16 rfl rfl)
theorem dX5_night_19 : decode cX5_night 19 = .ok (.if_icmp .ge 55, 3) := dk_162 0 55 (dk_at dksX5_night_0 19 rfl rfl)
theorem dX5_night_22 : decode cX5_night 22 = .ok (.aload_n 0, 1) := dk_42 (dk_at dksX5_night_0 22 rfl rfl)
theorem dX5_night_23 : decode cX5_night 23 = .ok (.getfield 12, 3) := dk_180 0 12 (dk_at dksX5_night_1 0 rfl rfl)
theorem dX5_night_26 : decode cX5_night 26 = .ok (.invokevirtual 55, 3) := dk_182 0 55 (dk_at dksX5_night_1 3 rfl rfl)
theorem dX5_night_29 : decode cX5_night 29 = .ok (.iload_n 2, 1) := dk_28 (dk_at dksX5_night_1 6 rfl rfl)
theorem dX5_night_30 : decode cX5_night 30 = .ok (.ishr, 1) := dk_122 (dk_at dksX5_night_1 7 rfl rfl)
theorem dX5_night_31 : decode cX5_night 31 = .ok (.iconst 1, 1) := dk_4 (dk_at dksX5_night_1 8 rfl rfl)
theorem dX5_night_32 : decode cX5_night 32 = .ok (.iand, 1) := dk_126 (dk_at dksX5_night_1 9 rfl rfl)
theorem dX5_night_33 : decode cX5_night 33 = .ok (.iconst 1, 1) := dk_4 (dk_at dksX5_night_1 10 rfl rfl)
theorem dX5_night_34 : decode cX5_night 34 = .ok (.if_icmp .ne 34, 3) := dk_160 0 34 (dk_at dksX5_night_1 11 rfl rfl)
theorem dX5_night_37 : decode cX5_night 37 = .ok (.aload_n 0, 1) := dk_42 (dk_at dksX5_night_1 14 rfl rfl)
theorem dX5_night_38 : decode cX5_night 38 = .ok (.getfield 25, 3) := dk_180 0 25 (dk_at dksX5_night_1 15 rfl rfl)
theorem dX5_night_41 : decode cX5_night 41 = .ok (.aload_n 0, 1) := dk_42 (dk_at dksX5_night_1 18 rfl rfl)
theorem dX5_night_42 : decode cX5_night 42 = .ok (.aload_n 0, 1) := dk_42 (dk_at dksX5_night_1 19 rfl rfl)
theorem dX5_night_43 : decode cX5_night 43 = .ok (.getfield 40, 3) := dk_180 0 40 (dk_at dksX5_night_1 20 rfl rfl)
theorem dX5_night_46 : decode cX5_night 46 = .ok (.iload_n 2, 1) := dk_28 (dk_at dksX5_night_1 23 rfl rfl)
theorem dX5_night_47 : decode cX5_night 47 = .ok (.invokevirtual 82, 3) := dk_182 0 82 (dk_at dksX5_night_2 0 rfl rfl)
theorem dX5_night_50 : decode cX5_night 50 = .ok (.dup2, 1) := dk_92 (dk_at dksX5_night_2 3 rfl rfl)
theorem dX5_night_51 : decode cX5_night 51 = .ok (.iaload, 1) := dk_46 (dk_at dksX5_night_2 4 rfl rfl)
theorem dX5_night_52 : decode cX5_night 52 = .ok (.iload_n 1, 1) := dk_27 (dk_at dksX5_night_2 5 rfl rfl)
theorem dX5_night_53 : decode cX5_night 53 = .ok (.iload_n 2, 1) := dk_28 (dk_at dksX5_night_2 6 rfl rfl)
theorem dX5_night_54 : decode cX5_night 54 = .ok (.ishr, 1) := dk_122 (dk_at dksX5_night_2 7 rfl rfl)
theorem dX5_night_55 : decode cX5_night 55 = .ok (.iconst 1, 1) := dk_4 (dk_at dksX5_night_2 8 rfl rfl)
theorem dX5_night_56 : decode cX5_night 56 = .ok (.iand, 1) := dk_126 (dk_at dksX5_night_2 9 rfl rfl)
theorem dX5_night_57 : decode cX5_night 57 = .ok (.iconst 1, 1) := dk_4 (dk_at dksX5_night_2 10 rfl rfl)
theorem dX5_night_58 : decode cX5_night 58 = .ok (.if_icmp .ne 7, 3) := dk_160 0 7 (dk_at dksX5_night_2 11 rfl rfl)
theorem dX5_night_61 : decode cX5_night 61 = .ok (.iconst 2, 1) := dk_5 (dk_at dksX5_night_2 14 rfl rfl)
theorem dX5_night_62 : decode cX5_night 62 = .ok (.goto 4, 3) := dk_167 0 4 (dk_at dksX5_night_2 15 rfl rfl)
theorem dX5_night_65 : decode cX5_night 65 = .ok (.iconst 1, 1) := dk_4 (dk_at dksX5_night_2 18 rfl rfl)
theorem dX5_night_66 : decode cX5_night 66 = .ok (.ior, 1) := dk_128 (dk_at dksX5_night_2 19 rfl rfl)
theorem dX5_night_67 : decode cX5_night 67 = .ok (.iastore, 1) := dk_79 (dk_at dksX5_night_2 20 rfl rfl)
theorem dX5_night_68 : decode cX5_night 68 = .ok (.iinc 2 1, 3) := dk_132 2 1 (dk_at dksX5_night_2 21 rfl rfl)
theorem dX5_night_71 : decode cX5_night 71 = .ok (.goto (-60), 3) := dk_167 255 196 (dk_at dksX5_night_3 0 rfl rfl)
theorem dX5_night_74 : decode cX5_night 74 = .ok (.aload_n 0, 1) := dk_42 (dk_at dksX5_night_3 3 rfl rfl)
theorem dX5_night_75 : decode cX5_night 75 = .ok (.dup, 1) := dk_89 (dk_at dksX5_night_3 4 rfl rfl)
theorem dX5_night_76 : decode cX5_night 76 = .ok (.getfield 49, 3) := dk_180 0 49 (dk_at dksX5_night_3 5 rfl rfl)
theorem dX5_night_79 : decode cX5_night 79 = .ok (.aload_n 0, 1) := dk_42 (dk_at dksX5_night_3 8 rfl rfl)
theorem dX5_night_80 : decode cX5_night 80 = .ok (.getfield 40, 3) := dk_180 0 40 (dk_at dksX5_night_3 9 rfl rfl)
theorem dX5_night_83 : decode cX5_night 83 = .ok (.invokestatic 65, 3) := dk_184 0 65 (dk_at dksX5_night_3 12 rfl rfl)
theorem dX5_night_86 : decode cX5_night 86 = .ok (.iadd, 1) := dk_96 (dk_at dksX5_night_3 15 rfl rfl)
theorem dX5_night_87 : decode cX5_night 87 = .ok (.putfield 49, 3) := dk_181 0 49 (dk_at dksX5_night_3 16 rfl rfl)
theorem dX5_night_90 : decode cX5_night 90 = .ok (.aload_n 0, 1) := dk_42 (dk_at dksX5_night_3 19 rfl rfl)
theorem dX5_night_91 : decode cX5_night 91 = .ok (.dup, 1) := dk_89 (dk_at dksX5_night_3 20 rfl rfl)
theorem dX5_night_92 : decode cX5_night 92 = .ok (.getfield 46, 3) := dk_180 0 46 (dk_at dksX5_night_3 21 rfl rfl)
theorem dX5_night_95 : decode cX5_night 95 = .ok (.iconst 1, 1) := dk_4 (dk_at dksX5_night_4 0 rfl rfl)
theorem dX5_night_96 : decode cX5_night 96 = .ok (.iadd, 1) := dk_96 (dk_at dksX5_night_4 1 rfl rfl)
theorem dX5_night_97 : decode cX5_night 97 = .ok (.putfield 46, 3) := dk_181 0 46 (dk_at dksX5_night_4 2 rfl rfl)
theorem dX5_night_100 : decode cX5_night 100 = .ok (.aload_n 0, 1) := dk_42 (dk_at dksX5_night_4 5 rfl rfl)
theorem dX5_night_101 : decode cX5_night 101 = .ok (.iload_n 1, 1) := dk_27 (dk_at dksX5_night_4 6 rfl rfl)
theorem dX5_night_102 : decode cX5_night 102 = .ok (.putfield 40, 3) := dk_181 0 40 (dk_at dksX5_night_4 7 rfl rfl)
theorem dX5_night_105 : decode cX5_night 105 = .ok (.return_, 1) := dk_177 (dk_at dksX5_night_4 10 rfl rfl)
abbrev cX5_next : ByteArray := prog_5_method_6_code
def yX5_next : MethodName := ⟨RX5, "next", "(I)I"⟩
def dkwX5_next_0 : List UInt8 := [42, 42, 180, 0, 28, 27, 182, 0, 75, 172]
abbrev dktX5_next_0 : List UInt8 := dkwX5_next_0 ++ []
theorem dksX5_next_0 : cX5_next.data.toList.drop 0 = dktX5_next_0 := by decide +kernel
theorem dX5_next_0 : decode cX5_next 0 = .ok (.aload_n 0, 1) := dk_42 (dk_at dksX5_next_0 0 rfl rfl)
theorem dX5_next_1 : decode cX5_next 1 = .ok (.aload_n 0, 1) := dk_42 (dk_at dksX5_next_0 1 rfl rfl)
theorem dX5_next_2 : decode cX5_next 2 = .ok (.getfield 28, 3) := dk_180 0 28 (dk_at dksX5_next_0 2 rfl rfl)
theorem dX5_next_5 : decode cX5_next 5 = .ok (.iload_n 1, 1) := dk_27 (dk_at dksX5_next_0 5 rfl rfl)
theorem dX5_next_6 : decode cX5_next 6 = .ok (.invokevirtual 75, 3) := dk_182 0 75 (dk_at dksX5_next_0 6 rfl rfl)
theorem dX5_next_9 : decode cX5_next 9 = .ok (.ireturn, 1) := dk_172 (dk_at dksX5_next_0 9 rfl rfl)
abbrev cX5_nextBy : ByteArray := prog_5_method_5_code
def yX5_nextBy : MethodName := ⟨RX5, "nextBy", "(II)I"⟩
def dkwX5_nextBy_4 : List UInt8 := [29, 172]
abbrev dktX5_nextBy_4 : List UInt8 := dkwX5_nextBy_4 ++ []
def dkwX5_nextBy_3 : List UInt8 := [46, 126, 184, 0, 65, 182, 0, 71, 153, 0, 10, 29, 4, 21, 5, 120, 128, 62, 132, 5, 1, 167, 255, 185]
abbrev dktX5_nextBy_3 : List UInt8 := dkwX5_nextBy_3 ++ dktX5_nextBy_4
def dkwX5_nextBy_2 : List UInt8 := [21, 5, 122, 4, 126, 4, 160, 0, 7, 4, 167, 0, 4, 3, 28, 42, 180, 0, 12, 180, 0, 62, 21, 5]
abbrev dktX5_nextBy_2 : List UInt8 := dkwX5_nextBy_2 ++ dktX5_nextBy_3
def dkwX5_nextBy_1 : List UInt8 := [180, 0, 12, 182, 0, 59, 162, 0, 65, 21, 4, 21, 5, 122, 4, 126, 4, 160, 0, 48, 42, 27, 28]
abbrev dktX5_nextBy_1 : List UInt8 := dkwX5_nextBy_1 ++ dktX5_nextBy_2
def dkwX5_nextBy_0 : List UInt8 := [42, 180, 0, 12, 180, 0, 52, 62, 42, 180, 0, 12, 182, 0, 55, 54, 4, 3, 54, 5, 21, 5, 42]
abbrev dktX5_nextBy_0 : List UInt8 := dkwX5_nextBy_0 ++ dktX5_nextBy_1
theorem dksX5_nextBy_0 : cX5_nextBy.data.toList.drop 0 = dktX5_nextBy_0 := by decide +kernel
theorem dksX5_nextBy_1 : cX5_nextBy.data.toList.drop 23 = dktX5_nextBy_1 := dk_seg dksX5_nextBy_0 23 rfl rfl
theorem dksX5_nextBy_2 : cX5_nextBy.data.toList.drop 46 = dktX5_nextBy_2 := dk_seg dksX5_nextBy_1 23 rfl rfl
theorem dksX5_nextBy_3 : cX5_nextBy.data.toList.drop 70 = dktX5_nextBy_3 := dk_seg dksX5_nextBy_2 24 rfl rfl
theorem dksX5_nextBy_4 : cX5_nextBy.data.toList.drop 94 = dktX5_nextBy_4 := dk_seg dksX5_nextBy_3 24 rfl rfl
theorem dX5_nextBy_0 : decode cX5_nextBy 0 = .ok (.aload_n 0, 1) := dk_42 (dk_at dksX5_nextBy_0 0 rfl rfl)
theorem dX5_nextBy_1 : decode cX5_nextBy 1 = .ok (.getfield 12, 3) := dk_180 0 12 (dk_at dksX5_nextBy_0 1 rfl rfl)
theorem dX5_nextBy_4 : decode cX5_nextBy 4 = .ok (.getfield 52, 3) := dk_180 0 52 (dk_at dksX5_nextBy_0 4 rfl rfl)
theorem dX5_nextBy_7 : decode cX5_nextBy 7 = .ok (.istore_n 3, 1) := dk_62 (dk_at dksX5_nextBy_0 7 rfl rfl)
theorem dX5_nextBy_8 : decode cX5_nextBy 8 = .ok (.aload_n 0, 1) := dk_42 (dk_at dksX5_nextBy_0 8 rfl rfl)
theorem dX5_nextBy_9 : decode cX5_nextBy 9 = .ok (.getfield 12, 3) := dk_180 0 12 (dk_at dksX5_nextBy_0 9 rfl rfl)
theorem dX5_nextBy_12 : decode cX5_nextBy 12 = .ok (.invokevirtual 55, 3) := dk_182 0 55 (dk_at dksX5_nextBy_0 12 rfl rfl)
theorem dX5_nextBy_15 : decode cX5_nextBy 15 = .ok (.istore 4, 2) := dk_54 4 (dk_at dksX5_nextBy_0 15 rfl rfl)
theorem dX5_nextBy_17 : decode cX5_nextBy 17 = .ok (.iconst 0, 1) := dk_3 (dk_at dksX5_nextBy_0 17 rfl rfl)
theorem dX5_nextBy_18 : decode cX5_nextBy 18 = .ok (.istore 5, 2) := dk_54 5 (dk_at dksX5_nextBy_0 18 rfl rfl)
theorem dX5_nextBy_20 : decode cX5_nextBy 20 = .ok (.iload 5, 2) := dk_21 5 (dk_at dksX5_nextBy_0 20 rfl rfl)
theorem dX5_nextBy_22 : decode cX5_nextBy 22 = .ok (.aload_n 0, 1) := dk_42 (dk_at dksX5_nextBy_0 22 rfl rfl)
theorem dX5_nextBy_23 : decode cX5_nextBy 23 = .ok (.getfield 12, 3) := dk_180 0 12 (dk_at dksX5_nextBy_1 0 rfl rfl)
theorem dX5_nextBy_26 : decode cX5_nextBy 26 = .ok (.invokevirtual 59, 3) := dk_182 0 59 (dk_at dksX5_nextBy_1 3 rfl rfl)
theorem dX5_nextBy_29 : decode cX5_nextBy 29 = .ok (.if_icmp .ge 65, 3) := dk_162 0 65 (dk_at dksX5_nextBy_1 6 rfl rfl)
theorem dX5_nextBy_32 : decode cX5_nextBy 32 = .ok (.iload 4, 2) := dk_21 4 (dk_at dksX5_nextBy_1 9 rfl rfl)
theorem dX5_nextBy_34 : decode cX5_nextBy 34 = .ok (.iload 5, 2) := dk_21 5 (dk_at dksX5_nextBy_1 11 rfl rfl)
theorem dX5_nextBy_36 : decode cX5_nextBy 36 = .ok (.ishr, 1) := dk_122 (dk_at dksX5_nextBy_1 13 rfl rfl)
theorem dX5_nextBy_37 : decode cX5_nextBy 37 = .ok (.iconst 1, 1) := dk_4 (dk_at dksX5_nextBy_1 14 rfl rfl)
theorem dX5_nextBy_38 : decode cX5_nextBy 38 = .ok (.iand, 1) := dk_126 (dk_at dksX5_nextBy_1 15 rfl rfl)
theorem dX5_nextBy_39 : decode cX5_nextBy 39 = .ok (.iconst 1, 1) := dk_4 (dk_at dksX5_nextBy_1 16 rfl rfl)
theorem dX5_nextBy_40 : decode cX5_nextBy 40 = .ok (.if_icmp .ne 48, 3) := dk_160 0 48 (dk_at dksX5_nextBy_1 17 rfl rfl)
theorem dX5_nextBy_43 : decode cX5_nextBy 43 = .ok (.aload_n 0, 1) := dk_42 (dk_at dksX5_nextBy_1 20 rfl rfl)
theorem dX5_nextBy_44 : decode cX5_nextBy 44 = .ok (.iload_n 1, 1) := dk_27 (dk_at dksX5_nextBy_1 21 rfl rfl)
theorem dX5_nextBy_45 : decode cX5_nextBy 45 = .ok (.iload_n 2, 1) := dk_28 (dk_at dksX5_nextBy_1 22 rfl rfl)
theorem dX5_nextBy_46 : decode cX5_nextBy 46 = .ok (.iload 5, 2) := dk_21 5 (dk_at dksX5_nextBy_2 0 rfl rfl)
theorem dX5_nextBy_48 : decode cX5_nextBy 48 = .ok (.ishr, 1) := dk_122 (dk_at dksX5_nextBy_2 2 rfl rfl)
theorem dX5_nextBy_49 : decode cX5_nextBy 49 = .ok (.iconst 1, 1) := dk_4 (dk_at dksX5_nextBy_2 3 rfl rfl)
theorem dX5_nextBy_50 : decode cX5_nextBy 50 = .ok (.iand, 1) := dk_126 (dk_at dksX5_nextBy_2 4 rfl rfl)
theorem dX5_nextBy_51 : decode cX5_nextBy 51 = .ok (.iconst 1, 1) := dk_4 (dk_at dksX5_nextBy_2 5 rfl rfl)
theorem dX5_nextBy_52 : decode cX5_nextBy 52 = .ok (.if_icmp .ne 7, 3) := dk_160 0 7 (dk_at dksX5_nextBy_2 6 rfl rfl)
theorem dX5_nextBy_55 : decode cX5_nextBy 55 = .ok (.iconst 1, 1) := dk_4 (dk_at dksX5_nextBy_2 9 rfl rfl)
theorem dX5_nextBy_56 : decode cX5_nextBy 56 = .ok (.goto 4, 3) := dk_167 0 4 (dk_at dksX5_nextBy_2 10 rfl rfl)
theorem dX5_nextBy_59 : decode cX5_nextBy 59 = .ok (.iconst 0, 1) := dk_3 (dk_at dksX5_nextBy_2 13 rfl rfl)
theorem dX5_nextBy_60 : decode cX5_nextBy 60 = .ok (.iload_n 2, 1) := dk_28 (dk_at dksX5_nextBy_2 14 rfl rfl)
theorem dX5_nextBy_61 : decode cX5_nextBy 61 = .ok (.aload_n 0, 1) := dk_42 (dk_at dksX5_nextBy_2 15 rfl rfl)
theorem dX5_nextBy_62 : decode cX5_nextBy 62 = .ok (.getfield 12, 3) := dk_180 0 12 (dk_at dksX5_nextBy_2 16 rfl rfl)
theorem dX5_nextBy_65 : decode cX5_nextBy 65 = .ok (.getfield 62, 3) := dk_180 0 62 (dk_at dksX5_nextBy_2 19 rfl rfl)
theorem dX5_nextBy_68 : decode cX5_nextBy 68 = .ok (.iload 5, 2) := dk_21 5 (dk_at dksX5_nextBy_2 22 rfl rfl)
theorem dX5_nextBy_70 : decode cX5_nextBy 70 = .ok (.iaload, 1) := dk_46 (dk_at dksX5_nextBy_3 0 rfl rfl)
theorem dX5_nextBy_71 : decode cX5_nextBy 71 = .ok (.iand, 1) := dk_126 (dk_at dksX5_nextBy_3 1 rfl rfl)
theorem dX5_nextBy_72 : decode cX5_nextBy 72 = .ok (.invokestatic 65, 3) := dk_184 0 65 (dk_at dksX5_nextBy_3 2 rfl rfl)
theorem dX5_nextBy_75 : decode cX5_nextBy 75 = .ok (.invokevirtual 71, 3) := dk_182 0 71 (dk_at dksX5_nextBy_3 5 rfl rfl)
theorem dX5_nextBy_78 : decode cX5_nextBy 78 = .ok (.ifCond .eq 10, 3) := dk_153 0 10 (dk_at dksX5_nextBy_3 8 rfl rfl)
theorem dX5_nextBy_81 : decode cX5_nextBy 81 = .ok (.iload_n 3, 1) := dk_29 (dk_at dksX5_nextBy_3 11 rfl rfl)
theorem dX5_nextBy_82 : decode cX5_nextBy 82 = .ok (.iconst 1, 1) := dk_4 (dk_at dksX5_nextBy_3 12 rfl rfl)
theorem dX5_nextBy_83 : decode cX5_nextBy 83 = .ok (.iload 5, 2) := dk_21 5 (dk_at dksX5_nextBy_3 13 rfl rfl)
theorem dX5_nextBy_85 : decode cX5_nextBy 85 = .ok (.ishl, 1) := dk_120 (dk_at dksX5_nextBy_3 15 rfl rfl)
theorem dX5_nextBy_86 : decode cX5_nextBy 86 = .ok (.ior, 1) := dk_128 (dk_at dksX5_nextBy_3 16 rfl rfl)
theorem dX5_nextBy_87 : decode cX5_nextBy 87 = .ok (.istore_n 3, 1) := dk_62 (dk_at dksX5_nextBy_3 17 rfl rfl)
theorem dX5_nextBy_88 : decode cX5_nextBy 88 = .ok (.iinc 5 1, 3) := dk_132 5 1 (dk_at dksX5_nextBy_3 18 rfl rfl)
theorem dX5_nextBy_91 : decode cX5_nextBy 91 = .ok (.goto (-71), 3) := dk_167 255 185 (dk_at dksX5_nextBy_3 21 rfl rfl)
theorem dX5_nextBy_94 : decode cX5_nextBy 94 = .ok (.iload_n 3, 1) := dk_29 (dk_at dksX5_nextBy_4 0 rfl rfl)
theorem dX5_nextBy_95 : decode cX5_nextBy 95 = .ok (.ireturn, 1) := dk_172 (dk_at dksX5_nextBy_4 1 rfl rfl)
abbrev cX5_becomes : ByteArray := prog_5_method_4_code
def yX5_becomes : MethodName := ⟨RX5, "becomes", "(IZI)Z"⟩
def dkwX5_becomes_1 : List UInt8 := [122, 4, 126, 4, 160, 0, 7, 4, 167, 0, 4, 3, 172]
abbrev dktX5_becomes_1 : List UInt8 := dkwX5_becomes_1 ++ []
def dkwX5_becomes_0 : List UInt8 := [27, 155, 0, 34, 28, 153, 0, 12, 42, 180, 0, 22, 27, 46, 167, 0, 9, 42, 180, 0, 18, 27, 46, 29]
abbrev dktX5_becomes_0 : List UInt8 := dkwX5_becomes_0 ++ dktX5_becomes_1
theorem dksX5_becomes_0 : cX5_becomes.data.toList.drop 0 = dktX5_becomes_0 := by decide +kernel
theorem dksX5_becomes_1 : cX5_becomes.data.toList.drop 24 = dktX5_becomes_1 := dk_seg dksX5_becomes_0 24 rfl rfl
theorem dX5_becomes_0 : decode cX5_becomes 0 = .ok (.iload_n 1, 1) := dk_27 (dk_at dksX5_becomes_0 0 rfl rfl)
theorem dX5_becomes_1 : decode cX5_becomes 1 = .ok (.ifCond .lt 34, 3) := dk_155 0 34 (dk_at dksX5_becomes_0 1 rfl rfl)
theorem dX5_becomes_4 : decode cX5_becomes 4 = .ok (.iload_n 2, 1) := dk_28 (dk_at dksX5_becomes_0 4 rfl rfl)
theorem dX5_becomes_5 : decode cX5_becomes 5 = .ok (.ifCond .eq 12, 3) := dk_153 0 12 (dk_at dksX5_becomes_0 5 rfl rfl)
theorem dX5_becomes_8 : decode cX5_becomes 8 = .ok (.aload_n 0, 1) := dk_42 (dk_at dksX5_becomes_0 8 rfl rfl)
theorem dX5_becomes_9 : decode cX5_becomes 9 = .ok (.getfield 22, 3) := dk_180 0 22 (dk_at dksX5_becomes_0 9 rfl rfl)
theorem dX5_becomes_12 : decode cX5_becomes 12 = .ok (.iload_n 1, 1) := dk_27 (dk_at dksX5_becomes_0 12 rfl rfl)
theorem dX5_becomes_13 : decode cX5_becomes 13 = .ok (.iaload, 1) := dk_46 (dk_at dksX5_becomes_0 13 rfl rfl)
theorem dX5_becomes_14 : decode cX5_becomes 14 = .ok (.goto 9, 3) := dk_167 0 9 (dk_at dksX5_becomes_0 14 rfl rfl)
theorem dX5_becomes_17 : decode cX5_becomes 17 = .ok (.aload_n 0, 1) := dk_42 (dk_at dksX5_becomes_0 17 rfl rfl)
theorem dX5_becomes_18 : decode cX5_becomes 18 = .ok (.getfield 18, 3) := dk_180 0 18 (dk_at dksX5_becomes_0 18 rfl rfl)
theorem dX5_becomes_21 : decode cX5_becomes 21 = .ok (.iload_n 1, 1) := dk_27 (dk_at dksX5_becomes_0 21 rfl rfl)
theorem dX5_becomes_22 : decode cX5_becomes 22 = .ok (.iaload, 1) := dk_46 (dk_at dksX5_becomes_0 22 rfl rfl)
theorem dX5_becomes_23 : decode cX5_becomes 23 = .ok (.iload_n 3, 1) := dk_29 (dk_at dksX5_becomes_0 23 rfl rfl)
theorem dX5_becomes_24 : decode cX5_becomes 24 = .ok (.ishr, 1) := dk_122 (dk_at dksX5_becomes_1 0 rfl rfl)
theorem dX5_becomes_25 : decode cX5_becomes 25 = .ok (.iconst 1, 1) := dk_4 (dk_at dksX5_becomes_1 1 rfl rfl)
theorem dX5_becomes_26 : decode cX5_becomes 26 = .ok (.iand, 1) := dk_126 (dk_at dksX5_becomes_1 2 rfl rfl)
theorem dX5_becomes_27 : decode cX5_becomes 27 = .ok (.iconst 1, 1) := dk_4 (dk_at dksX5_becomes_1 3 rfl rfl)
theorem dX5_becomes_28 : decode cX5_becomes 28 = .ok (.if_icmp .ne 7, 3) := dk_160 0 7 (dk_at dksX5_becomes_1 4 rfl rfl)
theorem dX5_becomes_31 : decode cX5_becomes 31 = .ok (.iconst 1, 1) := dk_4 (dk_at dksX5_becomes_1 7 rfl rfl)
theorem dX5_becomes_32 : decode cX5_becomes 32 = .ok (.goto 4, 3) := dk_167 0 4 (dk_at dksX5_becomes_1 8 rfl rfl)
theorem dX5_becomes_35 : decode cX5_becomes 35 = .ok (.iconst 0, 1) := dk_3 (dk_at dksX5_becomes_1 11 rfl rfl)
theorem dX5_becomes_36 : decode cX5_becomes 36 = .ok (.ireturn, 1) := dk_172 (dk_at dksX5_becomes_1 12 rfl rfl)
abbrev cX5_sight : ByteArray := prog_5_method_8_code
def yX5_sight : MethodName := ⟨RX5, "sight", "(II)I"⟩
def dkwX5_sight_0 : List UInt8 := [8, 27, 28, 122, 4, 126, 104, 27, 42, 180, 0, 12, 180, 0, 62, 28, 46, 126, 184, 0, 65, 96, 172]
abbrev dktX5_sight_0 : List UInt8 := dkwX5_sight_0 ++ []
theorem dksX5_sight_0 : cX5_sight.data.toList.drop 0 = dktX5_sight_0 := by decide +kernel
theorem dX5_sight_0 : decode cX5_sight 0 = .ok (.iconst 5, 1) := dk_8 (dk_at dksX5_sight_0 0 rfl rfl)
theorem dX5_sight_1 : decode cX5_sight 1 = .ok (.iload_n 1, 1) := dk_27 (dk_at dksX5_sight_0 1 rfl rfl)
theorem dX5_sight_2 : decode cX5_sight 2 = .ok (.iload_n 2, 1) := dk_28 (dk_at dksX5_sight_0 2 rfl rfl)
theorem dX5_sight_3 : decode cX5_sight 3 = .ok (.ishr, 1) := dk_122 (dk_at dksX5_sight_0 3 rfl rfl)
theorem dX5_sight_4 : decode cX5_sight 4 = .ok (.iconst 1, 1) := dk_4 (dk_at dksX5_sight_0 4 rfl rfl)
theorem dX5_sight_5 : decode cX5_sight 5 = .ok (.iand, 1) := dk_126 (dk_at dksX5_sight_0 5 rfl rfl)
theorem dX5_sight_6 : decode cX5_sight 6 = .ok (.imul, 1) := dk_104 (dk_at dksX5_sight_0 6 rfl rfl)
theorem dX5_sight_7 : decode cX5_sight 7 = .ok (.iload_n 1, 1) := dk_27 (dk_at dksX5_sight_0 7 rfl rfl)
theorem dX5_sight_8 : decode cX5_sight 8 = .ok (.aload_n 0, 1) := dk_42 (dk_at dksX5_sight_0 8 rfl rfl)
theorem dX5_sight_9 : decode cX5_sight 9 = .ok (.getfield 12, 3) := dk_180 0 12 (dk_at dksX5_sight_0 9 rfl rfl)
theorem dX5_sight_12 : decode cX5_sight 12 = .ok (.getfield 62, 3) := dk_180 0 62 (dk_at dksX5_sight_0 12 rfl rfl)
theorem dX5_sight_15 : decode cX5_sight 15 = .ok (.iload_n 2, 1) := dk_28 (dk_at dksX5_sight_0 15 rfl rfl)
theorem dX5_sight_16 : decode cX5_sight 16 = .ok (.iaload, 1) := dk_46 (dk_at dksX5_sight_0 16 rfl rfl)
theorem dX5_sight_17 : decode cX5_sight 17 = .ok (.iand, 1) := dk_126 (dk_at dksX5_sight_0 17 rfl rfl)
theorem dX5_sight_18 : decode cX5_sight 18 = .ok (.invokestatic 65, 3) := dk_184 0 65 (dk_at dksX5_sight_0 18 rfl rfl)
theorem dX5_sight_21 : decode cX5_sight 21 = .ok (.iadd, 1) := dk_96 (dk_at dksX5_sight_0 21 rfl rfl)
theorem dX5_sight_22 : decode cX5_sight 22 = .ok (.ireturn, 1) := dk_172 (dk_at dksX5_sight_0 22 rfl rfl)
abbrev cX5_after : ByteArray := prog_5_method_7_code
def yX5_after : MethodName := ⟨RX5, "after", "(II)I"⟩
def dkwX5_after_1 : List UInt8 := [172]
abbrev dktX5_after_1 : List UInt8 := dkwX5_after_1 ++ []
def dkwX5_after_0 : List UInt8 := [27, 62, 3, 54, 4, 21, 4, 28, 162, 0, 15, 42, 29, 182, 0, 79, 62, 132, 4, 1, 167, 255, 241, 29]
abbrev dktX5_after_0 : List UInt8 := dkwX5_after_0 ++ dktX5_after_1
theorem dksX5_after_0 : cX5_after.data.toList.drop 0 = dktX5_after_0 := by decide +kernel
theorem dksX5_after_1 : cX5_after.data.toList.drop 24 = dktX5_after_1 := dk_seg dksX5_after_0 24 rfl rfl
theorem dX5_after_0 : decode cX5_after 0 = .ok (.iload_n 1, 1) := dk_27 (dk_at dksX5_after_0 0 rfl rfl)
theorem dX5_after_1 : decode cX5_after 1 = .ok (.istore_n 3, 1) := dk_62 (dk_at dksX5_after_0 1 rfl rfl)
theorem dX5_after_2 : decode cX5_after 2 = .ok (.iconst 0, 1) := dk_3 (dk_at dksX5_after_0 2 rfl rfl)
theorem dX5_after_3 : decode cX5_after 3 = .ok (.istore 4, 2) := dk_54 4 (dk_at dksX5_after_0 3 rfl rfl)
theorem dX5_after_5 : decode cX5_after 5 = .ok (.iload 4, 2) := dk_21 4 (dk_at dksX5_after_0 5 rfl rfl)
theorem dX5_after_7 : decode cX5_after 7 = .ok (.iload_n 2, 1) := dk_28 (dk_at dksX5_after_0 7 rfl rfl)
theorem dX5_after_8 : decode cX5_after 8 = .ok (.if_icmp .ge 15, 3) := dk_162 0 15 (dk_at dksX5_after_0 8 rfl rfl)
theorem dX5_after_11 : decode cX5_after 11 = .ok (.aload_n 0, 1) := dk_42 (dk_at dksX5_after_0 11 rfl rfl)
theorem dX5_after_12 : decode cX5_after 12 = .ok (.iload_n 3, 1) := dk_29 (dk_at dksX5_after_0 12 rfl rfl)
theorem dX5_after_13 : decode cX5_after 13 = .ok (.invokevirtual 79, 3) := dk_182 0 79 (dk_at dksX5_after_0 13 rfl rfl)
theorem dX5_after_16 : decode cX5_after 16 = .ok (.istore_n 3, 1) := dk_62 (dk_at dksX5_after_0 16 rfl rfl)
theorem dX5_after_17 : decode cX5_after 17 = .ok (.iinc 4 1, 3) := dk_132 4 1 (dk_at dksX5_after_0 17 rfl rfl)
theorem dX5_after_20 : decode cX5_after 20 = .ok (.goto (-15), 3) := dk_167 255 241 (dk_at dksX5_after_0 20 rfl rfl)
theorem dX5_after_23 : decode cX5_after 23 = .ok (.iload_n 3, 1) := dk_29 (dk_at dksX5_after_0 23 rfl rfl)
theorem dX5_after_24 : decode cX5_after 24 = .ok (.ireturn, 1) := dk_172 (dk_at dksX5_after_1 0 rfl rfl)
abbrev cX5_vote : ByteArray := prog_5_method_12_code
def yX5_vote : MethodName := ⟨RX5, "vote", "(I)I"⟩
def dkwX5_vote_2 : List UInt8 := [161, 0, 6, 167, 0, 9, 21, 4, 61, 21, 5, 62, 132, 4, 1, 167, 255, 202, 28, 172]
abbrev dktX5_vote_2 : List UInt8 := dkwX5_vote_2 ++ []
def dkwX5_vote_1 : List UInt8 := [42, 180, 0, 40, 182, 0, 75, 184, 0, 65, 182, 0, 96, 54, 5, 28, 155, 0, 12, 21, 5, 29]
abbrev dktX5_vote_1 : List UInt8 := dkwX5_vote_1 ++ dktX5_vote_2
def dkwX5_vote_0 : List UInt8 := [2, 61, 3, 62, 3, 54, 4, 21, 4, 42, 180, 0, 12, 180, 0, 43, 162, 0, 48, 42, 27, 42, 21, 4]
abbrev dktX5_vote_0 : List UInt8 := dkwX5_vote_0 ++ dktX5_vote_1
theorem dksX5_vote_0 : cX5_vote.data.toList.drop 0 = dktX5_vote_0 := by decide +kernel
theorem dksX5_vote_1 : cX5_vote.data.toList.drop 24 = dktX5_vote_1 := dk_seg dksX5_vote_0 24 rfl rfl
theorem dksX5_vote_2 : cX5_vote.data.toList.drop 46 = dktX5_vote_2 := dk_seg dksX5_vote_1 22 rfl rfl
theorem dX5_vote_0 : decode cX5_vote 0 = .ok (.iconst (-1), 1) := dk_2 (dk_at dksX5_vote_0 0 rfl rfl)
theorem dX5_vote_1 : decode cX5_vote 1 = .ok (.istore_n 2, 1) := dk_61 (dk_at dksX5_vote_0 1 rfl rfl)
theorem dX5_vote_2 : decode cX5_vote 2 = .ok (.iconst 0, 1) := dk_3 (dk_at dksX5_vote_0 2 rfl rfl)
theorem dX5_vote_3 : decode cX5_vote 3 = .ok (.istore_n 3, 1) := dk_62 (dk_at dksX5_vote_0 3 rfl rfl)
theorem dX5_vote_4 : decode cX5_vote 4 = .ok (.iconst 0, 1) := dk_3 (dk_at dksX5_vote_0 4 rfl rfl)
theorem dX5_vote_5 : decode cX5_vote 5 = .ok (.istore 4, 2) := dk_54 4 (dk_at dksX5_vote_0 5 rfl rfl)
theorem dX5_vote_7 : decode cX5_vote 7 = .ok (.iload 4, 2) := dk_21 4 (dk_at dksX5_vote_0 7 rfl rfl)
theorem dX5_vote_9 : decode cX5_vote 9 = .ok (.aload_n 0, 1) := dk_42 (dk_at dksX5_vote_0 9 rfl rfl)
theorem dX5_vote_10 : decode cX5_vote 10 = .ok (.getfield 12, 3) := dk_180 0 12 (dk_at dksX5_vote_0 10 rfl rfl)
theorem dX5_vote_13 : decode cX5_vote 13 = .ok (.getfield 43, 3) := dk_180 0 43 (dk_at dksX5_vote_0 13 rfl rfl)
theorem dX5_vote_16 : decode cX5_vote 16 = .ok (.if_icmp .ge 48, 3) := dk_162 0 48 (dk_at dksX5_vote_0 16 rfl rfl)
theorem dX5_vote_19 : decode cX5_vote 19 = .ok (.aload_n 0, 1) := dk_42 (dk_at dksX5_vote_0 19 rfl rfl)
theorem dX5_vote_20 : decode cX5_vote 20 = .ok (.iload_n 1, 1) := dk_27 (dk_at dksX5_vote_0 20 rfl rfl)
theorem dX5_vote_21 : decode cX5_vote 21 = .ok (.aload_n 0, 1) := dk_42 (dk_at dksX5_vote_0 21 rfl rfl)
theorem dX5_vote_22 : decode cX5_vote 22 = .ok (.iload 4, 2) := dk_21 4 (dk_at dksX5_vote_0 22 rfl rfl)
theorem dX5_vote_24 : decode cX5_vote 24 = .ok (.aload_n 0, 1) := dk_42 (dk_at dksX5_vote_1 0 rfl rfl)
theorem dX5_vote_25 : decode cX5_vote 25 = .ok (.getfield 40, 3) := dk_180 0 40 (dk_at dksX5_vote_1 1 rfl rfl)
theorem dX5_vote_28 : decode cX5_vote 28 = .ok (.invokevirtual 75, 3) := dk_182 0 75 (dk_at dksX5_vote_1 4 rfl rfl)
theorem dX5_vote_31 : decode cX5_vote 31 = .ok (.invokestatic 65, 3) := dk_184 0 65 (dk_at dksX5_vote_1 7 rfl rfl)
theorem dX5_vote_34 : decode cX5_vote 34 = .ok (.invokevirtual 96, 3) := dk_182 0 96 (dk_at dksX5_vote_1 10 rfl rfl)
theorem dX5_vote_37 : decode cX5_vote 37 = .ok (.istore 5, 2) := dk_54 5 (dk_at dksX5_vote_1 13 rfl rfl)
theorem dX5_vote_39 : decode cX5_vote 39 = .ok (.iload_n 2, 1) := dk_28 (dk_at dksX5_vote_1 15 rfl rfl)
theorem dX5_vote_40 : decode cX5_vote 40 = .ok (.ifCond .lt 12, 3) := dk_155 0 12 (dk_at dksX5_vote_1 16 rfl rfl)
theorem dX5_vote_43 : decode cX5_vote 43 = .ok (.iload 5, 2) := dk_21 5 (dk_at dksX5_vote_1 19 rfl rfl)
theorem dX5_vote_45 : decode cX5_vote 45 = .ok (.iload_n 3, 1) := dk_29 (dk_at dksX5_vote_1 21 rfl rfl)
theorem dX5_vote_46 : decode cX5_vote 46 = .ok (.if_icmp .lt 6, 3) := dk_161 0 6 (dk_at dksX5_vote_2 0 rfl rfl)
theorem dX5_vote_49 : decode cX5_vote 49 = .ok (.goto 9, 3) := dk_167 0 9 (dk_at dksX5_vote_2 3 rfl rfl)
theorem dX5_vote_52 : decode cX5_vote 52 = .ok (.iload 4, 2) := dk_21 4 (dk_at dksX5_vote_2 6 rfl rfl)
theorem dX5_vote_54 : decode cX5_vote 54 = .ok (.istore_n 2, 1) := dk_61 (dk_at dksX5_vote_2 8 rfl rfl)
theorem dX5_vote_55 : decode cX5_vote 55 = .ok (.iload 5, 2) := dk_21 5 (dk_at dksX5_vote_2 9 rfl rfl)
theorem dX5_vote_57 : decode cX5_vote 57 = .ok (.istore_n 3, 1) := dk_62 (dk_at dksX5_vote_2 11 rfl rfl)
theorem dX5_vote_58 : decode cX5_vote 58 = .ok (.iinc 4 1, 3) := dk_132 4 1 (dk_at dksX5_vote_2 12 rfl rfl)
theorem dX5_vote_61 : decode cX5_vote 61 = .ok (.goto (-54), 3) := dk_167 255 202 (dk_at dksX5_vote_2 15 rfl rfl)
theorem dX5_vote_64 : decode cX5_vote 64 = .ok (.iload_n 2, 1) := dk_28 (dk_at dksX5_vote_2 18 rfl rfl)
theorem dX5_vote_65 : decode cX5_vote 65 = .ok (.ireturn, 1) := dk_172 (dk_at dksX5_vote_2 19 rfl rfl)
abbrev cX5_outside : ByteArray := prog_5_method_11_code
def yX5_outside : MethodName := ⟨RX5, "outside", "(II)I"⟩
def dkwX5_outside_1 : List UInt8 := [184, 0, 91, 184, 0, 91, 172]
abbrev dktX5_outside_1 : List UInt8 := dkwX5_outside_1 ++ []
def dkwX5_outside_0 : List UInt8 := [3, 42, 180, 0, 12, 180, 0, 85, 27, 46, 28, 100, 28, 42, 180, 0, 12, 180, 0, 88, 27, 46, 100]
abbrev dktX5_outside_0 : List UInt8 := dkwX5_outside_0 ++ dktX5_outside_1
theorem dksX5_outside_0 : cX5_outside.data.toList.drop 0 = dktX5_outside_0 := by decide +kernel
theorem dksX5_outside_1 : cX5_outside.data.toList.drop 23 = dktX5_outside_1 := dk_seg dksX5_outside_0 23 rfl rfl
theorem dX5_outside_0 : decode cX5_outside 0 = .ok (.iconst 0, 1) := dk_3 (dk_at dksX5_outside_0 0 rfl rfl)
theorem dX5_outside_1 : decode cX5_outside 1 = .ok (.aload_n 0, 1) := dk_42 (dk_at dksX5_outside_0 1 rfl rfl)
theorem dX5_outside_2 : decode cX5_outside 2 = .ok (.getfield 12, 3) := dk_180 0 12 (dk_at dksX5_outside_0 2 rfl rfl)
theorem dX5_outside_5 : decode cX5_outside 5 = .ok (.getfield 85, 3) := dk_180 0 85 (dk_at dksX5_outside_0 5 rfl rfl)
theorem dX5_outside_8 : decode cX5_outside 8 = .ok (.iload_n 1, 1) := dk_27 (dk_at dksX5_outside_0 8 rfl rfl)
theorem dX5_outside_9 : decode cX5_outside 9 = .ok (.iaload, 1) := dk_46 (dk_at dksX5_outside_0 9 rfl rfl)
theorem dX5_outside_10 : decode cX5_outside 10 = .ok (.iload_n 2, 1) := dk_28 (dk_at dksX5_outside_0 10 rfl rfl)
theorem dX5_outside_11 : decode cX5_outside 11 = .ok (.isub, 1) := dk_100 (dk_at dksX5_outside_0 11 rfl rfl)
theorem dX5_outside_12 : decode cX5_outside 12 = .ok (.iload_n 2, 1) := dk_28 (dk_at dksX5_outside_0 12 rfl rfl)
theorem dX5_outside_13 : decode cX5_outside 13 = .ok (.aload_n 0, 1) := dk_42 (dk_at dksX5_outside_0 13 rfl rfl)
theorem dX5_outside_14 : decode cX5_outside 14 = .ok (.getfield 12, 3) := dk_180 0 12 (dk_at dksX5_outside_0 14 rfl rfl)
theorem dX5_outside_17 : decode cX5_outside 17 = .ok (.getfield 88, 3) := dk_180 0 88 (dk_at dksX5_outside_0 17 rfl rfl)
theorem dX5_outside_20 : decode cX5_outside 20 = .ok (.iload_n 1, 1) := dk_27 (dk_at dksX5_outside_0 20 rfl rfl)
theorem dX5_outside_21 : decode cX5_outside 21 = .ok (.iaload, 1) := dk_46 (dk_at dksX5_outside_0 21 rfl rfl)
theorem dX5_outside_22 : decode cX5_outside 22 = .ok (.isub, 1) := dk_100 (dk_at dksX5_outside_0 22 rfl rfl)
theorem dX5_outside_23 : decode cX5_outside 23 = .ok (.invokestatic 91, 3) := dk_184 0 91 (dk_at dksX5_outside_1 0 rfl rfl)
theorem dX5_outside_26 : decode cX5_outside 26 = .ok (.invokestatic 91, 3) := dk_184 0 91 (dk_at dksX5_outside_1 3 rfl rfl)
theorem dX5_outside_29 : decode cX5_outside 29 = .ok (.ireturn, 1) := dk_172 (dk_at dksX5_outside_1 6 rfl rfl)
abbrev cX5_votes : ByteArray := prog_5_method_13_code
def yX5_votes : MethodName := ⟨RX5, "votes", "(I)I"⟩
def dkwX5_votes_1 : List UInt8 := [160, 0, 7, 4, 167, 0, 4, 3, 96, 61, 132, 3, 1, 167, 255, 225, 28, 172]
abbrev dktX5_votes_1 : List UInt8 := dkwX5_votes_1 ++ []
def dkwX5_votes_0 : List UInt8 := [3, 61, 3, 62, 29, 42, 180, 0, 12, 180, 0, 99, 162, 0, 26, 28, 42, 29, 182, 0, 102, 27]
abbrev dktX5_votes_0 : List UInt8 := dkwX5_votes_0 ++ dktX5_votes_1
theorem dksX5_votes_0 : cX5_votes.data.toList.drop 0 = dktX5_votes_0 := by decide +kernel
theorem dksX5_votes_1 : cX5_votes.data.toList.drop 22 = dktX5_votes_1 := dk_seg dksX5_votes_0 22 rfl rfl
theorem dX5_votes_0 : decode cX5_votes 0 = .ok (.iconst 0, 1) := dk_3 (dk_at dksX5_votes_0 0 rfl rfl)
theorem dX5_votes_1 : decode cX5_votes 1 = .ok (.istore_n 2, 1) := dk_61 (dk_at dksX5_votes_0 1 rfl rfl)
theorem dX5_votes_2 : decode cX5_votes 2 = .ok (.iconst 0, 1) := dk_3 (dk_at dksX5_votes_0 2 rfl rfl)
theorem dX5_votes_3 : decode cX5_votes 3 = .ok (.istore_n 3, 1) := dk_62 (dk_at dksX5_votes_0 3 rfl rfl)
theorem dX5_votes_4 : decode cX5_votes 4 = .ok (.iload_n 3, 1) := dk_29 (dk_at dksX5_votes_0 4 rfl rfl)
theorem dX5_votes_5 : decode cX5_votes 5 = .ok (.aload_n 0, 1) := dk_42 (dk_at dksX5_votes_0 5 rfl rfl)
theorem dX5_votes_6 : decode cX5_votes 6 = .ok (.getfield 12, 3) := dk_180 0 12 (dk_at dksX5_votes_0 6 rfl rfl)
theorem dX5_votes_9 : decode cX5_votes 9 = .ok (.getfield 99, 3) := dk_180 0 99 (dk_at dksX5_votes_0 9 rfl rfl)
theorem dX5_votes_12 : decode cX5_votes 12 = .ok (.if_icmp .ge 26, 3) := dk_162 0 26 (dk_at dksX5_votes_0 12 rfl rfl)
theorem dX5_votes_15 : decode cX5_votes 15 = .ok (.iload_n 2, 1) := dk_28 (dk_at dksX5_votes_0 15 rfl rfl)
theorem dX5_votes_16 : decode cX5_votes 16 = .ok (.aload_n 0, 1) := dk_42 (dk_at dksX5_votes_0 16 rfl rfl)
theorem dX5_votes_17 : decode cX5_votes 17 = .ok (.iload_n 3, 1) := dk_29 (dk_at dksX5_votes_0 17 rfl rfl)
theorem dX5_votes_18 : decode cX5_votes 18 = .ok (.invokevirtual 102, 3) := dk_182 0 102 (dk_at dksX5_votes_0 18 rfl rfl)
theorem dX5_votes_21 : decode cX5_votes 21 = .ok (.iload_n 1, 1) := dk_27 (dk_at dksX5_votes_0 21 rfl rfl)
theorem dX5_votes_22 : decode cX5_votes 22 = .ok (.if_icmp .ne 7, 3) := dk_160 0 7 (dk_at dksX5_votes_1 0 rfl rfl)
theorem dX5_votes_25 : decode cX5_votes 25 = .ok (.iconst 1, 1) := dk_4 (dk_at dksX5_votes_1 3 rfl rfl)
theorem dX5_votes_26 : decode cX5_votes 26 = .ok (.goto 4, 3) := dk_167 0 4 (dk_at dksX5_votes_1 4 rfl rfl)
theorem dX5_votes_29 : decode cX5_votes 29 = .ok (.iconst 0, 1) := dk_3 (dk_at dksX5_votes_1 7 rfl rfl)
theorem dX5_votes_30 : decode cX5_votes 30 = .ok (.iadd, 1) := dk_96 (dk_at dksX5_votes_1 8 rfl rfl)
theorem dX5_votes_31 : decode cX5_votes 31 = .ok (.istore_n 2, 1) := dk_61 (dk_at dksX5_votes_1 9 rfl rfl)
theorem dX5_votes_32 : decode cX5_votes 32 = .ok (.iinc 3 1, 3) := dk_132 3 1 (dk_at dksX5_votes_1 10 rfl rfl)
theorem dX5_votes_35 : decode cX5_votes 35 = .ok (.goto (-31), 3) := dk_167 255 225 (dk_at dksX5_votes_1 13 rfl rfl)
theorem dX5_votes_38 : decode cX5_votes 38 = .ok (.iload_n 2, 1) := dk_28 (dk_at dksX5_votes_1 16 rfl rfl)
theorem dX5_votes_39 : decode cX5_votes 39 = .ok (.ireturn, 1) := dk_172 (dk_at dksX5_votes_1 17 rfl rfl)
abbrev cX5_elects : ByteArray := prog_5_method_14_code
def yX5_elects : MethodName := ⟨RX5, "elects", "()Z"⟩
def dkwX5_elects_2 : List UInt8 := [164, 0, 5, 28, 60, 132, 2, 1, 167, 255, 227, 42, 27, 181, 0, 28, 4, 172]
abbrev dktX5_elects_2 : List UInt8 := dkwX5_elects_2 ++ []
def dkwX5_elects_1 : List UInt8 := [4, 61, 28, 42, 180, 0, 12, 180, 0, 43, 162, 0, 24, 42, 28, 182, 0, 105, 42, 27, 182, 0, 105]
abbrev dktX5_elects_1 : List UInt8 := dkwX5_elects_1 ++ dktX5_elects_2
def dkwX5_elects_0 : List UInt8 := [42, 180, 0, 12, 180, 0, 43, 153, 0, 13, 42, 180, 0, 12, 180, 0, 99, 154, 0, 5, 3, 172, 3, 60]
abbrev dktX5_elects_0 : List UInt8 := dkwX5_elects_0 ++ dktX5_elects_1
theorem dksX5_elects_0 : cX5_elects.data.toList.drop 0 = dktX5_elects_0 := by decide +kernel
theorem dksX5_elects_1 : cX5_elects.data.toList.drop 24 = dktX5_elects_1 := dk_seg dksX5_elects_0 24 rfl rfl
theorem dksX5_elects_2 : cX5_elects.data.toList.drop 47 = dktX5_elects_2 := dk_seg dksX5_elects_1 23 rfl rfl
theorem dX5_elects_0 : decode cX5_elects 0 = .ok (.aload_n 0, 1) := dk_42 (dk_at dksX5_elects_0 0 rfl rfl)
theorem dX5_elects_1 : decode cX5_elects 1 = .ok (.getfield 12, 3) := dk_180 0 12 (dk_at dksX5_elects_0 1 rfl rfl)
theorem dX5_elects_4 : decode cX5_elects 4 = .ok (.getfield 43, 3) := dk_180 0 43 (dk_at dksX5_elects_0 4 rfl rfl)
theorem dX5_elects_7 : decode cX5_elects 7 = .ok (.ifCond .eq 13, 3) := dk_153 0 13 (dk_at dksX5_elects_0 7 rfl rfl)
theorem dX5_elects_10 : decode cX5_elects 10 = .ok (.aload_n 0, 1) := dk_42 (dk_at dksX5_elects_0 10 rfl rfl)
theorem dX5_elects_11 : decode cX5_elects 11 = .ok (.getfield 12, 3) := dk_180 0 12 (dk_at dksX5_elects_0 11 rfl rfl)
theorem dX5_elects_14 : decode cX5_elects 14 = .ok (.getfield 99, 3) := dk_180 0 99 (dk_at dksX5_elects_0 14 rfl rfl)
theorem dX5_elects_17 : decode cX5_elects 17 = .ok (.ifCond .ne 5, 3) := dk_154 0 5 (dk_at dksX5_elects_0 17 rfl rfl)
theorem dX5_elects_20 : decode cX5_elects 20 = .ok (.iconst 0, 1) := dk_3 (dk_at dksX5_elects_0 20 rfl rfl)
theorem dX5_elects_21 : decode cX5_elects 21 = .ok (.ireturn, 1) := dk_172 (dk_at dksX5_elects_0 21 rfl rfl)
theorem dX5_elects_22 : decode cX5_elects 22 = .ok (.iconst 0, 1) := dk_3 (dk_at dksX5_elects_0 22 rfl rfl)
theorem dX5_elects_23 : decode cX5_elects 23 = .ok (.istore_n 1, 1) := dk_60 (dk_at dksX5_elects_0 23 rfl rfl)
theorem dX5_elects_24 : decode cX5_elects 24 = .ok (.iconst 1, 1) := dk_4 (dk_at dksX5_elects_1 0 rfl rfl)
theorem dX5_elects_25 : decode cX5_elects 25 = .ok (.istore_n 2, 1) := dk_61 (dk_at dksX5_elects_1 1 rfl rfl)
theorem dX5_elects_26 : decode cX5_elects 26 = .ok (.iload_n 2, 1) := dk_28 (dk_at dksX5_elects_1 2 rfl rfl)
theorem dX5_elects_27 : decode cX5_elects 27 = .ok (.aload_n 0, 1) := dk_42 (dk_at dksX5_elects_1 3 rfl rfl)
theorem dX5_elects_28 : decode cX5_elects 28 = .ok (.getfield 12, 3) := dk_180 0 12 (dk_at dksX5_elects_1 4 rfl rfl)
theorem dX5_elects_31 : decode cX5_elects 31 = .ok (.getfield 43, 3) := dk_180 0 43 (dk_at dksX5_elects_1 7 rfl rfl)
theorem dX5_elects_34 : decode cX5_elects 34 = .ok (.if_icmp .ge 24, 3) := dk_162 0 24 (dk_at dksX5_elects_1 10 rfl rfl)
theorem dX5_elects_37 : decode cX5_elects 37 = .ok (.aload_n 0, 1) := dk_42 (dk_at dksX5_elects_1 13 rfl rfl)
theorem dX5_elects_38 : decode cX5_elects 38 = .ok (.iload_n 2, 1) := dk_28 (dk_at dksX5_elects_1 14 rfl rfl)
theorem dX5_elects_39 : decode cX5_elects 39 = .ok (.invokevirtual 105, 3) := dk_182 0 105 (dk_at dksX5_elects_1 15 rfl rfl)
theorem dX5_elects_42 : decode cX5_elects 42 = .ok (.aload_n 0, 1) := dk_42 (dk_at dksX5_elects_1 18 rfl rfl)
theorem dX5_elects_43 : decode cX5_elects 43 = .ok (.iload_n 1, 1) := dk_27 (dk_at dksX5_elects_1 19 rfl rfl)
theorem dX5_elects_44 : decode cX5_elects 44 = .ok (.invokevirtual 105, 3) := dk_182 0 105 (dk_at dksX5_elects_1 20 rfl rfl)
theorem dX5_elects_47 : decode cX5_elects 47 = .ok (.if_icmp .le 5, 3) := dk_164 0 5 (dk_at dksX5_elects_2 0 rfl rfl)
theorem dX5_elects_50 : decode cX5_elects 50 = .ok (.iload_n 2, 1) := dk_28 (dk_at dksX5_elects_2 3 rfl rfl)
theorem dX5_elects_51 : decode cX5_elects 51 = .ok (.istore_n 1, 1) := dk_60 (dk_at dksX5_elects_2 4 rfl rfl)
theorem dX5_elects_52 : decode cX5_elects 52 = .ok (.iinc 2 1, 3) := dk_132 2 1 (dk_at dksX5_elects_2 5 rfl rfl)
theorem dX5_elects_55 : decode cX5_elects 55 = .ok (.goto (-29), 3) := dk_167 255 227 (dk_at dksX5_elects_2 8 rfl rfl)
theorem dX5_elects_58 : decode cX5_elects 58 = .ok (.aload_n 0, 1) := dk_42 (dk_at dksX5_elects_2 11 rfl rfl)
theorem dX5_elects_59 : decode cX5_elects 59 = .ok (.iload_n 1, 1) := dk_27 (dk_at dksX5_elects_2 12 rfl rfl)
theorem dX5_elects_60 : decode cX5_elects 60 = .ok (.putfield 28, 3) := dk_181 0 28 (dk_at dksX5_elects_2 13 rfl rfl)
theorem dX5_elects_63 : decode cX5_elects 63 = .ok (.iconst 1, 1) := dk_4 (dk_at dksX5_elects_2 16 rfl rfl)
theorem dX5_elects_64 : decode cX5_elects 64 = .ok (.ireturn, 1) := dk_172 (dk_at dksX5_elects_2 17 rfl rfl)
abbrev cX5_be : ByteArray := prog_5_method_3_code
def yX5_be : MethodName := ⟨RX5, "be", "(LWindowHill$Hill;)V"⟩
def dkwX5_be_3 : List UInt8 := [43, 180, 0, 46, 181, 0, 46, 42, 43, 180, 0, 49, 181, 0, 49, 177]
abbrev dktX5_be_3 : List UInt8 := dkwX5_be_3 ++ []
def dkwX5_be_2 : List UInt8 := [180, 0, 25, 190, 184, 0, 33, 42, 43, 180, 0, 40, 181, 0, 40, 42, 43, 180, 0, 28, 181, 0, 28, 42]
abbrev dktX5_be_2 : List UInt8 := dkwX5_be_2 ++ dktX5_be_3
def dkwX5_be_1 : List UInt8 := [180, 0, 22, 3, 42, 180, 0, 22, 3, 7, 184, 0, 33, 43, 180, 0, 25, 3, 42, 180, 0, 25, 3, 42]
abbrev dktX5_be_1 : List UInt8 := dkwX5_be_1 ++ dktX5_be_2
def dkwX5_be_0 : List UInt8 := [42, 43, 180, 0, 12, 181, 0, 12, 43, 180, 0, 18, 3, 42, 180, 0, 18, 3, 7, 184, 0, 33, 43]
abbrev dktX5_be_0 : List UInt8 := dkwX5_be_0 ++ dktX5_be_1
theorem dksX5_be_0 : cX5_be.data.toList.drop 0 = dktX5_be_0 := by decide +kernel
theorem dksX5_be_1 : cX5_be.data.toList.drop 23 = dktX5_be_1 := dk_seg dksX5_be_0 23 rfl rfl
theorem dksX5_be_2 : cX5_be.data.toList.drop 47 = dktX5_be_2 := dk_seg dksX5_be_1 24 rfl rfl
theorem dksX5_be_3 : cX5_be.data.toList.drop 71 = dktX5_be_3 := dk_seg dksX5_be_2 24 rfl rfl
theorem dX5_be_0 : decode cX5_be 0 = .ok (.aload_n 0, 1) := dk_42 (dk_at dksX5_be_0 0 rfl rfl)
theorem dX5_be_1 : decode cX5_be 1 = .ok (.aload_n 1, 1) := dk_43 (dk_at dksX5_be_0 1 rfl rfl)
theorem dX5_be_2 : decode cX5_be 2 = .ok (.getfield 12, 3) := dk_180 0 12 (dk_at dksX5_be_0 2 rfl rfl)
theorem dX5_be_5 : decode cX5_be 5 = .ok (.putfield 12, 3) := dk_181 0 12 (dk_at dksX5_be_0 5 rfl rfl)
theorem dX5_be_8 : decode cX5_be 8 = .ok (.aload_n 1, 1) := dk_43 (dk_at dksX5_be_0 8 rfl rfl)
theorem dX5_be_9 : decode cX5_be 9 = .ok (.getfield 18, 3) := dk_180 0 18 (dk_at dksX5_be_0 9 rfl rfl)
theorem dX5_be_12 : decode cX5_be 12 = .ok (.iconst 0, 1) := dk_3 (dk_at dksX5_be_0 12 rfl rfl)
theorem dX5_be_13 : decode cX5_be 13 = .ok (.aload_n 0, 1) := dk_42 (dk_at dksX5_be_0 13 rfl rfl)
theorem dX5_be_14 : decode cX5_be 14 = .ok (.getfield 18, 3) := dk_180 0 18 (dk_at dksX5_be_0 14 rfl rfl)
theorem dX5_be_17 : decode cX5_be 17 = .ok (.iconst 0, 1) := dk_3 (dk_at dksX5_be_0 17 rfl rfl)
theorem dX5_be_18 : decode cX5_be 18 = .ok (.iconst 4, 1) := dk_7 (dk_at dksX5_be_0 18 rfl rfl)
theorem dX5_be_19 : decode cX5_be 19 = .ok (.invokestatic 33, 3) := dk_184 0 33 (dk_at dksX5_be_0 19 rfl rfl)
theorem dX5_be_22 : decode cX5_be 22 = .ok (.aload_n 1, 1) := dk_43 (dk_at dksX5_be_0 22 rfl rfl)
theorem dX5_be_23 : decode cX5_be 23 = .ok (.getfield 22, 3) := dk_180 0 22 (dk_at dksX5_be_1 0 rfl rfl)
theorem dX5_be_26 : decode cX5_be 26 = .ok (.iconst 0, 1) := dk_3 (dk_at dksX5_be_1 3 rfl rfl)
theorem dX5_be_27 : decode cX5_be 27 = .ok (.aload_n 0, 1) := dk_42 (dk_at dksX5_be_1 4 rfl rfl)
theorem dX5_be_28 : decode cX5_be 28 = .ok (.getfield 22, 3) := dk_180 0 22 (dk_at dksX5_be_1 5 rfl rfl)
theorem dX5_be_31 : decode cX5_be 31 = .ok (.iconst 0, 1) := dk_3 (dk_at dksX5_be_1 8 rfl rfl)
theorem dX5_be_32 : decode cX5_be 32 = .ok (.iconst 4, 1) := dk_7 (dk_at dksX5_be_1 9 rfl rfl)
theorem dX5_be_33 : decode cX5_be 33 = .ok (.invokestatic 33, 3) := dk_184 0 33 (dk_at dksX5_be_1 10 rfl rfl)
theorem dX5_be_36 : decode cX5_be 36 = .ok (.aload_n 1, 1) := dk_43 (dk_at dksX5_be_1 13 rfl rfl)
theorem dX5_be_37 : decode cX5_be 37 = .ok (.getfield 25, 3) := dk_180 0 25 (dk_at dksX5_be_1 14 rfl rfl)
theorem dX5_be_40 : decode cX5_be 40 = .ok (.iconst 0, 1) := dk_3 (dk_at dksX5_be_1 17 rfl rfl)
theorem dX5_be_41 : decode cX5_be 41 = .ok (.aload_n 0, 1) := dk_42 (dk_at dksX5_be_1 18 rfl rfl)
theorem dX5_be_42 : decode cX5_be 42 = .ok (.getfield 25, 3) := dk_180 0 25 (dk_at dksX5_be_1 19 rfl rfl)
theorem dX5_be_45 : decode cX5_be 45 = .ok (.iconst 0, 1) := dk_3 (dk_at dksX5_be_1 22 rfl rfl)
theorem dX5_be_46 : decode cX5_be 46 = .ok (.aload_n 0, 1) := dk_42 (dk_at dksX5_be_1 23 rfl rfl)
theorem dX5_be_47 : decode cX5_be 47 = .ok (.getfield 25, 3) := dk_180 0 25 (dk_at dksX5_be_2 0 rfl rfl)
theorem dX5_be_50 : decode cX5_be 50 = .ok (.arraylength, 1) := dk_190 (dk_at dksX5_be_2 3 rfl rfl)
theorem dX5_be_51 : decode cX5_be 51 = .ok (.invokestatic 33, 3) := dk_184 0 33 (dk_at dksX5_be_2 4 rfl rfl)
theorem dX5_be_54 : decode cX5_be 54 = .ok (.aload_n 0, 1) := dk_42 (dk_at dksX5_be_2 7 rfl rfl)
theorem dX5_be_55 : decode cX5_be 55 = .ok (.aload_n 1, 1) := dk_43 (dk_at dksX5_be_2 8 rfl rfl)
theorem dX5_be_56 : decode cX5_be 56 = .ok (.getfield 40, 3) := dk_180 0 40 (dk_at dksX5_be_2 9 rfl rfl)
theorem dX5_be_59 : decode cX5_be 59 = .ok (.putfield 40, 3) := dk_181 0 40 (dk_at dksX5_be_2 12 rfl rfl)
theorem dX5_be_62 : decode cX5_be 62 = .ok (.aload_n 0, 1) := dk_42 (dk_at dksX5_be_2 15 rfl rfl)
theorem dX5_be_63 : decode cX5_be 63 = .ok (.aload_n 1, 1) := dk_43 (dk_at dksX5_be_2 16 rfl rfl)
theorem dX5_be_64 : decode cX5_be 64 = .ok (.getfield 28, 3) := dk_180 0 28 (dk_at dksX5_be_2 17 rfl rfl)
theorem dX5_be_67 : decode cX5_be 67 = .ok (.putfield 28, 3) := dk_181 0 28 (dk_at dksX5_be_2 20 rfl rfl)
theorem dX5_be_70 : decode cX5_be 70 = .ok (.aload_n 0, 1) := dk_42 (dk_at dksX5_be_2 23 rfl rfl)
theorem dX5_be_71 : decode cX5_be 71 = .ok (.aload_n 1, 1) := dk_43 (dk_at dksX5_be_3 0 rfl rfl)
theorem dX5_be_72 : decode cX5_be 72 = .ok (.getfield 46, 3) := dk_180 0 46 (dk_at dksX5_be_3 1 rfl rfl)
theorem dX5_be_75 : decode cX5_be 75 = .ok (.putfield 46, 3) := dk_181 0 46 (dk_at dksX5_be_3 4 rfl rfl)
theorem dX5_be_78 : decode cX5_be 78 = .ok (.aload_n 0, 1) := dk_42 (dk_at dksX5_be_3 7 rfl rfl)
theorem dX5_be_79 : decode cX5_be 79 = .ok (.aload_n 1, 1) := dk_43 (dk_at dksX5_be_3 8 rfl rfl)
theorem dX5_be_80 : decode cX5_be 80 = .ok (.getfield 49, 3) := dk_180 0 49 (dk_at dksX5_be_3 9 rfl rfl)
theorem dX5_be_83 : decode cX5_be 83 = .ok (.putfield 49, 3) := dk_181 0 49 (dk_at dksX5_be_3 12 rfl rfl)
theorem dX5_be_86 : decode cX5_be 86 = .ok (.return_, 1) := dk_177 (dk_at dksX5_be_3 15 rfl rfl)
theorem q142 : (Jvm.Cond.initialized "WindowHill$Hill") ∈ lw_all := lw_g (lw_at lw_m1 8 rfl) rfl
theorem q280 : (Jvm.Cond.instantiable "WindowHill$Hill" (8 : Nat)) ∈ lw_all := lw_g (lw_at lw_m1 146 rfl) rfl
theorem q282 : (Jvm.Cond.instanceMethod ({ cls := "WindowHill$Hill", name := "<init>", desc := "()V" } : Jvm.MethodName)) ∈ lw_all := lw_g (lw_at lw_m1 148 rfl) rfl
theorem q283 : (Jvm.Cond.code ({ cls := "WindowHill$Hill", name := "<init>", desc := "()V" } : Jvm.MethodName) prog_5_method_1_code (1 : Nat) (Option.none : Option Jvm.ClassFile.FieldType)) ∈ lw_all := lw_g (lw_at lw_m1 149 rfl) rfl
theorem q284 : (Jvm.Cond.methodLink "WindowHill$Hill" (3 : Nat) ({ cls := "java/lang/Object", name := "<init>", desc := "()V" } : Jvm.MethodName)) ∈ lw_all := lw_g (lw_at lw_m1 150 rfl) rfl
theorem q285 : (Jvm.Cond.classLink "WindowHill$Hill" (9 : Nat) "WindowHill$Town") ∈ lw_all := lw_g (lw_at lw_m1 151 rfl) rfl
theorem q287 : (Jvm.Cond.methodLinkNest "WindowHill$Hill" (11 : Nat) ({ cls := "WindowHill$Town", name := "<init>", desc := "()V" } : Jvm.MethodName) "WindowHill") ∈ lw_tbl := lw_at lw_m1 153 rfl
theorem q303 : (Jvm.Cond.fieldLinkNest "WindowHill$Hill" (52 : Nat) "WindowHill$Town" "always" "I" "WindowHill") ∈ lw_tbl := lw_at lw_m1 169 rfl
theorem q308 : (Jvm.Cond.fieldLinkNest "WindowHill$Hill" (43 : Nat) "WindowHill$Town" "rules" "I" "WindowHill") ∈ lw_tbl := lw_at lw_m1 174 rfl
theorem q313 : (Jvm.Cond.fieldLinkNest "WindowHill$Hill" (99 : Nat) "WindowHill$Town" "citizens" "I" "WindowHill") ∈ lw_tbl := lw_at lw_m1 179 rfl
theorem q319 : (Jvm.Cond.fieldLinkNest "WindowHill$Hill" (62 : Nat) "WindowHill$Town" "beside" "[I" "WindowHill") ∈ lw_tbl := lw_at lw_m1 185 rfl
theorem q322 : (Jvm.Cond.fieldLinkNest "WindowHill$Hill" (85 : Nat) "WindowHill$Town" "least" "[I" "WindowHill") ∈ lw_tbl := lw_at lw_m1 188 rfl
theorem q326 : (Jvm.Cond.fieldLinkNest "WindowHill$Hill" (88 : Nat) "WindowHill$Town" "most" "[I" "WindowHill") ∈ lw_tbl := lw_at lw_m1 192 rfl
theorem q334 : (Jvm.Cond.fieldLinkNest "WindowHill$Hill" (32 : Nat) "WindowHill$Town" "born" "[I" "WindowHill") ∈ lw_tbl := lw_at lw_m1 200 rfl
theorem q337 : (Jvm.Cond.fieldLinkNest "WindowHill$Hill" (39 : Nat) "WindowHill$Town" "stays" "[I" "WindowHill") ∈ lw_tbl := lw_at lw_m1 203 rfl
theorem q372 : (Jvm.Cond.fieldLink "WindowHill$Hill" (12 : Nat) "WindowHill$Hill" "town" "LWindowHill$Town;") ∈ lw_all := lw_g (lw_at lw_m1 238 rfl) rfl
theorem q375 : (Jvm.Cond.fieldLink "WindowHill$Hill" (18 : Nat) "WindowHill$Hill" "born" "[I") ∈ lw_all := lw_g (lw_at lw_m2 1 rfl) rfl
theorem q377 : (Jvm.Cond.fieldLink "WindowHill$Hill" (22 : Nat) "WindowHill$Hill" "stays" "[I") ∈ lw_all := lw_g (lw_at lw_m2 3 rfl) rfl
theorem q379 : (Jvm.Cond.fieldLink "WindowHill$Hill" (25 : Nat) "WindowHill$Hill" "seen" "[I") ∈ lw_all := lw_g (lw_at lw_m2 5 rfl) rfl
theorem q382 : (Jvm.Cond.fieldLink "WindowHill$Hill" (40 : Nat) "WindowHill$Hill" "lit" "I") ∈ lw_all := lw_g (lw_at lw_m2 8 rfl) rfl
theorem q385 : (Jvm.Cond.fieldLink "WindowHill$Hill" (28 : Nat) "WindowHill$Hill" "mayor" "I") ∈ lw_all := lw_g (lw_at lw_m2 11 rfl) rfl
theorem q388 : (Jvm.Cond.fieldLink "WindowHill$Hill" (46 : Nat) "WindowHill$Hill" "night" "I") ∈ lw_all := lw_g (lw_at lw_m2 14 rfl) rfl
theorem q390 : (Jvm.Cond.fieldLink "WindowHill$Hill" (49 : Nat) "WindowHill$Hill" "oil" "I") ∈ lw_all := lw_g (lw_at lw_m2 16 rfl) rfl
theorem q392 : (Jvm.Cond.lays "WindowHill$Hill" "WindowHill$Hill" "town" "LWindowHill$Town;") ∈ lw_all := lw_g (lw_at lw_m2 18 rfl) rfl
theorem q393 : (Jvm.Cond.soleField "WindowHill$Hill" "town") ∈ lw_all := lw_g (lw_at lw_m2 19 rfl) rfl
theorem q394 : (Jvm.Cond.laysFinal "WindowHill$Hill" "WindowHill$Hill" "born" "[I") ∈ lw_all := lw_g (lw_at lw_m2 20 rfl) rfl
theorem q395 : (Jvm.Cond.soleField "WindowHill$Hill" "born") ∈ lw_all := lw_g (lw_at lw_m2 21 rfl) rfl
theorem q396 : (Jvm.Cond.laysFinal "WindowHill$Hill" "WindowHill$Hill" "stays" "[I") ∈ lw_all := lw_g (lw_at lw_m2 22 rfl) rfl
theorem q397 : (Jvm.Cond.soleField "WindowHill$Hill" "stays") ∈ lw_all := lw_g (lw_at lw_m2 23 rfl) rfl
theorem q398 : (Jvm.Cond.laysFinal "WindowHill$Hill" "WindowHill$Hill" "seen" "[I") ∈ lw_all := lw_g (lw_at lw_m2 24 rfl) rfl
theorem q399 : (Jvm.Cond.soleField "WindowHill$Hill" "seen") ∈ lw_all := lw_g (lw_at lw_m2 25 rfl) rfl
theorem q400 : (Jvm.Cond.lays "WindowHill$Hill" "WindowHill$Hill" "lit" "I") ∈ lw_all := lw_g (lw_at lw_m2 26 rfl) rfl
theorem q401 : (Jvm.Cond.soleField "WindowHill$Hill" "lit") ∈ lw_all := lw_g (lw_at lw_m2 27 rfl) rfl
theorem q402 : (Jvm.Cond.lays "WindowHill$Hill" "WindowHill$Hill" "mayor" "I") ∈ lw_all := lw_g (lw_at lw_m2 28 rfl) rfl
theorem q403 : (Jvm.Cond.soleField "WindowHill$Hill" "mayor") ∈ lw_all := lw_g (lw_at lw_m2 29 rfl) rfl
theorem q404 : (Jvm.Cond.lays "WindowHill$Hill" "WindowHill$Hill" "night" "I") ∈ lw_all := lw_g (lw_at lw_m2 30 rfl) rfl
theorem q405 : (Jvm.Cond.soleField "WindowHill$Hill" "night") ∈ lw_all := lw_g (lw_at lw_m2 31 rfl) rfl
theorem q406 : (Jvm.Cond.lays "WindowHill$Hill" "WindowHill$Hill" "oil" "I") ∈ lw_all := lw_g (lw_at lw_m2 32 rfl) rfl
theorem q407 : (Jvm.Cond.soleField "WindowHill$Hill" "oil") ∈ lw_all := lw_g (lw_at lw_m2 33 rfl) rfl
theorem q408 : (Jvm.Cond.superclass "WindowHill$Hill" "java/lang/Object") ∈ lw_all := lw_g (lw_at lw_m2 34 rfl) rfl
theorem q846 : (Jvm.Cond.instanceMethod ({ cls := "WindowHill$Hill", name := "begin", desc := "(LWindowHill$Town;I)V" } : Jvm.MethodName)) ∈ lw_all := lw_g (lw_at lw_m3 232 rfl) rfl
theorem q847 : (Jvm.Cond.selects "WindowHill$Hill" ({ cls := "WindowHill$Hill", name := "begin", desc := "(LWindowHill$Town;I)V" } : Jvm.MethodName) ({ cls := "WindowHill$Hill", name := "begin", desc := "(LWindowHill$Town;I)V" } : Jvm.MethodName)) ∈ lw_all := lw_g (lw_at lw_m3 233 rfl) rfl
theorem q848 : (Jvm.Cond.code ({ cls := "WindowHill$Hill", name := "begin", desc := "(LWindowHill$Town;I)V" } : Jvm.MethodName) prog_5_method_2_code (4 : Nat) (Option.none : Option Jvm.ClassFile.FieldType)) ∈ lw_all := lw_g (lw_at lw_m3 234 rfl) rfl
theorem q849 : (Jvm.Cond.methodLink "WindowHill$Hill" (33 : Nat) ({ cls := "java/lang/System", name := "arraycopy", desc := "(Ljava/lang/Object;ILjava/lang/Object;II)V" } : Jvm.MethodName)) ∈ lw_all := lw_g (lw_at lw_m3 235 rfl) rfl
theorem q1041 : (Jvm.Cond.instanceMethod ({ cls := "WindowHill$Hill", name := "paint", desc := "(I)V" } : Jvm.MethodName)) ∈ lw_all := lw_g (lw_at lw_m4 187 rfl) rfl
theorem q1042 : (Jvm.Cond.selects "WindowHill$Hill" ({ cls := "WindowHill$Hill", name := "paint", desc := "(I)V" } : Jvm.MethodName) ({ cls := "WindowHill$Hill", name := "paint", desc := "(I)V" } : Jvm.MethodName)) ∈ lw_all := lw_g (lw_at lw_m4 188 rfl) rfl
theorem q1043 : (Jvm.Cond.code ({ cls := "WindowHill$Hill", name := "paint", desc := "(I)V" } : Jvm.MethodName) prog_5_method_10_code (2 : Nat) (Option.none : Option Jvm.ClassFile.FieldType)) ∈ lw_all := lw_g (lw_at lw_m4 189 rfl) rfl
theorem q1044 : (Jvm.Cond.methodLink "WindowHill$Hill" (55 : Nat) ({ cls := "WindowHill$Town", name := "free", desc := "()I" } : Jvm.MethodName)) ∈ lw_all := lw_g (lw_at lw_m4 190 rfl) rfl
theorem q1076 : (Jvm.Cond.instanceMethod ({ cls := "WindowHill$Hill", name := "night", desc := "()V" } : Jvm.MethodName)) ∈ lw_all := lw_g (lw_at lw_m4 222 rfl) rfl
theorem q1077 : (Jvm.Cond.selects "WindowHill$Hill" ({ cls := "WindowHill$Hill", name := "night", desc := "()V" } : Jvm.MethodName) ({ cls := "WindowHill$Hill", name := "night", desc := "()V" } : Jvm.MethodName)) ∈ lw_all := lw_g (lw_at lw_m4 223 rfl) rfl
theorem q1078 : (Jvm.Cond.code ({ cls := "WindowHill$Hill", name := "night", desc := "()V" } : Jvm.MethodName) prog_5_method_9_code (3 : Nat) (Option.none : Option Jvm.ClassFile.FieldType)) ∈ lw_all := lw_g (lw_at lw_m4 224 rfl) rfl
theorem q1079 : (Jvm.Cond.methodLink "WindowHill$Hill" (79 : Nat) ({ cls := "WindowHill$Hill", name := "next", desc := "(I)I" } : Jvm.MethodName)) ∈ lw_all := lw_g (lw_at lw_m4 225 rfl) rfl
theorem q1080 : (Jvm.Cond.instanceMethod ({ cls := "WindowHill$Hill", name := "next", desc := "(I)I" } : Jvm.MethodName)) ∈ lw_all := lw_g (lw_at lw_m4 226 rfl) rfl
theorem q1081 : (Jvm.Cond.selects "WindowHill$Hill" ({ cls := "WindowHill$Hill", name := "next", desc := "(I)I" } : Jvm.MethodName) ({ cls := "WindowHill$Hill", name := "next", desc := "(I)I" } : Jvm.MethodName)) ∈ lw_all := lw_g (lw_at lw_m4 227 rfl) rfl
theorem q1082 : (Jvm.Cond.code ({ cls := "WindowHill$Hill", name := "next", desc := "(I)I" } : Jvm.MethodName) prog_5_method_6_code (2 : Nat) (Option.some Jvm.ClassFile.FieldType.int)) ∈ lw_all := lw_g (lw_at lw_m4 228 rfl) rfl
theorem q1083 : (Jvm.Cond.methodLink "WindowHill$Hill" (75 : Nat) ({ cls := "WindowHill$Hill", name := "nextBy", desc := "(II)I" } : Jvm.MethodName)) ∈ lw_all := lw_g (lw_at lw_m4 229 rfl) rfl
theorem q1084 : (Jvm.Cond.instanceMethod ({ cls := "WindowHill$Hill", name := "nextBy", desc := "(II)I" } : Jvm.MethodName)) ∈ lw_all := lw_g (lw_at lw_m4 230 rfl) rfl
theorem q1085 : (Jvm.Cond.selects "WindowHill$Hill" ({ cls := "WindowHill$Hill", name := "nextBy", desc := "(II)I" } : Jvm.MethodName) ({ cls := "WindowHill$Hill", name := "nextBy", desc := "(II)I" } : Jvm.MethodName)) ∈ lw_all := lw_g (lw_at lw_m4 231 rfl) rfl
theorem q1086 : (Jvm.Cond.code ({ cls := "WindowHill$Hill", name := "nextBy", desc := "(II)I" } : Jvm.MethodName) prog_5_method_5_code (6 : Nat) (Option.some Jvm.ClassFile.FieldType.int)) ∈ lw_all := lw_g (lw_at lw_m4 232 rfl) rfl
theorem q1087 : (Jvm.Cond.methodLink "WindowHill$Hill" (59 : Nat) ({ cls := "WindowHill$Town", name := "cells", desc := "()I" } : Jvm.MethodName)) ∈ lw_all := lw_g (lw_at lw_m4 233 rfl) rfl
theorem q1091 : (Jvm.Cond.methodLink "WindowHill$Hill" (65 : Nat) ({ cls := "java/lang/Integer", name := "bitCount", desc := "(I)I" } : Jvm.MethodName)) ∈ lw_all := lw_g (lw_at lw_m4 237 rfl) rfl
theorem q1092 : (Jvm.Cond.methodLink "WindowHill$Hill" (71 : Nat) ({ cls := "WindowHill$Hill", name := "becomes", desc := "(IZI)Z" } : Jvm.MethodName)) ∈ lw_all := lw_g (lw_at lw_m4 238 rfl) rfl
theorem q1093 : (Jvm.Cond.instanceMethod ({ cls := "WindowHill$Hill", name := "becomes", desc := "(IZI)Z" } : Jvm.MethodName)) ∈ lw_all := lw_g (lw_at lw_m4 239 rfl) rfl
theorem q1094 : (Jvm.Cond.selects "WindowHill$Hill" ({ cls := "WindowHill$Hill", name := "becomes", desc := "(IZI)Z" } : Jvm.MethodName) ({ cls := "WindowHill$Hill", name := "becomes", desc := "(IZI)Z" } : Jvm.MethodName)) ∈ lw_all := lw_g (lw_at lw_m5 0 rfl) rfl
theorem q1095 : (Jvm.Cond.code ({ cls := "WindowHill$Hill", name := "becomes", desc := "(IZI)Z" } : Jvm.MethodName) prog_5_method_4_code (4 : Nat) (Option.some Jvm.ClassFile.FieldType.boolean)) ∈ lw_all := lw_g (lw_at lw_m5 1 rfl) rfl
theorem q1096 : (Jvm.Cond.methodLink "WindowHill$Hill" (82 : Nat) ({ cls := "WindowHill$Hill", name := "sight", desc := "(II)I" } : Jvm.MethodName)) ∈ lw_all := lw_g (lw_at lw_m5 2 rfl) rfl
theorem q1097 : (Jvm.Cond.instanceMethod ({ cls := "WindowHill$Hill", name := "sight", desc := "(II)I" } : Jvm.MethodName)) ∈ lw_all := lw_g (lw_at lw_m5 3 rfl) rfl
theorem q1098 : (Jvm.Cond.selects "WindowHill$Hill" ({ cls := "WindowHill$Hill", name := "sight", desc := "(II)I" } : Jvm.MethodName) ({ cls := "WindowHill$Hill", name := "sight", desc := "(II)I" } : Jvm.MethodName)) ∈ lw_all := lw_g (lw_at lw_m5 4 rfl) rfl
theorem q1099 : (Jvm.Cond.code ({ cls := "WindowHill$Hill", name := "sight", desc := "(II)I" } : Jvm.MethodName) prog_5_method_8_code (3 : Nat) (Option.some Jvm.ClassFile.FieldType.int)) ∈ lw_all := lw_g (lw_at lw_m5 5 rfl) rfl
theorem q1105 : (Jvm.Cond.instanceMethod ({ cls := "WindowHill$Hill", name := "after", desc := "(II)I" } : Jvm.MethodName)) ∈ lw_all := lw_g (lw_at lw_m5 11 rfl) rfl
theorem q1106 : (Jvm.Cond.selects "WindowHill$Hill" ({ cls := "WindowHill$Hill", name := "after", desc := "(II)I" } : Jvm.MethodName) ({ cls := "WindowHill$Hill", name := "after", desc := "(II)I" } : Jvm.MethodName)) ∈ lw_all := lw_g (lw_at lw_m5 12 rfl) rfl
theorem q1107 : (Jvm.Cond.code ({ cls := "WindowHill$Hill", name := "after", desc := "(II)I" } : Jvm.MethodName) prog_5_method_7_code (5 : Nat) (Option.some Jvm.ClassFile.FieldType.int)) ∈ lw_all := lw_g (lw_at lw_m5 13 rfl) rfl
theorem q1261 : (Jvm.Cond.instanceMethod ({ cls := "WindowHill$Hill", name := "vote", desc := "(I)I" } : Jvm.MethodName)) ∈ lw_all := lw_g (lw_at lw_m5 167 rfl) rfl
theorem q1262 : (Jvm.Cond.selects "WindowHill$Hill" ({ cls := "WindowHill$Hill", name := "vote", desc := "(I)I" } : Jvm.MethodName) ({ cls := "WindowHill$Hill", name := "vote", desc := "(I)I" } : Jvm.MethodName)) ∈ lw_all := lw_g (lw_at lw_m5 168 rfl) rfl
theorem q1263 : (Jvm.Cond.code ({ cls := "WindowHill$Hill", name := "vote", desc := "(I)I" } : Jvm.MethodName) prog_5_method_12_code (6 : Nat) (Option.some Jvm.ClassFile.FieldType.int)) ∈ lw_all := lw_g (lw_at lw_m5 169 rfl) rfl
theorem q1264 : (Jvm.Cond.methodLink "WindowHill$Hill" (96 : Nat) ({ cls := "WindowHill$Hill", name := "outside", desc := "(II)I" } : Jvm.MethodName)) ∈ lw_all := lw_g (lw_at lw_m5 170 rfl) rfl
theorem q1265 : (Jvm.Cond.instanceMethod ({ cls := "WindowHill$Hill", name := "outside", desc := "(II)I" } : Jvm.MethodName)) ∈ lw_all := lw_g (lw_at lw_m5 171 rfl) rfl
theorem q1266 : (Jvm.Cond.selects "WindowHill$Hill" ({ cls := "WindowHill$Hill", name := "outside", desc := "(II)I" } : Jvm.MethodName) ({ cls := "WindowHill$Hill", name := "outside", desc := "(II)I" } : Jvm.MethodName)) ∈ lw_all := lw_g (lw_at lw_m5 172 rfl) rfl
theorem q1267 : (Jvm.Cond.code ({ cls := "WindowHill$Hill", name := "outside", desc := "(II)I" } : Jvm.MethodName) prog_5_method_11_code (3 : Nat) (Option.some Jvm.ClassFile.FieldType.int)) ∈ lw_all := lw_g (lw_at lw_m5 173 rfl) rfl
theorem q1268 : (Jvm.Cond.methodLink "WindowHill$Hill" (91 : Nat) ({ cls := "java/lang/Math", name := "max", desc := "(II)I" } : Jvm.MethodName)) ∈ lw_all := lw_g (lw_at lw_m5 174 rfl) rfl
theorem q1274 : (Jvm.Cond.instanceMethod ({ cls := "WindowHill$Hill", name := "votes", desc := "(I)I" } : Jvm.MethodName)) ∈ lw_all := lw_g (lw_at lw_m5 180 rfl) rfl
theorem q1275 : (Jvm.Cond.selects "WindowHill$Hill" ({ cls := "WindowHill$Hill", name := "votes", desc := "(I)I" } : Jvm.MethodName) ({ cls := "WindowHill$Hill", name := "votes", desc := "(I)I" } : Jvm.MethodName)) ∈ lw_all := lw_g (lw_at lw_m5 181 rfl) rfl
theorem q1276 : (Jvm.Cond.code ({ cls := "WindowHill$Hill", name := "votes", desc := "(I)I" } : Jvm.MethodName) prog_5_method_13_code (4 : Nat) (Option.some Jvm.ClassFile.FieldType.int)) ∈ lw_all := lw_g (lw_at lw_m5 182 rfl) rfl
theorem q1277 : (Jvm.Cond.methodLink "WindowHill$Hill" (102 : Nat) ({ cls := "WindowHill$Hill", name := "vote", desc := "(I)I" } : Jvm.MethodName)) ∈ lw_all := lw_g (lw_at lw_m5 183 rfl) rfl
theorem q1283 : (Jvm.Cond.instanceMethod ({ cls := "WindowHill$Hill", name := "elects", desc := "()Z" } : Jvm.MethodName)) ∈ lw_all := lw_g (lw_at lw_m5 189 rfl) rfl
theorem q1284 : (Jvm.Cond.selects "WindowHill$Hill" ({ cls := "WindowHill$Hill", name := "elects", desc := "()Z" } : Jvm.MethodName) ({ cls := "WindowHill$Hill", name := "elects", desc := "()Z" } : Jvm.MethodName)) ∈ lw_all := lw_g (lw_at lw_m5 190 rfl) rfl
theorem q1285 : (Jvm.Cond.code ({ cls := "WindowHill$Hill", name := "elects", desc := "()Z" } : Jvm.MethodName) prog_5_method_14_code (3 : Nat) (Option.some Jvm.ClassFile.FieldType.boolean)) ∈ lw_all := lw_g (lw_at lw_m5 191 rfl) rfl
theorem q1286 : (Jvm.Cond.methodLink "WindowHill$Hill" (105 : Nat) ({ cls := "WindowHill$Hill", name := "votes", desc := "(I)I" } : Jvm.MethodName)) ∈ lw_all := lw_g (lw_at lw_m5 192 rfl) rfl
theorem q1441 : (Jvm.Cond.instanceMethod ({ cls := "WindowHill$Hill", name := "be", desc := "(LWindowHill$Hill;)V" } : Jvm.MethodName)) ∈ lw_all := lw_g (lw_at lw_m6 107 rfl) rfl
theorem q1442 : (Jvm.Cond.selects "WindowHill$Hill" ({ cls := "WindowHill$Hill", name := "be", desc := "(LWindowHill$Hill;)V" } : Jvm.MethodName) ({ cls := "WindowHill$Hill", name := "be", desc := "(LWindowHill$Hill;)V" } : Jvm.MethodName)) ∈ lw_all := lw_g (lw_at lw_m6 108 rfl) rfl
theorem q1443 : (Jvm.Cond.code ({ cls := "WindowHill$Hill", name := "be", desc := "(LWindowHill$Hill;)V" } : Jvm.MethodName) prog_5_method_3_code (2 : Nat) (Option.none : Option Jvm.ClassFile.FieldType)) ∈ lw_all := lw_g (lw_at lw_m6 109 rfl) rfl
theorem in_X5 : ∀ w ∈ wsX50, w ∈ lw_all := lw_in wsX50 [392, 394, 396, 398, 400, 402, 404, 406] (by decide +kernel) (by decide +kernel)

/-! WindowHill$Town -/
set_option maxRecDepth 100000
def RX6 : String := "WindowHill$Town"
def TX6 : u_T := fun k => match k with
  | 0 => ("WindowHill$Town", "wide", "I", false)
  | 1 => ("WindowHill$Town", "rows", "I", false)
  | 2 => ("WindowHill$Town", "houses", "I", false)
  | 3 => ("WindowHill$Town", "always", "I", false)
  | 4 => ("WindowHill$Town", "never", "I", false)
  | 5 => ("WindowHill$Town", "rules", "I", false)
  | 6 => ("WindowHill$Town", "citizens", "I", false)
  | 7 => ("WindowHill$Town", "ring", "Z", false)
  | 8 => ("WindowHill$Town", "beside", "[I", true)
  | 9 => ("WindowHill$Town", "least", "[I", true)
  | 10 => ("WindowHill$Town", "most", "[I", true)
  | 11 => ("WindowHill$Town", "ruleNames", "[J", true)
  | 12 => ("WindowHill$Town", "citizenNames", "[J", true)
  | 13 => ("WindowHill$Town", "born", "[I", true)
  | _ => ("WindowHill$Town", "stays", "[I", true)
def tyX6 : Nat → FieldType := fun k => match k with
  | 0 => .int
  | 1 => .int
  | 2 => .int
  | 3 => .int
  | 4 => .int
  | 5 => .int
  | 6 => .int
  | 7 => .boolean
  | 8 => .array .int
  | 9 => .array .int
  | 10 => .array .int
  | 11 => .array .long
  | 12 => .array .long
  | 13 => .array .int
  | _ => .array .int
abbrev wsX60 : List Cond := u_ws RX6 TX6 15
set_option maxRecDepth 100000 in
theorem nmX6 : ∀ a, a < 15 → ∀ b, b < 15 → a ≠ b → (TX6 a).2.1 ≠ (TX6 b).2.1 := by decide +kernel
set_option maxRecDepth 100000 in
theorem tyX6_ok : ∀ k, k < 15 → parseFieldDescriptor (TX6 k).2.2.1 = some (tyX6 k) := by decide +kernel
abbrev cX6_init : ByteArray := prog_12_method_1_code
def yX6_init : MethodName := ⟨RX6, "<init>", "()V"⟩
def dkwX6_init_3 : List UInt8 := [181, 0, 41, 177]
abbrev dktX6_init_3 : List UInt8 := dkwX6_init_3 ++ []
def dkwX6_init_2 : List UInt8 := [181, 0, 31, 42, 16, 6, 188, 11, 181, 0, 35, 42, 7, 188, 10, 181, 0, 38, 42, 7, 188, 10]
abbrev dktX6_init_2 : List UInt8 := dkwX6_init_2 ++ dktX6_init_3
def dkwX6_init_1 : List UInt8 := [181, 0, 21, 42, 16, 6, 188, 10, 181, 0, 25, 42, 16, 6, 188, 10, 181, 0, 28, 42, 7, 188, 11]
abbrev dktX6_init_1 : List UInt8 := dkwX6_init_1 ++ dktX6_init_2
def dkwX6_init_0 : List UInt8 := [42, 183, 0, 3, 42, 4, 181, 0, 9, 42, 4, 181, 0, 15, 42, 4, 181, 0, 18, 42, 16, 30, 188, 10]
abbrev dktX6_init_0 : List UInt8 := dkwX6_init_0 ++ dktX6_init_1
theorem dksX6_init_0 : cX6_init.data.toList.drop 0 = dktX6_init_0 := by decide +kernel
theorem dksX6_init_1 : cX6_init.data.toList.drop 24 = dktX6_init_1 := dk_seg dksX6_init_0 24 rfl rfl
theorem dksX6_init_2 : cX6_init.data.toList.drop 47 = dktX6_init_2 := dk_seg dksX6_init_1 23 rfl rfl
theorem dksX6_init_3 : cX6_init.data.toList.drop 69 = dktX6_init_3 := dk_seg dksX6_init_2 22 rfl rfl
theorem dX6_init_0 : decode cX6_init 0 = .ok (.aload_n 0, 1) := dk_42 (dk_at dksX6_init_0 0 rfl rfl)
theorem dX6_init_1 : decode cX6_init 1 = .ok (.invokespecial 3, 3) := dk_183 0 3 (dk_at dksX6_init_0 1 rfl rfl)
theorem dX6_init_4 : decode cX6_init 4 = .ok (.aload_n 0, 1) := dk_42 (dk_at dksX6_init_0 4 rfl rfl)
theorem dX6_init_5 : decode cX6_init 5 = .ok (.iconst 1, 1) := dk_4 (dk_at dksX6_init_0 5 rfl rfl)
theorem dX6_init_6 : decode cX6_init 6 = .ok (.putfield 9, 3) := dk_181 0 9 (dk_at dksX6_init_0 6 rfl rfl)
theorem dX6_init_9 : decode cX6_init 9 = .ok (.aload_n 0, 1) := dk_42 (dk_at dksX6_init_0 9 rfl rfl)
theorem dX6_init_10 : decode cX6_init 10 = .ok (.iconst 1, 1) := dk_4 (dk_at dksX6_init_0 10 rfl rfl)
theorem dX6_init_11 : decode cX6_init 11 = .ok (.putfield 15, 3) := dk_181 0 15 (dk_at dksX6_init_0 11 rfl rfl)
theorem dX6_init_14 : decode cX6_init 14 = .ok (.aload_n 0, 1) := dk_42 (dk_at dksX6_init_0 14 rfl rfl)
theorem dX6_init_15 : decode cX6_init 15 = .ok (.iconst 1, 1) := dk_4 (dk_at dksX6_init_0 15 rfl rfl)
theorem dX6_init_16 : decode cX6_init 16 = .ok (.putfield 18, 3) := dk_181 0 18 (dk_at dksX6_init_0 16 rfl rfl)
theorem dX6_init_19 : decode cX6_init 19 = .ok (.aload_n 0, 1) := dk_42 (dk_at dksX6_init_0 19 rfl rfl)
theorem dX6_init_20 : decode cX6_init 20 = .ok (.bipush 30, 2) := dk_16 30 (dk_at dksX6_init_0 20 rfl rfl)
theorem dX6_init_22 : decode cX6_init 22 = .ok (.newarray .int, 2) := dk_188_10 (dk_at dksX6_init_0 22 rfl rfl)
theorem dX6_init_24 : decode cX6_init 24 = .ok (.putfield 21, 3) := dk_181 0 21 (dk_at dksX6_init_1 0 rfl rfl)
theorem dX6_init_27 : decode cX6_init 27 = .ok (.aload_n 0, 1) := dk_42 (dk_at dksX6_init_1 3 rfl rfl)
theorem dX6_init_28 : decode cX6_init 28 = .ok (.bipush 6, 2) := dk_16 6 (dk_at dksX6_init_1 4 rfl rfl)
theorem dX6_init_30 : decode cX6_init 30 = .ok (.newarray .int, 2) := dk_188_10 (dk_at dksX6_init_1 6 rfl rfl)
theorem dX6_init_32 : decode cX6_init 32 = .ok (.putfield 25, 3) := dk_181 0 25 (dk_at dksX6_init_1 8 rfl rfl)
theorem dX6_init_35 : decode cX6_init 35 = .ok (.aload_n 0, 1) := dk_42 (dk_at dksX6_init_1 11 rfl rfl)
theorem dX6_init_36 : decode cX6_init 36 = .ok (.bipush 6, 2) := dk_16 6 (dk_at dksX6_init_1 12 rfl rfl)
theorem dX6_init_38 : decode cX6_init 38 = .ok (.newarray .int, 2) := dk_188_10 (dk_at dksX6_init_1 14 rfl rfl)
theorem dX6_init_40 : decode cX6_init 40 = .ok (.putfield 28, 3) := dk_181 0 28 (dk_at dksX6_init_1 16 rfl rfl)
theorem dX6_init_43 : decode cX6_init 43 = .ok (.aload_n 0, 1) := dk_42 (dk_at dksX6_init_1 19 rfl rfl)
theorem dX6_init_44 : decode cX6_init 44 = .ok (.iconst 4, 1) := dk_7 (dk_at dksX6_init_1 20 rfl rfl)
theorem dX6_init_45 : decode cX6_init 45 = .ok (.newarray .long, 2) := dk_188_11 (dk_at dksX6_init_1 21 rfl rfl)
theorem dX6_init_47 : decode cX6_init 47 = .ok (.putfield 31, 3) := dk_181 0 31 (dk_at dksX6_init_2 0 rfl rfl)
theorem dX6_init_50 : decode cX6_init 50 = .ok (.aload_n 0, 1) := dk_42 (dk_at dksX6_init_2 3 rfl rfl)
theorem dX6_init_51 : decode cX6_init 51 = .ok (.bipush 6, 2) := dk_16 6 (dk_at dksX6_init_2 4 rfl rfl)
theorem dX6_init_53 : decode cX6_init 53 = .ok (.newarray .long, 2) := dk_188_11 (dk_at dksX6_init_2 6 rfl rfl)
theorem dX6_init_55 : decode cX6_init 55 = .ok (.putfield 35, 3) := dk_181 0 35 (dk_at dksX6_init_2 8 rfl rfl)
theorem dX6_init_58 : decode cX6_init 58 = .ok (.aload_n 0, 1) := dk_42 (dk_at dksX6_init_2 11 rfl rfl)
theorem dX6_init_59 : decode cX6_init 59 = .ok (.iconst 4, 1) := dk_7 (dk_at dksX6_init_2 12 rfl rfl)
theorem dX6_init_60 : decode cX6_init 60 = .ok (.newarray .int, 2) := dk_188_10 (dk_at dksX6_init_2 13 rfl rfl)
theorem dX6_init_62 : decode cX6_init 62 = .ok (.putfield 38, 3) := dk_181 0 38 (dk_at dksX6_init_2 15 rfl rfl)
theorem dX6_init_65 : decode cX6_init 65 = .ok (.aload_n 0, 1) := dk_42 (dk_at dksX6_init_2 18 rfl rfl)
theorem dX6_init_66 : decode cX6_init 66 = .ok (.iconst 4, 1) := dk_7 (dk_at dksX6_init_2 19 rfl rfl)
theorem dX6_init_67 : decode cX6_init 67 = .ok (.newarray .int, 2) := dk_188_10 (dk_at dksX6_init_2 20 rfl rfl)
theorem dX6_init_69 : decode cX6_init 69 = .ok (.putfield 41, 3) := dk_181 0 41 (dk_at dksX6_init_3 0 rfl rfl)
theorem dX6_init_72 : decode cX6_init 72 = .ok (.return_, 1) := dk_177 (dk_at dksX6_init_3 3 rfl rfl)
abbrev cX6_cell : ByteArray := prog_12_method_3_code
def yX6_cell : MethodName := ⟨RX6, "cell", "(II)I"⟩
def dkwX6_cell_0 : List UInt8 := [42, 180, 0, 9, 28, 104, 27, 96, 172]
abbrev dktX6_cell_0 : List UInt8 := dkwX6_cell_0 ++ []
theorem dksX6_cell_0 : cX6_cell.data.toList.drop 0 = dktX6_cell_0 := by decide +kernel
theorem dX6_cell_0 : decode cX6_cell 0 = .ok (.aload_n 0, 1) := dk_42 (dk_at dksX6_cell_0 0 rfl rfl)
theorem dX6_cell_1 : decode cX6_cell 1 = .ok (.getfield 9, 3) := dk_180 0 9 (dk_at dksX6_cell_0 1 rfl rfl)
theorem dX6_cell_4 : decode cX6_cell 4 = .ok (.iload_n 2, 1) := dk_28 (dk_at dksX6_cell_0 4 rfl rfl)
theorem dX6_cell_5 : decode cX6_cell 5 = .ok (.imul, 1) := dk_104 (dk_at dksX6_cell_0 5 rfl rfl)
theorem dX6_cell_6 : decode cX6_cell 6 = .ok (.iload_n 1, 1) := dk_27 (dk_at dksX6_cell_0 6 rfl rfl)
theorem dX6_cell_7 : decode cX6_cell 7 = .ok (.iadd, 1) := dk_96 (dk_at dksX6_cell_0 7 rfl rfl)
theorem dX6_cell_8 : decode cX6_cell 8 = .ok (.ireturn, 1) := dk_172 (dk_at dksX6_cell_0 8 rfl rfl)
abbrev cX6_isTaken : ByteArray := prog_12_method_11_code
def yX6_isTaken : MethodName := ⟨RX6, "isTaken", "(J)Z"⟩
def dkwX6_isTaken_1 : List UInt8 := [132, 3, 1, 167, 255, 232, 42, 31, 182, 0, 75, 155, 0, 7, 4, 167, 0, 4, 3, 172]
abbrev dktX6_isTaken_1 : List UInt8 := dkwX6_isTaken_1 ++ []
def dkwX6_isTaken_0 : List UInt8 := [3, 62, 29, 42, 180, 0, 72, 162, 0, 22, 42, 180, 0, 35, 29, 47, 31, 148, 154, 0, 5, 4, 172]
abbrev dktX6_isTaken_0 : List UInt8 := dkwX6_isTaken_0 ++ dktX6_isTaken_1
theorem dksX6_isTaken_0 : cX6_isTaken.data.toList.drop 0 = dktX6_isTaken_0 := by decide +kernel
theorem dksX6_isTaken_1 : cX6_isTaken.data.toList.drop 23 = dktX6_isTaken_1 := dk_seg dksX6_isTaken_0 23 rfl rfl
theorem dX6_isTaken_0 : decode cX6_isTaken 0 = .ok (.iconst 0, 1) := dk_3 (dk_at dksX6_isTaken_0 0 rfl rfl)
theorem dX6_isTaken_1 : decode cX6_isTaken 1 = .ok (.istore_n 3, 1) := dk_62 (dk_at dksX6_isTaken_0 1 rfl rfl)
theorem dX6_isTaken_2 : decode cX6_isTaken 2 = .ok (.iload_n 3, 1) := dk_29 (dk_at dksX6_isTaken_0 2 rfl rfl)
theorem dX6_isTaken_3 : decode cX6_isTaken 3 = .ok (.aload_n 0, 1) := dk_42 (dk_at dksX6_isTaken_0 3 rfl rfl)
theorem dX6_isTaken_4 : decode cX6_isTaken 4 = .ok (.getfield 72, 3) := dk_180 0 72 (dk_at dksX6_isTaken_0 4 rfl rfl)
theorem dX6_isTaken_7 : decode cX6_isTaken 7 = .ok (.if_icmp .ge 22, 3) := dk_162 0 22 (dk_at dksX6_isTaken_0 7 rfl rfl)
theorem dX6_isTaken_10 : decode cX6_isTaken 10 = .ok (.aload_n 0, 1) := dk_42 (dk_at dksX6_isTaken_0 10 rfl rfl)
theorem dX6_isTaken_11 : decode cX6_isTaken 11 = .ok (.getfield 35, 3) := dk_180 0 35 (dk_at dksX6_isTaken_0 11 rfl rfl)
theorem dX6_isTaken_14 : decode cX6_isTaken 14 = .ok (.iload_n 3, 1) := dk_29 (dk_at dksX6_isTaken_0 14 rfl rfl)
theorem dX6_isTaken_15 : decode cX6_isTaken 15 = .ok (.laload, 1) := dk_47 (dk_at dksX6_isTaken_0 15 rfl rfl)
theorem dX6_isTaken_16 : decode cX6_isTaken 16 = .ok (.lload_n 1, 1) := dk_31 (dk_at dksX6_isTaken_0 16 rfl rfl)
theorem dX6_isTaken_17 : decode cX6_isTaken 17 = .ok (.lcmp, 1) := dk_148 (dk_at dksX6_isTaken_0 17 rfl rfl)
theorem dX6_isTaken_18 : decode cX6_isTaken 18 = .ok (.ifCond .ne 5, 3) := dk_154 0 5 (dk_at dksX6_isTaken_0 18 rfl rfl)
theorem dX6_isTaken_21 : decode cX6_isTaken 21 = .ok (.iconst 1, 1) := dk_4 (dk_at dksX6_isTaken_0 21 rfl rfl)
theorem dX6_isTaken_22 : decode cX6_isTaken 22 = .ok (.ireturn, 1) := dk_172 (dk_at dksX6_isTaken_0 22 rfl rfl)
theorem dX6_isTaken_23 : decode cX6_isTaken 23 = .ok (.iinc 3 1, 3) := dk_132 3 1 (dk_at dksX6_isTaken_1 0 rfl rfl)
theorem dX6_isTaken_26 : decode cX6_isTaken 26 = .ok (.goto (-24), 3) := dk_167 255 232 (dk_at dksX6_isTaken_1 3 rfl rfl)
theorem dX6_isTaken_29 : decode cX6_isTaken 29 = .ok (.aload_n 0, 1) := dk_42 (dk_at dksX6_isTaken_1 6 rfl rfl)
theorem dX6_isTaken_30 : decode cX6_isTaken 30 = .ok (.lload_n 1, 1) := dk_31 (dk_at dksX6_isTaken_1 7 rfl rfl)
theorem dX6_isTaken_31 : decode cX6_isTaken 31 = .ok (.invokevirtual 75, 3) := dk_182 0 75 (dk_at dksX6_isTaken_1 8 rfl rfl)
theorem dX6_isTaken_34 : decode cX6_isTaken 34 = .ok (.ifCond .lt 7, 3) := dk_155 0 7 (dk_at dksX6_isTaken_1 11 rfl rfl)
theorem dX6_isTaken_37 : decode cX6_isTaken 37 = .ok (.iconst 1, 1) := dk_4 (dk_at dksX6_isTaken_1 14 rfl rfl)
theorem dX6_isTaken_38 : decode cX6_isTaken 38 = .ok (.goto 4, 3) := dk_167 0 4 (dk_at dksX6_isTaken_1 15 rfl rfl)
theorem dX6_isTaken_41 : decode cX6_isTaken 41 = .ok (.iconst 0, 1) := dk_3 (dk_at dksX6_isTaken_1 18 rfl rfl)
theorem dX6_isTaken_42 : decode cX6_isTaken 42 = .ok (.ireturn, 1) := dk_172 (dk_at dksX6_isTaken_1 19 rfl rfl)
abbrev cX6_ruleNamed : ByteArray := prog_12_method_10_code
def yX6_ruleNamed : MethodName := ⟨RX6, "ruleNamed", "(J)I"⟩
def dkwX6_ruleNamed_1 : List UInt8 := [132, 3, 1, 167, 255, 232, 2, 172]
abbrev dktX6_ruleNamed_1 : List UInt8 := dkwX6_ruleNamed_1 ++ []
def dkwX6_ruleNamed_0 : List UInt8 := [3, 62, 29, 42, 180, 0, 69, 162, 0, 22, 42, 180, 0, 31, 29, 47, 31, 148, 154, 0, 5, 29, 172]
abbrev dktX6_ruleNamed_0 : List UInt8 := dkwX6_ruleNamed_0 ++ dktX6_ruleNamed_1
theorem dksX6_ruleNamed_0 : cX6_ruleNamed.data.toList.drop 0 = dktX6_ruleNamed_0 := by decide +kernel
theorem dksX6_ruleNamed_1 : cX6_ruleNamed.data.toList.drop 23 = dktX6_ruleNamed_1 := dk_seg dksX6_ruleNamed_0 23 rfl rfl
theorem dX6_ruleNamed_0 : decode cX6_ruleNamed 0 = .ok (.iconst 0, 1) := dk_3 (dk_at dksX6_ruleNamed_0 0 rfl rfl)
theorem dX6_ruleNamed_1 : decode cX6_ruleNamed 1 = .ok (.istore_n 3, 1) := dk_62 (dk_at dksX6_ruleNamed_0 1 rfl rfl)
theorem dX6_ruleNamed_2 : decode cX6_ruleNamed 2 = .ok (.iload_n 3, 1) := dk_29 (dk_at dksX6_ruleNamed_0 2 rfl rfl)
theorem dX6_ruleNamed_3 : decode cX6_ruleNamed 3 = .ok (.aload_n 0, 1) := dk_42 (dk_at dksX6_ruleNamed_0 3 rfl rfl)
theorem dX6_ruleNamed_4 : decode cX6_ruleNamed 4 = .ok (.getfield 69, 3) := dk_180 0 69 (dk_at dksX6_ruleNamed_0 4 rfl rfl)
theorem dX6_ruleNamed_7 : decode cX6_ruleNamed 7 = .ok (.if_icmp .ge 22, 3) := dk_162 0 22 (dk_at dksX6_ruleNamed_0 7 rfl rfl)
theorem dX6_ruleNamed_10 : decode cX6_ruleNamed 10 = .ok (.aload_n 0, 1) := dk_42 (dk_at dksX6_ruleNamed_0 10 rfl rfl)
theorem dX6_ruleNamed_11 : decode cX6_ruleNamed 11 = .ok (.getfield 31, 3) := dk_180 0 31 (dk_at dksX6_ruleNamed_0 11 rfl rfl)
theorem dX6_ruleNamed_14 : decode cX6_ruleNamed 14 = .ok (.iload_n 3, 1) := dk_29 (dk_at dksX6_ruleNamed_0 14 rfl rfl)
theorem dX6_ruleNamed_15 : decode cX6_ruleNamed 15 = .ok (.laload, 1) := dk_47 (dk_at dksX6_ruleNamed_0 15 rfl rfl)
theorem dX6_ruleNamed_16 : decode cX6_ruleNamed 16 = .ok (.lload_n 1, 1) := dk_31 (dk_at dksX6_ruleNamed_0 16 rfl rfl)
theorem dX6_ruleNamed_17 : decode cX6_ruleNamed 17 = .ok (.lcmp, 1) := dk_148 (dk_at dksX6_ruleNamed_0 17 rfl rfl)
theorem dX6_ruleNamed_18 : decode cX6_ruleNamed 18 = .ok (.ifCond .ne 5, 3) := dk_154 0 5 (dk_at dksX6_ruleNamed_0 18 rfl rfl)
theorem dX6_ruleNamed_21 : decode cX6_ruleNamed 21 = .ok (.iload_n 3, 1) := dk_29 (dk_at dksX6_ruleNamed_0 21 rfl rfl)
theorem dX6_ruleNamed_22 : decode cX6_ruleNamed 22 = .ok (.ireturn, 1) := dk_172 (dk_at dksX6_ruleNamed_0 22 rfl rfl)
theorem dX6_ruleNamed_23 : decode cX6_ruleNamed 23 = .ok (.iinc 3 1, 3) := dk_132 3 1 (dk_at dksX6_ruleNamed_1 0 rfl rfl)
theorem dX6_ruleNamed_26 : decode cX6_ruleNamed 26 = .ok (.goto (-24), 3) := dk_167 255 232 (dk_at dksX6_ruleNamed_1 3 rfl rfl)
theorem dX6_ruleNamed_29 : decode cX6_ruleNamed 29 = .ok (.iconst (-1), 1) := dk_2 (dk_at dksX6_ruleNamed_1 6 rfl rfl)
theorem dX6_ruleNamed_30 : decode cX6_ruleNamed 30 = .ok (.ireturn, 1) := dk_172 (dk_at dksX6_ruleNamed_1 7 rfl rfl)
abbrev cX6_settles : ByteArray := prog_12_method_9_code
def yX6_settles : MethodName := ⟨RX6, "settles", "()V"⟩
def dkwX6_settles_3 : List UInt8 := [132, 1, 1, 167, 255, 183, 177]
abbrev dktX6_settles_3 : List UInt8 := dkwX6_settles_3 ++ []
def dkwX6_settles_2 : List UInt8 := [28, 27, 4, 100, 182, 0, 66, 128, 42, 28, 27, 4, 96, 182, 0, 66, 128, 79, 132, 2, 1, 167, 255, 199]
abbrev dktX6_settles_2 : List UInt8 := dkwX6_settles_2 ++ dktX6_settles_3
def dkwX6_settles_1 : List UInt8 := [42, 28, 27, 182, 0, 62, 42, 28, 4, 100, 27, 182, 0, 66, 42, 28, 4, 96, 27, 182, 0, 66, 128, 42]
abbrev dktX6_settles_1 : List UInt8 := dkwX6_settles_1 ++ dktX6_settles_2
def dkwX6_settles_0 : List UInt8 := [3, 60, 27, 42, 180, 0, 15, 162, 0, 71, 3, 61, 28, 42, 180, 0, 9, 162, 0, 55, 42, 180, 0, 21]
abbrev dktX6_settles_0 : List UInt8 := dkwX6_settles_0 ++ dktX6_settles_1
theorem dksX6_settles_0 : cX6_settles.data.toList.drop 0 = dktX6_settles_0 := by decide +kernel
theorem dksX6_settles_1 : cX6_settles.data.toList.drop 24 = dktX6_settles_1 := dk_seg dksX6_settles_0 24 rfl rfl
theorem dksX6_settles_2 : cX6_settles.data.toList.drop 48 = dktX6_settles_2 := dk_seg dksX6_settles_1 24 rfl rfl
theorem dksX6_settles_3 : cX6_settles.data.toList.drop 72 = dktX6_settles_3 := dk_seg dksX6_settles_2 24 rfl rfl
theorem dX6_settles_0 : decode cX6_settles 0 = .ok (.iconst 0, 1) := dk_3 (dk_at dksX6_settles_0 0 rfl rfl)
theorem dX6_settles_1 : decode cX6_settles 1 = .ok (.istore_n 1, 1) := dk_60 (dk_at dksX6_settles_0 1 rfl rfl)
theorem dX6_settles_2 : decode cX6_settles 2 = .ok (.iload_n 1, 1) := dk_27 (dk_at dksX6_settles_0 2 rfl rfl)
theorem dX6_settles_3 : decode cX6_settles 3 = .ok (.aload_n 0, 1) := dk_42 (dk_at dksX6_settles_0 3 rfl rfl)
theorem dX6_settles_4 : decode cX6_settles 4 = .ok (.getfield 15, 3) := dk_180 0 15 (dk_at dksX6_settles_0 4 rfl rfl)
theorem dX6_settles_7 : decode cX6_settles 7 = .ok (.if_icmp .ge 71, 3) := dk_162 0 71 (dk_at dksX6_settles_0 7 rfl rfl)
theorem dX6_settles_10 : decode cX6_settles 10 = .ok (.iconst 0, 1) := dk_3 (dk_at dksX6_settles_0 10 rfl rfl)
theorem dX6_settles_11 : decode cX6_settles 11 = .ok (.istore_n 2, 1) := dk_61 (dk_at dksX6_settles_0 11 rfl rfl)
theorem dX6_settles_12 : decode cX6_settles 12 = .ok (.iload_n 2, 1) := dk_28 (dk_at dksX6_settles_0 12 rfl rfl)
theorem dX6_settles_13 : decode cX6_settles 13 = .ok (.aload_n 0, 1) := dk_42 (dk_at dksX6_settles_0 13 rfl rfl)
theorem dX6_settles_14 : decode cX6_settles 14 = .ok (.getfield 9, 3) := dk_180 0 9 (dk_at dksX6_settles_0 14 rfl rfl)
theorem dX6_settles_17 : decode cX6_settles 17 = .ok (.if_icmp .ge 55, 3) := dk_162 0 55 (dk_at dksX6_settles_0 17 rfl rfl)
theorem dX6_settles_20 : decode cX6_settles 20 = .ok (.aload_n 0, 1) := dk_42 (dk_at dksX6_settles_0 20 rfl rfl)
theorem dX6_settles_21 : decode cX6_settles 21 = .ok (.getfield 21, 3) := dk_180 0 21 (dk_at dksX6_settles_0 21 rfl rfl)
theorem dX6_settles_24 : decode cX6_settles 24 = .ok (.aload_n 0, 1) := dk_42 (dk_at dksX6_settles_1 0 rfl rfl)
theorem dX6_settles_25 : decode cX6_settles 25 = .ok (.iload_n 2, 1) := dk_28 (dk_at dksX6_settles_1 1 rfl rfl)
theorem dX6_settles_26 : decode cX6_settles 26 = .ok (.iload_n 1, 1) := dk_27 (dk_at dksX6_settles_1 2 rfl rfl)
theorem dX6_settles_27 : decode cX6_settles 27 = .ok (.invokevirtual 62, 3) := dk_182 0 62 (dk_at dksX6_settles_1 3 rfl rfl)
theorem dX6_settles_30 : decode cX6_settles 30 = .ok (.aload_n 0, 1) := dk_42 (dk_at dksX6_settles_1 6 rfl rfl)
theorem dX6_settles_31 : decode cX6_settles 31 = .ok (.iload_n 2, 1) := dk_28 (dk_at dksX6_settles_1 7 rfl rfl)
theorem dX6_settles_32 : decode cX6_settles 32 = .ok (.iconst 1, 1) := dk_4 (dk_at dksX6_settles_1 8 rfl rfl)
theorem dX6_settles_33 : decode cX6_settles 33 = .ok (.isub, 1) := dk_100 (dk_at dksX6_settles_1 9 rfl rfl)
theorem dX6_settles_34 : decode cX6_settles 34 = .ok (.iload_n 1, 1) := dk_27 (dk_at dksX6_settles_1 10 rfl rfl)
theorem dX6_settles_35 : decode cX6_settles 35 = .ok (.invokevirtual 66, 3) := dk_182 0 66 (dk_at dksX6_settles_1 11 rfl rfl)
theorem dX6_settles_38 : decode cX6_settles 38 = .ok (.aload_n 0, 1) := dk_42 (dk_at dksX6_settles_1 14 rfl rfl)
theorem dX6_settles_39 : decode cX6_settles 39 = .ok (.iload_n 2, 1) := dk_28 (dk_at dksX6_settles_1 15 rfl rfl)
theorem dX6_settles_40 : decode cX6_settles 40 = .ok (.iconst 1, 1) := dk_4 (dk_at dksX6_settles_1 16 rfl rfl)
theorem dX6_settles_41 : decode cX6_settles 41 = .ok (.iadd, 1) := dk_96 (dk_at dksX6_settles_1 17 rfl rfl)
theorem dX6_settles_42 : decode cX6_settles 42 = .ok (.iload_n 1, 1) := dk_27 (dk_at dksX6_settles_1 18 rfl rfl)
theorem dX6_settles_43 : decode cX6_settles 43 = .ok (.invokevirtual 66, 3) := dk_182 0 66 (dk_at dksX6_settles_1 19 rfl rfl)
theorem dX6_settles_46 : decode cX6_settles 46 = .ok (.ior, 1) := dk_128 (dk_at dksX6_settles_1 22 rfl rfl)
theorem dX6_settles_47 : decode cX6_settles 47 = .ok (.aload_n 0, 1) := dk_42 (dk_at dksX6_settles_1 23 rfl rfl)
theorem dX6_settles_48 : decode cX6_settles 48 = .ok (.iload_n 2, 1) := dk_28 (dk_at dksX6_settles_2 0 rfl rfl)
theorem dX6_settles_49 : decode cX6_settles 49 = .ok (.iload_n 1, 1) := dk_27 (dk_at dksX6_settles_2 1 rfl rfl)
theorem dX6_settles_50 : decode cX6_settles 50 = .ok (.iconst 1, 1) := dk_4 (dk_at dksX6_settles_2 2 rfl rfl)
theorem dX6_settles_51 : decode cX6_settles 51 = .ok (.isub, 1) := dk_100 (dk_at dksX6_settles_2 3 rfl rfl)
theorem dX6_settles_52 : decode cX6_settles 52 = .ok (.invokevirtual 66, 3) := dk_182 0 66 (dk_at dksX6_settles_2 4 rfl rfl)
theorem dX6_settles_55 : decode cX6_settles 55 = .ok (.ior, 1) := dk_128 (dk_at dksX6_settles_2 7 rfl rfl)
theorem dX6_settles_56 : decode cX6_settles 56 = .ok (.aload_n 0, 1) := dk_42 (dk_at dksX6_settles_2 8 rfl rfl)
theorem dX6_settles_57 : decode cX6_settles 57 = .ok (.iload_n 2, 1) := dk_28 (dk_at dksX6_settles_2 9 rfl rfl)
theorem dX6_settles_58 : decode cX6_settles 58 = .ok (.iload_n 1, 1) := dk_27 (dk_at dksX6_settles_2 10 rfl rfl)
theorem dX6_settles_59 : decode cX6_settles 59 = .ok (.iconst 1, 1) := dk_4 (dk_at dksX6_settles_2 11 rfl rfl)
theorem dX6_settles_60 : decode cX6_settles 60 = .ok (.iadd, 1) := dk_96 (dk_at dksX6_settles_2 12 rfl rfl)
theorem dX6_settles_61 : decode cX6_settles 61 = .ok (.invokevirtual 66, 3) := dk_182 0 66 (dk_at dksX6_settles_2 13 rfl rfl)
theorem dX6_settles_64 : decode cX6_settles 64 = .ok (.ior, 1) := dk_128 (dk_at dksX6_settles_2 16 rfl rfl)
theorem dX6_settles_65 : decode cX6_settles 65 = .ok (.iastore, 1) := dk_79 (dk_at dksX6_settles_2 17 rfl rfl)
theorem dX6_settles_66 : decode cX6_settles 66 = .ok (.iinc 2 1, 3) := dk_132 2 1 (dk_at dksX6_settles_2 18 rfl rfl)
theorem dX6_settles_69 : decode cX6_settles 69 = .ok (.goto (-57), 3) := dk_167 255 199 (dk_at dksX6_settles_2 21 rfl rfl)
theorem dX6_settles_72 : decode cX6_settles 72 = .ok (.iinc 1 1, 3) := dk_132 1 1 (dk_at dksX6_settles_3 0 rfl rfl)
theorem dX6_settles_75 : decode cX6_settles 75 = .ok (.goto (-73), 3) := dk_167 255 183 (dk_at dksX6_settles_3 3 rfl rfl)
theorem dX6_settles_78 : decode cX6_settles 78 = .ok (.return_, 1) := dk_177 (dk_at dksX6_settles_3 6 rfl rfl)
abbrev cX6_bit : ByteArray := prog_12_method_8_code
def yX6_bit : MethodName := ⟨RX6, "bit", "(II)I"⟩
def dkwX6_bit_2 : List UInt8 := [167, 0, 16, 4, 42, 29, 28, 182, 0, 62, 120, 42, 180, 0, 18, 126, 172]
abbrev dktX6_bit_2 : List UInt8 := dkwX6_bit_2 ++ []
def dkwX6_bit_1 : List UInt8 := [155, 0, 23, 29, 42, 180, 0, 9, 162, 0, 15, 28, 155, 0, 11, 28, 42, 180, 0, 15, 161, 0, 7, 3]
abbrev dktX6_bit_1 : List UInt8 := dkwX6_bit_1 ++ dktX6_bit_2
def dkwX6_bit_0 : List UInt8 := [42, 182, 0, 58, 153, 0, 17, 27, 42, 180, 0, 9, 96, 42, 180, 0, 9, 112, 167, 0, 4, 27, 62, 29]
abbrev dktX6_bit_0 : List UInt8 := dkwX6_bit_0 ++ dktX6_bit_1
theorem dksX6_bit_0 : cX6_bit.data.toList.drop 0 = dktX6_bit_0 := by decide +kernel
theorem dksX6_bit_1 : cX6_bit.data.toList.drop 24 = dktX6_bit_1 := dk_seg dksX6_bit_0 24 rfl rfl
theorem dksX6_bit_2 : cX6_bit.data.toList.drop 48 = dktX6_bit_2 := dk_seg dksX6_bit_1 24 rfl rfl
theorem dX6_bit_0 : decode cX6_bit 0 = .ok (.aload_n 0, 1) := dk_42 (dk_at dksX6_bit_0 0 rfl rfl)
theorem dX6_bit_1 : decode cX6_bit 1 = .ok (.invokevirtual 58, 3) := dk_182 0 58 (dk_at dksX6_bit_0 1 rfl rfl)
theorem dX6_bit_4 : decode cX6_bit 4 = .ok (.ifCond .eq 17, 3) := dk_153 0 17 (dk_at dksX6_bit_0 4 rfl rfl)
theorem dX6_bit_7 : decode cX6_bit 7 = .ok (.iload_n 1, 1) := dk_27 (dk_at dksX6_bit_0 7 rfl rfl)
theorem dX6_bit_8 : decode cX6_bit 8 = .ok (.aload_n 0, 1) := dk_42 (dk_at dksX6_bit_0 8 rfl rfl)
theorem dX6_bit_9 : decode cX6_bit 9 = .ok (.getfield 9, 3) := dk_180 0 9 (dk_at dksX6_bit_0 9 rfl rfl)
theorem dX6_bit_12 : decode cX6_bit 12 = .ok (.iadd, 1) := dk_96 (dk_at dksX6_bit_0 12 rfl rfl)
theorem dX6_bit_13 : decode cX6_bit 13 = .ok (.aload_n 0, 1) := dk_42 (dk_at dksX6_bit_0 13 rfl rfl)
theorem dX6_bit_14 : decode cX6_bit 14 = .ok (.getfield 9, 3) := dk_180 0 9 (dk_at dksX6_bit_0 14 rfl rfl)
theorem dX6_bit_17 : decode cX6_bit 17 = .ok (.irem, 1) := dk_112 (dk_at dksX6_bit_0 17 rfl rfl)
theorem dX6_bit_18 : decode cX6_bit 18 = .ok (.goto 4, 3) := dk_167 0 4 (dk_at dksX6_bit_0 18 rfl rfl)
theorem dX6_bit_21 : decode cX6_bit 21 = .ok (.iload_n 1, 1) := dk_27 (dk_at dksX6_bit_0 21 rfl rfl)
theorem dX6_bit_22 : decode cX6_bit 22 = .ok (.istore_n 3, 1) := dk_62 (dk_at dksX6_bit_0 22 rfl rfl)
theorem dX6_bit_23 : decode cX6_bit 23 = .ok (.iload_n 3, 1) := dk_29 (dk_at dksX6_bit_0 23 rfl rfl)
theorem dX6_bit_24 : decode cX6_bit 24 = .ok (.ifCond .lt 23, 3) := dk_155 0 23 (dk_at dksX6_bit_1 0 rfl rfl)
theorem dX6_bit_27 : decode cX6_bit 27 = .ok (.iload_n 3, 1) := dk_29 (dk_at dksX6_bit_1 3 rfl rfl)
theorem dX6_bit_28 : decode cX6_bit 28 = .ok (.aload_n 0, 1) := dk_42 (dk_at dksX6_bit_1 4 rfl rfl)
theorem dX6_bit_29 : decode cX6_bit 29 = .ok (.getfield 9, 3) := dk_180 0 9 (dk_at dksX6_bit_1 5 rfl rfl)
theorem dX6_bit_32 : decode cX6_bit 32 = .ok (.if_icmp .ge 15, 3) := dk_162 0 15 (dk_at dksX6_bit_1 8 rfl rfl)
theorem dX6_bit_35 : decode cX6_bit 35 = .ok (.iload_n 2, 1) := dk_28 (dk_at dksX6_bit_1 11 rfl rfl)
theorem dX6_bit_36 : decode cX6_bit 36 = .ok (.ifCond .lt 11, 3) := dk_155 0 11 (dk_at dksX6_bit_1 12 rfl rfl)
theorem dX6_bit_39 : decode cX6_bit 39 = .ok (.iload_n 2, 1) := dk_28 (dk_at dksX6_bit_1 15 rfl rfl)
theorem dX6_bit_40 : decode cX6_bit 40 = .ok (.aload_n 0, 1) := dk_42 (dk_at dksX6_bit_1 16 rfl rfl)
theorem dX6_bit_41 : decode cX6_bit 41 = .ok (.getfield 15, 3) := dk_180 0 15 (dk_at dksX6_bit_1 17 rfl rfl)
theorem dX6_bit_44 : decode cX6_bit 44 = .ok (.if_icmp .lt 7, 3) := dk_161 0 7 (dk_at dksX6_bit_1 20 rfl rfl)
theorem dX6_bit_47 : decode cX6_bit 47 = .ok (.iconst 0, 1) := dk_3 (dk_at dksX6_bit_1 23 rfl rfl)
theorem dX6_bit_48 : decode cX6_bit 48 = .ok (.goto 16, 3) := dk_167 0 16 (dk_at dksX6_bit_2 0 rfl rfl)
theorem dX6_bit_51 : decode cX6_bit 51 = .ok (.iconst 1, 1) := dk_4 (dk_at dksX6_bit_2 3 rfl rfl)
theorem dX6_bit_52 : decode cX6_bit 52 = .ok (.aload_n 0, 1) := dk_42 (dk_at dksX6_bit_2 4 rfl rfl)
theorem dX6_bit_53 : decode cX6_bit 53 = .ok (.iload_n 3, 1) := dk_29 (dk_at dksX6_bit_2 5 rfl rfl)
theorem dX6_bit_54 : decode cX6_bit 54 = .ok (.iload_n 2, 1) := dk_28 (dk_at dksX6_bit_2 6 rfl rfl)
theorem dX6_bit_55 : decode cX6_bit 55 = .ok (.invokevirtual 62, 3) := dk_182 0 62 (dk_at dksX6_bit_2 7 rfl rfl)
theorem dX6_bit_58 : decode cX6_bit 58 = .ok (.ishl, 1) := dk_120 (dk_at dksX6_bit_2 10 rfl rfl)
theorem dX6_bit_59 : decode cX6_bit 59 = .ok (.aload_n 0, 1) := dk_42 (dk_at dksX6_bit_2 11 rfl rfl)
theorem dX6_bit_60 : decode cX6_bit 60 = .ok (.getfield 18, 3) := dk_180 0 18 (dk_at dksX6_bit_2 12 rfl rfl)
theorem dX6_bit_63 : decode cX6_bit 63 = .ok (.iand, 1) := dk_126 (dk_at dksX6_bit_2 15 rfl rfl)
theorem dX6_bit_64 : decode cX6_bit 64 = .ok (.ireturn, 1) := dk_172 (dk_at dksX6_bit_2 16 rfl rfl)
abbrev cX6_joins : ByteArray := prog_12_method_7_code
def yX6_joins : MethodName := ⟨RX6, "joins", "()Z"⟩
def dkwX6_joins_0 : List UInt8 := [42, 180, 0, 54, 153, 0, 15, 42, 180, 0, 9, 5, 164, 0, 7, 4, 167, 0, 4, 3, 172]
abbrev dktX6_joins_0 : List UInt8 := dkwX6_joins_0 ++ []
theorem dksX6_joins_0 : cX6_joins.data.toList.drop 0 = dktX6_joins_0 := by decide +kernel
theorem dX6_joins_0 : decode cX6_joins 0 = .ok (.aload_n 0, 1) := dk_42 (dk_at dksX6_joins_0 0 rfl rfl)
theorem dX6_joins_1 : decode cX6_joins 1 = .ok (.getfield 54, 3) := dk_180 0 54 (dk_at dksX6_joins_0 1 rfl rfl)
theorem dX6_joins_4 : decode cX6_joins 4 = .ok (.ifCond .eq 15, 3) := dk_153 0 15 (dk_at dksX6_joins_0 4 rfl rfl)
theorem dX6_joins_7 : decode cX6_joins 7 = .ok (.aload_n 0, 1) := dk_42 (dk_at dksX6_joins_0 7 rfl rfl)
theorem dX6_joins_8 : decode cX6_joins 8 = .ok (.getfield 9, 3) := dk_180 0 9 (dk_at dksX6_joins_0 8 rfl rfl)
theorem dX6_joins_11 : decode cX6_joins 11 = .ok (.iconst 2, 1) := dk_5 (dk_at dksX6_joins_0 11 rfl rfl)
theorem dX6_joins_12 : decode cX6_joins 12 = .ok (.if_icmp .le 7, 3) := dk_164 0 7 (dk_at dksX6_joins_0 12 rfl rfl)
theorem dX6_joins_15 : decode cX6_joins 15 = .ok (.iconst 1, 1) := dk_4 (dk_at dksX6_joins_0 15 rfl rfl)
theorem dX6_joins_16 : decode cX6_joins 16 = .ok (.goto 4, 3) := dk_167 0 4 (dk_at dksX6_joins_0 16 rfl rfl)
theorem dX6_joins_19 : decode cX6_joins 19 = .ok (.iconst 0, 1) := dk_3 (dk_at dksX6_joins_0 19 rfl rfl)
theorem dX6_joins_20 : decode cX6_joins 20 = .ok (.ireturn, 1) := dk_172 (dk_at dksX6_joins_0 20 rfl rfl)
abbrev cX6_stuck : ByteArray := prog_12_method_4_code
def yX6_stuck : MethodName := ⟨RX6, "stuck", "()I"⟩
def dkwX6_stuck_0 : List UInt8 := [42, 180, 0, 44, 42, 180, 0, 47, 128, 172]
abbrev dktX6_stuck_0 : List UInt8 := dkwX6_stuck_0 ++ []
theorem dksX6_stuck_0 : cX6_stuck.data.toList.drop 0 = dktX6_stuck_0 := by decide +kernel
theorem dX6_stuck_0 : decode cX6_stuck 0 = .ok (.aload_n 0, 1) := dk_42 (dk_at dksX6_stuck_0 0 rfl rfl)
theorem dX6_stuck_1 : decode cX6_stuck 1 = .ok (.getfield 44, 3) := dk_180 0 44 (dk_at dksX6_stuck_0 1 rfl rfl)
theorem dX6_stuck_4 : decode cX6_stuck 4 = .ok (.aload_n 0, 1) := dk_42 (dk_at dksX6_stuck_0 4 rfl rfl)
theorem dX6_stuck_5 : decode cX6_stuck 5 = .ok (.getfield 47, 3) := dk_180 0 47 (dk_at dksX6_stuck_0 5 rfl rfl)
theorem dX6_stuck_8 : decode cX6_stuck 8 = .ok (.ior, 1) := dk_128 (dk_at dksX6_stuck_0 8 rfl rfl)
theorem dX6_stuck_9 : decode cX6_stuck 9 = .ok (.ireturn, 1) := dk_172 (dk_at dksX6_stuck_0 9 rfl rfl)
abbrev cX6_isHouse : ByteArray := prog_12_method_6_code
def yX6_isHouse : MethodName := ⟨RX6, "isHouse", "(I)Z"⟩
def dkwX6_isHouse_0 : List UInt8 := [42, 180, 0, 18, 27, 122, 4, 126, 4, 160, 0, 7, 4, 167, 0, 4, 3, 172]
abbrev dktX6_isHouse_0 : List UInt8 := dkwX6_isHouse_0 ++ []
theorem dksX6_isHouse_0 : cX6_isHouse.data.toList.drop 0 = dktX6_isHouse_0 := by decide +kernel
theorem dX6_isHouse_0 : decode cX6_isHouse 0 = .ok (.aload_n 0, 1) := dk_42 (dk_at dksX6_isHouse_0 0 rfl rfl)
theorem dX6_isHouse_1 : decode cX6_isHouse 1 = .ok (.getfield 18, 3) := dk_180 0 18 (dk_at dksX6_isHouse_0 1 rfl rfl)
theorem dX6_isHouse_4 : decode cX6_isHouse 4 = .ok (.iload_n 1, 1) := dk_27 (dk_at dksX6_isHouse_0 4 rfl rfl)
theorem dX6_isHouse_5 : decode cX6_isHouse 5 = .ok (.ishr, 1) := dk_122 (dk_at dksX6_isHouse_0 5 rfl rfl)
theorem dX6_isHouse_6 : decode cX6_isHouse 6 = .ok (.iconst 1, 1) := dk_4 (dk_at dksX6_isHouse_0 6 rfl rfl)
theorem dX6_isHouse_7 : decode cX6_isHouse 7 = .ok (.iand, 1) := dk_126 (dk_at dksX6_isHouse_0 7 rfl rfl)
theorem dX6_isHouse_8 : decode cX6_isHouse 8 = .ok (.iconst 1, 1) := dk_4 (dk_at dksX6_isHouse_0 8 rfl rfl)
theorem dX6_isHouse_9 : decode cX6_isHouse 9 = .ok (.if_icmp .ne 7, 3) := dk_160 0 7 (dk_at dksX6_isHouse_0 9 rfl rfl)
theorem dX6_isHouse_12 : decode cX6_isHouse 12 = .ok (.iconst 1, 1) := dk_4 (dk_at dksX6_isHouse_0 12 rfl rfl)
theorem dX6_isHouse_13 : decode cX6_isHouse 13 = .ok (.goto 4, 3) := dk_167 0 4 (dk_at dksX6_isHouse_0 13 rfl rfl)
theorem dX6_isHouse_16 : decode cX6_isHouse 16 = .ok (.iconst 0, 1) := dk_3 (dk_at dksX6_isHouse_0 16 rfl rfl)
theorem dX6_isHouse_17 : decode cX6_isHouse 17 = .ok (.ireturn, 1) := dk_172 (dk_at dksX6_isHouse_0 17 rfl rfl)
abbrev cX6_free : ByteArray := prog_12_method_5_code
def yX6_free : MethodName := ⟨RX6, "free", "()I"⟩
def dkwX6_free_0 : List UInt8 := [42, 180, 0, 18, 42, 182, 0, 50, 2, 130, 126, 172]
abbrev dktX6_free_0 : List UInt8 := dkwX6_free_0 ++ []
theorem dksX6_free_0 : cX6_free.data.toList.drop 0 = dktX6_free_0 := by decide +kernel
theorem dX6_free_0 : decode cX6_free 0 = .ok (.aload_n 0, 1) := dk_42 (dk_at dksX6_free_0 0 rfl rfl)
theorem dX6_free_1 : decode cX6_free 1 = .ok (.getfield 18, 3) := dk_180 0 18 (dk_at dksX6_free_0 1 rfl rfl)
theorem dX6_free_4 : decode cX6_free 4 = .ok (.aload_n 0, 1) := dk_42 (dk_at dksX6_free_0 4 rfl rfl)
theorem dX6_free_5 : decode cX6_free 5 = .ok (.invokevirtual 50, 3) := dk_182 0 50 (dk_at dksX6_free_0 5 rfl rfl)
theorem dX6_free_8 : decode cX6_free 8 = .ok (.iconst (-1), 1) := dk_2 (dk_at dksX6_free_0 8 rfl rfl)
theorem dX6_free_9 : decode cX6_free 9 = .ok (.ixor, 1) := dk_130 (dk_at dksX6_free_0 9 rfl rfl)
theorem dX6_free_10 : decode cX6_free 10 = .ok (.iand, 1) := dk_126 (dk_at dksX6_free_0 10 rfl rfl)
theorem dX6_free_11 : decode cX6_free 11 = .ok (.ireturn, 1) := dk_172 (dk_at dksX6_free_0 11 rfl rfl)
abbrev cX6_cells : ByteArray := prog_12_method_2_code
def yX6_cells : MethodName := ⟨RX6, "cells", "()I"⟩
def dkwX6_cells_0 : List UInt8 := [42, 180, 0, 9, 42, 180, 0, 15, 104, 172]
abbrev dktX6_cells_0 : List UInt8 := dkwX6_cells_0 ++ []
theorem dksX6_cells_0 : cX6_cells.data.toList.drop 0 = dktX6_cells_0 := by decide +kernel
theorem dX6_cells_0 : decode cX6_cells 0 = .ok (.aload_n 0, 1) := dk_42 (dk_at dksX6_cells_0 0 rfl rfl)
theorem dX6_cells_1 : decode cX6_cells 1 = .ok (.getfield 9, 3) := dk_180 0 9 (dk_at dksX6_cells_0 1 rfl rfl)
theorem dX6_cells_4 : decode cX6_cells 4 = .ok (.aload_n 0, 1) := dk_42 (dk_at dksX6_cells_0 4 rfl rfl)
theorem dX6_cells_5 : decode cX6_cells 5 = .ok (.getfield 15, 3) := dk_180 0 15 (dk_at dksX6_cells_0 5 rfl rfl)
theorem dX6_cells_8 : decode cX6_cells 8 = .ok (.imul, 1) := dk_104 (dk_at dksX6_cells_0 8 rfl rfl)
theorem dX6_cells_9 : decode cX6_cells 9 = .ok (.ireturn, 1) := dk_172 (dk_at dksX6_cells_0 9 rfl rfl)
theorem q143 : (Jvm.Cond.initialized "WindowHill$Town") ∈ lw_all := lw_g (lw_at lw_m1 9 rfl) rfl
theorem q286 : (Jvm.Cond.instantiable "WindowHill$Town" (15 : Nat)) ∈ lw_all := lw_g (lw_at lw_m1 152 rfl) rfl
theorem q288 : (Jvm.Cond.instanceMethod ({ cls := "WindowHill$Town", name := "<init>", desc := "()V" } : Jvm.MethodName)) ∈ lw_all := lw_g (lw_at lw_m1 154 rfl) rfl
theorem q289 : (Jvm.Cond.code ({ cls := "WindowHill$Town", name := "<init>", desc := "()V" } : Jvm.MethodName) prog_12_method_1_code (1 : Nat) (Option.none : Option Jvm.ClassFile.FieldType)) ∈ lw_all := lw_g (lw_at lw_m1 155 rfl) rfl
theorem q290 : (Jvm.Cond.methodLink "WindowHill$Town" (3 : Nat) ({ cls := "java/lang/Object", name := "<init>", desc := "()V" } : Jvm.MethodName)) ∈ lw_all := lw_g (lw_at lw_m1 156 rfl) rfl
theorem q291 : (Jvm.Cond.fieldLink "WindowHill$Town" (9 : Nat) "WindowHill$Town" "wide" "I") ∈ lw_all := lw_g (lw_at lw_m1 157 rfl) rfl
theorem q295 : (Jvm.Cond.fieldLink "WindowHill$Town" (15 : Nat) "WindowHill$Town" "rows" "I") ∈ lw_all := lw_g (lw_at lw_m1 161 rfl) rfl
theorem q299 : (Jvm.Cond.fieldLink "WindowHill$Town" (18 : Nat) "WindowHill$Town" "houses" "I") ∈ lw_all := lw_g (lw_at lw_m1 165 rfl) rfl
theorem q302 : (Jvm.Cond.fieldLink "WindowHill$Town" (44 : Nat) "WindowHill$Town" "always" "I") ∈ lw_all := lw_g (lw_at lw_m1 168 rfl) rfl
theorem q306 : (Jvm.Cond.fieldLink "WindowHill$Town" (47 : Nat) "WindowHill$Town" "never" "I") ∈ lw_all := lw_g (lw_at lw_m1 172 rfl) rfl
theorem q309 : (Jvm.Cond.fieldLink "WindowHill$Town" (69 : Nat) "WindowHill$Town" "rules" "I") ∈ lw_all := lw_g (lw_at lw_m1 175 rfl) rfl
theorem q312 : (Jvm.Cond.fieldLink "WindowHill$Town" (72 : Nat) "WindowHill$Town" "citizens" "I") ∈ lw_all := lw_g (lw_at lw_m1 178 rfl) rfl
theorem q316 : (Jvm.Cond.fieldLink "WindowHill$Town" (54 : Nat) "WindowHill$Town" "ring" "Z") ∈ lw_all := lw_g (lw_at lw_m1 182 rfl) rfl
theorem q318 : (Jvm.Cond.fieldLink "WindowHill$Town" (21 : Nat) "WindowHill$Town" "beside" "[I") ∈ lw_all := lw_g (lw_at lw_m1 184 rfl) rfl
theorem q321 : (Jvm.Cond.fieldLink "WindowHill$Town" (25 : Nat) "WindowHill$Town" "least" "[I") ∈ lw_all := lw_g (lw_at lw_m1 187 rfl) rfl
theorem q325 : (Jvm.Cond.fieldLink "WindowHill$Town" (28 : Nat) "WindowHill$Town" "most" "[I") ∈ lw_all := lw_g (lw_at lw_m1 191 rfl) rfl
theorem q329 : (Jvm.Cond.fieldLink "WindowHill$Town" (31 : Nat) "WindowHill$Town" "ruleNames" "[J") ∈ lw_all := lw_g (lw_at lw_m1 195 rfl) rfl
theorem q331 : (Jvm.Cond.fieldLink "WindowHill$Town" (35 : Nat) "WindowHill$Town" "citizenNames" "[J") ∈ lw_all := lw_g (lw_at lw_m1 197 rfl) rfl
theorem q333 : (Jvm.Cond.fieldLink "WindowHill$Town" (38 : Nat) "WindowHill$Town" "born" "[I") ∈ lw_all := lw_g (lw_at lw_m1 199 rfl) rfl
theorem q336 : (Jvm.Cond.fieldLink "WindowHill$Town" (41 : Nat) "WindowHill$Town" "stays" "[I") ∈ lw_all := lw_g (lw_at lw_m1 202 rfl) rfl
theorem q339 : (Jvm.Cond.lays "WindowHill$Town" "WindowHill$Town" "wide" "I") ∈ lw_all := lw_g (lw_at lw_m1 205 rfl) rfl
theorem q340 : (Jvm.Cond.soleField "WindowHill$Town" "wide") ∈ lw_all := lw_g (lw_at lw_m1 206 rfl) rfl
theorem q341 : (Jvm.Cond.lays "WindowHill$Town" "WindowHill$Town" "rows" "I") ∈ lw_all := lw_g (lw_at lw_m1 207 rfl) rfl
theorem q342 : (Jvm.Cond.soleField "WindowHill$Town" "rows") ∈ lw_all := lw_g (lw_at lw_m1 208 rfl) rfl
theorem q343 : (Jvm.Cond.lays "WindowHill$Town" "WindowHill$Town" "houses" "I") ∈ lw_all := lw_g (lw_at lw_m1 209 rfl) rfl
theorem q344 : (Jvm.Cond.soleField "WindowHill$Town" "houses") ∈ lw_all := lw_g (lw_at lw_m1 210 rfl) rfl
theorem q345 : (Jvm.Cond.lays "WindowHill$Town" "WindowHill$Town" "always" "I") ∈ lw_all := lw_g (lw_at lw_m1 211 rfl) rfl
theorem q346 : (Jvm.Cond.soleField "WindowHill$Town" "always") ∈ lw_all := lw_g (lw_at lw_m1 212 rfl) rfl
theorem q347 : (Jvm.Cond.lays "WindowHill$Town" "WindowHill$Town" "never" "I") ∈ lw_all := lw_g (lw_at lw_m1 213 rfl) rfl
theorem q348 : (Jvm.Cond.soleField "WindowHill$Town" "never") ∈ lw_all := lw_g (lw_at lw_m1 214 rfl) rfl
theorem q349 : (Jvm.Cond.lays "WindowHill$Town" "WindowHill$Town" "rules" "I") ∈ lw_all := lw_g (lw_at lw_m1 215 rfl) rfl
theorem q350 : (Jvm.Cond.soleField "WindowHill$Town" "rules") ∈ lw_all := lw_g (lw_at lw_m1 216 rfl) rfl
theorem q351 : (Jvm.Cond.lays "WindowHill$Town" "WindowHill$Town" "citizens" "I") ∈ lw_all := lw_g (lw_at lw_m1 217 rfl) rfl
theorem q352 : (Jvm.Cond.soleField "WindowHill$Town" "citizens") ∈ lw_all := lw_g (lw_at lw_m1 218 rfl) rfl
theorem q353 : (Jvm.Cond.lays "WindowHill$Town" "WindowHill$Town" "ring" "Z") ∈ lw_all := lw_g (lw_at lw_m1 219 rfl) rfl
theorem q354 : (Jvm.Cond.soleField "WindowHill$Town" "ring") ∈ lw_all := lw_g (lw_at lw_m1 220 rfl) rfl
theorem q355 : (Jvm.Cond.laysFinal "WindowHill$Town" "WindowHill$Town" "beside" "[I") ∈ lw_all := lw_g (lw_at lw_m1 221 rfl) rfl
theorem q356 : (Jvm.Cond.soleField "WindowHill$Town" "beside") ∈ lw_all := lw_g (lw_at lw_m1 222 rfl) rfl
theorem q357 : (Jvm.Cond.laysFinal "WindowHill$Town" "WindowHill$Town" "least" "[I") ∈ lw_all := lw_g (lw_at lw_m1 223 rfl) rfl
theorem q358 : (Jvm.Cond.soleField "WindowHill$Town" "least") ∈ lw_all := lw_g (lw_at lw_m1 224 rfl) rfl
theorem q359 : (Jvm.Cond.laysFinal "WindowHill$Town" "WindowHill$Town" "most" "[I") ∈ lw_all := lw_g (lw_at lw_m1 225 rfl) rfl
theorem q360 : (Jvm.Cond.soleField "WindowHill$Town" "most") ∈ lw_all := lw_g (lw_at lw_m1 226 rfl) rfl
theorem q361 : (Jvm.Cond.laysFinal "WindowHill$Town" "WindowHill$Town" "ruleNames" "[J") ∈ lw_all := lw_g (lw_at lw_m1 227 rfl) rfl
theorem q362 : (Jvm.Cond.soleField "WindowHill$Town" "ruleNames") ∈ lw_all := lw_g (lw_at lw_m1 228 rfl) rfl
theorem q363 : (Jvm.Cond.laysFinal "WindowHill$Town" "WindowHill$Town" "citizenNames" "[J") ∈ lw_all := lw_g (lw_at lw_m1 229 rfl) rfl
theorem q364 : (Jvm.Cond.soleField "WindowHill$Town" "citizenNames") ∈ lw_all := lw_g (lw_at lw_m1 230 rfl) rfl
theorem q365 : (Jvm.Cond.laysFinal "WindowHill$Town" "WindowHill$Town" "born" "[I") ∈ lw_all := lw_g (lw_at lw_m1 231 rfl) rfl
theorem q366 : (Jvm.Cond.soleField "WindowHill$Town" "born") ∈ lw_all := lw_g (lw_at lw_m1 232 rfl) rfl
theorem q367 : (Jvm.Cond.laysFinal "WindowHill$Town" "WindowHill$Town" "stays" "[I") ∈ lw_all := lw_g (lw_at lw_m1 233 rfl) rfl
theorem q368 : (Jvm.Cond.soleField "WindowHill$Town" "stays") ∈ lw_all := lw_g (lw_at lw_m1 234 rfl) rfl
theorem q369 : (Jvm.Cond.superclass "WindowHill$Town" "java/lang/Object") ∈ lw_all := lw_g (lw_at lw_m1 235 rfl) rfl
theorem q764 : (Jvm.Cond.instanceMethod ({ cls := "WindowHill$Town", name := "cell", desc := "(II)I" } : Jvm.MethodName)) ∈ lw_all := lw_g (lw_at lw_m3 150 rfl) rfl
theorem q765 : (Jvm.Cond.selects "WindowHill$Town" ({ cls := "WindowHill$Town", name := "cell", desc := "(II)I" } : Jvm.MethodName) ({ cls := "WindowHill$Town", name := "cell", desc := "(II)I" } : Jvm.MethodName)) ∈ lw_all := lw_g (lw_at lw_m3 151 rfl) rfl
theorem q766 : (Jvm.Cond.code ({ cls := "WindowHill$Town", name := "cell", desc := "(II)I" } : Jvm.MethodName) prog_12_method_3_code (3 : Nat) (Option.some Jvm.ClassFile.FieldType.int)) ∈ lw_all := lw_g (lw_at lw_m3 152 rfl) rfl
theorem q813 : (Jvm.Cond.instanceMethod ({ cls := "WindowHill$Town", name := "isTaken", desc := "(J)Z" } : Jvm.MethodName)) ∈ lw_all := lw_g (lw_at lw_m3 199 rfl) rfl
theorem q814 : (Jvm.Cond.selects "WindowHill$Town" ({ cls := "WindowHill$Town", name := "isTaken", desc := "(J)Z" } : Jvm.MethodName) ({ cls := "WindowHill$Town", name := "isTaken", desc := "(J)Z" } : Jvm.MethodName)) ∈ lw_all := lw_g (lw_at lw_m3 200 rfl) rfl
theorem q815 : (Jvm.Cond.code ({ cls := "WindowHill$Town", name := "isTaken", desc := "(J)Z" } : Jvm.MethodName) prog_12_method_11_code (4 : Nat) (Option.some Jvm.ClassFile.FieldType.boolean)) ∈ lw_all := lw_g (lw_at lw_m3 201 rfl) rfl
theorem q816 : (Jvm.Cond.methodLink "WindowHill$Town" (75 : Nat) ({ cls := "WindowHill$Town", name := "ruleNamed", desc := "(J)I" } : Jvm.MethodName)) ∈ lw_all := lw_g (lw_at lw_m3 202 rfl) rfl
theorem q817 : (Jvm.Cond.instanceMethod ({ cls := "WindowHill$Town", name := "ruleNamed", desc := "(J)I" } : Jvm.MethodName)) ∈ lw_all := lw_g (lw_at lw_m3 203 rfl) rfl
theorem q818 : (Jvm.Cond.selects "WindowHill$Town" ({ cls := "WindowHill$Town", name := "ruleNamed", desc := "(J)I" } : Jvm.MethodName) ({ cls := "WindowHill$Town", name := "ruleNamed", desc := "(J)I" } : Jvm.MethodName)) ∈ lw_all := lw_g (lw_at lw_m3 204 rfl) rfl
theorem q819 : (Jvm.Cond.code ({ cls := "WindowHill$Town", name := "ruleNamed", desc := "(J)I" } : Jvm.MethodName) prog_12_method_10_code (4 : Nat) (Option.some Jvm.ClassFile.FieldType.int)) ∈ lw_all := lw_g (lw_at lw_m3 205 rfl) rfl
theorem q829 : (Jvm.Cond.instanceMethod ({ cls := "WindowHill$Town", name := "settles", desc := "()V" } : Jvm.MethodName)) ∈ lw_all := lw_g (lw_at lw_m3 215 rfl) rfl
theorem q830 : (Jvm.Cond.selects "WindowHill$Town" ({ cls := "WindowHill$Town", name := "settles", desc := "()V" } : Jvm.MethodName) ({ cls := "WindowHill$Town", name := "settles", desc := "()V" } : Jvm.MethodName)) ∈ lw_all := lw_g (lw_at lw_m3 216 rfl) rfl
theorem q831 : (Jvm.Cond.code ({ cls := "WindowHill$Town", name := "settles", desc := "()V" } : Jvm.MethodName) prog_12_method_9_code (3 : Nat) (Option.none : Option Jvm.ClassFile.FieldType)) ∈ lw_all := lw_g (lw_at lw_m3 217 rfl) rfl
theorem q832 : (Jvm.Cond.methodLink "WindowHill$Town" (62 : Nat) ({ cls := "WindowHill$Town", name := "cell", desc := "(II)I" } : Jvm.MethodName)) ∈ lw_all := lw_g (lw_at lw_m3 218 rfl) rfl
theorem q833 : (Jvm.Cond.methodLink "WindowHill$Town" (66 : Nat) ({ cls := "WindowHill$Town", name := "bit", desc := "(II)I" } : Jvm.MethodName)) ∈ lw_all := lw_g (lw_at lw_m3 219 rfl) rfl
theorem q834 : (Jvm.Cond.privateMethod ({ cls := "WindowHill$Town", name := "bit", desc := "(II)I" } : Jvm.MethodName)) ∈ lw_tbl := lw_at lw_m3 220 rfl
theorem q835 : (Jvm.Cond.instanceMethod ({ cls := "WindowHill$Town", name := "bit", desc := "(II)I" } : Jvm.MethodName)) ∈ lw_all := lw_g (lw_at lw_m3 221 rfl) rfl
theorem q836 : (Jvm.Cond.code ({ cls := "WindowHill$Town", name := "bit", desc := "(II)I" } : Jvm.MethodName) prog_12_method_8_code (4 : Nat) (Option.some Jvm.ClassFile.FieldType.int)) ∈ lw_all := lw_g (lw_at lw_m3 222 rfl) rfl
theorem q837 : (Jvm.Cond.methodLink "WindowHill$Town" (58 : Nat) ({ cls := "WindowHill$Town", name := "joins", desc := "()Z" } : Jvm.MethodName)) ∈ lw_all := lw_g (lw_at lw_m3 223 rfl) rfl
theorem q838 : (Jvm.Cond.instanceMethod ({ cls := "WindowHill$Town", name := "joins", desc := "()Z" } : Jvm.MethodName)) ∈ lw_all := lw_g (lw_at lw_m3 224 rfl) rfl
theorem q839 : (Jvm.Cond.selects "WindowHill$Town" ({ cls := "WindowHill$Town", name := "joins", desc := "()Z" } : Jvm.MethodName) ({ cls := "WindowHill$Town", name := "joins", desc := "()Z" } : Jvm.MethodName)) ∈ lw_all := lw_g (lw_at lw_m3 225 rfl) rfl
theorem q840 : (Jvm.Cond.code ({ cls := "WindowHill$Town", name := "joins", desc := "()Z" } : Jvm.MethodName) prog_12_method_7_code (1 : Nat) (Option.some Jvm.ClassFile.FieldType.boolean)) ∈ lw_all := lw_g (lw_at lw_m3 226 rfl) rfl
theorem q973 : (Jvm.Cond.instanceMethod ({ cls := "WindowHill$Town", name := "stuck", desc := "()I" } : Jvm.MethodName)) ∈ lw_all := lw_g (lw_at lw_m4 119 rfl) rfl
theorem q974 : (Jvm.Cond.selects "WindowHill$Town" ({ cls := "WindowHill$Town", name := "stuck", desc := "()I" } : Jvm.MethodName) ({ cls := "WindowHill$Town", name := "stuck", desc := "()I" } : Jvm.MethodName)) ∈ lw_all := lw_g (lw_at lw_m4 120 rfl) rfl
theorem q975 : (Jvm.Cond.code ({ cls := "WindowHill$Town", name := "stuck", desc := "()I" } : Jvm.MethodName) prog_12_method_4_code (1 : Nat) (Option.some Jvm.ClassFile.FieldType.int)) ∈ lw_all := lw_g (lw_at lw_m4 121 rfl) rfl
theorem q1000 : (Jvm.Cond.instanceMethod ({ cls := "WindowHill$Town", name := "isHouse", desc := "(I)Z" } : Jvm.MethodName)) ∈ lw_all := lw_g (lw_at lw_m4 146 rfl) rfl
theorem q1001 : (Jvm.Cond.selects "WindowHill$Town" ({ cls := "WindowHill$Town", name := "isHouse", desc := "(I)Z" } : Jvm.MethodName) ({ cls := "WindowHill$Town", name := "isHouse", desc := "(I)Z" } : Jvm.MethodName)) ∈ lw_all := lw_g (lw_at lw_m4 147 rfl) rfl
theorem q1002 : (Jvm.Cond.code ({ cls := "WindowHill$Town", name := "isHouse", desc := "(I)Z" } : Jvm.MethodName) prog_12_method_6_code (2 : Nat) (Option.some Jvm.ClassFile.FieldType.boolean)) ∈ lw_all := lw_g (lw_at lw_m4 148 rfl) rfl
theorem q1028 : (Jvm.Cond.instanceMethod ({ cls := "WindowHill$Town", name := "free", desc := "()I" } : Jvm.MethodName)) ∈ lw_all := lw_g (lw_at lw_m4 174 rfl) rfl
theorem q1029 : (Jvm.Cond.selects "WindowHill$Town" ({ cls := "WindowHill$Town", name := "free", desc := "()I" } : Jvm.MethodName) ({ cls := "WindowHill$Town", name := "free", desc := "()I" } : Jvm.MethodName)) ∈ lw_all := lw_g (lw_at lw_m4 175 rfl) rfl
theorem q1030 : (Jvm.Cond.code ({ cls := "WindowHill$Town", name := "free", desc := "()I" } : Jvm.MethodName) prog_12_method_5_code (1 : Nat) (Option.some Jvm.ClassFile.FieldType.int)) ∈ lw_all := lw_g (lw_at lw_m4 176 rfl) rfl
theorem q1031 : (Jvm.Cond.methodLink "WindowHill$Town" (50 : Nat) ({ cls := "WindowHill$Town", name := "stuck", desc := "()I" } : Jvm.MethodName)) ∈ lw_all := lw_g (lw_at lw_m4 177 rfl) rfl
theorem q1088 : (Jvm.Cond.instanceMethod ({ cls := "WindowHill$Town", name := "cells", desc := "()I" } : Jvm.MethodName)) ∈ lw_all := lw_g (lw_at lw_m4 234 rfl) rfl
theorem q1089 : (Jvm.Cond.selects "WindowHill$Town" ({ cls := "WindowHill$Town", name := "cells", desc := "()I" } : Jvm.MethodName) ({ cls := "WindowHill$Town", name := "cells", desc := "()I" } : Jvm.MethodName)) ∈ lw_all := lw_g (lw_at lw_m4 235 rfl) rfl
theorem q1090 : (Jvm.Cond.code ({ cls := "WindowHill$Town", name := "cells", desc := "()I" } : Jvm.MethodName) prog_12_method_2_code (1 : Nat) (Option.some Jvm.ClassFile.FieldType.int)) ∈ lw_all := lw_g (lw_at lw_m4 236 rfl) rfl
theorem in_X6 : ∀ w ∈ wsX60, w ∈ lw_all := lw_in wsX60 [339, 341, 343, 345, 347, 349, 351, 353, 355, 357, 359, 361, 363, 365, 367] (by decide +kernel) (by decide +kernel)
