/-! WindowHill -/
set_option maxRecDepth 100000
def RX0 : String := "WindowHill"
def TX0 : u_T := fun k => match k with
  | 0 => ("WindowHill", "trays", "[LWindowHill$Tray;", true)
  | 1 => ("WindowHill", "tape", "[B", true)
  | 2 => ("WindowHill", "taped", "I", false)
  | 3 => ("WindowHill", "faultKind", "I", false)
  | 4 => ("WindowHill", "faultAt", "I", false)
  | 5 => ("WindowHill", "bad", "LWindowHill$Bad;", true)
  | 6 => ("WindowHill", "refused", "LWindowHill$Refused;", true)
  | 7 => ("WindowHill", "status", "I", false)
  | 8 => ("WindowHill", "above", "J", false)
  | 9 => ("WindowHill", "under", "J", false)
  | 10 => ("WindowHill", "now", "LWindowHill$House;", true)
  | 11 => ("WindowHill", "marks", "[LWindowHill$House;", true)
  | 12 => ("WindowHill", "markMany", "I", false)
  | 13 => ("WindowHill", "pictures", "[I", true)
  | 14 => ("WindowHill", "lead", "I", false)
  | 15 => ("WindowHill", "round", "I", false)
  | 16 => ("WindowHill", "ways", "[[J", true)
  | 17 => ("WindowHill", "bestSet", "I", false)
  | 18 => ("WindowHill", "bestMany", "I", false)
  | 19 => ("WindowHill", "left", "I", false)
  | 20 => ("WindowHill", "aside", "LWindowHill$Hill;", true)
  | 21 => ("WindowHill", "last", "[I", true)
  | _ => ("WindowHill", "hasLived", "Z", false)
def tyX0 : Nat → FieldType := fun k => match k with
  | 0 => .array (.object "WindowHill$Tray")
  | 1 => .array .byte
  | 2 => .int
  | 3 => .int
  | 4 => .int
  | 5 => .object "WindowHill$Bad"
  | 6 => .object "WindowHill$Refused"
  | 7 => .int
  | 8 => .long
  | 9 => .long
  | 10 => .object "WindowHill$House"
  | 11 => .array (.object "WindowHill$House")
  | 12 => .int
  | 13 => .array .int
  | 14 => .int
  | 15 => .int
  | 16 => .array (.array .long)
  | 17 => .int
  | 18 => .int
  | 19 => .int
  | 20 => .object "WindowHill$Hill"
  | 21 => .array .int
  | _ => .boolean
abbrev wsX00 : List Cond := u_ws RX0 TX0 23
set_option maxRecDepth 100000 in
theorem nmX0 : ∀ a, a < 23 → ∀ b, b < 23 → a ≠ b → (TX0 a).2.1 ≠ (TX0 b).2.1 := by decide +kernel
set_option maxRecDepth 100000 in
theorem tyX0_ok : ∀ k, k < 23 → parseFieldDescriptor (TX0 k).2.2.1 = some (tyX0 k) := by decide +kernel
abbrev cX0_init : ByteArray := prog_1_method_6_code
def yX0_init : MethodName := ⟨RX0, "<init>", "()V"⟩
def dkwX0_init_6 : List UInt8 := [187, 0, 71, 89, 183, 0, 73, 181, 0, 74, 42, 8, 188, 10, 181, 0, 78, 177]
abbrev dktX0_init_6 : List UInt8 := dkwX0_init_6 ++ []
def dkwX0_init_5 : List UInt8 := [17, 7, 209, 188, 10, 181, 0, 63, 42, 16, 6, 17, 4, 0, 197, 0, 66, 2, 181, 0, 68, 42]
abbrev dktX0_init_5 : List UInt8 := dkwX0_init_5 ++ dktX0_init_6
def dkwX0_init_4 : List UInt8 := [181, 0, 48, 42, 187, 0, 52, 89, 183, 0, 54, 181, 0, 55, 42, 6, 189, 0, 52, 181, 0, 59, 42]
abbrev dktX0_init_4 : List UInt8 := dkwX0_init_4 ++ dktX0_init_5
def dkwX0_init_3 : List UInt8 := [187, 0, 34, 89, 183, 0, 36, 181, 0, 37, 42, 187, 0, 41, 89, 183, 0, 43, 181, 0, 44, 42, 10]
abbrev dktX0_init_3 : List UInt8 := dkwX0_init_3 ++ dktX0_init_4
def dkwX0_init_2 : List UInt8 := [83, 181, 0, 18, 42, 17, 3, 132, 188, 8, 181, 0, 24, 42, 2, 181, 0, 27, 42, 2, 181, 0, 31, 42]
abbrev dktX0_init_2 : List UInt8 := dkwX0_init_2 ++ dktX0_init_3
def dkwX0_init_1 : List UInt8 := [89, 183, 0, 17, 83, 89, 5, 187, 0, 15, 89, 183, 0, 17, 83, 89, 6, 187, 0, 15, 89, 183, 0, 17]
abbrev dktX0_init_1 : List UInt8 := dkwX0_init_1 ++ dktX0_init_2
def dkwX0_init_0 : List UInt8 := [42, 183, 0, 9, 42, 7, 189, 0, 15, 89, 3, 187, 0, 15, 89, 183, 0, 17, 83, 89, 4, 187, 0, 15]
abbrev dktX0_init_0 : List UInt8 := dkwX0_init_0 ++ dktX0_init_1
theorem dksX0_init_0 : cX0_init.data.toList.drop 0 = dktX0_init_0 := by decide +kernel
theorem dksX0_init_1 : cX0_init.data.toList.drop 24 = dktX0_init_1 := dk_seg dksX0_init_0 24 rfl rfl
theorem dksX0_init_2 : cX0_init.data.toList.drop 48 = dktX0_init_2 := dk_seg dksX0_init_1 24 rfl rfl
theorem dksX0_init_3 : cX0_init.data.toList.drop 72 = dktX0_init_3 := dk_seg dksX0_init_2 24 rfl rfl
theorem dksX0_init_4 : cX0_init.data.toList.drop 95 = dktX0_init_4 := dk_seg dksX0_init_3 23 rfl rfl
theorem dksX0_init_5 : cX0_init.data.toList.drop 118 = dktX0_init_5 := dk_seg dksX0_init_4 23 rfl rfl
theorem dksX0_init_6 : cX0_init.data.toList.drop 140 = dktX0_init_6 := dk_seg dksX0_init_5 22 rfl rfl
theorem dX0_init_0 : decode cX0_init 0 = .ok (.aload_n 0, 1) := dk_42 (dk_at dksX0_init_0 0 rfl rfl)
theorem dX0_init_1 : decode cX0_init 1 = .ok (.invokespecial 9, 3) := dk_183 0 9 (dk_at dksX0_init_0 1 rfl rfl)
theorem dX0_init_4 : decode cX0_init 4 = .ok (.aload_n 0, 1) := dk_42 (dk_at dksX0_init_0 4 rfl rfl)
theorem dX0_init_5 : decode cX0_init 5 = .ok (.iconst 4, 1) := dk_7 (dk_at dksX0_init_0 5 rfl rfl)
theorem dX0_init_6 : decode cX0_init 6 = .ok (.anewarray 15, 3) := dk_189 0 15 (dk_at dksX0_init_0 6 rfl rfl)
theorem dX0_init_9 : decode cX0_init 9 = .ok (.dup, 1) := dk_89 (dk_at dksX0_init_0 9 rfl rfl)
theorem dX0_init_10 : decode cX0_init 10 = .ok (.iconst 0, 1) := dk_3 (dk_at dksX0_init_0 10 rfl rfl)
theorem dX0_init_11 : decode cX0_init 11 = .ok (.new 15, 3) := dk_187 0 15 (dk_at dksX0_init_0 11 rfl rfl)
theorem dX0_init_14 : decode cX0_init 14 = .ok (.dup, 1) := dk_89 (dk_at dksX0_init_0 14 rfl rfl)
theorem dX0_init_15 : decode cX0_init 15 = .ok (.invokespecial 17, 3) := dk_183 0 17 (dk_at dksX0_init_0 15 rfl rfl)
theorem dX0_init_18 : decode cX0_init 18 = .ok (.aastore, 1) := dk_83 (dk_at dksX0_init_0 18 rfl rfl)
theorem dX0_init_19 : decode cX0_init 19 = .ok (.dup, 1) := dk_89 (dk_at dksX0_init_0 19 rfl rfl)
theorem dX0_init_20 : decode cX0_init 20 = .ok (.iconst 1, 1) := dk_4 (dk_at dksX0_init_0 20 rfl rfl)
theorem dX0_init_21 : decode cX0_init 21 = .ok (.new 15, 3) := dk_187 0 15 (dk_at dksX0_init_0 21 rfl rfl)
theorem dX0_init_24 : decode cX0_init 24 = .ok (.dup, 1) := dk_89 (dk_at dksX0_init_1 0 rfl rfl)
theorem dX0_init_25 : decode cX0_init 25 = .ok (.invokespecial 17, 3) := dk_183 0 17 (dk_at dksX0_init_1 1 rfl rfl)
theorem dX0_init_28 : decode cX0_init 28 = .ok (.aastore, 1) := dk_83 (dk_at dksX0_init_1 4 rfl rfl)
theorem dX0_init_29 : decode cX0_init 29 = .ok (.dup, 1) := dk_89 (dk_at dksX0_init_1 5 rfl rfl)
theorem dX0_init_30 : decode cX0_init 30 = .ok (.iconst 2, 1) := dk_5 (dk_at dksX0_init_1 6 rfl rfl)
theorem dX0_init_31 : decode cX0_init 31 = .ok (.new 15, 3) := dk_187 0 15 (dk_at dksX0_init_1 7 rfl rfl)
theorem dX0_init_34 : decode cX0_init 34 = .ok (.dup, 1) := dk_89 (dk_at dksX0_init_1 10 rfl rfl)
theorem dX0_init_35 : decode cX0_init 35 = .ok (.invokespecial 17, 3) := dk_183 0 17 (dk_at dksX0_init_1 11 rfl rfl)
theorem dX0_init_38 : decode cX0_init 38 = .ok (.aastore, 1) := dk_83 (dk_at dksX0_init_1 14 rfl rfl)
theorem dX0_init_39 : decode cX0_init 39 = .ok (.dup, 1) := dk_89 (dk_at dksX0_init_1 15 rfl rfl)
theorem dX0_init_40 : decode cX0_init 40 = .ok (.iconst 3, 1) := dk_6 (dk_at dksX0_init_1 16 rfl rfl)
theorem dX0_init_41 : decode cX0_init 41 = .ok (.new 15, 3) := dk_187 0 15 (dk_at dksX0_init_1 17 rfl rfl)
theorem dX0_init_44 : decode cX0_init 44 = .ok (.dup, 1) := dk_89 (dk_at dksX0_init_1 20 rfl rfl)
theorem dX0_init_45 : decode cX0_init 45 = .ok (.invokespecial 17, 3) := dk_183 0 17 (dk_at dksX0_init_1 21 rfl rfl)
theorem dX0_init_48 : decode cX0_init 48 = .ok (.aastore, 1) := dk_83 (dk_at dksX0_init_2 0 rfl rfl)
theorem dX0_init_49 : decode cX0_init 49 = .ok (.putfield 18, 3) := dk_181 0 18 (dk_at dksX0_init_2 1 rfl rfl)
theorem dX0_init_52 : decode cX0_init 52 = .ok (.aload_n 0, 1) := dk_42 (dk_at dksX0_init_2 4 rfl rfl)
theorem dX0_init_53 : decode cX0_init 53 = .ok (.sipush 900, 3) := dk_17 3 132 (dk_at dksX0_init_2 5 rfl rfl)
theorem dX0_init_56 : decode cX0_init 56 = .ok (.newarray .byte, 2) := dk_188_8 (dk_at dksX0_init_2 8 rfl rfl)
theorem dX0_init_58 : decode cX0_init 58 = .ok (.putfield 24, 3) := dk_181 0 24 (dk_at dksX0_init_2 10 rfl rfl)
theorem dX0_init_61 : decode cX0_init 61 = .ok (.aload_n 0, 1) := dk_42 (dk_at dksX0_init_2 13 rfl rfl)
theorem dX0_init_62 : decode cX0_init 62 = .ok (.iconst (-1), 1) := dk_2 (dk_at dksX0_init_2 14 rfl rfl)
theorem dX0_init_63 : decode cX0_init 63 = .ok (.putfield 27, 3) := dk_181 0 27 (dk_at dksX0_init_2 15 rfl rfl)
theorem dX0_init_66 : decode cX0_init 66 = .ok (.aload_n 0, 1) := dk_42 (dk_at dksX0_init_2 18 rfl rfl)
theorem dX0_init_67 : decode cX0_init 67 = .ok (.iconst (-1), 1) := dk_2 (dk_at dksX0_init_2 19 rfl rfl)
theorem dX0_init_68 : decode cX0_init 68 = .ok (.putfield 31, 3) := dk_181 0 31 (dk_at dksX0_init_2 20 rfl rfl)
theorem dX0_init_71 : decode cX0_init 71 = .ok (.aload_n 0, 1) := dk_42 (dk_at dksX0_init_2 23 rfl rfl)
theorem dX0_init_72 : decode cX0_init 72 = .ok (.new 34, 3) := dk_187 0 34 (dk_at dksX0_init_3 0 rfl rfl)
theorem dX0_init_75 : decode cX0_init 75 = .ok (.dup, 1) := dk_89 (dk_at dksX0_init_3 3 rfl rfl)
theorem dX0_init_76 : decode cX0_init 76 = .ok (.invokespecial 36, 3) := dk_183 0 36 (dk_at dksX0_init_3 4 rfl rfl)
theorem dX0_init_79 : decode cX0_init 79 = .ok (.putfield 37, 3) := dk_181 0 37 (dk_at dksX0_init_3 7 rfl rfl)
theorem dX0_init_82 : decode cX0_init 82 = .ok (.aload_n 0, 1) := dk_42 (dk_at dksX0_init_3 10 rfl rfl)
theorem dX0_init_83 : decode cX0_init 83 = .ok (.new 41, 3) := dk_187 0 41 (dk_at dksX0_init_3 11 rfl rfl)
theorem dX0_init_86 : decode cX0_init 86 = .ok (.dup, 1) := dk_89 (dk_at dksX0_init_3 14 rfl rfl)
theorem dX0_init_87 : decode cX0_init 87 = .ok (.invokespecial 43, 3) := dk_183 0 43 (dk_at dksX0_init_3 15 rfl rfl)
theorem dX0_init_90 : decode cX0_init 90 = .ok (.putfield 44, 3) := dk_181 0 44 (dk_at dksX0_init_3 18 rfl rfl)
theorem dX0_init_93 : decode cX0_init 93 = .ok (.aload_n 0, 1) := dk_42 (dk_at dksX0_init_3 21 rfl rfl)
theorem dX0_init_94 : decode cX0_init 94 = .ok (.lconst 1, 1) := dk_10 (dk_at dksX0_init_3 22 rfl rfl)
theorem dX0_init_95 : decode cX0_init 95 = .ok (.putfield 48, 3) := dk_181 0 48 (dk_at dksX0_init_4 0 rfl rfl)
theorem dX0_init_98 : decode cX0_init 98 = .ok (.aload_n 0, 1) := dk_42 (dk_at dksX0_init_4 3 rfl rfl)
theorem dX0_init_99 : decode cX0_init 99 = .ok (.new 52, 3) := dk_187 0 52 (dk_at dksX0_init_4 4 rfl rfl)
theorem dX0_init_102 : decode cX0_init 102 = .ok (.dup, 1) := dk_89 (dk_at dksX0_init_4 7 rfl rfl)
theorem dX0_init_103 : decode cX0_init 103 = .ok (.invokespecial 54, 3) := dk_183 0 54 (dk_at dksX0_init_4 8 rfl rfl)
theorem dX0_init_106 : decode cX0_init 106 = .ok (.putfield 55, 3) := dk_181 0 55 (dk_at dksX0_init_4 11 rfl rfl)
theorem dX0_init_109 : decode cX0_init 109 = .ok (.aload_n 0, 1) := dk_42 (dk_at dksX0_init_4 14 rfl rfl)
theorem dX0_init_110 : decode cX0_init 110 = .ok (.iconst 3, 1) := dk_6 (dk_at dksX0_init_4 15 rfl rfl)
theorem dX0_init_111 : decode cX0_init 111 = .ok (.anewarray 52, 3) := dk_189 0 52 (dk_at dksX0_init_4 16 rfl rfl)
theorem dX0_init_114 : decode cX0_init 114 = .ok (.putfield 59, 3) := dk_181 0 59 (dk_at dksX0_init_4 19 rfl rfl)
theorem dX0_init_117 : decode cX0_init 117 = .ok (.aload_n 0, 1) := dk_42 (dk_at dksX0_init_4 22 rfl rfl)
theorem dX0_init_118 : decode cX0_init 118 = .ok (.sipush 2001, 3) := dk_17 7 209 (dk_at dksX0_init_5 0 rfl rfl)
theorem dX0_init_121 : decode cX0_init 121 = .ok (.newarray .int, 2) := dk_188_10 (dk_at dksX0_init_5 3 rfl rfl)
theorem dX0_init_123 : decode cX0_init 123 = .ok (.putfield 63, 3) := dk_181 0 63 (dk_at dksX0_init_5 5 rfl rfl)
theorem dX0_init_126 : decode cX0_init 126 = .ok (.aload_n 0, 1) := dk_42 (dk_at dksX0_init_5 8 rfl rfl)
theorem dX0_init_127 : decode cX0_init 127 = .ok (.bipush 6, 2) := dk_16 6 (dk_at dksX0_init_5 9 rfl rfl)
theorem dX0_init_129 : decode cX0_init 129 = .ok (.sipush 1024, 3) := dk_17 4 0 (dk_at dksX0_init_5 11 rfl rfl)
theorem dX0_init_132 : decode cX0_init 132 = .ok (.multianewarray 66 2, 4) := by decide +kernel
theorem dX0_init_136 : decode cX0_init 136 = .ok (.putfield 68, 3) := dk_181 0 68 (dk_at dksX0_init_5 18 rfl rfl)
theorem dX0_init_139 : decode cX0_init 139 = .ok (.aload_n 0, 1) := dk_42 (dk_at dksX0_init_5 21 rfl rfl)
theorem dX0_init_140 : decode cX0_init 140 = .ok (.new 71, 3) := dk_187 0 71 (dk_at dksX0_init_6 0 rfl rfl)
theorem dX0_init_143 : decode cX0_init 143 = .ok (.dup, 1) := dk_89 (dk_at dksX0_init_6 3 rfl rfl)
theorem dX0_init_144 : decode cX0_init 144 = .ok (.invokespecial 73, 3) := dk_183 0 73 (dk_at dksX0_init_6 4 rfl rfl)
theorem dX0_init_147 : decode cX0_init 147 = .ok (.putfield 74, 3) := dk_181 0 74 (dk_at dksX0_init_6 7 rfl rfl)
theorem dX0_init_150 : decode cX0_init 150 = .ok (.aload_n 0, 1) := dk_42 (dk_at dksX0_init_6 10 rfl rfl)
theorem dX0_init_151 : decode cX0_init 151 = .ok (.iconst 5, 1) := dk_8 (dk_at dksX0_init_6 11 rfl rfl)
theorem dX0_init_152 : decode cX0_init 152 = .ok (.newarray .int, 2) := dk_188_10 (dk_at dksX0_init_6 12 rfl rfl)
theorem dX0_init_154 : decode cX0_init 154 = .ok (.putfield 78, 3) := dk_181 0 78 (dk_at dksX0_init_6 14 rfl rfl)
theorem dX0_init_157 : decode cX0_init 157 = .ok (.return_, 1) := dk_177 (dk_at dksX0_init_6 17 rfl rfl)
abbrev cX0_status : ByteArray := prog_1_method_7_code
def yX0_status : MethodName := ⟨RX0, "status", "()I"⟩
theorem dX0_status_0 : decode cX0_status 0 = .ok (.aload_n 0, 1) := by decide +kernel
theorem dX0_status_1 : decode cX0_status 1 = .ok (.getfield 81, 3) := by decide +kernel
theorem dX0_status_4 : decode cX0_status 4 = .ok (.ireturn, 1) := by decide +kernel
abbrev cX0_top : ByteArray := prog_1_method_8_code
def yX0_top : MethodName := ⟨RX0, "top", "()J"⟩
theorem dX0_top_0 : decode cX0_top 0 = .ok (.aload_n 0, 1) := by decide +kernel
theorem dX0_top_1 : decode cX0_top 1 = .ok (.getfield 84, 3) := by decide +kernel
theorem dX0_top_4 : decode cX0_top 4 = .ok (.lreturn, 1) := by decide +kernel
abbrev cX0_bottom : ByteArray := prog_1_method_9_code
def yX0_bottom : MethodName := ⟨RX0, "bottom", "()J"⟩
theorem dX0_bottom_0 : decode cX0_bottom 0 = .ok (.aload_n 0, 1) := by decide +kernel
theorem dX0_bottom_1 : decode cX0_bottom 1 = .ok (.getfield 48, 3) := by decide +kernel
theorem dX0_bottom_4 : decode cX0_bottom 4 = .ok (.lreturn, 1) := by decide +kernel
abbrev cX0_tray : ByteArray := prog_1_method_15_code
def yX0_tray : MethodName := ⟨RX0, "tray", "(III)Z"⟩
def dkwX0_tray_3 : List UInt8 := [182, 0, 119, 172]
abbrev dktX0_tray_3 : List UInt8 := dkwX0_tray_3 ++ []
def dkwX0_tray_2 : List UInt8 := [184, 0, 114, 181, 0, 110, 4, 172, 58, 4, 42, 4, 181, 0, 81, 3, 172, 58, 4, 42, 25, 4]
abbrev dktX0_tray_2 : List UInt8 := dkwX0_tray_2 ++ dktX0_tray_3
def dkwX0_tray_1 : List UInt8 := [29, 16, 60, 163, 0, 7, 4, 167, 0, 4, 3, 4, 182, 0, 106, 42, 180, 0, 18, 27, 50, 28, 29]
abbrev dktX0_tray_1 : List UInt8 := dkwX0_tray_1 ++ dktX0_tray_2
def dkwX0_tray_0 : List UInt8 := [42, 3, 181, 0, 81, 42, 27, 155, 0, 27, 27, 7, 162, 0, 22, 28, 155, 0, 18, 28, 6, 163, 0, 13]
abbrev dktX0_tray_0 : List UInt8 := dkwX0_tray_0 ++ dktX0_tray_1
theorem dksX0_tray_0 : cX0_tray.data.toList.drop 0 = dktX0_tray_0 := by decide +kernel
theorem dksX0_tray_1 : cX0_tray.data.toList.drop 24 = dktX0_tray_1 := dk_seg dksX0_tray_0 24 rfl rfl
theorem dksX0_tray_2 : cX0_tray.data.toList.drop 47 = dktX0_tray_2 := dk_seg dksX0_tray_1 23 rfl rfl
theorem dksX0_tray_3 : cX0_tray.data.toList.drop 69 = dktX0_tray_3 := dk_seg dksX0_tray_2 22 rfl rfl
theorem dX0_tray_0 : decode cX0_tray 0 = .ok (.aload_n 0, 1) := dk_42 (dk_at dksX0_tray_0 0 rfl rfl)
theorem dX0_tray_1 : decode cX0_tray 1 = .ok (.iconst 0, 1) := dk_3 (dk_at dksX0_tray_0 1 rfl rfl)
theorem dX0_tray_2 : decode cX0_tray 2 = .ok (.putfield 81, 3) := dk_181 0 81 (dk_at dksX0_tray_0 2 rfl rfl)
theorem dX0_tray_5 : decode cX0_tray 5 = .ok (.aload_n 0, 1) := dk_42 (dk_at dksX0_tray_0 5 rfl rfl)
theorem dX0_tray_6 : decode cX0_tray 6 = .ok (.iload_n 1, 1) := dk_27 (dk_at dksX0_tray_0 6 rfl rfl)
theorem dX0_tray_7 : decode cX0_tray 7 = .ok (.ifCond .lt 27, 3) := dk_155 0 27 (dk_at dksX0_tray_0 7 rfl rfl)
theorem dX0_tray_10 : decode cX0_tray 10 = .ok (.iload_n 1, 1) := dk_27 (dk_at dksX0_tray_0 10 rfl rfl)
theorem dX0_tray_11 : decode cX0_tray 11 = .ok (.iconst 4, 1) := dk_7 (dk_at dksX0_tray_0 11 rfl rfl)
theorem dX0_tray_12 : decode cX0_tray 12 = .ok (.if_icmp .ge 22, 3) := dk_162 0 22 (dk_at dksX0_tray_0 12 rfl rfl)
theorem dX0_tray_15 : decode cX0_tray 15 = .ok (.iload_n 2, 1) := dk_28 (dk_at dksX0_tray_0 15 rfl rfl)
theorem dX0_tray_16 : decode cX0_tray 16 = .ok (.ifCond .lt 18, 3) := dk_155 0 18 (dk_at dksX0_tray_0 16 rfl rfl)
theorem dX0_tray_19 : decode cX0_tray 19 = .ok (.iload_n 2, 1) := dk_28 (dk_at dksX0_tray_0 19 rfl rfl)
theorem dX0_tray_20 : decode cX0_tray 20 = .ok (.iconst 3, 1) := dk_6 (dk_at dksX0_tray_0 20 rfl rfl)
theorem dX0_tray_21 : decode cX0_tray 21 = .ok (.if_icmp .gt 13, 3) := dk_163 0 13 (dk_at dksX0_tray_0 21 rfl rfl)
theorem dX0_tray_24 : decode cX0_tray 24 = .ok (.iload_n 3, 1) := dk_29 (dk_at dksX0_tray_1 0 rfl rfl)
theorem dX0_tray_25 : decode cX0_tray 25 = .ok (.bipush 60, 2) := dk_16 60 (dk_at dksX0_tray_1 1 rfl rfl)
theorem dX0_tray_27 : decode cX0_tray 27 = .ok (.if_icmp .gt 7, 3) := dk_163 0 7 (dk_at dksX0_tray_1 3 rfl rfl)
theorem dX0_tray_30 : decode cX0_tray 30 = .ok (.iconst 1, 1) := dk_4 (dk_at dksX0_tray_1 6 rfl rfl)
theorem dX0_tray_31 : decode cX0_tray 31 = .ok (.goto 4, 3) := dk_167 0 4 (dk_at dksX0_tray_1 7 rfl rfl)
theorem dX0_tray_34 : decode cX0_tray 34 = .ok (.iconst 0, 1) := dk_3 (dk_at dksX0_tray_1 10 rfl rfl)
theorem dX0_tray_35 : decode cX0_tray 35 = .ok (.iconst 1, 1) := dk_4 (dk_at dksX0_tray_1 11 rfl rfl)
theorem dX0_tray_36 : decode cX0_tray 36 = .ok (.invokevirtual 106, 3) := dk_182 0 106 (dk_at dksX0_tray_1 12 rfl rfl)
theorem dX0_tray_39 : decode cX0_tray 39 = .ok (.aload_n 0, 1) := dk_42 (dk_at dksX0_tray_1 15 rfl rfl)
theorem dX0_tray_40 : decode cX0_tray 40 = .ok (.getfield 18, 3) := dk_180 0 18 (dk_at dksX0_tray_1 16 rfl rfl)
theorem dX0_tray_43 : decode cX0_tray 43 = .ok (.iload_n 1, 1) := dk_27 (dk_at dksX0_tray_1 19 rfl rfl)
theorem dX0_tray_44 : decode cX0_tray 44 = .ok (.aaload, 1) := dk_50 (dk_at dksX0_tray_1 20 rfl rfl)
theorem dX0_tray_45 : decode cX0_tray 45 = .ok (.iload_n 2, 1) := dk_28 (dk_at dksX0_tray_1 21 rfl rfl)
theorem dX0_tray_46 : decode cX0_tray 46 = .ok (.iload_n 3, 1) := dk_29 (dk_at dksX0_tray_1 22 rfl rfl)
theorem dX0_tray_47 : decode cX0_tray 47 = .ok (.invokestatic 114, 3) := dk_184 0 114 (dk_at dksX0_tray_2 0 rfl rfl)
theorem dX0_tray_50 : decode cX0_tray 50 = .ok (.putfield 110, 3) := dk_181 0 110 (dk_at dksX0_tray_2 3 rfl rfl)
theorem dX0_tray_53 : decode cX0_tray 53 = .ok (.iconst 1, 1) := dk_4 (dk_at dksX0_tray_2 6 rfl rfl)
theorem dX0_tray_54 : decode cX0_tray 54 = .ok (.ireturn, 1) := dk_172 (dk_at dksX0_tray_2 7 rfl rfl)
theorem dX0_tray_55 : decode cX0_tray 55 = .ok (.astore 4, 2) := dk_58 4 (dk_at dksX0_tray_2 8 rfl rfl)
theorem dX0_tray_57 : decode cX0_tray 57 = .ok (.aload_n 0, 1) := dk_42 (dk_at dksX0_tray_2 10 rfl rfl)
theorem dX0_tray_58 : decode cX0_tray 58 = .ok (.iconst 1, 1) := dk_4 (dk_at dksX0_tray_2 11 rfl rfl)
theorem dX0_tray_59 : decode cX0_tray 59 = .ok (.putfield 81, 3) := dk_181 0 81 (dk_at dksX0_tray_2 12 rfl rfl)
theorem dX0_tray_62 : decode cX0_tray 62 = .ok (.iconst 0, 1) := dk_3 (dk_at dksX0_tray_2 15 rfl rfl)
theorem dX0_tray_63 : decode cX0_tray 63 = .ok (.ireturn, 1) := dk_172 (dk_at dksX0_tray_2 16 rfl rfl)
theorem dX0_tray_64 : decode cX0_tray 64 = .ok (.astore 4, 2) := dk_58 4 (dk_at dksX0_tray_2 17 rfl rfl)
theorem dX0_tray_66 : decode cX0_tray 66 = .ok (.aload_n 0, 1) := dk_42 (dk_at dksX0_tray_2 19 rfl rfl)
theorem dX0_tray_67 : decode cX0_tray 67 = .ok (.aload 4, 2) := dk_25 4 (dk_at dksX0_tray_2 20 rfl rfl)
theorem dX0_tray_69 : decode cX0_tray 69 = .ok (.invokevirtual 119, 3) := dk_182 0 119 (dk_at dksX0_tray_3 0 rfl rfl)
theorem dX0_tray_72 : decode cX0_tray 72 = .ok (.ireturn, 1) := dk_172 (dk_at dksX0_tray_3 3 rfl rfl)
abbrev cX0_want : ByteArray := prog_1_method_10_code
def yX0_want : MethodName := ⟨RX0, "want", "(ZI)V"⟩
def dkwX0_want_0 : List UInt8 := [27, 154, 0, 12, 42, 180, 0, 44, 28, 182, 0, 87, 191, 177]
abbrev dktX0_want_0 : List UInt8 := dkwX0_want_0 ++ []
theorem dksX0_want_0 : cX0_want.data.toList.drop 0 = dktX0_want_0 := by decide +kernel
theorem dX0_want_0 : decode cX0_want 0 = .ok (.iload_n 1, 1) := dk_27 (dk_at dksX0_want_0 0 rfl rfl)
theorem dX0_want_1 : decode cX0_want 1 = .ok (.ifCond .ne 12, 3) := dk_154 0 12 (dk_at dksX0_want_0 1 rfl rfl)
theorem dX0_want_4 : decode cX0_want 4 = .ok (.aload_n 0, 1) := dk_42 (dk_at dksX0_want_0 4 rfl rfl)
theorem dX0_want_5 : decode cX0_want 5 = .ok (.getfield 44, 3) := dk_180 0 44 (dk_at dksX0_want_0 5 rfl rfl)
theorem dX0_want_8 : decode cX0_want 8 = .ok (.iload_n 2, 1) := dk_28 (dk_at dksX0_want_0 8 rfl rfl)
theorem dX0_want_9 : decode cX0_want 9 = .ok (.invokevirtual 87, 3) := dk_182 0 87 (dk_at dksX0_want_0 9 rfl rfl)
theorem dX0_want_12 : decode cX0_want 12 = .ok (.athrow, 1) := dk_191 (dk_at dksX0_want_0 12 rfl rfl)
theorem dX0_want_13 : decode cX0_want 13 = .ok (.return_, 1) := dk_177 (dk_at dksX0_want_0 13 rfl rfl)
abbrev cX0_row : ByteArray := prog_1_method_1_code
def yX0_row : MethodName := ⟨RX0, "row", "(II)Ljava/lang/Object;"⟩
def dkwX0_row_1 : List UInt8 := [160, 0, 9, 27, 188, 10, 167, 0, 6, 27, 188, 11, 176]
abbrev dktX0_row_1 : List UInt8 := dkwX0_row_1 ++ []
def dkwX0_row_0 : List UInt8 := [26, 154, 0, 9, 27, 188, 8, 167, 0, 28, 26, 4, 160, 0, 9, 27, 188, 9, 167, 0, 17, 26, 5]
abbrev dktX0_row_0 : List UInt8 := dkwX0_row_0 ++ dktX0_row_1
theorem dksX0_row_0 : cX0_row.data.toList.drop 0 = dktX0_row_0 := by decide +kernel
theorem dksX0_row_1 : cX0_row.data.toList.drop 23 = dktX0_row_1 := dk_seg dksX0_row_0 23 rfl rfl
theorem dX0_row_0 : decode cX0_row 0 = .ok (.iload_n 0, 1) := dk_26 (dk_at dksX0_row_0 0 rfl rfl)
theorem dX0_row_1 : decode cX0_row 1 = .ok (.ifCond .ne 9, 3) := dk_154 0 9 (dk_at dksX0_row_0 1 rfl rfl)
theorem dX0_row_4 : decode cX0_row 4 = .ok (.iload_n 1, 1) := dk_27 (dk_at dksX0_row_0 4 rfl rfl)
theorem dX0_row_5 : decode cX0_row 5 = .ok (.newarray .byte, 2) := dk_188_8 (dk_at dksX0_row_0 5 rfl rfl)
theorem dX0_row_7 : decode cX0_row 7 = .ok (.goto 28, 3) := dk_167 0 28 (dk_at dksX0_row_0 7 rfl rfl)
theorem dX0_row_10 : decode cX0_row 10 = .ok (.iload_n 0, 1) := dk_26 (dk_at dksX0_row_0 10 rfl rfl)
theorem dX0_row_11 : decode cX0_row 11 = .ok (.iconst 1, 1) := dk_4 (dk_at dksX0_row_0 11 rfl rfl)
theorem dX0_row_12 : decode cX0_row 12 = .ok (.if_icmp .ne 9, 3) := dk_160 0 9 (dk_at dksX0_row_0 12 rfl rfl)
theorem dX0_row_15 : decode cX0_row 15 = .ok (.iload_n 1, 1) := dk_27 (dk_at dksX0_row_0 15 rfl rfl)
theorem dX0_row_16 : decode cX0_row 16 = .ok (.newarray .short, 2) := dk_188_9 (dk_at dksX0_row_0 16 rfl rfl)
theorem dX0_row_18 : decode cX0_row 18 = .ok (.goto 17, 3) := dk_167 0 17 (dk_at dksX0_row_0 18 rfl rfl)
theorem dX0_row_21 : decode cX0_row 21 = .ok (.iload_n 0, 1) := dk_26 (dk_at dksX0_row_0 21 rfl rfl)
theorem dX0_row_22 : decode cX0_row 22 = .ok (.iconst 2, 1) := dk_5 (dk_at dksX0_row_0 22 rfl rfl)
theorem dX0_row_23 : decode cX0_row 23 = .ok (.if_icmp .ne 9, 3) := dk_160 0 9 (dk_at dksX0_row_1 0 rfl rfl)
theorem dX0_row_26 : decode cX0_row 26 = .ok (.iload_n 1, 1) := dk_27 (dk_at dksX0_row_1 3 rfl rfl)
theorem dX0_row_27 : decode cX0_row 27 = .ok (.newarray .int, 2) := dk_188_10 (dk_at dksX0_row_1 4 rfl rfl)
theorem dX0_row_29 : decode cX0_row 29 = .ok (.goto 6, 3) := dk_167 0 6 (dk_at dksX0_row_1 6 rfl rfl)
theorem dX0_row_32 : decode cX0_row 32 = .ok (.iload_n 1, 1) := dk_27 (dk_at dksX0_row_1 9 rfl rfl)
theorem dX0_row_33 : decode cX0_row 33 = .ok (.newarray .long, 2) := dk_188_11 (dk_at dksX0_row_1 10 rfl rfl)
theorem dX0_row_35 : decode cX0_row 35 = .ok (.areturn, 1) := dk_176 (dk_at dksX0_row_1 12 rfl rfl)
abbrev cX0_no : ByteArray := prog_1_method_12_code
def yX0_no : MethodName := ⟨RX0, "no", "(LWindowHill$Refused;)Z"⟩
def dkwX0_no_0 : List UInt8 := [42, 43, 180, 0, 91, 181, 0, 81, 3, 172]
abbrev dktX0_no_0 : List UInt8 := dkwX0_no_0 ++ []
theorem dksX0_no_0 : cX0_no.data.toList.drop 0 = dktX0_no_0 := by decide +kernel
theorem dX0_no_0 : decode cX0_no 0 = .ok (.aload_n 0, 1) := dk_42 (dk_at dksX0_no_0 0 rfl rfl)
theorem dX0_no_1 : decode cX0_no 1 = .ok (.aload_n 1, 1) := dk_43 (dk_at dksX0_no_0 1 rfl rfl)
theorem dX0_no_2 : decode cX0_no 2 = .ok (.getfield 91, 3) := dk_180 0 91 (dk_at dksX0_no_0 2 rfl rfl)
theorem dX0_no_5 : decode cX0_no 5 = .ok (.putfield 81, 3) := dk_181 0 81 (dk_at dksX0_no_0 5 rfl rfl)
theorem dX0_no_8 : decode cX0_no 8 = .ok (.iconst 0, 1) := dk_3 (dk_at dksX0_no_0 8 rfl rfl)
theorem dX0_no_9 : decode cX0_no 9 = .ok (.ireturn, 1) := dk_172 (dk_at dksX0_no_0 9 rfl rfl)
abbrev cX0_write : ByteArray := prog_1_method_16_code
def yX0_write : MethodName := ⟨RX0, "write", "(IIJ)Z"⟩
def dkwX0_write_1 : List UInt8 := [3, 172, 58, 5, 42, 25, 5, 182, 0, 119, 172]
abbrev dktX0_write_1 : List UInt8 := dkwX0_write_1 ++ []
def dkwX0_write_0 : List UInt8 := [42, 3, 181, 0, 81, 42, 27, 182, 0, 123, 28, 33, 184, 0, 127, 4, 172, 58, 5, 42, 6, 181, 0, 81]
abbrev dktX0_write_0 : List UInt8 := dkwX0_write_0 ++ dktX0_write_1
theorem dksX0_write_0 : cX0_write.data.toList.drop 0 = dktX0_write_0 := by decide +kernel
theorem dksX0_write_1 : cX0_write.data.toList.drop 24 = dktX0_write_1 := dk_seg dksX0_write_0 24 rfl rfl
theorem dX0_write_0 : decode cX0_write 0 = .ok (.aload_n 0, 1) := dk_42 (dk_at dksX0_write_0 0 rfl rfl)
theorem dX0_write_1 : decode cX0_write 1 = .ok (.iconst 0, 1) := dk_3 (dk_at dksX0_write_0 1 rfl rfl)
theorem dX0_write_2 : decode cX0_write 2 = .ok (.putfield 81, 3) := dk_181 0 81 (dk_at dksX0_write_0 2 rfl rfl)
theorem dX0_write_5 : decode cX0_write 5 = .ok (.aload_n 0, 1) := dk_42 (dk_at dksX0_write_0 5 rfl rfl)
theorem dX0_write_6 : decode cX0_write 6 = .ok (.iload_n 1, 1) := dk_27 (dk_at dksX0_write_0 6 rfl rfl)
theorem dX0_write_7 : decode cX0_write 7 = .ok (.invokevirtual 123, 3) := dk_182 0 123 (dk_at dksX0_write_0 7 rfl rfl)
theorem dX0_write_10 : decode cX0_write 10 = .ok (.iload_n 2, 1) := dk_28 (dk_at dksX0_write_0 10 rfl rfl)
theorem dX0_write_11 : decode cX0_write 11 = .ok (.lload_n 3, 1) := dk_33 (dk_at dksX0_write_0 11 rfl rfl)
theorem dX0_write_12 : decode cX0_write 12 = .ok (.invokestatic 127, 3) := dk_184 0 127 (dk_at dksX0_write_0 12 rfl rfl)
theorem dX0_write_15 : decode cX0_write 15 = .ok (.iconst 1, 1) := dk_4 (dk_at dksX0_write_0 15 rfl rfl)
theorem dX0_write_16 : decode cX0_write 16 = .ok (.ireturn, 1) := dk_172 (dk_at dksX0_write_0 16 rfl rfl)
theorem dX0_write_17 : decode cX0_write 17 = .ok (.astore 5, 2) := dk_58 5 (dk_at dksX0_write_0 17 rfl rfl)
theorem dX0_write_19 : decode cX0_write 19 = .ok (.aload_n 0, 1) := dk_42 (dk_at dksX0_write_0 19 rfl rfl)
theorem dX0_write_20 : decode cX0_write 20 = .ok (.iconst 3, 1) := dk_6 (dk_at dksX0_write_0 20 rfl rfl)
theorem dX0_write_21 : decode cX0_write 21 = .ok (.putfield 81, 3) := dk_181 0 81 (dk_at dksX0_write_0 21 rfl rfl)
theorem dX0_write_24 : decode cX0_write 24 = .ok (.iconst 0, 1) := dk_3 (dk_at dksX0_write_1 0 rfl rfl)
theorem dX0_write_25 : decode cX0_write 25 = .ok (.ireturn, 1) := dk_172 (dk_at dksX0_write_1 1 rfl rfl)
theorem dX0_write_26 : decode cX0_write 26 = .ok (.astore 5, 2) := dk_58 5 (dk_at dksX0_write_1 2 rfl rfl)
theorem dX0_write_28 : decode cX0_write 28 = .ok (.aload_n 0, 1) := dk_42 (dk_at dksX0_write_1 4 rfl rfl)
theorem dX0_write_29 : decode cX0_write 29 = .ok (.aload 5, 2) := dk_25 5 (dk_at dksX0_write_1 5 rfl rfl)
theorem dX0_write_31 : decode cX0_write 31 = .ok (.invokevirtual 119, 3) := dk_182 0 119 (dk_at dksX0_write_1 7 rfl rfl)
theorem dX0_write_34 : decode cX0_write 34 = .ok (.ireturn, 1) := dk_172 (dk_at dksX0_write_1 10 rfl rfl)
abbrev cX0_on : ByteArray := prog_1_method_14_code
def yX0_on : MethodName := ⟨RX0, "on", "(I)Ljava/lang/Object;"⟩
def dkwX0_on_2 : List UInt8 := [180, 0, 110, 176]
abbrev dktX0_on_2 : List UInt8 := dkwX0_on_2 ++ []
def dkwX0_on_1 : List UInt8 := [27, 50, 180, 0, 110, 198, 0, 7, 4, 167, 0, 4, 3, 5, 182, 0, 106, 42, 180, 0, 18, 27, 50]
abbrev dktX0_on_1 : List UInt8 := dkwX0_on_1 ++ dktX0_on_2
def dkwX0_on_0 : List UInt8 := [42, 27, 155, 0, 12, 27, 7, 162, 0, 7, 4, 167, 0, 4, 3, 4, 182, 0, 106, 42, 42, 180, 0, 18]
abbrev dktX0_on_0 : List UInt8 := dkwX0_on_0 ++ dktX0_on_1
theorem dksX0_on_0 : cX0_on.data.toList.drop 0 = dktX0_on_0 := by decide +kernel
theorem dksX0_on_1 : cX0_on.data.toList.drop 24 = dktX0_on_1 := dk_seg dksX0_on_0 24 rfl rfl
theorem dksX0_on_2 : cX0_on.data.toList.drop 47 = dktX0_on_2 := dk_seg dksX0_on_1 23 rfl rfl
theorem dX0_on_0 : decode cX0_on 0 = .ok (.aload_n 0, 1) := dk_42 (dk_at dksX0_on_0 0 rfl rfl)
theorem dX0_on_1 : decode cX0_on 1 = .ok (.iload_n 1, 1) := dk_27 (dk_at dksX0_on_0 1 rfl rfl)
theorem dX0_on_2 : decode cX0_on 2 = .ok (.ifCond .lt 12, 3) := dk_155 0 12 (dk_at dksX0_on_0 2 rfl rfl)
theorem dX0_on_5 : decode cX0_on 5 = .ok (.iload_n 1, 1) := dk_27 (dk_at dksX0_on_0 5 rfl rfl)
theorem dX0_on_6 : decode cX0_on 6 = .ok (.iconst 4, 1) := dk_7 (dk_at dksX0_on_0 6 rfl rfl)
theorem dX0_on_7 : decode cX0_on 7 = .ok (.if_icmp .ge 7, 3) := dk_162 0 7 (dk_at dksX0_on_0 7 rfl rfl)
theorem dX0_on_10 : decode cX0_on 10 = .ok (.iconst 1, 1) := dk_4 (dk_at dksX0_on_0 10 rfl rfl)
theorem dX0_on_11 : decode cX0_on 11 = .ok (.goto 4, 3) := dk_167 0 4 (dk_at dksX0_on_0 11 rfl rfl)
theorem dX0_on_14 : decode cX0_on 14 = .ok (.iconst 0, 1) := dk_3 (dk_at dksX0_on_0 14 rfl rfl)
theorem dX0_on_15 : decode cX0_on 15 = .ok (.iconst 1, 1) := dk_4 (dk_at dksX0_on_0 15 rfl rfl)
theorem dX0_on_16 : decode cX0_on 16 = .ok (.invokevirtual 106, 3) := dk_182 0 106 (dk_at dksX0_on_0 16 rfl rfl)
theorem dX0_on_19 : decode cX0_on 19 = .ok (.aload_n 0, 1) := dk_42 (dk_at dksX0_on_0 19 rfl rfl)
theorem dX0_on_20 : decode cX0_on 20 = .ok (.aload_n 0, 1) := dk_42 (dk_at dksX0_on_0 20 rfl rfl)
theorem dX0_on_21 : decode cX0_on 21 = .ok (.getfield 18, 3) := dk_180 0 18 (dk_at dksX0_on_0 21 rfl rfl)
theorem dX0_on_24 : decode cX0_on 24 = .ok (.iload_n 1, 1) := dk_27 (dk_at dksX0_on_1 0 rfl rfl)
theorem dX0_on_25 : decode cX0_on 25 = .ok (.aaload, 1) := dk_50 (dk_at dksX0_on_1 1 rfl rfl)
theorem dX0_on_26 : decode cX0_on 26 = .ok (.getfield 110, 3) := dk_180 0 110 (dk_at dksX0_on_1 2 rfl rfl)
theorem dX0_on_29 : decode cX0_on 29 = .ok (.ifnull 7, 3) := dk_198 0 7 (dk_at dksX0_on_1 5 rfl rfl)
theorem dX0_on_32 : decode cX0_on 32 = .ok (.iconst 1, 1) := dk_4 (dk_at dksX0_on_1 8 rfl rfl)
theorem dX0_on_33 : decode cX0_on 33 = .ok (.goto 4, 3) := dk_167 0 4 (dk_at dksX0_on_1 9 rfl rfl)
theorem dX0_on_36 : decode cX0_on 36 = .ok (.iconst 0, 1) := dk_3 (dk_at dksX0_on_1 12 rfl rfl)
theorem dX0_on_37 : decode cX0_on 37 = .ok (.iconst 2, 1) := dk_5 (dk_at dksX0_on_1 13 rfl rfl)
theorem dX0_on_38 : decode cX0_on 38 = .ok (.invokevirtual 106, 3) := dk_182 0 106 (dk_at dksX0_on_1 14 rfl rfl)
theorem dX0_on_41 : decode cX0_on 41 = .ok (.aload_n 0, 1) := dk_42 (dk_at dksX0_on_1 17 rfl rfl)
theorem dX0_on_42 : decode cX0_on 42 = .ok (.getfield 18, 3) := dk_180 0 18 (dk_at dksX0_on_1 18 rfl rfl)
theorem dX0_on_45 : decode cX0_on 45 = .ok (.iload_n 1, 1) := dk_27 (dk_at dksX0_on_1 21 rfl rfl)
theorem dX0_on_46 : decode cX0_on 46 = .ok (.aaload, 1) := dk_50 (dk_at dksX0_on_1 22 rfl rfl)
theorem dX0_on_47 : decode cX0_on 47 = .ok (.getfield 110, 3) := dk_180 0 110 (dk_at dksX0_on_2 0 rfl rfl)
theorem dX0_on_50 : decode cX0_on 50 = .ok (.areturn, 1) := dk_176 (dk_at dksX0_on_2 3 rfl rfl)
abbrev cX0_put : ByteArray := prog_1_method_5_code
def yX0_put : MethodName := ⟨RX0, "put", "(Ljava/lang/Object;IJ)V"⟩
def dkwX0_put_3 : List UInt8 := [192, 0, 7, 27, 32, 80, 177]
abbrev dktX0_put_3 : List UInt8 := dkwX0_put_3 ++ []
def dkwX0_put_2 : List UInt8 := [193, 0, 5, 153, 0, 18, 42, 192, 0, 5, 58, 6, 25, 6, 27, 32, 136, 79, 167, 0, 10, 42]
abbrev dktX0_put_2 : List UInt8 := dkwX0_put_2 ++ dktX0_put_3
def dkwX0_put_1 : List UInt8 := [193, 0, 3, 153, 0, 19, 42, 192, 0, 3, 58, 5, 25, 5, 27, 32, 136, 147, 86, 167, 0, 32, 42]
abbrev dktX0_put_1 : List UInt8 := dkwX0_put_1 ++ dktX0_put_2
def dkwX0_put_0 : List UInt8 := [42, 193, 0, 1, 153, 0, 19, 42, 192, 0, 1, 58, 4, 25, 4, 27, 32, 136, 145, 84, 167, 0, 55, 42]
abbrev dktX0_put_0 : List UInt8 := dkwX0_put_0 ++ dktX0_put_1
theorem dksX0_put_0 : cX0_put.data.toList.drop 0 = dktX0_put_0 := by decide +kernel
theorem dksX0_put_1 : cX0_put.data.toList.drop 24 = dktX0_put_1 := dk_seg dksX0_put_0 24 rfl rfl
theorem dksX0_put_2 : cX0_put.data.toList.drop 47 = dktX0_put_2 := dk_seg dksX0_put_1 23 rfl rfl
theorem dksX0_put_3 : cX0_put.data.toList.drop 69 = dktX0_put_3 := dk_seg dksX0_put_2 22 rfl rfl
theorem dX0_put_0 : decode cX0_put 0 = .ok (.aload_n 0, 1) := dk_42 (dk_at dksX0_put_0 0 rfl rfl)
theorem dX0_put_1 : decode cX0_put 1 = .ok (.instanceof 1, 3) := dk_193 0 1 (dk_at dksX0_put_0 1 rfl rfl)
theorem dX0_put_4 : decode cX0_put 4 = .ok (.ifCond .eq 19, 3) := dk_153 0 19 (dk_at dksX0_put_0 4 rfl rfl)
theorem dX0_put_7 : decode cX0_put 7 = .ok (.aload_n 0, 1) := dk_42 (dk_at dksX0_put_0 7 rfl rfl)
theorem dX0_put_8 : decode cX0_put 8 = .ok (.checkcast 1, 3) := dk_192 0 1 (dk_at dksX0_put_0 8 rfl rfl)
theorem dX0_put_11 : decode cX0_put 11 = .ok (.astore 4, 2) := dk_58 4 (dk_at dksX0_put_0 11 rfl rfl)
theorem dX0_put_13 : decode cX0_put 13 = .ok (.aload 4, 2) := dk_25 4 (dk_at dksX0_put_0 13 rfl rfl)
theorem dX0_put_15 : decode cX0_put 15 = .ok (.iload_n 1, 1) := dk_27 (dk_at dksX0_put_0 15 rfl rfl)
theorem dX0_put_16 : decode cX0_put 16 = .ok (.lload_n 2, 1) := dk_32 (dk_at dksX0_put_0 16 rfl rfl)
theorem dX0_put_17 : decode cX0_put 17 = .ok (.l2i, 1) := dk_136 (dk_at dksX0_put_0 17 rfl rfl)
theorem dX0_put_18 : decode cX0_put 18 = .ok (.i2b, 1) := dk_145 (dk_at dksX0_put_0 18 rfl rfl)
theorem dX0_put_19 : decode cX0_put 19 = .ok (.bastore, 1) := dk_84 (dk_at dksX0_put_0 19 rfl rfl)
theorem dX0_put_20 : decode cX0_put 20 = .ok (.goto 55, 3) := dk_167 0 55 (dk_at dksX0_put_0 20 rfl rfl)
theorem dX0_put_23 : decode cX0_put 23 = .ok (.aload_n 0, 1) := dk_42 (dk_at dksX0_put_0 23 rfl rfl)
theorem dX0_put_24 : decode cX0_put 24 = .ok (.instanceof 3, 3) := dk_193 0 3 (dk_at dksX0_put_1 0 rfl rfl)
theorem dX0_put_27 : decode cX0_put 27 = .ok (.ifCond .eq 19, 3) := dk_153 0 19 (dk_at dksX0_put_1 3 rfl rfl)
theorem dX0_put_30 : decode cX0_put 30 = .ok (.aload_n 0, 1) := dk_42 (dk_at dksX0_put_1 6 rfl rfl)
theorem dX0_put_31 : decode cX0_put 31 = .ok (.checkcast 3, 3) := dk_192 0 3 (dk_at dksX0_put_1 7 rfl rfl)
theorem dX0_put_34 : decode cX0_put 34 = .ok (.astore 5, 2) := dk_58 5 (dk_at dksX0_put_1 10 rfl rfl)
theorem dX0_put_36 : decode cX0_put 36 = .ok (.aload 5, 2) := dk_25 5 (dk_at dksX0_put_1 12 rfl rfl)
theorem dX0_put_38 : decode cX0_put 38 = .ok (.iload_n 1, 1) := dk_27 (dk_at dksX0_put_1 14 rfl rfl)
theorem dX0_put_39 : decode cX0_put 39 = .ok (.lload_n 2, 1) := dk_32 (dk_at dksX0_put_1 15 rfl rfl)
theorem dX0_put_40 : decode cX0_put 40 = .ok (.l2i, 1) := dk_136 (dk_at dksX0_put_1 16 rfl rfl)
theorem dX0_put_41 : decode cX0_put 41 = .ok (.i2s, 1) := dk_147 (dk_at dksX0_put_1 17 rfl rfl)
theorem dX0_put_42 : decode cX0_put 42 = .ok (.sastore, 1) := dk_86 (dk_at dksX0_put_1 18 rfl rfl)
theorem dX0_put_43 : decode cX0_put 43 = .ok (.goto 32, 3) := dk_167 0 32 (dk_at dksX0_put_1 19 rfl rfl)
theorem dX0_put_46 : decode cX0_put 46 = .ok (.aload_n 0, 1) := dk_42 (dk_at dksX0_put_1 22 rfl rfl)
theorem dX0_put_47 : decode cX0_put 47 = .ok (.instanceof 5, 3) := dk_193 0 5 (dk_at dksX0_put_2 0 rfl rfl)
theorem dX0_put_50 : decode cX0_put 50 = .ok (.ifCond .eq 18, 3) := dk_153 0 18 (dk_at dksX0_put_2 3 rfl rfl)
theorem dX0_put_53 : decode cX0_put 53 = .ok (.aload_n 0, 1) := dk_42 (dk_at dksX0_put_2 6 rfl rfl)
theorem dX0_put_54 : decode cX0_put 54 = .ok (.checkcast 5, 3) := dk_192 0 5 (dk_at dksX0_put_2 7 rfl rfl)
theorem dX0_put_57 : decode cX0_put 57 = .ok (.astore 6, 2) := dk_58 6 (dk_at dksX0_put_2 10 rfl rfl)
theorem dX0_put_59 : decode cX0_put 59 = .ok (.aload 6, 2) := dk_25 6 (dk_at dksX0_put_2 12 rfl rfl)
theorem dX0_put_61 : decode cX0_put 61 = .ok (.iload_n 1, 1) := dk_27 (dk_at dksX0_put_2 14 rfl rfl)
theorem dX0_put_62 : decode cX0_put 62 = .ok (.lload_n 2, 1) := dk_32 (dk_at dksX0_put_2 15 rfl rfl)
theorem dX0_put_63 : decode cX0_put 63 = .ok (.l2i, 1) := dk_136 (dk_at dksX0_put_2 16 rfl rfl)
theorem dX0_put_64 : decode cX0_put 64 = .ok (.iastore, 1) := dk_79 (dk_at dksX0_put_2 17 rfl rfl)
theorem dX0_put_65 : decode cX0_put 65 = .ok (.goto 10, 3) := dk_167 0 10 (dk_at dksX0_put_2 18 rfl rfl)
theorem dX0_put_68 : decode cX0_put 68 = .ok (.aload_n 0, 1) := dk_42 (dk_at dksX0_put_2 21 rfl rfl)
theorem dX0_put_69 : decode cX0_put 69 = .ok (.checkcast 7, 3) := dk_192 0 7 (dk_at dksX0_put_3 0 rfl rfl)
theorem dX0_put_72 : decode cX0_put 72 = .ok (.iload_n 1, 1) := dk_27 (dk_at dksX0_put_3 3 rfl rfl)
theorem dX0_put_73 : decode cX0_put 73 = .ok (.lload_n 2, 1) := dk_32 (dk_at dksX0_put_3 4 rfl rfl)
theorem dX0_put_74 : decode cX0_put 74 = .ok (.lastore, 1) := dk_80 (dk_at dksX0_put_3 5 rfl rfl)
theorem dX0_put_75 : decode cX0_put 75 = .ok (.return_, 1) := dk_177 (dk_at dksX0_put_3 6 rfl rfl)
abbrev cX0_read : ByteArray := prog_1_method_17_code
def yX0_read : MethodName := ⟨RX0, "read", "(II)J"⟩
def dkwX0_read_1 : List UInt8 := [173, 78, 42, 45, 182, 0, 139, 133, 173]
abbrev dktX0_read_1 : List UInt8 := dkwX0_read_1 ++ []
def dkwX0_read_0 : List UInt8 := [42, 3, 181, 0, 81, 42, 27, 182, 0, 123, 28, 184, 0, 133, 173, 78, 42, 6, 181, 0, 81, 20, 0, 137]
abbrev dktX0_read_0 : List UInt8 := dkwX0_read_0 ++ dktX0_read_1
theorem dksX0_read_0 : cX0_read.data.toList.drop 0 = dktX0_read_0 := by decide +kernel
theorem dksX0_read_1 : cX0_read.data.toList.drop 24 = dktX0_read_1 := dk_seg dksX0_read_0 24 rfl rfl
theorem dX0_read_0 : decode cX0_read 0 = .ok (.aload_n 0, 1) := dk_42 (dk_at dksX0_read_0 0 rfl rfl)
theorem dX0_read_1 : decode cX0_read 1 = .ok (.iconst 0, 1) := dk_3 (dk_at dksX0_read_0 1 rfl rfl)
theorem dX0_read_2 : decode cX0_read 2 = .ok (.putfield 81, 3) := dk_181 0 81 (dk_at dksX0_read_0 2 rfl rfl)
theorem dX0_read_5 : decode cX0_read 5 = .ok (.aload_n 0, 1) := dk_42 (dk_at dksX0_read_0 5 rfl rfl)
theorem dX0_read_6 : decode cX0_read 6 = .ok (.iload_n 1, 1) := dk_27 (dk_at dksX0_read_0 6 rfl rfl)
theorem dX0_read_7 : decode cX0_read 7 = .ok (.invokevirtual 123, 3) := dk_182 0 123 (dk_at dksX0_read_0 7 rfl rfl)
theorem dX0_read_10 : decode cX0_read 10 = .ok (.iload_n 2, 1) := dk_28 (dk_at dksX0_read_0 10 rfl rfl)
theorem dX0_read_11 : decode cX0_read 11 = .ok (.invokestatic 133, 3) := dk_184 0 133 (dk_at dksX0_read_0 11 rfl rfl)
theorem dX0_read_14 : decode cX0_read 14 = .ok (.lreturn, 1) := dk_173 (dk_at dksX0_read_0 14 rfl rfl)
theorem dX0_read_15 : decode cX0_read 15 = .ok (.astore_n 3, 1) := dk_78 (dk_at dksX0_read_0 15 rfl rfl)
theorem dX0_read_16 : decode cX0_read 16 = .ok (.aload_n 0, 1) := dk_42 (dk_at dksX0_read_0 16 rfl rfl)
theorem dX0_read_17 : decode cX0_read 17 = .ok (.iconst 3, 1) := dk_6 (dk_at dksX0_read_0 17 rfl rfl)
theorem dX0_read_18 : decode cX0_read 18 = .ok (.putfield 81, 3) := dk_181 0 81 (dk_at dksX0_read_0 18 rfl rfl)
theorem dX0_read_21 : decode cX0_read 21 = .ok (.ldc2_w 137, 3) := dk_20 0 137 (dk_at dksX0_read_0 21 rfl rfl)
theorem dX0_read_24 : decode cX0_read 24 = .ok (.lreturn, 1) := dk_173 (dk_at dksX0_read_1 0 rfl rfl)
theorem dX0_read_25 : decode cX0_read 25 = .ok (.astore_n 3, 1) := dk_78 (dk_at dksX0_read_1 1 rfl rfl)
theorem dX0_read_26 : decode cX0_read 26 = .ok (.aload_n 0, 1) := dk_42 (dk_at dksX0_read_1 2 rfl rfl)
theorem dX0_read_27 : decode cX0_read 27 = .ok (.aload_n 3, 1) := dk_45 (dk_at dksX0_read_1 3 rfl rfl)
theorem dX0_read_28 : decode cX0_read 28 = .ok (.invokevirtual 139, 3) := dk_182 0 139 (dk_at dksX0_read_1 4 rfl rfl)
theorem dX0_read_31 : decode cX0_read 31 = .ok (.i2l, 1) := dk_133 (dk_at dksX0_read_1 7 rfl rfl)
theorem dX0_read_32 : decode cX0_read 32 = .ok (.lreturn, 1) := dk_173 (dk_at dksX0_read_1 8 rfl rfl)
abbrev cX0_number : ByteArray := prog_1_method_4_code
def yX0_number : MethodName := ⟨RX0, "number", "(Ljava/lang/Object;I)J"⟩
def dkwX0_number_2 : List UInt8 := [46, 133, 167, 0, 9, 42, 192, 0, 7, 27, 47, 173]
abbrev dktX0_number_2 : List UInt8 := dkwX0_number_2 ++ []
def dkwX0_number_1 : List UInt8 := [42, 192, 0, 3, 77, 44, 27, 53, 133, 173, 42, 193, 0, 5, 153, 0, 15, 42, 192, 0, 5, 77, 44, 27]
abbrev dktX0_number_1 : List UInt8 := dkwX0_number_1 ++ dktX0_number_2
def dkwX0_number_0 : List UInt8 := [42, 193, 0, 1, 153, 0, 13, 42, 192, 0, 1, 77, 44, 27, 51, 133, 173, 42, 193, 0, 3, 153, 0, 13]
abbrev dktX0_number_0 : List UInt8 := dkwX0_number_0 ++ dktX0_number_1
theorem dksX0_number_0 : cX0_number.data.toList.drop 0 = dktX0_number_0 := by decide +kernel
theorem dksX0_number_1 : cX0_number.data.toList.drop 24 = dktX0_number_1 := dk_seg dksX0_number_0 24 rfl rfl
theorem dksX0_number_2 : cX0_number.data.toList.drop 48 = dktX0_number_2 := dk_seg dksX0_number_1 24 rfl rfl
theorem dX0_number_0 : decode cX0_number 0 = .ok (.aload_n 0, 1) := dk_42 (dk_at dksX0_number_0 0 rfl rfl)
theorem dX0_number_1 : decode cX0_number 1 = .ok (.instanceof 1, 3) := dk_193 0 1 (dk_at dksX0_number_0 1 rfl rfl)
theorem dX0_number_4 : decode cX0_number 4 = .ok (.ifCond .eq 13, 3) := dk_153 0 13 (dk_at dksX0_number_0 4 rfl rfl)
theorem dX0_number_7 : decode cX0_number 7 = .ok (.aload_n 0, 1) := dk_42 (dk_at dksX0_number_0 7 rfl rfl)
theorem dX0_number_8 : decode cX0_number 8 = .ok (.checkcast 1, 3) := dk_192 0 1 (dk_at dksX0_number_0 8 rfl rfl)
theorem dX0_number_11 : decode cX0_number 11 = .ok (.astore_n 2, 1) := dk_77 (dk_at dksX0_number_0 11 rfl rfl)
theorem dX0_number_12 : decode cX0_number 12 = .ok (.aload_n 2, 1) := dk_44 (dk_at dksX0_number_0 12 rfl rfl)
theorem dX0_number_13 : decode cX0_number 13 = .ok (.iload_n 1, 1) := dk_27 (dk_at dksX0_number_0 13 rfl rfl)
theorem dX0_number_14 : decode cX0_number 14 = .ok (.baload, 1) := dk_51 (dk_at dksX0_number_0 14 rfl rfl)
theorem dX0_number_15 : decode cX0_number 15 = .ok (.i2l, 1) := dk_133 (dk_at dksX0_number_0 15 rfl rfl)
theorem dX0_number_16 : decode cX0_number 16 = .ok (.lreturn, 1) := dk_173 (dk_at dksX0_number_0 16 rfl rfl)
theorem dX0_number_17 : decode cX0_number 17 = .ok (.aload_n 0, 1) := dk_42 (dk_at dksX0_number_0 17 rfl rfl)
theorem dX0_number_18 : decode cX0_number 18 = .ok (.instanceof 3, 3) := dk_193 0 3 (dk_at dksX0_number_0 18 rfl rfl)
theorem dX0_number_21 : decode cX0_number 21 = .ok (.ifCond .eq 13, 3) := dk_153 0 13 (dk_at dksX0_number_0 21 rfl rfl)
theorem dX0_number_24 : decode cX0_number 24 = .ok (.aload_n 0, 1) := dk_42 (dk_at dksX0_number_1 0 rfl rfl)
theorem dX0_number_25 : decode cX0_number 25 = .ok (.checkcast 3, 3) := dk_192 0 3 (dk_at dksX0_number_1 1 rfl rfl)
theorem dX0_number_28 : decode cX0_number 28 = .ok (.astore_n 2, 1) := dk_77 (dk_at dksX0_number_1 4 rfl rfl)
theorem dX0_number_29 : decode cX0_number 29 = .ok (.aload_n 2, 1) := dk_44 (dk_at dksX0_number_1 5 rfl rfl)
theorem dX0_number_30 : decode cX0_number 30 = .ok (.iload_n 1, 1) := dk_27 (dk_at dksX0_number_1 6 rfl rfl)
theorem dX0_number_31 : decode cX0_number 31 = .ok (.saload, 1) := dk_53 (dk_at dksX0_number_1 7 rfl rfl)
theorem dX0_number_32 : decode cX0_number 32 = .ok (.i2l, 1) := dk_133 (dk_at dksX0_number_1 8 rfl rfl)
theorem dX0_number_33 : decode cX0_number 33 = .ok (.lreturn, 1) := dk_173 (dk_at dksX0_number_1 9 rfl rfl)
theorem dX0_number_34 : decode cX0_number 34 = .ok (.aload_n 0, 1) := dk_42 (dk_at dksX0_number_1 10 rfl rfl)
theorem dX0_number_35 : decode cX0_number 35 = .ok (.instanceof 5, 3) := dk_193 0 5 (dk_at dksX0_number_1 11 rfl rfl)
theorem dX0_number_38 : decode cX0_number 38 = .ok (.ifCond .eq 15, 3) := dk_153 0 15 (dk_at dksX0_number_1 14 rfl rfl)
theorem dX0_number_41 : decode cX0_number 41 = .ok (.aload_n 0, 1) := dk_42 (dk_at dksX0_number_1 17 rfl rfl)
theorem dX0_number_42 : decode cX0_number 42 = .ok (.checkcast 5, 3) := dk_192 0 5 (dk_at dksX0_number_1 18 rfl rfl)
theorem dX0_number_45 : decode cX0_number 45 = .ok (.astore_n 2, 1) := dk_77 (dk_at dksX0_number_1 21 rfl rfl)
theorem dX0_number_46 : decode cX0_number 46 = .ok (.aload_n 2, 1) := dk_44 (dk_at dksX0_number_1 22 rfl rfl)
theorem dX0_number_47 : decode cX0_number 47 = .ok (.iload_n 1, 1) := dk_27 (dk_at dksX0_number_1 23 rfl rfl)
theorem dX0_number_48 : decode cX0_number 48 = .ok (.iaload, 1) := dk_46 (dk_at dksX0_number_2 0 rfl rfl)
theorem dX0_number_49 : decode cX0_number 49 = .ok (.i2l, 1) := dk_133 (dk_at dksX0_number_2 1 rfl rfl)
theorem dX0_number_50 : decode cX0_number 50 = .ok (.goto 9, 3) := dk_167 0 9 (dk_at dksX0_number_2 2 rfl rfl)
theorem dX0_number_53 : decode cX0_number 53 = .ok (.aload_n 0, 1) := dk_42 (dk_at dksX0_number_2 5 rfl rfl)
theorem dX0_number_54 : decode cX0_number 54 = .ok (.checkcast 7, 3) := dk_192 0 7 (dk_at dksX0_number_2 6 rfl rfl)
theorem dX0_number_57 : decode cX0_number 57 = .ok (.iload_n 1, 1) := dk_27 (dk_at dksX0_number_2 9 rfl rfl)
theorem dX0_number_58 : decode cX0_number 58 = .ok (.laload, 1) := dk_47 (dk_at dksX0_number_2 10 rfl rfl)
theorem dX0_number_59 : decode cX0_number 59 = .ok (.lreturn, 1) := dk_173 (dk_at dksX0_number_2 11 rfl rfl)
abbrev cX0_none : ByteArray := prog_1_method_11_code
def yX0_none : MethodName := ⟨RX0, "none", "(LWindowHill$Refused;)I"⟩
def dkwX0_none_0 : List UInt8 := [42, 43, 180, 0, 91, 181, 0, 81, 2, 172]
abbrev dktX0_none_0 : List UInt8 := dkwX0_none_0 ++ []
theorem dksX0_none_0 : cX0_none.data.toList.drop 0 = dktX0_none_0 := by decide +kernel
theorem dX0_none_0 : decode cX0_none 0 = .ok (.aload_n 0, 1) := dk_42 (dk_at dksX0_none_0 0 rfl rfl)
theorem dX0_none_1 : decode cX0_none 1 = .ok (.aload_n 1, 1) := dk_43 (dk_at dksX0_none_0 1 rfl rfl)
theorem dX0_none_2 : decode cX0_none 2 = .ok (.getfield 91, 3) := dk_180 0 91 (dk_at dksX0_none_0 2 rfl rfl)
theorem dX0_none_5 : decode cX0_none 5 = .ok (.putfield 81, 3) := dk_181 0 81 (dk_at dksX0_none_0 5 rfl rfl)
theorem dX0_none_8 : decode cX0_none 8 = .ok (.iconst (-1), 1) := dk_2 (dk_at dksX0_none_0 8 rfl rfl)
theorem dX0_none_9 : decode cX0_none 9 = .ok (.ireturn, 1) := dk_172 (dk_at dksX0_none_0 9 rfl rfl)
abbrev cX0_pour : ByteArray := prog_1_method_18_code
def yX0_pour : MethodName := ⟨RX0, "pour", "(IIIII)Z"⟩
def dkwX0_pour_5 : List UInt8 := [182, 0, 119, 172]
abbrev dktX0_pour_5 : List UInt8 := dkwX0_pour_5 ++ []
def dkwX0_pour_4 : List UInt8 := [184, 0, 147, 167, 0, 14, 58, 8, 42, 180, 0, 44, 6, 182, 0, 87, 191, 4, 172, 58, 6, 42, 25, 6]
abbrev dktX0_pour_4 : List UInt8 := dkwX0_pour_4 ++ dktX0_pour_5
def dkwX0_pour_3 : List UInt8 := [160, 0, 7, 4, 167, 0, 4, 3, 16, 8, 182, 0, 106, 25, 6, 28, 25, 7, 21, 4, 21, 5]
abbrev dktX0_pour_3 : List UInt8 := dkwX0_pour_3 ++ dktX0_pour_4
def dkwX0_pour_2 : List UInt8 := [27, 182, 0, 123, 58, 6, 42, 29, 182, 0, 123, 58, 7, 42, 25, 6, 184, 0, 143, 25, 7, 184, 0, 143]
abbrev dktX0_pour_2 : List UInt8 := dkwX0_pour_2 ++ dktX0_pour_3
def dkwX0_pour_1 : List UInt8 := [28, 155, 0, 17, 21, 4, 155, 0, 12, 21, 5, 155, 0, 7, 4, 167, 0, 4, 3, 4, 182, 0, 106, 42]
abbrev dktX0_pour_1 : List UInt8 := dkwX0_pour_1 ++ dktX0_pour_2
def dkwX0_pour_0 : List UInt8 := [42, 3, 181, 0, 81, 42, 27, 155, 0, 35, 27, 7, 162, 0, 30, 29, 155, 0, 26, 29, 7, 162, 0, 21]
abbrev dktX0_pour_0 : List UInt8 := dkwX0_pour_0 ++ dktX0_pour_1
theorem dksX0_pour_0 : cX0_pour.data.toList.drop 0 = dktX0_pour_0 := by decide +kernel
theorem dksX0_pour_1 : cX0_pour.data.toList.drop 24 = dktX0_pour_1 := dk_seg dksX0_pour_0 24 rfl rfl
theorem dksX0_pour_2 : cX0_pour.data.toList.drop 48 = dktX0_pour_2 := dk_seg dksX0_pour_1 24 rfl rfl
theorem dksX0_pour_3 : cX0_pour.data.toList.drop 72 = dktX0_pour_3 := dk_seg dksX0_pour_2 24 rfl rfl
theorem dksX0_pour_4 : cX0_pour.data.toList.drop 94 = dktX0_pour_4 := dk_seg dksX0_pour_3 22 rfl rfl
theorem dksX0_pour_5 : cX0_pour.data.toList.drop 118 = dktX0_pour_5 := dk_seg dksX0_pour_4 24 rfl rfl
theorem dX0_pour_0 : decode cX0_pour 0 = .ok (.aload_n 0, 1) := dk_42 (dk_at dksX0_pour_0 0 rfl rfl)
theorem dX0_pour_1 : decode cX0_pour 1 = .ok (.iconst 0, 1) := dk_3 (dk_at dksX0_pour_0 1 rfl rfl)
theorem dX0_pour_2 : decode cX0_pour 2 = .ok (.putfield 81, 3) := dk_181 0 81 (dk_at dksX0_pour_0 2 rfl rfl)
theorem dX0_pour_5 : decode cX0_pour 5 = .ok (.aload_n 0, 1) := dk_42 (dk_at dksX0_pour_0 5 rfl rfl)
theorem dX0_pour_6 : decode cX0_pour 6 = .ok (.iload_n 1, 1) := dk_27 (dk_at dksX0_pour_0 6 rfl rfl)
theorem dX0_pour_7 : decode cX0_pour 7 = .ok (.ifCond .lt 35, 3) := dk_155 0 35 (dk_at dksX0_pour_0 7 rfl rfl)
theorem dX0_pour_10 : decode cX0_pour 10 = .ok (.iload_n 1, 1) := dk_27 (dk_at dksX0_pour_0 10 rfl rfl)
theorem dX0_pour_11 : decode cX0_pour 11 = .ok (.iconst 4, 1) := dk_7 (dk_at dksX0_pour_0 11 rfl rfl)
theorem dX0_pour_12 : decode cX0_pour 12 = .ok (.if_icmp .ge 30, 3) := dk_162 0 30 (dk_at dksX0_pour_0 12 rfl rfl)
theorem dX0_pour_15 : decode cX0_pour 15 = .ok (.iload_n 3, 1) := dk_29 (dk_at dksX0_pour_0 15 rfl rfl)
theorem dX0_pour_16 : decode cX0_pour 16 = .ok (.ifCond .lt 26, 3) := dk_155 0 26 (dk_at dksX0_pour_0 16 rfl rfl)
theorem dX0_pour_19 : decode cX0_pour 19 = .ok (.iload_n 3, 1) := dk_29 (dk_at dksX0_pour_0 19 rfl rfl)
theorem dX0_pour_20 : decode cX0_pour 20 = .ok (.iconst 4, 1) := dk_7 (dk_at dksX0_pour_0 20 rfl rfl)
theorem dX0_pour_21 : decode cX0_pour 21 = .ok (.if_icmp .ge 21, 3) := dk_162 0 21 (dk_at dksX0_pour_0 21 rfl rfl)
theorem dX0_pour_24 : decode cX0_pour 24 = .ok (.iload_n 2, 1) := dk_28 (dk_at dksX0_pour_1 0 rfl rfl)
theorem dX0_pour_25 : decode cX0_pour 25 = .ok (.ifCond .lt 17, 3) := dk_155 0 17 (dk_at dksX0_pour_1 1 rfl rfl)
theorem dX0_pour_28 : decode cX0_pour 28 = .ok (.iload 4, 2) := dk_21 4 (dk_at dksX0_pour_1 4 rfl rfl)
theorem dX0_pour_30 : decode cX0_pour 30 = .ok (.ifCond .lt 12, 3) := dk_155 0 12 (dk_at dksX0_pour_1 6 rfl rfl)
theorem dX0_pour_33 : decode cX0_pour 33 = .ok (.iload 5, 2) := dk_21 5 (dk_at dksX0_pour_1 9 rfl rfl)
theorem dX0_pour_35 : decode cX0_pour 35 = .ok (.ifCond .lt 7, 3) := dk_155 0 7 (dk_at dksX0_pour_1 11 rfl rfl)
theorem dX0_pour_38 : decode cX0_pour 38 = .ok (.iconst 1, 1) := dk_4 (dk_at dksX0_pour_1 14 rfl rfl)
theorem dX0_pour_39 : decode cX0_pour 39 = .ok (.goto 4, 3) := dk_167 0 4 (dk_at dksX0_pour_1 15 rfl rfl)
theorem dX0_pour_42 : decode cX0_pour 42 = .ok (.iconst 0, 1) := dk_3 (dk_at dksX0_pour_1 18 rfl rfl)
theorem dX0_pour_43 : decode cX0_pour 43 = .ok (.iconst 1, 1) := dk_4 (dk_at dksX0_pour_1 19 rfl rfl)
theorem dX0_pour_44 : decode cX0_pour 44 = .ok (.invokevirtual 106, 3) := dk_182 0 106 (dk_at dksX0_pour_1 20 rfl rfl)
theorem dX0_pour_47 : decode cX0_pour 47 = .ok (.aload_n 0, 1) := dk_42 (dk_at dksX0_pour_1 23 rfl rfl)
theorem dX0_pour_48 : decode cX0_pour 48 = .ok (.iload_n 1, 1) := dk_27 (dk_at dksX0_pour_2 0 rfl rfl)
theorem dX0_pour_49 : decode cX0_pour 49 = .ok (.invokevirtual 123, 3) := dk_182 0 123 (dk_at dksX0_pour_2 1 rfl rfl)
theorem dX0_pour_52 : decode cX0_pour 52 = .ok (.astore 6, 2) := dk_58 6 (dk_at dksX0_pour_2 4 rfl rfl)
theorem dX0_pour_54 : decode cX0_pour 54 = .ok (.aload_n 0, 1) := dk_42 (dk_at dksX0_pour_2 6 rfl rfl)
theorem dX0_pour_55 : decode cX0_pour 55 = .ok (.iload_n 3, 1) := dk_29 (dk_at dksX0_pour_2 7 rfl rfl)
theorem dX0_pour_56 : decode cX0_pour 56 = .ok (.invokevirtual 123, 3) := dk_182 0 123 (dk_at dksX0_pour_2 8 rfl rfl)
theorem dX0_pour_59 : decode cX0_pour 59 = .ok (.astore 7, 2) := dk_58 7 (dk_at dksX0_pour_2 11 rfl rfl)
theorem dX0_pour_61 : decode cX0_pour 61 = .ok (.aload_n 0, 1) := dk_42 (dk_at dksX0_pour_2 13 rfl rfl)
theorem dX0_pour_62 : decode cX0_pour 62 = .ok (.aload 6, 2) := dk_25 6 (dk_at dksX0_pour_2 14 rfl rfl)
theorem dX0_pour_64 : decode cX0_pour 64 = .ok (.invokestatic 143, 3) := dk_184 0 143 (dk_at dksX0_pour_2 16 rfl rfl)
theorem dX0_pour_67 : decode cX0_pour 67 = .ok (.aload 7, 2) := dk_25 7 (dk_at dksX0_pour_2 19 rfl rfl)
theorem dX0_pour_69 : decode cX0_pour 69 = .ok (.invokestatic 143, 3) := dk_184 0 143 (dk_at dksX0_pour_2 21 rfl rfl)
theorem dX0_pour_72 : decode cX0_pour 72 = .ok (.if_icmp .ne 7, 3) := dk_160 0 7 (dk_at dksX0_pour_3 0 rfl rfl)
theorem dX0_pour_75 : decode cX0_pour 75 = .ok (.iconst 1, 1) := dk_4 (dk_at dksX0_pour_3 3 rfl rfl)
theorem dX0_pour_76 : decode cX0_pour 76 = .ok (.goto 4, 3) := dk_167 0 4 (dk_at dksX0_pour_3 4 rfl rfl)
theorem dX0_pour_79 : decode cX0_pour 79 = .ok (.iconst 0, 1) := dk_3 (dk_at dksX0_pour_3 7 rfl rfl)
theorem dX0_pour_80 : decode cX0_pour 80 = .ok (.bipush 8, 2) := dk_16 8 (dk_at dksX0_pour_3 8 rfl rfl)
theorem dX0_pour_82 : decode cX0_pour 82 = .ok (.invokevirtual 106, 3) := dk_182 0 106 (dk_at dksX0_pour_3 10 rfl rfl)
theorem dX0_pour_85 : decode cX0_pour 85 = .ok (.aload 6, 2) := dk_25 6 (dk_at dksX0_pour_3 13 rfl rfl)
theorem dX0_pour_87 : decode cX0_pour 87 = .ok (.iload_n 2, 1) := dk_28 (dk_at dksX0_pour_3 15 rfl rfl)
theorem dX0_pour_88 : decode cX0_pour 88 = .ok (.aload 7, 2) := dk_25 7 (dk_at dksX0_pour_3 16 rfl rfl)
theorem dX0_pour_90 : decode cX0_pour 90 = .ok (.iload 4, 2) := dk_21 4 (dk_at dksX0_pour_3 18 rfl rfl)
theorem dX0_pour_92 : decode cX0_pour 92 = .ok (.iload 5, 2) := dk_21 5 (dk_at dksX0_pour_3 20 rfl rfl)
theorem dX0_pour_94 : decode cX0_pour 94 = .ok (.invokestatic 147, 3) := dk_184 0 147 (dk_at dksX0_pour_4 0 rfl rfl)
theorem dX0_pour_97 : decode cX0_pour 97 = .ok (.goto 14, 3) := dk_167 0 14 (dk_at dksX0_pour_4 3 rfl rfl)
theorem dX0_pour_100 : decode cX0_pour 100 = .ok (.astore 8, 2) := dk_58 8 (dk_at dksX0_pour_4 6 rfl rfl)
theorem dX0_pour_102 : decode cX0_pour 102 = .ok (.aload_n 0, 1) := dk_42 (dk_at dksX0_pour_4 8 rfl rfl)
theorem dX0_pour_103 : decode cX0_pour 103 = .ok (.getfield 44, 3) := dk_180 0 44 (dk_at dksX0_pour_4 9 rfl rfl)
theorem dX0_pour_106 : decode cX0_pour 106 = .ok (.iconst 3, 1) := dk_6 (dk_at dksX0_pour_4 12 rfl rfl)
theorem dX0_pour_107 : decode cX0_pour 107 = .ok (.invokevirtual 87, 3) := dk_182 0 87 (dk_at dksX0_pour_4 13 rfl rfl)
theorem dX0_pour_110 : decode cX0_pour 110 = .ok (.athrow, 1) := dk_191 (dk_at dksX0_pour_4 16 rfl rfl)
theorem dX0_pour_111 : decode cX0_pour 111 = .ok (.iconst 1, 1) := dk_4 (dk_at dksX0_pour_4 17 rfl rfl)
theorem dX0_pour_112 : decode cX0_pour 112 = .ok (.ireturn, 1) := dk_172 (dk_at dksX0_pour_4 18 rfl rfl)
theorem dX0_pour_113 : decode cX0_pour 113 = .ok (.astore 6, 2) := dk_58 6 (dk_at dksX0_pour_4 19 rfl rfl)
theorem dX0_pour_115 : decode cX0_pour 115 = .ok (.aload_n 0, 1) := dk_42 (dk_at dksX0_pour_4 21 rfl rfl)
theorem dX0_pour_116 : decode cX0_pour 116 = .ok (.aload 6, 2) := dk_25 6 (dk_at dksX0_pour_4 22 rfl rfl)
theorem dX0_pour_118 : decode cX0_pour 118 = .ok (.invokevirtual 119, 3) := dk_182 0 119 (dk_at dksX0_pour_5 0 rfl rfl)
theorem dX0_pour_121 : decode cX0_pour 121 = .ok (.ireturn, 1) := dk_172 (dk_at dksX0_pour_5 3 rfl rfl)
abbrev cX0_sortOf : ByteArray := prog_1_method_2_code
def yX0_sortOf : MethodName := ⟨RX0, "sortOf", "(Ljava/lang/Object;)I"⟩
def dkwX0_sortOf_1 : List UInt8 := [193, 0, 5, 153, 0, 7, 5, 167, 0, 4, 6, 172]
abbrev dktX0_sortOf_1 : List UInt8 := dkwX0_sortOf_1 ++ []
def dkwX0_sortOf_0 : List UInt8 := [42, 193, 0, 1, 153, 0, 7, 3, 167, 0, 26, 42, 193, 0, 3, 153, 0, 7, 4, 167, 0, 15, 42]
abbrev dktX0_sortOf_0 : List UInt8 := dkwX0_sortOf_0 ++ dktX0_sortOf_1
theorem dksX0_sortOf_0 : cX0_sortOf.data.toList.drop 0 = dktX0_sortOf_0 := by decide +kernel
theorem dksX0_sortOf_1 : cX0_sortOf.data.toList.drop 23 = dktX0_sortOf_1 := dk_seg dksX0_sortOf_0 23 rfl rfl
theorem dX0_sortOf_0 : decode cX0_sortOf 0 = .ok (.aload_n 0, 1) := dk_42 (dk_at dksX0_sortOf_0 0 rfl rfl)
theorem dX0_sortOf_1 : decode cX0_sortOf 1 = .ok (.instanceof 1, 3) := dk_193 0 1 (dk_at dksX0_sortOf_0 1 rfl rfl)
theorem dX0_sortOf_4 : decode cX0_sortOf 4 = .ok (.ifCond .eq 7, 3) := dk_153 0 7 (dk_at dksX0_sortOf_0 4 rfl rfl)
theorem dX0_sortOf_7 : decode cX0_sortOf 7 = .ok (.iconst 0, 1) := dk_3 (dk_at dksX0_sortOf_0 7 rfl rfl)
theorem dX0_sortOf_8 : decode cX0_sortOf 8 = .ok (.goto 26, 3) := dk_167 0 26 (dk_at dksX0_sortOf_0 8 rfl rfl)
theorem dX0_sortOf_11 : decode cX0_sortOf 11 = .ok (.aload_n 0, 1) := dk_42 (dk_at dksX0_sortOf_0 11 rfl rfl)
theorem dX0_sortOf_12 : decode cX0_sortOf 12 = .ok (.instanceof 3, 3) := dk_193 0 3 (dk_at dksX0_sortOf_0 12 rfl rfl)
theorem dX0_sortOf_15 : decode cX0_sortOf 15 = .ok (.ifCond .eq 7, 3) := dk_153 0 7 (dk_at dksX0_sortOf_0 15 rfl rfl)
theorem dX0_sortOf_18 : decode cX0_sortOf 18 = .ok (.iconst 1, 1) := dk_4 (dk_at dksX0_sortOf_0 18 rfl rfl)
theorem dX0_sortOf_19 : decode cX0_sortOf 19 = .ok (.goto 15, 3) := dk_167 0 15 (dk_at dksX0_sortOf_0 19 rfl rfl)
theorem dX0_sortOf_22 : decode cX0_sortOf 22 = .ok (.aload_n 0, 1) := dk_42 (dk_at dksX0_sortOf_0 22 rfl rfl)
theorem dX0_sortOf_23 : decode cX0_sortOf 23 = .ok (.instanceof 5, 3) := dk_193 0 5 (dk_at dksX0_sortOf_1 0 rfl rfl)
theorem dX0_sortOf_26 : decode cX0_sortOf 26 = .ok (.ifCond .eq 7, 3) := dk_153 0 7 (dk_at dksX0_sortOf_1 3 rfl rfl)
theorem dX0_sortOf_29 : decode cX0_sortOf 29 = .ok (.iconst 2, 1) := dk_5 (dk_at dksX0_sortOf_1 6 rfl rfl)
theorem dX0_sortOf_30 : decode cX0_sortOf 30 = .ok (.goto 4, 3) := dk_167 0 4 (dk_at dksX0_sortOf_1 7 rfl rfl)
theorem dX0_sortOf_33 : decode cX0_sortOf 33 = .ok (.iconst 3, 1) := dk_6 (dk_at dksX0_sortOf_1 10 rfl rfl)
theorem dX0_sortOf_34 : decode cX0_sortOf 34 = .ok (.ireturn, 1) := dk_172 (dk_at dksX0_sortOf_1 11 rfl rfl)
abbrev cX0_feed : ByteArray := prog_1_method_30_code
def yX0_feed : MethodName := ⟨RX0, "feed", "(IIIII)I"⟩
def dkwX0_feed_2 : List UInt8 := [172]
abbrev dktX0_feed_2 : List UInt8 := dkwX0_feed_2 ++ []
def dkwX0_feed_1 : List UInt8 := [182, 0, 211, 42, 29, 182, 0, 211, 42, 21, 4, 182, 0, 211, 42, 21, 5, 182, 0, 211, 42, 180, 0, 208]
abbrev dktX0_feed_1 : List UInt8 := dkwX0_feed_1 ++ dktX0_feed_2
def dkwX0_feed_0 : List UInt8 := [42, 180, 0, 208, 16, 20, 96, 17, 3, 132, 164, 0, 5, 2, 172, 42, 27, 182, 0, 211, 42, 28]
abbrev dktX0_feed_0 : List UInt8 := dkwX0_feed_0 ++ dktX0_feed_1
theorem dksX0_feed_0 : cX0_feed.data.toList.drop 0 = dktX0_feed_0 := by decide +kernel
theorem dksX0_feed_1 : cX0_feed.data.toList.drop 22 = dktX0_feed_1 := dk_seg dksX0_feed_0 22 rfl rfl
theorem dksX0_feed_2 : cX0_feed.data.toList.drop 46 = dktX0_feed_2 := dk_seg dksX0_feed_1 24 rfl rfl
theorem dX0_feed_0 : decode cX0_feed 0 = .ok (.aload_n 0, 1) := dk_42 (dk_at dksX0_feed_0 0 rfl rfl)
theorem dX0_feed_1 : decode cX0_feed 1 = .ok (.getfield 208, 3) := dk_180 0 208 (dk_at dksX0_feed_0 1 rfl rfl)
theorem dX0_feed_4 : decode cX0_feed 4 = .ok (.bipush 20, 2) := dk_16 20 (dk_at dksX0_feed_0 4 rfl rfl)
theorem dX0_feed_6 : decode cX0_feed 6 = .ok (.iadd, 1) := dk_96 (dk_at dksX0_feed_0 6 rfl rfl)
theorem dX0_feed_7 : decode cX0_feed 7 = .ok (.sipush 900, 3) := dk_17 3 132 (dk_at dksX0_feed_0 7 rfl rfl)
theorem dX0_feed_10 : decode cX0_feed 10 = .ok (.if_icmp .le 5, 3) := dk_164 0 5 (dk_at dksX0_feed_0 10 rfl rfl)
theorem dX0_feed_13 : decode cX0_feed 13 = .ok (.iconst (-1), 1) := dk_2 (dk_at dksX0_feed_0 13 rfl rfl)
theorem dX0_feed_14 : decode cX0_feed 14 = .ok (.ireturn, 1) := dk_172 (dk_at dksX0_feed_0 14 rfl rfl)
theorem dX0_feed_15 : decode cX0_feed 15 = .ok (.aload_n 0, 1) := dk_42 (dk_at dksX0_feed_0 15 rfl rfl)
theorem dX0_feed_16 : decode cX0_feed 16 = .ok (.iload_n 1, 1) := dk_27 (dk_at dksX0_feed_0 16 rfl rfl)
theorem dX0_feed_17 : decode cX0_feed 17 = .ok (.invokevirtual 211, 3) := dk_182 0 211 (dk_at dksX0_feed_0 17 rfl rfl)
theorem dX0_feed_20 : decode cX0_feed 20 = .ok (.aload_n 0, 1) := dk_42 (dk_at dksX0_feed_0 20 rfl rfl)
theorem dX0_feed_21 : decode cX0_feed 21 = .ok (.iload_n 2, 1) := dk_28 (dk_at dksX0_feed_0 21 rfl rfl)
theorem dX0_feed_22 : decode cX0_feed 22 = .ok (.invokevirtual 211, 3) := dk_182 0 211 (dk_at dksX0_feed_1 0 rfl rfl)
theorem dX0_feed_25 : decode cX0_feed 25 = .ok (.aload_n 0, 1) := dk_42 (dk_at dksX0_feed_1 3 rfl rfl)
theorem dX0_feed_26 : decode cX0_feed 26 = .ok (.iload_n 3, 1) := dk_29 (dk_at dksX0_feed_1 4 rfl rfl)
theorem dX0_feed_27 : decode cX0_feed 27 = .ok (.invokevirtual 211, 3) := dk_182 0 211 (dk_at dksX0_feed_1 5 rfl rfl)
theorem dX0_feed_30 : decode cX0_feed 30 = .ok (.aload_n 0, 1) := dk_42 (dk_at dksX0_feed_1 8 rfl rfl)
theorem dX0_feed_31 : decode cX0_feed 31 = .ok (.iload 4, 2) := dk_21 4 (dk_at dksX0_feed_1 9 rfl rfl)
theorem dX0_feed_33 : decode cX0_feed 33 = .ok (.invokevirtual 211, 3) := dk_182 0 211 (dk_at dksX0_feed_1 11 rfl rfl)
theorem dX0_feed_36 : decode cX0_feed 36 = .ok (.aload_n 0, 1) := dk_42 (dk_at dksX0_feed_1 14 rfl rfl)
theorem dX0_feed_37 : decode cX0_feed 37 = .ok (.iload 5, 2) := dk_21 5 (dk_at dksX0_feed_1 15 rfl rfl)
theorem dX0_feed_39 : decode cX0_feed 39 = .ok (.invokevirtual 211, 3) := dk_182 0 211 (dk_at dksX0_feed_1 17 rfl rfl)
theorem dX0_feed_42 : decode cX0_feed 42 = .ok (.aload_n 0, 1) := dk_42 (dk_at dksX0_feed_1 20 rfl rfl)
theorem dX0_feed_43 : decode cX0_feed 43 = .ok (.getfield 208, 3) := dk_180 0 208 (dk_at dksX0_feed_1 21 rfl rfl)
theorem dX0_feed_46 : decode cX0_feed 46 = .ok (.ireturn, 1) := dk_172 (dk_at dksX0_feed_2 0 rfl rfl)
abbrev cX0_lay : ByteArray := prog_1_method_31_code
def yX0_lay : MethodName := ⟨RX0, "lay", "(I)V"⟩
def dkwX0_lay_1 : List UInt8 := [180, 0, 208, 4, 96, 181, 0, 208, 132, 2, 248, 167, 255, 226, 177]
abbrev dktX0_lay_1 : List UInt8 := dkwX0_lay_1 ++ []
def dkwX0_lay_0 : List UInt8 := [16, 24, 61, 28, 155, 0, 32, 42, 180, 0, 24, 42, 180, 0, 208, 27, 28, 122, 145, 84, 42, 89]
abbrev dktX0_lay_0 : List UInt8 := dkwX0_lay_0 ++ dktX0_lay_1
theorem dksX0_lay_0 : cX0_lay.data.toList.drop 0 = dktX0_lay_0 := by decide +kernel
theorem dksX0_lay_1 : cX0_lay.data.toList.drop 22 = dktX0_lay_1 := dk_seg dksX0_lay_0 22 rfl rfl
theorem dX0_lay_0 : decode cX0_lay 0 = .ok (.bipush 24, 2) := dk_16 24 (dk_at dksX0_lay_0 0 rfl rfl)
theorem dX0_lay_2 : decode cX0_lay 2 = .ok (.istore_n 2, 1) := dk_61 (dk_at dksX0_lay_0 2 rfl rfl)
theorem dX0_lay_3 : decode cX0_lay 3 = .ok (.iload_n 2, 1) := dk_28 (dk_at dksX0_lay_0 3 rfl rfl)
theorem dX0_lay_4 : decode cX0_lay 4 = .ok (.ifCond .lt 32, 3) := dk_155 0 32 (dk_at dksX0_lay_0 4 rfl rfl)
theorem dX0_lay_7 : decode cX0_lay 7 = .ok (.aload_n 0, 1) := dk_42 (dk_at dksX0_lay_0 7 rfl rfl)
theorem dX0_lay_8 : decode cX0_lay 8 = .ok (.getfield 24, 3) := dk_180 0 24 (dk_at dksX0_lay_0 8 rfl rfl)
theorem dX0_lay_11 : decode cX0_lay 11 = .ok (.aload_n 0, 1) := dk_42 (dk_at dksX0_lay_0 11 rfl rfl)
theorem dX0_lay_12 : decode cX0_lay 12 = .ok (.getfield 208, 3) := dk_180 0 208 (dk_at dksX0_lay_0 12 rfl rfl)
theorem dX0_lay_15 : decode cX0_lay 15 = .ok (.iload_n 1, 1) := dk_27 (dk_at dksX0_lay_0 15 rfl rfl)
theorem dX0_lay_16 : decode cX0_lay 16 = .ok (.iload_n 2, 1) := dk_28 (dk_at dksX0_lay_0 16 rfl rfl)
theorem dX0_lay_17 : decode cX0_lay 17 = .ok (.ishr, 1) := dk_122 (dk_at dksX0_lay_0 17 rfl rfl)
theorem dX0_lay_18 : decode cX0_lay 18 = .ok (.i2b, 1) := dk_145 (dk_at dksX0_lay_0 18 rfl rfl)
theorem dX0_lay_19 : decode cX0_lay 19 = .ok (.bastore, 1) := dk_84 (dk_at dksX0_lay_0 19 rfl rfl)
theorem dX0_lay_20 : decode cX0_lay 20 = .ok (.aload_n 0, 1) := dk_42 (dk_at dksX0_lay_0 20 rfl rfl)
theorem dX0_lay_21 : decode cX0_lay 21 = .ok (.dup, 1) := dk_89 (dk_at dksX0_lay_0 21 rfl rfl)
theorem dX0_lay_22 : decode cX0_lay 22 = .ok (.getfield 208, 3) := dk_180 0 208 (dk_at dksX0_lay_1 0 rfl rfl)
theorem dX0_lay_25 : decode cX0_lay 25 = .ok (.iconst 1, 1) := dk_4 (dk_at dksX0_lay_1 3 rfl rfl)
theorem dX0_lay_26 : decode cX0_lay 26 = .ok (.iadd, 1) := dk_96 (dk_at dksX0_lay_1 4 rfl rfl)
theorem dX0_lay_27 : decode cX0_lay 27 = .ok (.putfield 208, 3) := dk_181 0 208 (dk_at dksX0_lay_1 5 rfl rfl)
theorem dX0_lay_30 : decode cX0_lay 30 = .ok (.iinc 2 (-8), 3) := dk_132 2 248 (dk_at dksX0_lay_1 8 rfl rfl)
theorem dX0_lay_33 : decode cX0_lay 33 = .ok (.goto (-30), 3) := dk_167 255 226 (dk_at dksX0_lay_1 11 rfl rfl)
theorem dX0_lay_36 : decode cX0_lay 36 = .ok (.return_, 1) := dk_177 (dk_at dksX0_lay_1 14 rfl rfl)
abbrev cX0_town : ByteArray := prog_1_method_34_code
def yX0_town : MethodName := ⟨RX0, "town", "(I)I"⟩
def dkwX0_town_2 : List UInt8 := [42, 180, 0, 55, 1, 181, 0, 243, 44, 180, 0, 247, 184, 0, 250, 172, 77, 42, 44, 182, 0, 253, 172]
abbrev dktX0_town_2 : List UInt8 := dkwX0_town_2 ++ []
def dkwX0_town_1 : List UInt8 := [89, 42, 27, 183, 0, 227, 78, 45, 44, 182, 0, 230, 42, 182, 0, 233, 44, 45, 180, 0, 236, 182, 0, 239]
abbrev dktX0_town_1 : List UInt8 := dkwX0_town_1 ++ dktX0_town_2
def dkwX0_town_0 : List UInt8 := [42, 27, 17, 3, 132, 182, 0, 221, 154, 0, 5, 2, 172, 187, 0, 167, 89, 183, 0, 224, 77, 187, 0, 225]
abbrev dktX0_town_0 : List UInt8 := dkwX0_town_0 ++ dktX0_town_1
theorem dksX0_town_0 : cX0_town.data.toList.drop 0 = dktX0_town_0 := by decide +kernel
theorem dksX0_town_1 : cX0_town.data.toList.drop 24 = dktX0_town_1 := dk_seg dksX0_town_0 24 rfl rfl
theorem dksX0_town_2 : cX0_town.data.toList.drop 48 = dktX0_town_2 := dk_seg dksX0_town_1 24 rfl rfl
theorem dX0_town_0 : decode cX0_town 0 = .ok (.aload_n 0, 1) := dk_42 (dk_at dksX0_town_0 0 rfl rfl)
theorem dX0_town_1 : decode cX0_town 1 = .ok (.iload_n 1, 1) := dk_27 (dk_at dksX0_town_0 1 rfl rfl)
theorem dX0_town_2 : decode cX0_town 2 = .ok (.sipush 900, 3) := dk_17 3 132 (dk_at dksX0_town_0 2 rfl rfl)
theorem dX0_town_5 : decode cX0_town 5 = .ok (.invokevirtual 221, 3) := dk_182 0 221 (dk_at dksX0_town_0 5 rfl rfl)
theorem dX0_town_8 : decode cX0_town 8 = .ok (.ifCond .ne 5, 3) := dk_154 0 5 (dk_at dksX0_town_0 8 rfl rfl)
theorem dX0_town_11 : decode cX0_town 11 = .ok (.iconst (-1), 1) := dk_2 (dk_at dksX0_town_0 11 rfl rfl)
theorem dX0_town_12 : decode cX0_town 12 = .ok (.ireturn, 1) := dk_172 (dk_at dksX0_town_0 12 rfl rfl)
theorem dX0_town_13 : decode cX0_town 13 = .ok (.new 167, 3) := dk_187 0 167 (dk_at dksX0_town_0 13 rfl rfl)
theorem dX0_town_16 : decode cX0_town 16 = .ok (.dup, 1) := dk_89 (dk_at dksX0_town_0 16 rfl rfl)
theorem dX0_town_17 : decode cX0_town 17 = .ok (.invokespecial 224, 3) := dk_183 0 224 (dk_at dksX0_town_0 17 rfl rfl)
theorem dX0_town_20 : decode cX0_town 20 = .ok (.astore_n 2, 1) := dk_77 (dk_at dksX0_town_0 20 rfl rfl)
theorem dX0_town_21 : decode cX0_town 21 = .ok (.new 225, 3) := dk_187 0 225 (dk_at dksX0_town_0 21 rfl rfl)
theorem dX0_town_24 : decode cX0_town 24 = .ok (.dup, 1) := dk_89 (dk_at dksX0_town_1 0 rfl rfl)
theorem dX0_town_25 : decode cX0_town 25 = .ok (.aload_n 0, 1) := dk_42 (dk_at dksX0_town_1 1 rfl rfl)
theorem dX0_town_26 : decode cX0_town 26 = .ok (.iload_n 1, 1) := dk_27 (dk_at dksX0_town_1 2 rfl rfl)
theorem dX0_town_27 : decode cX0_town 27 = .ok (.invokespecial 227, 3) := dk_183 0 227 (dk_at dksX0_town_1 3 rfl rfl)
theorem dX0_town_30 : decode cX0_town 30 = .ok (.astore_n 3, 1) := dk_78 (dk_at dksX0_town_1 6 rfl rfl)
theorem dX0_town_31 : decode cX0_town 31 = .ok (.aload_n 3, 1) := dk_45 (dk_at dksX0_town_1 7 rfl rfl)
theorem dX0_town_32 : decode cX0_town 32 = .ok (.aload_n 2, 1) := dk_44 (dk_at dksX0_town_1 8 rfl rfl)
theorem dX0_town_33 : decode cX0_town 33 = .ok (.invokevirtual 230, 3) := dk_182 0 230 (dk_at dksX0_town_1 9 rfl rfl)
theorem dX0_town_36 : decode cX0_town 36 = .ok (.aload_n 0, 1) := dk_42 (dk_at dksX0_town_1 12 rfl rfl)
theorem dX0_town_37 : decode cX0_town 37 = .ok (.invokevirtual 233, 3) := dk_182 0 233 (dk_at dksX0_town_1 13 rfl rfl)
theorem dX0_town_40 : decode cX0_town 40 = .ok (.aload_n 2, 1) := dk_44 (dk_at dksX0_town_1 16 rfl rfl)
theorem dX0_town_41 : decode cX0_town 41 = .ok (.aload_n 3, 1) := dk_45 (dk_at dksX0_town_1 17 rfl rfl)
theorem dX0_town_42 : decode cX0_town 42 = .ok (.getfield 236, 3) := dk_180 0 236 (dk_at dksX0_town_1 18 rfl rfl)
theorem dX0_town_45 : decode cX0_town 45 = .ok (.invokevirtual 239, 3) := dk_182 0 239 (dk_at dksX0_town_1 21 rfl rfl)
theorem dX0_town_48 : decode cX0_town 48 = .ok (.aload_n 0, 1) := dk_42 (dk_at dksX0_town_2 0 rfl rfl)
theorem dX0_town_49 : decode cX0_town 49 = .ok (.getfield 55, 3) := dk_180 0 55 (dk_at dksX0_town_2 1 rfl rfl)
theorem dX0_town_52 : decode cX0_town 52 = .ok (.aconst_null, 1) := dk_1 (dk_at dksX0_town_2 4 rfl rfl)
theorem dX0_town_53 : decode cX0_town 53 = .ok (.putfield 243, 3) := dk_181 0 243 (dk_at dksX0_town_2 5 rfl rfl)
theorem dX0_town_56 : decode cX0_town 56 = .ok (.aload_n 2, 1) := dk_44 (dk_at dksX0_town_2 8 rfl rfl)
theorem dX0_town_57 : decode cX0_town 57 = .ok (.getfield 247, 3) := dk_180 0 247 (dk_at dksX0_town_2 9 rfl rfl)
theorem dX0_town_60 : decode cX0_town 60 = .ok (.invokestatic 250, 3) := dk_184 0 250 (dk_at dksX0_town_2 12 rfl rfl)
theorem dX0_town_63 : decode cX0_town 63 = .ok (.ireturn, 1) := dk_172 (dk_at dksX0_town_2 15 rfl rfl)
theorem dX0_town_64 : decode cX0_town 64 = .ok (.astore_n 2, 1) := dk_77 (dk_at dksX0_town_2 16 rfl rfl)
theorem dX0_town_65 : decode cX0_town 65 = .ok (.aload_n 0, 1) := dk_42 (dk_at dksX0_town_2 17 rfl rfl)
theorem dX0_town_66 : decode cX0_town 66 = .ok (.aload_n 2, 1) := dk_44 (dk_at dksX0_town_2 18 rfl rfl)
theorem dX0_town_67 : decode cX0_town 67 = .ok (.invokevirtual 253, 3) := dk_182 0 253 (dk_at dksX0_town_2 19 rfl rfl)
theorem dX0_town_70 : decode cX0_town 70 = .ok (.ireturn, 1) := dk_172 (dk_at dksX0_town_2 22 rfl rfl)
abbrev cX0_opens : ByteArray := prog_1_method_32_code
def yX0_opens : MethodName := ⟨RX0, "opens", "(II)Z"⟩
def dkwX0_opens_2 : List UInt8 := [181, 0, 31, 4, 172]
abbrev dktX0_opens_2 : List UInt8 := dkwX0_opens_2 ++ []
def dkwX0_opens_1 : List UInt8 := [181, 0, 81, 42, 180, 0, 81, 158, 0, 5, 3, 172, 42, 3, 181, 0, 208, 42, 3, 181, 0, 27, 42, 2]
abbrev dktX0_opens_1 : List UInt8 := dkwX0_opens_1 ++ dktX0_opens_2
def dkwX0_opens_0 : List UInt8 := [42, 27, 155, 0, 16, 27, 42, 180, 0, 208, 163, 0, 8, 27, 28, 164, 0, 7, 4, 167, 0, 4, 3]
abbrev dktX0_opens_0 : List UInt8 := dkwX0_opens_0 ++ dktX0_opens_1
theorem dksX0_opens_0 : cX0_opens.data.toList.drop 0 = dktX0_opens_0 := by decide +kernel
theorem dksX0_opens_1 : cX0_opens.data.toList.drop 23 = dktX0_opens_1 := dk_seg dksX0_opens_0 23 rfl rfl
theorem dksX0_opens_2 : cX0_opens.data.toList.drop 47 = dktX0_opens_2 := dk_seg dksX0_opens_1 24 rfl rfl
theorem dX0_opens_0 : decode cX0_opens 0 = .ok (.aload_n 0, 1) := dk_42 (dk_at dksX0_opens_0 0 rfl rfl)
theorem dX0_opens_1 : decode cX0_opens 1 = .ok (.iload_n 1, 1) := dk_27 (dk_at dksX0_opens_0 1 rfl rfl)
theorem dX0_opens_2 : decode cX0_opens 2 = .ok (.ifCond .lt 16, 3) := dk_155 0 16 (dk_at dksX0_opens_0 2 rfl rfl)
theorem dX0_opens_5 : decode cX0_opens 5 = .ok (.iload_n 1, 1) := dk_27 (dk_at dksX0_opens_0 5 rfl rfl)
theorem dX0_opens_6 : decode cX0_opens 6 = .ok (.aload_n 0, 1) := dk_42 (dk_at dksX0_opens_0 6 rfl rfl)
theorem dX0_opens_7 : decode cX0_opens 7 = .ok (.getfield 208, 3) := dk_180 0 208 (dk_at dksX0_opens_0 7 rfl rfl)
theorem dX0_opens_10 : decode cX0_opens 10 = .ok (.if_icmp .gt 8, 3) := dk_163 0 8 (dk_at dksX0_opens_0 10 rfl rfl)
theorem dX0_opens_13 : decode cX0_opens 13 = .ok (.iload_n 1, 1) := dk_27 (dk_at dksX0_opens_0 13 rfl rfl)
theorem dX0_opens_14 : decode cX0_opens 14 = .ok (.iload_n 2, 1) := dk_28 (dk_at dksX0_opens_0 14 rfl rfl)
theorem dX0_opens_15 : decode cX0_opens 15 = .ok (.if_icmp .le 7, 3) := dk_164 0 7 (dk_at dksX0_opens_0 15 rfl rfl)
theorem dX0_opens_18 : decode cX0_opens 18 = .ok (.iconst 1, 1) := dk_4 (dk_at dksX0_opens_0 18 rfl rfl)
theorem dX0_opens_19 : decode cX0_opens 19 = .ok (.goto 4, 3) := dk_167 0 4 (dk_at dksX0_opens_0 19 rfl rfl)
theorem dX0_opens_22 : decode cX0_opens 22 = .ok (.iconst 0, 1) := dk_3 (dk_at dksX0_opens_0 22 rfl rfl)
theorem dX0_opens_23 : decode cX0_opens 23 = .ok (.putfield 81, 3) := dk_181 0 81 (dk_at dksX0_opens_1 0 rfl rfl)
theorem dX0_opens_26 : decode cX0_opens 26 = .ok (.aload_n 0, 1) := dk_42 (dk_at dksX0_opens_1 3 rfl rfl)
theorem dX0_opens_27 : decode cX0_opens 27 = .ok (.getfield 81, 3) := dk_180 0 81 (dk_at dksX0_opens_1 4 rfl rfl)
theorem dX0_opens_30 : decode cX0_opens 30 = .ok (.ifCond .le 5, 3) := dk_158 0 5 (dk_at dksX0_opens_1 7 rfl rfl)
theorem dX0_opens_33 : decode cX0_opens 33 = .ok (.iconst 0, 1) := dk_3 (dk_at dksX0_opens_1 10 rfl rfl)
theorem dX0_opens_34 : decode cX0_opens 34 = .ok (.ireturn, 1) := dk_172 (dk_at dksX0_opens_1 11 rfl rfl)
theorem dX0_opens_35 : decode cX0_opens 35 = .ok (.aload_n 0, 1) := dk_42 (dk_at dksX0_opens_1 12 rfl rfl)
theorem dX0_opens_36 : decode cX0_opens 36 = .ok (.iconst 0, 1) := dk_3 (dk_at dksX0_opens_1 13 rfl rfl)
theorem dX0_opens_37 : decode cX0_opens 37 = .ok (.putfield 208, 3) := dk_181 0 208 (dk_at dksX0_opens_1 14 rfl rfl)
theorem dX0_opens_40 : decode cX0_opens 40 = .ok (.aload_n 0, 1) := dk_42 (dk_at dksX0_opens_1 17 rfl rfl)
theorem dX0_opens_41 : decode cX0_opens 41 = .ok (.iconst 0, 1) := dk_3 (dk_at dksX0_opens_1 18 rfl rfl)
theorem dX0_opens_42 : decode cX0_opens 42 = .ok (.putfield 27, 3) := dk_181 0 27 (dk_at dksX0_opens_1 19 rfl rfl)
theorem dX0_opens_45 : decode cX0_opens 45 = .ok (.aload_n 0, 1) := dk_42 (dk_at dksX0_opens_1 22 rfl rfl)
theorem dX0_opens_46 : decode cX0_opens 46 = .ok (.iconst (-1), 1) := dk_2 (dk_at dksX0_opens_1 23 rfl rfl)
theorem dX0_opens_47 : decode cX0_opens 47 = .ok (.putfield 31, 3) := dk_181 0 31 (dk_at dksX0_opens_2 0 rfl rfl)
theorem dX0_opens_50 : decode cX0_opens 50 = .ok (.iconst 1, 1) := dk_4 (dk_at dksX0_opens_2 3 rfl rfl)
theorem dX0_opens_51 : decode cX0_opens 51 = .ok (.ireturn, 1) := dk_172 (dk_at dksX0_opens_2 4 rfl rfl)
abbrev cX0_hill : ByteArray := prog_1_method_20_code
def yX0_hill : MethodName := ⟨RX0, "hill", "()LWindowHill$Hill;"⟩
def dkwX0_hill_0 : List UInt8 := [42, 180, 0, 55, 180, 0, 155, 176]
abbrev dktX0_hill_0 : List UInt8 := dkwX0_hill_0 ++ []
theorem dksX0_hill_0 : cX0_hill.data.toList.drop 0 = dktX0_hill_0 := by decide +kernel
theorem dX0_hill_0 : decode cX0_hill 0 = .ok (.aload_n 0, 1) := dk_42 (dk_at dksX0_hill_0 0 rfl rfl)
theorem dX0_hill_1 : decode cX0_hill 1 = .ok (.getfield 55, 3) := dk_180 0 55 (dk_at dksX0_hill_0 1 rfl rfl)
theorem dX0_hill_4 : decode cX0_hill 4 = .ok (.getfield 155, 3) := dk_180 0 155 (dk_at dksX0_hill_0 4 rfl rfl)
theorem dX0_hill_7 : decode cX0_hill 7 = .ok (.areturn, 1) := dk_176 (dk_at dksX0_hill_0 7 rfl rfl)
abbrev cX0_many : ByteArray := prog_1_method_26_code
def yX0_many : MethodName := ⟨RX0, "many", "(I)I"⟩
theorem dX0_many_0 : decode cX0_many 0 = .ok (.iload_n 0, 1) := by decide +kernel
theorem dX0_many_1 : decode cX0_many 1 = .ok (.invokestatic 186, 3) := by decide +kernel
theorem dX0_many_4 : decode cX0_many 4 = .ok (.ireturn, 1) := by decide +kernel
abbrev cX0_faulty : ByteArray := prog_1_method_33_code
def yX0_faulty : MethodName := ⟨RX0, "faulty", "(LWindowHill$Bad;)I"⟩
def dkwX0_faulty_0 : List UInt8 := [42, 43, 180, 0, 215, 181, 0, 27, 42, 43, 180, 0, 218, 181, 0, 31, 42, 16, 9, 181, 0, 81, 2, 172]
abbrev dktX0_faulty_0 : List UInt8 := dkwX0_faulty_0 ++ []
theorem dksX0_faulty_0 : cX0_faulty.data.toList.drop 0 = dktX0_faulty_0 := by decide +kernel
theorem dX0_faulty_0 : decode cX0_faulty 0 = .ok (.aload_n 0, 1) := dk_42 (dk_at dksX0_faulty_0 0 rfl rfl)
theorem dX0_faulty_1 : decode cX0_faulty 1 = .ok (.aload_n 1, 1) := dk_43 (dk_at dksX0_faulty_0 1 rfl rfl)
theorem dX0_faulty_2 : decode cX0_faulty 2 = .ok (.getfield 215, 3) := dk_180 0 215 (dk_at dksX0_faulty_0 2 rfl rfl)
theorem dX0_faulty_5 : decode cX0_faulty 5 = .ok (.putfield 27, 3) := dk_181 0 27 (dk_at dksX0_faulty_0 5 rfl rfl)
theorem dX0_faulty_8 : decode cX0_faulty 8 = .ok (.aload_n 0, 1) := dk_42 (dk_at dksX0_faulty_0 8 rfl rfl)
theorem dX0_faulty_9 : decode cX0_faulty 9 = .ok (.aload_n 1, 1) := dk_43 (dk_at dksX0_faulty_0 9 rfl rfl)
theorem dX0_faulty_10 : decode cX0_faulty 10 = .ok (.getfield 218, 3) := dk_180 0 218 (dk_at dksX0_faulty_0 10 rfl rfl)
theorem dX0_faulty_13 : decode cX0_faulty 13 = .ok (.putfield 31, 3) := dk_181 0 31 (dk_at dksX0_faulty_0 13 rfl rfl)
theorem dX0_faulty_16 : decode cX0_faulty 16 = .ok (.aload_n 0, 1) := dk_42 (dk_at dksX0_faulty_0 16 rfl rfl)
theorem dX0_faulty_17 : decode cX0_faulty 17 = .ok (.bipush 9, 2) := dk_16 9 (dk_at dksX0_faulty_0 17 rfl rfl)
theorem dX0_faulty_19 : decode cX0_faulty 19 = .ok (.putfield 81, 3) := dk_181 0 81 (dk_at dksX0_faulty_0 19 rfl rfl)
theorem dX0_faulty_22 : decode cX0_faulty 22 = .ok (.iconst (-1), 1) := dk_2 (dk_at dksX0_faulty_0 22 rfl rfl)
theorem dX0_faulty_23 : decode cX0_faulty 23 = .ok (.ireturn, 1) := dk_172 (dk_at dksX0_faulty_0 23 rfl rfl)
abbrev cX0_year : ByteArray := prog_1_method_35_code
def yX0_year : MethodName := ⟨RX0, "year", "(I)I"⟩
def dkwX0_year_2 : List UInt8 := [181, 0, 243, 45, 180, 1, 8, 172, 77, 42, 44, 182, 0, 253, 172]
abbrev dktX0_year_2 : List UInt8 := dkwX0_year_2 ++ []
def dkwX0_year_1 : List UInt8 := [187, 0, 225, 89, 42, 27, 183, 0, 227, 78, 45, 42, 182, 0, 162, 44, 182, 1, 5, 42, 180, 0, 55, 44]
abbrev dktX0_year_1 : List UInt8 := dkwX0_year_1 ++ dktX0_year_2
def dkwX0_year_0 : List UInt8 := [42, 27, 17, 1, 44, 182, 0, 221, 154, 0, 5, 2, 172, 187, 1, 1, 89, 4, 183, 1, 3, 77]
abbrev dktX0_year_0 : List UInt8 := dkwX0_year_0 ++ dktX0_year_1
theorem dksX0_year_0 : cX0_year.data.toList.drop 0 = dktX0_year_0 := by decide +kernel
theorem dksX0_year_1 : cX0_year.data.toList.drop 22 = dktX0_year_1 := dk_seg dksX0_year_0 22 rfl rfl
theorem dksX0_year_2 : cX0_year.data.toList.drop 46 = dktX0_year_2 := dk_seg dksX0_year_1 24 rfl rfl
theorem dX0_year_0 : decode cX0_year 0 = .ok (.aload_n 0, 1) := dk_42 (dk_at dksX0_year_0 0 rfl rfl)
theorem dX0_year_1 : decode cX0_year 1 = .ok (.iload_n 1, 1) := dk_27 (dk_at dksX0_year_0 1 rfl rfl)
theorem dX0_year_2 : decode cX0_year 2 = .ok (.sipush 300, 3) := dk_17 1 44 (dk_at dksX0_year_0 2 rfl rfl)
theorem dX0_year_5 : decode cX0_year 5 = .ok (.invokevirtual 221, 3) := dk_182 0 221 (dk_at dksX0_year_0 5 rfl rfl)
theorem dX0_year_8 : decode cX0_year 8 = .ok (.ifCond .ne 5, 3) := dk_154 0 5 (dk_at dksX0_year_0 8 rfl rfl)
theorem dX0_year_11 : decode cX0_year 11 = .ok (.iconst (-1), 1) := dk_2 (dk_at dksX0_year_0 11 rfl rfl)
theorem dX0_year_12 : decode cX0_year 12 = .ok (.ireturn, 1) := dk_172 (dk_at dksX0_year_0 12 rfl rfl)
theorem dX0_year_13 : decode cX0_year 13 = .ok (.new 257, 3) := dk_187 1 1 (dk_at dksX0_year_0 13 rfl rfl)
theorem dX0_year_16 : decode cX0_year 16 = .ok (.dup, 1) := dk_89 (dk_at dksX0_year_0 16 rfl rfl)
theorem dX0_year_17 : decode cX0_year 17 = .ok (.iconst 1, 1) := dk_4 (dk_at dksX0_year_0 17 rfl rfl)
theorem dX0_year_18 : decode cX0_year 18 = .ok (.invokespecial 259, 3) := dk_183 1 3 (dk_at dksX0_year_0 18 rfl rfl)
theorem dX0_year_21 : decode cX0_year 21 = .ok (.astore_n 2, 1) := dk_77 (dk_at dksX0_year_0 21 rfl rfl)
theorem dX0_year_22 : decode cX0_year 22 = .ok (.new 225, 3) := dk_187 0 225 (dk_at dksX0_year_1 0 rfl rfl)
theorem dX0_year_25 : decode cX0_year 25 = .ok (.dup, 1) := dk_89 (dk_at dksX0_year_1 3 rfl rfl)
theorem dX0_year_26 : decode cX0_year 26 = .ok (.aload_n 0, 1) := dk_42 (dk_at dksX0_year_1 4 rfl rfl)
theorem dX0_year_27 : decode cX0_year 27 = .ok (.iload_n 1, 1) := dk_27 (dk_at dksX0_year_1 5 rfl rfl)
theorem dX0_year_28 : decode cX0_year 28 = .ok (.invokespecial 227, 3) := dk_183 0 227 (dk_at dksX0_year_1 6 rfl rfl)
theorem dX0_year_31 : decode cX0_year 31 = .ok (.astore_n 3, 1) := dk_78 (dk_at dksX0_year_1 9 rfl rfl)
theorem dX0_year_32 : decode cX0_year 32 = .ok (.aload_n 3, 1) := dk_45 (dk_at dksX0_year_1 10 rfl rfl)
theorem dX0_year_33 : decode cX0_year 33 = .ok (.aload_n 0, 1) := dk_42 (dk_at dksX0_year_1 11 rfl rfl)
theorem dX0_year_34 : decode cX0_year 34 = .ok (.invokevirtual 162, 3) := dk_182 0 162 (dk_at dksX0_year_1 12 rfl rfl)
theorem dX0_year_37 : decode cX0_year 37 = .ok (.aload_n 2, 1) := dk_44 (dk_at dksX0_year_1 15 rfl rfl)
theorem dX0_year_38 : decode cX0_year 38 = .ok (.invokevirtual 261, 3) := dk_182 1 5 (dk_at dksX0_year_1 16 rfl rfl)
theorem dX0_year_41 : decode cX0_year 41 = .ok (.aload_n 0, 1) := dk_42 (dk_at dksX0_year_1 19 rfl rfl)
theorem dX0_year_42 : decode cX0_year 42 = .ok (.getfield 55, 3) := dk_180 0 55 (dk_at dksX0_year_1 20 rfl rfl)
theorem dX0_year_45 : decode cX0_year 45 = .ok (.aload_n 2, 1) := dk_44 (dk_at dksX0_year_1 23 rfl rfl)
theorem dX0_year_46 : decode cX0_year 46 = .ok (.putfield 243, 3) := dk_181 0 243 (dk_at dksX0_year_2 0 rfl rfl)
theorem dX0_year_49 : decode cX0_year 49 = .ok (.aload_n 3, 1) := dk_45 (dk_at dksX0_year_2 3 rfl rfl)
theorem dX0_year_50 : decode cX0_year 50 = .ok (.getfield 264, 3) := dk_180 1 8 (dk_at dksX0_year_2 4 rfl rfl)
theorem dX0_year_53 : decode cX0_year 53 = .ok (.ireturn, 1) := dk_172 (dk_at dksX0_year_2 7 rfl rfl)
theorem dX0_year_54 : decode cX0_year 54 = .ok (.astore_n 2, 1) := dk_77 (dk_at dksX0_year_2 8 rfl rfl)
theorem dX0_year_55 : decode cX0_year 55 = .ok (.aload_n 0, 1) := dk_42 (dk_at dksX0_year_2 9 rfl rfl)
theorem dX0_year_56 : decode cX0_year 56 = .ok (.aload_n 2, 1) := dk_44 (dk_at dksX0_year_2 10 rfl rfl)
theorem dX0_year_57 : decode cX0_year 57 = .ok (.invokevirtual 253, 3) := dk_182 0 253 (dk_at dksX0_year_2 11 rfl rfl)
theorem dX0_year_60 : decode cX0_year 60 = .ok (.ireturn, 1) := dk_172 (dk_at dksX0_year_2 14 rfl rfl)
abbrev cX0_at : ByteArray := prog_1_method_21_code
def yX0_at : MethodName := ⟨RX0, "at", "()LWindowHill$Town;"⟩
def dkwX0_at_0 : List UInt8 := [42, 180, 0, 55, 180, 0, 155, 180, 0, 158, 176]
abbrev dktX0_at_0 : List UInt8 := dkwX0_at_0 ++ []
theorem dksX0_at_0 : cX0_at.data.toList.drop 0 = dktX0_at_0 := by decide +kernel
theorem dX0_at_0 : decode cX0_at 0 = .ok (.aload_n 0, 1) := dk_42 (dk_at dksX0_at_0 0 rfl rfl)
theorem dX0_at_1 : decode cX0_at 1 = .ok (.getfield 55, 3) := dk_180 0 55 (dk_at dksX0_at_0 1 rfl rfl)
theorem dX0_at_4 : decode cX0_at 4 = .ok (.getfield 155, 3) := dk_180 0 155 (dk_at dksX0_at_0 4 rfl rfl)
theorem dX0_at_7 : decode cX0_at 7 = .ok (.getfield 158, 3) := dk_180 0 158 (dk_at dksX0_at_0 7 rfl rfl)
theorem dX0_at_10 : decode cX0_at 10 = .ok (.areturn, 1) := dk_176 (dk_at dksX0_at_0 10 rfl rfl)
abbrev cX0_fault : ByteArray := prog_1_method_36_code
def yX0_fault : MethodName := ⟨RX0, "fault", "(I)I"⟩
def dkwX0_fault_1 : List UInt8 := [172]
abbrev dktX0_fault_1 : List UInt8 := dkwX0_fault_1 ++ []
def dkwX0_fault_0 : List UInt8 := [27, 154, 0, 10, 42, 180, 0, 27, 167, 0, 16, 27, 4, 160, 0, 10, 42, 180, 0, 31, 167, 0, 4, 2]
abbrev dktX0_fault_0 : List UInt8 := dkwX0_fault_0 ++ dktX0_fault_1
theorem dksX0_fault_0 : cX0_fault.data.toList.drop 0 = dktX0_fault_0 := by decide +kernel
theorem dksX0_fault_1 : cX0_fault.data.toList.drop 24 = dktX0_fault_1 := dk_seg dksX0_fault_0 24 rfl rfl
theorem dX0_fault_0 : decode cX0_fault 0 = .ok (.iload_n 1, 1) := dk_27 (dk_at dksX0_fault_0 0 rfl rfl)
theorem dX0_fault_1 : decode cX0_fault 1 = .ok (.ifCond .ne 10, 3) := dk_154 0 10 (dk_at dksX0_fault_0 1 rfl rfl)
theorem dX0_fault_4 : decode cX0_fault 4 = .ok (.aload_n 0, 1) := dk_42 (dk_at dksX0_fault_0 4 rfl rfl)
theorem dX0_fault_5 : decode cX0_fault 5 = .ok (.getfield 27, 3) := dk_180 0 27 (dk_at dksX0_fault_0 5 rfl rfl)
theorem dX0_fault_8 : decode cX0_fault 8 = .ok (.goto 16, 3) := dk_167 0 16 (dk_at dksX0_fault_0 8 rfl rfl)
theorem dX0_fault_11 : decode cX0_fault 11 = .ok (.iload_n 1, 1) := dk_27 (dk_at dksX0_fault_0 11 rfl rfl)
theorem dX0_fault_12 : decode cX0_fault 12 = .ok (.iconst 1, 1) := dk_4 (dk_at dksX0_fault_0 12 rfl rfl)
theorem dX0_fault_13 : decode cX0_fault 13 = .ok (.if_icmp .ne 10, 3) := dk_160 0 10 (dk_at dksX0_fault_0 13 rfl rfl)
theorem dX0_fault_16 : decode cX0_fault 16 = .ok (.aload_n 0, 1) := dk_42 (dk_at dksX0_fault_0 16 rfl rfl)
theorem dX0_fault_17 : decode cX0_fault 17 = .ok (.getfield 31, 3) := dk_180 0 31 (dk_at dksX0_fault_0 17 rfl rfl)
theorem dX0_fault_20 : decode cX0_fault 20 = .ok (.goto 4, 3) := dk_167 0 4 (dk_at dksX0_fault_0 20 rfl rfl)
theorem dX0_fault_23 : decode cX0_fault 23 = .ok (.iconst (-1), 1) := dk_2 (dk_at dksX0_fault_0 23 rfl rfl)
theorem dX0_fault_24 : decode cX0_fault 24 = .ok (.ireturn, 1) := dk_172 (dk_at dksX0_fault_1 0 rfl rfl)
abbrev cX0_told : ByteArray := prog_1_method_37_code
def yX0_told : MethodName := ⟨RX0, "told", "(I)I"⟩
def dkwX0_told_6 : List UInt8 := [167, 0, 4, 3, 172, 42, 42, 182, 0, 233, 180, 1, 29, 182, 1, 32, 172, 2, 172]
abbrev dktX0_told_6 : List UInt8 := dkwX0_told_6 ++ []
def dkwX0_told_5 : List UInt8 := [180, 1, 19, 172, 42, 182, 0, 233, 180, 1, 22, 172, 42, 182, 0, 162, 182, 1, 25, 153, 0, 7, 4]
abbrev dktX0_told_5 : List UInt8 := dkwX0_told_5 ++ dktX0_told_6
def dkwX0_told_4 : List UInt8 := [184, 0, 250, 172, 42, 182, 0, 162, 180, 0, 178, 172, 42, 182, 0, 162, 180, 0, 181, 172, 42, 182, 0, 233]
abbrev dktX0_told_4 : List UInt8 := dkwX0_told_4 ++ dktX0_told_5
def dkwX0_told_3 : List UInt8 := [184, 0, 250, 172, 42, 182, 0, 233, 180, 1, 13, 184, 0, 250, 172, 42, 182, 0, 162, 182, 1, 16]
abbrev dktX0_told_3 : List UInt8 := dkwX0_told_3 ++ dktX0_told_4
def dkwX0_told_2 : List UInt8 := [42, 182, 0, 162, 180, 0, 166, 172, 42, 182, 0, 162, 180, 0, 175, 172, 42, 182, 0, 162, 180, 0, 247]
abbrev dktX0_told_2 : List UInt8 := dkwX0_told_2 ++ dktX0_told_3
def dkwX0_told_1 : List UInt8 := [170, 0, 0, 0, 0, 167, 0, 0, 0, 0, 0, 0, 0, 10, 0, 0, 0, 58, 0, 0, 0, 66, 0, 0, 0, 74, 0, 0, 0, 85, 0, 0, 0, 96, 0, 0, 0, 107, 0, 0, 0, 115, 0, 0, 0, 123, 0, 0, 0, 131, 0, 0, 0, 139, 0, 0, 0, 155]
abbrev dktX0_told_1 : List UInt8 := dkwX0_told_1 ++ dktX0_told_2
def dkwX0_told_0 : List UInt8 := [42, 27, 133, 9, 20, 1, 11, 184, 0, 171, 153, 0, 7, 3, 167, 0, 4, 4, 181, 0, 81, 27]
abbrev dktX0_told_0 : List UInt8 := dkwX0_told_0 ++ dktX0_told_1
theorem dksX0_told_0 : cX0_told.data.toList.drop 0 = dktX0_told_0 := by decide +kernel
theorem dksX0_told_1 : cX0_told.data.toList.drop 22 = dktX0_told_1 := dk_seg dksX0_told_0 22 rfl rfl
theorem dksX0_told_2 : cX0_told.data.toList.drop 80 = dktX0_told_2 := dk_seg dksX0_told_1 58 rfl rfl
theorem dksX0_told_3 : cX0_told.data.toList.drop 103 = dktX0_told_3 := dk_seg dksX0_told_2 23 rfl rfl
theorem dksX0_told_4 : cX0_told.data.toList.drop 125 = dktX0_told_4 := dk_seg dksX0_told_3 22 rfl rfl
theorem dksX0_told_5 : cX0_told.data.toList.drop 149 = dktX0_told_5 := dk_seg dksX0_told_4 24 rfl rfl
theorem dksX0_told_6 : cX0_told.data.toList.drop 172 = dktX0_told_6 := dk_seg dksX0_told_5 23 rfl rfl
theorem dX0_told_0 : decode cX0_told 0 = .ok (.aload_n 0, 1) := dk_42 (dk_at dksX0_told_0 0 rfl rfl)
theorem dX0_told_1 : decode cX0_told 1 = .ok (.iload_n 1, 1) := dk_27 (dk_at dksX0_told_0 1 rfl rfl)
theorem dX0_told_2 : decode cX0_told 2 = .ok (.i2l, 1) := dk_133 (dk_at dksX0_told_0 2 rfl rfl)
theorem dX0_told_3 : decode cX0_told 3 = .ok (.lconst 0, 1) := dk_9 (dk_at dksX0_told_0 3 rfl rfl)
theorem dX0_told_4 : decode cX0_told 4 = .ok (.ldc2_w 267, 3) := dk_20 1 11 (dk_at dksX0_told_0 4 rfl rfl)
theorem dX0_told_7 : decode cX0_told 7 = .ok (.invokestatic 171, 3) := dk_184 0 171 (dk_at dksX0_told_0 7 rfl rfl)
theorem dX0_told_10 : decode cX0_told 10 = .ok (.ifCond .eq 7, 3) := dk_153 0 7 (dk_at dksX0_told_0 10 rfl rfl)
theorem dX0_told_13 : decode cX0_told 13 = .ok (.iconst 0, 1) := dk_3 (dk_at dksX0_told_0 13 rfl rfl)
theorem dX0_told_14 : decode cX0_told 14 = .ok (.goto 4, 3) := dk_167 0 4 (dk_at dksX0_told_0 14 rfl rfl)
theorem dX0_told_17 : decode cX0_told 17 = .ok (.iconst 1, 1) := dk_4 (dk_at dksX0_told_0 17 rfl rfl)
theorem dX0_told_18 : decode cX0_told 18 = .ok (.putfield 81, 3) := dk_181 0 81 (dk_at dksX0_told_0 18 rfl rfl)
theorem dX0_told_21 : decode cX0_told 21 = .ok (.iload_n 1, 1) := dk_27 (dk_at dksX0_told_0 21 rfl rfl)
theorem dX0_told_22 : decode cX0_told 22 = .ok (.tableswitch 167 0 10 #[58, 66, 74, 85, 96, 107, 115, 123, 131, 139, 155], 58) := by decide +kernel
theorem dX0_told_80 : decode cX0_told 80 = .ok (.aload_n 0, 1) := dk_42 (dk_at dksX0_told_2 0 rfl rfl)
theorem dX0_told_81 : decode cX0_told 81 = .ok (.invokevirtual 162, 3) := dk_182 0 162 (dk_at dksX0_told_2 1 rfl rfl)
theorem dX0_told_84 : decode cX0_told 84 = .ok (.getfield 166, 3) := dk_180 0 166 (dk_at dksX0_told_2 4 rfl rfl)
theorem dX0_told_87 : decode cX0_told 87 = .ok (.ireturn, 1) := dk_172 (dk_at dksX0_told_2 7 rfl rfl)
theorem dX0_told_88 : decode cX0_told 88 = .ok (.aload_n 0, 1) := dk_42 (dk_at dksX0_told_2 8 rfl rfl)
theorem dX0_told_89 : decode cX0_told 89 = .ok (.invokevirtual 162, 3) := dk_182 0 162 (dk_at dksX0_told_2 9 rfl rfl)
theorem dX0_told_92 : decode cX0_told 92 = .ok (.getfield 175, 3) := dk_180 0 175 (dk_at dksX0_told_2 12 rfl rfl)
theorem dX0_told_95 : decode cX0_told 95 = .ok (.ireturn, 1) := dk_172 (dk_at dksX0_told_2 15 rfl rfl)
theorem dX0_told_96 : decode cX0_told 96 = .ok (.aload_n 0, 1) := dk_42 (dk_at dksX0_told_2 16 rfl rfl)
theorem dX0_told_97 : decode cX0_told 97 = .ok (.invokevirtual 162, 3) := dk_182 0 162 (dk_at dksX0_told_2 17 rfl rfl)
theorem dX0_told_100 : decode cX0_told 100 = .ok (.getfield 247, 3) := dk_180 0 247 (dk_at dksX0_told_2 20 rfl rfl)
theorem dX0_told_103 : decode cX0_told 103 = .ok (.invokestatic 250, 3) := dk_184 0 250 (dk_at dksX0_told_3 0 rfl rfl)
theorem dX0_told_106 : decode cX0_told 106 = .ok (.ireturn, 1) := dk_172 (dk_at dksX0_told_3 3 rfl rfl)
theorem dX0_told_107 : decode cX0_told 107 = .ok (.aload_n 0, 1) := dk_42 (dk_at dksX0_told_3 4 rfl rfl)
theorem dX0_told_108 : decode cX0_told 108 = .ok (.invokevirtual 233, 3) := dk_182 0 233 (dk_at dksX0_told_3 5 rfl rfl)
theorem dX0_told_111 : decode cX0_told 111 = .ok (.getfield 269, 3) := dk_180 1 13 (dk_at dksX0_told_3 8 rfl rfl)
theorem dX0_told_114 : decode cX0_told 114 = .ok (.invokestatic 250, 3) := dk_184 0 250 (dk_at dksX0_told_3 11 rfl rfl)
theorem dX0_told_117 : decode cX0_told 117 = .ok (.ireturn, 1) := dk_172 (dk_at dksX0_told_3 14 rfl rfl)
theorem dX0_told_118 : decode cX0_told 118 = .ok (.aload_n 0, 1) := dk_42 (dk_at dksX0_told_3 15 rfl rfl)
theorem dX0_told_119 : decode cX0_told 119 = .ok (.invokevirtual 162, 3) := dk_182 0 162 (dk_at dksX0_told_3 16 rfl rfl)
theorem dX0_told_122 : decode cX0_told 122 = .ok (.invokevirtual 272, 3) := dk_182 1 16 (dk_at dksX0_told_3 19 rfl rfl)
theorem dX0_told_125 : decode cX0_told 125 = .ok (.invokestatic 250, 3) := dk_184 0 250 (dk_at dksX0_told_4 0 rfl rfl)
theorem dX0_told_128 : decode cX0_told 128 = .ok (.ireturn, 1) := dk_172 (dk_at dksX0_told_4 3 rfl rfl)
theorem dX0_told_129 : decode cX0_told 129 = .ok (.aload_n 0, 1) := dk_42 (dk_at dksX0_told_4 4 rfl rfl)
theorem dX0_told_130 : decode cX0_told 130 = .ok (.invokevirtual 162, 3) := dk_182 0 162 (dk_at dksX0_told_4 5 rfl rfl)
theorem dX0_told_133 : decode cX0_told 133 = .ok (.getfield 178, 3) := dk_180 0 178 (dk_at dksX0_told_4 8 rfl rfl)
theorem dX0_told_136 : decode cX0_told 136 = .ok (.ireturn, 1) := dk_172 (dk_at dksX0_told_4 11 rfl rfl)
theorem dX0_told_137 : decode cX0_told 137 = .ok (.aload_n 0, 1) := dk_42 (dk_at dksX0_told_4 12 rfl rfl)
theorem dX0_told_138 : decode cX0_told 138 = .ok (.invokevirtual 162, 3) := dk_182 0 162 (dk_at dksX0_told_4 13 rfl rfl)
theorem dX0_told_141 : decode cX0_told 141 = .ok (.getfield 181, 3) := dk_180 0 181 (dk_at dksX0_told_4 16 rfl rfl)
theorem dX0_told_144 : decode cX0_told 144 = .ok (.ireturn, 1) := dk_172 (dk_at dksX0_told_4 19 rfl rfl)
theorem dX0_told_145 : decode cX0_told 145 = .ok (.aload_n 0, 1) := dk_42 (dk_at dksX0_told_4 20 rfl rfl)
theorem dX0_told_146 : decode cX0_told 146 = .ok (.invokevirtual 233, 3) := dk_182 0 233 (dk_at dksX0_told_4 21 rfl rfl)
theorem dX0_told_149 : decode cX0_told 149 = .ok (.getfield 275, 3) := dk_180 1 19 (dk_at dksX0_told_5 0 rfl rfl)
theorem dX0_told_152 : decode cX0_told 152 = .ok (.ireturn, 1) := dk_172 (dk_at dksX0_told_5 3 rfl rfl)
theorem dX0_told_153 : decode cX0_told 153 = .ok (.aload_n 0, 1) := dk_42 (dk_at dksX0_told_5 4 rfl rfl)
theorem dX0_told_154 : decode cX0_told 154 = .ok (.invokevirtual 233, 3) := dk_182 0 233 (dk_at dksX0_told_5 5 rfl rfl)
theorem dX0_told_157 : decode cX0_told 157 = .ok (.getfield 278, 3) := dk_180 1 22 (dk_at dksX0_told_5 8 rfl rfl)
theorem dX0_told_160 : decode cX0_told 160 = .ok (.ireturn, 1) := dk_172 (dk_at dksX0_told_5 11 rfl rfl)
theorem dX0_told_161 : decode cX0_told 161 = .ok (.aload_n 0, 1) := dk_42 (dk_at dksX0_told_5 12 rfl rfl)
theorem dX0_told_162 : decode cX0_told 162 = .ok (.invokevirtual 162, 3) := dk_182 0 162 (dk_at dksX0_told_5 13 rfl rfl)
theorem dX0_told_165 : decode cX0_told 165 = .ok (.invokevirtual 281, 3) := dk_182 1 25 (dk_at dksX0_told_5 16 rfl rfl)
theorem dX0_told_168 : decode cX0_told 168 = .ok (.ifCond .eq 7, 3) := dk_153 0 7 (dk_at dksX0_told_5 19 rfl rfl)
theorem dX0_told_171 : decode cX0_told 171 = .ok (.iconst 1, 1) := dk_4 (dk_at dksX0_told_5 22 rfl rfl)
theorem dX0_told_172 : decode cX0_told 172 = .ok (.goto 4, 3) := dk_167 0 4 (dk_at dksX0_told_6 0 rfl rfl)
theorem dX0_told_175 : decode cX0_told 175 = .ok (.iconst 0, 1) := dk_3 (dk_at dksX0_told_6 3 rfl rfl)
theorem dX0_told_176 : decode cX0_told 176 = .ok (.ireturn, 1) := dk_172 (dk_at dksX0_told_6 4 rfl rfl)
theorem dX0_told_177 : decode cX0_told 177 = .ok (.aload_n 0, 1) := dk_42 (dk_at dksX0_told_6 5 rfl rfl)
theorem dX0_told_178 : decode cX0_told 178 = .ok (.aload_n 0, 1) := dk_42 (dk_at dksX0_told_6 6 rfl rfl)
theorem dX0_told_179 : decode cX0_told 179 = .ok (.invokevirtual 233, 3) := dk_182 0 233 (dk_at dksX0_told_6 7 rfl rfl)
theorem dX0_told_182 : decode cX0_told 182 = .ok (.getfield 285, 3) := dk_180 1 29 (dk_at dksX0_told_6 10 rfl rfl)
theorem dX0_told_185 : decode cX0_told 185 = .ok (.invokevirtual 288, 3) := dk_182 1 32 (dk_at dksX0_told_6 13 rfl rfl)
theorem dX0_told_188 : decode cX0_told 188 = .ok (.ireturn, 1) := dk_172 (dk_at dksX0_told_6 16 rfl rfl)
theorem dX0_told_189 : decode cX0_told 189 = .ok (.iconst (-1), 1) := dk_2 (dk_at dksX0_told_6 17 rfl rfl)
theorem dX0_told_190 : decode cX0_told 190 = .ok (.ireturn, 1) := dk_172 (dk_at dksX0_told_6 18 rfl rfl)
abbrev cX0_isIn : ByteArray := prog_1_method_19_code
def yX0_isIn : MethodName := ⟨RX0, "isIn", "(JJJ)Z"⟩
def dkwX0_isIn_0 : List UInt8 := [30, 32, 148, 155, 0, 14, 30, 22, 4, 148, 157, 0, 7, 4, 167, 0, 4, 3, 172]
abbrev dktX0_isIn_0 : List UInt8 := dkwX0_isIn_0 ++ []
theorem dksX0_isIn_0 : cX0_isIn.data.toList.drop 0 = dktX0_isIn_0 := by decide +kernel
theorem dX0_isIn_0 : decode cX0_isIn 0 = .ok (.lload_n 0, 1) := dk_30 (dk_at dksX0_isIn_0 0 rfl rfl)
theorem dX0_isIn_1 : decode cX0_isIn 1 = .ok (.lload_n 2, 1) := dk_32 (dk_at dksX0_isIn_0 1 rfl rfl)
theorem dX0_isIn_2 : decode cX0_isIn 2 = .ok (.lcmp, 1) := dk_148 (dk_at dksX0_isIn_0 2 rfl rfl)
theorem dX0_isIn_3 : decode cX0_isIn 3 = .ok (.ifCond .lt 14, 3) := dk_155 0 14 (dk_at dksX0_isIn_0 3 rfl rfl)
theorem dX0_isIn_6 : decode cX0_isIn 6 = .ok (.lload_n 0, 1) := dk_30 (dk_at dksX0_isIn_0 6 rfl rfl)
theorem dX0_isIn_7 : decode cX0_isIn 7 = .ok (.lload 4, 2) := dk_22 4 (dk_at dksX0_isIn_0 7 rfl rfl)
theorem dX0_isIn_9 : decode cX0_isIn 9 = .ok (.lcmp, 1) := dk_148 (dk_at dksX0_isIn_0 9 rfl rfl)
theorem dX0_isIn_10 : decode cX0_isIn 10 = .ok (.ifCond .gt 7, 3) := dk_157 0 7 (dk_at dksX0_isIn_0 10 rfl rfl)
theorem dX0_isIn_13 : decode cX0_isIn 13 = .ok (.iconst 1, 1) := dk_4 (dk_at dksX0_isIn_0 13 rfl rfl)
theorem dX0_isIn_14 : decode cX0_isIn 14 = .ok (.goto 4, 3) := dk_167 0 4 (dk_at dksX0_isIn_0 14 rfl rfl)
theorem dX0_isIn_17 : decode cX0_isIn 17 = .ok (.iconst 0, 1) := dk_3 (dk_at dksX0_isIn_0 17 rfl rfl)
theorem dX0_isIn_18 : decode cX0_isIn 18 = .ok (.ireturn, 1) := dk_172 (dk_at dksX0_isIn_0 18 rfl rfl)
abbrev cX0_answer : ByteArray := prog_1_method_29_code
def yX0_answer : MethodName := ⟨RX0, "answer", "(I)I"⟩
def dkwX0_answer_0 : List UInt8 := [42, 27, 156, 0, 8, 16, 6, 167, 0, 4, 3, 181, 0, 81, 27, 172]
abbrev dktX0_answer_0 : List UInt8 := dkwX0_answer_0 ++ []
theorem dksX0_answer_0 : cX0_answer.data.toList.drop 0 = dktX0_answer_0 := by decide +kernel
theorem dX0_answer_0 : decode cX0_answer 0 = .ok (.aload_n 0, 1) := dk_42 (dk_at dksX0_answer_0 0 rfl rfl)
theorem dX0_answer_1 : decode cX0_answer 1 = .ok (.iload_n 1, 1) := dk_27 (dk_at dksX0_answer_0 1 rfl rfl)
theorem dX0_answer_2 : decode cX0_answer 2 = .ok (.ifCond .ge 8, 3) := dk_156 0 8 (dk_at dksX0_answer_0 2 rfl rfl)
theorem dX0_answer_5 : decode cX0_answer 5 = .ok (.bipush 6, 2) := dk_16 6 (dk_at dksX0_answer_0 5 rfl rfl)
theorem dX0_answer_7 : decode cX0_answer 7 = .ok (.goto 4, 3) := dk_167 0 4 (dk_at dksX0_answer_0 7 rfl rfl)
theorem dX0_answer_10 : decode cX0_answer 10 = .ok (.iconst 0, 1) := dk_3 (dk_at dksX0_answer_0 10 rfl rfl)
theorem dX0_answer_11 : decode cX0_answer 11 = .ok (.putfield 81, 3) := dk_181 0 81 (dk_at dksX0_answer_0 11 rfl rfl)
theorem dX0_answer_14 : decode cX0_answer 14 = .ok (.iload_n 1, 1) := dk_27 (dk_at dksX0_answer_0 14 rfl rfl)
theorem dX0_answer_15 : decode cX0_answer 15 = .ok (.ireturn, 1) := dk_172 (dk_at dksX0_answer_0 15 rfl rfl)
abbrev cX0_picture : ByteArray := prog_1_method_38_code
def yX0_picture : MethodName := ⟨RX0, "picture", "()J"⟩
def dkwX0_picture_0 : List UInt8 := [42, 3, 181, 0, 81, 42, 182, 0, 233, 180, 1, 13, 133, 173]
abbrev dktX0_picture_0 : List UInt8 := dkwX0_picture_0 ++ []
theorem dksX0_picture_0 : cX0_picture.data.toList.drop 0 = dktX0_picture_0 := by decide +kernel
theorem dX0_picture_0 : decode cX0_picture 0 = .ok (.aload_n 0, 1) := dk_42 (dk_at dksX0_picture_0 0 rfl rfl)
theorem dX0_picture_1 : decode cX0_picture 1 = .ok (.iconst 0, 1) := dk_3 (dk_at dksX0_picture_0 1 rfl rfl)
theorem dX0_picture_2 : decode cX0_picture 2 = .ok (.putfield 81, 3) := dk_181 0 81 (dk_at dksX0_picture_0 2 rfl rfl)
theorem dX0_picture_5 : decode cX0_picture 5 = .ok (.aload_n 0, 1) := dk_42 (dk_at dksX0_picture_0 5 rfl rfl)
theorem dX0_picture_6 : decode cX0_picture 6 = .ok (.invokevirtual 233, 3) := dk_182 0 233 (dk_at dksX0_picture_0 6 rfl rfl)
theorem dX0_picture_9 : decode cX0_picture 9 = .ok (.getfield 269, 3) := dk_180 1 13 (dk_at dksX0_picture_0 9 rfl rfl)
theorem dX0_picture_12 : decode cX0_picture 12 = .ok (.i2l, 1) := dk_133 (dk_at dksX0_picture_0 12 rfl rfl)
theorem dX0_picture_13 : decode cX0_picture 13 = .ok (.lreturn, 1) := dk_173 (dk_at dksX0_picture_0 13 rfl rfl)
abbrev cX0_lamp : ByteArray := prog_1_method_39_code
def yX0_lamp : MethodName := ⟨RX0, "lamp", "(III)I"⟩
def dkwX0_lamp_5 : List UInt8 := [184, 0, 250, 172, 42, 182, 0, 162, 182, 1, 16, 21, 4, 122, 4, 126, 172]
abbrev dktX0_lamp_5 : List UInt8 := dkwX0_lamp_5 ++ []
def dkwX0_lamp_4 : List UInt8 := [184, 0, 250, 172, 42, 182, 0, 162, 180, 1, 40, 21, 4, 46, 42, 182, 0, 233, 180, 1, 13, 126]
abbrev dktX0_lamp_4 : List UInt8 := dkwX0_lamp_4 ++ dktX0_lamp_5
def dkwX0_lamp_3 : List UInt8 := [42, 182, 0, 233, 180, 1, 13, 21, 4, 122, 4, 126, 172, 42, 182, 0, 162, 180, 1, 40, 21, 4, 46]
abbrev dktX0_lamp_3 : List UInt8 := dkwX0_lamp_3 ++ dktX0_lamp_4
def dkwX0_lamp_2 : List UInt8 := [170, 0, 0, 0, 74, 0, 0, 0, 0, 0, 0, 0, 2, 0, 0, 0, 25, 0, 0, 0, 38, 0, 0, 0, 52]
abbrev dktX0_lamp_2 : List UInt8 := dkwX0_lamp_2 ++ dktX0_lamp_3
def dkwX0_lamp_1 : List UInt8 := [181, 0, 81, 42, 180, 0, 81, 158, 0, 5, 2, 172, 42, 182, 0, 162, 27, 28, 182, 0, 196, 54, 4, 29]
abbrev dktX0_lamp_1 : List UInt8 := dkwX0_lamp_1 ++ dktX0_lamp_2
def dkwX0_lamp_0 : List UInt8 := [42, 29, 133, 9, 20, 1, 35, 184, 0, 171, 154, 0, 7, 4, 167, 0, 9, 42, 27, 28, 182, 1, 37]
abbrev dktX0_lamp_0 : List UInt8 := dkwX0_lamp_0 ++ dktX0_lamp_1
theorem dksX0_lamp_0 : cX0_lamp.data.toList.drop 0 = dktX0_lamp_0 := by decide +kernel
theorem dksX0_lamp_1 : cX0_lamp.data.toList.drop 23 = dktX0_lamp_1 := dk_seg dksX0_lamp_0 23 rfl rfl
theorem dksX0_lamp_2 : cX0_lamp.data.toList.drop 47 = dktX0_lamp_2 := dk_seg dksX0_lamp_1 24 rfl rfl
theorem dksX0_lamp_3 : cX0_lamp.data.toList.drop 72 = dktX0_lamp_3 := dk_seg dksX0_lamp_2 25 rfl rfl
theorem dksX0_lamp_4 : cX0_lamp.data.toList.drop 95 = dktX0_lamp_4 := dk_seg dksX0_lamp_3 23 rfl rfl
theorem dksX0_lamp_5 : cX0_lamp.data.toList.drop 117 = dktX0_lamp_5 := dk_seg dksX0_lamp_4 22 rfl rfl
theorem dX0_lamp_0 : decode cX0_lamp 0 = .ok (.aload_n 0, 1) := dk_42 (dk_at dksX0_lamp_0 0 rfl rfl)
theorem dX0_lamp_1 : decode cX0_lamp 1 = .ok (.iload_n 3, 1) := dk_29 (dk_at dksX0_lamp_0 1 rfl rfl)
theorem dX0_lamp_2 : decode cX0_lamp 2 = .ok (.i2l, 1) := dk_133 (dk_at dksX0_lamp_0 2 rfl rfl)
theorem dX0_lamp_3 : decode cX0_lamp 3 = .ok (.lconst 0, 1) := dk_9 (dk_at dksX0_lamp_0 3 rfl rfl)
theorem dX0_lamp_4 : decode cX0_lamp 4 = .ok (.ldc2_w 291, 3) := dk_20 1 35 (dk_at dksX0_lamp_0 4 rfl rfl)
theorem dX0_lamp_7 : decode cX0_lamp 7 = .ok (.invokestatic 171, 3) := dk_184 0 171 (dk_at dksX0_lamp_0 7 rfl rfl)
theorem dX0_lamp_10 : decode cX0_lamp 10 = .ok (.ifCond .ne 7, 3) := dk_154 0 7 (dk_at dksX0_lamp_0 10 rfl rfl)
theorem dX0_lamp_13 : decode cX0_lamp 13 = .ok (.iconst 1, 1) := dk_4 (dk_at dksX0_lamp_0 13 rfl rfl)
theorem dX0_lamp_14 : decode cX0_lamp 14 = .ok (.goto 9, 3) := dk_167 0 9 (dk_at dksX0_lamp_0 14 rfl rfl)
theorem dX0_lamp_17 : decode cX0_lamp 17 = .ok (.aload_n 0, 1) := dk_42 (dk_at dksX0_lamp_0 17 rfl rfl)
theorem dX0_lamp_18 : decode cX0_lamp 18 = .ok (.iload_n 1, 1) := dk_27 (dk_at dksX0_lamp_0 18 rfl rfl)
theorem dX0_lamp_19 : decode cX0_lamp 19 = .ok (.iload_n 2, 1) := dk_28 (dk_at dksX0_lamp_0 19 rfl rfl)
theorem dX0_lamp_20 : decode cX0_lamp 20 = .ok (.invokevirtual 293, 3) := dk_182 1 37 (dk_at dksX0_lamp_0 20 rfl rfl)
theorem dX0_lamp_23 : decode cX0_lamp 23 = .ok (.putfield 81, 3) := dk_181 0 81 (dk_at dksX0_lamp_1 0 rfl rfl)
theorem dX0_lamp_26 : decode cX0_lamp 26 = .ok (.aload_n 0, 1) := dk_42 (dk_at dksX0_lamp_1 3 rfl rfl)
theorem dX0_lamp_27 : decode cX0_lamp 27 = .ok (.getfield 81, 3) := dk_180 0 81 (dk_at dksX0_lamp_1 4 rfl rfl)
theorem dX0_lamp_30 : decode cX0_lamp 30 = .ok (.ifCond .le 5, 3) := dk_158 0 5 (dk_at dksX0_lamp_1 7 rfl rfl)
theorem dX0_lamp_33 : decode cX0_lamp 33 = .ok (.iconst (-1), 1) := dk_2 (dk_at dksX0_lamp_1 10 rfl rfl)
theorem dX0_lamp_34 : decode cX0_lamp 34 = .ok (.ireturn, 1) := dk_172 (dk_at dksX0_lamp_1 11 rfl rfl)
theorem dX0_lamp_35 : decode cX0_lamp 35 = .ok (.aload_n 0, 1) := dk_42 (dk_at dksX0_lamp_1 12 rfl rfl)
theorem dX0_lamp_36 : decode cX0_lamp 36 = .ok (.invokevirtual 162, 3) := dk_182 0 162 (dk_at dksX0_lamp_1 13 rfl rfl)
theorem dX0_lamp_39 : decode cX0_lamp 39 = .ok (.iload_n 1, 1) := dk_27 (dk_at dksX0_lamp_1 16 rfl rfl)
theorem dX0_lamp_40 : decode cX0_lamp 40 = .ok (.iload_n 2, 1) := dk_28 (dk_at dksX0_lamp_1 17 rfl rfl)
theorem dX0_lamp_41 : decode cX0_lamp 41 = .ok (.invokevirtual 196, 3) := dk_182 0 196 (dk_at dksX0_lamp_1 18 rfl rfl)
theorem dX0_lamp_44 : decode cX0_lamp 44 = .ok (.istore 4, 2) := dk_54 4 (dk_at dksX0_lamp_1 21 rfl rfl)
theorem dX0_lamp_46 : decode cX0_lamp 46 = .ok (.iload_n 3, 1) := dk_29 (dk_at dksX0_lamp_1 23 rfl rfl)
theorem dX0_lamp_47 : decode cX0_lamp 47 = .ok (.tableswitch 74 0 2 #[25, 38, 52], 25) := by decide +kernel
theorem dX0_lamp_72 : decode cX0_lamp 72 = .ok (.aload_n 0, 1) := dk_42 (dk_at dksX0_lamp_3 0 rfl rfl)
theorem dX0_lamp_73 : decode cX0_lamp 73 = .ok (.invokevirtual 233, 3) := dk_182 0 233 (dk_at dksX0_lamp_3 1 rfl rfl)
theorem dX0_lamp_76 : decode cX0_lamp 76 = .ok (.getfield 269, 3) := dk_180 1 13 (dk_at dksX0_lamp_3 4 rfl rfl)
theorem dX0_lamp_79 : decode cX0_lamp 79 = .ok (.iload 4, 2) := dk_21 4 (dk_at dksX0_lamp_3 7 rfl rfl)
theorem dX0_lamp_81 : decode cX0_lamp 81 = .ok (.ishr, 1) := dk_122 (dk_at dksX0_lamp_3 9 rfl rfl)
theorem dX0_lamp_82 : decode cX0_lamp 82 = .ok (.iconst 1, 1) := dk_4 (dk_at dksX0_lamp_3 10 rfl rfl)
theorem dX0_lamp_83 : decode cX0_lamp 83 = .ok (.iand, 1) := dk_126 (dk_at dksX0_lamp_3 11 rfl rfl)
theorem dX0_lamp_84 : decode cX0_lamp 84 = .ok (.ireturn, 1) := dk_172 (dk_at dksX0_lamp_3 12 rfl rfl)
theorem dX0_lamp_85 : decode cX0_lamp 85 = .ok (.aload_n 0, 1) := dk_42 (dk_at dksX0_lamp_3 13 rfl rfl)
theorem dX0_lamp_86 : decode cX0_lamp 86 = .ok (.invokevirtual 162, 3) := dk_182 0 162 (dk_at dksX0_lamp_3 14 rfl rfl)
theorem dX0_lamp_89 : decode cX0_lamp 89 = .ok (.getfield 296, 3) := dk_180 1 40 (dk_at dksX0_lamp_3 17 rfl rfl)
theorem dX0_lamp_92 : decode cX0_lamp 92 = .ok (.iload 4, 2) := dk_21 4 (dk_at dksX0_lamp_3 20 rfl rfl)
theorem dX0_lamp_94 : decode cX0_lamp 94 = .ok (.iaload, 1) := dk_46 (dk_at dksX0_lamp_3 22 rfl rfl)
theorem dX0_lamp_95 : decode cX0_lamp 95 = .ok (.invokestatic 250, 3) := dk_184 0 250 (dk_at dksX0_lamp_4 0 rfl rfl)
theorem dX0_lamp_98 : decode cX0_lamp 98 = .ok (.ireturn, 1) := dk_172 (dk_at dksX0_lamp_4 3 rfl rfl)
theorem dX0_lamp_99 : decode cX0_lamp 99 = .ok (.aload_n 0, 1) := dk_42 (dk_at dksX0_lamp_4 4 rfl rfl)
theorem dX0_lamp_100 : decode cX0_lamp 100 = .ok (.invokevirtual 162, 3) := dk_182 0 162 (dk_at dksX0_lamp_4 5 rfl rfl)
theorem dX0_lamp_103 : decode cX0_lamp 103 = .ok (.getfield 296, 3) := dk_180 1 40 (dk_at dksX0_lamp_4 8 rfl rfl)
theorem dX0_lamp_106 : decode cX0_lamp 106 = .ok (.iload 4, 2) := dk_21 4 (dk_at dksX0_lamp_4 11 rfl rfl)
theorem dX0_lamp_108 : decode cX0_lamp 108 = .ok (.iaload, 1) := dk_46 (dk_at dksX0_lamp_4 13 rfl rfl)
theorem dX0_lamp_109 : decode cX0_lamp 109 = .ok (.aload_n 0, 1) := dk_42 (dk_at dksX0_lamp_4 14 rfl rfl)
theorem dX0_lamp_110 : decode cX0_lamp 110 = .ok (.invokevirtual 233, 3) := dk_182 0 233 (dk_at dksX0_lamp_4 15 rfl rfl)
theorem dX0_lamp_113 : decode cX0_lamp 113 = .ok (.getfield 269, 3) := dk_180 1 13 (dk_at dksX0_lamp_4 18 rfl rfl)
theorem dX0_lamp_116 : decode cX0_lamp 116 = .ok (.iand, 1) := dk_126 (dk_at dksX0_lamp_4 21 rfl rfl)
theorem dX0_lamp_117 : decode cX0_lamp 117 = .ok (.invokestatic 250, 3) := dk_184 0 250 (dk_at dksX0_lamp_5 0 rfl rfl)
theorem dX0_lamp_120 : decode cX0_lamp 120 = .ok (.ireturn, 1) := dk_172 (dk_at dksX0_lamp_5 3 rfl rfl)
theorem dX0_lamp_121 : decode cX0_lamp 121 = .ok (.aload_n 0, 1) := dk_42 (dk_at dksX0_lamp_5 4 rfl rfl)
theorem dX0_lamp_122 : decode cX0_lamp 122 = .ok (.invokevirtual 162, 3) := dk_182 0 162 (dk_at dksX0_lamp_5 5 rfl rfl)
theorem dX0_lamp_125 : decode cX0_lamp 125 = .ok (.invokevirtual 272, 3) := dk_182 1 16 (dk_at dksX0_lamp_5 8 rfl rfl)
theorem dX0_lamp_128 : decode cX0_lamp 128 = .ok (.iload 4, 2) := dk_21 4 (dk_at dksX0_lamp_5 11 rfl rfl)
theorem dX0_lamp_130 : decode cX0_lamp 130 = .ok (.ishr, 1) := dk_122 (dk_at dksX0_lamp_5 13 rfl rfl)
theorem dX0_lamp_131 : decode cX0_lamp 131 = .ok (.iconst 1, 1) := dk_4 (dk_at dksX0_lamp_5 14 rfl rfl)
theorem dX0_lamp_132 : decode cX0_lamp 132 = .ok (.iand, 1) := dk_126 (dk_at dksX0_lamp_5 15 rfl rfl)
theorem dX0_lamp_133 : decode cX0_lamp 133 = .ok (.ireturn, 1) := dk_172 (dk_at dksX0_lamp_5 16 rfl rfl)
abbrev cX0_whyNoHouse : ByteArray := prog_1_method_27_code
def yX0_whyNoHouse : MethodName := ⟨RX0, "whyNoHouse", "(II)I"⟩
def dkwX0_whyNoHouse_1 : List UInt8 := [182, 0, 196, 182, 0, 200, 153, 0, 7, 3, 167, 0, 5, 16, 7, 172]
abbrev dktX0_whyNoHouse_1 : List UInt8 := dkwX0_whyNoHouse_1 ++ []
def dkwX0_whyNoHouse_0 : List UInt8 := [42, 27, 28, 182, 0, 192, 154, 0, 7, 4, 167, 0, 28, 42, 182, 0, 162, 42, 182, 0, 162, 27, 28]
abbrev dktX0_whyNoHouse_0 : List UInt8 := dkwX0_whyNoHouse_0 ++ dktX0_whyNoHouse_1
theorem dksX0_whyNoHouse_0 : cX0_whyNoHouse.data.toList.drop 0 = dktX0_whyNoHouse_0 := by decide +kernel
theorem dksX0_whyNoHouse_1 : cX0_whyNoHouse.data.toList.drop 23 = dktX0_whyNoHouse_1 := dk_seg dksX0_whyNoHouse_0 23 rfl rfl
theorem dX0_whyNoHouse_0 : decode cX0_whyNoHouse 0 = .ok (.aload_n 0, 1) := dk_42 (dk_at dksX0_whyNoHouse_0 0 rfl rfl)
theorem dX0_whyNoHouse_1 : decode cX0_whyNoHouse 1 = .ok (.iload_n 1, 1) := dk_27 (dk_at dksX0_whyNoHouse_0 1 rfl rfl)
theorem dX0_whyNoHouse_2 : decode cX0_whyNoHouse 2 = .ok (.iload_n 2, 1) := dk_28 (dk_at dksX0_whyNoHouse_0 2 rfl rfl)
theorem dX0_whyNoHouse_3 : decode cX0_whyNoHouse 3 = .ok (.invokevirtual 192, 3) := dk_182 0 192 (dk_at dksX0_whyNoHouse_0 3 rfl rfl)
theorem dX0_whyNoHouse_6 : decode cX0_whyNoHouse 6 = .ok (.ifCond .ne 7, 3) := dk_154 0 7 (dk_at dksX0_whyNoHouse_0 6 rfl rfl)
theorem dX0_whyNoHouse_9 : decode cX0_whyNoHouse 9 = .ok (.iconst 1, 1) := dk_4 (dk_at dksX0_whyNoHouse_0 9 rfl rfl)
theorem dX0_whyNoHouse_10 : decode cX0_whyNoHouse 10 = .ok (.goto 28, 3) := dk_167 0 28 (dk_at dksX0_whyNoHouse_0 10 rfl rfl)
theorem dX0_whyNoHouse_13 : decode cX0_whyNoHouse 13 = .ok (.aload_n 0, 1) := dk_42 (dk_at dksX0_whyNoHouse_0 13 rfl rfl)
theorem dX0_whyNoHouse_14 : decode cX0_whyNoHouse 14 = .ok (.invokevirtual 162, 3) := dk_182 0 162 (dk_at dksX0_whyNoHouse_0 14 rfl rfl)
theorem dX0_whyNoHouse_17 : decode cX0_whyNoHouse 17 = .ok (.aload_n 0, 1) := dk_42 (dk_at dksX0_whyNoHouse_0 17 rfl rfl)
theorem dX0_whyNoHouse_18 : decode cX0_whyNoHouse 18 = .ok (.invokevirtual 162, 3) := dk_182 0 162 (dk_at dksX0_whyNoHouse_0 18 rfl rfl)
theorem dX0_whyNoHouse_21 : decode cX0_whyNoHouse 21 = .ok (.iload_n 1, 1) := dk_27 (dk_at dksX0_whyNoHouse_0 21 rfl rfl)
theorem dX0_whyNoHouse_22 : decode cX0_whyNoHouse 22 = .ok (.iload_n 2, 1) := dk_28 (dk_at dksX0_whyNoHouse_0 22 rfl rfl)
theorem dX0_whyNoHouse_23 : decode cX0_whyNoHouse 23 = .ok (.invokevirtual 196, 3) := dk_182 0 196 (dk_at dksX0_whyNoHouse_1 0 rfl rfl)
theorem dX0_whyNoHouse_26 : decode cX0_whyNoHouse 26 = .ok (.invokevirtual 200, 3) := dk_182 0 200 (dk_at dksX0_whyNoHouse_1 3 rfl rfl)
theorem dX0_whyNoHouse_29 : decode cX0_whyNoHouse 29 = .ok (.ifCond .eq 7, 3) := dk_153 0 7 (dk_at dksX0_whyNoHouse_1 6 rfl rfl)
theorem dX0_whyNoHouse_32 : decode cX0_whyNoHouse 32 = .ok (.iconst 0, 1) := dk_3 (dk_at dksX0_whyNoHouse_1 9 rfl rfl)
theorem dX0_whyNoHouse_33 : decode cX0_whyNoHouse 33 = .ok (.goto 5, 3) := dk_167 0 5 (dk_at dksX0_whyNoHouse_1 10 rfl rfl)
theorem dX0_whyNoHouse_36 : decode cX0_whyNoHouse 36 = .ok (.bipush 7, 2) := dk_16 7 (dk_at dksX0_whyNoHouse_1 13 rfl rfl)
theorem dX0_whyNoHouse_38 : decode cX0_whyNoHouse 38 = .ok (.ireturn, 1) := dk_172 (dk_at dksX0_whyNoHouse_1 15 rfl rfl)
abbrev cX0_isPlace : ByteArray := prog_1_method_22_code
def yX0_isPlace : MethodName := ⟨RX0, "isPlace", "(II)Z"⟩
def dkwX0_isPlace_1 : List UInt8 := [182, 0, 162, 180, 0, 175, 4, 100, 133, 184, 0, 171, 153, 0, 7, 4, 167, 0, 4, 3, 172]
abbrev dktX0_isPlace_1 : List UInt8 := dkwX0_isPlace_1 ++ []
def dkwX0_isPlace_0 : List UInt8 := [27, 133, 9, 42, 182, 0, 162, 180, 0, 166, 4, 100, 133, 184, 0, 171, 153, 0, 26, 28, 133, 9, 42]
abbrev dktX0_isPlace_0 : List UInt8 := dkwX0_isPlace_0 ++ dktX0_isPlace_1
theorem dksX0_isPlace_0 : cX0_isPlace.data.toList.drop 0 = dktX0_isPlace_0 := by decide +kernel
theorem dksX0_isPlace_1 : cX0_isPlace.data.toList.drop 23 = dktX0_isPlace_1 := dk_seg dksX0_isPlace_0 23 rfl rfl
theorem dX0_isPlace_0 : decode cX0_isPlace 0 = .ok (.iload_n 1, 1) := dk_27 (dk_at dksX0_isPlace_0 0 rfl rfl)
theorem dX0_isPlace_1 : decode cX0_isPlace 1 = .ok (.i2l, 1) := dk_133 (dk_at dksX0_isPlace_0 1 rfl rfl)
theorem dX0_isPlace_2 : decode cX0_isPlace 2 = .ok (.lconst 0, 1) := dk_9 (dk_at dksX0_isPlace_0 2 rfl rfl)
theorem dX0_isPlace_3 : decode cX0_isPlace 3 = .ok (.aload_n 0, 1) := dk_42 (dk_at dksX0_isPlace_0 3 rfl rfl)
theorem dX0_isPlace_4 : decode cX0_isPlace 4 = .ok (.invokevirtual 162, 3) := dk_182 0 162 (dk_at dksX0_isPlace_0 4 rfl rfl)
theorem dX0_isPlace_7 : decode cX0_isPlace 7 = .ok (.getfield 166, 3) := dk_180 0 166 (dk_at dksX0_isPlace_0 7 rfl rfl)
theorem dX0_isPlace_10 : decode cX0_isPlace 10 = .ok (.iconst 1, 1) := dk_4 (dk_at dksX0_isPlace_0 10 rfl rfl)
theorem dX0_isPlace_11 : decode cX0_isPlace 11 = .ok (.isub, 1) := dk_100 (dk_at dksX0_isPlace_0 11 rfl rfl)
theorem dX0_isPlace_12 : decode cX0_isPlace 12 = .ok (.i2l, 1) := dk_133 (dk_at dksX0_isPlace_0 12 rfl rfl)
theorem dX0_isPlace_13 : decode cX0_isPlace 13 = .ok (.invokestatic 171, 3) := dk_184 0 171 (dk_at dksX0_isPlace_0 13 rfl rfl)
theorem dX0_isPlace_16 : decode cX0_isPlace 16 = .ok (.ifCond .eq 26, 3) := dk_153 0 26 (dk_at dksX0_isPlace_0 16 rfl rfl)
theorem dX0_isPlace_19 : decode cX0_isPlace 19 = .ok (.iload_n 2, 1) := dk_28 (dk_at dksX0_isPlace_0 19 rfl rfl)
theorem dX0_isPlace_20 : decode cX0_isPlace 20 = .ok (.i2l, 1) := dk_133 (dk_at dksX0_isPlace_0 20 rfl rfl)
theorem dX0_isPlace_21 : decode cX0_isPlace 21 = .ok (.lconst 0, 1) := dk_9 (dk_at dksX0_isPlace_0 21 rfl rfl)
theorem dX0_isPlace_22 : decode cX0_isPlace 22 = .ok (.aload_n 0, 1) := dk_42 (dk_at dksX0_isPlace_0 22 rfl rfl)
theorem dX0_isPlace_23 : decode cX0_isPlace 23 = .ok (.invokevirtual 162, 3) := dk_182 0 162 (dk_at dksX0_isPlace_1 0 rfl rfl)
theorem dX0_isPlace_26 : decode cX0_isPlace 26 = .ok (.getfield 175, 3) := dk_180 0 175 (dk_at dksX0_isPlace_1 3 rfl rfl)
theorem dX0_isPlace_29 : decode cX0_isPlace 29 = .ok (.iconst 1, 1) := dk_4 (dk_at dksX0_isPlace_1 6 rfl rfl)
theorem dX0_isPlace_30 : decode cX0_isPlace 30 = .ok (.isub, 1) := dk_100 (dk_at dksX0_isPlace_1 7 rfl rfl)
theorem dX0_isPlace_31 : decode cX0_isPlace 31 = .ok (.i2l, 1) := dk_133 (dk_at dksX0_isPlace_1 8 rfl rfl)
theorem dX0_isPlace_32 : decode cX0_isPlace 32 = .ok (.invokestatic 171, 3) := dk_184 0 171 (dk_at dksX0_isPlace_1 9 rfl rfl)
theorem dX0_isPlace_35 : decode cX0_isPlace 35 = .ok (.ifCond .eq 7, 3) := dk_153 0 7 (dk_at dksX0_isPlace_1 12 rfl rfl)
theorem dX0_isPlace_38 : decode cX0_isPlace 38 = .ok (.iconst 1, 1) := dk_4 (dk_at dksX0_isPlace_1 15 rfl rfl)
theorem dX0_isPlace_39 : decode cX0_isPlace 39 = .ok (.goto 4, 3) := dk_167 0 4 (dk_at dksX0_isPlace_1 16 rfl rfl)
theorem dX0_isPlace_42 : decode cX0_isPlace 42 = .ok (.iconst 0, 1) := dk_3 (dk_at dksX0_isPlace_1 19 rfl rfl)
theorem dX0_isPlace_43 : decode cX0_isPlace 43 = .ok (.ireturn, 1) := dk_172 (dk_at dksX0_isPlace_1 20 rfl rfl)
abbrev cX0_rule : ByteArray := prog_1_method_40_code
def yX0_rule : MethodName := ⟨RX0, "rule", "(II)I"⟩
def dkwX0_rule_2 : List UInt8 := [180, 1, 46, 27, 46, 167, 0, 12, 42, 182, 0, 233, 180, 1, 49, 27, 46, 172]
abbrev dktX0_rule_2 : List UInt8 := dkwX0_rule_2 ++ []
def dkwX0_rule_1 : List UInt8 := [181, 0, 81, 42, 180, 0, 81, 158, 0, 7, 2, 167, 0, 28, 28, 154, 0, 15, 42, 182, 0, 233]
abbrev dktX0_rule_1 : List UInt8 := dkwX0_rule_1 ++ dktX0_rule_2
def dkwX0_rule_0 : List UInt8 := [42, 42, 27, 182, 1, 43, 153, 0, 17, 28, 133, 9, 10, 184, 0, 171, 153, 0, 7, 3, 167, 0, 4, 4]
abbrev dktX0_rule_0 : List UInt8 := dkwX0_rule_0 ++ dktX0_rule_1
theorem dksX0_rule_0 : cX0_rule.data.toList.drop 0 = dktX0_rule_0 := by decide +kernel
theorem dksX0_rule_1 : cX0_rule.data.toList.drop 24 = dktX0_rule_1 := dk_seg dksX0_rule_0 24 rfl rfl
theorem dksX0_rule_2 : cX0_rule.data.toList.drop 46 = dktX0_rule_2 := dk_seg dksX0_rule_1 22 rfl rfl
theorem dX0_rule_0 : decode cX0_rule 0 = .ok (.aload_n 0, 1) := dk_42 (dk_at dksX0_rule_0 0 rfl rfl)
theorem dX0_rule_1 : decode cX0_rule 1 = .ok (.aload_n 0, 1) := dk_42 (dk_at dksX0_rule_0 1 rfl rfl)
theorem dX0_rule_2 : decode cX0_rule 2 = .ok (.iload_n 1, 1) := dk_27 (dk_at dksX0_rule_0 2 rfl rfl)
theorem dX0_rule_3 : decode cX0_rule 3 = .ok (.invokevirtual 299, 3) := dk_182 1 43 (dk_at dksX0_rule_0 3 rfl rfl)
theorem dX0_rule_6 : decode cX0_rule 6 = .ok (.ifCond .eq 17, 3) := dk_153 0 17 (dk_at dksX0_rule_0 6 rfl rfl)
theorem dX0_rule_9 : decode cX0_rule 9 = .ok (.iload_n 2, 1) := dk_28 (dk_at dksX0_rule_0 9 rfl rfl)
theorem dX0_rule_10 : decode cX0_rule 10 = .ok (.i2l, 1) := dk_133 (dk_at dksX0_rule_0 10 rfl rfl)
theorem dX0_rule_11 : decode cX0_rule 11 = .ok (.lconst 0, 1) := dk_9 (dk_at dksX0_rule_0 11 rfl rfl)
theorem dX0_rule_12 : decode cX0_rule 12 = .ok (.lconst 1, 1) := dk_10 (dk_at dksX0_rule_0 12 rfl rfl)
theorem dX0_rule_13 : decode cX0_rule 13 = .ok (.invokestatic 171, 3) := dk_184 0 171 (dk_at dksX0_rule_0 13 rfl rfl)
theorem dX0_rule_16 : decode cX0_rule 16 = .ok (.ifCond .eq 7, 3) := dk_153 0 7 (dk_at dksX0_rule_0 16 rfl rfl)
theorem dX0_rule_19 : decode cX0_rule 19 = .ok (.iconst 0, 1) := dk_3 (dk_at dksX0_rule_0 19 rfl rfl)
theorem dX0_rule_20 : decode cX0_rule 20 = .ok (.goto 4, 3) := dk_167 0 4 (dk_at dksX0_rule_0 20 rfl rfl)
theorem dX0_rule_23 : decode cX0_rule 23 = .ok (.iconst 1, 1) := dk_4 (dk_at dksX0_rule_0 23 rfl rfl)
theorem dX0_rule_24 : decode cX0_rule 24 = .ok (.putfield 81, 3) := dk_181 0 81 (dk_at dksX0_rule_1 0 rfl rfl)
theorem dX0_rule_27 : decode cX0_rule 27 = .ok (.aload_n 0, 1) := dk_42 (dk_at dksX0_rule_1 3 rfl rfl)
theorem dX0_rule_28 : decode cX0_rule 28 = .ok (.getfield 81, 3) := dk_180 0 81 (dk_at dksX0_rule_1 4 rfl rfl)
theorem dX0_rule_31 : decode cX0_rule 31 = .ok (.ifCond .le 7, 3) := dk_158 0 7 (dk_at dksX0_rule_1 7 rfl rfl)
theorem dX0_rule_34 : decode cX0_rule 34 = .ok (.iconst (-1), 1) := dk_2 (dk_at dksX0_rule_1 10 rfl rfl)
theorem dX0_rule_35 : decode cX0_rule 35 = .ok (.goto 28, 3) := dk_167 0 28 (dk_at dksX0_rule_1 11 rfl rfl)
theorem dX0_rule_38 : decode cX0_rule 38 = .ok (.iload_n 2, 1) := dk_28 (dk_at dksX0_rule_1 14 rfl rfl)
theorem dX0_rule_39 : decode cX0_rule 39 = .ok (.ifCond .ne 15, 3) := dk_154 0 15 (dk_at dksX0_rule_1 15 rfl rfl)
theorem dX0_rule_42 : decode cX0_rule 42 = .ok (.aload_n 0, 1) := dk_42 (dk_at dksX0_rule_1 18 rfl rfl)
theorem dX0_rule_43 : decode cX0_rule 43 = .ok (.invokevirtual 233, 3) := dk_182 0 233 (dk_at dksX0_rule_1 19 rfl rfl)
theorem dX0_rule_46 : decode cX0_rule 46 = .ok (.getfield 302, 3) := dk_180 1 46 (dk_at dksX0_rule_2 0 rfl rfl)
theorem dX0_rule_49 : decode cX0_rule 49 = .ok (.iload_n 1, 1) := dk_27 (dk_at dksX0_rule_2 3 rfl rfl)
theorem dX0_rule_50 : decode cX0_rule 50 = .ok (.iaload, 1) := dk_46 (dk_at dksX0_rule_2 4 rfl rfl)
theorem dX0_rule_51 : decode cX0_rule 51 = .ok (.goto 12, 3) := dk_167 0 12 (dk_at dksX0_rule_2 5 rfl rfl)
theorem dX0_rule_54 : decode cX0_rule 54 = .ok (.aload_n 0, 1) := dk_42 (dk_at dksX0_rule_2 8 rfl rfl)
theorem dX0_rule_55 : decode cX0_rule 55 = .ok (.invokevirtual 233, 3) := dk_182 0 233 (dk_at dksX0_rule_2 9 rfl rfl)
theorem dX0_rule_58 : decode cX0_rule 58 = .ok (.getfield 305, 3) := dk_180 1 49 (dk_at dksX0_rule_2 12 rfl rfl)
theorem dX0_rule_61 : decode cX0_rule 61 = .ok (.iload_n 1, 1) := dk_27 (dk_at dksX0_rule_2 15 rfl rfl)
theorem dX0_rule_62 : decode cX0_rule 62 = .ok (.iaload, 1) := dk_46 (dk_at dksX0_rule_2 16 rfl rfl)
theorem dX0_rule_63 : decode cX0_rule 63 = .ok (.ireturn, 1) := dk_172 (dk_at dksX0_rule_2 17 rfl rfl)
abbrev cX0_isRule : ByteArray := prog_1_method_23_code
def yX0_isRule : MethodName := ⟨RX0, "isRule", "(I)Z"⟩
def dkwX0_isRule_0 : List UInt8 := [27, 133, 9, 42, 182, 0, 162, 180, 0, 178, 4, 100, 133, 184, 0, 171, 172]
abbrev dktX0_isRule_0 : List UInt8 := dkwX0_isRule_0 ++ []
theorem dksX0_isRule_0 : cX0_isRule.data.toList.drop 0 = dktX0_isRule_0 := by decide +kernel
theorem dX0_isRule_0 : decode cX0_isRule 0 = .ok (.iload_n 1, 1) := dk_27 (dk_at dksX0_isRule_0 0 rfl rfl)
theorem dX0_isRule_1 : decode cX0_isRule 1 = .ok (.i2l, 1) := dk_133 (dk_at dksX0_isRule_0 1 rfl rfl)
theorem dX0_isRule_2 : decode cX0_isRule 2 = .ok (.lconst 0, 1) := dk_9 (dk_at dksX0_isRule_0 2 rfl rfl)
theorem dX0_isRule_3 : decode cX0_isRule 3 = .ok (.aload_n 0, 1) := dk_42 (dk_at dksX0_isRule_0 3 rfl rfl)
theorem dX0_isRule_4 : decode cX0_isRule 4 = .ok (.invokevirtual 162, 3) := dk_182 0 162 (dk_at dksX0_isRule_0 4 rfl rfl)
theorem dX0_isRule_7 : decode cX0_isRule 7 = .ok (.getfield 178, 3) := dk_180 0 178 (dk_at dksX0_isRule_0 7 rfl rfl)
theorem dX0_isRule_10 : decode cX0_isRule 10 = .ok (.iconst 1, 1) := dk_4 (dk_at dksX0_isRule_0 10 rfl rfl)
theorem dX0_isRule_11 : decode cX0_isRule 11 = .ok (.isub, 1) := dk_100 (dk_at dksX0_isRule_0 11 rfl rfl)
theorem dX0_isRule_12 : decode cX0_isRule 12 = .ok (.i2l, 1) := dk_133 (dk_at dksX0_isRule_0 12 rfl rfl)
theorem dX0_isRule_13 : decode cX0_isRule 13 = .ok (.invokestatic 171, 3) := dk_184 0 171 (dk_at dksX0_isRule_0 13 rfl rfl)
theorem dX0_isRule_16 : decode cX0_isRule 16 = .ok (.ireturn, 1) := dk_172 (dk_at dksX0_isRule_0 16 rfl rfl)
abbrev cX0_citizen : ByteArray := prog_1_method_41_code
def yX0_citizen : MethodName := ⟨RX0, "citizen", "(II)I"⟩
def dkwX0_citizen_2 : List UInt8 := [180, 1, 55, 27, 46, 167, 0, 12, 42, 182, 0, 162, 180, 1, 58, 27, 46, 172]
abbrev dktX0_citizen_2 : List UInt8 := dkwX0_citizen_2 ++ []
def dkwX0_citizen_1 : List UInt8 := [181, 0, 81, 42, 180, 0, 81, 158, 0, 7, 2, 167, 0, 28, 28, 154, 0, 15, 42, 182, 0, 162]
abbrev dktX0_citizen_1 : List UInt8 := dkwX0_citizen_1 ++ dktX0_citizen_2
def dkwX0_citizen_0 : List UInt8 := [42, 42, 27, 182, 1, 52, 153, 0, 17, 28, 133, 9, 10, 184, 0, 171, 153, 0, 7, 3, 167, 0, 4, 4]
abbrev dktX0_citizen_0 : List UInt8 := dkwX0_citizen_0 ++ dktX0_citizen_1
theorem dksX0_citizen_0 : cX0_citizen.data.toList.drop 0 = dktX0_citizen_0 := by decide +kernel
theorem dksX0_citizen_1 : cX0_citizen.data.toList.drop 24 = dktX0_citizen_1 := dk_seg dksX0_citizen_0 24 rfl rfl
theorem dksX0_citizen_2 : cX0_citizen.data.toList.drop 46 = dktX0_citizen_2 := dk_seg dksX0_citizen_1 22 rfl rfl
theorem dX0_citizen_0 : decode cX0_citizen 0 = .ok (.aload_n 0, 1) := dk_42 (dk_at dksX0_citizen_0 0 rfl rfl)
theorem dX0_citizen_1 : decode cX0_citizen 1 = .ok (.aload_n 0, 1) := dk_42 (dk_at dksX0_citizen_0 1 rfl rfl)
theorem dX0_citizen_2 : decode cX0_citizen 2 = .ok (.iload_n 1, 1) := dk_27 (dk_at dksX0_citizen_0 2 rfl rfl)
theorem dX0_citizen_3 : decode cX0_citizen 3 = .ok (.invokevirtual 308, 3) := dk_182 1 52 (dk_at dksX0_citizen_0 3 rfl rfl)
theorem dX0_citizen_6 : decode cX0_citizen 6 = .ok (.ifCond .eq 17, 3) := dk_153 0 17 (dk_at dksX0_citizen_0 6 rfl rfl)
theorem dX0_citizen_9 : decode cX0_citizen 9 = .ok (.iload_n 2, 1) := dk_28 (dk_at dksX0_citizen_0 9 rfl rfl)
theorem dX0_citizen_10 : decode cX0_citizen 10 = .ok (.i2l, 1) := dk_133 (dk_at dksX0_citizen_0 10 rfl rfl)
theorem dX0_citizen_11 : decode cX0_citizen 11 = .ok (.lconst 0, 1) := dk_9 (dk_at dksX0_citizen_0 11 rfl rfl)
theorem dX0_citizen_12 : decode cX0_citizen 12 = .ok (.lconst 1, 1) := dk_10 (dk_at dksX0_citizen_0 12 rfl rfl)
theorem dX0_citizen_13 : decode cX0_citizen 13 = .ok (.invokestatic 171, 3) := dk_184 0 171 (dk_at dksX0_citizen_0 13 rfl rfl)
theorem dX0_citizen_16 : decode cX0_citizen 16 = .ok (.ifCond .eq 7, 3) := dk_153 0 7 (dk_at dksX0_citizen_0 16 rfl rfl)
theorem dX0_citizen_19 : decode cX0_citizen 19 = .ok (.iconst 0, 1) := dk_3 (dk_at dksX0_citizen_0 19 rfl rfl)
theorem dX0_citizen_20 : decode cX0_citizen 20 = .ok (.goto 4, 3) := dk_167 0 4 (dk_at dksX0_citizen_0 20 rfl rfl)
theorem dX0_citizen_23 : decode cX0_citizen 23 = .ok (.iconst 1, 1) := dk_4 (dk_at dksX0_citizen_0 23 rfl rfl)
theorem dX0_citizen_24 : decode cX0_citizen 24 = .ok (.putfield 81, 3) := dk_181 0 81 (dk_at dksX0_citizen_1 0 rfl rfl)
theorem dX0_citizen_27 : decode cX0_citizen 27 = .ok (.aload_n 0, 1) := dk_42 (dk_at dksX0_citizen_1 3 rfl rfl)
theorem dX0_citizen_28 : decode cX0_citizen 28 = .ok (.getfield 81, 3) := dk_180 0 81 (dk_at dksX0_citizen_1 4 rfl rfl)
theorem dX0_citizen_31 : decode cX0_citizen 31 = .ok (.ifCond .le 7, 3) := dk_158 0 7 (dk_at dksX0_citizen_1 7 rfl rfl)
theorem dX0_citizen_34 : decode cX0_citizen 34 = .ok (.iconst (-1), 1) := dk_2 (dk_at dksX0_citizen_1 10 rfl rfl)
theorem dX0_citizen_35 : decode cX0_citizen 35 = .ok (.goto 28, 3) := dk_167 0 28 (dk_at dksX0_citizen_1 11 rfl rfl)
theorem dX0_citizen_38 : decode cX0_citizen 38 = .ok (.iload_n 2, 1) := dk_28 (dk_at dksX0_citizen_1 14 rfl rfl)
theorem dX0_citizen_39 : decode cX0_citizen 39 = .ok (.ifCond .ne 15, 3) := dk_154 0 15 (dk_at dksX0_citizen_1 15 rfl rfl)
theorem dX0_citizen_42 : decode cX0_citizen 42 = .ok (.aload_n 0, 1) := dk_42 (dk_at dksX0_citizen_1 18 rfl rfl)
theorem dX0_citizen_43 : decode cX0_citizen 43 = .ok (.invokevirtual 162, 3) := dk_182 0 162 (dk_at dksX0_citizen_1 19 rfl rfl)
theorem dX0_citizen_46 : decode cX0_citizen 46 = .ok (.getfield 311, 3) := dk_180 1 55 (dk_at dksX0_citizen_2 0 rfl rfl)
theorem dX0_citizen_49 : decode cX0_citizen 49 = .ok (.iload_n 1, 1) := dk_27 (dk_at dksX0_citizen_2 3 rfl rfl)
theorem dX0_citizen_50 : decode cX0_citizen 50 = .ok (.iaload, 1) := dk_46 (dk_at dksX0_citizen_2 4 rfl rfl)
theorem dX0_citizen_51 : decode cX0_citizen 51 = .ok (.goto 12, 3) := dk_167 0 12 (dk_at dksX0_citizen_2 5 rfl rfl)
theorem dX0_citizen_54 : decode cX0_citizen 54 = .ok (.aload_n 0, 1) := dk_42 (dk_at dksX0_citizen_2 8 rfl rfl)
theorem dX0_citizen_55 : decode cX0_citizen 55 = .ok (.invokevirtual 162, 3) := dk_182 0 162 (dk_at dksX0_citizen_2 9 rfl rfl)
theorem dX0_citizen_58 : decode cX0_citizen 58 = .ok (.getfield 314, 3) := dk_180 1 58 (dk_at dksX0_citizen_2 12 rfl rfl)
theorem dX0_citizen_61 : decode cX0_citizen 61 = .ok (.iload_n 1, 1) := dk_27 (dk_at dksX0_citizen_2 15 rfl rfl)
theorem dX0_citizen_62 : decode cX0_citizen 62 = .ok (.iaload, 1) := dk_46 (dk_at dksX0_citizen_2 16 rfl rfl)
theorem dX0_citizen_63 : decode cX0_citizen 63 = .ok (.ireturn, 1) := dk_172 (dk_at dksX0_citizen_2 17 rfl rfl)
abbrev cX0_isCitizen : ByteArray := prog_1_method_24_code
def yX0_isCitizen : MethodName := ⟨RX0, "isCitizen", "(I)Z"⟩
def dkwX0_isCitizen_0 : List UInt8 := [27, 133, 9, 42, 182, 0, 162, 180, 0, 181, 4, 100, 133, 184, 0, 171, 172]
abbrev dktX0_isCitizen_0 : List UInt8 := dkwX0_isCitizen_0 ++ []
theorem dksX0_isCitizen_0 : cX0_isCitizen.data.toList.drop 0 = dktX0_isCitizen_0 := by decide +kernel
theorem dX0_isCitizen_0 : decode cX0_isCitizen 0 = .ok (.iload_n 1, 1) := dk_27 (dk_at dksX0_isCitizen_0 0 rfl rfl)
theorem dX0_isCitizen_1 : decode cX0_isCitizen 1 = .ok (.i2l, 1) := dk_133 (dk_at dksX0_isCitizen_0 1 rfl rfl)
theorem dX0_isCitizen_2 : decode cX0_isCitizen 2 = .ok (.lconst 0, 1) := dk_9 (dk_at dksX0_isCitizen_0 2 rfl rfl)
theorem dX0_isCitizen_3 : decode cX0_isCitizen 3 = .ok (.aload_n 0, 1) := dk_42 (dk_at dksX0_isCitizen_0 3 rfl rfl)
theorem dX0_isCitizen_4 : decode cX0_isCitizen 4 = .ok (.invokevirtual 162, 3) := dk_182 0 162 (dk_at dksX0_isCitizen_0 4 rfl rfl)
theorem dX0_isCitizen_7 : decode cX0_isCitizen 7 = .ok (.getfield 181, 3) := dk_180 0 181 (dk_at dksX0_isCitizen_0 7 rfl rfl)
theorem dX0_isCitizen_10 : decode cX0_isCitizen 10 = .ok (.iconst 1, 1) := dk_4 (dk_at dksX0_isCitizen_0 10 rfl rfl)
theorem dX0_isCitizen_11 : decode cX0_isCitizen 11 = .ok (.isub, 1) := dk_100 (dk_at dksX0_isCitizen_0 11 rfl rfl)
theorem dX0_isCitizen_12 : decode cX0_isCitizen 12 = .ok (.i2l, 1) := dk_133 (dk_at dksX0_isCitizen_0 12 rfl rfl)
theorem dX0_isCitizen_13 : decode cX0_isCitizen 13 = .ok (.invokestatic 171, 3) := dk_184 0 171 (dk_at dksX0_isCitizen_0 13 rfl rfl)
theorem dX0_isCitizen_16 : decode cX0_isCitizen 16 = .ok (.ireturn, 1) := dk_172 (dk_at dksX0_isCitizen_0 16 rfl rfl)
abbrev cX0_turn : ByteArray := prog_1_method_42_code
def yX0_turn : MethodName := ⟨RX0, "turn", "(II)I"⟩
def dkwX0_turn_2 : List UInt8 := [180, 1, 13, 42, 182, 0, 162, 27, 28, 182, 0, 196, 122, 4, 126, 172]
abbrev dktX0_turn_2 : List UInt8 := dkwX0_turn_2 ++ []
def dkwX0_turn_1 : List UInt8 := [180, 1, 13, 4, 42, 182, 0, 162, 27, 28, 182, 0, 196, 120, 130, 181, 1, 13, 42, 182, 0, 233]
abbrev dktX0_turn_1 : List UInt8 := dkwX0_turn_1 ++ dktX0_turn_2
def dkwX0_turn_0 : List UInt8 := [42, 42, 27, 28, 182, 1, 61, 181, 0, 81, 42, 180, 0, 81, 158, 0, 5, 2, 172, 42, 182, 0, 233, 89]
abbrev dktX0_turn_0 : List UInt8 := dkwX0_turn_0 ++ dktX0_turn_1
theorem dksX0_turn_0 : cX0_turn.data.toList.drop 0 = dktX0_turn_0 := by decide +kernel
theorem dksX0_turn_1 : cX0_turn.data.toList.drop 24 = dktX0_turn_1 := dk_seg dksX0_turn_0 24 rfl rfl
theorem dksX0_turn_2 : cX0_turn.data.toList.drop 46 = dktX0_turn_2 := dk_seg dksX0_turn_1 22 rfl rfl
theorem dX0_turn_0 : decode cX0_turn 0 = .ok (.aload_n 0, 1) := dk_42 (dk_at dksX0_turn_0 0 rfl rfl)
theorem dX0_turn_1 : decode cX0_turn 1 = .ok (.aload_n 0, 1) := dk_42 (dk_at dksX0_turn_0 1 rfl rfl)
theorem dX0_turn_2 : decode cX0_turn 2 = .ok (.iload_n 1, 1) := dk_27 (dk_at dksX0_turn_0 2 rfl rfl)
theorem dX0_turn_3 : decode cX0_turn 3 = .ok (.iload_n 2, 1) := dk_28 (dk_at dksX0_turn_0 3 rfl rfl)
theorem dX0_turn_4 : decode cX0_turn 4 = .ok (.invokevirtual 317, 3) := dk_182 1 61 (dk_at dksX0_turn_0 4 rfl rfl)
theorem dX0_turn_7 : decode cX0_turn 7 = .ok (.putfield 81, 3) := dk_181 0 81 (dk_at dksX0_turn_0 7 rfl rfl)
theorem dX0_turn_10 : decode cX0_turn 10 = .ok (.aload_n 0, 1) := dk_42 (dk_at dksX0_turn_0 10 rfl rfl)
theorem dX0_turn_11 : decode cX0_turn 11 = .ok (.getfield 81, 3) := dk_180 0 81 (dk_at dksX0_turn_0 11 rfl rfl)
theorem dX0_turn_14 : decode cX0_turn 14 = .ok (.ifCond .le 5, 3) := dk_158 0 5 (dk_at dksX0_turn_0 14 rfl rfl)
theorem dX0_turn_17 : decode cX0_turn 17 = .ok (.iconst (-1), 1) := dk_2 (dk_at dksX0_turn_0 17 rfl rfl)
theorem dX0_turn_18 : decode cX0_turn 18 = .ok (.ireturn, 1) := dk_172 (dk_at dksX0_turn_0 18 rfl rfl)
theorem dX0_turn_19 : decode cX0_turn 19 = .ok (.aload_n 0, 1) := dk_42 (dk_at dksX0_turn_0 19 rfl rfl)
theorem dX0_turn_20 : decode cX0_turn 20 = .ok (.invokevirtual 233, 3) := dk_182 0 233 (dk_at dksX0_turn_0 20 rfl rfl)
theorem dX0_turn_23 : decode cX0_turn 23 = .ok (.dup, 1) := dk_89 (dk_at dksX0_turn_0 23 rfl rfl)
theorem dX0_turn_24 : decode cX0_turn 24 = .ok (.getfield 269, 3) := dk_180 1 13 (dk_at dksX0_turn_1 0 rfl rfl)
theorem dX0_turn_27 : decode cX0_turn 27 = .ok (.iconst 1, 1) := dk_4 (dk_at dksX0_turn_1 3 rfl rfl)
theorem dX0_turn_28 : decode cX0_turn 28 = .ok (.aload_n 0, 1) := dk_42 (dk_at dksX0_turn_1 4 rfl rfl)
theorem dX0_turn_29 : decode cX0_turn 29 = .ok (.invokevirtual 162, 3) := dk_182 0 162 (dk_at dksX0_turn_1 5 rfl rfl)
theorem dX0_turn_32 : decode cX0_turn 32 = .ok (.iload_n 1, 1) := dk_27 (dk_at dksX0_turn_1 8 rfl rfl)
theorem dX0_turn_33 : decode cX0_turn 33 = .ok (.iload_n 2, 1) := dk_28 (dk_at dksX0_turn_1 9 rfl rfl)
theorem dX0_turn_34 : decode cX0_turn 34 = .ok (.invokevirtual 196, 3) := dk_182 0 196 (dk_at dksX0_turn_1 10 rfl rfl)
theorem dX0_turn_37 : decode cX0_turn 37 = .ok (.ishl, 1) := dk_120 (dk_at dksX0_turn_1 13 rfl rfl)
theorem dX0_turn_38 : decode cX0_turn 38 = .ok (.ixor, 1) := dk_130 (dk_at dksX0_turn_1 14 rfl rfl)
theorem dX0_turn_39 : decode cX0_turn 39 = .ok (.putfield 269, 3) := dk_181 1 13 (dk_at dksX0_turn_1 15 rfl rfl)
theorem dX0_turn_42 : decode cX0_turn 42 = .ok (.aload_n 0, 1) := dk_42 (dk_at dksX0_turn_1 18 rfl rfl)
theorem dX0_turn_43 : decode cX0_turn 43 = .ok (.invokevirtual 233, 3) := dk_182 0 233 (dk_at dksX0_turn_1 19 rfl rfl)
theorem dX0_turn_46 : decode cX0_turn 46 = .ok (.getfield 269, 3) := dk_180 1 13 (dk_at dksX0_turn_2 0 rfl rfl)
theorem dX0_turn_49 : decode cX0_turn 49 = .ok (.aload_n 0, 1) := dk_42 (dk_at dksX0_turn_2 3 rfl rfl)
theorem dX0_turn_50 : decode cX0_turn 50 = .ok (.invokevirtual 162, 3) := dk_182 0 162 (dk_at dksX0_turn_2 4 rfl rfl)
theorem dX0_turn_53 : decode cX0_turn 53 = .ok (.iload_n 1, 1) := dk_27 (dk_at dksX0_turn_2 7 rfl rfl)
theorem dX0_turn_54 : decode cX0_turn 54 = .ok (.iload_n 2, 1) := dk_28 (dk_at dksX0_turn_2 8 rfl rfl)
theorem dX0_turn_55 : decode cX0_turn 55 = .ok (.invokevirtual 196, 3) := dk_182 0 196 (dk_at dksX0_turn_2 9 rfl rfl)
theorem dX0_turn_58 : decode cX0_turn 58 = .ok (.ishr, 1) := dk_122 (dk_at dksX0_turn_2 12 rfl rfl)
theorem dX0_turn_59 : decode cX0_turn 59 = .ok (.iconst 1, 1) := dk_4 (dk_at dksX0_turn_2 13 rfl rfl)
theorem dX0_turn_60 : decode cX0_turn 60 = .ok (.iand, 1) := dk_126 (dk_at dksX0_turn_2 14 rfl rfl)
theorem dX0_turn_61 : decode cX0_turn 61 = .ok (.ireturn, 1) := dk_172 (dk_at dksX0_turn_2 15 rfl rfl)
abbrev cX0_whyStuck : ByteArray := prog_1_method_28_code
def yX0_whyStuck : MethodName := ⟨RX0, "whyStuck", "(II)I"⟩
def dkwX0_whyStuck_1 : List UInt8 := [27, 28, 182, 0, 196, 122, 4, 126, 4, 160, 0, 7, 3, 167, 0, 5, 16, 7, 172]
abbrev dktX0_whyStuck_1 : List UInt8 := dkwX0_whyStuck_1 ++ []
def dkwX0_whyStuck_0 : List UInt8 := [42, 27, 28, 182, 0, 192, 154, 0, 7, 4, 167, 0, 32, 42, 182, 0, 162, 182, 0, 204, 42, 182, 0, 162]
abbrev dktX0_whyStuck_0 : List UInt8 := dkwX0_whyStuck_0 ++ dktX0_whyStuck_1
theorem dksX0_whyStuck_0 : cX0_whyStuck.data.toList.drop 0 = dktX0_whyStuck_0 := by decide +kernel
theorem dksX0_whyStuck_1 : cX0_whyStuck.data.toList.drop 24 = dktX0_whyStuck_1 := dk_seg dksX0_whyStuck_0 24 rfl rfl
theorem dX0_whyStuck_0 : decode cX0_whyStuck 0 = .ok (.aload_n 0, 1) := dk_42 (dk_at dksX0_whyStuck_0 0 rfl rfl)
theorem dX0_whyStuck_1 : decode cX0_whyStuck 1 = .ok (.iload_n 1, 1) := dk_27 (dk_at dksX0_whyStuck_0 1 rfl rfl)
theorem dX0_whyStuck_2 : decode cX0_whyStuck 2 = .ok (.iload_n 2, 1) := dk_28 (dk_at dksX0_whyStuck_0 2 rfl rfl)
theorem dX0_whyStuck_3 : decode cX0_whyStuck 3 = .ok (.invokevirtual 192, 3) := dk_182 0 192 (dk_at dksX0_whyStuck_0 3 rfl rfl)
theorem dX0_whyStuck_6 : decode cX0_whyStuck 6 = .ok (.ifCond .ne 7, 3) := dk_154 0 7 (dk_at dksX0_whyStuck_0 6 rfl rfl)
theorem dX0_whyStuck_9 : decode cX0_whyStuck 9 = .ok (.iconst 1, 1) := dk_4 (dk_at dksX0_whyStuck_0 9 rfl rfl)
theorem dX0_whyStuck_10 : decode cX0_whyStuck 10 = .ok (.goto 32, 3) := dk_167 0 32 (dk_at dksX0_whyStuck_0 10 rfl rfl)
theorem dX0_whyStuck_13 : decode cX0_whyStuck 13 = .ok (.aload_n 0, 1) := dk_42 (dk_at dksX0_whyStuck_0 13 rfl rfl)
theorem dX0_whyStuck_14 : decode cX0_whyStuck 14 = .ok (.invokevirtual 162, 3) := dk_182 0 162 (dk_at dksX0_whyStuck_0 14 rfl rfl)
theorem dX0_whyStuck_17 : decode cX0_whyStuck 17 = .ok (.invokevirtual 204, 3) := dk_182 0 204 (dk_at dksX0_whyStuck_0 17 rfl rfl)
theorem dX0_whyStuck_20 : decode cX0_whyStuck 20 = .ok (.aload_n 0, 1) := dk_42 (dk_at dksX0_whyStuck_0 20 rfl rfl)
theorem dX0_whyStuck_21 : decode cX0_whyStuck 21 = .ok (.invokevirtual 162, 3) := dk_182 0 162 (dk_at dksX0_whyStuck_0 21 rfl rfl)
theorem dX0_whyStuck_24 : decode cX0_whyStuck 24 = .ok (.iload_n 1, 1) := dk_27 (dk_at dksX0_whyStuck_1 0 rfl rfl)
theorem dX0_whyStuck_25 : decode cX0_whyStuck 25 = .ok (.iload_n 2, 1) := dk_28 (dk_at dksX0_whyStuck_1 1 rfl rfl)
theorem dX0_whyStuck_26 : decode cX0_whyStuck 26 = .ok (.invokevirtual 196, 3) := dk_182 0 196 (dk_at dksX0_whyStuck_1 2 rfl rfl)
theorem dX0_whyStuck_29 : decode cX0_whyStuck 29 = .ok (.ishr, 1) := dk_122 (dk_at dksX0_whyStuck_1 5 rfl rfl)
theorem dX0_whyStuck_30 : decode cX0_whyStuck 30 = .ok (.iconst 1, 1) := dk_4 (dk_at dksX0_whyStuck_1 6 rfl rfl)
theorem dX0_whyStuck_31 : decode cX0_whyStuck 31 = .ok (.iand, 1) := dk_126 (dk_at dksX0_whyStuck_1 7 rfl rfl)
theorem dX0_whyStuck_32 : decode cX0_whyStuck 32 = .ok (.iconst 1, 1) := dk_4 (dk_at dksX0_whyStuck_1 8 rfl rfl)
theorem dX0_whyStuck_33 : decode cX0_whyStuck 33 = .ok (.if_icmp .ne 7, 3) := dk_160 0 7 (dk_at dksX0_whyStuck_1 9 rfl rfl)
theorem dX0_whyStuck_36 : decode cX0_whyStuck 36 = .ok (.iconst 0, 1) := dk_3 (dk_at dksX0_whyStuck_1 12 rfl rfl)
theorem dX0_whyStuck_37 : decode cX0_whyStuck 37 = .ok (.goto 5, 3) := dk_167 0 5 (dk_at dksX0_whyStuck_1 13 rfl rfl)
theorem dX0_whyStuck_40 : decode cX0_whyStuck 40 = .ok (.bipush 7, 2) := dk_16 7 (dk_at dksX0_whyStuck_1 16 rfl rfl)
theorem dX0_whyStuck_42 : decode cX0_whyStuck 42 = .ok (.ireturn, 1) := dk_172 (dk_at dksX0_whyStuck_1 18 rfl rfl)
abbrev cX0_paint : ByteArray := prog_1_method_43_code
def yX0_paint : MethodName := ⟨RX0, "paint", "(J)I"⟩
def dkwX0_paint_1 : List UInt8 := [172, 42, 182, 0, 233, 31, 136, 182, 1, 68, 42, 182, 0, 233, 180, 1, 13, 184, 0, 250, 172]
abbrev dktX0_paint_1 : List UInt8 := dkwX0_paint_1 ++ []
def dkwX0_paint_0 : List UInt8 := [42, 31, 184, 1, 64, 153, 0, 7, 3, 167, 0, 4, 4, 181, 0, 81, 42, 180, 0, 81, 158, 0, 5, 2]
abbrev dktX0_paint_0 : List UInt8 := dkwX0_paint_0 ++ dktX0_paint_1
theorem dksX0_paint_0 : cX0_paint.data.toList.drop 0 = dktX0_paint_0 := by decide +kernel
theorem dksX0_paint_1 : cX0_paint.data.toList.drop 24 = dktX0_paint_1 := dk_seg dksX0_paint_0 24 rfl rfl
theorem dX0_paint_0 : decode cX0_paint 0 = .ok (.aload_n 0, 1) := dk_42 (dk_at dksX0_paint_0 0 rfl rfl)
theorem dX0_paint_1 : decode cX0_paint 1 = .ok (.lload_n 1, 1) := dk_31 (dk_at dksX0_paint_0 1 rfl rfl)
theorem dX0_paint_2 : decode cX0_paint 2 = .ok (.invokestatic 320, 3) := dk_184 1 64 (dk_at dksX0_paint_0 2 rfl rfl)
theorem dX0_paint_5 : decode cX0_paint 5 = .ok (.ifCond .eq 7, 3) := dk_153 0 7 (dk_at dksX0_paint_0 5 rfl rfl)
theorem dX0_paint_8 : decode cX0_paint 8 = .ok (.iconst 0, 1) := dk_3 (dk_at dksX0_paint_0 8 rfl rfl)
theorem dX0_paint_9 : decode cX0_paint 9 = .ok (.goto 4, 3) := dk_167 0 4 (dk_at dksX0_paint_0 9 rfl rfl)
theorem dX0_paint_12 : decode cX0_paint 12 = .ok (.iconst 1, 1) := dk_4 (dk_at dksX0_paint_0 12 rfl rfl)
theorem dX0_paint_13 : decode cX0_paint 13 = .ok (.putfield 81, 3) := dk_181 0 81 (dk_at dksX0_paint_0 13 rfl rfl)
theorem dX0_paint_16 : decode cX0_paint 16 = .ok (.aload_n 0, 1) := dk_42 (dk_at dksX0_paint_0 16 rfl rfl)
theorem dX0_paint_17 : decode cX0_paint 17 = .ok (.getfield 81, 3) := dk_180 0 81 (dk_at dksX0_paint_0 17 rfl rfl)
theorem dX0_paint_20 : decode cX0_paint 20 = .ok (.ifCond .le 5, 3) := dk_158 0 5 (dk_at dksX0_paint_0 20 rfl rfl)
theorem dX0_paint_23 : decode cX0_paint 23 = .ok (.iconst (-1), 1) := dk_2 (dk_at dksX0_paint_0 23 rfl rfl)
theorem dX0_paint_24 : decode cX0_paint 24 = .ok (.ireturn, 1) := dk_172 (dk_at dksX0_paint_1 0 rfl rfl)
theorem dX0_paint_25 : decode cX0_paint 25 = .ok (.aload_n 0, 1) := dk_42 (dk_at dksX0_paint_1 1 rfl rfl)
theorem dX0_paint_26 : decode cX0_paint 26 = .ok (.invokevirtual 233, 3) := dk_182 0 233 (dk_at dksX0_paint_1 2 rfl rfl)
theorem dX0_paint_29 : decode cX0_paint 29 = .ok (.lload_n 1, 1) := dk_31 (dk_at dksX0_paint_1 5 rfl rfl)
theorem dX0_paint_30 : decode cX0_paint 30 = .ok (.l2i, 1) := dk_136 (dk_at dksX0_paint_1 6 rfl rfl)
theorem dX0_paint_31 : decode cX0_paint 31 = .ok (.invokevirtual 324, 3) := dk_182 1 68 (dk_at dksX0_paint_1 7 rfl rfl)
theorem dX0_paint_34 : decode cX0_paint 34 = .ok (.aload_n 0, 1) := dk_42 (dk_at dksX0_paint_1 10 rfl rfl)
theorem dX0_paint_35 : decode cX0_paint 35 = .ok (.invokevirtual 233, 3) := dk_182 0 233 (dk_at dksX0_paint_1 11 rfl rfl)
theorem dX0_paint_38 : decode cX0_paint 38 = .ok (.getfield 269, 3) := dk_180 1 13 (dk_at dksX0_paint_1 14 rfl rfl)
theorem dX0_paint_41 : decode cX0_paint 41 = .ok (.invokestatic 250, 3) := dk_184 0 250 (dk_at dksX0_paint_1 17 rfl rfl)
theorem dX0_paint_44 : decode cX0_paint 44 = .ok (.ireturn, 1) := dk_172 (dk_at dksX0_paint_1 20 rfl rfl)
abbrev cX0_isPicture : ByteArray := prog_1_method_25_code
def yX0_isPicture : MethodName := ⟨RX0, "isPicture", "(J)Z"⟩
def dkwX0_isPicture_0 : List UInt8 := [30, 9, 20, 0, 184, 184, 0, 171, 172]
abbrev dktX0_isPicture_0 : List UInt8 := dkwX0_isPicture_0 ++ []
theorem dksX0_isPicture_0 : cX0_isPicture.data.toList.drop 0 = dktX0_isPicture_0 := by decide +kernel
theorem dX0_isPicture_0 : decode cX0_isPicture 0 = .ok (.lload_n 0, 1) := dk_30 (dk_at dksX0_isPicture_0 0 rfl rfl)
theorem dX0_isPicture_1 : decode cX0_isPicture 1 = .ok (.lconst 0, 1) := dk_9 (dk_at dksX0_isPicture_0 1 rfl rfl)
theorem dX0_isPicture_2 : decode cX0_isPicture 2 = .ok (.ldc2_w 184, 3) := dk_20 0 184 (dk_at dksX0_isPicture_0 2 rfl rfl)
theorem dX0_isPicture_5 : decode cX0_isPicture 5 = .ok (.invokestatic 171, 3) := dk_184 0 171 (dk_at dksX0_isPicture_0 5 rfl rfl)
theorem dX0_isPicture_8 : decode cX0_isPicture 8 = .ok (.ireturn, 1) := dk_172 (dk_at dksX0_isPicture_0 8 rfl rfl)
abbrev cX0_paintRows : ByteArray := prog_1_method_44_code
def yX0_paintRows : MethodName := ⟨RX0, "paintRows", "(I)I"⟩
def dkwX0_paintRows_6 : List UInt8 := [172, 77, 42, 44, 182, 0, 139, 172]
abbrev dktX0_paintRows_6 : List UInt8 := dkwX0_paintRows_6 ++ []
def dkwX0_paintRows_5 : List UInt8 := [132, 4, 1, 167, 255, 190, 42, 182, 0, 233, 29, 182, 1, 68, 42, 182, 0, 233, 180, 1, 13, 184, 0, 250]
abbrev dktX0_paintRows_5 : List UInt8 := dkwX0_paintRows_5 ++ dktX0_paintRows_6
def dkwX0_paintRows_4 : List UInt8 := [182, 0, 162, 180, 0, 166, 120, 4, 100, 126, 42, 182, 0, 162, 180, 0, 166, 21, 4, 104, 120, 128, 62]
abbrev dktX0_paintRows_4 : List UInt8 := dkwX0_paintRows_4 ++ dktX0_paintRows_5
def dkwX0_paintRows_3 : List UInt8 := [184, 0, 133, 9, 20, 1, 74, 184, 0, 171, 8, 182, 0, 106, 29, 44, 21, 4, 184, 0, 133, 136, 4, 42]
abbrev dktX0_paintRows_3 : List UInt8 := dkwX0_paintRows_3 ++ dktX0_paintRows_4
def dkwX0_paintRows_2 : List UInt8 := [182, 0, 106, 3, 62, 3, 54, 4, 21, 4, 42, 182, 0, 162, 180, 0, 175, 162, 0, 60, 42, 44, 21, 4]
abbrev dktX0_paintRows_2 : List UInt8 := dkwX0_paintRows_2 ++ dktX0_paintRows_3
def dkwX0_paintRows_1 : List UInt8 := [77, 42, 44, 184, 1, 71, 42, 182, 0, 162, 180, 0, 175, 161, 0, 7, 4, 167, 0, 4, 3, 6]
abbrev dktX0_paintRows_1 : List UInt8 := dkwX0_paintRows_1 ++ dktX0_paintRows_2
def dkwX0_paintRows_0 : List UInt8 := [42, 3, 181, 0, 81, 42, 27, 133, 9, 20, 1, 35, 184, 0, 171, 4, 182, 0, 106, 42, 27, 182, 0, 123]
abbrev dktX0_paintRows_0 : List UInt8 := dkwX0_paintRows_0 ++ dktX0_paintRows_1
theorem dksX0_paintRows_0 : cX0_paintRows.data.toList.drop 0 = dktX0_paintRows_0 := by decide +kernel
theorem dksX0_paintRows_1 : cX0_paintRows.data.toList.drop 24 = dktX0_paintRows_1 := dk_seg dksX0_paintRows_0 24 rfl rfl
theorem dksX0_paintRows_2 : cX0_paintRows.data.toList.drop 46 = dktX0_paintRows_2 := dk_seg dksX0_paintRows_1 22 rfl rfl
theorem dksX0_paintRows_3 : cX0_paintRows.data.toList.drop 70 = dktX0_paintRows_3 := dk_seg dksX0_paintRows_2 24 rfl rfl
theorem dksX0_paintRows_4 : cX0_paintRows.data.toList.drop 94 = dktX0_paintRows_4 := dk_seg dksX0_paintRows_3 24 rfl rfl
theorem dksX0_paintRows_5 : cX0_paintRows.data.toList.drop 117 = dktX0_paintRows_5 := dk_seg dksX0_paintRows_4 23 rfl rfl
theorem dksX0_paintRows_6 : cX0_paintRows.data.toList.drop 141 = dktX0_paintRows_6 := dk_seg dksX0_paintRows_5 24 rfl rfl
theorem dX0_paintRows_0 : decode cX0_paintRows 0 = .ok (.aload_n 0, 1) := dk_42 (dk_at dksX0_paintRows_0 0 rfl rfl)
theorem dX0_paintRows_1 : decode cX0_paintRows 1 = .ok (.iconst 0, 1) := dk_3 (dk_at dksX0_paintRows_0 1 rfl rfl)
theorem dX0_paintRows_2 : decode cX0_paintRows 2 = .ok (.putfield 81, 3) := dk_181 0 81 (dk_at dksX0_paintRows_0 2 rfl rfl)
theorem dX0_paintRows_5 : decode cX0_paintRows 5 = .ok (.aload_n 0, 1) := dk_42 (dk_at dksX0_paintRows_0 5 rfl rfl)
theorem dX0_paintRows_6 : decode cX0_paintRows 6 = .ok (.iload_n 1, 1) := dk_27 (dk_at dksX0_paintRows_0 6 rfl rfl)
theorem dX0_paintRows_7 : decode cX0_paintRows 7 = .ok (.i2l, 1) := dk_133 (dk_at dksX0_paintRows_0 7 rfl rfl)
theorem dX0_paintRows_8 : decode cX0_paintRows 8 = .ok (.lconst 0, 1) := dk_9 (dk_at dksX0_paintRows_0 8 rfl rfl)
theorem dX0_paintRows_9 : decode cX0_paintRows 9 = .ok (.ldc2_w 291, 3) := dk_20 1 35 (dk_at dksX0_paintRows_0 9 rfl rfl)
theorem dX0_paintRows_12 : decode cX0_paintRows 12 = .ok (.invokestatic 171, 3) := dk_184 0 171 (dk_at dksX0_paintRows_0 12 rfl rfl)
theorem dX0_paintRows_15 : decode cX0_paintRows 15 = .ok (.iconst 1, 1) := dk_4 (dk_at dksX0_paintRows_0 15 rfl rfl)
theorem dX0_paintRows_16 : decode cX0_paintRows 16 = .ok (.invokevirtual 106, 3) := dk_182 0 106 (dk_at dksX0_paintRows_0 16 rfl rfl)
theorem dX0_paintRows_19 : decode cX0_paintRows 19 = .ok (.aload_n 0, 1) := dk_42 (dk_at dksX0_paintRows_0 19 rfl rfl)
theorem dX0_paintRows_20 : decode cX0_paintRows 20 = .ok (.iload_n 1, 1) := dk_27 (dk_at dksX0_paintRows_0 20 rfl rfl)
theorem dX0_paintRows_21 : decode cX0_paintRows 21 = .ok (.invokevirtual 123, 3) := dk_182 0 123 (dk_at dksX0_paintRows_0 21 rfl rfl)
theorem dX0_paintRows_24 : decode cX0_paintRows 24 = .ok (.astore_n 2, 1) := dk_77 (dk_at dksX0_paintRows_1 0 rfl rfl)
theorem dX0_paintRows_25 : decode cX0_paintRows 25 = .ok (.aload_n 0, 1) := dk_42 (dk_at dksX0_paintRows_1 1 rfl rfl)
theorem dX0_paintRows_26 : decode cX0_paintRows 26 = .ok (.aload_n 2, 1) := dk_44 (dk_at dksX0_paintRows_1 2 rfl rfl)
theorem dX0_paintRows_27 : decode cX0_paintRows 27 = .ok (.invokestatic 327, 3) := dk_184 1 71 (dk_at dksX0_paintRows_1 3 rfl rfl)
theorem dX0_paintRows_30 : decode cX0_paintRows 30 = .ok (.aload_n 0, 1) := dk_42 (dk_at dksX0_paintRows_1 6 rfl rfl)
theorem dX0_paintRows_31 : decode cX0_paintRows 31 = .ok (.invokevirtual 162, 3) := dk_182 0 162 (dk_at dksX0_paintRows_1 7 rfl rfl)
theorem dX0_paintRows_34 : decode cX0_paintRows 34 = .ok (.getfield 175, 3) := dk_180 0 175 (dk_at dksX0_paintRows_1 10 rfl rfl)
theorem dX0_paintRows_37 : decode cX0_paintRows 37 = .ok (.if_icmp .lt 7, 3) := dk_161 0 7 (dk_at dksX0_paintRows_1 13 rfl rfl)
theorem dX0_paintRows_40 : decode cX0_paintRows 40 = .ok (.iconst 1, 1) := dk_4 (dk_at dksX0_paintRows_1 16 rfl rfl)
theorem dX0_paintRows_41 : decode cX0_paintRows 41 = .ok (.goto 4, 3) := dk_167 0 4 (dk_at dksX0_paintRows_1 17 rfl rfl)
theorem dX0_paintRows_44 : decode cX0_paintRows 44 = .ok (.iconst 0, 1) := dk_3 (dk_at dksX0_paintRows_1 20 rfl rfl)
theorem dX0_paintRows_45 : decode cX0_paintRows 45 = .ok (.iconst 3, 1) := dk_6 (dk_at dksX0_paintRows_1 21 rfl rfl)
theorem dX0_paintRows_46 : decode cX0_paintRows 46 = .ok (.invokevirtual 106, 3) := dk_182 0 106 (dk_at dksX0_paintRows_2 0 rfl rfl)
theorem dX0_paintRows_49 : decode cX0_paintRows 49 = .ok (.iconst 0, 1) := dk_3 (dk_at dksX0_paintRows_2 3 rfl rfl)
theorem dX0_paintRows_50 : decode cX0_paintRows 50 = .ok (.istore_n 3, 1) := dk_62 (dk_at dksX0_paintRows_2 4 rfl rfl)
theorem dX0_paintRows_51 : decode cX0_paintRows 51 = .ok (.iconst 0, 1) := dk_3 (dk_at dksX0_paintRows_2 5 rfl rfl)
theorem dX0_paintRows_52 : decode cX0_paintRows 52 = .ok (.istore 4, 2) := dk_54 4 (dk_at dksX0_paintRows_2 6 rfl rfl)
theorem dX0_paintRows_54 : decode cX0_paintRows 54 = .ok (.iload 4, 2) := dk_21 4 (dk_at dksX0_paintRows_2 8 rfl rfl)
theorem dX0_paintRows_56 : decode cX0_paintRows 56 = .ok (.aload_n 0, 1) := dk_42 (dk_at dksX0_paintRows_2 10 rfl rfl)
theorem dX0_paintRows_57 : decode cX0_paintRows 57 = .ok (.invokevirtual 162, 3) := dk_182 0 162 (dk_at dksX0_paintRows_2 11 rfl rfl)
theorem dX0_paintRows_60 : decode cX0_paintRows 60 = .ok (.getfield 175, 3) := dk_180 0 175 (dk_at dksX0_paintRows_2 14 rfl rfl)
theorem dX0_paintRows_63 : decode cX0_paintRows 63 = .ok (.if_icmp .ge 60, 3) := dk_162 0 60 (dk_at dksX0_paintRows_2 17 rfl rfl)
theorem dX0_paintRows_66 : decode cX0_paintRows 66 = .ok (.aload_n 0, 1) := dk_42 (dk_at dksX0_paintRows_2 20 rfl rfl)
theorem dX0_paintRows_67 : decode cX0_paintRows 67 = .ok (.aload_n 2, 1) := dk_44 (dk_at dksX0_paintRows_2 21 rfl rfl)
theorem dX0_paintRows_68 : decode cX0_paintRows 68 = .ok (.iload 4, 2) := dk_21 4 (dk_at dksX0_paintRows_2 22 rfl rfl)
theorem dX0_paintRows_70 : decode cX0_paintRows 70 = .ok (.invokestatic 133, 3) := dk_184 0 133 (dk_at dksX0_paintRows_3 0 rfl rfl)
theorem dX0_paintRows_73 : decode cX0_paintRows 73 = .ok (.lconst 0, 1) := dk_9 (dk_at dksX0_paintRows_3 3 rfl rfl)
theorem dX0_paintRows_74 : decode cX0_paintRows 74 = .ok (.ldc2_w 330, 3) := dk_20 1 74 (dk_at dksX0_paintRows_3 4 rfl rfl)
theorem dX0_paintRows_77 : decode cX0_paintRows 77 = .ok (.invokestatic 171, 3) := dk_184 0 171 (dk_at dksX0_paintRows_3 7 rfl rfl)
theorem dX0_paintRows_80 : decode cX0_paintRows 80 = .ok (.iconst 5, 1) := dk_8 (dk_at dksX0_paintRows_3 10 rfl rfl)
theorem dX0_paintRows_81 : decode cX0_paintRows 81 = .ok (.invokevirtual 106, 3) := dk_182 0 106 (dk_at dksX0_paintRows_3 11 rfl rfl)
theorem dX0_paintRows_84 : decode cX0_paintRows 84 = .ok (.iload_n 3, 1) := dk_29 (dk_at dksX0_paintRows_3 14 rfl rfl)
theorem dX0_paintRows_85 : decode cX0_paintRows 85 = .ok (.aload_n 2, 1) := dk_44 (dk_at dksX0_paintRows_3 15 rfl rfl)
theorem dX0_paintRows_86 : decode cX0_paintRows 86 = .ok (.iload 4, 2) := dk_21 4 (dk_at dksX0_paintRows_3 16 rfl rfl)
theorem dX0_paintRows_88 : decode cX0_paintRows 88 = .ok (.invokestatic 133, 3) := dk_184 0 133 (dk_at dksX0_paintRows_3 18 rfl rfl)
theorem dX0_paintRows_91 : decode cX0_paintRows 91 = .ok (.l2i, 1) := dk_136 (dk_at dksX0_paintRows_3 21 rfl rfl)
theorem dX0_paintRows_92 : decode cX0_paintRows 92 = .ok (.iconst 1, 1) := dk_4 (dk_at dksX0_paintRows_3 22 rfl rfl)
theorem dX0_paintRows_93 : decode cX0_paintRows 93 = .ok (.aload_n 0, 1) := dk_42 (dk_at dksX0_paintRows_3 23 rfl rfl)
theorem dX0_paintRows_94 : decode cX0_paintRows 94 = .ok (.invokevirtual 162, 3) := dk_182 0 162 (dk_at dksX0_paintRows_4 0 rfl rfl)
theorem dX0_paintRows_97 : decode cX0_paintRows 97 = .ok (.getfield 166, 3) := dk_180 0 166 (dk_at dksX0_paintRows_4 3 rfl rfl)
theorem dX0_paintRows_100 : decode cX0_paintRows 100 = .ok (.ishl, 1) := dk_120 (dk_at dksX0_paintRows_4 6 rfl rfl)
theorem dX0_paintRows_101 : decode cX0_paintRows 101 = .ok (.iconst 1, 1) := dk_4 (dk_at dksX0_paintRows_4 7 rfl rfl)
theorem dX0_paintRows_102 : decode cX0_paintRows 102 = .ok (.isub, 1) := dk_100 (dk_at dksX0_paintRows_4 8 rfl rfl)
theorem dX0_paintRows_103 : decode cX0_paintRows 103 = .ok (.iand, 1) := dk_126 (dk_at dksX0_paintRows_4 9 rfl rfl)
theorem dX0_paintRows_104 : decode cX0_paintRows 104 = .ok (.aload_n 0, 1) := dk_42 (dk_at dksX0_paintRows_4 10 rfl rfl)
theorem dX0_paintRows_105 : decode cX0_paintRows 105 = .ok (.invokevirtual 162, 3) := dk_182 0 162 (dk_at dksX0_paintRows_4 11 rfl rfl)
theorem dX0_paintRows_108 : decode cX0_paintRows 108 = .ok (.getfield 166, 3) := dk_180 0 166 (dk_at dksX0_paintRows_4 14 rfl rfl)
theorem dX0_paintRows_111 : decode cX0_paintRows 111 = .ok (.iload 4, 2) := dk_21 4 (dk_at dksX0_paintRows_4 17 rfl rfl)
theorem dX0_paintRows_113 : decode cX0_paintRows 113 = .ok (.imul, 1) := dk_104 (dk_at dksX0_paintRows_4 19 rfl rfl)
theorem dX0_paintRows_114 : decode cX0_paintRows 114 = .ok (.ishl, 1) := dk_120 (dk_at dksX0_paintRows_4 20 rfl rfl)
theorem dX0_paintRows_115 : decode cX0_paintRows 115 = .ok (.ior, 1) := dk_128 (dk_at dksX0_paintRows_4 21 rfl rfl)
theorem dX0_paintRows_116 : decode cX0_paintRows 116 = .ok (.istore_n 3, 1) := dk_62 (dk_at dksX0_paintRows_4 22 rfl rfl)
theorem dX0_paintRows_117 : decode cX0_paintRows 117 = .ok (.iinc 4 1, 3) := dk_132 4 1 (dk_at dksX0_paintRows_5 0 rfl rfl)
theorem dX0_paintRows_120 : decode cX0_paintRows 120 = .ok (.goto (-66), 3) := dk_167 255 190 (dk_at dksX0_paintRows_5 3 rfl rfl)
theorem dX0_paintRows_123 : decode cX0_paintRows 123 = .ok (.aload_n 0, 1) := dk_42 (dk_at dksX0_paintRows_5 6 rfl rfl)
theorem dX0_paintRows_124 : decode cX0_paintRows 124 = .ok (.invokevirtual 233, 3) := dk_182 0 233 (dk_at dksX0_paintRows_5 7 rfl rfl)
theorem dX0_paintRows_127 : decode cX0_paintRows 127 = .ok (.iload_n 3, 1) := dk_29 (dk_at dksX0_paintRows_5 10 rfl rfl)
theorem dX0_paintRows_128 : decode cX0_paintRows 128 = .ok (.invokevirtual 324, 3) := dk_182 1 68 (dk_at dksX0_paintRows_5 11 rfl rfl)
theorem dX0_paintRows_131 : decode cX0_paintRows 131 = .ok (.aload_n 0, 1) := dk_42 (dk_at dksX0_paintRows_5 14 rfl rfl)
theorem dX0_paintRows_132 : decode cX0_paintRows 132 = .ok (.invokevirtual 233, 3) := dk_182 0 233 (dk_at dksX0_paintRows_5 15 rfl rfl)
theorem dX0_paintRows_135 : decode cX0_paintRows 135 = .ok (.getfield 269, 3) := dk_180 1 13 (dk_at dksX0_paintRows_5 18 rfl rfl)
theorem dX0_paintRows_138 : decode cX0_paintRows 138 = .ok (.invokestatic 250, 3) := dk_184 0 250 (dk_at dksX0_paintRows_5 21 rfl rfl)
theorem dX0_paintRows_141 : decode cX0_paintRows 141 = .ok (.ireturn, 1) := dk_172 (dk_at dksX0_paintRows_6 0 rfl rfl)
theorem dX0_paintRows_142 : decode cX0_paintRows 142 = .ok (.astore_n 2, 1) := dk_77 (dk_at dksX0_paintRows_6 1 rfl rfl)
theorem dX0_paintRows_143 : decode cX0_paintRows 143 = .ok (.aload_n 0, 1) := dk_42 (dk_at dksX0_paintRows_6 2 rfl rfl)
theorem dX0_paintRows_144 : decode cX0_paintRows 144 = .ok (.aload_n 2, 1) := dk_44 (dk_at dksX0_paintRows_6 3 rfl rfl)
theorem dX0_paintRows_145 : decode cX0_paintRows 145 = .ok (.invokevirtual 139, 3) := dk_182 0 139 (dk_at dksX0_paintRows_6 4 rfl rfl)
theorem dX0_paintRows_148 : decode cX0_paintRows 148 = .ok (.ireturn, 1) := dk_172 (dk_at dksX0_paintRows_6 7 rfl rfl)
abbrev cX0_sizeOf : ByteArray := prog_1_method_3_code
def yX0_sizeOf : MethodName := ⟨RX0, "sizeOf", "(Ljava/lang/Object;)I"⟩
def dkwX0_sizeOf_2 : List UInt8 := [42, 192, 0, 7, 190, 172]
abbrev dktX0_sizeOf_2 : List UInt8 := dkwX0_sizeOf_2 ++ []
def dkwX0_sizeOf_1 : List UInt8 := [192, 0, 3, 76, 43, 190, 172, 42, 193, 0, 5, 153, 0, 13, 42, 192, 0, 5, 76, 43, 190, 167, 0, 8]
abbrev dktX0_sizeOf_1 : List UInt8 := dkwX0_sizeOf_1 ++ dktX0_sizeOf_2
def dkwX0_sizeOf_0 : List UInt8 := [42, 193, 0, 1, 153, 0, 11, 42, 192, 0, 1, 76, 43, 190, 172, 42, 193, 0, 3, 153, 0, 11, 42]
abbrev dktX0_sizeOf_0 : List UInt8 := dkwX0_sizeOf_0 ++ dktX0_sizeOf_1
theorem dksX0_sizeOf_0 : cX0_sizeOf.data.toList.drop 0 = dktX0_sizeOf_0 := by decide +kernel
theorem dksX0_sizeOf_1 : cX0_sizeOf.data.toList.drop 23 = dktX0_sizeOf_1 := dk_seg dksX0_sizeOf_0 23 rfl rfl
theorem dksX0_sizeOf_2 : cX0_sizeOf.data.toList.drop 47 = dktX0_sizeOf_2 := dk_seg dksX0_sizeOf_1 24 rfl rfl
theorem dX0_sizeOf_0 : decode cX0_sizeOf 0 = .ok (.aload_n 0, 1) := dk_42 (dk_at dksX0_sizeOf_0 0 rfl rfl)
theorem dX0_sizeOf_1 : decode cX0_sizeOf 1 = .ok (.instanceof 1, 3) := dk_193 0 1 (dk_at dksX0_sizeOf_0 1 rfl rfl)
theorem dX0_sizeOf_4 : decode cX0_sizeOf 4 = .ok (.ifCond .eq 11, 3) := dk_153 0 11 (dk_at dksX0_sizeOf_0 4 rfl rfl)
theorem dX0_sizeOf_7 : decode cX0_sizeOf 7 = .ok (.aload_n 0, 1) := dk_42 (dk_at dksX0_sizeOf_0 7 rfl rfl)
theorem dX0_sizeOf_8 : decode cX0_sizeOf 8 = .ok (.checkcast 1, 3) := dk_192 0 1 (dk_at dksX0_sizeOf_0 8 rfl rfl)
theorem dX0_sizeOf_11 : decode cX0_sizeOf 11 = .ok (.astore_n 1, 1) := dk_76 (dk_at dksX0_sizeOf_0 11 rfl rfl)
theorem dX0_sizeOf_12 : decode cX0_sizeOf 12 = .ok (.aload_n 1, 1) := dk_43 (dk_at dksX0_sizeOf_0 12 rfl rfl)
theorem dX0_sizeOf_13 : decode cX0_sizeOf 13 = .ok (.arraylength, 1) := dk_190 (dk_at dksX0_sizeOf_0 13 rfl rfl)
theorem dX0_sizeOf_14 : decode cX0_sizeOf 14 = .ok (.ireturn, 1) := dk_172 (dk_at dksX0_sizeOf_0 14 rfl rfl)
theorem dX0_sizeOf_15 : decode cX0_sizeOf 15 = .ok (.aload_n 0, 1) := dk_42 (dk_at dksX0_sizeOf_0 15 rfl rfl)
theorem dX0_sizeOf_16 : decode cX0_sizeOf 16 = .ok (.instanceof 3, 3) := dk_193 0 3 (dk_at dksX0_sizeOf_0 16 rfl rfl)
theorem dX0_sizeOf_19 : decode cX0_sizeOf 19 = .ok (.ifCond .eq 11, 3) := dk_153 0 11 (dk_at dksX0_sizeOf_0 19 rfl rfl)
theorem dX0_sizeOf_22 : decode cX0_sizeOf 22 = .ok (.aload_n 0, 1) := dk_42 (dk_at dksX0_sizeOf_0 22 rfl rfl)
theorem dX0_sizeOf_23 : decode cX0_sizeOf 23 = .ok (.checkcast 3, 3) := dk_192 0 3 (dk_at dksX0_sizeOf_1 0 rfl rfl)
theorem dX0_sizeOf_26 : decode cX0_sizeOf 26 = .ok (.astore_n 1, 1) := dk_76 (dk_at dksX0_sizeOf_1 3 rfl rfl)
theorem dX0_sizeOf_27 : decode cX0_sizeOf 27 = .ok (.aload_n 1, 1) := dk_43 (dk_at dksX0_sizeOf_1 4 rfl rfl)
theorem dX0_sizeOf_28 : decode cX0_sizeOf 28 = .ok (.arraylength, 1) := dk_190 (dk_at dksX0_sizeOf_1 5 rfl rfl)
theorem dX0_sizeOf_29 : decode cX0_sizeOf 29 = .ok (.ireturn, 1) := dk_172 (dk_at dksX0_sizeOf_1 6 rfl rfl)
theorem dX0_sizeOf_30 : decode cX0_sizeOf 30 = .ok (.aload_n 0, 1) := dk_42 (dk_at dksX0_sizeOf_1 7 rfl rfl)
theorem dX0_sizeOf_31 : decode cX0_sizeOf 31 = .ok (.instanceof 5, 3) := dk_193 0 5 (dk_at dksX0_sizeOf_1 8 rfl rfl)
theorem dX0_sizeOf_34 : decode cX0_sizeOf 34 = .ok (.ifCond .eq 13, 3) := dk_153 0 13 (dk_at dksX0_sizeOf_1 11 rfl rfl)
theorem dX0_sizeOf_37 : decode cX0_sizeOf 37 = .ok (.aload_n 0, 1) := dk_42 (dk_at dksX0_sizeOf_1 14 rfl rfl)
theorem dX0_sizeOf_38 : decode cX0_sizeOf 38 = .ok (.checkcast 5, 3) := dk_192 0 5 (dk_at dksX0_sizeOf_1 15 rfl rfl)
theorem dX0_sizeOf_41 : decode cX0_sizeOf 41 = .ok (.astore_n 1, 1) := dk_76 (dk_at dksX0_sizeOf_1 18 rfl rfl)
theorem dX0_sizeOf_42 : decode cX0_sizeOf 42 = .ok (.aload_n 1, 1) := dk_43 (dk_at dksX0_sizeOf_1 19 rfl rfl)
theorem dX0_sizeOf_43 : decode cX0_sizeOf 43 = .ok (.arraylength, 1) := dk_190 (dk_at dksX0_sizeOf_1 20 rfl rfl)
theorem dX0_sizeOf_44 : decode cX0_sizeOf 44 = .ok (.goto 8, 3) := dk_167 0 8 (dk_at dksX0_sizeOf_1 21 rfl rfl)
theorem dX0_sizeOf_47 : decode cX0_sizeOf 47 = .ok (.aload_n 0, 1) := dk_42 (dk_at dksX0_sizeOf_2 0 rfl rfl)
theorem dX0_sizeOf_48 : decode cX0_sizeOf 48 = .ok (.checkcast 7, 3) := dk_192 0 7 (dk_at dksX0_sizeOf_2 1 rfl rfl)
theorem dX0_sizeOf_51 : decode cX0_sizeOf 51 = .ok (.arraylength, 1) := dk_190 (dk_at dksX0_sizeOf_2 4 rfl rfl)
theorem dX0_sizeOf_52 : decode cX0_sizeOf 52 = .ok (.ireturn, 1) := dk_172 (dk_at dksX0_sizeOf_2 5 rfl rfl)
abbrev cX0_copyRows : ByteArray := prog_1_method_46_code
def yX0_copyRows : MethodName := ⟨RX0, "copyRows", "(I)I"⟩
def dkwX0_copyRows_4 : List UInt8 := [132, 2, 1, 167, 255, 222, 42, 182, 0, 162, 180, 0, 175, 172]
abbrev dktX0_copyRows_4 : List UInt8 := dkwX0_copyRows_4 ++ []
def dkwX0_copyRows_3 : List UInt8 := [162, 0, 29, 42, 27, 28, 42, 42, 182, 0, 233, 180, 1, 13, 28, 182, 1, 76, 133, 182, 1, 79, 87]
abbrev dktX0_copyRows_3 : List UInt8 := dkwX0_copyRows_3 ++ dktX0_copyRows_4
def dkwX0_copyRows_2 : List UInt8 := [182, 0, 106, 167, 0, 10, 77, 42, 44, 182, 0, 139, 172, 3, 61, 28, 42, 182, 0, 162, 180, 0, 175]
abbrev dktX0_copyRows_2 : List UInt8 := dkwX0_copyRows_2 ++ dktX0_copyRows_3
def dkwX0_copyRows_1 : List UInt8 := [182, 0, 123, 184, 1, 71, 42, 182, 0, 162, 180, 0, 175, 161, 0, 7, 4, 167, 0, 4, 3, 6]
abbrev dktX0_copyRows_1 : List UInt8 := dkwX0_copyRows_1 ++ dktX0_copyRows_2
def dkwX0_copyRows_0 : List UInt8 := [42, 3, 181, 0, 81, 42, 27, 133, 9, 20, 1, 35, 184, 0, 171, 4, 182, 0, 106, 42, 42, 27]
abbrev dktX0_copyRows_0 : List UInt8 := dkwX0_copyRows_0 ++ dktX0_copyRows_1
theorem dksX0_copyRows_0 : cX0_copyRows.data.toList.drop 0 = dktX0_copyRows_0 := by decide +kernel
theorem dksX0_copyRows_1 : cX0_copyRows.data.toList.drop 22 = dktX0_copyRows_1 := dk_seg dksX0_copyRows_0 22 rfl rfl
theorem dksX0_copyRows_2 : cX0_copyRows.data.toList.drop 44 = dktX0_copyRows_2 := dk_seg dksX0_copyRows_1 22 rfl rfl
theorem dksX0_copyRows_3 : cX0_copyRows.data.toList.drop 67 = dktX0_copyRows_3 := dk_seg dksX0_copyRows_2 23 rfl rfl
theorem dksX0_copyRows_4 : cX0_copyRows.data.toList.drop 90 = dktX0_copyRows_4 := dk_seg dksX0_copyRows_3 23 rfl rfl
theorem dX0_copyRows_0 : decode cX0_copyRows 0 = .ok (.aload_n 0, 1) := dk_42 (dk_at dksX0_copyRows_0 0 rfl rfl)
theorem dX0_copyRows_1 : decode cX0_copyRows 1 = .ok (.iconst 0, 1) := dk_3 (dk_at dksX0_copyRows_0 1 rfl rfl)
theorem dX0_copyRows_2 : decode cX0_copyRows 2 = .ok (.putfield 81, 3) := dk_181 0 81 (dk_at dksX0_copyRows_0 2 rfl rfl)
theorem dX0_copyRows_5 : decode cX0_copyRows 5 = .ok (.aload_n 0, 1) := dk_42 (dk_at dksX0_copyRows_0 5 rfl rfl)
theorem dX0_copyRows_6 : decode cX0_copyRows 6 = .ok (.iload_n 1, 1) := dk_27 (dk_at dksX0_copyRows_0 6 rfl rfl)
theorem dX0_copyRows_7 : decode cX0_copyRows 7 = .ok (.i2l, 1) := dk_133 (dk_at dksX0_copyRows_0 7 rfl rfl)
theorem dX0_copyRows_8 : decode cX0_copyRows 8 = .ok (.lconst 0, 1) := dk_9 (dk_at dksX0_copyRows_0 8 rfl rfl)
theorem dX0_copyRows_9 : decode cX0_copyRows 9 = .ok (.ldc2_w 291, 3) := dk_20 1 35 (dk_at dksX0_copyRows_0 9 rfl rfl)
theorem dX0_copyRows_12 : decode cX0_copyRows 12 = .ok (.invokestatic 171, 3) := dk_184 0 171 (dk_at dksX0_copyRows_0 12 rfl rfl)
theorem dX0_copyRows_15 : decode cX0_copyRows 15 = .ok (.iconst 1, 1) := dk_4 (dk_at dksX0_copyRows_0 15 rfl rfl)
theorem dX0_copyRows_16 : decode cX0_copyRows 16 = .ok (.invokevirtual 106, 3) := dk_182 0 106 (dk_at dksX0_copyRows_0 16 rfl rfl)
theorem dX0_copyRows_19 : decode cX0_copyRows 19 = .ok (.aload_n 0, 1) := dk_42 (dk_at dksX0_copyRows_0 19 rfl rfl)
theorem dX0_copyRows_20 : decode cX0_copyRows 20 = .ok (.aload_n 0, 1) := dk_42 (dk_at dksX0_copyRows_0 20 rfl rfl)
theorem dX0_copyRows_21 : decode cX0_copyRows 21 = .ok (.iload_n 1, 1) := dk_27 (dk_at dksX0_copyRows_0 21 rfl rfl)
theorem dX0_copyRows_22 : decode cX0_copyRows 22 = .ok (.invokevirtual 123, 3) := dk_182 0 123 (dk_at dksX0_copyRows_1 0 rfl rfl)
theorem dX0_copyRows_25 : decode cX0_copyRows 25 = .ok (.invokestatic 327, 3) := dk_184 1 71 (dk_at dksX0_copyRows_1 3 rfl rfl)
theorem dX0_copyRows_28 : decode cX0_copyRows 28 = .ok (.aload_n 0, 1) := dk_42 (dk_at dksX0_copyRows_1 6 rfl rfl)
theorem dX0_copyRows_29 : decode cX0_copyRows 29 = .ok (.invokevirtual 162, 3) := dk_182 0 162 (dk_at dksX0_copyRows_1 7 rfl rfl)
theorem dX0_copyRows_32 : decode cX0_copyRows 32 = .ok (.getfield 175, 3) := dk_180 0 175 (dk_at dksX0_copyRows_1 10 rfl rfl)
theorem dX0_copyRows_35 : decode cX0_copyRows 35 = .ok (.if_icmp .lt 7, 3) := dk_161 0 7 (dk_at dksX0_copyRows_1 13 rfl rfl)
theorem dX0_copyRows_38 : decode cX0_copyRows 38 = .ok (.iconst 1, 1) := dk_4 (dk_at dksX0_copyRows_1 16 rfl rfl)
theorem dX0_copyRows_39 : decode cX0_copyRows 39 = .ok (.goto 4, 3) := dk_167 0 4 (dk_at dksX0_copyRows_1 17 rfl rfl)
theorem dX0_copyRows_42 : decode cX0_copyRows 42 = .ok (.iconst 0, 1) := dk_3 (dk_at dksX0_copyRows_1 20 rfl rfl)
theorem dX0_copyRows_43 : decode cX0_copyRows 43 = .ok (.iconst 3, 1) := dk_6 (dk_at dksX0_copyRows_1 21 rfl rfl)
theorem dX0_copyRows_44 : decode cX0_copyRows 44 = .ok (.invokevirtual 106, 3) := dk_182 0 106 (dk_at dksX0_copyRows_2 0 rfl rfl)
theorem dX0_copyRows_47 : decode cX0_copyRows 47 = .ok (.goto 10, 3) := dk_167 0 10 (dk_at dksX0_copyRows_2 3 rfl rfl)
theorem dX0_copyRows_50 : decode cX0_copyRows 50 = .ok (.astore_n 2, 1) := dk_77 (dk_at dksX0_copyRows_2 6 rfl rfl)
theorem dX0_copyRows_51 : decode cX0_copyRows 51 = .ok (.aload_n 0, 1) := dk_42 (dk_at dksX0_copyRows_2 7 rfl rfl)
theorem dX0_copyRows_52 : decode cX0_copyRows 52 = .ok (.aload_n 2, 1) := dk_44 (dk_at dksX0_copyRows_2 8 rfl rfl)
theorem dX0_copyRows_53 : decode cX0_copyRows 53 = .ok (.invokevirtual 139, 3) := dk_182 0 139 (dk_at dksX0_copyRows_2 9 rfl rfl)
theorem dX0_copyRows_56 : decode cX0_copyRows 56 = .ok (.ireturn, 1) := dk_172 (dk_at dksX0_copyRows_2 12 rfl rfl)
theorem dX0_copyRows_57 : decode cX0_copyRows 57 = .ok (.iconst 0, 1) := dk_3 (dk_at dksX0_copyRows_2 13 rfl rfl)
theorem dX0_copyRows_58 : decode cX0_copyRows 58 = .ok (.istore_n 2, 1) := dk_61 (dk_at dksX0_copyRows_2 14 rfl rfl)
theorem dX0_copyRows_59 : decode cX0_copyRows 59 = .ok (.iload_n 2, 1) := dk_28 (dk_at dksX0_copyRows_2 15 rfl rfl)
theorem dX0_copyRows_60 : decode cX0_copyRows 60 = .ok (.aload_n 0, 1) := dk_42 (dk_at dksX0_copyRows_2 16 rfl rfl)
theorem dX0_copyRows_61 : decode cX0_copyRows 61 = .ok (.invokevirtual 162, 3) := dk_182 0 162 (dk_at dksX0_copyRows_2 17 rfl rfl)
theorem dX0_copyRows_64 : decode cX0_copyRows 64 = .ok (.getfield 175, 3) := dk_180 0 175 (dk_at dksX0_copyRows_2 20 rfl rfl)
theorem dX0_copyRows_67 : decode cX0_copyRows 67 = .ok (.if_icmp .ge 29, 3) := dk_162 0 29 (dk_at dksX0_copyRows_3 0 rfl rfl)
theorem dX0_copyRows_70 : decode cX0_copyRows 70 = .ok (.aload_n 0, 1) := dk_42 (dk_at dksX0_copyRows_3 3 rfl rfl)
theorem dX0_copyRows_71 : decode cX0_copyRows 71 = .ok (.iload_n 1, 1) := dk_27 (dk_at dksX0_copyRows_3 4 rfl rfl)
theorem dX0_copyRows_72 : decode cX0_copyRows 72 = .ok (.iload_n 2, 1) := dk_28 (dk_at dksX0_copyRows_3 5 rfl rfl)
theorem dX0_copyRows_73 : decode cX0_copyRows 73 = .ok (.aload_n 0, 1) := dk_42 (dk_at dksX0_copyRows_3 6 rfl rfl)
theorem dX0_copyRows_74 : decode cX0_copyRows 74 = .ok (.aload_n 0, 1) := dk_42 (dk_at dksX0_copyRows_3 7 rfl rfl)
theorem dX0_copyRows_75 : decode cX0_copyRows 75 = .ok (.invokevirtual 233, 3) := dk_182 0 233 (dk_at dksX0_copyRows_3 8 rfl rfl)
theorem dX0_copyRows_78 : decode cX0_copyRows 78 = .ok (.getfield 269, 3) := dk_180 1 13 (dk_at dksX0_copyRows_3 11 rfl rfl)
theorem dX0_copyRows_81 : decode cX0_copyRows 81 = .ok (.iload_n 2, 1) := dk_28 (dk_at dksX0_copyRows_3 14 rfl rfl)
theorem dX0_copyRows_82 : decode cX0_copyRows 82 = .ok (.invokevirtual 332, 3) := dk_182 1 76 (dk_at dksX0_copyRows_3 15 rfl rfl)
theorem dX0_copyRows_85 : decode cX0_copyRows 85 = .ok (.i2l, 1) := dk_133 (dk_at dksX0_copyRows_3 18 rfl rfl)
theorem dX0_copyRows_86 : decode cX0_copyRows 86 = .ok (.invokevirtual 335, 3) := dk_182 1 79 (dk_at dksX0_copyRows_3 19 rfl rfl)
theorem dX0_copyRows_89 : decode cX0_copyRows 89 = .ok (.pop, 1) := dk_87 (dk_at dksX0_copyRows_3 22 rfl rfl)
theorem dX0_copyRows_90 : decode cX0_copyRows 90 = .ok (.iinc 2 1, 3) := dk_132 2 1 (dk_at dksX0_copyRows_4 0 rfl rfl)
theorem dX0_copyRows_93 : decode cX0_copyRows 93 = .ok (.goto (-34), 3) := dk_167 255 222 (dk_at dksX0_copyRows_4 3 rfl rfl)
theorem dX0_copyRows_96 : decode cX0_copyRows 96 = .ok (.aload_n 0, 1) := dk_42 (dk_at dksX0_copyRows_4 6 rfl rfl)
theorem dX0_copyRows_97 : decode cX0_copyRows 97 = .ok (.invokevirtual 162, 3) := dk_182 0 162 (dk_at dksX0_copyRows_4 7 rfl rfl)
theorem dX0_copyRows_100 : decode cX0_copyRows 100 = .ok (.getfield 175, 3) := dk_180 0 175 (dk_at dksX0_copyRows_4 10 rfl rfl)
theorem dX0_copyRows_103 : decode cX0_copyRows 103 = .ok (.ireturn, 1) := dk_172 (dk_at dksX0_copyRows_4 13 rfl rfl)
abbrev cX0_strip : ByteArray := prog_1_method_45_code
def yX0_strip : MethodName := ⟨RX0, "strip", "(II)I"⟩
def dkwX0_strip_0 : List UInt8 := [27, 42, 182, 0, 162, 180, 0, 166, 28, 104, 122, 4, 42, 182, 0, 162, 180, 0, 166, 120, 4, 100, 126, 172]
abbrev dktX0_strip_0 : List UInt8 := dkwX0_strip_0 ++ []
theorem dksX0_strip_0 : cX0_strip.data.toList.drop 0 = dktX0_strip_0 := by decide +kernel
theorem dX0_strip_0 : decode cX0_strip 0 = .ok (.iload_n 1, 1) := dk_27 (dk_at dksX0_strip_0 0 rfl rfl)
theorem dX0_strip_1 : decode cX0_strip 1 = .ok (.aload_n 0, 1) := dk_42 (dk_at dksX0_strip_0 1 rfl rfl)
theorem dX0_strip_2 : decode cX0_strip 2 = .ok (.invokevirtual 162, 3) := dk_182 0 162 (dk_at dksX0_strip_0 2 rfl rfl)
theorem dX0_strip_5 : decode cX0_strip 5 = .ok (.getfield 166, 3) := dk_180 0 166 (dk_at dksX0_strip_0 5 rfl rfl)
theorem dX0_strip_8 : decode cX0_strip 8 = .ok (.iload_n 2, 1) := dk_28 (dk_at dksX0_strip_0 8 rfl rfl)
theorem dX0_strip_9 : decode cX0_strip 9 = .ok (.imul, 1) := dk_104 (dk_at dksX0_strip_0 9 rfl rfl)
theorem dX0_strip_10 : decode cX0_strip 10 = .ok (.ishr, 1) := dk_122 (dk_at dksX0_strip_0 10 rfl rfl)
theorem dX0_strip_11 : decode cX0_strip 11 = .ok (.iconst 1, 1) := dk_4 (dk_at dksX0_strip_0 11 rfl rfl)
theorem dX0_strip_12 : decode cX0_strip 12 = .ok (.aload_n 0, 1) := dk_42 (dk_at dksX0_strip_0 12 rfl rfl)
theorem dX0_strip_13 : decode cX0_strip 13 = .ok (.invokevirtual 162, 3) := dk_182 0 162 (dk_at dksX0_strip_0 13 rfl rfl)
theorem dX0_strip_16 : decode cX0_strip 16 = .ok (.getfield 166, 3) := dk_180 0 166 (dk_at dksX0_strip_0 16 rfl rfl)
theorem dX0_strip_19 : decode cX0_strip 19 = .ok (.ishl, 1) := dk_120 (dk_at dksX0_strip_0 19 rfl rfl)
theorem dX0_strip_20 : decode cX0_strip 20 = .ok (.iconst 1, 1) := dk_4 (dk_at dksX0_strip_0 20 rfl rfl)
theorem dX0_strip_21 : decode cX0_strip 21 = .ok (.isub, 1) := dk_100 (dk_at dksX0_strip_0 21 rfl rfl)
theorem dX0_strip_22 : decode cX0_strip 22 = .ok (.iand, 1) := dk_126 (dk_at dksX0_strip_0 22 rfl rfl)
theorem dX0_strip_23 : decode cX0_strip 23 = .ok (.ireturn, 1) := dk_172 (dk_at dksX0_strip_0 23 rfl rfl)
abbrev cX0_mayor : ByteArray := prog_1_method_47_code
def yX0_mayor : MethodName := ⟨RX0, "mayor", "(I)Z"⟩
def dkwX0_mayor_1 : List UInt8 := [42, 182, 0, 233, 27, 181, 1, 29, 42, 180, 0, 81, 154, 0, 7, 4, 167, 0, 4, 3, 172]
abbrev dktX0_mayor_1 : List UInt8 := dkwX0_mayor_1 ++ []
def dkwX0_mayor_0 : List UInt8 := [42, 42, 27, 182, 1, 43, 153, 0, 7, 3, 167, 0, 4, 4, 181, 0, 81, 42, 180, 0, 81, 154, 0, 11]
abbrev dktX0_mayor_0 : List UInt8 := dkwX0_mayor_0 ++ dktX0_mayor_1
theorem dksX0_mayor_0 : cX0_mayor.data.toList.drop 0 = dktX0_mayor_0 := by decide +kernel
theorem dksX0_mayor_1 : cX0_mayor.data.toList.drop 24 = dktX0_mayor_1 := dk_seg dksX0_mayor_0 24 rfl rfl
theorem dX0_mayor_0 : decode cX0_mayor 0 = .ok (.aload_n 0, 1) := dk_42 (dk_at dksX0_mayor_0 0 rfl rfl)
theorem dX0_mayor_1 : decode cX0_mayor 1 = .ok (.aload_n 0, 1) := dk_42 (dk_at dksX0_mayor_0 1 rfl rfl)
theorem dX0_mayor_2 : decode cX0_mayor 2 = .ok (.iload_n 1, 1) := dk_27 (dk_at dksX0_mayor_0 2 rfl rfl)
theorem dX0_mayor_3 : decode cX0_mayor 3 = .ok (.invokevirtual 299, 3) := dk_182 1 43 (dk_at dksX0_mayor_0 3 rfl rfl)
theorem dX0_mayor_6 : decode cX0_mayor 6 = .ok (.ifCond .eq 7, 3) := dk_153 0 7 (dk_at dksX0_mayor_0 6 rfl rfl)
theorem dX0_mayor_9 : decode cX0_mayor 9 = .ok (.iconst 0, 1) := dk_3 (dk_at dksX0_mayor_0 9 rfl rfl)
theorem dX0_mayor_10 : decode cX0_mayor 10 = .ok (.goto 4, 3) := dk_167 0 4 (dk_at dksX0_mayor_0 10 rfl rfl)
theorem dX0_mayor_13 : decode cX0_mayor 13 = .ok (.iconst 1, 1) := dk_4 (dk_at dksX0_mayor_0 13 rfl rfl)
theorem dX0_mayor_14 : decode cX0_mayor 14 = .ok (.putfield 81, 3) := dk_181 0 81 (dk_at dksX0_mayor_0 14 rfl rfl)
theorem dX0_mayor_17 : decode cX0_mayor 17 = .ok (.aload_n 0, 1) := dk_42 (dk_at dksX0_mayor_0 17 rfl rfl)
theorem dX0_mayor_18 : decode cX0_mayor 18 = .ok (.getfield 81, 3) := dk_180 0 81 (dk_at dksX0_mayor_0 18 rfl rfl)
theorem dX0_mayor_21 : decode cX0_mayor 21 = .ok (.ifCond .ne 11, 3) := dk_154 0 11 (dk_at dksX0_mayor_0 21 rfl rfl)
theorem dX0_mayor_24 : decode cX0_mayor 24 = .ok (.aload_n 0, 1) := dk_42 (dk_at dksX0_mayor_1 0 rfl rfl)
theorem dX0_mayor_25 : decode cX0_mayor 25 = .ok (.invokevirtual 233, 3) := dk_182 0 233 (dk_at dksX0_mayor_1 1 rfl rfl)
theorem dX0_mayor_28 : decode cX0_mayor 28 = .ok (.iload_n 1, 1) := dk_27 (dk_at dksX0_mayor_1 4 rfl rfl)
theorem dX0_mayor_29 : decode cX0_mayor 29 = .ok (.putfield 285, 3) := dk_181 1 29 (dk_at dksX0_mayor_1 5 rfl rfl)
theorem dX0_mayor_32 : decode cX0_mayor 32 = .ok (.aload_n 0, 1) := dk_42 (dk_at dksX0_mayor_1 8 rfl rfl)
theorem dX0_mayor_33 : decode cX0_mayor 33 = .ok (.getfield 81, 3) := dk_180 0 81 (dk_at dksX0_mayor_1 9 rfl rfl)
theorem dX0_mayor_36 : decode cX0_mayor 36 = .ok (.ifCond .ne 7, 3) := dk_154 0 7 (dk_at dksX0_mayor_1 12 rfl rfl)
theorem dX0_mayor_39 : decode cX0_mayor 39 = .ok (.iconst 1, 1) := dk_4 (dk_at dksX0_mayor_1 15 rfl rfl)
theorem dX0_mayor_40 : decode cX0_mayor 40 = .ok (.goto 4, 3) := dk_167 0 4 (dk_at dksX0_mayor_1 16 rfl rfl)
theorem dX0_mayor_43 : decode cX0_mayor 43 = .ok (.iconst 0, 1) := dk_3 (dk_at dksX0_mayor_1 19 rfl rfl)
theorem dX0_mayor_44 : decode cX0_mayor 44 = .ok (.ireturn, 1) := dk_172 (dk_at dksX0_mayor_1 20 rfl rfl)
abbrev cX0_bend : ByteArray := prog_1_method_48_code
def yX0_bend : MethodName := ⟨RX0, "bend", "(III)Z"⟩
def dkwX0_bend_2 : List UInt8 := [3, 172, 42, 182, 0, 233, 180, 1, 46, 27, 28, 79, 42, 182, 0, 233, 180, 1, 49, 27, 29, 79, 4, 172]
abbrev dktX0_bend_2 : List UInt8 := dkwX0_bend_2 ++ []
def dkwX0_bend_1 : List UInt8 := [20, 1, 74, 184, 0, 171, 153, 0, 7, 3, 167, 0, 4, 4, 181, 0, 81, 42, 180, 0, 81, 158, 0, 5]
abbrev dktX0_bend_1 : List UInt8 := dkwX0_bend_1 ++ dktX0_bend_2
def dkwX0_bend_0 : List UInt8 := [42, 42, 27, 182, 1, 43, 153, 0, 31, 28, 133, 9, 20, 1, 74, 184, 0, 171, 153, 0, 19, 29, 133, 9]
abbrev dktX0_bend_0 : List UInt8 := dkwX0_bend_0 ++ dktX0_bend_1
theorem dksX0_bend_0 : cX0_bend.data.toList.drop 0 = dktX0_bend_0 := by decide +kernel
theorem dksX0_bend_1 : cX0_bend.data.toList.drop 24 = dktX0_bend_1 := dk_seg dksX0_bend_0 24 rfl rfl
theorem dksX0_bend_2 : cX0_bend.data.toList.drop 48 = dktX0_bend_2 := dk_seg dksX0_bend_1 24 rfl rfl
theorem dX0_bend_0 : decode cX0_bend 0 = .ok (.aload_n 0, 1) := dk_42 (dk_at dksX0_bend_0 0 rfl rfl)
theorem dX0_bend_1 : decode cX0_bend 1 = .ok (.aload_n 0, 1) := dk_42 (dk_at dksX0_bend_0 1 rfl rfl)
theorem dX0_bend_2 : decode cX0_bend 2 = .ok (.iload_n 1, 1) := dk_27 (dk_at dksX0_bend_0 2 rfl rfl)
theorem dX0_bend_3 : decode cX0_bend 3 = .ok (.invokevirtual 299, 3) := dk_182 1 43 (dk_at dksX0_bend_0 3 rfl rfl)
theorem dX0_bend_6 : decode cX0_bend 6 = .ok (.ifCond .eq 31, 3) := dk_153 0 31 (dk_at dksX0_bend_0 6 rfl rfl)
theorem dX0_bend_9 : decode cX0_bend 9 = .ok (.iload_n 2, 1) := dk_28 (dk_at dksX0_bend_0 9 rfl rfl)
theorem dX0_bend_10 : decode cX0_bend 10 = .ok (.i2l, 1) := dk_133 (dk_at dksX0_bend_0 10 rfl rfl)
theorem dX0_bend_11 : decode cX0_bend 11 = .ok (.lconst 0, 1) := dk_9 (dk_at dksX0_bend_0 11 rfl rfl)
theorem dX0_bend_12 : decode cX0_bend 12 = .ok (.ldc2_w 330, 3) := dk_20 1 74 (dk_at dksX0_bend_0 12 rfl rfl)
theorem dX0_bend_15 : decode cX0_bend 15 = .ok (.invokestatic 171, 3) := dk_184 0 171 (dk_at dksX0_bend_0 15 rfl rfl)
theorem dX0_bend_18 : decode cX0_bend 18 = .ok (.ifCond .eq 19, 3) := dk_153 0 19 (dk_at dksX0_bend_0 18 rfl rfl)
theorem dX0_bend_21 : decode cX0_bend 21 = .ok (.iload_n 3, 1) := dk_29 (dk_at dksX0_bend_0 21 rfl rfl)
theorem dX0_bend_22 : decode cX0_bend 22 = .ok (.i2l, 1) := dk_133 (dk_at dksX0_bend_0 22 rfl rfl)
theorem dX0_bend_23 : decode cX0_bend 23 = .ok (.lconst 0, 1) := dk_9 (dk_at dksX0_bend_0 23 rfl rfl)
theorem dX0_bend_24 : decode cX0_bend 24 = .ok (.ldc2_w 330, 3) := dk_20 1 74 (dk_at dksX0_bend_1 0 rfl rfl)
theorem dX0_bend_27 : decode cX0_bend 27 = .ok (.invokestatic 171, 3) := dk_184 0 171 (dk_at dksX0_bend_1 3 rfl rfl)
theorem dX0_bend_30 : decode cX0_bend 30 = .ok (.ifCond .eq 7, 3) := dk_153 0 7 (dk_at dksX0_bend_1 6 rfl rfl)
theorem dX0_bend_33 : decode cX0_bend 33 = .ok (.iconst 0, 1) := dk_3 (dk_at dksX0_bend_1 9 rfl rfl)
theorem dX0_bend_34 : decode cX0_bend 34 = .ok (.goto 4, 3) := dk_167 0 4 (dk_at dksX0_bend_1 10 rfl rfl)
theorem dX0_bend_37 : decode cX0_bend 37 = .ok (.iconst 1, 1) := dk_4 (dk_at dksX0_bend_1 13 rfl rfl)
theorem dX0_bend_38 : decode cX0_bend 38 = .ok (.putfield 81, 3) := dk_181 0 81 (dk_at dksX0_bend_1 14 rfl rfl)
theorem dX0_bend_41 : decode cX0_bend 41 = .ok (.aload_n 0, 1) := dk_42 (dk_at dksX0_bend_1 17 rfl rfl)
theorem dX0_bend_42 : decode cX0_bend 42 = .ok (.getfield 81, 3) := dk_180 0 81 (dk_at dksX0_bend_1 18 rfl rfl)
theorem dX0_bend_45 : decode cX0_bend 45 = .ok (.ifCond .le 5, 3) := dk_158 0 5 (dk_at dksX0_bend_1 21 rfl rfl)
theorem dX0_bend_48 : decode cX0_bend 48 = .ok (.iconst 0, 1) := dk_3 (dk_at dksX0_bend_2 0 rfl rfl)
theorem dX0_bend_49 : decode cX0_bend 49 = .ok (.ireturn, 1) := dk_172 (dk_at dksX0_bend_2 1 rfl rfl)
theorem dX0_bend_50 : decode cX0_bend 50 = .ok (.aload_n 0, 1) := dk_42 (dk_at dksX0_bend_2 2 rfl rfl)
theorem dX0_bend_51 : decode cX0_bend 51 = .ok (.invokevirtual 233, 3) := dk_182 0 233 (dk_at dksX0_bend_2 3 rfl rfl)
theorem dX0_bend_54 : decode cX0_bend 54 = .ok (.getfield 302, 3) := dk_180 1 46 (dk_at dksX0_bend_2 6 rfl rfl)
theorem dX0_bend_57 : decode cX0_bend 57 = .ok (.iload_n 1, 1) := dk_27 (dk_at dksX0_bend_2 9 rfl rfl)
theorem dX0_bend_58 : decode cX0_bend 58 = .ok (.iload_n 2, 1) := dk_28 (dk_at dksX0_bend_2 10 rfl rfl)
theorem dX0_bend_59 : decode cX0_bend 59 = .ok (.iastore, 1) := dk_79 (dk_at dksX0_bend_2 11 rfl rfl)
theorem dX0_bend_60 : decode cX0_bend 60 = .ok (.aload_n 0, 1) := dk_42 (dk_at dksX0_bend_2 12 rfl rfl)
theorem dX0_bend_61 : decode cX0_bend 61 = .ok (.invokevirtual 233, 3) := dk_182 0 233 (dk_at dksX0_bend_2 13 rfl rfl)
theorem dX0_bend_64 : decode cX0_bend 64 = .ok (.getfield 305, 3) := dk_180 1 49 (dk_at dksX0_bend_2 16 rfl rfl)
theorem dX0_bend_67 : decode cX0_bend 67 = .ok (.iload_n 1, 1) := dk_27 (dk_at dksX0_bend_2 19 rfl rfl)
theorem dX0_bend_68 : decode cX0_bend 68 = .ok (.iload_n 3, 1) := dk_29 (dk_at dksX0_bend_2 20 rfl rfl)
theorem dX0_bend_69 : decode cX0_bend 69 = .ok (.iastore, 1) := dk_79 (dk_at dksX0_bend_2 21 rfl rfl)
theorem dX0_bend_70 : decode cX0_bend 70 = .ok (.iconst 1, 1) := dk_4 (dk_at dksX0_bend_2 22 rfl rfl)
theorem dX0_bend_71 : decode cX0_bend 71 = .ok (.ireturn, 1) := dk_172 (dk_at dksX0_bend_2 23 rfl rfl)
abbrev cX0_night : ByteArray := prog_1_method_49_code
def yX0_night : MethodName := ⟨RX0, "night", "(I)I"⟩
def dkwX0_night_2 : List UInt8 := [132, 2, 1, 167, 255, 241, 42, 182, 0, 233, 180, 1, 13, 184, 0, 250, 172]
abbrev dktX0_night_2 : List UInt8 := dkwX0_night_2 ++ []
def dkwX0_night_1 : List UInt8 := [180, 0, 81, 158, 0, 5, 2, 172, 3, 61, 28, 27, 162, 0, 16, 42, 182, 0, 233, 182, 1, 85]
abbrev dktX0_night_1 : List UInt8 := dkwX0_night_1 ++ dktX0_night_2
def dkwX0_night_0 : List UInt8 := [42, 27, 133, 10, 20, 1, 83, 184, 0, 171, 153, 0, 7, 3, 167, 0, 4, 4, 181, 0, 81, 42]
abbrev dktX0_night_0 : List UInt8 := dkwX0_night_0 ++ dktX0_night_1
theorem dksX0_night_0 : cX0_night.data.toList.drop 0 = dktX0_night_0 := by decide +kernel
theorem dksX0_night_1 : cX0_night.data.toList.drop 22 = dktX0_night_1 := dk_seg dksX0_night_0 22 rfl rfl
theorem dksX0_night_2 : cX0_night.data.toList.drop 44 = dktX0_night_2 := dk_seg dksX0_night_1 22 rfl rfl
theorem dX0_night_0 : decode cX0_night 0 = .ok (.aload_n 0, 1) := dk_42 (dk_at dksX0_night_0 0 rfl rfl)
theorem dX0_night_1 : decode cX0_night 1 = .ok (.iload_n 1, 1) := dk_27 (dk_at dksX0_night_0 1 rfl rfl)
theorem dX0_night_2 : decode cX0_night 2 = .ok (.i2l, 1) := dk_133 (dk_at dksX0_night_0 2 rfl rfl)
theorem dX0_night_3 : decode cX0_night 3 = .ok (.lconst 1, 1) := dk_10 (dk_at dksX0_night_0 3 rfl rfl)
theorem dX0_night_4 : decode cX0_night 4 = .ok (.ldc2_w 339, 3) := dk_20 1 83 (dk_at dksX0_night_0 4 rfl rfl)
theorem dX0_night_7 : decode cX0_night 7 = .ok (.invokestatic 171, 3) := dk_184 0 171 (dk_at dksX0_night_0 7 rfl rfl)
theorem dX0_night_10 : decode cX0_night 10 = .ok (.ifCond .eq 7, 3) := dk_153 0 7 (dk_at dksX0_night_0 10 rfl rfl)
theorem dX0_night_13 : decode cX0_night 13 = .ok (.iconst 0, 1) := dk_3 (dk_at dksX0_night_0 13 rfl rfl)
theorem dX0_night_14 : decode cX0_night 14 = .ok (.goto 4, 3) := dk_167 0 4 (dk_at dksX0_night_0 14 rfl rfl)
theorem dX0_night_17 : decode cX0_night 17 = .ok (.iconst 1, 1) := dk_4 (dk_at dksX0_night_0 17 rfl rfl)
theorem dX0_night_18 : decode cX0_night 18 = .ok (.putfield 81, 3) := dk_181 0 81 (dk_at dksX0_night_0 18 rfl rfl)
theorem dX0_night_21 : decode cX0_night 21 = .ok (.aload_n 0, 1) := dk_42 (dk_at dksX0_night_0 21 rfl rfl)
theorem dX0_night_22 : decode cX0_night 22 = .ok (.getfield 81, 3) := dk_180 0 81 (dk_at dksX0_night_1 0 rfl rfl)
theorem dX0_night_25 : decode cX0_night 25 = .ok (.ifCond .le 5, 3) := dk_158 0 5 (dk_at dksX0_night_1 3 rfl rfl)
theorem dX0_night_28 : decode cX0_night 28 = .ok (.iconst (-1), 1) := dk_2 (dk_at dksX0_night_1 6 rfl rfl)
theorem dX0_night_29 : decode cX0_night 29 = .ok (.ireturn, 1) := dk_172 (dk_at dksX0_night_1 7 rfl rfl)
theorem dX0_night_30 : decode cX0_night 30 = .ok (.iconst 0, 1) := dk_3 (dk_at dksX0_night_1 8 rfl rfl)
theorem dX0_night_31 : decode cX0_night 31 = .ok (.istore_n 2, 1) := dk_61 (dk_at dksX0_night_1 9 rfl rfl)
theorem dX0_night_32 : decode cX0_night 32 = .ok (.iload_n 2, 1) := dk_28 (dk_at dksX0_night_1 10 rfl rfl)
theorem dX0_night_33 : decode cX0_night 33 = .ok (.iload_n 1, 1) := dk_27 (dk_at dksX0_night_1 11 rfl rfl)
theorem dX0_night_34 : decode cX0_night 34 = .ok (.if_icmp .ge 16, 3) := dk_162 0 16 (dk_at dksX0_night_1 12 rfl rfl)
theorem dX0_night_37 : decode cX0_night 37 = .ok (.aload_n 0, 1) := dk_42 (dk_at dksX0_night_1 15 rfl rfl)
theorem dX0_night_38 : decode cX0_night 38 = .ok (.invokevirtual 233, 3) := dk_182 0 233 (dk_at dksX0_night_1 16 rfl rfl)
theorem dX0_night_41 : decode cX0_night 41 = .ok (.invokevirtual 341, 3) := dk_182 1 85 (dk_at dksX0_night_1 19 rfl rfl)
theorem dX0_night_44 : decode cX0_night 44 = .ok (.iinc 2 1, 3) := dk_132 2 1 (dk_at dksX0_night_2 0 rfl rfl)
theorem dX0_night_47 : decode cX0_night 47 = .ok (.goto (-15), 3) := dk_167 255 241 (dk_at dksX0_night_2 3 rfl rfl)
theorem dX0_night_50 : decode cX0_night 50 = .ok (.aload_n 0, 1) := dk_42 (dk_at dksX0_night_2 6 rfl rfl)
theorem dX0_night_51 : decode cX0_night 51 = .ok (.invokevirtual 233, 3) := dk_182 0 233 (dk_at dksX0_night_2 7 rfl rfl)
theorem dX0_night_54 : decode cX0_night 54 = .ok (.getfield 269, 3) := dk_180 1 13 (dk_at dksX0_night_2 10 rfl rfl)
theorem dX0_night_57 : decode cX0_night 57 = .ok (.invokestatic 250, 3) := dk_184 0 250 (dk_at dksX0_night_2 13 rfl rfl)
theorem dX0_night_60 : decode cX0_night 60 = .ok (.ireturn, 1) := dk_172 (dk_at dksX0_night_2 16 rfl rfl)
abbrev cX0_ahead : ByteArray := prog_1_method_50_code
def yX0_ahead : MethodName := ⟨RX0, "ahead", "(I)J"⟩
def dkwX0_ahead_2 : List UInt8 := [182, 1, 87, 133, 173]
abbrev dktX0_ahead_2 : List UInt8 := dkwX0_ahead_2 ++ []
def dkwX0_ahead_1 : List UInt8 := [180, 0, 81, 158, 0, 9, 20, 0, 137, 167, 0, 19, 42, 182, 0, 233, 42, 182, 0, 233, 180, 1, 13, 27]
abbrev dktX0_ahead_1 : List UInt8 := dkwX0_ahead_1 ++ dktX0_ahead_2
def dkwX0_ahead_0 : List UInt8 := [42, 27, 133, 9, 20, 1, 83, 184, 0, 171, 153, 0, 7, 3, 167, 0, 4, 4, 181, 0, 81, 42]
abbrev dktX0_ahead_0 : List UInt8 := dkwX0_ahead_0 ++ dktX0_ahead_1
theorem dksX0_ahead_0 : cX0_ahead.data.toList.drop 0 = dktX0_ahead_0 := by decide +kernel
theorem dksX0_ahead_1 : cX0_ahead.data.toList.drop 22 = dktX0_ahead_1 := dk_seg dksX0_ahead_0 22 rfl rfl
theorem dksX0_ahead_2 : cX0_ahead.data.toList.drop 46 = dktX0_ahead_2 := dk_seg dksX0_ahead_1 24 rfl rfl
theorem dX0_ahead_0 : decode cX0_ahead 0 = .ok (.aload_n 0, 1) := dk_42 (dk_at dksX0_ahead_0 0 rfl rfl)
theorem dX0_ahead_1 : decode cX0_ahead 1 = .ok (.iload_n 1, 1) := dk_27 (dk_at dksX0_ahead_0 1 rfl rfl)
theorem dX0_ahead_2 : decode cX0_ahead 2 = .ok (.i2l, 1) := dk_133 (dk_at dksX0_ahead_0 2 rfl rfl)
theorem dX0_ahead_3 : decode cX0_ahead 3 = .ok (.lconst 0, 1) := dk_9 (dk_at dksX0_ahead_0 3 rfl rfl)
theorem dX0_ahead_4 : decode cX0_ahead 4 = .ok (.ldc2_w 339, 3) := dk_20 1 83 (dk_at dksX0_ahead_0 4 rfl rfl)
theorem dX0_ahead_7 : decode cX0_ahead 7 = .ok (.invokestatic 171, 3) := dk_184 0 171 (dk_at dksX0_ahead_0 7 rfl rfl)
theorem dX0_ahead_10 : decode cX0_ahead 10 = .ok (.ifCond .eq 7, 3) := dk_153 0 7 (dk_at dksX0_ahead_0 10 rfl rfl)
theorem dX0_ahead_13 : decode cX0_ahead 13 = .ok (.iconst 0, 1) := dk_3 (dk_at dksX0_ahead_0 13 rfl rfl)
theorem dX0_ahead_14 : decode cX0_ahead 14 = .ok (.goto 4, 3) := dk_167 0 4 (dk_at dksX0_ahead_0 14 rfl rfl)
theorem dX0_ahead_17 : decode cX0_ahead 17 = .ok (.iconst 1, 1) := dk_4 (dk_at dksX0_ahead_0 17 rfl rfl)
theorem dX0_ahead_18 : decode cX0_ahead 18 = .ok (.putfield 81, 3) := dk_181 0 81 (dk_at dksX0_ahead_0 18 rfl rfl)
theorem dX0_ahead_21 : decode cX0_ahead 21 = .ok (.aload_n 0, 1) := dk_42 (dk_at dksX0_ahead_0 21 rfl rfl)
theorem dX0_ahead_22 : decode cX0_ahead 22 = .ok (.getfield 81, 3) := dk_180 0 81 (dk_at dksX0_ahead_1 0 rfl rfl)
theorem dX0_ahead_25 : decode cX0_ahead 25 = .ok (.ifCond .le 9, 3) := dk_158 0 9 (dk_at dksX0_ahead_1 3 rfl rfl)
theorem dX0_ahead_28 : decode cX0_ahead 28 = .ok (.ldc2_w 137, 3) := dk_20 0 137 (dk_at dksX0_ahead_1 6 rfl rfl)
theorem dX0_ahead_31 : decode cX0_ahead 31 = .ok (.goto 19, 3) := dk_167 0 19 (dk_at dksX0_ahead_1 9 rfl rfl)
theorem dX0_ahead_34 : decode cX0_ahead 34 = .ok (.aload_n 0, 1) := dk_42 (dk_at dksX0_ahead_1 12 rfl rfl)
theorem dX0_ahead_35 : decode cX0_ahead 35 = .ok (.invokevirtual 233, 3) := dk_182 0 233 (dk_at dksX0_ahead_1 13 rfl rfl)
theorem dX0_ahead_38 : decode cX0_ahead 38 = .ok (.aload_n 0, 1) := dk_42 (dk_at dksX0_ahead_1 16 rfl rfl)
theorem dX0_ahead_39 : decode cX0_ahead 39 = .ok (.invokevirtual 233, 3) := dk_182 0 233 (dk_at dksX0_ahead_1 17 rfl rfl)
theorem dX0_ahead_42 : decode cX0_ahead 42 = .ok (.getfield 269, 3) := dk_180 1 13 (dk_at dksX0_ahead_1 20 rfl rfl)
theorem dX0_ahead_45 : decode cX0_ahead 45 = .ok (.iload_n 1, 1) := dk_27 (dk_at dksX0_ahead_1 23 rfl rfl)
theorem dX0_ahead_46 : decode cX0_ahead 46 = .ok (.invokevirtual 343, 3) := dk_182 1 87 (dk_at dksX0_ahead_2 0 rfl rfl)
theorem dX0_ahead_49 : decode cX0_ahead 49 = .ok (.i2l, 1) := dk_133 (dk_at dksX0_ahead_2 3 rfl rfl)
theorem dX0_ahead_50 : decode cX0_ahead 50 = .ok (.lreturn, 1) := dk_173 (dk_at dksX0_ahead_2 4 rfl rfl)
abbrev cX0_again : ByteArray := prog_1_method_52_code
def yX0_again : MethodName := ⟨RX0, "again", "(I)I"⟩
def dkwX0_again_2 : List UInt8 := [180, 1, 93, 167, 0, 7, 42, 180, 1, 96, 172]
abbrev dktX0_again_2 : List UInt8 := dkwX0_again_2 ++ []
def dkwX0_again_1 : List UInt8 := [167, 0, 5, 16, 7, 181, 0, 81, 42, 180, 0, 81, 158, 0, 7, 2, 167, 0, 18, 27, 154, 0, 10, 42]
abbrev dktX0_again_1 : List UInt8 := dkwX0_again_1 ++ dktX0_again_2
def dkwX0_again_0 : List UInt8 := [42, 27, 133, 9, 10, 184, 0, 171, 154, 0, 7, 4, 167, 0, 16, 42, 182, 1, 99, 153, 0, 7, 3]
abbrev dktX0_again_0 : List UInt8 := dkwX0_again_0 ++ dktX0_again_1
theorem dksX0_again_0 : cX0_again.data.toList.drop 0 = dktX0_again_0 := by decide +kernel
theorem dksX0_again_1 : cX0_again.data.toList.drop 23 = dktX0_again_1 := dk_seg dksX0_again_0 23 rfl rfl
theorem dksX0_again_2 : cX0_again.data.toList.drop 47 = dktX0_again_2 := dk_seg dksX0_again_1 24 rfl rfl
theorem dX0_again_0 : decode cX0_again 0 = .ok (.aload_n 0, 1) := dk_42 (dk_at dksX0_again_0 0 rfl rfl)
theorem dX0_again_1 : decode cX0_again 1 = .ok (.iload_n 1, 1) := dk_27 (dk_at dksX0_again_0 1 rfl rfl)
theorem dX0_again_2 : decode cX0_again 2 = .ok (.i2l, 1) := dk_133 (dk_at dksX0_again_0 2 rfl rfl)
theorem dX0_again_3 : decode cX0_again 3 = .ok (.lconst 0, 1) := dk_9 (dk_at dksX0_again_0 3 rfl rfl)
theorem dX0_again_4 : decode cX0_again 4 = .ok (.lconst 1, 1) := dk_10 (dk_at dksX0_again_0 4 rfl rfl)
theorem dX0_again_5 : decode cX0_again 5 = .ok (.invokestatic 171, 3) := dk_184 0 171 (dk_at dksX0_again_0 5 rfl rfl)
theorem dX0_again_8 : decode cX0_again 8 = .ok (.ifCond .ne 7, 3) := dk_154 0 7 (dk_at dksX0_again_0 8 rfl rfl)
theorem dX0_again_11 : decode cX0_again 11 = .ok (.iconst 1, 1) := dk_4 (dk_at dksX0_again_0 11 rfl rfl)
theorem dX0_again_12 : decode cX0_again 12 = .ok (.goto 16, 3) := dk_167 0 16 (dk_at dksX0_again_0 12 rfl rfl)
theorem dX0_again_15 : decode cX0_again 15 = .ok (.aload_n 0, 1) := dk_42 (dk_at dksX0_again_0 15 rfl rfl)
theorem dX0_again_16 : decode cX0_again 16 = .ok (.invokevirtual 355, 3) := dk_182 1 99 (dk_at dksX0_again_0 16 rfl rfl)
theorem dX0_again_19 : decode cX0_again 19 = .ok (.ifCond .eq 7, 3) := dk_153 0 7 (dk_at dksX0_again_0 19 rfl rfl)
theorem dX0_again_22 : decode cX0_again 22 = .ok (.iconst 0, 1) := dk_3 (dk_at dksX0_again_0 22 rfl rfl)
theorem dX0_again_23 : decode cX0_again 23 = .ok (.goto 5, 3) := dk_167 0 5 (dk_at dksX0_again_1 0 rfl rfl)
theorem dX0_again_26 : decode cX0_again 26 = .ok (.bipush 7, 2) := dk_16 7 (dk_at dksX0_again_1 3 rfl rfl)
theorem dX0_again_28 : decode cX0_again 28 = .ok (.putfield 81, 3) := dk_181 0 81 (dk_at dksX0_again_1 5 rfl rfl)
theorem dX0_again_31 : decode cX0_again 31 = .ok (.aload_n 0, 1) := dk_42 (dk_at dksX0_again_1 8 rfl rfl)
theorem dX0_again_32 : decode cX0_again 32 = .ok (.getfield 81, 3) := dk_180 0 81 (dk_at dksX0_again_1 9 rfl rfl)
theorem dX0_again_35 : decode cX0_again 35 = .ok (.ifCond .le 7, 3) := dk_158 0 7 (dk_at dksX0_again_1 12 rfl rfl)
theorem dX0_again_38 : decode cX0_again 38 = .ok (.iconst (-1), 1) := dk_2 (dk_at dksX0_again_1 15 rfl rfl)
theorem dX0_again_39 : decode cX0_again 39 = .ok (.goto 18, 3) := dk_167 0 18 (dk_at dksX0_again_1 16 rfl rfl)
theorem dX0_again_42 : decode cX0_again 42 = .ok (.iload_n 1, 1) := dk_27 (dk_at dksX0_again_1 19 rfl rfl)
theorem dX0_again_43 : decode cX0_again 43 = .ok (.ifCond .ne 10, 3) := dk_154 0 10 (dk_at dksX0_again_1 20 rfl rfl)
theorem dX0_again_46 : decode cX0_again 46 = .ok (.aload_n 0, 1) := dk_42 (dk_at dksX0_again_1 23 rfl rfl)
theorem dX0_again_47 : decode cX0_again 47 = .ok (.getfield 349, 3) := dk_180 1 93 (dk_at dksX0_again_2 0 rfl rfl)
theorem dX0_again_50 : decode cX0_again 50 = .ok (.goto 7, 3) := dk_167 0 7 (dk_at dksX0_again_2 3 rfl rfl)
theorem dX0_again_53 : decode cX0_again 53 = .ok (.aload_n 0, 1) := dk_42 (dk_at dksX0_again_2 6 rfl rfl)
theorem dX0_again_54 : decode cX0_again 54 = .ok (.getfield 352, 3) := dk_180 1 96 (dk_at dksX0_again_2 7 rfl rfl)
theorem dX0_again_57 : decode cX0_again 57 = .ok (.ireturn, 1) := dk_172 (dk_at dksX0_again_2 10 rfl rfl)
abbrev cX0_comesAgain : ByteArray := prog_1_method_51_code
def yX0_comesAgain : MethodName := ⟨RX0, "comesAgain", "()Z"⟩
def dkwX0_comesAgain_4 : List UInt8 := [3, 172]
abbrev dktX0_comesAgain_4 : List UInt8 := dkwX0_comesAgain_4 ++ []
def dkwX0_comesAgain_3 : List UInt8 := [181, 1, 93, 42, 27, 28, 100, 181, 1, 96, 4, 172, 132, 2, 1, 167, 255, 216, 132, 1, 1, 167, 255, 180]
abbrev dktX0_comesAgain_3 : List UInt8 := dkwX0_comesAgain_3 ++ dktX0_comesAgain_4
def dkwX0_comesAgain_2 : List UInt8 := [162, 0, 41, 42, 180, 0, 63, 28, 46, 42, 180, 0, 63, 27, 46, 159, 0, 6, 167, 0, 17, 42, 28]
abbrev dktX0_comesAgain_2 : List UInt8 := dkwX0_comesAgain_2 ++ dktX0_comesAgain_3
def dkwX0_comesAgain_1 : List UInt8 := [180, 0, 63, 27, 42, 182, 0, 233, 42, 180, 0, 63, 27, 4, 100, 46, 182, 1, 90, 79, 3, 61, 28, 27]
abbrev dktX0_comesAgain_1 : List UInt8 := dkwX0_comesAgain_1 ++ dktX0_comesAgain_2
def dkwX0_comesAgain_0 : List UInt8 := [42, 180, 0, 63, 3, 42, 182, 0, 233, 180, 1, 13, 79, 4, 60, 27, 17, 7, 208, 163, 0, 75, 42]
abbrev dktX0_comesAgain_0 : List UInt8 := dkwX0_comesAgain_0 ++ dktX0_comesAgain_1
theorem dksX0_comesAgain_0 : cX0_comesAgain.data.toList.drop 0 = dktX0_comesAgain_0 := by decide +kernel
theorem dksX0_comesAgain_1 : cX0_comesAgain.data.toList.drop 23 = dktX0_comesAgain_1 := dk_seg dksX0_comesAgain_0 23 rfl rfl
theorem dksX0_comesAgain_2 : cX0_comesAgain.data.toList.drop 47 = dktX0_comesAgain_2 := dk_seg dksX0_comesAgain_1 24 rfl rfl
theorem dksX0_comesAgain_3 : cX0_comesAgain.data.toList.drop 70 = dktX0_comesAgain_3 := dk_seg dksX0_comesAgain_2 23 rfl rfl
theorem dksX0_comesAgain_4 : cX0_comesAgain.data.toList.drop 94 = dktX0_comesAgain_4 := dk_seg dksX0_comesAgain_3 24 rfl rfl
theorem dX0_comesAgain_0 : decode cX0_comesAgain 0 = .ok (.aload_n 0, 1) := dk_42 (dk_at dksX0_comesAgain_0 0 rfl rfl)
theorem dX0_comesAgain_1 : decode cX0_comesAgain 1 = .ok (.getfield 63, 3) := dk_180 0 63 (dk_at dksX0_comesAgain_0 1 rfl rfl)
theorem dX0_comesAgain_4 : decode cX0_comesAgain 4 = .ok (.iconst 0, 1) := dk_3 (dk_at dksX0_comesAgain_0 4 rfl rfl)
theorem dX0_comesAgain_5 : decode cX0_comesAgain 5 = .ok (.aload_n 0, 1) := dk_42 (dk_at dksX0_comesAgain_0 5 rfl rfl)
theorem dX0_comesAgain_6 : decode cX0_comesAgain 6 = .ok (.invokevirtual 233, 3) := dk_182 0 233 (dk_at dksX0_comesAgain_0 6 rfl rfl)
theorem dX0_comesAgain_9 : decode cX0_comesAgain 9 = .ok (.getfield 269, 3) := dk_180 1 13 (dk_at dksX0_comesAgain_0 9 rfl rfl)
theorem dX0_comesAgain_12 : decode cX0_comesAgain 12 = .ok (.iastore, 1) := dk_79 (dk_at dksX0_comesAgain_0 12 rfl rfl)
theorem dX0_comesAgain_13 : decode cX0_comesAgain 13 = .ok (.iconst 1, 1) := dk_4 (dk_at dksX0_comesAgain_0 13 rfl rfl)
theorem dX0_comesAgain_14 : decode cX0_comesAgain 14 = .ok (.istore_n 1, 1) := dk_60 (dk_at dksX0_comesAgain_0 14 rfl rfl)
theorem dX0_comesAgain_15 : decode cX0_comesAgain 15 = .ok (.iload_n 1, 1) := dk_27 (dk_at dksX0_comesAgain_0 15 rfl rfl)
theorem dX0_comesAgain_16 : decode cX0_comesAgain 16 = .ok (.sipush 2000, 3) := dk_17 7 208 (dk_at dksX0_comesAgain_0 16 rfl rfl)
theorem dX0_comesAgain_19 : decode cX0_comesAgain 19 = .ok (.if_icmp .gt 75, 3) := dk_163 0 75 (dk_at dksX0_comesAgain_0 19 rfl rfl)
theorem dX0_comesAgain_22 : decode cX0_comesAgain 22 = .ok (.aload_n 0, 1) := dk_42 (dk_at dksX0_comesAgain_0 22 rfl rfl)
theorem dX0_comesAgain_23 : decode cX0_comesAgain 23 = .ok (.getfield 63, 3) := dk_180 0 63 (dk_at dksX0_comesAgain_1 0 rfl rfl)
theorem dX0_comesAgain_26 : decode cX0_comesAgain 26 = .ok (.iload_n 1, 1) := dk_27 (dk_at dksX0_comesAgain_1 3 rfl rfl)
theorem dX0_comesAgain_27 : decode cX0_comesAgain 27 = .ok (.aload_n 0, 1) := dk_42 (dk_at dksX0_comesAgain_1 4 rfl rfl)
theorem dX0_comesAgain_28 : decode cX0_comesAgain 28 = .ok (.invokevirtual 233, 3) := dk_182 0 233 (dk_at dksX0_comesAgain_1 5 rfl rfl)
theorem dX0_comesAgain_31 : decode cX0_comesAgain 31 = .ok (.aload_n 0, 1) := dk_42 (dk_at dksX0_comesAgain_1 8 rfl rfl)
theorem dX0_comesAgain_32 : decode cX0_comesAgain 32 = .ok (.getfield 63, 3) := dk_180 0 63 (dk_at dksX0_comesAgain_1 9 rfl rfl)
theorem dX0_comesAgain_35 : decode cX0_comesAgain 35 = .ok (.iload_n 1, 1) := dk_27 (dk_at dksX0_comesAgain_1 12 rfl rfl)
theorem dX0_comesAgain_36 : decode cX0_comesAgain 36 = .ok (.iconst 1, 1) := dk_4 (dk_at dksX0_comesAgain_1 13 rfl rfl)
theorem dX0_comesAgain_37 : decode cX0_comesAgain 37 = .ok (.isub, 1) := dk_100 (dk_at dksX0_comesAgain_1 14 rfl rfl)
theorem dX0_comesAgain_38 : decode cX0_comesAgain 38 = .ok (.iaload, 1) := dk_46 (dk_at dksX0_comesAgain_1 15 rfl rfl)
theorem dX0_comesAgain_39 : decode cX0_comesAgain 39 = .ok (.invokevirtual 346, 3) := dk_182 1 90 (dk_at dksX0_comesAgain_1 16 rfl rfl)
theorem dX0_comesAgain_42 : decode cX0_comesAgain 42 = .ok (.iastore, 1) := dk_79 (dk_at dksX0_comesAgain_1 19 rfl rfl)
theorem dX0_comesAgain_43 : decode cX0_comesAgain 43 = .ok (.iconst 0, 1) := dk_3 (dk_at dksX0_comesAgain_1 20 rfl rfl)
theorem dX0_comesAgain_44 : decode cX0_comesAgain 44 = .ok (.istore_n 2, 1) := dk_61 (dk_at dksX0_comesAgain_1 21 rfl rfl)
theorem dX0_comesAgain_45 : decode cX0_comesAgain 45 = .ok (.iload_n 2, 1) := dk_28 (dk_at dksX0_comesAgain_1 22 rfl rfl)
theorem dX0_comesAgain_46 : decode cX0_comesAgain 46 = .ok (.iload_n 1, 1) := dk_27 (dk_at dksX0_comesAgain_1 23 rfl rfl)
theorem dX0_comesAgain_47 : decode cX0_comesAgain 47 = .ok (.if_icmp .ge 41, 3) := dk_162 0 41 (dk_at dksX0_comesAgain_2 0 rfl rfl)
theorem dX0_comesAgain_50 : decode cX0_comesAgain 50 = .ok (.aload_n 0, 1) := dk_42 (dk_at dksX0_comesAgain_2 3 rfl rfl)
theorem dX0_comesAgain_51 : decode cX0_comesAgain 51 = .ok (.getfield 63, 3) := dk_180 0 63 (dk_at dksX0_comesAgain_2 4 rfl rfl)
theorem dX0_comesAgain_54 : decode cX0_comesAgain 54 = .ok (.iload_n 2, 1) := dk_28 (dk_at dksX0_comesAgain_2 7 rfl rfl)
theorem dX0_comesAgain_55 : decode cX0_comesAgain 55 = .ok (.iaload, 1) := dk_46 (dk_at dksX0_comesAgain_2 8 rfl rfl)
theorem dX0_comesAgain_56 : decode cX0_comesAgain 56 = .ok (.aload_n 0, 1) := dk_42 (dk_at dksX0_comesAgain_2 9 rfl rfl)
theorem dX0_comesAgain_57 : decode cX0_comesAgain 57 = .ok (.getfield 63, 3) := dk_180 0 63 (dk_at dksX0_comesAgain_2 10 rfl rfl)
theorem dX0_comesAgain_60 : decode cX0_comesAgain 60 = .ok (.iload_n 1, 1) := dk_27 (dk_at dksX0_comesAgain_2 13 rfl rfl)
theorem dX0_comesAgain_61 : decode cX0_comesAgain 61 = .ok (.iaload, 1) := dk_46 (dk_at dksX0_comesAgain_2 14 rfl rfl)
theorem dX0_comesAgain_62 : decode cX0_comesAgain 62 = .ok (.if_icmp .eq 6, 3) := dk_159 0 6 (dk_at dksX0_comesAgain_2 15 rfl rfl)
theorem dX0_comesAgain_65 : decode cX0_comesAgain 65 = .ok (.goto 17, 3) := dk_167 0 17 (dk_at dksX0_comesAgain_2 18 rfl rfl)
theorem dX0_comesAgain_68 : decode cX0_comesAgain 68 = .ok (.aload_n 0, 1) := dk_42 (dk_at dksX0_comesAgain_2 21 rfl rfl)
theorem dX0_comesAgain_69 : decode cX0_comesAgain 69 = .ok (.iload_n 2, 1) := dk_28 (dk_at dksX0_comesAgain_2 22 rfl rfl)
theorem dX0_comesAgain_70 : decode cX0_comesAgain 70 = .ok (.putfield 349, 3) := dk_181 1 93 (dk_at dksX0_comesAgain_3 0 rfl rfl)
theorem dX0_comesAgain_73 : decode cX0_comesAgain 73 = .ok (.aload_n 0, 1) := dk_42 (dk_at dksX0_comesAgain_3 3 rfl rfl)
theorem dX0_comesAgain_74 : decode cX0_comesAgain 74 = .ok (.iload_n 1, 1) := dk_27 (dk_at dksX0_comesAgain_3 4 rfl rfl)
theorem dX0_comesAgain_75 : decode cX0_comesAgain 75 = .ok (.iload_n 2, 1) := dk_28 (dk_at dksX0_comesAgain_3 5 rfl rfl)
theorem dX0_comesAgain_76 : decode cX0_comesAgain 76 = .ok (.isub, 1) := dk_100 (dk_at dksX0_comesAgain_3 6 rfl rfl)
theorem dX0_comesAgain_77 : decode cX0_comesAgain 77 = .ok (.putfield 352, 3) := dk_181 1 96 (dk_at dksX0_comesAgain_3 7 rfl rfl)
theorem dX0_comesAgain_80 : decode cX0_comesAgain 80 = .ok (.iconst 1, 1) := dk_4 (dk_at dksX0_comesAgain_3 10 rfl rfl)
theorem dX0_comesAgain_81 : decode cX0_comesAgain 81 = .ok (.ireturn, 1) := dk_172 (dk_at dksX0_comesAgain_3 11 rfl rfl)
theorem dX0_comesAgain_82 : decode cX0_comesAgain 82 = .ok (.iinc 2 1, 3) := dk_132 2 1 (dk_at dksX0_comesAgain_3 12 rfl rfl)
theorem dX0_comesAgain_85 : decode cX0_comesAgain 85 = .ok (.goto (-40), 3) := dk_167 255 216 (dk_at dksX0_comesAgain_3 15 rfl rfl)
theorem dX0_comesAgain_88 : decode cX0_comesAgain 88 = .ok (.iinc 1 1, 3) := dk_132 1 1 (dk_at dksX0_comesAgain_3 18 rfl rfl)
theorem dX0_comesAgain_91 : decode cX0_comesAgain 91 = .ok (.goto (-76), 3) := dk_167 255 180 (dk_at dksX0_comesAgain_3 21 rfl rfl)
theorem dX0_comesAgain_94 : decode cX0_comesAgain 94 = .ok (.iconst 0, 1) := dk_3 (dk_at dksX0_comesAgain_4 0 rfl rfl)
theorem dX0_comesAgain_95 : decode cX0_comesAgain 95 = .ok (.ireturn, 1) := dk_172 (dk_at dksX0_comesAgain_4 1 rfl rfl)
abbrev cX0_far : ByteArray := prog_1_method_53_code
def yX0_far : MethodName := ⟨RX0, "far", "(I)J"⟩
def dkwX0_far_3 : List UInt8 := [100, 42, 180, 1, 96, 112, 96, 46, 133, 173]
abbrev dktX0_far_3 : List UInt8 := dkwX0_far_3 ++ []
def dkwX0_far_2 : List UInt8 := [180, 0, 63, 27, 42, 180, 1, 93, 162, 0, 7, 27, 167, 0, 19, 42, 180, 1, 93, 27, 42, 180, 1, 93]
abbrev dktX0_far_2 : List UInt8 := dkwX0_far_2 ++ dktX0_far_3
def dkwX0_far_1 : List UInt8 := [3, 167, 0, 5, 16, 7, 181, 0, 81, 42, 180, 0, 81, 158, 0, 9, 20, 0, 137, 167, 0, 37, 42]
abbrev dktX0_far_1 : List UInt8 := dkwX0_far_1 ++ dktX0_far_2
def dkwX0_far_0 : List UInt8 := [42, 27, 133, 9, 20, 1, 102, 184, 0, 171, 154, 0, 7, 4, 167, 0, 16, 42, 182, 1, 99, 153, 0, 7]
abbrev dktX0_far_0 : List UInt8 := dkwX0_far_0 ++ dktX0_far_1
theorem dksX0_far_0 : cX0_far.data.toList.drop 0 = dktX0_far_0 := by decide +kernel
theorem dksX0_far_1 : cX0_far.data.toList.drop 24 = dktX0_far_1 := dk_seg dksX0_far_0 24 rfl rfl
theorem dksX0_far_2 : cX0_far.data.toList.drop 47 = dktX0_far_2 := dk_seg dksX0_far_1 23 rfl rfl
theorem dksX0_far_3 : cX0_far.data.toList.drop 71 = dktX0_far_3 := dk_seg dksX0_far_2 24 rfl rfl
theorem dX0_far_0 : decode cX0_far 0 = .ok (.aload_n 0, 1) := dk_42 (dk_at dksX0_far_0 0 rfl rfl)
theorem dX0_far_1 : decode cX0_far 1 = .ok (.iload_n 1, 1) := dk_27 (dk_at dksX0_far_0 1 rfl rfl)
theorem dX0_far_2 : decode cX0_far 2 = .ok (.i2l, 1) := dk_133 (dk_at dksX0_far_0 2 rfl rfl)
theorem dX0_far_3 : decode cX0_far 3 = .ok (.lconst 0, 1) := dk_9 (dk_at dksX0_far_0 3 rfl rfl)
theorem dX0_far_4 : decode cX0_far 4 = .ok (.ldc2_w 358, 3) := dk_20 1 102 (dk_at dksX0_far_0 4 rfl rfl)
theorem dX0_far_7 : decode cX0_far 7 = .ok (.invokestatic 171, 3) := dk_184 0 171 (dk_at dksX0_far_0 7 rfl rfl)
theorem dX0_far_10 : decode cX0_far 10 = .ok (.ifCond .ne 7, 3) := dk_154 0 7 (dk_at dksX0_far_0 10 rfl rfl)
theorem dX0_far_13 : decode cX0_far 13 = .ok (.iconst 1, 1) := dk_4 (dk_at dksX0_far_0 13 rfl rfl)
theorem dX0_far_14 : decode cX0_far 14 = .ok (.goto 16, 3) := dk_167 0 16 (dk_at dksX0_far_0 14 rfl rfl)
theorem dX0_far_17 : decode cX0_far 17 = .ok (.aload_n 0, 1) := dk_42 (dk_at dksX0_far_0 17 rfl rfl)
theorem dX0_far_18 : decode cX0_far 18 = .ok (.invokevirtual 355, 3) := dk_182 1 99 (dk_at dksX0_far_0 18 rfl rfl)
theorem dX0_far_21 : decode cX0_far 21 = .ok (.ifCond .eq 7, 3) := dk_153 0 7 (dk_at dksX0_far_0 21 rfl rfl)
theorem dX0_far_24 : decode cX0_far 24 = .ok (.iconst 0, 1) := dk_3 (dk_at dksX0_far_1 0 rfl rfl)
theorem dX0_far_25 : decode cX0_far 25 = .ok (.goto 5, 3) := dk_167 0 5 (dk_at dksX0_far_1 1 rfl rfl)
theorem dX0_far_28 : decode cX0_far 28 = .ok (.bipush 7, 2) := dk_16 7 (dk_at dksX0_far_1 4 rfl rfl)
theorem dX0_far_30 : decode cX0_far 30 = .ok (.putfield 81, 3) := dk_181 0 81 (dk_at dksX0_far_1 6 rfl rfl)
theorem dX0_far_33 : decode cX0_far 33 = .ok (.aload_n 0, 1) := dk_42 (dk_at dksX0_far_1 9 rfl rfl)
theorem dX0_far_34 : decode cX0_far 34 = .ok (.getfield 81, 3) := dk_180 0 81 (dk_at dksX0_far_1 10 rfl rfl)
theorem dX0_far_37 : decode cX0_far 37 = .ok (.ifCond .le 9, 3) := dk_158 0 9 (dk_at dksX0_far_1 13 rfl rfl)
theorem dX0_far_40 : decode cX0_far 40 = .ok (.ldc2_w 137, 3) := dk_20 0 137 (dk_at dksX0_far_1 16 rfl rfl)
theorem dX0_far_43 : decode cX0_far 43 = .ok (.goto 37, 3) := dk_167 0 37 (dk_at dksX0_far_1 19 rfl rfl)
theorem dX0_far_46 : decode cX0_far 46 = .ok (.aload_n 0, 1) := dk_42 (dk_at dksX0_far_1 22 rfl rfl)
theorem dX0_far_47 : decode cX0_far 47 = .ok (.getfield 63, 3) := dk_180 0 63 (dk_at dksX0_far_2 0 rfl rfl)
theorem dX0_far_50 : decode cX0_far 50 = .ok (.iload_n 1, 1) := dk_27 (dk_at dksX0_far_2 3 rfl rfl)
theorem dX0_far_51 : decode cX0_far 51 = .ok (.aload_n 0, 1) := dk_42 (dk_at dksX0_far_2 4 rfl rfl)
theorem dX0_far_52 : decode cX0_far 52 = .ok (.getfield 349, 3) := dk_180 1 93 (dk_at dksX0_far_2 5 rfl rfl)
theorem dX0_far_55 : decode cX0_far 55 = .ok (.if_icmp .ge 7, 3) := dk_162 0 7 (dk_at dksX0_far_2 8 rfl rfl)
theorem dX0_far_58 : decode cX0_far 58 = .ok (.iload_n 1, 1) := dk_27 (dk_at dksX0_far_2 11 rfl rfl)
theorem dX0_far_59 : decode cX0_far 59 = .ok (.goto 19, 3) := dk_167 0 19 (dk_at dksX0_far_2 12 rfl rfl)
theorem dX0_far_62 : decode cX0_far 62 = .ok (.aload_n 0, 1) := dk_42 (dk_at dksX0_far_2 15 rfl rfl)
theorem dX0_far_63 : decode cX0_far 63 = .ok (.getfield 349, 3) := dk_180 1 93 (dk_at dksX0_far_2 16 rfl rfl)
theorem dX0_far_66 : decode cX0_far 66 = .ok (.iload_n 1, 1) := dk_27 (dk_at dksX0_far_2 19 rfl rfl)
theorem dX0_far_67 : decode cX0_far 67 = .ok (.aload_n 0, 1) := dk_42 (dk_at dksX0_far_2 20 rfl rfl)
theorem dX0_far_68 : decode cX0_far 68 = .ok (.getfield 349, 3) := dk_180 1 93 (dk_at dksX0_far_2 21 rfl rfl)
theorem dX0_far_71 : decode cX0_far 71 = .ok (.isub, 1) := dk_100 (dk_at dksX0_far_3 0 rfl rfl)
theorem dX0_far_72 : decode cX0_far 72 = .ok (.aload_n 0, 1) := dk_42 (dk_at dksX0_far_3 1 rfl rfl)
theorem dX0_far_73 : decode cX0_far 73 = .ok (.getfield 352, 3) := dk_180 1 96 (dk_at dksX0_far_3 2 rfl rfl)
theorem dX0_far_76 : decode cX0_far 76 = .ok (.irem, 1) := dk_112 (dk_at dksX0_far_3 5 rfl rfl)
theorem dX0_far_77 : decode cX0_far 77 = .ok (.iadd, 1) := dk_96 (dk_at dksX0_far_3 6 rfl rfl)
theorem dX0_far_78 : decode cX0_far 78 = .ok (.iaload, 1) := dk_46 (dk_at dksX0_far_3 7 rfl rfl)
theorem dX0_far_79 : decode cX0_far 79 = .ok (.i2l, 1) := dk_133 (dk_at dksX0_far_3 8 rfl rfl)
theorem dX0_far_80 : decode cX0_far 80 = .ok (.lreturn, 1) := dk_173 (dk_at dksX0_far_3 9 rfl rfl)
abbrev cX0_walks : ByteArray := prog_1_method_55_code
def yX0_walks : MethodName := ⟨RX0, "walks", "(I)I"⟩
def dkwX0_walks_6 : List UInt8 := [132, 4, 1, 167, 255, 191, 132, 3, 1, 167, 255, 166, 42, 2, 182, 1, 32, 172]
abbrev dktX0_walks_6 : List UInt8 := dkwX0_walks_6 ++ []
def dkwX0_walks_5 : List UInt8 := [167, 0, 15, 27, 4, 160, 0, 8, 21, 5, 167, 0, 5, 21, 4, 172, 132, 5, 1, 167, 255, 207]
abbrev dktX0_walks_5 : List UInt8 := dkwX0_walks_5 ++ dktX0_walks_6
def dkwX0_walks_4 : List UInt8 := [182, 0, 233, 180, 1, 13, 21, 5, 21, 4, 182, 1, 106, 28, 160, 0, 24, 27, 154, 0, 7, 29]
abbrev dktX0_walks_4 : List UInt8 := dkwX0_walks_4 ++ dktX0_walks_5
def dkwX0_walks_3 : List UInt8 := [16, 251, 54, 4, 21, 4, 8, 163, 0, 65, 16, 252, 54, 5, 21, 5, 7, 163, 0, 49, 42, 42]
abbrev dktX0_walks_3 : List UInt8 := dkwX0_walks_3 ++ dktX0_walks_4
def dkwX0_walks_2 : List UInt8 := [182, 0, 233, 180, 1, 13, 61, 4, 62, 29, 16, 60, 163, 0, 90, 42, 182, 0, 233, 28, 182, 1, 90, 61]
abbrev dktX0_walks_2 : List UInt8 := dkwX0_walks_2 ++ dktX0_walks_3
def dkwX0_walks_1 : List UInt8 := [154, 0, 8, 16, 6, 167, 0, 4, 3, 181, 0, 81, 42, 180, 0, 81, 158, 0, 5, 2, 172, 42]
abbrev dktX0_walks_1 : List UInt8 := dkwX0_walks_1 ++ dktX0_walks_2
def dkwX0_walks_0 : List UInt8 := [42, 27, 133, 9, 20, 1, 104, 184, 0, 171, 154, 0, 7, 4, 167, 0, 19, 42, 182, 0, 233, 180, 1, 13]
abbrev dktX0_walks_0 : List UInt8 := dkwX0_walks_0 ++ dktX0_walks_1
theorem dksX0_walks_0 : cX0_walks.data.toList.drop 0 = dktX0_walks_0 := by decide +kernel
theorem dksX0_walks_1 : cX0_walks.data.toList.drop 24 = dktX0_walks_1 := dk_seg dksX0_walks_0 24 rfl rfl
theorem dksX0_walks_2 : cX0_walks.data.toList.drop 46 = dktX0_walks_2 := dk_seg dksX0_walks_1 22 rfl rfl
theorem dksX0_walks_3 : cX0_walks.data.toList.drop 70 = dktX0_walks_3 := dk_seg dksX0_walks_2 24 rfl rfl
theorem dksX0_walks_4 : cX0_walks.data.toList.drop 92 = dktX0_walks_4 := dk_seg dksX0_walks_3 22 rfl rfl
theorem dksX0_walks_5 : cX0_walks.data.toList.drop 114 = dktX0_walks_5 := dk_seg dksX0_walks_4 22 rfl rfl
theorem dksX0_walks_6 : cX0_walks.data.toList.drop 136 = dktX0_walks_6 := dk_seg dksX0_walks_5 22 rfl rfl
theorem dX0_walks_0 : decode cX0_walks 0 = .ok (.aload_n 0, 1) := dk_42 (dk_at dksX0_walks_0 0 rfl rfl)
theorem dX0_walks_1 : decode cX0_walks 1 = .ok (.iload_n 1, 1) := dk_27 (dk_at dksX0_walks_0 1 rfl rfl)
theorem dX0_walks_2 : decode cX0_walks 2 = .ok (.i2l, 1) := dk_133 (dk_at dksX0_walks_0 2 rfl rfl)
theorem dX0_walks_3 : decode cX0_walks 3 = .ok (.lconst 0, 1) := dk_9 (dk_at dksX0_walks_0 3 rfl rfl)
theorem dX0_walks_4 : decode cX0_walks 4 = .ok (.ldc2_w 360, 3) := dk_20 1 104 (dk_at dksX0_walks_0 4 rfl rfl)
theorem dX0_walks_7 : decode cX0_walks 7 = .ok (.invokestatic 171, 3) := dk_184 0 171 (dk_at dksX0_walks_0 7 rfl rfl)
theorem dX0_walks_10 : decode cX0_walks 10 = .ok (.ifCond .ne 7, 3) := dk_154 0 7 (dk_at dksX0_walks_0 10 rfl rfl)
theorem dX0_walks_13 : decode cX0_walks 13 = .ok (.iconst 1, 1) := dk_4 (dk_at dksX0_walks_0 13 rfl rfl)
theorem dX0_walks_14 : decode cX0_walks 14 = .ok (.goto 19, 3) := dk_167 0 19 (dk_at dksX0_walks_0 14 rfl rfl)
theorem dX0_walks_17 : decode cX0_walks 17 = .ok (.aload_n 0, 1) := dk_42 (dk_at dksX0_walks_0 17 rfl rfl)
theorem dX0_walks_18 : decode cX0_walks 18 = .ok (.invokevirtual 233, 3) := dk_182 0 233 (dk_at dksX0_walks_0 18 rfl rfl)
theorem dX0_walks_21 : decode cX0_walks 21 = .ok (.getfield 269, 3) := dk_180 1 13 (dk_at dksX0_walks_0 21 rfl rfl)
theorem dX0_walks_24 : decode cX0_walks 24 = .ok (.ifCond .ne 8, 3) := dk_154 0 8 (dk_at dksX0_walks_1 0 rfl rfl)
theorem dX0_walks_27 : decode cX0_walks 27 = .ok (.bipush 6, 2) := dk_16 6 (dk_at dksX0_walks_1 3 rfl rfl)
theorem dX0_walks_29 : decode cX0_walks 29 = .ok (.goto 4, 3) := dk_167 0 4 (dk_at dksX0_walks_1 5 rfl rfl)
theorem dX0_walks_32 : decode cX0_walks 32 = .ok (.iconst 0, 1) := dk_3 (dk_at dksX0_walks_1 8 rfl rfl)
theorem dX0_walks_33 : decode cX0_walks 33 = .ok (.putfield 81, 3) := dk_181 0 81 (dk_at dksX0_walks_1 9 rfl rfl)
theorem dX0_walks_36 : decode cX0_walks 36 = .ok (.aload_n 0, 1) := dk_42 (dk_at dksX0_walks_1 12 rfl rfl)
theorem dX0_walks_37 : decode cX0_walks 37 = .ok (.getfield 81, 3) := dk_180 0 81 (dk_at dksX0_walks_1 13 rfl rfl)
theorem dX0_walks_40 : decode cX0_walks 40 = .ok (.ifCond .le 5, 3) := dk_158 0 5 (dk_at dksX0_walks_1 16 rfl rfl)
theorem dX0_walks_43 : decode cX0_walks 43 = .ok (.iconst (-1), 1) := dk_2 (dk_at dksX0_walks_1 19 rfl rfl)
theorem dX0_walks_44 : decode cX0_walks 44 = .ok (.ireturn, 1) := dk_172 (dk_at dksX0_walks_1 20 rfl rfl)
theorem dX0_walks_45 : decode cX0_walks 45 = .ok (.aload_n 0, 1) := dk_42 (dk_at dksX0_walks_1 21 rfl rfl)
theorem dX0_walks_46 : decode cX0_walks 46 = .ok (.invokevirtual 233, 3) := dk_182 0 233 (dk_at dksX0_walks_2 0 rfl rfl)
theorem dX0_walks_49 : decode cX0_walks 49 = .ok (.getfield 269, 3) := dk_180 1 13 (dk_at dksX0_walks_2 3 rfl rfl)
theorem dX0_walks_52 : decode cX0_walks 52 = .ok (.istore_n 2, 1) := dk_61 (dk_at dksX0_walks_2 6 rfl rfl)
theorem dX0_walks_53 : decode cX0_walks 53 = .ok (.iconst 1, 1) := dk_4 (dk_at dksX0_walks_2 7 rfl rfl)
theorem dX0_walks_54 : decode cX0_walks 54 = .ok (.istore_n 3, 1) := dk_62 (dk_at dksX0_walks_2 8 rfl rfl)
theorem dX0_walks_55 : decode cX0_walks 55 = .ok (.iload_n 3, 1) := dk_29 (dk_at dksX0_walks_2 9 rfl rfl)
theorem dX0_walks_56 : decode cX0_walks 56 = .ok (.bipush 60, 2) := dk_16 60 (dk_at dksX0_walks_2 10 rfl rfl)
theorem dX0_walks_58 : decode cX0_walks 58 = .ok (.if_icmp .gt 90, 3) := dk_163 0 90 (dk_at dksX0_walks_2 12 rfl rfl)
theorem dX0_walks_61 : decode cX0_walks 61 = .ok (.aload_n 0, 1) := dk_42 (dk_at dksX0_walks_2 15 rfl rfl)
theorem dX0_walks_62 : decode cX0_walks 62 = .ok (.invokevirtual 233, 3) := dk_182 0 233 (dk_at dksX0_walks_2 16 rfl rfl)
theorem dX0_walks_65 : decode cX0_walks 65 = .ok (.iload_n 2, 1) := dk_28 (dk_at dksX0_walks_2 19 rfl rfl)
theorem dX0_walks_66 : decode cX0_walks 66 = .ok (.invokevirtual 346, 3) := dk_182 1 90 (dk_at dksX0_walks_2 20 rfl rfl)
theorem dX0_walks_69 : decode cX0_walks 69 = .ok (.istore_n 2, 1) := dk_61 (dk_at dksX0_walks_2 23 rfl rfl)
theorem dX0_walks_70 : decode cX0_walks 70 = .ok (.bipush (-5), 2) := dk_16 251 (dk_at dksX0_walks_3 0 rfl rfl)
theorem dX0_walks_72 : decode cX0_walks 72 = .ok (.istore 4, 2) := dk_54 4 (dk_at dksX0_walks_3 2 rfl rfl)
theorem dX0_walks_74 : decode cX0_walks 74 = .ok (.iload 4, 2) := dk_21 4 (dk_at dksX0_walks_3 4 rfl rfl)
theorem dX0_walks_76 : decode cX0_walks 76 = .ok (.iconst 5, 1) := dk_8 (dk_at dksX0_walks_3 6 rfl rfl)
theorem dX0_walks_77 : decode cX0_walks 77 = .ok (.if_icmp .gt 65, 3) := dk_163 0 65 (dk_at dksX0_walks_3 7 rfl rfl)
theorem dX0_walks_80 : decode cX0_walks 80 = .ok (.bipush (-4), 2) := dk_16 252 (dk_at dksX0_walks_3 10 rfl rfl)
theorem dX0_walks_82 : decode cX0_walks 82 = .ok (.istore 5, 2) := dk_54 5 (dk_at dksX0_walks_3 12 rfl rfl)
theorem dX0_walks_84 : decode cX0_walks 84 = .ok (.iload 5, 2) := dk_21 5 (dk_at dksX0_walks_3 14 rfl rfl)
theorem dX0_walks_86 : decode cX0_walks 86 = .ok (.iconst 4, 1) := dk_7 (dk_at dksX0_walks_3 16 rfl rfl)
theorem dX0_walks_87 : decode cX0_walks 87 = .ok (.if_icmp .gt 49, 3) := dk_163 0 49 (dk_at dksX0_walks_3 17 rfl rfl)
theorem dX0_walks_90 : decode cX0_walks 90 = .ok (.aload_n 0, 1) := dk_42 (dk_at dksX0_walks_3 20 rfl rfl)
theorem dX0_walks_91 : decode cX0_walks 91 = .ok (.aload_n 0, 1) := dk_42 (dk_at dksX0_walks_3 21 rfl rfl)
theorem dX0_walks_92 : decode cX0_walks 92 = .ok (.invokevirtual 233, 3) := dk_182 0 233 (dk_at dksX0_walks_4 0 rfl rfl)
theorem dX0_walks_95 : decode cX0_walks 95 = .ok (.getfield 269, 3) := dk_180 1 13 (dk_at dksX0_walks_4 3 rfl rfl)
theorem dX0_walks_98 : decode cX0_walks 98 = .ok (.iload 5, 2) := dk_21 5 (dk_at dksX0_walks_4 6 rfl rfl)
theorem dX0_walks_100 : decode cX0_walks 100 = .ok (.iload 4, 2) := dk_21 4 (dk_at dksX0_walks_4 8 rfl rfl)
theorem dX0_walks_102 : decode cX0_walks 102 = .ok (.invokevirtual 362, 3) := dk_182 1 106 (dk_at dksX0_walks_4 10 rfl rfl)
theorem dX0_walks_105 : decode cX0_walks 105 = .ok (.iload_n 2, 1) := dk_28 (dk_at dksX0_walks_4 13 rfl rfl)
theorem dX0_walks_106 : decode cX0_walks 106 = .ok (.if_icmp .ne 24, 3) := dk_160 0 24 (dk_at dksX0_walks_4 14 rfl rfl)
theorem dX0_walks_109 : decode cX0_walks 109 = .ok (.iload_n 1, 1) := dk_27 (dk_at dksX0_walks_4 17 rfl rfl)
theorem dX0_walks_110 : decode cX0_walks 110 = .ok (.ifCond .ne 7, 3) := dk_154 0 7 (dk_at dksX0_walks_4 18 rfl rfl)
theorem dX0_walks_113 : decode cX0_walks 113 = .ok (.iload_n 3, 1) := dk_29 (dk_at dksX0_walks_4 21 rfl rfl)
theorem dX0_walks_114 : decode cX0_walks 114 = .ok (.goto 15, 3) := dk_167 0 15 (dk_at dksX0_walks_5 0 rfl rfl)
theorem dX0_walks_117 : decode cX0_walks 117 = .ok (.iload_n 1, 1) := dk_27 (dk_at dksX0_walks_5 3 rfl rfl)
theorem dX0_walks_118 : decode cX0_walks 118 = .ok (.iconst 1, 1) := dk_4 (dk_at dksX0_walks_5 4 rfl rfl)
theorem dX0_walks_119 : decode cX0_walks 119 = .ok (.if_icmp .ne 8, 3) := dk_160 0 8 (dk_at dksX0_walks_5 5 rfl rfl)
theorem dX0_walks_122 : decode cX0_walks 122 = .ok (.iload 5, 2) := dk_21 5 (dk_at dksX0_walks_5 8 rfl rfl)
theorem dX0_walks_124 : decode cX0_walks 124 = .ok (.goto 5, 3) := dk_167 0 5 (dk_at dksX0_walks_5 10 rfl rfl)
theorem dX0_walks_127 : decode cX0_walks 127 = .ok (.iload 4, 2) := dk_21 4 (dk_at dksX0_walks_5 13 rfl rfl)
theorem dX0_walks_129 : decode cX0_walks 129 = .ok (.ireturn, 1) := dk_172 (dk_at dksX0_walks_5 15 rfl rfl)
theorem dX0_walks_130 : decode cX0_walks 130 = .ok (.iinc 5 1, 3) := dk_132 5 1 (dk_at dksX0_walks_5 16 rfl rfl)
theorem dX0_walks_133 : decode cX0_walks 133 = .ok (.goto (-49), 3) := dk_167 255 207 (dk_at dksX0_walks_5 19 rfl rfl)
theorem dX0_walks_136 : decode cX0_walks 136 = .ok (.iinc 4 1, 3) := dk_132 4 1 (dk_at dksX0_walks_6 0 rfl rfl)
theorem dX0_walks_139 : decode cX0_walks 139 = .ok (.goto (-65), 3) := dk_167 255 191 (dk_at dksX0_walks_6 3 rfl rfl)
theorem dX0_walks_142 : decode cX0_walks 142 = .ok (.iinc 3 1, 3) := dk_132 3 1 (dk_at dksX0_walks_6 6 rfl rfl)
theorem dX0_walks_145 : decode cX0_walks 145 = .ok (.goto (-90), 3) := dk_167 255 166 (dk_at dksX0_walks_6 9 rfl rfl)
theorem dX0_walks_148 : decode cX0_walks 148 = .ok (.aload_n 0, 1) := dk_42 (dk_at dksX0_walks_6 12 rfl rfl)
theorem dX0_walks_149 : decode cX0_walks 149 = .ok (.iconst (-1), 1) := dk_2 (dk_at dksX0_walks_6 13 rfl rfl)
theorem dX0_walks_150 : decode cX0_walks 150 = .ok (.invokevirtual 288, 3) := dk_182 1 32 (dk_at dksX0_walks_6 14 rfl rfl)
theorem dX0_walks_153 : decode cX0_walks 153 = .ok (.ireturn, 1) := dk_172 (dk_at dksX0_walks_6 17 rfl rfl)
abbrev cX0_moved : ByteArray := prog_1_method_54_code
def yX0_moved : MethodName := ⟨RX0, "moved", "(III)I"⟩
def dkwX0_moved_4 : List UInt8 := [132, 6, 1, 167, 255, 181, 132, 5, 1, 167, 255, 160, 21, 4, 172]
abbrev dktX0_moved_4 : List UInt8 := dkwX0_moved_4 ++ []
def dkwX0_moved_3 : List UInt8 := [21, 4, 4, 42, 182, 0, 162, 21, 6, 28, 96, 21, 5, 29, 96, 182, 0, 196, 120, 128, 54, 4]
abbrev dktX0_moved_3 : List UInt8 := dkwX0_moved_3 ++ dktX0_moved_4
def dkwX0_moved_2 : List UInt8 := [154, 0, 6, 167, 0, 42, 42, 21, 6, 28, 96, 21, 5, 29, 96, 182, 0, 192, 154, 0, 5, 2, 172]
abbrev dktX0_moved_2 : List UInt8 := dkwX0_moved_2 ++ dktX0_moved_3
def dkwX0_moved_1 : List UInt8 := [182, 0, 162, 180, 0, 166, 162, 0, 69, 27, 42, 182, 0, 162, 21, 6, 21, 5, 182, 0, 196, 122, 4, 126]
abbrev dktX0_moved_1 : List UInt8 := dkwX0_moved_1 ++ dktX0_moved_2
def dkwX0_moved_0 : List UInt8 := [3, 54, 4, 3, 54, 5, 21, 5, 42, 182, 0, 162, 180, 0, 175, 162, 0, 90, 3, 54, 6, 21, 6, 42]
abbrev dktX0_moved_0 : List UInt8 := dkwX0_moved_0 ++ dktX0_moved_1
theorem dksX0_moved_0 : cX0_moved.data.toList.drop 0 = dktX0_moved_0 := by decide +kernel
theorem dksX0_moved_1 : cX0_moved.data.toList.drop 24 = dktX0_moved_1 := dk_seg dksX0_moved_0 24 rfl rfl
theorem dksX0_moved_2 : cX0_moved.data.toList.drop 48 = dktX0_moved_2 := dk_seg dksX0_moved_1 24 rfl rfl
theorem dksX0_moved_3 : cX0_moved.data.toList.drop 71 = dktX0_moved_3 := dk_seg dksX0_moved_2 23 rfl rfl
theorem dksX0_moved_4 : cX0_moved.data.toList.drop 93 = dktX0_moved_4 := dk_seg dksX0_moved_3 22 rfl rfl
theorem dX0_moved_0 : decode cX0_moved 0 = .ok (.iconst 0, 1) := dk_3 (dk_at dksX0_moved_0 0 rfl rfl)
theorem dX0_moved_1 : decode cX0_moved 1 = .ok (.istore 4, 2) := dk_54 4 (dk_at dksX0_moved_0 1 rfl rfl)
theorem dX0_moved_3 : decode cX0_moved 3 = .ok (.iconst 0, 1) := dk_3 (dk_at dksX0_moved_0 3 rfl rfl)
theorem dX0_moved_4 : decode cX0_moved 4 = .ok (.istore 5, 2) := dk_54 5 (dk_at dksX0_moved_0 4 rfl rfl)
theorem dX0_moved_6 : decode cX0_moved 6 = .ok (.iload 5, 2) := dk_21 5 (dk_at dksX0_moved_0 6 rfl rfl)
theorem dX0_moved_8 : decode cX0_moved 8 = .ok (.aload_n 0, 1) := dk_42 (dk_at dksX0_moved_0 8 rfl rfl)
theorem dX0_moved_9 : decode cX0_moved 9 = .ok (.invokevirtual 162, 3) := dk_182 0 162 (dk_at dksX0_moved_0 9 rfl rfl)
theorem dX0_moved_12 : decode cX0_moved 12 = .ok (.getfield 175, 3) := dk_180 0 175 (dk_at dksX0_moved_0 12 rfl rfl)
theorem dX0_moved_15 : decode cX0_moved 15 = .ok (.if_icmp .ge 90, 3) := dk_162 0 90 (dk_at dksX0_moved_0 15 rfl rfl)
theorem dX0_moved_18 : decode cX0_moved 18 = .ok (.iconst 0, 1) := dk_3 (dk_at dksX0_moved_0 18 rfl rfl)
theorem dX0_moved_19 : decode cX0_moved 19 = .ok (.istore 6, 2) := dk_54 6 (dk_at dksX0_moved_0 19 rfl rfl)
theorem dX0_moved_21 : decode cX0_moved 21 = .ok (.iload 6, 2) := dk_21 6 (dk_at dksX0_moved_0 21 rfl rfl)
theorem dX0_moved_23 : decode cX0_moved 23 = .ok (.aload_n 0, 1) := dk_42 (dk_at dksX0_moved_0 23 rfl rfl)
theorem dX0_moved_24 : decode cX0_moved 24 = .ok (.invokevirtual 162, 3) := dk_182 0 162 (dk_at dksX0_moved_1 0 rfl rfl)
theorem dX0_moved_27 : decode cX0_moved 27 = .ok (.getfield 166, 3) := dk_180 0 166 (dk_at dksX0_moved_1 3 rfl rfl)
theorem dX0_moved_30 : decode cX0_moved 30 = .ok (.if_icmp .ge 69, 3) := dk_162 0 69 (dk_at dksX0_moved_1 6 rfl rfl)
theorem dX0_moved_33 : decode cX0_moved 33 = .ok (.iload_n 1, 1) := dk_27 (dk_at dksX0_moved_1 9 rfl rfl)
theorem dX0_moved_34 : decode cX0_moved 34 = .ok (.aload_n 0, 1) := dk_42 (dk_at dksX0_moved_1 10 rfl rfl)
theorem dX0_moved_35 : decode cX0_moved 35 = .ok (.invokevirtual 162, 3) := dk_182 0 162 (dk_at dksX0_moved_1 11 rfl rfl)
theorem dX0_moved_38 : decode cX0_moved 38 = .ok (.iload 6, 2) := dk_21 6 (dk_at dksX0_moved_1 14 rfl rfl)
theorem dX0_moved_40 : decode cX0_moved 40 = .ok (.iload 5, 2) := dk_21 5 (dk_at dksX0_moved_1 16 rfl rfl)
theorem dX0_moved_42 : decode cX0_moved 42 = .ok (.invokevirtual 196, 3) := dk_182 0 196 (dk_at dksX0_moved_1 18 rfl rfl)
theorem dX0_moved_45 : decode cX0_moved 45 = .ok (.ishr, 1) := dk_122 (dk_at dksX0_moved_1 21 rfl rfl)
theorem dX0_moved_46 : decode cX0_moved 46 = .ok (.iconst 1, 1) := dk_4 (dk_at dksX0_moved_1 22 rfl rfl)
theorem dX0_moved_47 : decode cX0_moved 47 = .ok (.iand, 1) := dk_126 (dk_at dksX0_moved_1 23 rfl rfl)
theorem dX0_moved_48 : decode cX0_moved 48 = .ok (.ifCond .ne 6, 3) := dk_154 0 6 (dk_at dksX0_moved_2 0 rfl rfl)
theorem dX0_moved_51 : decode cX0_moved 51 = .ok (.goto 42, 3) := dk_167 0 42 (dk_at dksX0_moved_2 3 rfl rfl)
theorem dX0_moved_54 : decode cX0_moved 54 = .ok (.aload_n 0, 1) := dk_42 (dk_at dksX0_moved_2 6 rfl rfl)
theorem dX0_moved_55 : decode cX0_moved 55 = .ok (.iload 6, 2) := dk_21 6 (dk_at dksX0_moved_2 7 rfl rfl)
theorem dX0_moved_57 : decode cX0_moved 57 = .ok (.iload_n 2, 1) := dk_28 (dk_at dksX0_moved_2 9 rfl rfl)
theorem dX0_moved_58 : decode cX0_moved 58 = .ok (.iadd, 1) := dk_96 (dk_at dksX0_moved_2 10 rfl rfl)
theorem dX0_moved_59 : decode cX0_moved 59 = .ok (.iload 5, 2) := dk_21 5 (dk_at dksX0_moved_2 11 rfl rfl)
theorem dX0_moved_61 : decode cX0_moved 61 = .ok (.iload_n 3, 1) := dk_29 (dk_at dksX0_moved_2 13 rfl rfl)
theorem dX0_moved_62 : decode cX0_moved 62 = .ok (.iadd, 1) := dk_96 (dk_at dksX0_moved_2 14 rfl rfl)
theorem dX0_moved_63 : decode cX0_moved 63 = .ok (.invokevirtual 192, 3) := dk_182 0 192 (dk_at dksX0_moved_2 15 rfl rfl)
theorem dX0_moved_66 : decode cX0_moved 66 = .ok (.ifCond .ne 5, 3) := dk_154 0 5 (dk_at dksX0_moved_2 18 rfl rfl)
theorem dX0_moved_69 : decode cX0_moved 69 = .ok (.iconst (-1), 1) := dk_2 (dk_at dksX0_moved_2 21 rfl rfl)
theorem dX0_moved_70 : decode cX0_moved 70 = .ok (.ireturn, 1) := dk_172 (dk_at dksX0_moved_2 22 rfl rfl)
theorem dX0_moved_71 : decode cX0_moved 71 = .ok (.iload 4, 2) := dk_21 4 (dk_at dksX0_moved_3 0 rfl rfl)
theorem dX0_moved_73 : decode cX0_moved 73 = .ok (.iconst 1, 1) := dk_4 (dk_at dksX0_moved_3 2 rfl rfl)
theorem dX0_moved_74 : decode cX0_moved 74 = .ok (.aload_n 0, 1) := dk_42 (dk_at dksX0_moved_3 3 rfl rfl)
theorem dX0_moved_75 : decode cX0_moved 75 = .ok (.invokevirtual 162, 3) := dk_182 0 162 (dk_at dksX0_moved_3 4 rfl rfl)
theorem dX0_moved_78 : decode cX0_moved 78 = .ok (.iload 6, 2) := dk_21 6 (dk_at dksX0_moved_3 7 rfl rfl)
theorem dX0_moved_80 : decode cX0_moved 80 = .ok (.iload_n 2, 1) := dk_28 (dk_at dksX0_moved_3 9 rfl rfl)
theorem dX0_moved_81 : decode cX0_moved 81 = .ok (.iadd, 1) := dk_96 (dk_at dksX0_moved_3 10 rfl rfl)
theorem dX0_moved_82 : decode cX0_moved 82 = .ok (.iload 5, 2) := dk_21 5 (dk_at dksX0_moved_3 11 rfl rfl)
theorem dX0_moved_84 : decode cX0_moved 84 = .ok (.iload_n 3, 1) := dk_29 (dk_at dksX0_moved_3 13 rfl rfl)
theorem dX0_moved_85 : decode cX0_moved 85 = .ok (.iadd, 1) := dk_96 (dk_at dksX0_moved_3 14 rfl rfl)
theorem dX0_moved_86 : decode cX0_moved 86 = .ok (.invokevirtual 196, 3) := dk_182 0 196 (dk_at dksX0_moved_3 15 rfl rfl)
theorem dX0_moved_89 : decode cX0_moved 89 = .ok (.ishl, 1) := dk_120 (dk_at dksX0_moved_3 18 rfl rfl)
theorem dX0_moved_90 : decode cX0_moved 90 = .ok (.ior, 1) := dk_128 (dk_at dksX0_moved_3 19 rfl rfl)
theorem dX0_moved_91 : decode cX0_moved 91 = .ok (.istore 4, 2) := dk_54 4 (dk_at dksX0_moved_3 20 rfl rfl)
theorem dX0_moved_93 : decode cX0_moved 93 = .ok (.iinc 6 1, 3) := dk_132 6 1 (dk_at dksX0_moved_4 0 rfl rfl)
theorem dX0_moved_96 : decode cX0_moved 96 = .ok (.goto (-75), 3) := dk_167 255 181 (dk_at dksX0_moved_4 3 rfl rfl)
theorem dX0_moved_99 : decode cX0_moved 99 = .ok (.iinc 5 1, 3) := dk_132 5 1 (dk_at dksX0_moved_4 6 rfl rfl)
theorem dX0_moved_102 : decode cX0_moved 102 = .ok (.goto (-96), 3) := dk_167 255 160 (dk_at dksX0_moved_4 9 rfl rfl)
theorem dX0_moved_105 : decode cX0_moved 105 = .ok (.iload 4, 2) := dk_21 4 (dk_at dksX0_moved_4 12 rfl rfl)
theorem dX0_moved_107 : decode cX0_moved 107 = .ok (.ireturn, 1) := dk_172 (dk_at dksX0_moved_4 14 rfl rfl)
abbrev cX0_still : ByteArray := prog_1_method_56_code
def yX0_still : MethodName := ⟨RX0, "still", "()I"⟩
def dkwX0_still_1 : List UInt8 := [180, 1, 13, 160, 0, 7, 4, 167, 0, 4, 3, 172]
abbrev dktX0_still_1 : List UInt8 := dkwX0_still_1 ++ []
def dkwX0_still_0 : List UInt8 := [42, 3, 181, 0, 81, 42, 182, 0, 233, 42, 182, 0, 233, 180, 1, 13, 182, 1, 90, 42, 182, 0, 233]
abbrev dktX0_still_0 : List UInt8 := dkwX0_still_0 ++ dktX0_still_1
theorem dksX0_still_0 : cX0_still.data.toList.drop 0 = dktX0_still_0 := by decide +kernel
theorem dksX0_still_1 : cX0_still.data.toList.drop 23 = dktX0_still_1 := dk_seg dksX0_still_0 23 rfl rfl
theorem dX0_still_0 : decode cX0_still 0 = .ok (.aload_n 0, 1) := dk_42 (dk_at dksX0_still_0 0 rfl rfl)
theorem dX0_still_1 : decode cX0_still 1 = .ok (.iconst 0, 1) := dk_3 (dk_at dksX0_still_0 1 rfl rfl)
theorem dX0_still_2 : decode cX0_still 2 = .ok (.putfield 81, 3) := dk_181 0 81 (dk_at dksX0_still_0 2 rfl rfl)
theorem dX0_still_5 : decode cX0_still 5 = .ok (.aload_n 0, 1) := dk_42 (dk_at dksX0_still_0 5 rfl rfl)
theorem dX0_still_6 : decode cX0_still 6 = .ok (.invokevirtual 233, 3) := dk_182 0 233 (dk_at dksX0_still_0 6 rfl rfl)
theorem dX0_still_9 : decode cX0_still 9 = .ok (.aload_n 0, 1) := dk_42 (dk_at dksX0_still_0 9 rfl rfl)
theorem dX0_still_10 : decode cX0_still 10 = .ok (.invokevirtual 233, 3) := dk_182 0 233 (dk_at dksX0_still_0 10 rfl rfl)
theorem dX0_still_13 : decode cX0_still 13 = .ok (.getfield 269, 3) := dk_180 1 13 (dk_at dksX0_still_0 13 rfl rfl)
theorem dX0_still_16 : decode cX0_still 16 = .ok (.invokevirtual 346, 3) := dk_182 1 90 (dk_at dksX0_still_0 16 rfl rfl)
theorem dX0_still_19 : decode cX0_still 19 = .ok (.aload_n 0, 1) := dk_42 (dk_at dksX0_still_0 19 rfl rfl)
theorem dX0_still_20 : decode cX0_still 20 = .ok (.invokevirtual 233, 3) := dk_182 0 233 (dk_at dksX0_still_0 20 rfl rfl)
theorem dX0_still_23 : decode cX0_still 23 = .ok (.getfield 269, 3) := dk_180 1 13 (dk_at dksX0_still_1 0 rfl rfl)
theorem dX0_still_26 : decode cX0_still 26 = .ok (.if_icmp .ne 7, 3) := dk_160 0 7 (dk_at dksX0_still_1 3 rfl rfl)
theorem dX0_still_29 : decode cX0_still 29 = .ok (.iconst 1, 1) := dk_4 (dk_at dksX0_still_1 6 rfl rfl)
theorem dX0_still_30 : decode cX0_still 30 = .ok (.goto 4, 3) := dk_167 0 4 (dk_at dksX0_still_1 7 rfl rfl)
theorem dX0_still_33 : decode cX0_still 33 = .ok (.iconst 0, 1) := dk_3 (dk_at dksX0_still_1 10 rfl rfl)
theorem dX0_still_34 : decode cX0_still 34 = .ok (.ireturn, 1) := dk_172 (dk_at dksX0_still_1 11 rfl rfl)
abbrev cX0_next : ByteArray := prog_1_method_57_code
def yX0_next : MethodName := ⟨RX0, "next", "(I)I"⟩
def dkwX0_next_3 : List UInt8 := [167, 0, 6, 28, 29, 126, 184, 0, 250, 172]
abbrev dktX0_next_3 : List UInt8 := dkwX0_next_3 ++ []
def dkwX0_next_2 : List UInt8 := [62, 27, 154, 0, 11, 29, 28, 2, 130, 126, 167, 0, 19, 27, 4, 160, 0, 11, 28, 29, 2, 130, 126]
abbrev dktX0_next_2 : List UInt8 := dkwX0_next_2 ++ dktX0_next_3
def dkwX0_next_1 : List UInt8 := [180, 0, 81, 158, 0, 5, 2, 172, 42, 182, 0, 233, 180, 1, 13, 61, 42, 182, 0, 233, 28, 182, 1, 90]
abbrev dktX0_next_1 : List UInt8 := dkwX0_next_1 ++ dktX0_next_2
def dkwX0_next_0 : List UInt8 := [42, 27, 133, 9, 20, 1, 104, 184, 0, 171, 153, 0, 7, 3, 167, 0, 4, 4, 181, 0, 81, 42]
abbrev dktX0_next_0 : List UInt8 := dkwX0_next_0 ++ dktX0_next_1
theorem dksX0_next_0 : cX0_next.data.toList.drop 0 = dktX0_next_0 := by decide +kernel
theorem dksX0_next_1 : cX0_next.data.toList.drop 22 = dktX0_next_1 := dk_seg dksX0_next_0 22 rfl rfl
theorem dksX0_next_2 : cX0_next.data.toList.drop 46 = dktX0_next_2 := dk_seg dksX0_next_1 24 rfl rfl
theorem dksX0_next_3 : cX0_next.data.toList.drop 69 = dktX0_next_3 := dk_seg dksX0_next_2 23 rfl rfl
theorem dX0_next_0 : decode cX0_next 0 = .ok (.aload_n 0, 1) := dk_42 (dk_at dksX0_next_0 0 rfl rfl)
theorem dX0_next_1 : decode cX0_next 1 = .ok (.iload_n 1, 1) := dk_27 (dk_at dksX0_next_0 1 rfl rfl)
theorem dX0_next_2 : decode cX0_next 2 = .ok (.i2l, 1) := dk_133 (dk_at dksX0_next_0 2 rfl rfl)
theorem dX0_next_3 : decode cX0_next 3 = .ok (.lconst 0, 1) := dk_9 (dk_at dksX0_next_0 3 rfl rfl)
theorem dX0_next_4 : decode cX0_next 4 = .ok (.ldc2_w 360, 3) := dk_20 1 104 (dk_at dksX0_next_0 4 rfl rfl)
theorem dX0_next_7 : decode cX0_next 7 = .ok (.invokestatic 171, 3) := dk_184 0 171 (dk_at dksX0_next_0 7 rfl rfl)
theorem dX0_next_10 : decode cX0_next 10 = .ok (.ifCond .eq 7, 3) := dk_153 0 7 (dk_at dksX0_next_0 10 rfl rfl)
theorem dX0_next_13 : decode cX0_next 13 = .ok (.iconst 0, 1) := dk_3 (dk_at dksX0_next_0 13 rfl rfl)
theorem dX0_next_14 : decode cX0_next 14 = .ok (.goto 4, 3) := dk_167 0 4 (dk_at dksX0_next_0 14 rfl rfl)
theorem dX0_next_17 : decode cX0_next 17 = .ok (.iconst 1, 1) := dk_4 (dk_at dksX0_next_0 17 rfl rfl)
theorem dX0_next_18 : decode cX0_next 18 = .ok (.putfield 81, 3) := dk_181 0 81 (dk_at dksX0_next_0 18 rfl rfl)
theorem dX0_next_21 : decode cX0_next 21 = .ok (.aload_n 0, 1) := dk_42 (dk_at dksX0_next_0 21 rfl rfl)
theorem dX0_next_22 : decode cX0_next 22 = .ok (.getfield 81, 3) := dk_180 0 81 (dk_at dksX0_next_1 0 rfl rfl)
theorem dX0_next_25 : decode cX0_next 25 = .ok (.ifCond .le 5, 3) := dk_158 0 5 (dk_at dksX0_next_1 3 rfl rfl)
theorem dX0_next_28 : decode cX0_next 28 = .ok (.iconst (-1), 1) := dk_2 (dk_at dksX0_next_1 6 rfl rfl)
theorem dX0_next_29 : decode cX0_next 29 = .ok (.ireturn, 1) := dk_172 (dk_at dksX0_next_1 7 rfl rfl)
theorem dX0_next_30 : decode cX0_next 30 = .ok (.aload_n 0, 1) := dk_42 (dk_at dksX0_next_1 8 rfl rfl)
theorem dX0_next_31 : decode cX0_next 31 = .ok (.invokevirtual 233, 3) := dk_182 0 233 (dk_at dksX0_next_1 9 rfl rfl)
theorem dX0_next_34 : decode cX0_next 34 = .ok (.getfield 269, 3) := dk_180 1 13 (dk_at dksX0_next_1 12 rfl rfl)
theorem dX0_next_37 : decode cX0_next 37 = .ok (.istore_n 2, 1) := dk_61 (dk_at dksX0_next_1 15 rfl rfl)
theorem dX0_next_38 : decode cX0_next 38 = .ok (.aload_n 0, 1) := dk_42 (dk_at dksX0_next_1 16 rfl rfl)
theorem dX0_next_39 : decode cX0_next 39 = .ok (.invokevirtual 233, 3) := dk_182 0 233 (dk_at dksX0_next_1 17 rfl rfl)
theorem dX0_next_42 : decode cX0_next 42 = .ok (.iload_n 2, 1) := dk_28 (dk_at dksX0_next_1 20 rfl rfl)
theorem dX0_next_43 : decode cX0_next 43 = .ok (.invokevirtual 346, 3) := dk_182 1 90 (dk_at dksX0_next_1 21 rfl rfl)
theorem dX0_next_46 : decode cX0_next 46 = .ok (.istore_n 3, 1) := dk_62 (dk_at dksX0_next_2 0 rfl rfl)
theorem dX0_next_47 : decode cX0_next 47 = .ok (.iload_n 1, 1) := dk_27 (dk_at dksX0_next_2 1 rfl rfl)
theorem dX0_next_48 : decode cX0_next 48 = .ok (.ifCond .ne 11, 3) := dk_154 0 11 (dk_at dksX0_next_2 2 rfl rfl)
theorem dX0_next_51 : decode cX0_next 51 = .ok (.iload_n 3, 1) := dk_29 (dk_at dksX0_next_2 5 rfl rfl)
theorem dX0_next_52 : decode cX0_next 52 = .ok (.iload_n 2, 1) := dk_28 (dk_at dksX0_next_2 6 rfl rfl)
theorem dX0_next_53 : decode cX0_next 53 = .ok (.iconst (-1), 1) := dk_2 (dk_at dksX0_next_2 7 rfl rfl)
theorem dX0_next_54 : decode cX0_next 54 = .ok (.ixor, 1) := dk_130 (dk_at dksX0_next_2 8 rfl rfl)
theorem dX0_next_55 : decode cX0_next 55 = .ok (.iand, 1) := dk_126 (dk_at dksX0_next_2 9 rfl rfl)
theorem dX0_next_56 : decode cX0_next 56 = .ok (.goto 19, 3) := dk_167 0 19 (dk_at dksX0_next_2 10 rfl rfl)
theorem dX0_next_59 : decode cX0_next 59 = .ok (.iload_n 1, 1) := dk_27 (dk_at dksX0_next_2 13 rfl rfl)
theorem dX0_next_60 : decode cX0_next 60 = .ok (.iconst 1, 1) := dk_4 (dk_at dksX0_next_2 14 rfl rfl)
theorem dX0_next_61 : decode cX0_next 61 = .ok (.if_icmp .ne 11, 3) := dk_160 0 11 (dk_at dksX0_next_2 15 rfl rfl)
theorem dX0_next_64 : decode cX0_next 64 = .ok (.iload_n 2, 1) := dk_28 (dk_at dksX0_next_2 18 rfl rfl)
theorem dX0_next_65 : decode cX0_next 65 = .ok (.iload_n 3, 1) := dk_29 (dk_at dksX0_next_2 19 rfl rfl)
theorem dX0_next_66 : decode cX0_next 66 = .ok (.iconst (-1), 1) := dk_2 (dk_at dksX0_next_2 20 rfl rfl)
theorem dX0_next_67 : decode cX0_next 67 = .ok (.ixor, 1) := dk_130 (dk_at dksX0_next_2 21 rfl rfl)
theorem dX0_next_68 : decode cX0_next 68 = .ok (.iand, 1) := dk_126 (dk_at dksX0_next_2 22 rfl rfl)
theorem dX0_next_69 : decode cX0_next 69 = .ok (.goto 6, 3) := dk_167 0 6 (dk_at dksX0_next_3 0 rfl rfl)
theorem dX0_next_72 : decode cX0_next 72 = .ok (.iload_n 2, 1) := dk_28 (dk_at dksX0_next_3 3 rfl rfl)
theorem dX0_next_73 : decode cX0_next 73 = .ok (.iload_n 3, 1) := dk_29 (dk_at dksX0_next_3 4 rfl rfl)
theorem dX0_next_74 : decode cX0_next 74 = .ok (.iand, 1) := dk_126 (dk_at dksX0_next_3 5 rfl rfl)
theorem dX0_next_75 : decode cX0_next 75 = .ok (.invokestatic 250, 3) := dk_184 0 250 (dk_at dksX0_next_3 6 rfl rfl)
theorem dX0_next_78 : decode cX0_next 78 = .ok (.ireturn, 1) := dk_172 (dk_at dksX0_next_3 9 rfl rfl)
abbrev cX0_oil : ByteArray := prog_1_method_58_code
def yX0_oil : MethodName := ⟨RX0, "oil", "(I)I"⟩
def dkwX0_oil_3 : List UInt8 := [29, 182, 1, 90, 62, 132, 4, 1, 167, 255, 222, 17, 3, 231, 172]
abbrev dktX0_oil_3 : List UInt8 := dkwX0_oil_3 ++ []
def dkwX0_oil_2 : List UInt8 := [17, 3, 231, 162, 0, 32, 28, 29, 184, 0, 250, 100, 61, 28, 156, 0, 6, 21, 4, 172, 42, 182, 0, 233]
abbrev dktX0_oil_2 : List UInt8 := dkwX0_oil_2 ++ dktX0_oil_3
def dkwX0_oil_1 : List UInt8 := [180, 0, 81, 158, 0, 5, 2, 172, 27, 61, 42, 182, 0, 233, 180, 1, 13, 62, 3, 54, 4, 21, 4]
abbrev dktX0_oil_1 : List UInt8 := dkwX0_oil_1 ++ dktX0_oil_2
def dkwX0_oil_0 : List UInt8 := [42, 27, 133, 9, 20, 1, 110, 184, 0, 171, 153, 0, 7, 3, 167, 0, 4, 4, 181, 0, 81, 42]
abbrev dktX0_oil_0 : List UInt8 := dkwX0_oil_0 ++ dktX0_oil_1
theorem dksX0_oil_0 : cX0_oil.data.toList.drop 0 = dktX0_oil_0 := by decide +kernel
theorem dksX0_oil_1 : cX0_oil.data.toList.drop 22 = dktX0_oil_1 := dk_seg dksX0_oil_0 22 rfl rfl
theorem dksX0_oil_2 : cX0_oil.data.toList.drop 45 = dktX0_oil_2 := dk_seg dksX0_oil_1 23 rfl rfl
theorem dksX0_oil_3 : cX0_oil.data.toList.drop 69 = dktX0_oil_3 := dk_seg dksX0_oil_2 24 rfl rfl
theorem dX0_oil_0 : decode cX0_oil 0 = .ok (.aload_n 0, 1) := dk_42 (dk_at dksX0_oil_0 0 rfl rfl)
theorem dX0_oil_1 : decode cX0_oil 1 = .ok (.iload_n 1, 1) := dk_27 (dk_at dksX0_oil_0 1 rfl rfl)
theorem dX0_oil_2 : decode cX0_oil 2 = .ok (.i2l, 1) := dk_133 (dk_at dksX0_oil_0 2 rfl rfl)
theorem dX0_oil_3 : decode cX0_oil 3 = .ok (.lconst 0, 1) := dk_9 (dk_at dksX0_oil_0 3 rfl rfl)
theorem dX0_oil_4 : decode cX0_oil 4 = .ok (.ldc2_w 366, 3) := dk_20 1 110 (dk_at dksX0_oil_0 4 rfl rfl)
theorem dX0_oil_7 : decode cX0_oil 7 = .ok (.invokestatic 171, 3) := dk_184 0 171 (dk_at dksX0_oil_0 7 rfl rfl)
theorem dX0_oil_10 : decode cX0_oil 10 = .ok (.ifCond .eq 7, 3) := dk_153 0 7 (dk_at dksX0_oil_0 10 rfl rfl)
theorem dX0_oil_13 : decode cX0_oil 13 = .ok (.iconst 0, 1) := dk_3 (dk_at dksX0_oil_0 13 rfl rfl)
theorem dX0_oil_14 : decode cX0_oil 14 = .ok (.goto 4, 3) := dk_167 0 4 (dk_at dksX0_oil_0 14 rfl rfl)
theorem dX0_oil_17 : decode cX0_oil 17 = .ok (.iconst 1, 1) := dk_4 (dk_at dksX0_oil_0 17 rfl rfl)
theorem dX0_oil_18 : decode cX0_oil 18 = .ok (.putfield 81, 3) := dk_181 0 81 (dk_at dksX0_oil_0 18 rfl rfl)
theorem dX0_oil_21 : decode cX0_oil 21 = .ok (.aload_n 0, 1) := dk_42 (dk_at dksX0_oil_0 21 rfl rfl)
theorem dX0_oil_22 : decode cX0_oil 22 = .ok (.getfield 81, 3) := dk_180 0 81 (dk_at dksX0_oil_1 0 rfl rfl)
theorem dX0_oil_25 : decode cX0_oil 25 = .ok (.ifCond .le 5, 3) := dk_158 0 5 (dk_at dksX0_oil_1 3 rfl rfl)
theorem dX0_oil_28 : decode cX0_oil 28 = .ok (.iconst (-1), 1) := dk_2 (dk_at dksX0_oil_1 6 rfl rfl)
theorem dX0_oil_29 : decode cX0_oil 29 = .ok (.ireturn, 1) := dk_172 (dk_at dksX0_oil_1 7 rfl rfl)
theorem dX0_oil_30 : decode cX0_oil 30 = .ok (.iload_n 1, 1) := dk_27 (dk_at dksX0_oil_1 8 rfl rfl)
theorem dX0_oil_31 : decode cX0_oil 31 = .ok (.istore_n 2, 1) := dk_61 (dk_at dksX0_oil_1 9 rfl rfl)
theorem dX0_oil_32 : decode cX0_oil 32 = .ok (.aload_n 0, 1) := dk_42 (dk_at dksX0_oil_1 10 rfl rfl)
theorem dX0_oil_33 : decode cX0_oil 33 = .ok (.invokevirtual 233, 3) := dk_182 0 233 (dk_at dksX0_oil_1 11 rfl rfl)
theorem dX0_oil_36 : decode cX0_oil 36 = .ok (.getfield 269, 3) := dk_180 1 13 (dk_at dksX0_oil_1 14 rfl rfl)
theorem dX0_oil_39 : decode cX0_oil 39 = .ok (.istore_n 3, 1) := dk_62 (dk_at dksX0_oil_1 17 rfl rfl)
theorem dX0_oil_40 : decode cX0_oil 40 = .ok (.iconst 0, 1) := dk_3 (dk_at dksX0_oil_1 18 rfl rfl)
theorem dX0_oil_41 : decode cX0_oil 41 = .ok (.istore 4, 2) := dk_54 4 (dk_at dksX0_oil_1 19 rfl rfl)
theorem dX0_oil_43 : decode cX0_oil 43 = .ok (.iload 4, 2) := dk_21 4 (dk_at dksX0_oil_1 21 rfl rfl)
theorem dX0_oil_45 : decode cX0_oil 45 = .ok (.sipush 999, 3) := dk_17 3 231 (dk_at dksX0_oil_2 0 rfl rfl)
theorem dX0_oil_48 : decode cX0_oil 48 = .ok (.if_icmp .ge 32, 3) := dk_162 0 32 (dk_at dksX0_oil_2 3 rfl rfl)
theorem dX0_oil_51 : decode cX0_oil 51 = .ok (.iload_n 2, 1) := dk_28 (dk_at dksX0_oil_2 6 rfl rfl)
theorem dX0_oil_52 : decode cX0_oil 52 = .ok (.iload_n 3, 1) := dk_29 (dk_at dksX0_oil_2 7 rfl rfl)
theorem dX0_oil_53 : decode cX0_oil 53 = .ok (.invokestatic 250, 3) := dk_184 0 250 (dk_at dksX0_oil_2 8 rfl rfl)
theorem dX0_oil_56 : decode cX0_oil 56 = .ok (.isub, 1) := dk_100 (dk_at dksX0_oil_2 11 rfl rfl)
theorem dX0_oil_57 : decode cX0_oil 57 = .ok (.istore_n 2, 1) := dk_61 (dk_at dksX0_oil_2 12 rfl rfl)
theorem dX0_oil_58 : decode cX0_oil 58 = .ok (.iload_n 2, 1) := dk_28 (dk_at dksX0_oil_2 13 rfl rfl)
theorem dX0_oil_59 : decode cX0_oil 59 = .ok (.ifCond .ge 6, 3) := dk_156 0 6 (dk_at dksX0_oil_2 14 rfl rfl)
theorem dX0_oil_62 : decode cX0_oil 62 = .ok (.iload 4, 2) := dk_21 4 (dk_at dksX0_oil_2 17 rfl rfl)
theorem dX0_oil_64 : decode cX0_oil 64 = .ok (.ireturn, 1) := dk_172 (dk_at dksX0_oil_2 19 rfl rfl)
theorem dX0_oil_65 : decode cX0_oil 65 = .ok (.aload_n 0, 1) := dk_42 (dk_at dksX0_oil_2 20 rfl rfl)
theorem dX0_oil_66 : decode cX0_oil 66 = .ok (.invokevirtual 233, 3) := dk_182 0 233 (dk_at dksX0_oil_2 21 rfl rfl)
theorem dX0_oil_69 : decode cX0_oil 69 = .ok (.iload_n 3, 1) := dk_29 (dk_at dksX0_oil_3 0 rfl rfl)
theorem dX0_oil_70 : decode cX0_oil 70 = .ok (.invokevirtual 346, 3) := dk_182 1 90 (dk_at dksX0_oil_3 1 rfl rfl)
theorem dX0_oil_73 : decode cX0_oil 73 = .ok (.istore_n 3, 1) := dk_62 (dk_at dksX0_oil_3 4 rfl rfl)
theorem dX0_oil_74 : decode cX0_oil 74 = .ok (.iinc 4 1, 3) := dk_132 4 1 (dk_at dksX0_oil_3 5 rfl rfl)
theorem dX0_oil_77 : decode cX0_oil 77 = .ok (.goto (-34), 3) := dk_167 255 222 (dk_at dksX0_oil_3 8 rfl rfl)
theorem dX0_oil_80 : decode cX0_oil 80 = .ok (.sipush 999, 3) := dk_17 3 231 (dk_at dksX0_oil_3 11 rfl rfl)
theorem dX0_oil_83 : decode cX0_oil 83 = .ok (.ireturn, 1) := dk_172 (dk_at dksX0_oil_3 14 rfl rfl)
abbrev cX0_brightest : ByteArray := prog_1_method_59_code
def yX0_brightest : MethodName := ⟨RX0, "brightest", "(I)I"⟩
def dkwX0_brightest_3 : List UInt8 := [132, 4, 1, 167, 255, 229, 29, 172]
abbrev dktX0_brightest_3 : List UInt8 := dkwX0_brightest_3 ++ []
def dkwX0_brightest_2 : List UInt8 := [21, 4, 27, 162, 0, 27, 42, 182, 0, 233, 28, 182, 1, 90, 61, 29, 28, 184, 0, 250, 184, 1, 112, 62]
abbrev dktX0_brightest_2 : List UInt8 := dkwX0_brightest_2 ++ dktX0_brightest_3
def dkwX0_brightest_1 : List UInt8 := [180, 0, 81, 158, 0, 5, 2, 172, 42, 182, 0, 233, 180, 1, 13, 61, 28, 184, 0, 250, 62, 3, 54, 4]
abbrev dktX0_brightest_1 : List UInt8 := dkwX0_brightest_1 ++ dktX0_brightest_2
def dkwX0_brightest_0 : List UInt8 := [42, 27, 133, 9, 20, 1, 83, 184, 0, 171, 153, 0, 7, 3, 167, 0, 4, 4, 181, 0, 81, 42]
abbrev dktX0_brightest_0 : List UInt8 := dkwX0_brightest_0 ++ dktX0_brightest_1
theorem dksX0_brightest_0 : cX0_brightest.data.toList.drop 0 = dktX0_brightest_0 := by decide +kernel
theorem dksX0_brightest_1 : cX0_brightest.data.toList.drop 22 = dktX0_brightest_1 := dk_seg dksX0_brightest_0 22 rfl rfl
theorem dksX0_brightest_2 : cX0_brightest.data.toList.drop 46 = dktX0_brightest_2 := dk_seg dksX0_brightest_1 24 rfl rfl
theorem dksX0_brightest_3 : cX0_brightest.data.toList.drop 70 = dktX0_brightest_3 := dk_seg dksX0_brightest_2 24 rfl rfl
theorem dX0_brightest_0 : decode cX0_brightest 0 = .ok (.aload_n 0, 1) := dk_42 (dk_at dksX0_brightest_0 0 rfl rfl)
theorem dX0_brightest_1 : decode cX0_brightest 1 = .ok (.iload_n 1, 1) := dk_27 (dk_at dksX0_brightest_0 1 rfl rfl)
theorem dX0_brightest_2 : decode cX0_brightest 2 = .ok (.i2l, 1) := dk_133 (dk_at dksX0_brightest_0 2 rfl rfl)
theorem dX0_brightest_3 : decode cX0_brightest 3 = .ok (.lconst 0, 1) := dk_9 (dk_at dksX0_brightest_0 3 rfl rfl)
theorem dX0_brightest_4 : decode cX0_brightest 4 = .ok (.ldc2_w 339, 3) := dk_20 1 83 (dk_at dksX0_brightest_0 4 rfl rfl)
theorem dX0_brightest_7 : decode cX0_brightest 7 = .ok (.invokestatic 171, 3) := dk_184 0 171 (dk_at dksX0_brightest_0 7 rfl rfl)
theorem dX0_brightest_10 : decode cX0_brightest 10 = .ok (.ifCond .eq 7, 3) := dk_153 0 7 (dk_at dksX0_brightest_0 10 rfl rfl)
theorem dX0_brightest_13 : decode cX0_brightest 13 = .ok (.iconst 0, 1) := dk_3 (dk_at dksX0_brightest_0 13 rfl rfl)
theorem dX0_brightest_14 : decode cX0_brightest 14 = .ok (.goto 4, 3) := dk_167 0 4 (dk_at dksX0_brightest_0 14 rfl rfl)
theorem dX0_brightest_17 : decode cX0_brightest 17 = .ok (.iconst 1, 1) := dk_4 (dk_at dksX0_brightest_0 17 rfl rfl)
theorem dX0_brightest_18 : decode cX0_brightest 18 = .ok (.putfield 81, 3) := dk_181 0 81 (dk_at dksX0_brightest_0 18 rfl rfl)
theorem dX0_brightest_21 : decode cX0_brightest 21 = .ok (.aload_n 0, 1) := dk_42 (dk_at dksX0_brightest_0 21 rfl rfl)
theorem dX0_brightest_22 : decode cX0_brightest 22 = .ok (.getfield 81, 3) := dk_180 0 81 (dk_at dksX0_brightest_1 0 rfl rfl)
theorem dX0_brightest_25 : decode cX0_brightest 25 = .ok (.ifCond .le 5, 3) := dk_158 0 5 (dk_at dksX0_brightest_1 3 rfl rfl)
theorem dX0_brightest_28 : decode cX0_brightest 28 = .ok (.iconst (-1), 1) := dk_2 (dk_at dksX0_brightest_1 6 rfl rfl)
theorem dX0_brightest_29 : decode cX0_brightest 29 = .ok (.ireturn, 1) := dk_172 (dk_at dksX0_brightest_1 7 rfl rfl)
theorem dX0_brightest_30 : decode cX0_brightest 30 = .ok (.aload_n 0, 1) := dk_42 (dk_at dksX0_brightest_1 8 rfl rfl)
theorem dX0_brightest_31 : decode cX0_brightest 31 = .ok (.invokevirtual 233, 3) := dk_182 0 233 (dk_at dksX0_brightest_1 9 rfl rfl)
theorem dX0_brightest_34 : decode cX0_brightest 34 = .ok (.getfield 269, 3) := dk_180 1 13 (dk_at dksX0_brightest_1 12 rfl rfl)
theorem dX0_brightest_37 : decode cX0_brightest 37 = .ok (.istore_n 2, 1) := dk_61 (dk_at dksX0_brightest_1 15 rfl rfl)
theorem dX0_brightest_38 : decode cX0_brightest 38 = .ok (.iload_n 2, 1) := dk_28 (dk_at dksX0_brightest_1 16 rfl rfl)
theorem dX0_brightest_39 : decode cX0_brightest 39 = .ok (.invokestatic 250, 3) := dk_184 0 250 (dk_at dksX0_brightest_1 17 rfl rfl)
theorem dX0_brightest_42 : decode cX0_brightest 42 = .ok (.istore_n 3, 1) := dk_62 (dk_at dksX0_brightest_1 20 rfl rfl)
theorem dX0_brightest_43 : decode cX0_brightest 43 = .ok (.iconst 0, 1) := dk_3 (dk_at dksX0_brightest_1 21 rfl rfl)
theorem dX0_brightest_44 : decode cX0_brightest 44 = .ok (.istore 4, 2) := dk_54 4 (dk_at dksX0_brightest_1 22 rfl rfl)
theorem dX0_brightest_46 : decode cX0_brightest 46 = .ok (.iload 4, 2) := dk_21 4 (dk_at dksX0_brightest_2 0 rfl rfl)
theorem dX0_brightest_48 : decode cX0_brightest 48 = .ok (.iload_n 1, 1) := dk_27 (dk_at dksX0_brightest_2 2 rfl rfl)
theorem dX0_brightest_49 : decode cX0_brightest 49 = .ok (.if_icmp .ge 27, 3) := dk_162 0 27 (dk_at dksX0_brightest_2 3 rfl rfl)
theorem dX0_brightest_52 : decode cX0_brightest 52 = .ok (.aload_n 0, 1) := dk_42 (dk_at dksX0_brightest_2 6 rfl rfl)
theorem dX0_brightest_53 : decode cX0_brightest 53 = .ok (.invokevirtual 233, 3) := dk_182 0 233 (dk_at dksX0_brightest_2 7 rfl rfl)
theorem dX0_brightest_56 : decode cX0_brightest 56 = .ok (.iload_n 2, 1) := dk_28 (dk_at dksX0_brightest_2 10 rfl rfl)
theorem dX0_brightest_57 : decode cX0_brightest 57 = .ok (.invokevirtual 346, 3) := dk_182 1 90 (dk_at dksX0_brightest_2 11 rfl rfl)
theorem dX0_brightest_60 : decode cX0_brightest 60 = .ok (.istore_n 2, 1) := dk_61 (dk_at dksX0_brightest_2 14 rfl rfl)
theorem dX0_brightest_61 : decode cX0_brightest 61 = .ok (.iload_n 3, 1) := dk_29 (dk_at dksX0_brightest_2 15 rfl rfl)
theorem dX0_brightest_62 : decode cX0_brightest 62 = .ok (.iload_n 2, 1) := dk_28 (dk_at dksX0_brightest_2 16 rfl rfl)
theorem dX0_brightest_63 : decode cX0_brightest 63 = .ok (.invokestatic 250, 3) := dk_184 0 250 (dk_at dksX0_brightest_2 17 rfl rfl)
theorem dX0_brightest_66 : decode cX0_brightest 66 = .ok (.invokestatic 368, 3) := dk_184 1 112 (dk_at dksX0_brightest_2 20 rfl rfl)
theorem dX0_brightest_69 : decode cX0_brightest 69 = .ok (.istore_n 3, 1) := dk_62 (dk_at dksX0_brightest_2 23 rfl rfl)
theorem dX0_brightest_70 : decode cX0_brightest 70 = .ok (.iinc 4 1, 3) := dk_132 4 1 (dk_at dksX0_brightest_3 0 rfl rfl)
theorem dX0_brightest_73 : decode cX0_brightest 73 = .ok (.goto (-27), 3) := dk_167 255 229 (dk_at dksX0_brightest_3 3 rfl rfl)
theorem dX0_brightest_76 : decode cX0_brightest 76 = .ok (.iload_n 3, 1) := dk_29 (dk_at dksX0_brightest_3 6 rfl rfl)
theorem dX0_brightest_77 : decode cX0_brightest 77 = .ok (.ireturn, 1) := dk_172 (dk_at dksX0_brightest_3 7 rfl rfl)
abbrev cX0_ancestors : ByteArray := prog_1_method_65_code
def yX0_ancestors : MethodName := ⟨RX0, "ancestors", "()J"⟩
def dkwX0_ancestors_0 : List UInt8 := [42, 3, 181, 0, 81, 42, 42, 182, 0, 233, 180, 1, 13, 3, 182, 1, 133, 173]
abbrev dktX0_ancestors_0 : List UInt8 := dkwX0_ancestors_0 ++ []
theorem dksX0_ancestors_0 : cX0_ancestors.data.toList.drop 0 = dktX0_ancestors_0 := by decide +kernel
theorem dX0_ancestors_0 : decode cX0_ancestors 0 = .ok (.aload_n 0, 1) := dk_42 (dk_at dksX0_ancestors_0 0 rfl rfl)
theorem dX0_ancestors_1 : decode cX0_ancestors 1 = .ok (.iconst 0, 1) := dk_3 (dk_at dksX0_ancestors_0 1 rfl rfl)
theorem dX0_ancestors_2 : decode cX0_ancestors 2 = .ok (.putfield 81, 3) := dk_181 0 81 (dk_at dksX0_ancestors_0 2 rfl rfl)
theorem dX0_ancestors_5 : decode cX0_ancestors 5 = .ok (.aload_n 0, 1) := dk_42 (dk_at dksX0_ancestors_0 5 rfl rfl)
theorem dX0_ancestors_6 : decode cX0_ancestors 6 = .ok (.aload_n 0, 1) := dk_42 (dk_at dksX0_ancestors_0 6 rfl rfl)
theorem dX0_ancestors_7 : decode cX0_ancestors 7 = .ok (.invokevirtual 233, 3) := dk_182 0 233 (dk_at dksX0_ancestors_0 7 rfl rfl)
theorem dX0_ancestors_10 : decode cX0_ancestors 10 = .ok (.getfield 269, 3) := dk_180 1 13 (dk_at dksX0_ancestors_0 10 rfl rfl)
theorem dX0_ancestors_13 : decode cX0_ancestors 13 = .ok (.iconst 0, 1) := dk_3 (dk_at dksX0_ancestors_0 13 rfl rfl)
theorem dX0_ancestors_14 : decode cX0_ancestors 14 = .ok (.invokevirtual 389, 3) := dk_182 1 133 (dk_at dksX0_ancestors_0 14 rfl rfl)
theorem dX0_ancestors_17 : decode cX0_ancestors 17 = .ok (.lreturn, 1) := dk_173 (dk_at dksX0_ancestors_0 17 rfl rfl)
abbrev cX0_sum : ByteArray := prog_1_method_63_code
def yX0_sum : MethodName := ⟨RX0, "sum", "(IZ)J"⟩
def dkwX0_sum_5 : List UInt8 := [173]
abbrev dktX0_sum_5 : List UInt8 := dkwX0_sum_5 ++ []
def dkwX0_sum_4 : List UInt8 := [21, 7, 104, 21, 8, 96, 47, 97, 55, 5, 132, 8, 1, 167, 255, 189, 132, 7, 1, 167, 255, 174, 22, 5]
abbrev dktX0_sum_4 : List UInt8 := dkwX0_sum_4 ++ dktX0_sum_5
def dkwX0_sum_3 : List UInt8 := [21, 7, 21, 8, 3, 27, 28, 182, 1, 125, 153, 0, 24, 22, 5, 42, 180, 0, 68, 21, 4, 50, 16, 32]
abbrev dktX0_sum_3 : List UInt8 := dkwX0_sum_3 ++ dktX0_sum_4
def dkwX0_sum_2 : List UInt8 := [42, 180, 0, 68, 21, 4, 50, 16, 32, 21, 7, 104, 21, 8, 96, 47, 9, 148, 158, 0, 40, 42, 21, 4]
abbrev dktX0_sum_2 : List UInt8 := dkwX0_sum_2 ++ dktX0_sum_3
def dkwX0_sum_1 : List UInt8 := [100, 54, 4, 9, 55, 5, 3, 54, 7, 21, 7, 29, 162, 0, 82, 3, 54, 8, 21, 8, 29, 162, 0, 67]
abbrev dktX0_sum_1 : List UInt8 := dkwX0_sum_1 ++ dktX0_sum_2
def dkwX0_sum_0 : List UInt8 := [42, 27, 28, 182, 1, 129, 4, 42, 182, 0, 162, 180, 0, 166, 120, 62, 42, 182, 0, 162, 180, 0, 175, 4]
abbrev dktX0_sum_0 : List UInt8 := dkwX0_sum_0 ++ dktX0_sum_1
theorem dksX0_sum_0 : cX0_sum.data.toList.drop 0 = dktX0_sum_0 := by decide +kernel
theorem dksX0_sum_1 : cX0_sum.data.toList.drop 24 = dktX0_sum_1 := dk_seg dksX0_sum_0 24 rfl rfl
theorem dksX0_sum_2 : cX0_sum.data.toList.drop 48 = dktX0_sum_2 := dk_seg dksX0_sum_1 24 rfl rfl
theorem dksX0_sum_3 : cX0_sum.data.toList.drop 72 = dktX0_sum_3 := dk_seg dksX0_sum_2 24 rfl rfl
theorem dksX0_sum_4 : cX0_sum.data.toList.drop 96 = dktX0_sum_4 := dk_seg dksX0_sum_3 24 rfl rfl
theorem dksX0_sum_5 : cX0_sum.data.toList.drop 120 = dktX0_sum_5 := dk_seg dksX0_sum_4 24 rfl rfl
theorem dX0_sum_0 : decode cX0_sum 0 = .ok (.aload_n 0, 1) := dk_42 (dk_at dksX0_sum_0 0 rfl rfl)
theorem dX0_sum_1 : decode cX0_sum 1 = .ok (.iload_n 1, 1) := dk_27 (dk_at dksX0_sum_0 1 rfl rfl)
theorem dX0_sum_2 : decode cX0_sum 2 = .ok (.iload_n 2, 1) := dk_28 (dk_at dksX0_sum_0 2 rfl rfl)
theorem dX0_sum_3 : decode cX0_sum 3 = .ok (.invokevirtual 385, 3) := dk_182 1 129 (dk_at dksX0_sum_0 3 rfl rfl)
theorem dX0_sum_6 : decode cX0_sum 6 = .ok (.iconst 1, 1) := dk_4 (dk_at dksX0_sum_0 6 rfl rfl)
theorem dX0_sum_7 : decode cX0_sum 7 = .ok (.aload_n 0, 1) := dk_42 (dk_at dksX0_sum_0 7 rfl rfl)
theorem dX0_sum_8 : decode cX0_sum 8 = .ok (.invokevirtual 162, 3) := dk_182 0 162 (dk_at dksX0_sum_0 8 rfl rfl)
theorem dX0_sum_11 : decode cX0_sum 11 = .ok (.getfield 166, 3) := dk_180 0 166 (dk_at dksX0_sum_0 11 rfl rfl)
theorem dX0_sum_14 : decode cX0_sum 14 = .ok (.ishl, 1) := dk_120 (dk_at dksX0_sum_0 14 rfl rfl)
theorem dX0_sum_15 : decode cX0_sum 15 = .ok (.istore_n 3, 1) := dk_62 (dk_at dksX0_sum_0 15 rfl rfl)
theorem dX0_sum_16 : decode cX0_sum 16 = .ok (.aload_n 0, 1) := dk_42 (dk_at dksX0_sum_0 16 rfl rfl)
theorem dX0_sum_17 : decode cX0_sum 17 = .ok (.invokevirtual 162, 3) := dk_182 0 162 (dk_at dksX0_sum_0 17 rfl rfl)
theorem dX0_sum_20 : decode cX0_sum 20 = .ok (.getfield 175, 3) := dk_180 0 175 (dk_at dksX0_sum_0 20 rfl rfl)
theorem dX0_sum_23 : decode cX0_sum 23 = .ok (.iconst 1, 1) := dk_4 (dk_at dksX0_sum_0 23 rfl rfl)
theorem dX0_sum_24 : decode cX0_sum 24 = .ok (.isub, 1) := dk_100 (dk_at dksX0_sum_1 0 rfl rfl)
theorem dX0_sum_25 : decode cX0_sum 25 = .ok (.istore 4, 2) := dk_54 4 (dk_at dksX0_sum_1 1 rfl rfl)
theorem dX0_sum_27 : decode cX0_sum 27 = .ok (.lconst 0, 1) := dk_9 (dk_at dksX0_sum_1 3 rfl rfl)
theorem dX0_sum_28 : decode cX0_sum 28 = .ok (.lstore 5, 2) := dk_55 5 (dk_at dksX0_sum_1 4 rfl rfl)
theorem dX0_sum_30 : decode cX0_sum 30 = .ok (.iconst 0, 1) := dk_3 (dk_at dksX0_sum_1 6 rfl rfl)
theorem dX0_sum_31 : decode cX0_sum 31 = .ok (.istore 7, 2) := dk_54 7 (dk_at dksX0_sum_1 7 rfl rfl)
theorem dX0_sum_33 : decode cX0_sum 33 = .ok (.iload 7, 2) := dk_21 7 (dk_at dksX0_sum_1 9 rfl rfl)
theorem dX0_sum_35 : decode cX0_sum 35 = .ok (.iload_n 3, 1) := dk_29 (dk_at dksX0_sum_1 11 rfl rfl)
theorem dX0_sum_36 : decode cX0_sum 36 = .ok (.if_icmp .ge 82, 3) := dk_162 0 82 (dk_at dksX0_sum_1 12 rfl rfl)
theorem dX0_sum_39 : decode cX0_sum 39 = .ok (.iconst 0, 1) := dk_3 (dk_at dksX0_sum_1 15 rfl rfl)
theorem dX0_sum_40 : decode cX0_sum 40 = .ok (.istore 8, 2) := dk_54 8 (dk_at dksX0_sum_1 16 rfl rfl)
theorem dX0_sum_42 : decode cX0_sum 42 = .ok (.iload 8, 2) := dk_21 8 (dk_at dksX0_sum_1 18 rfl rfl)
theorem dX0_sum_44 : decode cX0_sum 44 = .ok (.iload_n 3, 1) := dk_29 (dk_at dksX0_sum_1 20 rfl rfl)
theorem dX0_sum_45 : decode cX0_sum 45 = .ok (.if_icmp .ge 67, 3) := dk_162 0 67 (dk_at dksX0_sum_1 21 rfl rfl)
theorem dX0_sum_48 : decode cX0_sum 48 = .ok (.aload_n 0, 1) := dk_42 (dk_at dksX0_sum_2 0 rfl rfl)
theorem dX0_sum_49 : decode cX0_sum 49 = .ok (.getfield 68, 3) := dk_180 0 68 (dk_at dksX0_sum_2 1 rfl rfl)
theorem dX0_sum_52 : decode cX0_sum 52 = .ok (.iload 4, 2) := dk_21 4 (dk_at dksX0_sum_2 4 rfl rfl)
theorem dX0_sum_54 : decode cX0_sum 54 = .ok (.aaload, 1) := dk_50 (dk_at dksX0_sum_2 6 rfl rfl)
theorem dX0_sum_55 : decode cX0_sum 55 = .ok (.bipush 32, 2) := dk_16 32 (dk_at dksX0_sum_2 7 rfl rfl)
theorem dX0_sum_57 : decode cX0_sum 57 = .ok (.iload 7, 2) := dk_21 7 (dk_at dksX0_sum_2 9 rfl rfl)
theorem dX0_sum_59 : decode cX0_sum 59 = .ok (.imul, 1) := dk_104 (dk_at dksX0_sum_2 11 rfl rfl)
theorem dX0_sum_60 : decode cX0_sum 60 = .ok (.iload 8, 2) := dk_21 8 (dk_at dksX0_sum_2 12 rfl rfl)
theorem dX0_sum_62 : decode cX0_sum 62 = .ok (.iadd, 1) := dk_96 (dk_at dksX0_sum_2 14 rfl rfl)
theorem dX0_sum_63 : decode cX0_sum 63 = .ok (.laload, 1) := dk_47 (dk_at dksX0_sum_2 15 rfl rfl)
theorem dX0_sum_64 : decode cX0_sum 64 = .ok (.lconst 0, 1) := dk_9 (dk_at dksX0_sum_2 16 rfl rfl)
theorem dX0_sum_65 : decode cX0_sum 65 = .ok (.lcmp, 1) := dk_148 (dk_at dksX0_sum_2 17 rfl rfl)
theorem dX0_sum_66 : decode cX0_sum 66 = .ok (.ifCond .le 40, 3) := dk_158 0 40 (dk_at dksX0_sum_2 18 rfl rfl)
theorem dX0_sum_69 : decode cX0_sum 69 = .ok (.aload_n 0, 1) := dk_42 (dk_at dksX0_sum_2 21 rfl rfl)
theorem dX0_sum_70 : decode cX0_sum 70 = .ok (.iload 4, 2) := dk_21 4 (dk_at dksX0_sum_2 22 rfl rfl)
theorem dX0_sum_72 : decode cX0_sum 72 = .ok (.iload 7, 2) := dk_21 7 (dk_at dksX0_sum_3 0 rfl rfl)
theorem dX0_sum_74 : decode cX0_sum 74 = .ok (.iload 8, 2) := dk_21 8 (dk_at dksX0_sum_3 2 rfl rfl)
theorem dX0_sum_76 : decode cX0_sum 76 = .ok (.iconst 0, 1) := dk_3 (dk_at dksX0_sum_3 4 rfl rfl)
theorem dX0_sum_77 : decode cX0_sum 77 = .ok (.iload_n 1, 1) := dk_27 (dk_at dksX0_sum_3 5 rfl rfl)
theorem dX0_sum_78 : decode cX0_sum 78 = .ok (.iload_n 2, 1) := dk_28 (dk_at dksX0_sum_3 6 rfl rfl)
theorem dX0_sum_79 : decode cX0_sum 79 = .ok (.invokevirtual 381, 3) := dk_182 1 125 (dk_at dksX0_sum_3 7 rfl rfl)
theorem dX0_sum_82 : decode cX0_sum 82 = .ok (.ifCond .eq 24, 3) := dk_153 0 24 (dk_at dksX0_sum_3 10 rfl rfl)
theorem dX0_sum_85 : decode cX0_sum 85 = .ok (.lload 5, 2) := dk_22 5 (dk_at dksX0_sum_3 13 rfl rfl)
theorem dX0_sum_87 : decode cX0_sum 87 = .ok (.aload_n 0, 1) := dk_42 (dk_at dksX0_sum_3 15 rfl rfl)
theorem dX0_sum_88 : decode cX0_sum 88 = .ok (.getfield 68, 3) := dk_180 0 68 (dk_at dksX0_sum_3 16 rfl rfl)
theorem dX0_sum_91 : decode cX0_sum 91 = .ok (.iload 4, 2) := dk_21 4 (dk_at dksX0_sum_3 19 rfl rfl)
theorem dX0_sum_93 : decode cX0_sum 93 = .ok (.aaload, 1) := dk_50 (dk_at dksX0_sum_3 21 rfl rfl)
theorem dX0_sum_94 : decode cX0_sum 94 = .ok (.bipush 32, 2) := dk_16 32 (dk_at dksX0_sum_3 22 rfl rfl)
theorem dX0_sum_96 : decode cX0_sum 96 = .ok (.iload 7, 2) := dk_21 7 (dk_at dksX0_sum_4 0 rfl rfl)
theorem dX0_sum_98 : decode cX0_sum 98 = .ok (.imul, 1) := dk_104 (dk_at dksX0_sum_4 2 rfl rfl)
theorem dX0_sum_99 : decode cX0_sum 99 = .ok (.iload 8, 2) := dk_21 8 (dk_at dksX0_sum_4 3 rfl rfl)
theorem dX0_sum_101 : decode cX0_sum 101 = .ok (.iadd, 1) := dk_96 (dk_at dksX0_sum_4 5 rfl rfl)
theorem dX0_sum_102 : decode cX0_sum 102 = .ok (.laload, 1) := dk_47 (dk_at dksX0_sum_4 6 rfl rfl)
theorem dX0_sum_103 : decode cX0_sum 103 = .ok (.ladd, 1) := dk_97 (dk_at dksX0_sum_4 7 rfl rfl)
theorem dX0_sum_104 : decode cX0_sum 104 = .ok (.lstore 5, 2) := dk_55 5 (dk_at dksX0_sum_4 8 rfl rfl)
theorem dX0_sum_106 : decode cX0_sum 106 = .ok (.iinc 8 1, 3) := dk_132 8 1 (dk_at dksX0_sum_4 10 rfl rfl)
theorem dX0_sum_109 : decode cX0_sum 109 = .ok (.goto (-67), 3) := dk_167 255 189 (dk_at dksX0_sum_4 13 rfl rfl)
theorem dX0_sum_112 : decode cX0_sum 112 = .ok (.iinc 7 1, 3) := dk_132 7 1 (dk_at dksX0_sum_4 16 rfl rfl)
theorem dX0_sum_115 : decode cX0_sum 115 = .ok (.goto (-82), 3) := dk_167 255 174 (dk_at dksX0_sum_4 19 rfl rfl)
theorem dX0_sum_118 : decode cX0_sum 118 = .ok (.lload 5, 2) := dk_22 5 (dk_at dksX0_sum_4 22 rfl rfl)
theorem dX0_sum_120 : decode cX0_sum 120 = .ok (.lreturn, 1) := dk_173 (dk_at dksX0_sum_5 0 rfl rfl)
abbrev cX0_fill : ByteArray := prog_1_method_62_code
def yX0_fill : MethodName := ⟨RX0, "fill", "(IZ)V"⟩
def dkwX0_fill_8 : List UInt8 := [132, 4, 1, 167, 255, 79, 177]
abbrev dktX0_fill_8 : List UInt8 := dkwX0_fill_8 ++ []
def dkwX0_fill_7 : List UInt8 := [50, 16, 32, 21, 5, 104, 21, 6, 96, 22, 7, 80, 132, 6, 1, 167, 255, 115, 132, 5, 1, 167, 255, 100]
abbrev dktX0_fill_7 : List UInt8 := dkwX0_fill_7 ++ dktX0_fill_8
def dkwX0_fill_6 : List UInt8 := [16, 32, 21, 9, 104, 21, 5, 96, 47, 97, 55, 7, 132, 9, 1, 167, 255, 182, 42, 180, 0, 68, 21, 4]
abbrev dktX0_fill_6 : List UInt8 := dkwX0_fill_6 ++ dktX0_fill_7
def dkwX0_fill_5 : List UInt8 := [21, 5, 21, 6, 27, 28, 182, 1, 125, 153, 0, 26, 22, 7, 42, 180, 0, 68, 21, 4, 4, 100, 50]
abbrev dktX0_fill_5 : List UInt8 := dkwX0_fill_5 ++ dktX0_fill_6
def dkwX0_fill_4 : List UInt8 := [4, 100, 50, 16, 32, 21, 9, 104, 21, 5, 96, 47, 9, 148, 158, 0, 45, 42, 21, 4, 4, 100, 21, 9]
abbrev dktX0_fill_4 : List UInt8 := dkwX0_fill_4 ++ dktX0_fill_5
def dkwX0_fill_3 : List UInt8 := [167, 0, 4, 9, 55, 7, 167, 0, 83, 3, 54, 9, 21, 9, 29, 162, 0, 74, 42, 180, 0, 68, 21, 4]
abbrev dktX0_fill_3 : List UInt8 := dkwX0_fill_3 ++ dktX0_fill_4
def dkwX0_fill_2 : List UInt8 := [42, 21, 4, 21, 6, 182, 1, 122, 153, 0, 103, 21, 4, 154, 0, 18, 21, 5, 154, 0, 7, 10]
abbrev dktX0_fill_2 : List UInt8 := dkwX0_fill_2 ++ dktX0_fill_3
def dkwX0_fill_1 : List UInt8 := [162, 0, 171, 3, 54, 5, 21, 5, 29, 162, 0, 156, 3, 54, 6, 21, 6, 29, 162, 0, 141, 9, 55, 7]
abbrev dktX0_fill_1 : List UInt8 := dkwX0_fill_1 ++ dktX0_fill_2
def dkwX0_fill_0 : List UInt8 := [4, 42, 182, 0, 162, 180, 0, 166, 120, 62, 3, 54, 4, 21, 4, 42, 182, 0, 162, 180, 0, 175]
abbrev dktX0_fill_0 : List UInt8 := dkwX0_fill_0 ++ dktX0_fill_1
theorem dksX0_fill_0 : cX0_fill.data.toList.drop 0 = dktX0_fill_0 := by decide +kernel
theorem dksX0_fill_1 : cX0_fill.data.toList.drop 22 = dktX0_fill_1 := dk_seg dksX0_fill_0 22 rfl rfl
theorem dksX0_fill_2 : cX0_fill.data.toList.drop 46 = dktX0_fill_2 := dk_seg dksX0_fill_1 24 rfl rfl
theorem dksX0_fill_3 : cX0_fill.data.toList.drop 68 = dktX0_fill_3 := dk_seg dksX0_fill_2 22 rfl rfl
theorem dksX0_fill_4 : cX0_fill.data.toList.drop 92 = dktX0_fill_4 := dk_seg dksX0_fill_3 24 rfl rfl
theorem dksX0_fill_5 : cX0_fill.data.toList.drop 116 = dktX0_fill_5 := dk_seg dksX0_fill_4 24 rfl rfl
theorem dksX0_fill_6 : cX0_fill.data.toList.drop 139 = dktX0_fill_6 := dk_seg dksX0_fill_5 23 rfl rfl
theorem dksX0_fill_7 : cX0_fill.data.toList.drop 163 = dktX0_fill_7 := dk_seg dksX0_fill_6 24 rfl rfl
theorem dksX0_fill_8 : cX0_fill.data.toList.drop 187 = dktX0_fill_8 := dk_seg dksX0_fill_7 24 rfl rfl
theorem dX0_fill_0 : decode cX0_fill 0 = .ok (.iconst 1, 1) := dk_4 (dk_at dksX0_fill_0 0 rfl rfl)
theorem dX0_fill_1 : decode cX0_fill 1 = .ok (.aload_n 0, 1) := dk_42 (dk_at dksX0_fill_0 1 rfl rfl)
theorem dX0_fill_2 : decode cX0_fill 2 = .ok (.invokevirtual 162, 3) := dk_182 0 162 (dk_at dksX0_fill_0 2 rfl rfl)
theorem dX0_fill_5 : decode cX0_fill 5 = .ok (.getfield 166, 3) := dk_180 0 166 (dk_at dksX0_fill_0 5 rfl rfl)
theorem dX0_fill_8 : decode cX0_fill 8 = .ok (.ishl, 1) := dk_120 (dk_at dksX0_fill_0 8 rfl rfl)
theorem dX0_fill_9 : decode cX0_fill 9 = .ok (.istore_n 3, 1) := dk_62 (dk_at dksX0_fill_0 9 rfl rfl)
theorem dX0_fill_10 : decode cX0_fill 10 = .ok (.iconst 0, 1) := dk_3 (dk_at dksX0_fill_0 10 rfl rfl)
theorem dX0_fill_11 : decode cX0_fill 11 = .ok (.istore 4, 2) := dk_54 4 (dk_at dksX0_fill_0 11 rfl rfl)
theorem dX0_fill_13 : decode cX0_fill 13 = .ok (.iload 4, 2) := dk_21 4 (dk_at dksX0_fill_0 13 rfl rfl)
theorem dX0_fill_15 : decode cX0_fill 15 = .ok (.aload_n 0, 1) := dk_42 (dk_at dksX0_fill_0 15 rfl rfl)
theorem dX0_fill_16 : decode cX0_fill 16 = .ok (.invokevirtual 162, 3) := dk_182 0 162 (dk_at dksX0_fill_0 16 rfl rfl)
theorem dX0_fill_19 : decode cX0_fill 19 = .ok (.getfield 175, 3) := dk_180 0 175 (dk_at dksX0_fill_0 19 rfl rfl)
theorem dX0_fill_22 : decode cX0_fill 22 = .ok (.if_icmp .ge 171, 3) := dk_162 0 171 (dk_at dksX0_fill_1 0 rfl rfl)
theorem dX0_fill_25 : decode cX0_fill 25 = .ok (.iconst 0, 1) := dk_3 (dk_at dksX0_fill_1 3 rfl rfl)
theorem dX0_fill_26 : decode cX0_fill 26 = .ok (.istore 5, 2) := dk_54 5 (dk_at dksX0_fill_1 4 rfl rfl)
theorem dX0_fill_28 : decode cX0_fill 28 = .ok (.iload 5, 2) := dk_21 5 (dk_at dksX0_fill_1 6 rfl rfl)
theorem dX0_fill_30 : decode cX0_fill 30 = .ok (.iload_n 3, 1) := dk_29 (dk_at dksX0_fill_1 8 rfl rfl)
theorem dX0_fill_31 : decode cX0_fill 31 = .ok (.if_icmp .ge 156, 3) := dk_162 0 156 (dk_at dksX0_fill_1 9 rfl rfl)
theorem dX0_fill_34 : decode cX0_fill 34 = .ok (.iconst 0, 1) := dk_3 (dk_at dksX0_fill_1 12 rfl rfl)
theorem dX0_fill_35 : decode cX0_fill 35 = .ok (.istore 6, 2) := dk_54 6 (dk_at dksX0_fill_1 13 rfl rfl)
theorem dX0_fill_37 : decode cX0_fill 37 = .ok (.iload 6, 2) := dk_21 6 (dk_at dksX0_fill_1 15 rfl rfl)
theorem dX0_fill_39 : decode cX0_fill 39 = .ok (.iload_n 3, 1) := dk_29 (dk_at dksX0_fill_1 17 rfl rfl)
theorem dX0_fill_40 : decode cX0_fill 40 = .ok (.if_icmp .ge 141, 3) := dk_162 0 141 (dk_at dksX0_fill_1 18 rfl rfl)
theorem dX0_fill_43 : decode cX0_fill 43 = .ok (.lconst 0, 1) := dk_9 (dk_at dksX0_fill_1 21 rfl rfl)
theorem dX0_fill_44 : decode cX0_fill 44 = .ok (.lstore 7, 2) := dk_55 7 (dk_at dksX0_fill_1 22 rfl rfl)
theorem dX0_fill_46 : decode cX0_fill 46 = .ok (.aload_n 0, 1) := dk_42 (dk_at dksX0_fill_2 0 rfl rfl)
theorem dX0_fill_47 : decode cX0_fill 47 = .ok (.iload 4, 2) := dk_21 4 (dk_at dksX0_fill_2 1 rfl rfl)
theorem dX0_fill_49 : decode cX0_fill 49 = .ok (.iload 6, 2) := dk_21 6 (dk_at dksX0_fill_2 3 rfl rfl)
theorem dX0_fill_51 : decode cX0_fill 51 = .ok (.invokevirtual 378, 3) := dk_182 1 122 (dk_at dksX0_fill_2 5 rfl rfl)
theorem dX0_fill_54 : decode cX0_fill 54 = .ok (.ifCond .eq 103, 3) := dk_153 0 103 (dk_at dksX0_fill_2 8 rfl rfl)
theorem dX0_fill_57 : decode cX0_fill 57 = .ok (.iload 4, 2) := dk_21 4 (dk_at dksX0_fill_2 11 rfl rfl)
theorem dX0_fill_59 : decode cX0_fill 59 = .ok (.ifCond .ne 18, 3) := dk_154 0 18 (dk_at dksX0_fill_2 13 rfl rfl)
theorem dX0_fill_62 : decode cX0_fill 62 = .ok (.iload 5, 2) := dk_21 5 (dk_at dksX0_fill_2 16 rfl rfl)
theorem dX0_fill_64 : decode cX0_fill 64 = .ok (.ifCond .ne 7, 3) := dk_154 0 7 (dk_at dksX0_fill_2 18 rfl rfl)
theorem dX0_fill_67 : decode cX0_fill 67 = .ok (.lconst 1, 1) := dk_10 (dk_at dksX0_fill_2 21 rfl rfl)
theorem dX0_fill_68 : decode cX0_fill 68 = .ok (.goto 4, 3) := dk_167 0 4 (dk_at dksX0_fill_3 0 rfl rfl)
theorem dX0_fill_71 : decode cX0_fill 71 = .ok (.lconst 0, 1) := dk_9 (dk_at dksX0_fill_3 3 rfl rfl)
theorem dX0_fill_72 : decode cX0_fill 72 = .ok (.lstore 7, 2) := dk_55 7 (dk_at dksX0_fill_3 4 rfl rfl)
theorem dX0_fill_74 : decode cX0_fill 74 = .ok (.goto 83, 3) := dk_167 0 83 (dk_at dksX0_fill_3 6 rfl rfl)
theorem dX0_fill_77 : decode cX0_fill 77 = .ok (.iconst 0, 1) := dk_3 (dk_at dksX0_fill_3 9 rfl rfl)
theorem dX0_fill_78 : decode cX0_fill 78 = .ok (.istore 9, 2) := dk_54 9 (dk_at dksX0_fill_3 10 rfl rfl)
theorem dX0_fill_80 : decode cX0_fill 80 = .ok (.iload 9, 2) := dk_21 9 (dk_at dksX0_fill_3 12 rfl rfl)
theorem dX0_fill_82 : decode cX0_fill 82 = .ok (.iload_n 3, 1) := dk_29 (dk_at dksX0_fill_3 14 rfl rfl)
theorem dX0_fill_83 : decode cX0_fill 83 = .ok (.if_icmp .ge 74, 3) := dk_162 0 74 (dk_at dksX0_fill_3 15 rfl rfl)
theorem dX0_fill_86 : decode cX0_fill 86 = .ok (.aload_n 0, 1) := dk_42 (dk_at dksX0_fill_3 18 rfl rfl)
theorem dX0_fill_87 : decode cX0_fill 87 = .ok (.getfield 68, 3) := dk_180 0 68 (dk_at dksX0_fill_3 19 rfl rfl)
theorem dX0_fill_90 : decode cX0_fill 90 = .ok (.iload 4, 2) := dk_21 4 (dk_at dksX0_fill_3 22 rfl rfl)
theorem dX0_fill_92 : decode cX0_fill 92 = .ok (.iconst 1, 1) := dk_4 (dk_at dksX0_fill_4 0 rfl rfl)
theorem dX0_fill_93 : decode cX0_fill 93 = .ok (.isub, 1) := dk_100 (dk_at dksX0_fill_4 1 rfl rfl)
theorem dX0_fill_94 : decode cX0_fill 94 = .ok (.aaload, 1) := dk_50 (dk_at dksX0_fill_4 2 rfl rfl)
theorem dX0_fill_95 : decode cX0_fill 95 = .ok (.bipush 32, 2) := dk_16 32 (dk_at dksX0_fill_4 3 rfl rfl)
theorem dX0_fill_97 : decode cX0_fill 97 = .ok (.iload 9, 2) := dk_21 9 (dk_at dksX0_fill_4 5 rfl rfl)
theorem dX0_fill_99 : decode cX0_fill 99 = .ok (.imul, 1) := dk_104 (dk_at dksX0_fill_4 7 rfl rfl)
theorem dX0_fill_100 : decode cX0_fill 100 = .ok (.iload 5, 2) := dk_21 5 (dk_at dksX0_fill_4 8 rfl rfl)
theorem dX0_fill_102 : decode cX0_fill 102 = .ok (.iadd, 1) := dk_96 (dk_at dksX0_fill_4 10 rfl rfl)
theorem dX0_fill_103 : decode cX0_fill 103 = .ok (.laload, 1) := dk_47 (dk_at dksX0_fill_4 11 rfl rfl)
theorem dX0_fill_104 : decode cX0_fill 104 = .ok (.lconst 0, 1) := dk_9 (dk_at dksX0_fill_4 12 rfl rfl)
theorem dX0_fill_105 : decode cX0_fill 105 = .ok (.lcmp, 1) := dk_148 (dk_at dksX0_fill_4 13 rfl rfl)
theorem dX0_fill_106 : decode cX0_fill 106 = .ok (.ifCond .le 45, 3) := dk_158 0 45 (dk_at dksX0_fill_4 14 rfl rfl)
theorem dX0_fill_109 : decode cX0_fill 109 = .ok (.aload_n 0, 1) := dk_42 (dk_at dksX0_fill_4 17 rfl rfl)
theorem dX0_fill_110 : decode cX0_fill 110 = .ok (.iload 4, 2) := dk_21 4 (dk_at dksX0_fill_4 18 rfl rfl)
theorem dX0_fill_112 : decode cX0_fill 112 = .ok (.iconst 1, 1) := dk_4 (dk_at dksX0_fill_4 20 rfl rfl)
theorem dX0_fill_113 : decode cX0_fill 113 = .ok (.isub, 1) := dk_100 (dk_at dksX0_fill_4 21 rfl rfl)
theorem dX0_fill_114 : decode cX0_fill 114 = .ok (.iload 9, 2) := dk_21 9 (dk_at dksX0_fill_4 22 rfl rfl)
theorem dX0_fill_116 : decode cX0_fill 116 = .ok (.iload 5, 2) := dk_21 5 (dk_at dksX0_fill_5 0 rfl rfl)
theorem dX0_fill_118 : decode cX0_fill 118 = .ok (.iload 6, 2) := dk_21 6 (dk_at dksX0_fill_5 2 rfl rfl)
theorem dX0_fill_120 : decode cX0_fill 120 = .ok (.iload_n 1, 1) := dk_27 (dk_at dksX0_fill_5 4 rfl rfl)
theorem dX0_fill_121 : decode cX0_fill 121 = .ok (.iload_n 2, 1) := dk_28 (dk_at dksX0_fill_5 5 rfl rfl)
theorem dX0_fill_122 : decode cX0_fill 122 = .ok (.invokevirtual 381, 3) := dk_182 1 125 (dk_at dksX0_fill_5 6 rfl rfl)
theorem dX0_fill_125 : decode cX0_fill 125 = .ok (.ifCond .eq 26, 3) := dk_153 0 26 (dk_at dksX0_fill_5 9 rfl rfl)
theorem dX0_fill_128 : decode cX0_fill 128 = .ok (.lload 7, 2) := dk_22 7 (dk_at dksX0_fill_5 12 rfl rfl)
theorem dX0_fill_130 : decode cX0_fill 130 = .ok (.aload_n 0, 1) := dk_42 (dk_at dksX0_fill_5 14 rfl rfl)
theorem dX0_fill_131 : decode cX0_fill 131 = .ok (.getfield 68, 3) := dk_180 0 68 (dk_at dksX0_fill_5 15 rfl rfl)
theorem dX0_fill_134 : decode cX0_fill 134 = .ok (.iload 4, 2) := dk_21 4 (dk_at dksX0_fill_5 18 rfl rfl)
theorem dX0_fill_136 : decode cX0_fill 136 = .ok (.iconst 1, 1) := dk_4 (dk_at dksX0_fill_5 20 rfl rfl)
theorem dX0_fill_137 : decode cX0_fill 137 = .ok (.isub, 1) := dk_100 (dk_at dksX0_fill_5 21 rfl rfl)
theorem dX0_fill_138 : decode cX0_fill 138 = .ok (.aaload, 1) := dk_50 (dk_at dksX0_fill_5 22 rfl rfl)
theorem dX0_fill_139 : decode cX0_fill 139 = .ok (.bipush 32, 2) := dk_16 32 (dk_at dksX0_fill_6 0 rfl rfl)
theorem dX0_fill_141 : decode cX0_fill 141 = .ok (.iload 9, 2) := dk_21 9 (dk_at dksX0_fill_6 2 rfl rfl)
theorem dX0_fill_143 : decode cX0_fill 143 = .ok (.imul, 1) := dk_104 (dk_at dksX0_fill_6 4 rfl rfl)
theorem dX0_fill_144 : decode cX0_fill 144 = .ok (.iload 5, 2) := dk_21 5 (dk_at dksX0_fill_6 5 rfl rfl)
theorem dX0_fill_146 : decode cX0_fill 146 = .ok (.iadd, 1) := dk_96 (dk_at dksX0_fill_6 7 rfl rfl)
theorem dX0_fill_147 : decode cX0_fill 147 = .ok (.laload, 1) := dk_47 (dk_at dksX0_fill_6 8 rfl rfl)
theorem dX0_fill_148 : decode cX0_fill 148 = .ok (.ladd, 1) := dk_97 (dk_at dksX0_fill_6 9 rfl rfl)
theorem dX0_fill_149 : decode cX0_fill 149 = .ok (.lstore 7, 2) := dk_55 7 (dk_at dksX0_fill_6 10 rfl rfl)
theorem dX0_fill_151 : decode cX0_fill 151 = .ok (.iinc 9 1, 3) := dk_132 9 1 (dk_at dksX0_fill_6 12 rfl rfl)
theorem dX0_fill_154 : decode cX0_fill 154 = .ok (.goto (-74), 3) := dk_167 255 182 (dk_at dksX0_fill_6 15 rfl rfl)
theorem dX0_fill_157 : decode cX0_fill 157 = .ok (.aload_n 0, 1) := dk_42 (dk_at dksX0_fill_6 18 rfl rfl)
theorem dX0_fill_158 : decode cX0_fill 158 = .ok (.getfield 68, 3) := dk_180 0 68 (dk_at dksX0_fill_6 19 rfl rfl)
theorem dX0_fill_161 : decode cX0_fill 161 = .ok (.iload 4, 2) := dk_21 4 (dk_at dksX0_fill_6 22 rfl rfl)
theorem dX0_fill_163 : decode cX0_fill 163 = .ok (.aaload, 1) := dk_50 (dk_at dksX0_fill_7 0 rfl rfl)
theorem dX0_fill_164 : decode cX0_fill 164 = .ok (.bipush 32, 2) := dk_16 32 (dk_at dksX0_fill_7 1 rfl rfl)
theorem dX0_fill_166 : decode cX0_fill 166 = .ok (.iload 5, 2) := dk_21 5 (dk_at dksX0_fill_7 3 rfl rfl)
theorem dX0_fill_168 : decode cX0_fill 168 = .ok (.imul, 1) := dk_104 (dk_at dksX0_fill_7 5 rfl rfl)
theorem dX0_fill_169 : decode cX0_fill 169 = .ok (.iload 6, 2) := dk_21 6 (dk_at dksX0_fill_7 6 rfl rfl)
theorem dX0_fill_171 : decode cX0_fill 171 = .ok (.iadd, 1) := dk_96 (dk_at dksX0_fill_7 8 rfl rfl)
theorem dX0_fill_172 : decode cX0_fill 172 = .ok (.lload 7, 2) := dk_22 7 (dk_at dksX0_fill_7 9 rfl rfl)
theorem dX0_fill_174 : decode cX0_fill 174 = .ok (.lastore, 1) := dk_80 (dk_at dksX0_fill_7 11 rfl rfl)
theorem dX0_fill_175 : decode cX0_fill 175 = .ok (.iinc 6 1, 3) := dk_132 6 1 (dk_at dksX0_fill_7 12 rfl rfl)
theorem dX0_fill_178 : decode cX0_fill 178 = .ok (.goto (-141), 3) := dk_167 255 115 (dk_at dksX0_fill_7 15 rfl rfl)
theorem dX0_fill_181 : decode cX0_fill 181 = .ok (.iinc 5 1, 3) := dk_132 5 1 (dk_at dksX0_fill_7 18 rfl rfl)
theorem dX0_fill_184 : decode cX0_fill 184 = .ok (.goto (-156), 3) := dk_167 255 100 (dk_at dksX0_fill_7 21 rfl rfl)
theorem dX0_fill_187 : decode cX0_fill 187 = .ok (.iinc 4 1, 3) := dk_132 4 1 (dk_at dksX0_fill_8 0 rfl rfl)
theorem dX0_fill_190 : decode cX0_fill 190 = .ok (.goto (-177), 3) := dk_167 255 79 (dk_at dksX0_fill_8 3 rfl rfl)
theorem dX0_fill_193 : decode cX0_fill 193 = .ok (.return_, 1) := dk_177 (dk_at dksX0_fill_8 6 rfl rfl)
abbrev cX0_isPattern : ByteArray := prog_1_method_60_code
def yX0_isPattern : MethodName := ⟨RX0, "isPattern", "(II)Z"⟩
def dkwX0_isPattern_1 : List UInt8 := [180, 1, 115, 27, 182, 1, 76, 160, 0, 7, 4, 167, 0, 4, 3, 172]
abbrev dktX0_isPattern_1 : List UInt8 := dkwX0_isPattern_1 ++ []
def dkwX0_isPattern_0 : List UInt8 := [42, 42, 182, 0, 162, 182, 0, 204, 27, 182, 1, 76, 62, 28, 29, 2, 130, 126, 42, 42, 182, 0, 162]
abbrev dktX0_isPattern_0 : List UInt8 := dkwX0_isPattern_0 ++ dktX0_isPattern_1
theorem dksX0_isPattern_0 : cX0_isPattern.data.toList.drop 0 = dktX0_isPattern_0 := by decide +kernel
theorem dksX0_isPattern_1 : cX0_isPattern.data.toList.drop 23 = dktX0_isPattern_1 := dk_seg dksX0_isPattern_0 23 rfl rfl
theorem dX0_isPattern_0 : decode cX0_isPattern 0 = .ok (.aload_n 0, 1) := dk_42 (dk_at dksX0_isPattern_0 0 rfl rfl)
theorem dX0_isPattern_1 : decode cX0_isPattern 1 = .ok (.aload_n 0, 1) := dk_42 (dk_at dksX0_isPattern_0 1 rfl rfl)
theorem dX0_isPattern_2 : decode cX0_isPattern 2 = .ok (.invokevirtual 162, 3) := dk_182 0 162 (dk_at dksX0_isPattern_0 2 rfl rfl)
theorem dX0_isPattern_5 : decode cX0_isPattern 5 = .ok (.invokevirtual 204, 3) := dk_182 0 204 (dk_at dksX0_isPattern_0 5 rfl rfl)
theorem dX0_isPattern_8 : decode cX0_isPattern 8 = .ok (.iload_n 1, 1) := dk_27 (dk_at dksX0_isPattern_0 8 rfl rfl)
theorem dX0_isPattern_9 : decode cX0_isPattern 9 = .ok (.invokevirtual 332, 3) := dk_182 1 76 (dk_at dksX0_isPattern_0 9 rfl rfl)
theorem dX0_isPattern_12 : decode cX0_isPattern 12 = .ok (.istore_n 3, 1) := dk_62 (dk_at dksX0_isPattern_0 12 rfl rfl)
theorem dX0_isPattern_13 : decode cX0_isPattern 13 = .ok (.iload_n 2, 1) := dk_28 (dk_at dksX0_isPattern_0 13 rfl rfl)
theorem dX0_isPattern_14 : decode cX0_isPattern 14 = .ok (.iload_n 3, 1) := dk_29 (dk_at dksX0_isPattern_0 14 rfl rfl)
theorem dX0_isPattern_15 : decode cX0_isPattern 15 = .ok (.iconst (-1), 1) := dk_2 (dk_at dksX0_isPattern_0 15 rfl rfl)
theorem dX0_isPattern_16 : decode cX0_isPattern 16 = .ok (.ixor, 1) := dk_130 (dk_at dksX0_isPattern_0 16 rfl rfl)
theorem dX0_isPattern_17 : decode cX0_isPattern 17 = .ok (.iand, 1) := dk_126 (dk_at dksX0_isPattern_0 17 rfl rfl)
theorem dX0_isPattern_18 : decode cX0_isPattern 18 = .ok (.aload_n 0, 1) := dk_42 (dk_at dksX0_isPattern_0 18 rfl rfl)
theorem dX0_isPattern_19 : decode cX0_isPattern 19 = .ok (.aload_n 0, 1) := dk_42 (dk_at dksX0_isPattern_0 19 rfl rfl)
theorem dX0_isPattern_20 : decode cX0_isPattern 20 = .ok (.invokevirtual 162, 3) := dk_182 0 162 (dk_at dksX0_isPattern_0 20 rfl rfl)
theorem dX0_isPattern_23 : decode cX0_isPattern 23 = .ok (.getfield 371, 3) := dk_180 1 115 (dk_at dksX0_isPattern_1 0 rfl rfl)
theorem dX0_isPattern_26 : decode cX0_isPattern 26 = .ok (.iload_n 1, 1) := dk_27 (dk_at dksX0_isPattern_1 3 rfl rfl)
theorem dX0_isPattern_27 : decode cX0_isPattern 27 = .ok (.invokevirtual 332, 3) := dk_182 1 76 (dk_at dksX0_isPattern_1 4 rfl rfl)
theorem dX0_isPattern_30 : decode cX0_isPattern 30 = .ok (.if_icmp .ne 7, 3) := dk_160 0 7 (dk_at dksX0_isPattern_1 7 rfl rfl)
theorem dX0_isPattern_33 : decode cX0_isPattern 33 = .ok (.iconst 1, 1) := dk_4 (dk_at dksX0_isPattern_1 10 rfl rfl)
theorem dX0_isPattern_34 : decode cX0_isPattern 34 = .ok (.goto 4, 3) := dk_167 0 4 (dk_at dksX0_isPattern_1 11 rfl rfl)
theorem dX0_isPattern_37 : decode cX0_isPattern 37 = .ok (.iconst 0, 1) := dk_3 (dk_at dksX0_isPattern_1 14 rfl rfl)
theorem dX0_isPattern_38 : decode cX0_isPattern 38 = .ok (.ireturn, 1) := dk_172 (dk_at dksX0_isPattern_1 15 rfl rfl)
abbrev cX0_fits : ByteArray := prog_1_method_61_code
def yX0_fits : MethodName := ⟨RX0, "fits", "(IIIIIZ)Z"⟩
def dkwX0_fits_12 : List UInt8 := [154, 0, 7, 4, 167, 0, 4, 3, 172]
abbrev dktX0_fits_12 : List UInt8 := dkwX0_fits_12 ++ []
def dkwX0_fits_11 : List UInt8 := [4, 167, 0, 4, 3, 159, 0, 5, 3, 172, 132, 11, 1, 167, 255, 68, 21, 8, 21, 10, 2, 130, 126]
abbrev dktX0_fits_11 : List UInt8 := dkwX0_fits_11 ++ dktX0_fits_12
def dkwX0_fits_10 : List UInt8 := [160, 0, 7, 4, 167, 0, 4, 3, 21, 14, 182, 1, 118, 21, 8, 21, 11, 122, 4, 126, 4, 160, 0, 7]
abbrev dktX0_fits_10 : List UInt8 := dkwX0_fits_10 ++ dktX0_fits_11
def dkwX0_fits_9 : List UInt8 := [126, 96, 54, 14, 42, 182, 0, 233, 42, 182, 0, 233, 180, 1, 29, 29, 21, 11, 122, 4, 126, 4]
abbrev dktX0_fits_9 : List UInt8 := dkwX0_fits_9 ++ dktX0_fits_10
def dkwX0_fits_8 : List UInt8 := [167, 0, 9, 29, 21, 12, 122, 4, 126, 96, 21, 13, 156, 0, 7, 3, 167, 0, 9, 29, 21, 13, 122, 4]
abbrev dktX0_fits_8 : List UInt8 := dkwX0_fits_8 ++ dktX0_fits_9
def dkwX0_fits_7 : List UInt8 := [2, 54, 13, 28, 21, 11, 122, 4, 126, 21, 4, 21, 11, 122, 4, 126, 96, 21, 12, 156, 0, 7, 3]
abbrev dktX0_fits_7 : List UInt8 := dkwX0_fits_7 ++ dktX0_fits_8
def dkwX0_fits_6 : List UInt8 := [162, 0, 10, 21, 11, 4, 96, 167, 0, 18, 42, 182, 0, 162, 182, 1, 25, 153, 0, 7, 3, 167, 0, 4]
abbrev dktX0_fits_6 : List UInt8 := dkwX0_fits_6 ++ dktX0_fits_7
def dkwX0_fits_5 : List UInt8 := [182, 1, 25, 153, 0, 10, 21, 9, 4, 100, 167, 0, 4, 2, 54, 12, 21, 11, 4, 96, 21, 9]
abbrev dktX0_fits_5 : List UInt8 := dkwX0_fits_5 ++ dktX0_fits_6
def dkwX0_fits_4 : List UInt8 := [4, 126, 154, 0, 6, 167, 0, 168, 21, 11, 158, 0, 10, 21, 11, 4, 100, 167, 0, 21, 42, 182, 0, 162]
abbrev dktX0_fits_4 : List UInt8 := dkwX0_fits_4 ++ dktX0_fits_5
def dkwX0_fits_3 : List UInt8 := [180, 0, 247, 27, 182, 1, 76, 54, 10, 3, 54, 11, 21, 11, 21, 9, 162, 0, 187, 21, 7, 21, 11, 122]
abbrev dktX0_fits_3 : List UInt8 := dkwX0_fits_3 ++ dktX0_fits_4
def dkwX0_fits_2 : List UInt8 := [2, 130, 126, 159, 0, 5, 3, 172, 42, 182, 0, 162, 180, 0, 166, 54, 9, 42, 42, 182, 0, 162]
abbrev dktX0_fits_2 : List UInt8 := dkwX0_fits_2 ++ dktX0_fits_3
def dkwX0_fits_1 : List UInt8 := [21, 5, 27, 182, 1, 76, 54, 8, 42, 42, 182, 0, 162, 180, 1, 115, 27, 182, 1, 76, 21, 8, 21, 7]
abbrev dktX0_fits_1 : List UInt8 := dkwX0_fits_1 ++ dktX0_fits_2
def dkwX0_fits_0 : List UInt8 := [42, 42, 182, 0, 162, 182, 0, 204, 27, 182, 1, 76, 54, 7, 21, 6, 153, 0, 7, 29, 167, 0, 10, 42]
abbrev dktX0_fits_0 : List UInt8 := dkwX0_fits_0 ++ dktX0_fits_1
theorem dksX0_fits_0 : cX0_fits.data.toList.drop 0 = dktX0_fits_0 := by decide +kernel
theorem dksX0_fits_1 : cX0_fits.data.toList.drop 24 = dktX0_fits_1 := dk_seg dksX0_fits_0 24 rfl rfl
theorem dksX0_fits_2 : cX0_fits.data.toList.drop 48 = dktX0_fits_2 := dk_seg dksX0_fits_1 24 rfl rfl
theorem dksX0_fits_3 : cX0_fits.data.toList.drop 70 = dktX0_fits_3 := dk_seg dksX0_fits_2 22 rfl rfl
theorem dksX0_fits_4 : cX0_fits.data.toList.drop 94 = dktX0_fits_4 := dk_seg dksX0_fits_3 24 rfl rfl
theorem dksX0_fits_5 : cX0_fits.data.toList.drop 118 = dktX0_fits_5 := dk_seg dksX0_fits_4 24 rfl rfl
theorem dksX0_fits_6 : cX0_fits.data.toList.drop 140 = dktX0_fits_6 := dk_seg dksX0_fits_5 22 rfl rfl
theorem dksX0_fits_7 : cX0_fits.data.toList.drop 164 = dktX0_fits_7 := dk_seg dksX0_fits_6 24 rfl rfl
theorem dksX0_fits_8 : cX0_fits.data.toList.drop 187 = dktX0_fits_8 := dk_seg dksX0_fits_7 23 rfl rfl
theorem dksX0_fits_9 : cX0_fits.data.toList.drop 211 = dktX0_fits_9 := dk_seg dksX0_fits_8 24 rfl rfl
theorem dksX0_fits_10 : cX0_fits.data.toList.drop 233 = dktX0_fits_10 := dk_seg dksX0_fits_9 22 rfl rfl
theorem dksX0_fits_11 : cX0_fits.data.toList.drop 257 = dktX0_fits_11 := dk_seg dksX0_fits_10 24 rfl rfl
theorem dksX0_fits_12 : cX0_fits.data.toList.drop 280 = dktX0_fits_12 := dk_seg dksX0_fits_11 23 rfl rfl
theorem dX0_fits_0 : decode cX0_fits 0 = .ok (.aload_n 0, 1) := dk_42 (dk_at dksX0_fits_0 0 rfl rfl)
theorem dX0_fits_1 : decode cX0_fits 1 = .ok (.aload_n 0, 1) := dk_42 (dk_at dksX0_fits_0 1 rfl rfl)
theorem dX0_fits_2 : decode cX0_fits 2 = .ok (.invokevirtual 162, 3) := dk_182 0 162 (dk_at dksX0_fits_0 2 rfl rfl)
theorem dX0_fits_5 : decode cX0_fits 5 = .ok (.invokevirtual 204, 3) := dk_182 0 204 (dk_at dksX0_fits_0 5 rfl rfl)
theorem dX0_fits_8 : decode cX0_fits 8 = .ok (.iload_n 1, 1) := dk_27 (dk_at dksX0_fits_0 8 rfl rfl)
theorem dX0_fits_9 : decode cX0_fits 9 = .ok (.invokevirtual 332, 3) := dk_182 1 76 (dk_at dksX0_fits_0 9 rfl rfl)
theorem dX0_fits_12 : decode cX0_fits 12 = .ok (.istore 7, 2) := dk_54 7 (dk_at dksX0_fits_0 12 rfl rfl)
theorem dX0_fits_14 : decode cX0_fits 14 = .ok (.iload 6, 2) := dk_21 6 (dk_at dksX0_fits_0 14 rfl rfl)
theorem dX0_fits_16 : decode cX0_fits 16 = .ok (.ifCond .eq 7, 3) := dk_153 0 7 (dk_at dksX0_fits_0 16 rfl rfl)
theorem dX0_fits_19 : decode cX0_fits 19 = .ok (.iload_n 3, 1) := dk_29 (dk_at dksX0_fits_0 19 rfl rfl)
theorem dX0_fits_20 : decode cX0_fits 20 = .ok (.goto 10, 3) := dk_167 0 10 (dk_at dksX0_fits_0 20 rfl rfl)
theorem dX0_fits_23 : decode cX0_fits 23 = .ok (.aload_n 0, 1) := dk_42 (dk_at dksX0_fits_0 23 rfl rfl)
theorem dX0_fits_24 : decode cX0_fits 24 = .ok (.iload 5, 2) := dk_21 5 (dk_at dksX0_fits_1 0 rfl rfl)
theorem dX0_fits_26 : decode cX0_fits 26 = .ok (.iload_n 1, 1) := dk_27 (dk_at dksX0_fits_1 2 rfl rfl)
theorem dX0_fits_27 : decode cX0_fits 27 = .ok (.invokevirtual 332, 3) := dk_182 1 76 (dk_at dksX0_fits_1 3 rfl rfl)
theorem dX0_fits_30 : decode cX0_fits 30 = .ok (.istore 8, 2) := dk_54 8 (dk_at dksX0_fits_1 6 rfl rfl)
theorem dX0_fits_32 : decode cX0_fits 32 = .ok (.aload_n 0, 1) := dk_42 (dk_at dksX0_fits_1 8 rfl rfl)
theorem dX0_fits_33 : decode cX0_fits 33 = .ok (.aload_n 0, 1) := dk_42 (dk_at dksX0_fits_1 9 rfl rfl)
theorem dX0_fits_34 : decode cX0_fits 34 = .ok (.invokevirtual 162, 3) := dk_182 0 162 (dk_at dksX0_fits_1 10 rfl rfl)
theorem dX0_fits_37 : decode cX0_fits 37 = .ok (.getfield 371, 3) := dk_180 1 115 (dk_at dksX0_fits_1 13 rfl rfl)
theorem dX0_fits_40 : decode cX0_fits 40 = .ok (.iload_n 1, 1) := dk_27 (dk_at dksX0_fits_1 16 rfl rfl)
theorem dX0_fits_41 : decode cX0_fits 41 = .ok (.invokevirtual 332, 3) := dk_182 1 76 (dk_at dksX0_fits_1 17 rfl rfl)
theorem dX0_fits_44 : decode cX0_fits 44 = .ok (.iload 8, 2) := dk_21 8 (dk_at dksX0_fits_1 20 rfl rfl)
theorem dX0_fits_46 : decode cX0_fits 46 = .ok (.iload 7, 2) := dk_21 7 (dk_at dksX0_fits_1 22 rfl rfl)
theorem dX0_fits_48 : decode cX0_fits 48 = .ok (.iconst (-1), 1) := dk_2 (dk_at dksX0_fits_2 0 rfl rfl)
theorem dX0_fits_49 : decode cX0_fits 49 = .ok (.ixor, 1) := dk_130 (dk_at dksX0_fits_2 1 rfl rfl)
theorem dX0_fits_50 : decode cX0_fits 50 = .ok (.iand, 1) := dk_126 (dk_at dksX0_fits_2 2 rfl rfl)
theorem dX0_fits_51 : decode cX0_fits 51 = .ok (.if_icmp .eq 5, 3) := dk_159 0 5 (dk_at dksX0_fits_2 3 rfl rfl)
theorem dX0_fits_54 : decode cX0_fits 54 = .ok (.iconst 0, 1) := dk_3 (dk_at dksX0_fits_2 6 rfl rfl)
theorem dX0_fits_55 : decode cX0_fits 55 = .ok (.ireturn, 1) := dk_172 (dk_at dksX0_fits_2 7 rfl rfl)
theorem dX0_fits_56 : decode cX0_fits 56 = .ok (.aload_n 0, 1) := dk_42 (dk_at dksX0_fits_2 8 rfl rfl)
theorem dX0_fits_57 : decode cX0_fits 57 = .ok (.invokevirtual 162, 3) := dk_182 0 162 (dk_at dksX0_fits_2 9 rfl rfl)
theorem dX0_fits_60 : decode cX0_fits 60 = .ok (.getfield 166, 3) := dk_180 0 166 (dk_at dksX0_fits_2 12 rfl rfl)
theorem dX0_fits_63 : decode cX0_fits 63 = .ok (.istore 9, 2) := dk_54 9 (dk_at dksX0_fits_2 15 rfl rfl)
theorem dX0_fits_65 : decode cX0_fits 65 = .ok (.aload_n 0, 1) := dk_42 (dk_at dksX0_fits_2 17 rfl rfl)
theorem dX0_fits_66 : decode cX0_fits 66 = .ok (.aload_n 0, 1) := dk_42 (dk_at dksX0_fits_2 18 rfl rfl)
theorem dX0_fits_67 : decode cX0_fits 67 = .ok (.invokevirtual 162, 3) := dk_182 0 162 (dk_at dksX0_fits_2 19 rfl rfl)
theorem dX0_fits_70 : decode cX0_fits 70 = .ok (.getfield 247, 3) := dk_180 0 247 (dk_at dksX0_fits_3 0 rfl rfl)
theorem dX0_fits_73 : decode cX0_fits 73 = .ok (.iload_n 1, 1) := dk_27 (dk_at dksX0_fits_3 3 rfl rfl)
theorem dX0_fits_74 : decode cX0_fits 74 = .ok (.invokevirtual 332, 3) := dk_182 1 76 (dk_at dksX0_fits_3 4 rfl rfl)
theorem dX0_fits_77 : decode cX0_fits 77 = .ok (.istore 10, 2) := dk_54 10 (dk_at dksX0_fits_3 7 rfl rfl)
theorem dX0_fits_79 : decode cX0_fits 79 = .ok (.iconst 0, 1) := dk_3 (dk_at dksX0_fits_3 9 rfl rfl)
theorem dX0_fits_80 : decode cX0_fits 80 = .ok (.istore 11, 2) := dk_54 11 (dk_at dksX0_fits_3 10 rfl rfl)
theorem dX0_fits_82 : decode cX0_fits 82 = .ok (.iload 11, 2) := dk_21 11 (dk_at dksX0_fits_3 12 rfl rfl)
theorem dX0_fits_84 : decode cX0_fits 84 = .ok (.iload 9, 2) := dk_21 9 (dk_at dksX0_fits_3 14 rfl rfl)
theorem dX0_fits_86 : decode cX0_fits 86 = .ok (.if_icmp .ge 187, 3) := dk_162 0 187 (dk_at dksX0_fits_3 16 rfl rfl)
theorem dX0_fits_89 : decode cX0_fits 89 = .ok (.iload 7, 2) := dk_21 7 (dk_at dksX0_fits_3 19 rfl rfl)
theorem dX0_fits_91 : decode cX0_fits 91 = .ok (.iload 11, 2) := dk_21 11 (dk_at dksX0_fits_3 21 rfl rfl)
theorem dX0_fits_93 : decode cX0_fits 93 = .ok (.ishr, 1) := dk_122 (dk_at dksX0_fits_3 23 rfl rfl)
theorem dX0_fits_94 : decode cX0_fits 94 = .ok (.iconst 1, 1) := dk_4 (dk_at dksX0_fits_4 0 rfl rfl)
theorem dX0_fits_95 : decode cX0_fits 95 = .ok (.iand, 1) := dk_126 (dk_at dksX0_fits_4 1 rfl rfl)
theorem dX0_fits_96 : decode cX0_fits 96 = .ok (.ifCond .ne 6, 3) := dk_154 0 6 (dk_at dksX0_fits_4 2 rfl rfl)
theorem dX0_fits_99 : decode cX0_fits 99 = .ok (.goto 168, 3) := dk_167 0 168 (dk_at dksX0_fits_4 5 rfl rfl)
theorem dX0_fits_102 : decode cX0_fits 102 = .ok (.iload 11, 2) := dk_21 11 (dk_at dksX0_fits_4 8 rfl rfl)
theorem dX0_fits_104 : decode cX0_fits 104 = .ok (.ifCond .le 10, 3) := dk_158 0 10 (dk_at dksX0_fits_4 10 rfl rfl)
theorem dX0_fits_107 : decode cX0_fits 107 = .ok (.iload 11, 2) := dk_21 11 (dk_at dksX0_fits_4 13 rfl rfl)
theorem dX0_fits_109 : decode cX0_fits 109 = .ok (.iconst 1, 1) := dk_4 (dk_at dksX0_fits_4 15 rfl rfl)
theorem dX0_fits_110 : decode cX0_fits 110 = .ok (.isub, 1) := dk_100 (dk_at dksX0_fits_4 16 rfl rfl)
theorem dX0_fits_111 : decode cX0_fits 111 = .ok (.goto 21, 3) := dk_167 0 21 (dk_at dksX0_fits_4 17 rfl rfl)
theorem dX0_fits_114 : decode cX0_fits 114 = .ok (.aload_n 0, 1) := dk_42 (dk_at dksX0_fits_4 20 rfl rfl)
theorem dX0_fits_115 : decode cX0_fits 115 = .ok (.invokevirtual 162, 3) := dk_182 0 162 (dk_at dksX0_fits_4 21 rfl rfl)
theorem dX0_fits_118 : decode cX0_fits 118 = .ok (.invokevirtual 281, 3) := dk_182 1 25 (dk_at dksX0_fits_5 0 rfl rfl)
theorem dX0_fits_121 : decode cX0_fits 121 = .ok (.ifCond .eq 10, 3) := dk_153 0 10 (dk_at dksX0_fits_5 3 rfl rfl)
theorem dX0_fits_124 : decode cX0_fits 124 = .ok (.iload 9, 2) := dk_21 9 (dk_at dksX0_fits_5 6 rfl rfl)
theorem dX0_fits_126 : decode cX0_fits 126 = .ok (.iconst 1, 1) := dk_4 (dk_at dksX0_fits_5 8 rfl rfl)
theorem dX0_fits_127 : decode cX0_fits 127 = .ok (.isub, 1) := dk_100 (dk_at dksX0_fits_5 9 rfl rfl)
theorem dX0_fits_128 : decode cX0_fits 128 = .ok (.goto 4, 3) := dk_167 0 4 (dk_at dksX0_fits_5 10 rfl rfl)
theorem dX0_fits_131 : decode cX0_fits 131 = .ok (.iconst (-1), 1) := dk_2 (dk_at dksX0_fits_5 13 rfl rfl)
theorem dX0_fits_132 : decode cX0_fits 132 = .ok (.istore 12, 2) := dk_54 12 (dk_at dksX0_fits_5 14 rfl rfl)
theorem dX0_fits_134 : decode cX0_fits 134 = .ok (.iload 11, 2) := dk_21 11 (dk_at dksX0_fits_5 16 rfl rfl)
theorem dX0_fits_136 : decode cX0_fits 136 = .ok (.iconst 1, 1) := dk_4 (dk_at dksX0_fits_5 18 rfl rfl)
theorem dX0_fits_137 : decode cX0_fits 137 = .ok (.iadd, 1) := dk_96 (dk_at dksX0_fits_5 19 rfl rfl)
theorem dX0_fits_138 : decode cX0_fits 138 = .ok (.iload 9, 2) := dk_21 9 (dk_at dksX0_fits_5 20 rfl rfl)
theorem dX0_fits_140 : decode cX0_fits 140 = .ok (.if_icmp .ge 10, 3) := dk_162 0 10 (dk_at dksX0_fits_6 0 rfl rfl)
theorem dX0_fits_143 : decode cX0_fits 143 = .ok (.iload 11, 2) := dk_21 11 (dk_at dksX0_fits_6 3 rfl rfl)
theorem dX0_fits_145 : decode cX0_fits 145 = .ok (.iconst 1, 1) := dk_4 (dk_at dksX0_fits_6 5 rfl rfl)
theorem dX0_fits_146 : decode cX0_fits 146 = .ok (.iadd, 1) := dk_96 (dk_at dksX0_fits_6 6 rfl rfl)
theorem dX0_fits_147 : decode cX0_fits 147 = .ok (.goto 18, 3) := dk_167 0 18 (dk_at dksX0_fits_6 7 rfl rfl)
theorem dX0_fits_150 : decode cX0_fits 150 = .ok (.aload_n 0, 1) := dk_42 (dk_at dksX0_fits_6 10 rfl rfl)
theorem dX0_fits_151 : decode cX0_fits 151 = .ok (.invokevirtual 162, 3) := dk_182 0 162 (dk_at dksX0_fits_6 11 rfl rfl)
theorem dX0_fits_154 : decode cX0_fits 154 = .ok (.invokevirtual 281, 3) := dk_182 1 25 (dk_at dksX0_fits_6 14 rfl rfl)
theorem dX0_fits_157 : decode cX0_fits 157 = .ok (.ifCond .eq 7, 3) := dk_153 0 7 (dk_at dksX0_fits_6 17 rfl rfl)
theorem dX0_fits_160 : decode cX0_fits 160 = .ok (.iconst 0, 1) := dk_3 (dk_at dksX0_fits_6 20 rfl rfl)
theorem dX0_fits_161 : decode cX0_fits 161 = .ok (.goto 4, 3) := dk_167 0 4 (dk_at dksX0_fits_6 21 rfl rfl)
theorem dX0_fits_164 : decode cX0_fits 164 = .ok (.iconst (-1), 1) := dk_2 (dk_at dksX0_fits_7 0 rfl rfl)
theorem dX0_fits_165 : decode cX0_fits 165 = .ok (.istore 13, 2) := dk_54 13 (dk_at dksX0_fits_7 1 rfl rfl)
theorem dX0_fits_167 : decode cX0_fits 167 = .ok (.iload_n 2, 1) := dk_28 (dk_at dksX0_fits_7 3 rfl rfl)
theorem dX0_fits_168 : decode cX0_fits 168 = .ok (.iload 11, 2) := dk_21 11 (dk_at dksX0_fits_7 4 rfl rfl)
theorem dX0_fits_170 : decode cX0_fits 170 = .ok (.ishr, 1) := dk_122 (dk_at dksX0_fits_7 6 rfl rfl)
theorem dX0_fits_171 : decode cX0_fits 171 = .ok (.iconst 1, 1) := dk_4 (dk_at dksX0_fits_7 7 rfl rfl)
theorem dX0_fits_172 : decode cX0_fits 172 = .ok (.iand, 1) := dk_126 (dk_at dksX0_fits_7 8 rfl rfl)
theorem dX0_fits_173 : decode cX0_fits 173 = .ok (.iload 4, 2) := dk_21 4 (dk_at dksX0_fits_7 9 rfl rfl)
theorem dX0_fits_175 : decode cX0_fits 175 = .ok (.iload 11, 2) := dk_21 11 (dk_at dksX0_fits_7 11 rfl rfl)
theorem dX0_fits_177 : decode cX0_fits 177 = .ok (.ishr, 1) := dk_122 (dk_at dksX0_fits_7 13 rfl rfl)
theorem dX0_fits_178 : decode cX0_fits 178 = .ok (.iconst 1, 1) := dk_4 (dk_at dksX0_fits_7 14 rfl rfl)
theorem dX0_fits_179 : decode cX0_fits 179 = .ok (.iand, 1) := dk_126 (dk_at dksX0_fits_7 15 rfl rfl)
theorem dX0_fits_180 : decode cX0_fits 180 = .ok (.iadd, 1) := dk_96 (dk_at dksX0_fits_7 16 rfl rfl)
theorem dX0_fits_181 : decode cX0_fits 181 = .ok (.iload 12, 2) := dk_21 12 (dk_at dksX0_fits_7 17 rfl rfl)
theorem dX0_fits_183 : decode cX0_fits 183 = .ok (.ifCond .ge 7, 3) := dk_156 0 7 (dk_at dksX0_fits_7 19 rfl rfl)
theorem dX0_fits_186 : decode cX0_fits 186 = .ok (.iconst 0, 1) := dk_3 (dk_at dksX0_fits_7 22 rfl rfl)
theorem dX0_fits_187 : decode cX0_fits 187 = .ok (.goto 9, 3) := dk_167 0 9 (dk_at dksX0_fits_8 0 rfl rfl)
theorem dX0_fits_190 : decode cX0_fits 190 = .ok (.iload_n 3, 1) := dk_29 (dk_at dksX0_fits_8 3 rfl rfl)
theorem dX0_fits_191 : decode cX0_fits 191 = .ok (.iload 12, 2) := dk_21 12 (dk_at dksX0_fits_8 4 rfl rfl)
theorem dX0_fits_193 : decode cX0_fits 193 = .ok (.ishr, 1) := dk_122 (dk_at dksX0_fits_8 6 rfl rfl)
theorem dX0_fits_194 : decode cX0_fits 194 = .ok (.iconst 1, 1) := dk_4 (dk_at dksX0_fits_8 7 rfl rfl)
theorem dX0_fits_195 : decode cX0_fits 195 = .ok (.iand, 1) := dk_126 (dk_at dksX0_fits_8 8 rfl rfl)
theorem dX0_fits_196 : decode cX0_fits 196 = .ok (.iadd, 1) := dk_96 (dk_at dksX0_fits_8 9 rfl rfl)
theorem dX0_fits_197 : decode cX0_fits 197 = .ok (.iload 13, 2) := dk_21 13 (dk_at dksX0_fits_8 10 rfl rfl)
theorem dX0_fits_199 : decode cX0_fits 199 = .ok (.ifCond .ge 7, 3) := dk_156 0 7 (dk_at dksX0_fits_8 12 rfl rfl)
theorem dX0_fits_202 : decode cX0_fits 202 = .ok (.iconst 0, 1) := dk_3 (dk_at dksX0_fits_8 15 rfl rfl)
theorem dX0_fits_203 : decode cX0_fits 203 = .ok (.goto 9, 3) := dk_167 0 9 (dk_at dksX0_fits_8 16 rfl rfl)
theorem dX0_fits_206 : decode cX0_fits 206 = .ok (.iload_n 3, 1) := dk_29 (dk_at dksX0_fits_8 19 rfl rfl)
theorem dX0_fits_207 : decode cX0_fits 207 = .ok (.iload 13, 2) := dk_21 13 (dk_at dksX0_fits_8 20 rfl rfl)
theorem dX0_fits_209 : decode cX0_fits 209 = .ok (.ishr, 1) := dk_122 (dk_at dksX0_fits_8 22 rfl rfl)
theorem dX0_fits_210 : decode cX0_fits 210 = .ok (.iconst 1, 1) := dk_4 (dk_at dksX0_fits_8 23 rfl rfl)
theorem dX0_fits_211 : decode cX0_fits 211 = .ok (.iand, 1) := dk_126 (dk_at dksX0_fits_9 0 rfl rfl)
theorem dX0_fits_212 : decode cX0_fits 212 = .ok (.iadd, 1) := dk_96 (dk_at dksX0_fits_9 1 rfl rfl)
theorem dX0_fits_213 : decode cX0_fits 213 = .ok (.istore 14, 2) := dk_54 14 (dk_at dksX0_fits_9 2 rfl rfl)
theorem dX0_fits_215 : decode cX0_fits 215 = .ok (.aload_n 0, 1) := dk_42 (dk_at dksX0_fits_9 4 rfl rfl)
theorem dX0_fits_216 : decode cX0_fits 216 = .ok (.invokevirtual 233, 3) := dk_182 0 233 (dk_at dksX0_fits_9 5 rfl rfl)
theorem dX0_fits_219 : decode cX0_fits 219 = .ok (.aload_n 0, 1) := dk_42 (dk_at dksX0_fits_9 8 rfl rfl)
theorem dX0_fits_220 : decode cX0_fits 220 = .ok (.invokevirtual 233, 3) := dk_182 0 233 (dk_at dksX0_fits_9 9 rfl rfl)
theorem dX0_fits_223 : decode cX0_fits 223 = .ok (.getfield 285, 3) := dk_180 1 29 (dk_at dksX0_fits_9 12 rfl rfl)
theorem dX0_fits_226 : decode cX0_fits 226 = .ok (.iload_n 3, 1) := dk_29 (dk_at dksX0_fits_9 15 rfl rfl)
theorem dX0_fits_227 : decode cX0_fits 227 = .ok (.iload 11, 2) := dk_21 11 (dk_at dksX0_fits_9 16 rfl rfl)
theorem dX0_fits_229 : decode cX0_fits 229 = .ok (.ishr, 1) := dk_122 (dk_at dksX0_fits_9 18 rfl rfl)
theorem dX0_fits_230 : decode cX0_fits 230 = .ok (.iconst 1, 1) := dk_4 (dk_at dksX0_fits_9 19 rfl rfl)
theorem dX0_fits_231 : decode cX0_fits 231 = .ok (.iand, 1) := dk_126 (dk_at dksX0_fits_9 20 rfl rfl)
theorem dX0_fits_232 : decode cX0_fits 232 = .ok (.iconst 1, 1) := dk_4 (dk_at dksX0_fits_9 21 rfl rfl)
theorem dX0_fits_233 : decode cX0_fits 233 = .ok (.if_icmp .ne 7, 3) := dk_160 0 7 (dk_at dksX0_fits_10 0 rfl rfl)
theorem dX0_fits_236 : decode cX0_fits 236 = .ok (.iconst 1, 1) := dk_4 (dk_at dksX0_fits_10 3 rfl rfl)
theorem dX0_fits_237 : decode cX0_fits 237 = .ok (.goto 4, 3) := dk_167 0 4 (dk_at dksX0_fits_10 4 rfl rfl)
theorem dX0_fits_240 : decode cX0_fits 240 = .ok (.iconst 0, 1) := dk_3 (dk_at dksX0_fits_10 7 rfl rfl)
theorem dX0_fits_241 : decode cX0_fits 241 = .ok (.iload 14, 2) := dk_21 14 (dk_at dksX0_fits_10 8 rfl rfl)
theorem dX0_fits_243 : decode cX0_fits 243 = .ok (.invokevirtual 374, 3) := dk_182 1 118 (dk_at dksX0_fits_10 10 rfl rfl)
theorem dX0_fits_246 : decode cX0_fits 246 = .ok (.iload 8, 2) := dk_21 8 (dk_at dksX0_fits_10 13 rfl rfl)
theorem dX0_fits_248 : decode cX0_fits 248 = .ok (.iload 11, 2) := dk_21 11 (dk_at dksX0_fits_10 15 rfl rfl)
theorem dX0_fits_250 : decode cX0_fits 250 = .ok (.ishr, 1) := dk_122 (dk_at dksX0_fits_10 17 rfl rfl)
theorem dX0_fits_251 : decode cX0_fits 251 = .ok (.iconst 1, 1) := dk_4 (dk_at dksX0_fits_10 18 rfl rfl)
theorem dX0_fits_252 : decode cX0_fits 252 = .ok (.iand, 1) := dk_126 (dk_at dksX0_fits_10 19 rfl rfl)
theorem dX0_fits_253 : decode cX0_fits 253 = .ok (.iconst 1, 1) := dk_4 (dk_at dksX0_fits_10 20 rfl rfl)
theorem dX0_fits_254 : decode cX0_fits 254 = .ok (.if_icmp .ne 7, 3) := dk_160 0 7 (dk_at dksX0_fits_10 21 rfl rfl)
theorem dX0_fits_257 : decode cX0_fits 257 = .ok (.iconst 1, 1) := dk_4 (dk_at dksX0_fits_11 0 rfl rfl)
theorem dX0_fits_258 : decode cX0_fits 258 = .ok (.goto 4, 3) := dk_167 0 4 (dk_at dksX0_fits_11 1 rfl rfl)
theorem dX0_fits_261 : decode cX0_fits 261 = .ok (.iconst 0, 1) := dk_3 (dk_at dksX0_fits_11 4 rfl rfl)
theorem dX0_fits_262 : decode cX0_fits 262 = .ok (.if_icmp .eq 5, 3) := dk_159 0 5 (dk_at dksX0_fits_11 5 rfl rfl)
theorem dX0_fits_265 : decode cX0_fits 265 = .ok (.iconst 0, 1) := dk_3 (dk_at dksX0_fits_11 8 rfl rfl)
theorem dX0_fits_266 : decode cX0_fits 266 = .ok (.ireturn, 1) := dk_172 (dk_at dksX0_fits_11 9 rfl rfl)
theorem dX0_fits_267 : decode cX0_fits 267 = .ok (.iinc 11 1, 3) := dk_132 11 1 (dk_at dksX0_fits_11 10 rfl rfl)
theorem dX0_fits_270 : decode cX0_fits 270 = .ok (.goto (-188), 3) := dk_167 255 68 (dk_at dksX0_fits_11 13 rfl rfl)
theorem dX0_fits_273 : decode cX0_fits 273 = .ok (.iload 8, 2) := dk_21 8 (dk_at dksX0_fits_11 16 rfl rfl)
theorem dX0_fits_275 : decode cX0_fits 275 = .ok (.iload 10, 2) := dk_21 10 (dk_at dksX0_fits_11 18 rfl rfl)
theorem dX0_fits_277 : decode cX0_fits 277 = .ok (.iconst (-1), 1) := dk_2 (dk_at dksX0_fits_11 20 rfl rfl)
theorem dX0_fits_278 : decode cX0_fits 278 = .ok (.ixor, 1) := dk_130 (dk_at dksX0_fits_11 21 rfl rfl)
theorem dX0_fits_279 : decode cX0_fits 279 = .ok (.iand, 1) := dk_126 (dk_at dksX0_fits_11 22 rfl rfl)
theorem dX0_fits_280 : decode cX0_fits 280 = .ok (.ifCond .ne 7, 3) := dk_154 0 7 (dk_at dksX0_fits_12 0 rfl rfl)
theorem dX0_fits_283 : decode cX0_fits 283 = .ok (.iconst 1, 1) := dk_4 (dk_at dksX0_fits_12 3 rfl rfl)
theorem dX0_fits_284 : decode cX0_fits 284 = .ok (.goto 4, 3) := dk_167 0 4 (dk_at dksX0_fits_12 4 rfl rfl)
theorem dX0_fits_287 : decode cX0_fits 287 = .ok (.iconst 0, 1) := dk_3 (dk_at dksX0_fits_12 7 rfl rfl)
theorem dX0_fits_288 : decode cX0_fits 288 = .ok (.ireturn, 1) := dk_172 (dk_at dksX0_fits_12 8 rfl rfl)
abbrev cX0_ancestor : ByteArray := prog_1_method_67_code
def yX0_ancestor : MethodName := ⟨RX0, "ancestor", "()J"⟩
def dkwX0_ancestor_0 : List UInt8 := [42, 42, 42, 182, 0, 233, 180, 1, 13, 3, 182, 1, 137, 182, 1, 139, 173]
abbrev dktX0_ancestor_0 : List UInt8 := dkwX0_ancestor_0 ++ []
theorem dksX0_ancestor_0 : cX0_ancestor.data.toList.drop 0 = dktX0_ancestor_0 := by decide +kernel
theorem dX0_ancestor_0 : decode cX0_ancestor 0 = .ok (.aload_n 0, 1) := dk_42 (dk_at dksX0_ancestor_0 0 rfl rfl)
theorem dX0_ancestor_1 : decode cX0_ancestor 1 = .ok (.aload_n 0, 1) := dk_42 (dk_at dksX0_ancestor_0 1 rfl rfl)
theorem dX0_ancestor_2 : decode cX0_ancestor 2 = .ok (.aload_n 0, 1) := dk_42 (dk_at dksX0_ancestor_0 2 rfl rfl)
theorem dX0_ancestor_3 : decode cX0_ancestor 3 = .ok (.invokevirtual 233, 3) := dk_182 0 233 (dk_at dksX0_ancestor_0 3 rfl rfl)
theorem dX0_ancestor_6 : decode cX0_ancestor 6 = .ok (.getfield 269, 3) := dk_180 1 13 (dk_at dksX0_ancestor_0 6 rfl rfl)
theorem dX0_ancestor_9 : decode cX0_ancestor 9 = .ok (.iconst 0, 1) := dk_3 (dk_at dksX0_ancestor_0 9 rfl rfl)
theorem dX0_ancestor_10 : decode cX0_ancestor 10 = .ok (.invokevirtual 393, 3) := dk_182 1 137 (dk_at dksX0_ancestor_0 10 rfl rfl)
theorem dX0_ancestor_13 : decode cX0_ancestor 13 = .ok (.invokevirtual 395, 3) := dk_182 1 139 (dk_at dksX0_ancestor_0 13 rfl rfl)
theorem dX0_ancestor_16 : decode cX0_ancestor 16 = .ok (.lreturn, 1) := dk_173 (dk_at dksX0_ancestor_0 16 rfl rfl)
abbrev cX0_least : ByteArray := prog_1_method_64_code
def yX0_least : MethodName := ⟨RX0, "least", "(IZ)J"⟩
def dkwX0_least_8 : List UInt8 := [167, 255, 102, 22, 6, 173]
abbrev dktX0_least_8 : List UInt8 := dkwX0_least_8 ++ []
def dkwX0_least_7 : List UInt8 := [182, 0, 162, 180, 0, 166, 21, 8, 104, 121, 129, 55, 6, 21, 9, 54, 4, 21, 10, 54, 5, 132, 8, 255]
abbrev dktX0_least_7 : List UInt8 := dkwX0_least_7 ++ dktX0_least_8
def dkwX0_least_6 : List UInt8 := [167, 255, 193, 132, 11, 1, 167, 255, 158, 21, 9, 156, 0, 7, 20, 0, 137, 173, 22, 6, 21, 9, 133, 42]
abbrev dktX0_least_6 : List UInt8 := dkwX0_least_6 ++ dktX0_least_7
def dkwX0_least_5 : List UInt8 := [21, 4, 27, 28, 182, 1, 125, 154, 0, 6, 167, 0, 11, 21, 11, 54, 9, 21, 12, 54, 10, 132, 12, 1]
abbrev dktX0_least_5 : List UInt8 := dkwX0_least_5 ++ dktX0_least_6
def dkwX0_least_4 : List UInt8 := [21, 8, 50, 16, 32, 21, 12, 104, 21, 11, 96, 47, 9, 148, 153, 0, 31, 42, 21, 8, 21, 12, 21, 11]
abbrev dktX0_least_4 : List UInt8 := dkwX0_least_4 ++ dktX0_least_5
def dkwX0_least_3 : List UInt8 := [159, 0, 6, 167, 0, 72, 3, 54, 12, 21, 12, 29, 162, 0, 63, 21, 9, 156, 0, 58, 42, 180, 0, 68]
abbrev dktX0_least_3 : List UInt8 := dkwX0_least_3 ++ dktX0_least_4
def dkwX0_least_2 : List UInt8 := [3, 54, 11, 21, 11, 29, 162, 0, 98, 21, 9, 156, 0, 93, 21, 5, 155, 0, 13, 21, 11, 21, 5]
abbrev dktX0_least_2 : List UInt8 := dkwX0_least_2 ++ dktX0_least_3
def dkwX0_least_1 : List UInt8 := [55, 6, 42, 182, 0, 162, 180, 0, 175, 4, 100, 54, 8, 21, 8, 155, 0, 155, 2, 54, 9, 2, 54, 10]
abbrev dktX0_least_1 : List UInt8 := dkwX0_least_1 ++ dktX0_least_2
def dkwX0_least_0 : List UInt8 := [42, 27, 28, 182, 1, 129, 4, 42, 182, 0, 162, 180, 0, 166, 120, 62, 3, 54, 4, 2, 54, 5, 9]
abbrev dktX0_least_0 : List UInt8 := dkwX0_least_0 ++ dktX0_least_1
theorem dksX0_least_0 : cX0_least.data.toList.drop 0 = dktX0_least_0 := by decide +kernel
theorem dksX0_least_1 : cX0_least.data.toList.drop 23 = dktX0_least_1 := dk_seg dksX0_least_0 23 rfl rfl
theorem dksX0_least_2 : cX0_least.data.toList.drop 47 = dktX0_least_2 := dk_seg dksX0_least_1 24 rfl rfl
theorem dksX0_least_3 : cX0_least.data.toList.drop 70 = dktX0_least_3 := dk_seg dksX0_least_2 23 rfl rfl
theorem dksX0_least_4 : cX0_least.data.toList.drop 94 = dktX0_least_4 := dk_seg dksX0_least_3 24 rfl rfl
theorem dksX0_least_5 : cX0_least.data.toList.drop 118 = dktX0_least_5 := dk_seg dksX0_least_4 24 rfl rfl
theorem dksX0_least_6 : cX0_least.data.toList.drop 142 = dktX0_least_6 := dk_seg dksX0_least_5 24 rfl rfl
theorem dksX0_least_7 : cX0_least.data.toList.drop 166 = dktX0_least_7 := dk_seg dksX0_least_6 24 rfl rfl
theorem dksX0_least_8 : cX0_least.data.toList.drop 190 = dktX0_least_8 := dk_seg dksX0_least_7 24 rfl rfl
theorem dX0_least_0 : decode cX0_least 0 = .ok (.aload_n 0, 1) := dk_42 (dk_at dksX0_least_0 0 rfl rfl)
theorem dX0_least_1 : decode cX0_least 1 = .ok (.iload_n 1, 1) := dk_27 (dk_at dksX0_least_0 1 rfl rfl)
theorem dX0_least_2 : decode cX0_least 2 = .ok (.iload_n 2, 1) := dk_28 (dk_at dksX0_least_0 2 rfl rfl)
theorem dX0_least_3 : decode cX0_least 3 = .ok (.invokevirtual 385, 3) := dk_182 1 129 (dk_at dksX0_least_0 3 rfl rfl)
theorem dX0_least_6 : decode cX0_least 6 = .ok (.iconst 1, 1) := dk_4 (dk_at dksX0_least_0 6 rfl rfl)
theorem dX0_least_7 : decode cX0_least 7 = .ok (.aload_n 0, 1) := dk_42 (dk_at dksX0_least_0 7 rfl rfl)
theorem dX0_least_8 : decode cX0_least 8 = .ok (.invokevirtual 162, 3) := dk_182 0 162 (dk_at dksX0_least_0 8 rfl rfl)
theorem dX0_least_11 : decode cX0_least 11 = .ok (.getfield 166, 3) := dk_180 0 166 (dk_at dksX0_least_0 11 rfl rfl)
theorem dX0_least_14 : decode cX0_least 14 = .ok (.ishl, 1) := dk_120 (dk_at dksX0_least_0 14 rfl rfl)
theorem dX0_least_15 : decode cX0_least 15 = .ok (.istore_n 3, 1) := dk_62 (dk_at dksX0_least_0 15 rfl rfl)
theorem dX0_least_16 : decode cX0_least 16 = .ok (.iconst 0, 1) := dk_3 (dk_at dksX0_least_0 16 rfl rfl)
theorem dX0_least_17 : decode cX0_least 17 = .ok (.istore 4, 2) := dk_54 4 (dk_at dksX0_least_0 17 rfl rfl)
theorem dX0_least_19 : decode cX0_least 19 = .ok (.iconst (-1), 1) := dk_2 (dk_at dksX0_least_0 19 rfl rfl)
theorem dX0_least_20 : decode cX0_least 20 = .ok (.istore 5, 2) := dk_54 5 (dk_at dksX0_least_0 20 rfl rfl)
theorem dX0_least_22 : decode cX0_least 22 = .ok (.lconst 0, 1) := dk_9 (dk_at dksX0_least_0 22 rfl rfl)
theorem dX0_least_23 : decode cX0_least 23 = .ok (.lstore 6, 2) := dk_55 6 (dk_at dksX0_least_1 0 rfl rfl)
theorem dX0_least_25 : decode cX0_least 25 = .ok (.aload_n 0, 1) := dk_42 (dk_at dksX0_least_1 2 rfl rfl)
theorem dX0_least_26 : decode cX0_least 26 = .ok (.invokevirtual 162, 3) := dk_182 0 162 (dk_at dksX0_least_1 3 rfl rfl)
theorem dX0_least_29 : decode cX0_least 29 = .ok (.getfield 175, 3) := dk_180 0 175 (dk_at dksX0_least_1 6 rfl rfl)
theorem dX0_least_32 : decode cX0_least 32 = .ok (.iconst 1, 1) := dk_4 (dk_at dksX0_least_1 9 rfl rfl)
theorem dX0_least_33 : decode cX0_least 33 = .ok (.isub, 1) := dk_100 (dk_at dksX0_least_1 10 rfl rfl)
theorem dX0_least_34 : decode cX0_least 34 = .ok (.istore 8, 2) := dk_54 8 (dk_at dksX0_least_1 11 rfl rfl)
theorem dX0_least_36 : decode cX0_least 36 = .ok (.iload 8, 2) := dk_21 8 (dk_at dksX0_least_1 13 rfl rfl)
theorem dX0_least_38 : decode cX0_least 38 = .ok (.ifCond .lt 155, 3) := dk_155 0 155 (dk_at dksX0_least_1 15 rfl rfl)
theorem dX0_least_41 : decode cX0_least 41 = .ok (.iconst (-1), 1) := dk_2 (dk_at dksX0_least_1 18 rfl rfl)
theorem dX0_least_42 : decode cX0_least 42 = .ok (.istore 9, 2) := dk_54 9 (dk_at dksX0_least_1 19 rfl rfl)
theorem dX0_least_44 : decode cX0_least 44 = .ok (.iconst (-1), 1) := dk_2 (dk_at dksX0_least_1 21 rfl rfl)
theorem dX0_least_45 : decode cX0_least 45 = .ok (.istore 10, 2) := dk_54 10 (dk_at dksX0_least_1 22 rfl rfl)
theorem dX0_least_47 : decode cX0_least 47 = .ok (.iconst 0, 1) := dk_3 (dk_at dksX0_least_2 0 rfl rfl)
theorem dX0_least_48 : decode cX0_least 48 = .ok (.istore 11, 2) := dk_54 11 (dk_at dksX0_least_2 1 rfl rfl)
theorem dX0_least_50 : decode cX0_least 50 = .ok (.iload 11, 2) := dk_21 11 (dk_at dksX0_least_2 3 rfl rfl)
theorem dX0_least_52 : decode cX0_least 52 = .ok (.iload_n 3, 1) := dk_29 (dk_at dksX0_least_2 5 rfl rfl)
theorem dX0_least_53 : decode cX0_least 53 = .ok (.if_icmp .ge 98, 3) := dk_162 0 98 (dk_at dksX0_least_2 6 rfl rfl)
theorem dX0_least_56 : decode cX0_least 56 = .ok (.iload 9, 2) := dk_21 9 (dk_at dksX0_least_2 9 rfl rfl)
theorem dX0_least_58 : decode cX0_least 58 = .ok (.ifCond .ge 93, 3) := dk_156 0 93 (dk_at dksX0_least_2 11 rfl rfl)
theorem dX0_least_61 : decode cX0_least 61 = .ok (.iload 5, 2) := dk_21 5 (dk_at dksX0_least_2 14 rfl rfl)
theorem dX0_least_63 : decode cX0_least 63 = .ok (.ifCond .lt 13, 3) := dk_155 0 13 (dk_at dksX0_least_2 16 rfl rfl)
theorem dX0_least_66 : decode cX0_least 66 = .ok (.iload 11, 2) := dk_21 11 (dk_at dksX0_least_2 19 rfl rfl)
theorem dX0_least_68 : decode cX0_least 68 = .ok (.iload 5, 2) := dk_21 5 (dk_at dksX0_least_2 21 rfl rfl)
theorem dX0_least_70 : decode cX0_least 70 = .ok (.if_icmp .eq 6, 3) := dk_159 0 6 (dk_at dksX0_least_3 0 rfl rfl)
theorem dX0_least_73 : decode cX0_least 73 = .ok (.goto 72, 3) := dk_167 0 72 (dk_at dksX0_least_3 3 rfl rfl)
theorem dX0_least_76 : decode cX0_least 76 = .ok (.iconst 0, 1) := dk_3 (dk_at dksX0_least_3 6 rfl rfl)
theorem dX0_least_77 : decode cX0_least 77 = .ok (.istore 12, 2) := dk_54 12 (dk_at dksX0_least_3 7 rfl rfl)
theorem dX0_least_79 : decode cX0_least 79 = .ok (.iload 12, 2) := dk_21 12 (dk_at dksX0_least_3 9 rfl rfl)
theorem dX0_least_81 : decode cX0_least 81 = .ok (.iload_n 3, 1) := dk_29 (dk_at dksX0_least_3 11 rfl rfl)
theorem dX0_least_82 : decode cX0_least 82 = .ok (.if_icmp .ge 63, 3) := dk_162 0 63 (dk_at dksX0_least_3 12 rfl rfl)
theorem dX0_least_85 : decode cX0_least 85 = .ok (.iload 9, 2) := dk_21 9 (dk_at dksX0_least_3 15 rfl rfl)
theorem dX0_least_87 : decode cX0_least 87 = .ok (.ifCond .ge 58, 3) := dk_156 0 58 (dk_at dksX0_least_3 17 rfl rfl)
theorem dX0_least_90 : decode cX0_least 90 = .ok (.aload_n 0, 1) := dk_42 (dk_at dksX0_least_3 20 rfl rfl)
theorem dX0_least_91 : decode cX0_least 91 = .ok (.getfield 68, 3) := dk_180 0 68 (dk_at dksX0_least_3 21 rfl rfl)
theorem dX0_least_94 : decode cX0_least 94 = .ok (.iload 8, 2) := dk_21 8 (dk_at dksX0_least_4 0 rfl rfl)
theorem dX0_least_96 : decode cX0_least 96 = .ok (.aaload, 1) := dk_50 (dk_at dksX0_least_4 2 rfl rfl)
theorem dX0_least_97 : decode cX0_least 97 = .ok (.bipush 32, 2) := dk_16 32 (dk_at dksX0_least_4 3 rfl rfl)
theorem dX0_least_99 : decode cX0_least 99 = .ok (.iload 12, 2) := dk_21 12 (dk_at dksX0_least_4 5 rfl rfl)
theorem dX0_least_101 : decode cX0_least 101 = .ok (.imul, 1) := dk_104 (dk_at dksX0_least_4 7 rfl rfl)
theorem dX0_least_102 : decode cX0_least 102 = .ok (.iload 11, 2) := dk_21 11 (dk_at dksX0_least_4 8 rfl rfl)
theorem dX0_least_104 : decode cX0_least 104 = .ok (.iadd, 1) := dk_96 (dk_at dksX0_least_4 10 rfl rfl)
theorem dX0_least_105 : decode cX0_least 105 = .ok (.laload, 1) := dk_47 (dk_at dksX0_least_4 11 rfl rfl)
theorem dX0_least_106 : decode cX0_least 106 = .ok (.lconst 0, 1) := dk_9 (dk_at dksX0_least_4 12 rfl rfl)
theorem dX0_least_107 : decode cX0_least 107 = .ok (.lcmp, 1) := dk_148 (dk_at dksX0_least_4 13 rfl rfl)
theorem dX0_least_108 : decode cX0_least 108 = .ok (.ifCond .eq 31, 3) := dk_153 0 31 (dk_at dksX0_least_4 14 rfl rfl)
theorem dX0_least_111 : decode cX0_least 111 = .ok (.aload_n 0, 1) := dk_42 (dk_at dksX0_least_4 17 rfl rfl)
theorem dX0_least_112 : decode cX0_least 112 = .ok (.iload 8, 2) := dk_21 8 (dk_at dksX0_least_4 18 rfl rfl)
theorem dX0_least_114 : decode cX0_least 114 = .ok (.iload 12, 2) := dk_21 12 (dk_at dksX0_least_4 20 rfl rfl)
theorem dX0_least_116 : decode cX0_least 116 = .ok (.iload 11, 2) := dk_21 11 (dk_at dksX0_least_4 22 rfl rfl)
theorem dX0_least_118 : decode cX0_least 118 = .ok (.iload 4, 2) := dk_21 4 (dk_at dksX0_least_5 0 rfl rfl)
theorem dX0_least_120 : decode cX0_least 120 = .ok (.iload_n 1, 1) := dk_27 (dk_at dksX0_least_5 2 rfl rfl)
theorem dX0_least_121 : decode cX0_least 121 = .ok (.iload_n 2, 1) := dk_28 (dk_at dksX0_least_5 3 rfl rfl)
theorem dX0_least_122 : decode cX0_least 122 = .ok (.invokevirtual 381, 3) := dk_182 1 125 (dk_at dksX0_least_5 4 rfl rfl)
theorem dX0_least_125 : decode cX0_least 125 = .ok (.ifCond .ne 6, 3) := dk_154 0 6 (dk_at dksX0_least_5 7 rfl rfl)
theorem dX0_least_128 : decode cX0_least 128 = .ok (.goto 11, 3) := dk_167 0 11 (dk_at dksX0_least_5 10 rfl rfl)
theorem dX0_least_131 : decode cX0_least 131 = .ok (.iload 11, 2) := dk_21 11 (dk_at dksX0_least_5 13 rfl rfl)
theorem dX0_least_133 : decode cX0_least 133 = .ok (.istore 9, 2) := dk_54 9 (dk_at dksX0_least_5 15 rfl rfl)
theorem dX0_least_135 : decode cX0_least 135 = .ok (.iload 12, 2) := dk_21 12 (dk_at dksX0_least_5 17 rfl rfl)
theorem dX0_least_137 : decode cX0_least 137 = .ok (.istore 10, 2) := dk_54 10 (dk_at dksX0_least_5 19 rfl rfl)
theorem dX0_least_139 : decode cX0_least 139 = .ok (.iinc 12 1, 3) := dk_132 12 1 (dk_at dksX0_least_5 21 rfl rfl)
theorem dX0_least_142 : decode cX0_least 142 = .ok (.goto (-63), 3) := dk_167 255 193 (dk_at dksX0_least_6 0 rfl rfl)
theorem dX0_least_145 : decode cX0_least 145 = .ok (.iinc 11 1, 3) := dk_132 11 1 (dk_at dksX0_least_6 3 rfl rfl)
theorem dX0_least_148 : decode cX0_least 148 = .ok (.goto (-98), 3) := dk_167 255 158 (dk_at dksX0_least_6 6 rfl rfl)
theorem dX0_least_151 : decode cX0_least 151 = .ok (.iload 9, 2) := dk_21 9 (dk_at dksX0_least_6 9 rfl rfl)
theorem dX0_least_153 : decode cX0_least 153 = .ok (.ifCond .ge 7, 3) := dk_156 0 7 (dk_at dksX0_least_6 11 rfl rfl)
theorem dX0_least_156 : decode cX0_least 156 = .ok (.ldc2_w 137, 3) := dk_20 0 137 (dk_at dksX0_least_6 14 rfl rfl)
theorem dX0_least_159 : decode cX0_least 159 = .ok (.lreturn, 1) := dk_173 (dk_at dksX0_least_6 17 rfl rfl)
theorem dX0_least_160 : decode cX0_least 160 = .ok (.lload 6, 2) := dk_22 6 (dk_at dksX0_least_6 18 rfl rfl)
theorem dX0_least_162 : decode cX0_least 162 = .ok (.iload 9, 2) := dk_21 9 (dk_at dksX0_least_6 20 rfl rfl)
theorem dX0_least_164 : decode cX0_least 164 = .ok (.i2l, 1) := dk_133 (dk_at dksX0_least_6 22 rfl rfl)
theorem dX0_least_165 : decode cX0_least 165 = .ok (.aload_n 0, 1) := dk_42 (dk_at dksX0_least_6 23 rfl rfl)
theorem dX0_least_166 : decode cX0_least 166 = .ok (.invokevirtual 162, 3) := dk_182 0 162 (dk_at dksX0_least_7 0 rfl rfl)
theorem dX0_least_169 : decode cX0_least 169 = .ok (.getfield 166, 3) := dk_180 0 166 (dk_at dksX0_least_7 3 rfl rfl)
theorem dX0_least_172 : decode cX0_least 172 = .ok (.iload 8, 2) := dk_21 8 (dk_at dksX0_least_7 6 rfl rfl)
theorem dX0_least_174 : decode cX0_least 174 = .ok (.imul, 1) := dk_104 (dk_at dksX0_least_7 8 rfl rfl)
theorem dX0_least_175 : decode cX0_least 175 = .ok (.lshl, 1) := dk_121 (dk_at dksX0_least_7 9 rfl rfl)
theorem dX0_least_176 : decode cX0_least 176 = .ok (.lor, 1) := dk_129 (dk_at dksX0_least_7 10 rfl rfl)
theorem dX0_least_177 : decode cX0_least 177 = .ok (.lstore 6, 2) := dk_55 6 (dk_at dksX0_least_7 11 rfl rfl)
theorem dX0_least_179 : decode cX0_least 179 = .ok (.iload 9, 2) := dk_21 9 (dk_at dksX0_least_7 13 rfl rfl)
theorem dX0_least_181 : decode cX0_least 181 = .ok (.istore 4, 2) := dk_54 4 (dk_at dksX0_least_7 15 rfl rfl)
theorem dX0_least_183 : decode cX0_least 183 = .ok (.iload 10, 2) := dk_21 10 (dk_at dksX0_least_7 17 rfl rfl)
theorem dX0_least_185 : decode cX0_least 185 = .ok (.istore 5, 2) := dk_54 5 (dk_at dksX0_least_7 19 rfl rfl)
theorem dX0_least_187 : decode cX0_least 187 = .ok (.iinc 8 (-1), 3) := dk_132 8 255 (dk_at dksX0_least_7 21 rfl rfl)
theorem dX0_least_190 : decode cX0_least 190 = .ok (.goto (-154), 3) := dk_167 255 102 (dk_at dksX0_least_8 0 rfl rfl)
theorem dX0_least_193 : decode cX0_least 193 = .ok (.lload 6, 2) := dk_22 6 (dk_at dksX0_least_8 3 rfl rfl)
theorem dX0_least_195 : decode cX0_least 195 = .ok (.lreturn, 1) := dk_173 (dk_at dksX0_least_8 5 rfl rfl)
abbrev cX0_answerLong : ByteArray := prog_1_method_66_code
def yX0_answerLong : MethodName := ⟨RX0, "answerLong", "(J)J"⟩
def dkwX0_answerLong_0 : List UInt8 := [42, 31, 9, 148, 156, 0, 8, 16, 6, 167, 0, 4, 3, 181, 0, 81, 31, 173]
abbrev dktX0_answerLong_0 : List UInt8 := dkwX0_answerLong_0 ++ []
theorem dksX0_answerLong_0 : cX0_answerLong.data.toList.drop 0 = dktX0_answerLong_0 := by decide +kernel
theorem dX0_answerLong_0 : decode cX0_answerLong 0 = .ok (.aload_n 0, 1) := dk_42 (dk_at dksX0_answerLong_0 0 rfl rfl)
theorem dX0_answerLong_1 : decode cX0_answerLong 1 = .ok (.lload_n 1, 1) := dk_31 (dk_at dksX0_answerLong_0 1 rfl rfl)
theorem dX0_answerLong_2 : decode cX0_answerLong 2 = .ok (.lconst 0, 1) := dk_9 (dk_at dksX0_answerLong_0 2 rfl rfl)
theorem dX0_answerLong_3 : decode cX0_answerLong 3 = .ok (.lcmp, 1) := dk_148 (dk_at dksX0_answerLong_0 3 rfl rfl)
theorem dX0_answerLong_4 : decode cX0_answerLong 4 = .ok (.ifCond .ge 8, 3) := dk_156 0 8 (dk_at dksX0_answerLong_0 4 rfl rfl)
theorem dX0_answerLong_7 : decode cX0_answerLong 7 = .ok (.bipush 6, 2) := dk_16 6 (dk_at dksX0_answerLong_0 7 rfl rfl)
theorem dX0_answerLong_9 : decode cX0_answerLong 9 = .ok (.goto 4, 3) := dk_167 0 4 (dk_at dksX0_answerLong_0 9 rfl rfl)
theorem dX0_answerLong_12 : decode cX0_answerLong 12 = .ok (.iconst 0, 1) := dk_3 (dk_at dksX0_answerLong_0 12 rfl rfl)
theorem dX0_answerLong_13 : decode cX0_answerLong 13 = .ok (.putfield 81, 3) := dk_181 0 81 (dk_at dksX0_answerLong_0 13 rfl rfl)
theorem dX0_answerLong_16 : decode cX0_answerLong 16 = .ok (.lload_n 1, 1) := dk_31 (dk_at dksX0_answerLong_0 16 rfl rfl)
theorem dX0_answerLong_17 : decode cX0_answerLong 17 = .ok (.lreturn, 1) := dk_173 (dk_at dksX0_answerLong_0 17 rfl rfl)
abbrev cX0_stills : ByteArray := prog_1_method_68_code
def yX0_stills : MethodName := ⟨RX0, "stills", "()J"⟩
def dkwX0_stills_0 : List UInt8 := [42, 3, 181, 0, 81, 42, 3, 4, 182, 1, 133, 173]
abbrev dktX0_stills_0 : List UInt8 := dkwX0_stills_0 ++ []
theorem dksX0_stills_0 : cX0_stills.data.toList.drop 0 = dktX0_stills_0 := by decide +kernel
theorem dX0_stills_0 : decode cX0_stills 0 = .ok (.aload_n 0, 1) := dk_42 (dk_at dksX0_stills_0 0 rfl rfl)
theorem dX0_stills_1 : decode cX0_stills 1 = .ok (.iconst 0, 1) := dk_3 (dk_at dksX0_stills_0 1 rfl rfl)
theorem dX0_stills_2 : decode cX0_stills 2 = .ok (.putfield 81, 3) := dk_181 0 81 (dk_at dksX0_stills_0 2 rfl rfl)
theorem dX0_stills_5 : decode cX0_stills 5 = .ok (.aload_n 0, 1) := dk_42 (dk_at dksX0_stills_0 5 rfl rfl)
theorem dX0_stills_6 : decode cX0_stills 6 = .ok (.iconst 0, 1) := dk_3 (dk_at dksX0_stills_0 6 rfl rfl)
theorem dX0_stills_7 : decode cX0_stills 7 = .ok (.iconst 1, 1) := dk_4 (dk_at dksX0_stills_0 7 rfl rfl)
theorem dX0_stills_8 : decode cX0_stills 8 = .ok (.invokevirtual 389, 3) := dk_182 1 133 (dk_at dksX0_stills_0 8 rfl rfl)
theorem dX0_stills_11 : decode cX0_stills 11 = .ok (.lreturn, 1) := dk_173 (dk_at dksX0_stills_0 11 rfl rfl)
abbrev cX0_firstStill : ByteArray := prog_1_method_69_code
def yX0_firstStill : MethodName := ⟨RX0, "firstStill", "()J"⟩
def dkwX0_firstStill_0 : List UInt8 := [42, 42, 3, 4, 182, 1, 137, 182, 1, 139, 173]
abbrev dktX0_firstStill_0 : List UInt8 := dkwX0_firstStill_0 ++ []
theorem dksX0_firstStill_0 : cX0_firstStill.data.toList.drop 0 = dktX0_firstStill_0 := by decide +kernel
theorem dX0_firstStill_0 : decode cX0_firstStill 0 = .ok (.aload_n 0, 1) := dk_42 (dk_at dksX0_firstStill_0 0 rfl rfl)
theorem dX0_firstStill_1 : decode cX0_firstStill 1 = .ok (.aload_n 0, 1) := dk_42 (dk_at dksX0_firstStill_0 1 rfl rfl)
theorem dX0_firstStill_2 : decode cX0_firstStill 2 = .ok (.iconst 0, 1) := dk_3 (dk_at dksX0_firstStill_0 2 rfl rfl)
theorem dX0_firstStill_3 : decode cX0_firstStill 3 = .ok (.iconst 1, 1) := dk_4 (dk_at dksX0_firstStill_0 3 rfl rfl)
theorem dX0_firstStill_4 : decode cX0_firstStill 4 = .ok (.invokevirtual 393, 3) := dk_182 1 137 (dk_at dksX0_firstStill_0 4 rfl rfl)
theorem dX0_firstStill_7 : decode cX0_firstStill 7 = .ok (.invokevirtual 395, 3) := dk_182 1 139 (dk_at dksX0_firstStill_0 7 rfl rfl)
theorem dX0_firstStill_10 : decode cX0_firstStill 10 = .ok (.lreturn, 1) := dk_173 (dk_at dksX0_firstStill_0 10 rfl rfl)
abbrev cX0_pictures : ByteArray := prog_1_method_70_code
def yX0_pictures : MethodName := ⟨RX0, "pictures", "()J"⟩
def dkwX0_pictures_0 : List UInt8 := [42, 3, 181, 0, 81, 10, 42, 182, 0, 162, 182, 0, 204, 184, 0, 250, 121, 173]
abbrev dktX0_pictures_0 : List UInt8 := dkwX0_pictures_0 ++ []
theorem dksX0_pictures_0 : cX0_pictures.data.toList.drop 0 = dktX0_pictures_0 := by decide +kernel
theorem dX0_pictures_0 : decode cX0_pictures 0 = .ok (.aload_n 0, 1) := dk_42 (dk_at dksX0_pictures_0 0 rfl rfl)
theorem dX0_pictures_1 : decode cX0_pictures 1 = .ok (.iconst 0, 1) := dk_3 (dk_at dksX0_pictures_0 1 rfl rfl)
theorem dX0_pictures_2 : decode cX0_pictures 2 = .ok (.putfield 81, 3) := dk_181 0 81 (dk_at dksX0_pictures_0 2 rfl rfl)
theorem dX0_pictures_5 : decode cX0_pictures 5 = .ok (.lconst 1, 1) := dk_10 (dk_at dksX0_pictures_0 5 rfl rfl)
theorem dX0_pictures_6 : decode cX0_pictures 6 = .ok (.aload_n 0, 1) := dk_42 (dk_at dksX0_pictures_0 6 rfl rfl)
theorem dX0_pictures_7 : decode cX0_pictures 7 = .ok (.invokevirtual 162, 3) := dk_182 0 162 (dk_at dksX0_pictures_0 7 rfl rfl)
theorem dX0_pictures_10 : decode cX0_pictures 10 = .ok (.invokevirtual 204, 3) := dk_182 0 204 (dk_at dksX0_pictures_0 10 rfl rfl)
theorem dX0_pictures_13 : decode cX0_pictures 13 = .ok (.invokestatic 250, 3) := dk_184 0 250 (dk_at dksX0_pictures_0 13 rfl rfl)
theorem dX0_pictures_16 : decode cX0_pictures 16 = .ok (.lshl, 1) := dk_121 (dk_at dksX0_pictures_0 16 rfl rfl)
theorem dX0_pictures_17 : decode cX0_pictures 17 = .ok (.lreturn, 1) := dk_173 (dk_at dksX0_pictures_0 17 rfl rfl)
abbrev cX0_signal : ByteArray := prog_1_method_72_code
def yX0_signal : MethodName := ⟨RX0, "signal", "(IIII)I"⟩
def dkwX0_signal_5 : List UInt8 := [167, 0, 7, 42, 180, 1, 142, 182, 1, 32, 172]
abbrev dktX0_signal_5 : List UInt8 := dkwX0_signal_5 ++ []
def dkwX0_signal_4 : List UInt8 := [167, 255, 216, 42, 42, 180, 1, 142, 156, 0, 7, 2, 167, 0, 19, 21, 4, 154, 0, 10, 42, 180, 1, 154]
abbrev dktX0_signal_4 : List UInt8 := dkwX0_signal_4 ++ dktX0_signal_5
def dkwX0_signal_3 : List UInt8 := [181, 1, 154, 42, 42, 182, 0, 162, 27, 28, 182, 0, 196, 29, 3, 3, 21, 5, 182, 1, 148, 132, 5, 1]
abbrev dktX0_signal_3 : List UInt8 := dkwX0_signal_3 ++ dktX0_signal_4
def dkwX0_signal_2 : List UInt8 := [181, 1, 142, 3, 54, 5, 21, 5, 6, 163, 0, 40, 42, 180, 1, 142, 156, 0, 33, 42, 21, 5]
abbrev dktX0_signal_2 : List UInt8 := dkwX0_signal_2 ++ dktX0_signal_3
def dkwX0_signal_1 : List UInt8 := [4, 167, 0, 9, 42, 27, 28, 182, 1, 37, 181, 0, 81, 42, 180, 0, 81, 158, 0, 5, 2, 172, 42, 2]
abbrev dktX0_signal_1 : List UInt8 := dkwX0_signal_1 ++ dktX0_signal_2
def dkwX0_signal_0 : List UInt8 := [42, 29, 133, 9, 20, 1, 152, 184, 0, 171, 153, 0, 14, 21, 4, 133, 9, 10, 184, 0, 171, 154, 0, 7]
abbrev dktX0_signal_0 : List UInt8 := dkwX0_signal_0 ++ dktX0_signal_1
theorem dksX0_signal_0 : cX0_signal.data.toList.drop 0 = dktX0_signal_0 := by decide +kernel
theorem dksX0_signal_1 : cX0_signal.data.toList.drop 24 = dktX0_signal_1 := dk_seg dksX0_signal_0 24 rfl rfl
theorem dksX0_signal_2 : cX0_signal.data.toList.drop 48 = dktX0_signal_2 := dk_seg dksX0_signal_1 24 rfl rfl
theorem dksX0_signal_3 : cX0_signal.data.toList.drop 70 = dktX0_signal_3 := dk_seg dksX0_signal_2 22 rfl rfl
theorem dksX0_signal_4 : cX0_signal.data.toList.drop 94 = dktX0_signal_4 := dk_seg dksX0_signal_3 24 rfl rfl
theorem dksX0_signal_5 : cX0_signal.data.toList.drop 118 = dktX0_signal_5 := dk_seg dksX0_signal_4 24 rfl rfl
theorem dX0_signal_0 : decode cX0_signal 0 = .ok (.aload_n 0, 1) := dk_42 (dk_at dksX0_signal_0 0 rfl rfl)
theorem dX0_signal_1 : decode cX0_signal 1 = .ok (.iload_n 3, 1) := dk_29 (dk_at dksX0_signal_0 1 rfl rfl)
theorem dX0_signal_2 : decode cX0_signal 2 = .ok (.i2l, 1) := dk_133 (dk_at dksX0_signal_0 2 rfl rfl)
theorem dX0_signal_3 : decode cX0_signal 3 = .ok (.lconst 0, 1) := dk_9 (dk_at dksX0_signal_0 3 rfl rfl)
theorem dX0_signal_4 : decode cX0_signal 4 = .ok (.ldc2_w 408, 3) := dk_20 1 152 (dk_at dksX0_signal_0 4 rfl rfl)
theorem dX0_signal_7 : decode cX0_signal 7 = .ok (.invokestatic 171, 3) := dk_184 0 171 (dk_at dksX0_signal_0 7 rfl rfl)
theorem dX0_signal_10 : decode cX0_signal 10 = .ok (.ifCond .eq 14, 3) := dk_153 0 14 (dk_at dksX0_signal_0 10 rfl rfl)
theorem dX0_signal_13 : decode cX0_signal 13 = .ok (.iload 4, 2) := dk_21 4 (dk_at dksX0_signal_0 13 rfl rfl)
theorem dX0_signal_15 : decode cX0_signal 15 = .ok (.i2l, 1) := dk_133 (dk_at dksX0_signal_0 15 rfl rfl)
theorem dX0_signal_16 : decode cX0_signal 16 = .ok (.lconst 0, 1) := dk_9 (dk_at dksX0_signal_0 16 rfl rfl)
theorem dX0_signal_17 : decode cX0_signal 17 = .ok (.lconst 1, 1) := dk_10 (dk_at dksX0_signal_0 17 rfl rfl)
theorem dX0_signal_18 : decode cX0_signal 18 = .ok (.invokestatic 171, 3) := dk_184 0 171 (dk_at dksX0_signal_0 18 rfl rfl)
theorem dX0_signal_21 : decode cX0_signal 21 = .ok (.ifCond .ne 7, 3) := dk_154 0 7 (dk_at dksX0_signal_0 21 rfl rfl)
theorem dX0_signal_24 : decode cX0_signal 24 = .ok (.iconst 1, 1) := dk_4 (dk_at dksX0_signal_1 0 rfl rfl)
theorem dX0_signal_25 : decode cX0_signal 25 = .ok (.goto 9, 3) := dk_167 0 9 (dk_at dksX0_signal_1 1 rfl rfl)
theorem dX0_signal_28 : decode cX0_signal 28 = .ok (.aload_n 0, 1) := dk_42 (dk_at dksX0_signal_1 4 rfl rfl)
theorem dX0_signal_29 : decode cX0_signal 29 = .ok (.iload_n 1, 1) := dk_27 (dk_at dksX0_signal_1 5 rfl rfl)
theorem dX0_signal_30 : decode cX0_signal 30 = .ok (.iload_n 2, 1) := dk_28 (dk_at dksX0_signal_1 6 rfl rfl)
theorem dX0_signal_31 : decode cX0_signal 31 = .ok (.invokevirtual 293, 3) := dk_182 1 37 (dk_at dksX0_signal_1 7 rfl rfl)
theorem dX0_signal_34 : decode cX0_signal 34 = .ok (.putfield 81, 3) := dk_181 0 81 (dk_at dksX0_signal_1 10 rfl rfl)
theorem dX0_signal_37 : decode cX0_signal 37 = .ok (.aload_n 0, 1) := dk_42 (dk_at dksX0_signal_1 13 rfl rfl)
theorem dX0_signal_38 : decode cX0_signal 38 = .ok (.getfield 81, 3) := dk_180 0 81 (dk_at dksX0_signal_1 14 rfl rfl)
theorem dX0_signal_41 : decode cX0_signal 41 = .ok (.ifCond .le 5, 3) := dk_158 0 5 (dk_at dksX0_signal_1 17 rfl rfl)
theorem dX0_signal_44 : decode cX0_signal 44 = .ok (.iconst (-1), 1) := dk_2 (dk_at dksX0_signal_1 20 rfl rfl)
theorem dX0_signal_45 : decode cX0_signal 45 = .ok (.ireturn, 1) := dk_172 (dk_at dksX0_signal_1 21 rfl rfl)
theorem dX0_signal_46 : decode cX0_signal 46 = .ok (.aload_n 0, 1) := dk_42 (dk_at dksX0_signal_1 22 rfl rfl)
theorem dX0_signal_47 : decode cX0_signal 47 = .ok (.iconst (-1), 1) := dk_2 (dk_at dksX0_signal_1 23 rfl rfl)
theorem dX0_signal_48 : decode cX0_signal 48 = .ok (.putfield 398, 3) := dk_181 1 142 (dk_at dksX0_signal_2 0 rfl rfl)
theorem dX0_signal_51 : decode cX0_signal 51 = .ok (.iconst 0, 1) := dk_3 (dk_at dksX0_signal_2 3 rfl rfl)
theorem dX0_signal_52 : decode cX0_signal 52 = .ok (.istore 5, 2) := dk_54 5 (dk_at dksX0_signal_2 4 rfl rfl)
theorem dX0_signal_54 : decode cX0_signal 54 = .ok (.iload 5, 2) := dk_21 5 (dk_at dksX0_signal_2 6 rfl rfl)
theorem dX0_signal_56 : decode cX0_signal 56 = .ok (.iconst 3, 1) := dk_6 (dk_at dksX0_signal_2 8 rfl rfl)
theorem dX0_signal_57 : decode cX0_signal 57 = .ok (.if_icmp .gt 40, 3) := dk_163 0 40 (dk_at dksX0_signal_2 9 rfl rfl)
theorem dX0_signal_60 : decode cX0_signal 60 = .ok (.aload_n 0, 1) := dk_42 (dk_at dksX0_signal_2 12 rfl rfl)
theorem dX0_signal_61 : decode cX0_signal 61 = .ok (.getfield 398, 3) := dk_180 1 142 (dk_at dksX0_signal_2 13 rfl rfl)
theorem dX0_signal_64 : decode cX0_signal 64 = .ok (.ifCond .ge 33, 3) := dk_156 0 33 (dk_at dksX0_signal_2 16 rfl rfl)
theorem dX0_signal_67 : decode cX0_signal 67 = .ok (.aload_n 0, 1) := dk_42 (dk_at dksX0_signal_2 19 rfl rfl)
theorem dX0_signal_68 : decode cX0_signal 68 = .ok (.iload 5, 2) := dk_21 5 (dk_at dksX0_signal_2 20 rfl rfl)
theorem dX0_signal_70 : decode cX0_signal 70 = .ok (.putfield 410, 3) := dk_181 1 154 (dk_at dksX0_signal_3 0 rfl rfl)
theorem dX0_signal_73 : decode cX0_signal 73 = .ok (.aload_n 0, 1) := dk_42 (dk_at dksX0_signal_3 3 rfl rfl)
theorem dX0_signal_74 : decode cX0_signal 74 = .ok (.aload_n 0, 1) := dk_42 (dk_at dksX0_signal_3 4 rfl rfl)
theorem dX0_signal_75 : decode cX0_signal 75 = .ok (.invokevirtual 162, 3) := dk_182 0 162 (dk_at dksX0_signal_3 5 rfl rfl)
theorem dX0_signal_78 : decode cX0_signal 78 = .ok (.iload_n 1, 1) := dk_27 (dk_at dksX0_signal_3 8 rfl rfl)
theorem dX0_signal_79 : decode cX0_signal 79 = .ok (.iload_n 2, 1) := dk_28 (dk_at dksX0_signal_3 9 rfl rfl)
theorem dX0_signal_80 : decode cX0_signal 80 = .ok (.invokevirtual 196, 3) := dk_182 0 196 (dk_at dksX0_signal_3 10 rfl rfl)
theorem dX0_signal_83 : decode cX0_signal 83 = .ok (.iload_n 3, 1) := dk_29 (dk_at dksX0_signal_3 13 rfl rfl)
theorem dX0_signal_84 : decode cX0_signal 84 = .ok (.iconst 0, 1) := dk_3 (dk_at dksX0_signal_3 14 rfl rfl)
theorem dX0_signal_85 : decode cX0_signal 85 = .ok (.iconst 0, 1) := dk_3 (dk_at dksX0_signal_3 15 rfl rfl)
theorem dX0_signal_86 : decode cX0_signal 86 = .ok (.iload 5, 2) := dk_21 5 (dk_at dksX0_signal_3 16 rfl rfl)
theorem dX0_signal_88 : decode cX0_signal 88 = .ok (.invokevirtual 404, 3) := dk_182 1 148 (dk_at dksX0_signal_3 18 rfl rfl)
theorem dX0_signal_91 : decode cX0_signal 91 = .ok (.iinc 5 1, 3) := dk_132 5 1 (dk_at dksX0_signal_3 21 rfl rfl)
theorem dX0_signal_94 : decode cX0_signal 94 = .ok (.goto (-40), 3) := dk_167 255 216 (dk_at dksX0_signal_4 0 rfl rfl)
theorem dX0_signal_97 : decode cX0_signal 97 = .ok (.aload_n 0, 1) := dk_42 (dk_at dksX0_signal_4 3 rfl rfl)
theorem dX0_signal_98 : decode cX0_signal 98 = .ok (.aload_n 0, 1) := dk_42 (dk_at dksX0_signal_4 4 rfl rfl)
theorem dX0_signal_99 : decode cX0_signal 99 = .ok (.getfield 398, 3) := dk_180 1 142 (dk_at dksX0_signal_4 5 rfl rfl)
theorem dX0_signal_102 : decode cX0_signal 102 = .ok (.ifCond .ge 7, 3) := dk_156 0 7 (dk_at dksX0_signal_4 8 rfl rfl)
theorem dX0_signal_105 : decode cX0_signal 105 = .ok (.iconst (-1), 1) := dk_2 (dk_at dksX0_signal_4 11 rfl rfl)
theorem dX0_signal_106 : decode cX0_signal 106 = .ok (.goto 19, 3) := dk_167 0 19 (dk_at dksX0_signal_4 12 rfl rfl)
theorem dX0_signal_109 : decode cX0_signal 109 = .ok (.iload 4, 2) := dk_21 4 (dk_at dksX0_signal_4 15 rfl rfl)
theorem dX0_signal_111 : decode cX0_signal 111 = .ok (.ifCond .ne 10, 3) := dk_154 0 10 (dk_at dksX0_signal_4 17 rfl rfl)
theorem dX0_signal_114 : decode cX0_signal 114 = .ok (.aload_n 0, 1) := dk_42 (dk_at dksX0_signal_4 20 rfl rfl)
theorem dX0_signal_115 : decode cX0_signal 115 = .ok (.getfield 410, 3) := dk_180 1 154 (dk_at dksX0_signal_4 21 rfl rfl)
theorem dX0_signal_118 : decode cX0_signal 118 = .ok (.goto 7, 3) := dk_167 0 7 (dk_at dksX0_signal_5 0 rfl rfl)
theorem dX0_signal_121 : decode cX0_signal 121 = .ok (.aload_n 0, 1) := dk_42 (dk_at dksX0_signal_5 3 rfl rfl)
theorem dX0_signal_122 : decode cX0_signal 122 = .ok (.getfield 398, 3) := dk_180 1 142 (dk_at dksX0_signal_5 4 rfl rfl)
theorem dX0_signal_125 : decode cX0_signal 125 = .ok (.invokevirtual 288, 3) := dk_182 1 32 (dk_at dksX0_signal_5 7 rfl rfl)
theorem dX0_signal_128 : decode cX0_signal 128 = .ok (.ireturn, 1) := dk_172 (dk_at dksX0_signal_5 10 rfl rfl)
abbrev cX0_tries : ByteArray := prog_1_method_71_code
def yX0_tries : MethodName := ⟨RX0, "tries", "(IIIII)V"⟩
def dkwX0_tries_4 : List UInt8 := [21, 6, 4, 96, 21, 5, 4, 100, 182, 1, 148, 132, 6, 1, 167, 255, 205, 177]
abbrev dktX0_tries_4 : List UInt8 := dkwX0_tries_4 ++ []
def dkwX0_tries_3 : List UInt8 := [182, 0, 162, 182, 0, 204, 21, 6, 122, 4, 126, 4, 160, 0, 23, 42, 27, 28, 29, 4, 21, 6, 120, 128]
abbrev dktX0_tries_3 : List UInt8 := dkwX0_tries_3 ++ dktX0_tries_4
def dkwX0_tries_2 : List UInt8 := [42, 29, 181, 1, 142, 177, 21, 4, 54, 6, 21, 6, 42, 182, 0, 162, 182, 1, 145, 162, 0, 45, 42]
abbrev dktX0_tries_2 : List UInt8 := dkwX0_tries_2 ++ dktX0_tries_3
def dkwX0_tries_1 : List UInt8 := [182, 0, 233, 42, 182, 0, 233, 180, 1, 13, 29, 130, 28, 182, 1, 87, 27, 122, 4, 126, 4, 160, 0, 8]
abbrev dktX0_tries_1 : List UInt8 := dkwX0_tries_1 ++ dktX0_tries_2
def dkwX0_tries_0 : List UInt8 := [21, 5, 154, 0, 50, 42, 180, 1, 142, 155, 0, 12, 29, 42, 180, 1, 142, 161, 0, 4, 177, 42]
abbrev dktX0_tries_0 : List UInt8 := dkwX0_tries_0 ++ dktX0_tries_1
theorem dksX0_tries_0 : cX0_tries.data.toList.drop 0 = dktX0_tries_0 := by decide +kernel
theorem dksX0_tries_1 : cX0_tries.data.toList.drop 22 = dktX0_tries_1 := dk_seg dksX0_tries_0 22 rfl rfl
theorem dksX0_tries_2 : cX0_tries.data.toList.drop 46 = dktX0_tries_2 := dk_seg dksX0_tries_1 24 rfl rfl
theorem dksX0_tries_3 : cX0_tries.data.toList.drop 69 = dktX0_tries_3 := dk_seg dksX0_tries_2 23 rfl rfl
theorem dksX0_tries_4 : cX0_tries.data.toList.drop 93 = dktX0_tries_4 := dk_seg dksX0_tries_3 24 rfl rfl
theorem dX0_tries_0 : decode cX0_tries 0 = .ok (.iload 5, 2) := dk_21 5 (dk_at dksX0_tries_0 0 rfl rfl)
theorem dX0_tries_2 : decode cX0_tries 2 = .ok (.ifCond .ne 50, 3) := dk_154 0 50 (dk_at dksX0_tries_0 2 rfl rfl)
theorem dX0_tries_5 : decode cX0_tries 5 = .ok (.aload_n 0, 1) := dk_42 (dk_at dksX0_tries_0 5 rfl rfl)
theorem dX0_tries_6 : decode cX0_tries 6 = .ok (.getfield 398, 3) := dk_180 1 142 (dk_at dksX0_tries_0 6 rfl rfl)
theorem dX0_tries_9 : decode cX0_tries 9 = .ok (.ifCond .lt 12, 3) := dk_155 0 12 (dk_at dksX0_tries_0 9 rfl rfl)
theorem dX0_tries_12 : decode cX0_tries 12 = .ok (.iload_n 3, 1) := dk_29 (dk_at dksX0_tries_0 12 rfl rfl)
theorem dX0_tries_13 : decode cX0_tries 13 = .ok (.aload_n 0, 1) := dk_42 (dk_at dksX0_tries_0 13 rfl rfl)
theorem dX0_tries_14 : decode cX0_tries 14 = .ok (.getfield 398, 3) := dk_180 1 142 (dk_at dksX0_tries_0 14 rfl rfl)
theorem dX0_tries_17 : decode cX0_tries 17 = .ok (.if_icmp .lt 4, 3) := dk_161 0 4 (dk_at dksX0_tries_0 17 rfl rfl)
theorem dX0_tries_20 : decode cX0_tries 20 = .ok (.return_, 1) := dk_177 (dk_at dksX0_tries_0 20 rfl rfl)
theorem dX0_tries_21 : decode cX0_tries 21 = .ok (.aload_n 0, 1) := dk_42 (dk_at dksX0_tries_0 21 rfl rfl)
theorem dX0_tries_22 : decode cX0_tries 22 = .ok (.invokevirtual 233, 3) := dk_182 0 233 (dk_at dksX0_tries_1 0 rfl rfl)
theorem dX0_tries_25 : decode cX0_tries 25 = .ok (.aload_n 0, 1) := dk_42 (dk_at dksX0_tries_1 3 rfl rfl)
theorem dX0_tries_26 : decode cX0_tries 26 = .ok (.invokevirtual 233, 3) := dk_182 0 233 (dk_at dksX0_tries_1 4 rfl rfl)
theorem dX0_tries_29 : decode cX0_tries 29 = .ok (.getfield 269, 3) := dk_180 1 13 (dk_at dksX0_tries_1 7 rfl rfl)
theorem dX0_tries_32 : decode cX0_tries 32 = .ok (.iload_n 3, 1) := dk_29 (dk_at dksX0_tries_1 10 rfl rfl)
theorem dX0_tries_33 : decode cX0_tries 33 = .ok (.ixor, 1) := dk_130 (dk_at dksX0_tries_1 11 rfl rfl)
theorem dX0_tries_34 : decode cX0_tries 34 = .ok (.iload_n 2, 1) := dk_28 (dk_at dksX0_tries_1 12 rfl rfl)
theorem dX0_tries_35 : decode cX0_tries 35 = .ok (.invokevirtual 343, 3) := dk_182 1 87 (dk_at dksX0_tries_1 13 rfl rfl)
theorem dX0_tries_38 : decode cX0_tries 38 = .ok (.iload_n 1, 1) := dk_27 (dk_at dksX0_tries_1 16 rfl rfl)
theorem dX0_tries_39 : decode cX0_tries 39 = .ok (.ishr, 1) := dk_122 (dk_at dksX0_tries_1 17 rfl rfl)
theorem dX0_tries_40 : decode cX0_tries 40 = .ok (.iconst 1, 1) := dk_4 (dk_at dksX0_tries_1 18 rfl rfl)
theorem dX0_tries_41 : decode cX0_tries 41 = .ok (.iand, 1) := dk_126 (dk_at dksX0_tries_1 19 rfl rfl)
theorem dX0_tries_42 : decode cX0_tries 42 = .ok (.iconst 1, 1) := dk_4 (dk_at dksX0_tries_1 20 rfl rfl)
theorem dX0_tries_43 : decode cX0_tries 43 = .ok (.if_icmp .ne 8, 3) := dk_160 0 8 (dk_at dksX0_tries_1 21 rfl rfl)
theorem dX0_tries_46 : decode cX0_tries 46 = .ok (.aload_n 0, 1) := dk_42 (dk_at dksX0_tries_2 0 rfl rfl)
theorem dX0_tries_47 : decode cX0_tries 47 = .ok (.iload_n 3, 1) := dk_29 (dk_at dksX0_tries_2 1 rfl rfl)
theorem dX0_tries_48 : decode cX0_tries 48 = .ok (.putfield 398, 3) := dk_181 1 142 (dk_at dksX0_tries_2 2 rfl rfl)
theorem dX0_tries_51 : decode cX0_tries 51 = .ok (.return_, 1) := dk_177 (dk_at dksX0_tries_2 5 rfl rfl)
theorem dX0_tries_52 : decode cX0_tries 52 = .ok (.iload 4, 2) := dk_21 4 (dk_at dksX0_tries_2 6 rfl rfl)
theorem dX0_tries_54 : decode cX0_tries 54 = .ok (.istore 6, 2) := dk_54 6 (dk_at dksX0_tries_2 8 rfl rfl)
theorem dX0_tries_56 : decode cX0_tries 56 = .ok (.iload 6, 2) := dk_21 6 (dk_at dksX0_tries_2 10 rfl rfl)
theorem dX0_tries_58 : decode cX0_tries 58 = .ok (.aload_n 0, 1) := dk_42 (dk_at dksX0_tries_2 12 rfl rfl)
theorem dX0_tries_59 : decode cX0_tries 59 = .ok (.invokevirtual 162, 3) := dk_182 0 162 (dk_at dksX0_tries_2 13 rfl rfl)
theorem dX0_tries_62 : decode cX0_tries 62 = .ok (.invokevirtual 401, 3) := dk_182 1 145 (dk_at dksX0_tries_2 16 rfl rfl)
theorem dX0_tries_65 : decode cX0_tries 65 = .ok (.if_icmp .ge 45, 3) := dk_162 0 45 (dk_at dksX0_tries_2 19 rfl rfl)
theorem dX0_tries_68 : decode cX0_tries 68 = .ok (.aload_n 0, 1) := dk_42 (dk_at dksX0_tries_2 22 rfl rfl)
theorem dX0_tries_69 : decode cX0_tries 69 = .ok (.invokevirtual 162, 3) := dk_182 0 162 (dk_at dksX0_tries_3 0 rfl rfl)
theorem dX0_tries_72 : decode cX0_tries 72 = .ok (.invokevirtual 204, 3) := dk_182 0 204 (dk_at dksX0_tries_3 3 rfl rfl)
theorem dX0_tries_75 : decode cX0_tries 75 = .ok (.iload 6, 2) := dk_21 6 (dk_at dksX0_tries_3 6 rfl rfl)
theorem dX0_tries_77 : decode cX0_tries 77 = .ok (.ishr, 1) := dk_122 (dk_at dksX0_tries_3 8 rfl rfl)
theorem dX0_tries_78 : decode cX0_tries 78 = .ok (.iconst 1, 1) := dk_4 (dk_at dksX0_tries_3 9 rfl rfl)
theorem dX0_tries_79 : decode cX0_tries 79 = .ok (.iand, 1) := dk_126 (dk_at dksX0_tries_3 10 rfl rfl)
theorem dX0_tries_80 : decode cX0_tries 80 = .ok (.iconst 1, 1) := dk_4 (dk_at dksX0_tries_3 11 rfl rfl)
theorem dX0_tries_81 : decode cX0_tries 81 = .ok (.if_icmp .ne 23, 3) := dk_160 0 23 (dk_at dksX0_tries_3 12 rfl rfl)
theorem dX0_tries_84 : decode cX0_tries 84 = .ok (.aload_n 0, 1) := dk_42 (dk_at dksX0_tries_3 15 rfl rfl)
theorem dX0_tries_85 : decode cX0_tries 85 = .ok (.iload_n 1, 1) := dk_27 (dk_at dksX0_tries_3 16 rfl rfl)
theorem dX0_tries_86 : decode cX0_tries 86 = .ok (.iload_n 2, 1) := dk_28 (dk_at dksX0_tries_3 17 rfl rfl)
theorem dX0_tries_87 : decode cX0_tries 87 = .ok (.iload_n 3, 1) := dk_29 (dk_at dksX0_tries_3 18 rfl rfl)
theorem dX0_tries_88 : decode cX0_tries 88 = .ok (.iconst 1, 1) := dk_4 (dk_at dksX0_tries_3 19 rfl rfl)
theorem dX0_tries_89 : decode cX0_tries 89 = .ok (.iload 6, 2) := dk_21 6 (dk_at dksX0_tries_3 20 rfl rfl)
theorem dX0_tries_91 : decode cX0_tries 91 = .ok (.ishl, 1) := dk_120 (dk_at dksX0_tries_3 22 rfl rfl)
theorem dX0_tries_92 : decode cX0_tries 92 = .ok (.ior, 1) := dk_128 (dk_at dksX0_tries_3 23 rfl rfl)
theorem dX0_tries_93 : decode cX0_tries 93 = .ok (.iload 6, 2) := dk_21 6 (dk_at dksX0_tries_4 0 rfl rfl)
theorem dX0_tries_95 : decode cX0_tries 95 = .ok (.iconst 1, 1) := dk_4 (dk_at dksX0_tries_4 2 rfl rfl)
theorem dX0_tries_96 : decode cX0_tries 96 = .ok (.iadd, 1) := dk_96 (dk_at dksX0_tries_4 3 rfl rfl)
theorem dX0_tries_97 : decode cX0_tries 97 = .ok (.iload 5, 2) := dk_21 5 (dk_at dksX0_tries_4 4 rfl rfl)
theorem dX0_tries_99 : decode cX0_tries 99 = .ok (.iconst 1, 1) := dk_4 (dk_at dksX0_tries_4 6 rfl rfl)
theorem dX0_tries_100 : decode cX0_tries 100 = .ok (.isub, 1) := dk_100 (dk_at dksX0_tries_4 7 rfl rfl)
theorem dX0_tries_101 : decode cX0_tries 101 = .ok (.invokevirtual 404, 3) := dk_182 1 148 (dk_at dksX0_tries_4 8 rfl rfl)
theorem dX0_tries_104 : decode cX0_tries 104 = .ok (.iinc 6 1, 3) := dk_132 6 1 (dk_at dksX0_tries_4 11 rfl rfl)
theorem dX0_tries_107 : decode cX0_tries 107 = .ok (.goto (-51), 3) := dk_167 255 205 (dk_at dksX0_tries_4 14 rfl rfl)
theorem dX0_tries_110 : decode cX0_tries 110 = .ok (.return_, 1) := dk_177 (dk_at dksX0_tries_4 17 rfl rfl)
abbrev cX0_spoils : ByteArray := prog_1_method_74_code
def yX0_spoils : MethodName := ⟨RX0, "spoils", "(III)I"⟩
def dkwX0_spoils_2 : List UInt8 := [29, 182, 1, 157, 172]
abbrev dktX0_spoils_2 : List UInt8 := dkwX0_spoils_2 ++ []
def dkwX0_spoils_1 : List UInt8 := [181, 0, 81, 42, 180, 0, 81, 158, 0, 7, 2, 167, 0, 17, 42, 42, 182, 0, 162, 27, 28, 182, 0, 196]
abbrev dktX0_spoils_1 : List UInt8 := dkwX0_spoils_1 ++ dktX0_spoils_2
def dkwX0_spoils_0 : List UInt8 := [42, 29, 133, 9, 20, 1, 152, 184, 0, 171, 154, 0, 7, 4, 167, 0, 9, 42, 27, 28, 182, 1, 61]
abbrev dktX0_spoils_0 : List UInt8 := dkwX0_spoils_0 ++ dktX0_spoils_1
theorem dksX0_spoils_0 : cX0_spoils.data.toList.drop 0 = dktX0_spoils_0 := by decide +kernel
theorem dksX0_spoils_1 : cX0_spoils.data.toList.drop 23 = dktX0_spoils_1 := dk_seg dksX0_spoils_0 23 rfl rfl
theorem dksX0_spoils_2 : cX0_spoils.data.toList.drop 47 = dktX0_spoils_2 := dk_seg dksX0_spoils_1 24 rfl rfl
theorem dX0_spoils_0 : decode cX0_spoils 0 = .ok (.aload_n 0, 1) := dk_42 (dk_at dksX0_spoils_0 0 rfl rfl)
theorem dX0_spoils_1 : decode cX0_spoils 1 = .ok (.iload_n 3, 1) := dk_29 (dk_at dksX0_spoils_0 1 rfl rfl)
theorem dX0_spoils_2 : decode cX0_spoils 2 = .ok (.i2l, 1) := dk_133 (dk_at dksX0_spoils_0 2 rfl rfl)
theorem dX0_spoils_3 : decode cX0_spoils 3 = .ok (.lconst 0, 1) := dk_9 (dk_at dksX0_spoils_0 3 rfl rfl)
theorem dX0_spoils_4 : decode cX0_spoils 4 = .ok (.ldc2_w 408, 3) := dk_20 1 152 (dk_at dksX0_spoils_0 4 rfl rfl)
theorem dX0_spoils_7 : decode cX0_spoils 7 = .ok (.invokestatic 171, 3) := dk_184 0 171 (dk_at dksX0_spoils_0 7 rfl rfl)
theorem dX0_spoils_10 : decode cX0_spoils 10 = .ok (.ifCond .ne 7, 3) := dk_154 0 7 (dk_at dksX0_spoils_0 10 rfl rfl)
theorem dX0_spoils_13 : decode cX0_spoils 13 = .ok (.iconst 1, 1) := dk_4 (dk_at dksX0_spoils_0 13 rfl rfl)
theorem dX0_spoils_14 : decode cX0_spoils 14 = .ok (.goto 9, 3) := dk_167 0 9 (dk_at dksX0_spoils_0 14 rfl rfl)
theorem dX0_spoils_17 : decode cX0_spoils 17 = .ok (.aload_n 0, 1) := dk_42 (dk_at dksX0_spoils_0 17 rfl rfl)
theorem dX0_spoils_18 : decode cX0_spoils 18 = .ok (.iload_n 1, 1) := dk_27 (dk_at dksX0_spoils_0 18 rfl rfl)
theorem dX0_spoils_19 : decode cX0_spoils 19 = .ok (.iload_n 2, 1) := dk_28 (dk_at dksX0_spoils_0 19 rfl rfl)
theorem dX0_spoils_20 : decode cX0_spoils 20 = .ok (.invokevirtual 317, 3) := dk_182 1 61 (dk_at dksX0_spoils_0 20 rfl rfl)
theorem dX0_spoils_23 : decode cX0_spoils 23 = .ok (.putfield 81, 3) := dk_181 0 81 (dk_at dksX0_spoils_1 0 rfl rfl)
theorem dX0_spoils_26 : decode cX0_spoils 26 = .ok (.aload_n 0, 1) := dk_42 (dk_at dksX0_spoils_1 3 rfl rfl)
theorem dX0_spoils_27 : decode cX0_spoils 27 = .ok (.getfield 81, 3) := dk_180 0 81 (dk_at dksX0_spoils_1 4 rfl rfl)
theorem dX0_spoils_30 : decode cX0_spoils 30 = .ok (.ifCond .le 7, 3) := dk_158 0 7 (dk_at dksX0_spoils_1 7 rfl rfl)
theorem dX0_spoils_33 : decode cX0_spoils 33 = .ok (.iconst (-1), 1) := dk_2 (dk_at dksX0_spoils_1 10 rfl rfl)
theorem dX0_spoils_34 : decode cX0_spoils 34 = .ok (.goto 17, 3) := dk_167 0 17 (dk_at dksX0_spoils_1 11 rfl rfl)
theorem dX0_spoils_37 : decode cX0_spoils 37 = .ok (.aload_n 0, 1) := dk_42 (dk_at dksX0_spoils_1 14 rfl rfl)
theorem dX0_spoils_38 : decode cX0_spoils 38 = .ok (.aload_n 0, 1) := dk_42 (dk_at dksX0_spoils_1 15 rfl rfl)
theorem dX0_spoils_39 : decode cX0_spoils 39 = .ok (.invokevirtual 162, 3) := dk_182 0 162 (dk_at dksX0_spoils_1 16 rfl rfl)
theorem dX0_spoils_42 : decode cX0_spoils 42 = .ok (.iload_n 1, 1) := dk_27 (dk_at dksX0_spoils_1 19 rfl rfl)
theorem dX0_spoils_43 : decode cX0_spoils 43 = .ok (.iload_n 2, 1) := dk_28 (dk_at dksX0_spoils_1 20 rfl rfl)
theorem dX0_spoils_44 : decode cX0_spoils 44 = .ok (.invokevirtual 196, 3) := dk_182 0 196 (dk_at dksX0_spoils_1 21 rfl rfl)
theorem dX0_spoils_47 : decode cX0_spoils 47 = .ok (.iload_n 3, 1) := dk_29 (dk_at dksX0_spoils_2 0 rfl rfl)
theorem dX0_spoils_48 : decode cX0_spoils 48 = .ok (.invokevirtual 413, 3) := dk_182 1 157 (dk_at dksX0_spoils_2 1 rfl rfl)
theorem dX0_spoils_51 : decode cX0_spoils 51 = .ok (.ireturn, 1) := dk_172 (dk_at dksX0_spoils_2 4 rfl rfl)
abbrev cX0_spoilsOf : ByteArray := prog_1_method_73_code
def yX0_spoilsOf : MethodName := ⟨RX0, "spoilsOf", "(II)I"⟩
def dkwX0_spoilsOf_1 : List UInt8 := [180, 1, 13, 4, 27, 120, 130, 28, 182, 1, 87, 130, 184, 0, 250, 172]
abbrev dktX0_spoilsOf_1 : List UInt8 := dkwX0_spoilsOf_1 ++ []
def dkwX0_spoilsOf_0 : List UInt8 := [42, 182, 0, 233, 42, 182, 0, 233, 180, 1, 13, 28, 182, 1, 87, 42, 182, 0, 233, 42, 182, 0, 233]
abbrev dktX0_spoilsOf_0 : List UInt8 := dkwX0_spoilsOf_0 ++ dktX0_spoilsOf_1
theorem dksX0_spoilsOf_0 : cX0_spoilsOf.data.toList.drop 0 = dktX0_spoilsOf_0 := by decide +kernel
theorem dksX0_spoilsOf_1 : cX0_spoilsOf.data.toList.drop 23 = dktX0_spoilsOf_1 := dk_seg dksX0_spoilsOf_0 23 rfl rfl
theorem dX0_spoilsOf_0 : decode cX0_spoilsOf 0 = .ok (.aload_n 0, 1) := dk_42 (dk_at dksX0_spoilsOf_0 0 rfl rfl)
theorem dX0_spoilsOf_1 : decode cX0_spoilsOf 1 = .ok (.invokevirtual 233, 3) := dk_182 0 233 (dk_at dksX0_spoilsOf_0 1 rfl rfl)
theorem dX0_spoilsOf_4 : decode cX0_spoilsOf 4 = .ok (.aload_n 0, 1) := dk_42 (dk_at dksX0_spoilsOf_0 4 rfl rfl)
theorem dX0_spoilsOf_5 : decode cX0_spoilsOf 5 = .ok (.invokevirtual 233, 3) := dk_182 0 233 (dk_at dksX0_spoilsOf_0 5 rfl rfl)
theorem dX0_spoilsOf_8 : decode cX0_spoilsOf 8 = .ok (.getfield 269, 3) := dk_180 1 13 (dk_at dksX0_spoilsOf_0 8 rfl rfl)
theorem dX0_spoilsOf_11 : decode cX0_spoilsOf 11 = .ok (.iload_n 2, 1) := dk_28 (dk_at dksX0_spoilsOf_0 11 rfl rfl)
theorem dX0_spoilsOf_12 : decode cX0_spoilsOf 12 = .ok (.invokevirtual 343, 3) := dk_182 1 87 (dk_at dksX0_spoilsOf_0 12 rfl rfl)
theorem dX0_spoilsOf_15 : decode cX0_spoilsOf 15 = .ok (.aload_n 0, 1) := dk_42 (dk_at dksX0_spoilsOf_0 15 rfl rfl)
theorem dX0_spoilsOf_16 : decode cX0_spoilsOf 16 = .ok (.invokevirtual 233, 3) := dk_182 0 233 (dk_at dksX0_spoilsOf_0 16 rfl rfl)
theorem dX0_spoilsOf_19 : decode cX0_spoilsOf 19 = .ok (.aload_n 0, 1) := dk_42 (dk_at dksX0_spoilsOf_0 19 rfl rfl)
theorem dX0_spoilsOf_20 : decode cX0_spoilsOf 20 = .ok (.invokevirtual 233, 3) := dk_182 0 233 (dk_at dksX0_spoilsOf_0 20 rfl rfl)
theorem dX0_spoilsOf_23 : decode cX0_spoilsOf 23 = .ok (.getfield 269, 3) := dk_180 1 13 (dk_at dksX0_spoilsOf_1 0 rfl rfl)
theorem dX0_spoilsOf_26 : decode cX0_spoilsOf 26 = .ok (.iconst 1, 1) := dk_4 (dk_at dksX0_spoilsOf_1 3 rfl rfl)
theorem dX0_spoilsOf_27 : decode cX0_spoilsOf 27 = .ok (.iload_n 1, 1) := dk_27 (dk_at dksX0_spoilsOf_1 4 rfl rfl)
theorem dX0_spoilsOf_28 : decode cX0_spoilsOf 28 = .ok (.ishl, 1) := dk_120 (dk_at dksX0_spoilsOf_1 5 rfl rfl)
theorem dX0_spoilsOf_29 : decode cX0_spoilsOf 29 = .ok (.ixor, 1) := dk_130 (dk_at dksX0_spoilsOf_1 6 rfl rfl)
theorem dX0_spoilsOf_30 : decode cX0_spoilsOf 30 = .ok (.iload_n 2, 1) := dk_28 (dk_at dksX0_spoilsOf_1 7 rfl rfl)
theorem dX0_spoilsOf_31 : decode cX0_spoilsOf 31 = .ok (.invokevirtual 343, 3) := dk_182 1 87 (dk_at dksX0_spoilsOf_1 8 rfl rfl)
theorem dX0_spoilsOf_34 : decode cX0_spoilsOf 34 = .ok (.ixor, 1) := dk_130 (dk_at dksX0_spoilsOf_1 11 rfl rfl)
theorem dX0_spoilsOf_35 : decode cX0_spoilsOf 35 = .ok (.invokestatic 250, 3) := dk_184 0 250 (dk_at dksX0_spoilsOf_1 12 rfl rfl)
theorem dX0_spoilsOf_38 : decode cX0_spoilsOf 38 = .ok (.ireturn, 1) := dk_172 (dk_at dksX0_spoilsOf_1 15 rfl rfl)
abbrev cX0_worst : ByteArray := prog_1_method_75_code
def yX0_worst : MethodName := ⟨RX0, "worst", "(II)I"⟩
def dkwX0_worst_5 : List UInt8 := [167, 0, 5, 21, 4, 182, 1, 32, 172]
abbrev dktX0_worst_5 : List UInt8 := dkwX0_worst_5 ++ []
def dkwX0_worst_4 : List UInt8 := [167, 0, 10, 21, 6, 54, 4, 21, 5, 62, 132, 5, 1, 167, 255, 197, 42, 28, 154, 0, 7, 29]
abbrev dktX0_worst_4 : List UInt8 := dkwX0_worst_4 ++ dktX0_worst_5
def dkwX0_worst_3 : List UInt8 := [154, 0, 6, 167, 0, 29, 42, 21, 5, 27, 182, 1, 157, 54, 6, 21, 6, 21, 4, 163, 0, 6]
abbrev dktX0_worst_3 : List UInt8 := dkwX0_worst_3 ++ dktX0_worst_4
def dkwX0_worst_2 : List UInt8 := [21, 5, 42, 182, 0, 162, 182, 1, 145, 162, 0, 53, 42, 182, 0, 162, 182, 0, 204, 21, 5, 122, 4, 126]
abbrev dktX0_worst_2 : List UInt8 := dkwX0_worst_2 ++ dktX0_worst_3
def dkwX0_worst_1 : List UInt8 := [167, 0, 4, 4, 181, 0, 81, 42, 180, 0, 81, 158, 0, 5, 2, 172, 2, 62, 2, 54, 4, 3, 54, 5]
abbrev dktX0_worst_1 : List UInt8 := dkwX0_worst_1 ++ dktX0_worst_2
def dkwX0_worst_0 : List UInt8 := [42, 27, 133, 9, 20, 1, 152, 184, 0, 171, 153, 0, 17, 28, 133, 9, 10, 184, 0, 171, 153, 0, 7, 3]
abbrev dktX0_worst_0 : List UInt8 := dkwX0_worst_0 ++ dktX0_worst_1
theorem dksX0_worst_0 : cX0_worst.data.toList.drop 0 = dktX0_worst_0 := by decide +kernel
theorem dksX0_worst_1 : cX0_worst.data.toList.drop 24 = dktX0_worst_1 := dk_seg dksX0_worst_0 24 rfl rfl
theorem dksX0_worst_2 : cX0_worst.data.toList.drop 48 = dktX0_worst_2 := dk_seg dksX0_worst_1 24 rfl rfl
theorem dksX0_worst_3 : cX0_worst.data.toList.drop 72 = dktX0_worst_3 := dk_seg dksX0_worst_2 24 rfl rfl
theorem dksX0_worst_4 : cX0_worst.data.toList.drop 94 = dktX0_worst_4 := dk_seg dksX0_worst_3 22 rfl rfl
theorem dksX0_worst_5 : cX0_worst.data.toList.drop 116 = dktX0_worst_5 := dk_seg dksX0_worst_4 22 rfl rfl
theorem dX0_worst_0 : decode cX0_worst 0 = .ok (.aload_n 0, 1) := dk_42 (dk_at dksX0_worst_0 0 rfl rfl)
theorem dX0_worst_1 : decode cX0_worst 1 = .ok (.iload_n 1, 1) := dk_27 (dk_at dksX0_worst_0 1 rfl rfl)
theorem dX0_worst_2 : decode cX0_worst 2 = .ok (.i2l, 1) := dk_133 (dk_at dksX0_worst_0 2 rfl rfl)
theorem dX0_worst_3 : decode cX0_worst 3 = .ok (.lconst 0, 1) := dk_9 (dk_at dksX0_worst_0 3 rfl rfl)
theorem dX0_worst_4 : decode cX0_worst 4 = .ok (.ldc2_w 408, 3) := dk_20 1 152 (dk_at dksX0_worst_0 4 rfl rfl)
theorem dX0_worst_7 : decode cX0_worst 7 = .ok (.invokestatic 171, 3) := dk_184 0 171 (dk_at dksX0_worst_0 7 rfl rfl)
theorem dX0_worst_10 : decode cX0_worst 10 = .ok (.ifCond .eq 17, 3) := dk_153 0 17 (dk_at dksX0_worst_0 10 rfl rfl)
theorem dX0_worst_13 : decode cX0_worst 13 = .ok (.iload_n 2, 1) := dk_28 (dk_at dksX0_worst_0 13 rfl rfl)
theorem dX0_worst_14 : decode cX0_worst 14 = .ok (.i2l, 1) := dk_133 (dk_at dksX0_worst_0 14 rfl rfl)
theorem dX0_worst_15 : decode cX0_worst 15 = .ok (.lconst 0, 1) := dk_9 (dk_at dksX0_worst_0 15 rfl rfl)
theorem dX0_worst_16 : decode cX0_worst 16 = .ok (.lconst 1, 1) := dk_10 (dk_at dksX0_worst_0 16 rfl rfl)
theorem dX0_worst_17 : decode cX0_worst 17 = .ok (.invokestatic 171, 3) := dk_184 0 171 (dk_at dksX0_worst_0 17 rfl rfl)
theorem dX0_worst_20 : decode cX0_worst 20 = .ok (.ifCond .eq 7, 3) := dk_153 0 7 (dk_at dksX0_worst_0 20 rfl rfl)
theorem dX0_worst_23 : decode cX0_worst 23 = .ok (.iconst 0, 1) := dk_3 (dk_at dksX0_worst_0 23 rfl rfl)
theorem dX0_worst_24 : decode cX0_worst 24 = .ok (.goto 4, 3) := dk_167 0 4 (dk_at dksX0_worst_1 0 rfl rfl)
theorem dX0_worst_27 : decode cX0_worst 27 = .ok (.iconst 1, 1) := dk_4 (dk_at dksX0_worst_1 3 rfl rfl)
theorem dX0_worst_28 : decode cX0_worst 28 = .ok (.putfield 81, 3) := dk_181 0 81 (dk_at dksX0_worst_1 4 rfl rfl)
theorem dX0_worst_31 : decode cX0_worst 31 = .ok (.aload_n 0, 1) := dk_42 (dk_at dksX0_worst_1 7 rfl rfl)
theorem dX0_worst_32 : decode cX0_worst 32 = .ok (.getfield 81, 3) := dk_180 0 81 (dk_at dksX0_worst_1 8 rfl rfl)
theorem dX0_worst_35 : decode cX0_worst 35 = .ok (.ifCond .le 5, 3) := dk_158 0 5 (dk_at dksX0_worst_1 11 rfl rfl)
theorem dX0_worst_38 : decode cX0_worst 38 = .ok (.iconst (-1), 1) := dk_2 (dk_at dksX0_worst_1 14 rfl rfl)
theorem dX0_worst_39 : decode cX0_worst 39 = .ok (.ireturn, 1) := dk_172 (dk_at dksX0_worst_1 15 rfl rfl)
theorem dX0_worst_40 : decode cX0_worst 40 = .ok (.iconst (-1), 1) := dk_2 (dk_at dksX0_worst_1 16 rfl rfl)
theorem dX0_worst_41 : decode cX0_worst 41 = .ok (.istore_n 3, 1) := dk_62 (dk_at dksX0_worst_1 17 rfl rfl)
theorem dX0_worst_42 : decode cX0_worst 42 = .ok (.iconst (-1), 1) := dk_2 (dk_at dksX0_worst_1 18 rfl rfl)
theorem dX0_worst_43 : decode cX0_worst 43 = .ok (.istore 4, 2) := dk_54 4 (dk_at dksX0_worst_1 19 rfl rfl)
theorem dX0_worst_45 : decode cX0_worst 45 = .ok (.iconst 0, 1) := dk_3 (dk_at dksX0_worst_1 21 rfl rfl)
theorem dX0_worst_46 : decode cX0_worst 46 = .ok (.istore 5, 2) := dk_54 5 (dk_at dksX0_worst_1 22 rfl rfl)
theorem dX0_worst_48 : decode cX0_worst 48 = .ok (.iload 5, 2) := dk_21 5 (dk_at dksX0_worst_2 0 rfl rfl)
theorem dX0_worst_50 : decode cX0_worst 50 = .ok (.aload_n 0, 1) := dk_42 (dk_at dksX0_worst_2 2 rfl rfl)
theorem dX0_worst_51 : decode cX0_worst 51 = .ok (.invokevirtual 162, 3) := dk_182 0 162 (dk_at dksX0_worst_2 3 rfl rfl)
theorem dX0_worst_54 : decode cX0_worst 54 = .ok (.invokevirtual 401, 3) := dk_182 1 145 (dk_at dksX0_worst_2 6 rfl rfl)
theorem dX0_worst_57 : decode cX0_worst 57 = .ok (.if_icmp .ge 53, 3) := dk_162 0 53 (dk_at dksX0_worst_2 9 rfl rfl)
theorem dX0_worst_60 : decode cX0_worst 60 = .ok (.aload_n 0, 1) := dk_42 (dk_at dksX0_worst_2 12 rfl rfl)
theorem dX0_worst_61 : decode cX0_worst 61 = .ok (.invokevirtual 162, 3) := dk_182 0 162 (dk_at dksX0_worst_2 13 rfl rfl)
theorem dX0_worst_64 : decode cX0_worst 64 = .ok (.invokevirtual 204, 3) := dk_182 0 204 (dk_at dksX0_worst_2 16 rfl rfl)
theorem dX0_worst_67 : decode cX0_worst 67 = .ok (.iload 5, 2) := dk_21 5 (dk_at dksX0_worst_2 19 rfl rfl)
theorem dX0_worst_69 : decode cX0_worst 69 = .ok (.ishr, 1) := dk_122 (dk_at dksX0_worst_2 21 rfl rfl)
theorem dX0_worst_70 : decode cX0_worst 70 = .ok (.iconst 1, 1) := dk_4 (dk_at dksX0_worst_2 22 rfl rfl)
theorem dX0_worst_71 : decode cX0_worst 71 = .ok (.iand, 1) := dk_126 (dk_at dksX0_worst_2 23 rfl rfl)
theorem dX0_worst_72 : decode cX0_worst 72 = .ok (.ifCond .ne 6, 3) := dk_154 0 6 (dk_at dksX0_worst_3 0 rfl rfl)
theorem dX0_worst_75 : decode cX0_worst 75 = .ok (.goto 29, 3) := dk_167 0 29 (dk_at dksX0_worst_3 3 rfl rfl)
theorem dX0_worst_78 : decode cX0_worst 78 = .ok (.aload_n 0, 1) := dk_42 (dk_at dksX0_worst_3 6 rfl rfl)
theorem dX0_worst_79 : decode cX0_worst 79 = .ok (.iload 5, 2) := dk_21 5 (dk_at dksX0_worst_3 7 rfl rfl)
theorem dX0_worst_81 : decode cX0_worst 81 = .ok (.iload_n 1, 1) := dk_27 (dk_at dksX0_worst_3 9 rfl rfl)
theorem dX0_worst_82 : decode cX0_worst 82 = .ok (.invokevirtual 413, 3) := dk_182 1 157 (dk_at dksX0_worst_3 10 rfl rfl)
theorem dX0_worst_85 : decode cX0_worst 85 = .ok (.istore 6, 2) := dk_54 6 (dk_at dksX0_worst_3 13 rfl rfl)
theorem dX0_worst_87 : decode cX0_worst 87 = .ok (.iload 6, 2) := dk_21 6 (dk_at dksX0_worst_3 15 rfl rfl)
theorem dX0_worst_89 : decode cX0_worst 89 = .ok (.iload 4, 2) := dk_21 4 (dk_at dksX0_worst_3 17 rfl rfl)
theorem dX0_worst_91 : decode cX0_worst 91 = .ok (.if_icmp .gt 6, 3) := dk_163 0 6 (dk_at dksX0_worst_3 19 rfl rfl)
theorem dX0_worst_94 : decode cX0_worst 94 = .ok (.goto 10, 3) := dk_167 0 10 (dk_at dksX0_worst_4 0 rfl rfl)
theorem dX0_worst_97 : decode cX0_worst 97 = .ok (.iload 6, 2) := dk_21 6 (dk_at dksX0_worst_4 3 rfl rfl)
theorem dX0_worst_99 : decode cX0_worst 99 = .ok (.istore 4, 2) := dk_54 4 (dk_at dksX0_worst_4 5 rfl rfl)
theorem dX0_worst_101 : decode cX0_worst 101 = .ok (.iload 5, 2) := dk_21 5 (dk_at dksX0_worst_4 7 rfl rfl)
theorem dX0_worst_103 : decode cX0_worst 103 = .ok (.istore_n 3, 1) := dk_62 (dk_at dksX0_worst_4 9 rfl rfl)
theorem dX0_worst_104 : decode cX0_worst 104 = .ok (.iinc 5 1, 3) := dk_132 5 1 (dk_at dksX0_worst_4 10 rfl rfl)
theorem dX0_worst_107 : decode cX0_worst 107 = .ok (.goto (-59), 3) := dk_167 255 197 (dk_at dksX0_worst_4 13 rfl rfl)
theorem dX0_worst_110 : decode cX0_worst 110 = .ok (.aload_n 0, 1) := dk_42 (dk_at dksX0_worst_4 16 rfl rfl)
theorem dX0_worst_111 : decode cX0_worst 111 = .ok (.iload_n 2, 1) := dk_28 (dk_at dksX0_worst_4 17 rfl rfl)
theorem dX0_worst_112 : decode cX0_worst 112 = .ok (.ifCond .ne 7, 3) := dk_154 0 7 (dk_at dksX0_worst_4 18 rfl rfl)
theorem dX0_worst_115 : decode cX0_worst 115 = .ok (.iload_n 3, 1) := dk_29 (dk_at dksX0_worst_4 21 rfl rfl)
theorem dX0_worst_116 : decode cX0_worst 116 = .ok (.goto 5, 3) := dk_167 0 5 (dk_at dksX0_worst_5 0 rfl rfl)
theorem dX0_worst_119 : decode cX0_worst 119 = .ok (.iload 4, 2) := dk_21 4 (dk_at dksX0_worst_5 3 rfl rfl)
theorem dX0_worst_121 : decode cX0_worst 121 = .ok (.invokevirtual 288, 3) := dk_182 1 32 (dk_at dksX0_worst_5 5 rfl rfl)
theorem dX0_worst_124 : decode cX0_worst 124 = .ok (.ireturn, 1) := dk_172 (dk_at dksX0_worst_5 8 rfl rfl)
abbrev cX0_mend : ByteArray := prog_1_method_78_code
def yX0_mend : MethodName := ⟨RX0, "mend", "(JI)I"⟩
def dkwX0_mend_6 : List UInt8 := [167, 255, 166, 29, 154, 0, 10, 42, 180, 1, 164, 167, 0, 7, 42, 180, 1, 142, 172]
abbrev dktX0_mend_6 : List UInt8 := dkwX0_mend_6 ++ []
def dkwX0_mend_5 : List UInt8 := [21, 4, 120, 4, 21, 5, 120, 128, 5, 31, 182, 1, 167, 132, 5, 1, 167, 255, 215, 132, 4, 1]
abbrev dktX0_mend_5 : List UInt8 := dkwX0_mend_5 ++ dktX0_mend_6
def dkwX0_mend_4 : List UInt8 := [21, 4, 162, 0, 40, 42, 182, 0, 162, 182, 0, 204, 21, 5, 122, 4, 126, 4, 160, 0, 18, 42, 4]
abbrev dktX0_mend_4 : List UInt8 := dkwX0_mend_4 ++ dktX0_mend_5
def dkwX0_mend_3 : List UInt8 := [122, 4, 126, 154, 0, 6, 167, 0, 60, 42, 4, 21, 4, 120, 4, 31, 182, 1, 167, 3, 54, 5, 21, 5]
abbrev dktX0_mend_3 : List UInt8 := dkwX0_mend_3 ++ dktX0_mend_4
def dkwX0_mend_2 : List UInt8 := [3, 54, 4, 21, 4, 42, 182, 0, 162, 182, 1, 145, 162, 0, 84, 42, 182, 0, 162, 182, 0, 204, 21, 4]
abbrev dktX0_mend_2 : List UInt8 := dkwX0_mend_2 ++ dktX0_mend_3
def dkwX0_mend_1 : List UInt8 := [181, 0, 81, 42, 180, 0, 81, 158, 0, 5, 2, 172, 42, 2, 181, 1, 164, 42, 3, 3, 31, 182, 1, 167]
abbrev dktX0_mend_1 : List UInt8 := dkwX0_mend_1 ++ dktX0_mend_2
def dkwX0_mend_0 : List UInt8 := [42, 31, 184, 1, 64, 153, 0, 17, 29, 133, 9, 10, 184, 0, 171, 153, 0, 7, 3, 167, 0, 4, 4]
abbrev dktX0_mend_0 : List UInt8 := dkwX0_mend_0 ++ dktX0_mend_1
theorem dksX0_mend_0 : cX0_mend.data.toList.drop 0 = dktX0_mend_0 := by decide +kernel
theorem dksX0_mend_1 : cX0_mend.data.toList.drop 23 = dktX0_mend_1 := dk_seg dksX0_mend_0 23 rfl rfl
theorem dksX0_mend_2 : cX0_mend.data.toList.drop 47 = dktX0_mend_2 := dk_seg dksX0_mend_1 24 rfl rfl
theorem dksX0_mend_3 : cX0_mend.data.toList.drop 71 = dktX0_mend_3 := dk_seg dksX0_mend_2 24 rfl rfl
theorem dksX0_mend_4 : cX0_mend.data.toList.drop 95 = dktX0_mend_4 := dk_seg dksX0_mend_3 24 rfl rfl
theorem dksX0_mend_5 : cX0_mend.data.toList.drop 118 = dktX0_mend_5 := dk_seg dksX0_mend_4 23 rfl rfl
theorem dksX0_mend_6 : cX0_mend.data.toList.drop 140 = dktX0_mend_6 := dk_seg dksX0_mend_5 22 rfl rfl
theorem dX0_mend_0 : decode cX0_mend 0 = .ok (.aload_n 0, 1) := dk_42 (dk_at dksX0_mend_0 0 rfl rfl)
theorem dX0_mend_1 : decode cX0_mend 1 = .ok (.lload_n 1, 1) := dk_31 (dk_at dksX0_mend_0 1 rfl rfl)
theorem dX0_mend_2 : decode cX0_mend 2 = .ok (.invokestatic 320, 3) := dk_184 1 64 (dk_at dksX0_mend_0 2 rfl rfl)
theorem dX0_mend_5 : decode cX0_mend 5 = .ok (.ifCond .eq 17, 3) := dk_153 0 17 (dk_at dksX0_mend_0 5 rfl rfl)
theorem dX0_mend_8 : decode cX0_mend 8 = .ok (.iload_n 3, 1) := dk_29 (dk_at dksX0_mend_0 8 rfl rfl)
theorem dX0_mend_9 : decode cX0_mend 9 = .ok (.i2l, 1) := dk_133 (dk_at dksX0_mend_0 9 rfl rfl)
theorem dX0_mend_10 : decode cX0_mend 10 = .ok (.lconst 0, 1) := dk_9 (dk_at dksX0_mend_0 10 rfl rfl)
theorem dX0_mend_11 : decode cX0_mend 11 = .ok (.lconst 1, 1) := dk_10 (dk_at dksX0_mend_0 11 rfl rfl)
theorem dX0_mend_12 : decode cX0_mend 12 = .ok (.invokestatic 171, 3) := dk_184 0 171 (dk_at dksX0_mend_0 12 rfl rfl)
theorem dX0_mend_15 : decode cX0_mend 15 = .ok (.ifCond .eq 7, 3) := dk_153 0 7 (dk_at dksX0_mend_0 15 rfl rfl)
theorem dX0_mend_18 : decode cX0_mend 18 = .ok (.iconst 0, 1) := dk_3 (dk_at dksX0_mend_0 18 rfl rfl)
theorem dX0_mend_19 : decode cX0_mend 19 = .ok (.goto 4, 3) := dk_167 0 4 (dk_at dksX0_mend_0 19 rfl rfl)
theorem dX0_mend_22 : decode cX0_mend 22 = .ok (.iconst 1, 1) := dk_4 (dk_at dksX0_mend_0 22 rfl rfl)
theorem dX0_mend_23 : decode cX0_mend 23 = .ok (.putfield 81, 3) := dk_181 0 81 (dk_at dksX0_mend_1 0 rfl rfl)
theorem dX0_mend_26 : decode cX0_mend 26 = .ok (.aload_n 0, 1) := dk_42 (dk_at dksX0_mend_1 3 rfl rfl)
theorem dX0_mend_27 : decode cX0_mend 27 = .ok (.getfield 81, 3) := dk_180 0 81 (dk_at dksX0_mend_1 4 rfl rfl)
theorem dX0_mend_30 : decode cX0_mend 30 = .ok (.ifCond .le 5, 3) := dk_158 0 5 (dk_at dksX0_mend_1 7 rfl rfl)
theorem dX0_mend_33 : decode cX0_mend 33 = .ok (.iconst (-1), 1) := dk_2 (dk_at dksX0_mend_1 10 rfl rfl)
theorem dX0_mend_34 : decode cX0_mend 34 = .ok (.ireturn, 1) := dk_172 (dk_at dksX0_mend_1 11 rfl rfl)
theorem dX0_mend_35 : decode cX0_mend 35 = .ok (.aload_n 0, 1) := dk_42 (dk_at dksX0_mend_1 12 rfl rfl)
theorem dX0_mend_36 : decode cX0_mend 36 = .ok (.iconst (-1), 1) := dk_2 (dk_at dksX0_mend_1 13 rfl rfl)
theorem dX0_mend_37 : decode cX0_mend 37 = .ok (.putfield 420, 3) := dk_181 1 164 (dk_at dksX0_mend_1 14 rfl rfl)
theorem dX0_mend_40 : decode cX0_mend 40 = .ok (.aload_n 0, 1) := dk_42 (dk_at dksX0_mend_1 17 rfl rfl)
theorem dX0_mend_41 : decode cX0_mend 41 = .ok (.iconst 0, 1) := dk_3 (dk_at dksX0_mend_1 18 rfl rfl)
theorem dX0_mend_42 : decode cX0_mend 42 = .ok (.iconst 0, 1) := dk_3 (dk_at dksX0_mend_1 19 rfl rfl)
theorem dX0_mend_43 : decode cX0_mend 43 = .ok (.lload_n 1, 1) := dk_31 (dk_at dksX0_mend_1 20 rfl rfl)
theorem dX0_mend_44 : decode cX0_mend 44 = .ok (.invokevirtual 423, 3) := dk_182 1 167 (dk_at dksX0_mend_1 21 rfl rfl)
theorem dX0_mend_47 : decode cX0_mend 47 = .ok (.iconst 0, 1) := dk_3 (dk_at dksX0_mend_2 0 rfl rfl)
theorem dX0_mend_48 : decode cX0_mend 48 = .ok (.istore 4, 2) := dk_54 4 (dk_at dksX0_mend_2 1 rfl rfl)
theorem dX0_mend_50 : decode cX0_mend 50 = .ok (.iload 4, 2) := dk_21 4 (dk_at dksX0_mend_2 3 rfl rfl)
theorem dX0_mend_52 : decode cX0_mend 52 = .ok (.aload_n 0, 1) := dk_42 (dk_at dksX0_mend_2 5 rfl rfl)
theorem dX0_mend_53 : decode cX0_mend 53 = .ok (.invokevirtual 162, 3) := dk_182 0 162 (dk_at dksX0_mend_2 6 rfl rfl)
theorem dX0_mend_56 : decode cX0_mend 56 = .ok (.invokevirtual 401, 3) := dk_182 1 145 (dk_at dksX0_mend_2 9 rfl rfl)
theorem dX0_mend_59 : decode cX0_mend 59 = .ok (.if_icmp .ge 84, 3) := dk_162 0 84 (dk_at dksX0_mend_2 12 rfl rfl)
theorem dX0_mend_62 : decode cX0_mend 62 = .ok (.aload_n 0, 1) := dk_42 (dk_at dksX0_mend_2 15 rfl rfl)
theorem dX0_mend_63 : decode cX0_mend 63 = .ok (.invokevirtual 162, 3) := dk_182 0 162 (dk_at dksX0_mend_2 16 rfl rfl)
theorem dX0_mend_66 : decode cX0_mend 66 = .ok (.invokevirtual 204, 3) := dk_182 0 204 (dk_at dksX0_mend_2 19 rfl rfl)
theorem dX0_mend_69 : decode cX0_mend 69 = .ok (.iload 4, 2) := dk_21 4 (dk_at dksX0_mend_2 22 rfl rfl)
theorem dX0_mend_71 : decode cX0_mend 71 = .ok (.ishr, 1) := dk_122 (dk_at dksX0_mend_3 0 rfl rfl)
theorem dX0_mend_72 : decode cX0_mend 72 = .ok (.iconst 1, 1) := dk_4 (dk_at dksX0_mend_3 1 rfl rfl)
theorem dX0_mend_73 : decode cX0_mend 73 = .ok (.iand, 1) := dk_126 (dk_at dksX0_mend_3 2 rfl rfl)
theorem dX0_mend_74 : decode cX0_mend 74 = .ok (.ifCond .ne 6, 3) := dk_154 0 6 (dk_at dksX0_mend_3 3 rfl rfl)
theorem dX0_mend_77 : decode cX0_mend 77 = .ok (.goto 60, 3) := dk_167 0 60 (dk_at dksX0_mend_3 6 rfl rfl)
theorem dX0_mend_80 : decode cX0_mend 80 = .ok (.aload_n 0, 1) := dk_42 (dk_at dksX0_mend_3 9 rfl rfl)
theorem dX0_mend_81 : decode cX0_mend 81 = .ok (.iconst 1, 1) := dk_4 (dk_at dksX0_mend_3 10 rfl rfl)
theorem dX0_mend_82 : decode cX0_mend 82 = .ok (.iload 4, 2) := dk_21 4 (dk_at dksX0_mend_3 11 rfl rfl)
theorem dX0_mend_84 : decode cX0_mend 84 = .ok (.ishl, 1) := dk_120 (dk_at dksX0_mend_3 13 rfl rfl)
theorem dX0_mend_85 : decode cX0_mend 85 = .ok (.iconst 1, 1) := dk_4 (dk_at dksX0_mend_3 14 rfl rfl)
theorem dX0_mend_86 : decode cX0_mend 86 = .ok (.lload_n 1, 1) := dk_31 (dk_at dksX0_mend_3 15 rfl rfl)
theorem dX0_mend_87 : decode cX0_mend 87 = .ok (.invokevirtual 423, 3) := dk_182 1 167 (dk_at dksX0_mend_3 16 rfl rfl)
theorem dX0_mend_90 : decode cX0_mend 90 = .ok (.iconst 0, 1) := dk_3 (dk_at dksX0_mend_3 19 rfl rfl)
theorem dX0_mend_91 : decode cX0_mend 91 = .ok (.istore 5, 2) := dk_54 5 (dk_at dksX0_mend_3 20 rfl rfl)
theorem dX0_mend_93 : decode cX0_mend 93 = .ok (.iload 5, 2) := dk_21 5 (dk_at dksX0_mend_3 22 rfl rfl)
theorem dX0_mend_95 : decode cX0_mend 95 = .ok (.iload 4, 2) := dk_21 4 (dk_at dksX0_mend_4 0 rfl rfl)
theorem dX0_mend_97 : decode cX0_mend 97 = .ok (.if_icmp .ge 40, 3) := dk_162 0 40 (dk_at dksX0_mend_4 2 rfl rfl)
theorem dX0_mend_100 : decode cX0_mend 100 = .ok (.aload_n 0, 1) := dk_42 (dk_at dksX0_mend_4 5 rfl rfl)
theorem dX0_mend_101 : decode cX0_mend 101 = .ok (.invokevirtual 162, 3) := dk_182 0 162 (dk_at dksX0_mend_4 6 rfl rfl)
theorem dX0_mend_104 : decode cX0_mend 104 = .ok (.invokevirtual 204, 3) := dk_182 0 204 (dk_at dksX0_mend_4 9 rfl rfl)
theorem dX0_mend_107 : decode cX0_mend 107 = .ok (.iload 5, 2) := dk_21 5 (dk_at dksX0_mend_4 12 rfl rfl)
theorem dX0_mend_109 : decode cX0_mend 109 = .ok (.ishr, 1) := dk_122 (dk_at dksX0_mend_4 14 rfl rfl)
theorem dX0_mend_110 : decode cX0_mend 110 = .ok (.iconst 1, 1) := dk_4 (dk_at dksX0_mend_4 15 rfl rfl)
theorem dX0_mend_111 : decode cX0_mend 111 = .ok (.iand, 1) := dk_126 (dk_at dksX0_mend_4 16 rfl rfl)
theorem dX0_mend_112 : decode cX0_mend 112 = .ok (.iconst 1, 1) := dk_4 (dk_at dksX0_mend_4 17 rfl rfl)
theorem dX0_mend_113 : decode cX0_mend 113 = .ok (.if_icmp .ne 18, 3) := dk_160 0 18 (dk_at dksX0_mend_4 18 rfl rfl)
theorem dX0_mend_116 : decode cX0_mend 116 = .ok (.aload_n 0, 1) := dk_42 (dk_at dksX0_mend_4 21 rfl rfl)
theorem dX0_mend_117 : decode cX0_mend 117 = .ok (.iconst 1, 1) := dk_4 (dk_at dksX0_mend_4 22 rfl rfl)
theorem dX0_mend_118 : decode cX0_mend 118 = .ok (.iload 4, 2) := dk_21 4 (dk_at dksX0_mend_5 0 rfl rfl)
theorem dX0_mend_120 : decode cX0_mend 120 = .ok (.ishl, 1) := dk_120 (dk_at dksX0_mend_5 2 rfl rfl)
theorem dX0_mend_121 : decode cX0_mend 121 = .ok (.iconst 1, 1) := dk_4 (dk_at dksX0_mend_5 3 rfl rfl)
theorem dX0_mend_122 : decode cX0_mend 122 = .ok (.iload 5, 2) := dk_21 5 (dk_at dksX0_mend_5 4 rfl rfl)
theorem dX0_mend_124 : decode cX0_mend 124 = .ok (.ishl, 1) := dk_120 (dk_at dksX0_mend_5 6 rfl rfl)
theorem dX0_mend_125 : decode cX0_mend 125 = .ok (.ior, 1) := dk_128 (dk_at dksX0_mend_5 7 rfl rfl)
theorem dX0_mend_126 : decode cX0_mend 126 = .ok (.iconst 2, 1) := dk_5 (dk_at dksX0_mend_5 8 rfl rfl)
theorem dX0_mend_127 : decode cX0_mend 127 = .ok (.lload_n 1, 1) := dk_31 (dk_at dksX0_mend_5 9 rfl rfl)
theorem dX0_mend_128 : decode cX0_mend 128 = .ok (.invokevirtual 423, 3) := dk_182 1 167 (dk_at dksX0_mend_5 10 rfl rfl)
theorem dX0_mend_131 : decode cX0_mend 131 = .ok (.iinc 5 1, 3) := dk_132 5 1 (dk_at dksX0_mend_5 13 rfl rfl)
theorem dX0_mend_134 : decode cX0_mend 134 = .ok (.goto (-41), 3) := dk_167 255 215 (dk_at dksX0_mend_5 16 rfl rfl)
theorem dX0_mend_137 : decode cX0_mend 137 = .ok (.iinc 4 1, 3) := dk_132 4 1 (dk_at dksX0_mend_5 19 rfl rfl)
theorem dX0_mend_140 : decode cX0_mend 140 = .ok (.goto (-90), 3) := dk_167 255 166 (dk_at dksX0_mend_6 0 rfl rfl)
theorem dX0_mend_143 : decode cX0_mend 143 = .ok (.iload_n 3, 1) := dk_29 (dk_at dksX0_mend_6 3 rfl rfl)
theorem dX0_mend_144 : decode cX0_mend 144 = .ok (.ifCond .ne 10, 3) := dk_154 0 10 (dk_at dksX0_mend_6 4 rfl rfl)
theorem dX0_mend_147 : decode cX0_mend 147 = .ok (.aload_n 0, 1) := dk_42 (dk_at dksX0_mend_6 7 rfl rfl)
theorem dX0_mend_148 : decode cX0_mend 148 = .ok (.getfield 420, 3) := dk_180 1 164 (dk_at dksX0_mend_6 8 rfl rfl)
theorem dX0_mend_151 : decode cX0_mend 151 = .ok (.goto 7, 3) := dk_167 0 7 (dk_at dksX0_mend_6 11 rfl rfl)
theorem dX0_mend_154 : decode cX0_mend 154 = .ok (.aload_n 0, 1) := dk_42 (dk_at dksX0_mend_6 14 rfl rfl)
theorem dX0_mend_155 : decode cX0_mend 155 = .ok (.getfield 398, 3) := dk_180 1 142 (dk_at dksX0_mend_6 15 rfl rfl)
theorem dX0_mend_158 : decode cX0_mend 158 = .ok (.ireturn, 1) := dk_172 (dk_at dksX0_mend_6 18 rfl rfl)
abbrev cX0_mends : ByteArray := prog_1_method_77_code
def yX0_mends : MethodName := ⟨RX0, "mends", "(IIJ)V"⟩
def dkwX0_mends_3 : List UInt8 := [177, 42, 21, 5, 181, 1, 164, 42, 28, 181, 1, 154, 42, 27, 181, 1, 142, 177]
abbrev dktX0_mends_3 : List UInt8 := dkwX0_mends_3 ++ []
def dkwX0_mends_2 : List UInt8 := [28, 42, 180, 1, 154, 163, 0, 19, 28, 42, 180, 1, 154, 160, 0, 12, 27, 42, 180, 1, 142, 161, 0, 4]
abbrev dktX0_mends_2 : List UInt8 := dkwX0_mends_2 ++ dktX0_mends_3
def dkwX0_mends_1 : List UInt8 := [180, 1, 164, 155, 0, 46, 21, 5, 42, 180, 1, 164, 163, 0, 36, 21, 5, 42, 180, 1, 164, 160, 0, 28]
abbrev dktX0_mends_1 : List UInt8 := dkwX0_mends_1 ++ dktX0_mends_2
def dkwX0_mends_0 : List UInt8 := [42, 42, 182, 0, 233, 42, 182, 0, 233, 180, 1, 13, 27, 130, 182, 1, 90, 33, 182, 1, 160, 54, 5, 42]
abbrev dktX0_mends_0 : List UInt8 := dkwX0_mends_0 ++ dktX0_mends_1
theorem dksX0_mends_0 : cX0_mends.data.toList.drop 0 = dktX0_mends_0 := by decide +kernel
theorem dksX0_mends_1 : cX0_mends.data.toList.drop 24 = dktX0_mends_1 := dk_seg dksX0_mends_0 24 rfl rfl
theorem dksX0_mends_2 : cX0_mends.data.toList.drop 48 = dktX0_mends_2 := dk_seg dksX0_mends_1 24 rfl rfl
theorem dksX0_mends_3 : cX0_mends.data.toList.drop 72 = dktX0_mends_3 := dk_seg dksX0_mends_2 24 rfl rfl
theorem dX0_mends_0 : decode cX0_mends 0 = .ok (.aload_n 0, 1) := dk_42 (dk_at dksX0_mends_0 0 rfl rfl)
theorem dX0_mends_1 : decode cX0_mends 1 = .ok (.aload_n 0, 1) := dk_42 (dk_at dksX0_mends_0 1 rfl rfl)
theorem dX0_mends_2 : decode cX0_mends 2 = .ok (.invokevirtual 233, 3) := dk_182 0 233 (dk_at dksX0_mends_0 2 rfl rfl)
theorem dX0_mends_5 : decode cX0_mends 5 = .ok (.aload_n 0, 1) := dk_42 (dk_at dksX0_mends_0 5 rfl rfl)
theorem dX0_mends_6 : decode cX0_mends 6 = .ok (.invokevirtual 233, 3) := dk_182 0 233 (dk_at dksX0_mends_0 6 rfl rfl)
theorem dX0_mends_9 : decode cX0_mends 9 = .ok (.getfield 269, 3) := dk_180 1 13 (dk_at dksX0_mends_0 9 rfl rfl)
theorem dX0_mends_12 : decode cX0_mends 12 = .ok (.iload_n 1, 1) := dk_27 (dk_at dksX0_mends_0 12 rfl rfl)
theorem dX0_mends_13 : decode cX0_mends 13 = .ok (.ixor, 1) := dk_130 (dk_at dksX0_mends_0 13 rfl rfl)
theorem dX0_mends_14 : decode cX0_mends 14 = .ok (.invokevirtual 346, 3) := dk_182 1 90 (dk_at dksX0_mends_0 14 rfl rfl)
theorem dX0_mends_17 : decode cX0_mends 17 = .ok (.lload_n 3, 1) := dk_33 (dk_at dksX0_mends_0 17 rfl rfl)
theorem dX0_mends_18 : decode cX0_mends 18 = .ok (.invokevirtual 416, 3) := dk_182 1 160 (dk_at dksX0_mends_0 18 rfl rfl)
theorem dX0_mends_21 : decode cX0_mends 21 = .ok (.istore 5, 2) := dk_54 5 (dk_at dksX0_mends_0 21 rfl rfl)
theorem dX0_mends_23 : decode cX0_mends 23 = .ok (.aload_n 0, 1) := dk_42 (dk_at dksX0_mends_0 23 rfl rfl)
theorem dX0_mends_24 : decode cX0_mends 24 = .ok (.getfield 420, 3) := dk_180 1 164 (dk_at dksX0_mends_1 0 rfl rfl)
theorem dX0_mends_27 : decode cX0_mends 27 = .ok (.ifCond .lt 46, 3) := dk_155 0 46 (dk_at dksX0_mends_1 3 rfl rfl)
theorem dX0_mends_30 : decode cX0_mends 30 = .ok (.iload 5, 2) := dk_21 5 (dk_at dksX0_mends_1 6 rfl rfl)
theorem dX0_mends_32 : decode cX0_mends 32 = .ok (.aload_n 0, 1) := dk_42 (dk_at dksX0_mends_1 8 rfl rfl)
theorem dX0_mends_33 : decode cX0_mends 33 = .ok (.getfield 420, 3) := dk_180 1 164 (dk_at dksX0_mends_1 9 rfl rfl)
theorem dX0_mends_36 : decode cX0_mends 36 = .ok (.if_icmp .gt 36, 3) := dk_163 0 36 (dk_at dksX0_mends_1 12 rfl rfl)
theorem dX0_mends_39 : decode cX0_mends 39 = .ok (.iload 5, 2) := dk_21 5 (dk_at dksX0_mends_1 15 rfl rfl)
theorem dX0_mends_41 : decode cX0_mends 41 = .ok (.aload_n 0, 1) := dk_42 (dk_at dksX0_mends_1 17 rfl rfl)
theorem dX0_mends_42 : decode cX0_mends 42 = .ok (.getfield 420, 3) := dk_180 1 164 (dk_at dksX0_mends_1 18 rfl rfl)
theorem dX0_mends_45 : decode cX0_mends 45 = .ok (.if_icmp .ne 28, 3) := dk_160 0 28 (dk_at dksX0_mends_1 21 rfl rfl)
theorem dX0_mends_48 : decode cX0_mends 48 = .ok (.iload_n 2, 1) := dk_28 (dk_at dksX0_mends_2 0 rfl rfl)
theorem dX0_mends_49 : decode cX0_mends 49 = .ok (.aload_n 0, 1) := dk_42 (dk_at dksX0_mends_2 1 rfl rfl)
theorem dX0_mends_50 : decode cX0_mends 50 = .ok (.getfield 410, 3) := dk_180 1 154 (dk_at dksX0_mends_2 2 rfl rfl)
theorem dX0_mends_53 : decode cX0_mends 53 = .ok (.if_icmp .gt 19, 3) := dk_163 0 19 (dk_at dksX0_mends_2 5 rfl rfl)
theorem dX0_mends_56 : decode cX0_mends 56 = .ok (.iload_n 2, 1) := dk_28 (dk_at dksX0_mends_2 8 rfl rfl)
theorem dX0_mends_57 : decode cX0_mends 57 = .ok (.aload_n 0, 1) := dk_42 (dk_at dksX0_mends_2 9 rfl rfl)
theorem dX0_mends_58 : decode cX0_mends 58 = .ok (.getfield 410, 3) := dk_180 1 154 (dk_at dksX0_mends_2 10 rfl rfl)
theorem dX0_mends_61 : decode cX0_mends 61 = .ok (.if_icmp .ne 12, 3) := dk_160 0 12 (dk_at dksX0_mends_2 13 rfl rfl)
theorem dX0_mends_64 : decode cX0_mends 64 = .ok (.iload_n 1, 1) := dk_27 (dk_at dksX0_mends_2 16 rfl rfl)
theorem dX0_mends_65 : decode cX0_mends 65 = .ok (.aload_n 0, 1) := dk_42 (dk_at dksX0_mends_2 17 rfl rfl)
theorem dX0_mends_66 : decode cX0_mends 66 = .ok (.getfield 398, 3) := dk_180 1 142 (dk_at dksX0_mends_2 18 rfl rfl)
theorem dX0_mends_69 : decode cX0_mends 69 = .ok (.if_icmp .lt 4, 3) := dk_161 0 4 (dk_at dksX0_mends_2 21 rfl rfl)
theorem dX0_mends_72 : decode cX0_mends 72 = .ok (.return_, 1) := dk_177 (dk_at dksX0_mends_3 0 rfl rfl)
theorem dX0_mends_73 : decode cX0_mends 73 = .ok (.aload_n 0, 1) := dk_42 (dk_at dksX0_mends_3 1 rfl rfl)
theorem dX0_mends_74 : decode cX0_mends 74 = .ok (.iload 5, 2) := dk_21 5 (dk_at dksX0_mends_3 2 rfl rfl)
theorem dX0_mends_76 : decode cX0_mends 76 = .ok (.putfield 420, 3) := dk_181 1 164 (dk_at dksX0_mends_3 4 rfl rfl)
theorem dX0_mends_79 : decode cX0_mends 79 = .ok (.aload_n 0, 1) := dk_42 (dk_at dksX0_mends_3 7 rfl rfl)
theorem dX0_mends_80 : decode cX0_mends 80 = .ok (.iload_n 2, 1) := dk_28 (dk_at dksX0_mends_3 8 rfl rfl)
theorem dX0_mends_81 : decode cX0_mends 81 = .ok (.putfield 410, 3) := dk_181 1 154 (dk_at dksX0_mends_3 9 rfl rfl)
theorem dX0_mends_84 : decode cX0_mends 84 = .ok (.aload_n 0, 1) := dk_42 (dk_at dksX0_mends_3 12 rfl rfl)
theorem dX0_mends_85 : decode cX0_mends 85 = .ok (.iload_n 1, 1) := dk_27 (dk_at dksX0_mends_3 13 rfl rfl)
theorem dX0_mends_86 : decode cX0_mends 86 = .ok (.putfield 398, 3) := dk_181 1 142 (dk_at dksX0_mends_3 14 rfl rfl)
theorem dX0_mends_89 : decode cX0_mends 89 = .ok (.return_, 1) := dk_177 (dk_at dksX0_mends_3 17 rfl rfl)
abbrev cX0_unlikeTo : ByteArray := prog_1_method_76_code
def yX0_unlikeTo : MethodName := ⟨RX0, "unlikeTo", "(IJ)I"⟩
def dkwX0_unlikeTo_0 : List UInt8 := [27, 32, 136, 130, 4, 42, 182, 0, 162, 182, 1, 145, 120, 4, 100, 126, 184, 0, 250, 172]
abbrev dktX0_unlikeTo_0 : List UInt8 := dkwX0_unlikeTo_0 ++ []
theorem dksX0_unlikeTo_0 : cX0_unlikeTo.data.toList.drop 0 = dktX0_unlikeTo_0 := by decide +kernel
theorem dX0_unlikeTo_0 : decode cX0_unlikeTo 0 = .ok (.iload_n 1, 1) := dk_27 (dk_at dksX0_unlikeTo_0 0 rfl rfl)
theorem dX0_unlikeTo_1 : decode cX0_unlikeTo 1 = .ok (.lload_n 2, 1) := dk_32 (dk_at dksX0_unlikeTo_0 1 rfl rfl)
theorem dX0_unlikeTo_2 : decode cX0_unlikeTo 2 = .ok (.l2i, 1) := dk_136 (dk_at dksX0_unlikeTo_0 2 rfl rfl)
theorem dX0_unlikeTo_3 : decode cX0_unlikeTo 3 = .ok (.ixor, 1) := dk_130 (dk_at dksX0_unlikeTo_0 3 rfl rfl)
theorem dX0_unlikeTo_4 : decode cX0_unlikeTo 4 = .ok (.iconst 1, 1) := dk_4 (dk_at dksX0_unlikeTo_0 4 rfl rfl)
theorem dX0_unlikeTo_5 : decode cX0_unlikeTo 5 = .ok (.aload_n 0, 1) := dk_42 (dk_at dksX0_unlikeTo_0 5 rfl rfl)
theorem dX0_unlikeTo_6 : decode cX0_unlikeTo 6 = .ok (.invokevirtual 162, 3) := dk_182 0 162 (dk_at dksX0_unlikeTo_0 6 rfl rfl)
theorem dX0_unlikeTo_9 : decode cX0_unlikeTo 9 = .ok (.invokevirtual 401, 3) := dk_182 1 145 (dk_at dksX0_unlikeTo_0 9 rfl rfl)
theorem dX0_unlikeTo_12 : decode cX0_unlikeTo 12 = .ok (.ishl, 1) := dk_120 (dk_at dksX0_unlikeTo_0 12 rfl rfl)
theorem dX0_unlikeTo_13 : decode cX0_unlikeTo 13 = .ok (.iconst 1, 1) := dk_4 (dk_at dksX0_unlikeTo_0 13 rfl rfl)
theorem dX0_unlikeTo_14 : decode cX0_unlikeTo 14 = .ok (.isub, 1) := dk_100 (dk_at dksX0_unlikeTo_0 14 rfl rfl)
theorem dX0_unlikeTo_15 : decode cX0_unlikeTo 15 = .ok (.iand, 1) := dk_126 (dk_at dksX0_unlikeTo_0 15 rfl rfl)
theorem dX0_unlikeTo_16 : decode cX0_unlikeTo 16 = .ok (.invokestatic 250, 3) := dk_184 0 250 (dk_at dksX0_unlikeTo_0 16 rfl rfl)
theorem dX0_unlikeTo_19 : decode cX0_unlikeTo 19 = .ok (.ireturn, 1) := dk_172 (dk_at dksX0_unlikeTo_0 19 rfl rfl)
abbrev cX0_unlike : ByteArray := prog_1_method_79_code
def yX0_unlike : MethodName := ⟨RX0, "unlike", "(J)I"⟩
def dkwX0_unlike_1 : List UInt8 := [167, 0, 15, 42, 42, 182, 0, 233, 180, 1, 13, 31, 182, 1, 160, 172]
abbrev dktX0_unlike_1 : List UInt8 := dkwX0_unlike_1 ++ []
def dkwX0_unlike_0 : List UInt8 := [42, 31, 184, 1, 64, 153, 0, 7, 3, 167, 0, 4, 4, 181, 0, 81, 42, 180, 0, 81, 158, 0, 7, 2]
abbrev dktX0_unlike_0 : List UInt8 := dkwX0_unlike_0 ++ dktX0_unlike_1
theorem dksX0_unlike_0 : cX0_unlike.data.toList.drop 0 = dktX0_unlike_0 := by decide +kernel
theorem dksX0_unlike_1 : cX0_unlike.data.toList.drop 24 = dktX0_unlike_1 := dk_seg dksX0_unlike_0 24 rfl rfl
theorem dX0_unlike_0 : decode cX0_unlike 0 = .ok (.aload_n 0, 1) := dk_42 (dk_at dksX0_unlike_0 0 rfl rfl)
theorem dX0_unlike_1 : decode cX0_unlike 1 = .ok (.lload_n 1, 1) := dk_31 (dk_at dksX0_unlike_0 1 rfl rfl)
theorem dX0_unlike_2 : decode cX0_unlike 2 = .ok (.invokestatic 320, 3) := dk_184 1 64 (dk_at dksX0_unlike_0 2 rfl rfl)
theorem dX0_unlike_5 : decode cX0_unlike 5 = .ok (.ifCond .eq 7, 3) := dk_153 0 7 (dk_at dksX0_unlike_0 5 rfl rfl)
theorem dX0_unlike_8 : decode cX0_unlike 8 = .ok (.iconst 0, 1) := dk_3 (dk_at dksX0_unlike_0 8 rfl rfl)
theorem dX0_unlike_9 : decode cX0_unlike 9 = .ok (.goto 4, 3) := dk_167 0 4 (dk_at dksX0_unlike_0 9 rfl rfl)
theorem dX0_unlike_12 : decode cX0_unlike 12 = .ok (.iconst 1, 1) := dk_4 (dk_at dksX0_unlike_0 12 rfl rfl)
theorem dX0_unlike_13 : decode cX0_unlike 13 = .ok (.putfield 81, 3) := dk_181 0 81 (dk_at dksX0_unlike_0 13 rfl rfl)
theorem dX0_unlike_16 : decode cX0_unlike 16 = .ok (.aload_n 0, 1) := dk_42 (dk_at dksX0_unlike_0 16 rfl rfl)
theorem dX0_unlike_17 : decode cX0_unlike 17 = .ok (.getfield 81, 3) := dk_180 0 81 (dk_at dksX0_unlike_0 17 rfl rfl)
theorem dX0_unlike_20 : decode cX0_unlike 20 = .ok (.ifCond .le 7, 3) := dk_158 0 7 (dk_at dksX0_unlike_0 20 rfl rfl)
theorem dX0_unlike_23 : decode cX0_unlike 23 = .ok (.iconst (-1), 1) := dk_2 (dk_at dksX0_unlike_0 23 rfl rfl)
theorem dX0_unlike_24 : decode cX0_unlike 24 = .ok (.goto 15, 3) := dk_167 0 15 (dk_at dksX0_unlike_1 0 rfl rfl)
theorem dX0_unlike_27 : decode cX0_unlike 27 = .ok (.aload_n 0, 1) := dk_42 (dk_at dksX0_unlike_1 3 rfl rfl)
theorem dX0_unlike_28 : decode cX0_unlike 28 = .ok (.aload_n 0, 1) := dk_42 (dk_at dksX0_unlike_1 4 rfl rfl)
theorem dX0_unlike_29 : decode cX0_unlike 29 = .ok (.invokevirtual 233, 3) := dk_182 0 233 (dk_at dksX0_unlike_1 5 rfl rfl)
theorem dX0_unlike_32 : decode cX0_unlike 32 = .ok (.getfield 269, 3) := dk_180 1 13 (dk_at dksX0_unlike_1 8 rfl rfl)
theorem dX0_unlike_35 : decode cX0_unlike 35 = .ok (.lload_n 1, 1) := dk_31 (dk_at dksX0_unlike_1 11 rfl rfl)
theorem dX0_unlike_36 : decode cX0_unlike 36 = .ok (.invokevirtual 416, 3) := dk_182 1 160 (dk_at dksX0_unlike_1 12 rfl rfl)
theorem dX0_unlike_39 : decode cX0_unlike 39 = .ok (.ireturn, 1) := dk_172 (dk_at dksX0_unlike_1 15 rfl rfl)
abbrev cX0_seen : ByteArray := prog_1_method_80_code
def yX0_seen : MethodName := ⟨RX0, "seen", "(II)I"⟩
def dkwX0_seen_2 : List UInt8 := [180, 1, 173, 8, 27, 104, 28, 96, 46, 172]
abbrev dktX0_seen_2 : List UInt8 := dkwX0_seen_2 ++ []
def dkwX0_seen_1 : List UInt8 := [167, 0, 4, 4, 181, 0, 81, 42, 180, 0, 81, 158, 0, 7, 2, 167, 0, 16, 42, 182, 0, 233]
abbrev dktX0_seen_1 : List UInt8 := dkwX0_seen_1 ++ dktX0_seen_2
def dkwX0_seen_0 : List UInt8 := [42, 27, 133, 9, 10, 184, 0, 171, 153, 0, 19, 28, 133, 9, 20, 1, 171, 184, 0, 171, 153, 0, 7, 3]
abbrev dktX0_seen_0 : List UInt8 := dkwX0_seen_0 ++ dktX0_seen_1
theorem dksX0_seen_0 : cX0_seen.data.toList.drop 0 = dktX0_seen_0 := by decide +kernel
theorem dksX0_seen_1 : cX0_seen.data.toList.drop 24 = dktX0_seen_1 := dk_seg dksX0_seen_0 24 rfl rfl
theorem dksX0_seen_2 : cX0_seen.data.toList.drop 46 = dktX0_seen_2 := dk_seg dksX0_seen_1 22 rfl rfl
theorem dX0_seen_0 : decode cX0_seen 0 = .ok (.aload_n 0, 1) := dk_42 (dk_at dksX0_seen_0 0 rfl rfl)
theorem dX0_seen_1 : decode cX0_seen 1 = .ok (.iload_n 1, 1) := dk_27 (dk_at dksX0_seen_0 1 rfl rfl)
theorem dX0_seen_2 : decode cX0_seen 2 = .ok (.i2l, 1) := dk_133 (dk_at dksX0_seen_0 2 rfl rfl)
theorem dX0_seen_3 : decode cX0_seen 3 = .ok (.lconst 0, 1) := dk_9 (dk_at dksX0_seen_0 3 rfl rfl)
theorem dX0_seen_4 : decode cX0_seen 4 = .ok (.lconst 1, 1) := dk_10 (dk_at dksX0_seen_0 4 rfl rfl)
theorem dX0_seen_5 : decode cX0_seen 5 = .ok (.invokestatic 171, 3) := dk_184 0 171 (dk_at dksX0_seen_0 5 rfl rfl)
theorem dX0_seen_8 : decode cX0_seen 8 = .ok (.ifCond .eq 19, 3) := dk_153 0 19 (dk_at dksX0_seen_0 8 rfl rfl)
theorem dX0_seen_11 : decode cX0_seen 11 = .ok (.iload_n 2, 1) := dk_28 (dk_at dksX0_seen_0 11 rfl rfl)
theorem dX0_seen_12 : decode cX0_seen 12 = .ok (.i2l, 1) := dk_133 (dk_at dksX0_seen_0 12 rfl rfl)
theorem dX0_seen_13 : decode cX0_seen 13 = .ok (.lconst 0, 1) := dk_9 (dk_at dksX0_seen_0 13 rfl rfl)
theorem dX0_seen_14 : decode cX0_seen 14 = .ok (.ldc2_w 427, 3) := dk_20 1 171 (dk_at dksX0_seen_0 14 rfl rfl)
theorem dX0_seen_17 : decode cX0_seen 17 = .ok (.invokestatic 171, 3) := dk_184 0 171 (dk_at dksX0_seen_0 17 rfl rfl)
theorem dX0_seen_20 : decode cX0_seen 20 = .ok (.ifCond .eq 7, 3) := dk_153 0 7 (dk_at dksX0_seen_0 20 rfl rfl)
theorem dX0_seen_23 : decode cX0_seen 23 = .ok (.iconst 0, 1) := dk_3 (dk_at dksX0_seen_0 23 rfl rfl)
theorem dX0_seen_24 : decode cX0_seen 24 = .ok (.goto 4, 3) := dk_167 0 4 (dk_at dksX0_seen_1 0 rfl rfl)
theorem dX0_seen_27 : decode cX0_seen 27 = .ok (.iconst 1, 1) := dk_4 (dk_at dksX0_seen_1 3 rfl rfl)
theorem dX0_seen_28 : decode cX0_seen 28 = .ok (.putfield 81, 3) := dk_181 0 81 (dk_at dksX0_seen_1 4 rfl rfl)
theorem dX0_seen_31 : decode cX0_seen 31 = .ok (.aload_n 0, 1) := dk_42 (dk_at dksX0_seen_1 7 rfl rfl)
theorem dX0_seen_32 : decode cX0_seen 32 = .ok (.getfield 81, 3) := dk_180 0 81 (dk_at dksX0_seen_1 8 rfl rfl)
theorem dX0_seen_35 : decode cX0_seen 35 = .ok (.ifCond .le 7, 3) := dk_158 0 7 (dk_at dksX0_seen_1 11 rfl rfl)
theorem dX0_seen_38 : decode cX0_seen 38 = .ok (.iconst (-1), 1) := dk_2 (dk_at dksX0_seen_1 14 rfl rfl)
theorem dX0_seen_39 : decode cX0_seen 39 = .ok (.goto 16, 3) := dk_167 0 16 (dk_at dksX0_seen_1 15 rfl rfl)
theorem dX0_seen_42 : decode cX0_seen 42 = .ok (.aload_n 0, 1) := dk_42 (dk_at dksX0_seen_1 18 rfl rfl)
theorem dX0_seen_43 : decode cX0_seen 43 = .ok (.invokevirtual 233, 3) := dk_182 0 233 (dk_at dksX0_seen_1 19 rfl rfl)
theorem dX0_seen_46 : decode cX0_seen 46 = .ok (.getfield 429, 3) := dk_180 1 173 (dk_at dksX0_seen_2 0 rfl rfl)
theorem dX0_seen_49 : decode cX0_seen 49 = .ok (.iconst 5, 1) := dk_8 (dk_at dksX0_seen_2 3 rfl rfl)
theorem dX0_seen_50 : decode cX0_seen 50 = .ok (.iload_n 1, 1) := dk_27 (dk_at dksX0_seen_2 4 rfl rfl)
theorem dX0_seen_51 : decode cX0_seen 51 = .ok (.imul, 1) := dk_104 (dk_at dksX0_seen_2 5 rfl rfl)
theorem dX0_seen_52 : decode cX0_seen 52 = .ok (.iload_n 2, 1) := dk_28 (dk_at dksX0_seen_2 6 rfl rfl)
theorem dX0_seen_53 : decode cX0_seen 53 = .ok (.iadd, 1) := dk_96 (dk_at dksX0_seen_2 7 rfl rfl)
theorem dX0_seen_54 : decode cX0_seen 54 = .ok (.iaload, 1) := dk_46 (dk_at dksX0_seen_2 8 rfl rfl)
theorem dX0_seen_55 : decode cX0_seen 55 = .ok (.ireturn, 1) := dk_172 (dk_at dksX0_seen_2 9 rfl rfl)
abbrev cX0_rulesLeft : ByteArray := prog_1_method_81_code
def yX0_rulesLeft : MethodName := ⟨RX0, "rulesLeft", "()I"⟩
def dkwX0_rulesLeft_2 : List UInt8 := [6, 160, 0, 7, 3, 167, 0, 4, 4, 104, 60, 132, 2, 1, 167, 255, 204, 27, 172]
abbrev dktX0_rulesLeft_2 : List UInt8 := dkwX0_rulesLeft_2 ++ []
def dkwX0_rulesLeft_1 : List UInt8 := [182, 0, 233, 180, 1, 173, 28, 46, 154, 0, 7, 5, 167, 0, 21, 42, 182, 0, 233, 180, 1, 173, 28, 46]
abbrev dktX0_rulesLeft_1 : List UInt8 := dkwX0_rulesLeft_1 ++ dktX0_rulesLeft_2
def dkwX0_rulesLeft_0 : List UInt8 := [42, 3, 181, 0, 81, 4, 60, 3, 61, 28, 42, 182, 0, 233, 180, 1, 173, 190, 162, 0, 46, 27, 42]
abbrev dktX0_rulesLeft_0 : List UInt8 := dkwX0_rulesLeft_0 ++ dktX0_rulesLeft_1
theorem dksX0_rulesLeft_0 : cX0_rulesLeft.data.toList.drop 0 = dktX0_rulesLeft_0 := by decide +kernel
theorem dksX0_rulesLeft_1 : cX0_rulesLeft.data.toList.drop 23 = dktX0_rulesLeft_1 := dk_seg dksX0_rulesLeft_0 23 rfl rfl
theorem dksX0_rulesLeft_2 : cX0_rulesLeft.data.toList.drop 47 = dktX0_rulesLeft_2 := dk_seg dksX0_rulesLeft_1 24 rfl rfl
theorem dX0_rulesLeft_0 : decode cX0_rulesLeft 0 = .ok (.aload_n 0, 1) := dk_42 (dk_at dksX0_rulesLeft_0 0 rfl rfl)
theorem dX0_rulesLeft_1 : decode cX0_rulesLeft 1 = .ok (.iconst 0, 1) := dk_3 (dk_at dksX0_rulesLeft_0 1 rfl rfl)
theorem dX0_rulesLeft_2 : decode cX0_rulesLeft 2 = .ok (.putfield 81, 3) := dk_181 0 81 (dk_at dksX0_rulesLeft_0 2 rfl rfl)
theorem dX0_rulesLeft_5 : decode cX0_rulesLeft 5 = .ok (.iconst 1, 1) := dk_4 (dk_at dksX0_rulesLeft_0 5 rfl rfl)
theorem dX0_rulesLeft_6 : decode cX0_rulesLeft 6 = .ok (.istore_n 1, 1) := dk_60 (dk_at dksX0_rulesLeft_0 6 rfl rfl)
theorem dX0_rulesLeft_7 : decode cX0_rulesLeft 7 = .ok (.iconst 0, 1) := dk_3 (dk_at dksX0_rulesLeft_0 7 rfl rfl)
theorem dX0_rulesLeft_8 : decode cX0_rulesLeft 8 = .ok (.istore_n 2, 1) := dk_61 (dk_at dksX0_rulesLeft_0 8 rfl rfl)
theorem dX0_rulesLeft_9 : decode cX0_rulesLeft 9 = .ok (.iload_n 2, 1) := dk_28 (dk_at dksX0_rulesLeft_0 9 rfl rfl)
theorem dX0_rulesLeft_10 : decode cX0_rulesLeft 10 = .ok (.aload_n 0, 1) := dk_42 (dk_at dksX0_rulesLeft_0 10 rfl rfl)
theorem dX0_rulesLeft_11 : decode cX0_rulesLeft 11 = .ok (.invokevirtual 233, 3) := dk_182 0 233 (dk_at dksX0_rulesLeft_0 11 rfl rfl)
theorem dX0_rulesLeft_14 : decode cX0_rulesLeft 14 = .ok (.getfield 429, 3) := dk_180 1 173 (dk_at dksX0_rulesLeft_0 14 rfl rfl)
theorem dX0_rulesLeft_17 : decode cX0_rulesLeft 17 = .ok (.arraylength, 1) := dk_190 (dk_at dksX0_rulesLeft_0 17 rfl rfl)
theorem dX0_rulesLeft_18 : decode cX0_rulesLeft 18 = .ok (.if_icmp .ge 46, 3) := dk_162 0 46 (dk_at dksX0_rulesLeft_0 18 rfl rfl)
theorem dX0_rulesLeft_21 : decode cX0_rulesLeft 21 = .ok (.iload_n 1, 1) := dk_27 (dk_at dksX0_rulesLeft_0 21 rfl rfl)
theorem dX0_rulesLeft_22 : decode cX0_rulesLeft 22 = .ok (.aload_n 0, 1) := dk_42 (dk_at dksX0_rulesLeft_0 22 rfl rfl)
theorem dX0_rulesLeft_23 : decode cX0_rulesLeft 23 = .ok (.invokevirtual 233, 3) := dk_182 0 233 (dk_at dksX0_rulesLeft_1 0 rfl rfl)
theorem dX0_rulesLeft_26 : decode cX0_rulesLeft 26 = .ok (.getfield 429, 3) := dk_180 1 173 (dk_at dksX0_rulesLeft_1 3 rfl rfl)
theorem dX0_rulesLeft_29 : decode cX0_rulesLeft 29 = .ok (.iload_n 2, 1) := dk_28 (dk_at dksX0_rulesLeft_1 6 rfl rfl)
theorem dX0_rulesLeft_30 : decode cX0_rulesLeft 30 = .ok (.iaload, 1) := dk_46 (dk_at dksX0_rulesLeft_1 7 rfl rfl)
theorem dX0_rulesLeft_31 : decode cX0_rulesLeft 31 = .ok (.ifCond .ne 7, 3) := dk_154 0 7 (dk_at dksX0_rulesLeft_1 8 rfl rfl)
theorem dX0_rulesLeft_34 : decode cX0_rulesLeft 34 = .ok (.iconst 2, 1) := dk_5 (dk_at dksX0_rulesLeft_1 11 rfl rfl)
theorem dX0_rulesLeft_35 : decode cX0_rulesLeft 35 = .ok (.goto 21, 3) := dk_167 0 21 (dk_at dksX0_rulesLeft_1 12 rfl rfl)
theorem dX0_rulesLeft_38 : decode cX0_rulesLeft 38 = .ok (.aload_n 0, 1) := dk_42 (dk_at dksX0_rulesLeft_1 15 rfl rfl)
theorem dX0_rulesLeft_39 : decode cX0_rulesLeft 39 = .ok (.invokevirtual 233, 3) := dk_182 0 233 (dk_at dksX0_rulesLeft_1 16 rfl rfl)
theorem dX0_rulesLeft_42 : decode cX0_rulesLeft 42 = .ok (.getfield 429, 3) := dk_180 1 173 (dk_at dksX0_rulesLeft_1 19 rfl rfl)
theorem dX0_rulesLeft_45 : decode cX0_rulesLeft 45 = .ok (.iload_n 2, 1) := dk_28 (dk_at dksX0_rulesLeft_1 22 rfl rfl)
theorem dX0_rulesLeft_46 : decode cX0_rulesLeft 46 = .ok (.iaload, 1) := dk_46 (dk_at dksX0_rulesLeft_1 23 rfl rfl)
theorem dX0_rulesLeft_47 : decode cX0_rulesLeft 47 = .ok (.iconst 3, 1) := dk_6 (dk_at dksX0_rulesLeft_2 0 rfl rfl)
theorem dX0_rulesLeft_48 : decode cX0_rulesLeft 48 = .ok (.if_icmp .ne 7, 3) := dk_160 0 7 (dk_at dksX0_rulesLeft_2 1 rfl rfl)
theorem dX0_rulesLeft_51 : decode cX0_rulesLeft 51 = .ok (.iconst 0, 1) := dk_3 (dk_at dksX0_rulesLeft_2 4 rfl rfl)
theorem dX0_rulesLeft_52 : decode cX0_rulesLeft 52 = .ok (.goto 4, 3) := dk_167 0 4 (dk_at dksX0_rulesLeft_2 5 rfl rfl)
theorem dX0_rulesLeft_55 : decode cX0_rulesLeft 55 = .ok (.iconst 1, 1) := dk_4 (dk_at dksX0_rulesLeft_2 8 rfl rfl)
theorem dX0_rulesLeft_56 : decode cX0_rulesLeft 56 = .ok (.imul, 1) := dk_104 (dk_at dksX0_rulesLeft_2 9 rfl rfl)
theorem dX0_rulesLeft_57 : decode cX0_rulesLeft 57 = .ok (.istore_n 1, 1) := dk_60 (dk_at dksX0_rulesLeft_2 10 rfl rfl)
theorem dX0_rulesLeft_58 : decode cX0_rulesLeft 58 = .ok (.iinc 2 1, 3) := dk_132 2 1 (dk_at dksX0_rulesLeft_2 11 rfl rfl)
theorem dX0_rulesLeft_61 : decode cX0_rulesLeft 61 = .ok (.goto (-52), 3) := dk_167 255 204 (dk_at dksX0_rulesLeft_2 14 rfl rfl)
theorem dX0_rulesLeft_64 : decode cX0_rulesLeft 64 = .ok (.iload_n 1, 1) := dk_27 (dk_at dksX0_rulesLeft_2 17 rfl rfl)
theorem dX0_rulesLeft_65 : decode cX0_rulesLeft 65 = .ok (.ireturn, 1) := dk_172 (dk_at dksX0_rulesLeft_2 18 rfl rfl)
abbrev cX0_fits_2 : ByteArray := prog_1_method_82_code
def yX0_fits_2 : MethodName := ⟨RX0, "fits", "()I"⟩
def dkwX0_fits_2_5 : List UInt8 := [4, 28, 120, 167, 0, 4, 3, 128, 60, 132, 2, 1, 167, 255, 137, 27, 172]
abbrev dktX0_fits_2_5 : List UInt8 := dkwX0_fits_2_5 ++ []
def dkwX0_fits_2_4 : List UInt8 := [167, 0, 4, 4, 160, 0, 7, 4, 167, 0, 4, 3, 62, 132, 4, 1, 167, 255, 173, 27, 29, 153, 0, 9]
abbrev dktX0_fits_2_4 : List UInt8 := dkwX0_fits_2_4 ++ dktX0_fits_2_5
def dkwX0_fits_2_3 : List UInt8 := [21, 4, 7, 164, 0, 7, 4, 167, 0, 4, 3, 21, 4, 8, 112, 182, 1, 118, 153, 0, 7, 5]
abbrev dktX0_fits_2_3 : List UInt8 := dkwX0_fits_2_3 ++ dktX0_fits_2_4
def dkwX0_fits_2_2 : List UInt8 := [180, 1, 173, 21, 4, 46, 153, 0, 47, 42, 182, 0, 233, 180, 1, 173, 21, 4, 46, 42, 182, 0, 233, 28]
abbrev dktX0_fits_2_2 : List UInt8 := dkwX0_fits_2_2 ++ dktX0_fits_2_3
def dkwX0_fits_2_1 : List UInt8 := [54, 4, 21, 4, 42, 182, 0, 233, 180, 1, 173, 190, 162, 0, 76, 29, 153, 0, 64, 42, 182, 0, 233]
abbrev dktX0_fits_2_1 : List UInt8 := dkwX0_fits_2_1 ++ dktX0_fits_2_2
def dkwX0_fits_2_0 : List UInt8 := [42, 3, 181, 0, 81, 3, 60, 3, 61, 28, 42, 182, 0, 162, 180, 0, 178, 162, 0, 114, 4, 62, 3]
abbrev dktX0_fits_2_0 : List UInt8 := dkwX0_fits_2_0 ++ dktX0_fits_2_1
theorem dksX0_fits_2_0 : cX0_fits_2.data.toList.drop 0 = dktX0_fits_2_0 := by decide +kernel
theorem dksX0_fits_2_1 : cX0_fits_2.data.toList.drop 23 = dktX0_fits_2_1 := dk_seg dksX0_fits_2_0 23 rfl rfl
theorem dksX0_fits_2_2 : cX0_fits_2.data.toList.drop 46 = dktX0_fits_2_2 := dk_seg dksX0_fits_2_1 23 rfl rfl
theorem dksX0_fits_2_3 : cX0_fits_2.data.toList.drop 70 = dktX0_fits_2_3 := dk_seg dksX0_fits_2_2 24 rfl rfl
theorem dksX0_fits_2_4 : cX0_fits_2.data.toList.drop 92 = dktX0_fits_2_4 := dk_seg dksX0_fits_2_3 22 rfl rfl
theorem dksX0_fits_2_5 : cX0_fits_2.data.toList.drop 116 = dktX0_fits_2_5 := dk_seg dksX0_fits_2_4 24 rfl rfl
theorem dX0_fits_2_0 : decode cX0_fits_2 0 = .ok (.aload_n 0, 1) := dk_42 (dk_at dksX0_fits_2_0 0 rfl rfl)
theorem dX0_fits_2_1 : decode cX0_fits_2 1 = .ok (.iconst 0, 1) := dk_3 (dk_at dksX0_fits_2_0 1 rfl rfl)
theorem dX0_fits_2_2 : decode cX0_fits_2 2 = .ok (.putfield 81, 3) := dk_181 0 81 (dk_at dksX0_fits_2_0 2 rfl rfl)
theorem dX0_fits_2_5 : decode cX0_fits_2 5 = .ok (.iconst 0, 1) := dk_3 (dk_at dksX0_fits_2_0 5 rfl rfl)
theorem dX0_fits_2_6 : decode cX0_fits_2 6 = .ok (.istore_n 1, 1) := dk_60 (dk_at dksX0_fits_2_0 6 rfl rfl)
theorem dX0_fits_2_7 : decode cX0_fits_2 7 = .ok (.iconst 0, 1) := dk_3 (dk_at dksX0_fits_2_0 7 rfl rfl)
theorem dX0_fits_2_8 : decode cX0_fits_2 8 = .ok (.istore_n 2, 1) := dk_61 (dk_at dksX0_fits_2_0 8 rfl rfl)
theorem dX0_fits_2_9 : decode cX0_fits_2 9 = .ok (.iload_n 2, 1) := dk_28 (dk_at dksX0_fits_2_0 9 rfl rfl)
theorem dX0_fits_2_10 : decode cX0_fits_2 10 = .ok (.aload_n 0, 1) := dk_42 (dk_at dksX0_fits_2_0 10 rfl rfl)
theorem dX0_fits_2_11 : decode cX0_fits_2 11 = .ok (.invokevirtual 162, 3) := dk_182 0 162 (dk_at dksX0_fits_2_0 11 rfl rfl)
theorem dX0_fits_2_14 : decode cX0_fits_2 14 = .ok (.getfield 178, 3) := dk_180 0 178 (dk_at dksX0_fits_2_0 14 rfl rfl)
theorem dX0_fits_2_17 : decode cX0_fits_2 17 = .ok (.if_icmp .ge 114, 3) := dk_162 0 114 (dk_at dksX0_fits_2_0 17 rfl rfl)
theorem dX0_fits_2_20 : decode cX0_fits_2 20 = .ok (.iconst 1, 1) := dk_4 (dk_at dksX0_fits_2_0 20 rfl rfl)
theorem dX0_fits_2_21 : decode cX0_fits_2 21 = .ok (.istore_n 3, 1) := dk_62 (dk_at dksX0_fits_2_0 21 rfl rfl)
theorem dX0_fits_2_22 : decode cX0_fits_2 22 = .ok (.iconst 0, 1) := dk_3 (dk_at dksX0_fits_2_0 22 rfl rfl)
theorem dX0_fits_2_23 : decode cX0_fits_2 23 = .ok (.istore 4, 2) := dk_54 4 (dk_at dksX0_fits_2_1 0 rfl rfl)
theorem dX0_fits_2_25 : decode cX0_fits_2 25 = .ok (.iload 4, 2) := dk_21 4 (dk_at dksX0_fits_2_1 2 rfl rfl)
theorem dX0_fits_2_27 : decode cX0_fits_2 27 = .ok (.aload_n 0, 1) := dk_42 (dk_at dksX0_fits_2_1 4 rfl rfl)
theorem dX0_fits_2_28 : decode cX0_fits_2 28 = .ok (.invokevirtual 233, 3) := dk_182 0 233 (dk_at dksX0_fits_2_1 5 rfl rfl)
theorem dX0_fits_2_31 : decode cX0_fits_2 31 = .ok (.getfield 429, 3) := dk_180 1 173 (dk_at dksX0_fits_2_1 8 rfl rfl)
theorem dX0_fits_2_34 : decode cX0_fits_2 34 = .ok (.arraylength, 1) := dk_190 (dk_at dksX0_fits_2_1 11 rfl rfl)
theorem dX0_fits_2_35 : decode cX0_fits_2 35 = .ok (.if_icmp .ge 76, 3) := dk_162 0 76 (dk_at dksX0_fits_2_1 12 rfl rfl)
theorem dX0_fits_2_38 : decode cX0_fits_2 38 = .ok (.iload_n 3, 1) := dk_29 (dk_at dksX0_fits_2_1 15 rfl rfl)
theorem dX0_fits_2_39 : decode cX0_fits_2 39 = .ok (.ifCond .eq 64, 3) := dk_153 0 64 (dk_at dksX0_fits_2_1 16 rfl rfl)
theorem dX0_fits_2_42 : decode cX0_fits_2 42 = .ok (.aload_n 0, 1) := dk_42 (dk_at dksX0_fits_2_1 19 rfl rfl)
theorem dX0_fits_2_43 : decode cX0_fits_2 43 = .ok (.invokevirtual 233, 3) := dk_182 0 233 (dk_at dksX0_fits_2_1 20 rfl rfl)
theorem dX0_fits_2_46 : decode cX0_fits_2 46 = .ok (.getfield 429, 3) := dk_180 1 173 (dk_at dksX0_fits_2_2 0 rfl rfl)
theorem dX0_fits_2_49 : decode cX0_fits_2 49 = .ok (.iload 4, 2) := dk_21 4 (dk_at dksX0_fits_2_2 3 rfl rfl)
theorem dX0_fits_2_51 : decode cX0_fits_2 51 = .ok (.iaload, 1) := dk_46 (dk_at dksX0_fits_2_2 5 rfl rfl)
theorem dX0_fits_2_52 : decode cX0_fits_2 52 = .ok (.ifCond .eq 47, 3) := dk_153 0 47 (dk_at dksX0_fits_2_2 6 rfl rfl)
theorem dX0_fits_2_55 : decode cX0_fits_2 55 = .ok (.aload_n 0, 1) := dk_42 (dk_at dksX0_fits_2_2 9 rfl rfl)
theorem dX0_fits_2_56 : decode cX0_fits_2 56 = .ok (.invokevirtual 233, 3) := dk_182 0 233 (dk_at dksX0_fits_2_2 10 rfl rfl)
theorem dX0_fits_2_59 : decode cX0_fits_2 59 = .ok (.getfield 429, 3) := dk_180 1 173 (dk_at dksX0_fits_2_2 13 rfl rfl)
theorem dX0_fits_2_62 : decode cX0_fits_2 62 = .ok (.iload 4, 2) := dk_21 4 (dk_at dksX0_fits_2_2 16 rfl rfl)
theorem dX0_fits_2_64 : decode cX0_fits_2 64 = .ok (.iaload, 1) := dk_46 (dk_at dksX0_fits_2_2 18 rfl rfl)
theorem dX0_fits_2_65 : decode cX0_fits_2 65 = .ok (.aload_n 0, 1) := dk_42 (dk_at dksX0_fits_2_2 19 rfl rfl)
theorem dX0_fits_2_66 : decode cX0_fits_2 66 = .ok (.invokevirtual 233, 3) := dk_182 0 233 (dk_at dksX0_fits_2_2 20 rfl rfl)
theorem dX0_fits_2_69 : decode cX0_fits_2 69 = .ok (.iload_n 2, 1) := dk_28 (dk_at dksX0_fits_2_2 23 rfl rfl)
theorem dX0_fits_2_70 : decode cX0_fits_2 70 = .ok (.iload 4, 2) := dk_21 4 (dk_at dksX0_fits_2_3 0 rfl rfl)
theorem dX0_fits_2_72 : decode cX0_fits_2 72 = .ok (.iconst 4, 1) := dk_7 (dk_at dksX0_fits_2_3 2 rfl rfl)
theorem dX0_fits_2_73 : decode cX0_fits_2 73 = .ok (.if_icmp .le 7, 3) := dk_164 0 7 (dk_at dksX0_fits_2_3 3 rfl rfl)
theorem dX0_fits_2_76 : decode cX0_fits_2 76 = .ok (.iconst 1, 1) := dk_4 (dk_at dksX0_fits_2_3 6 rfl rfl)
theorem dX0_fits_2_77 : decode cX0_fits_2 77 = .ok (.goto 4, 3) := dk_167 0 4 (dk_at dksX0_fits_2_3 7 rfl rfl)
theorem dX0_fits_2_80 : decode cX0_fits_2 80 = .ok (.iconst 0, 1) := dk_3 (dk_at dksX0_fits_2_3 10 rfl rfl)
theorem dX0_fits_2_81 : decode cX0_fits_2 81 = .ok (.iload 4, 2) := dk_21 4 (dk_at dksX0_fits_2_3 11 rfl rfl)
theorem dX0_fits_2_83 : decode cX0_fits_2 83 = .ok (.iconst 5, 1) := dk_8 (dk_at dksX0_fits_2_3 13 rfl rfl)
theorem dX0_fits_2_84 : decode cX0_fits_2 84 = .ok (.irem, 1) := dk_112 (dk_at dksX0_fits_2_3 14 rfl rfl)
theorem dX0_fits_2_85 : decode cX0_fits_2 85 = .ok (.invokevirtual 374, 3) := dk_182 1 118 (dk_at dksX0_fits_2_3 15 rfl rfl)
theorem dX0_fits_2_88 : decode cX0_fits_2 88 = .ok (.ifCond .eq 7, 3) := dk_153 0 7 (dk_at dksX0_fits_2_3 18 rfl rfl)
theorem dX0_fits_2_91 : decode cX0_fits_2 91 = .ok (.iconst 2, 1) := dk_5 (dk_at dksX0_fits_2_3 21 rfl rfl)
theorem dX0_fits_2_92 : decode cX0_fits_2 92 = .ok (.goto 4, 3) := dk_167 0 4 (dk_at dksX0_fits_2_4 0 rfl rfl)
theorem dX0_fits_2_95 : decode cX0_fits_2 95 = .ok (.iconst 1, 1) := dk_4 (dk_at dksX0_fits_2_4 3 rfl rfl)
theorem dX0_fits_2_96 : decode cX0_fits_2 96 = .ok (.if_icmp .ne 7, 3) := dk_160 0 7 (dk_at dksX0_fits_2_4 4 rfl rfl)
theorem dX0_fits_2_99 : decode cX0_fits_2 99 = .ok (.iconst 1, 1) := dk_4 (dk_at dksX0_fits_2_4 7 rfl rfl)
theorem dX0_fits_2_100 : decode cX0_fits_2 100 = .ok (.goto 4, 3) := dk_167 0 4 (dk_at dksX0_fits_2_4 8 rfl rfl)
theorem dX0_fits_2_103 : decode cX0_fits_2 103 = .ok (.iconst 0, 1) := dk_3 (dk_at dksX0_fits_2_4 11 rfl rfl)
theorem dX0_fits_2_104 : decode cX0_fits_2 104 = .ok (.istore_n 3, 1) := dk_62 (dk_at dksX0_fits_2_4 12 rfl rfl)
theorem dX0_fits_2_105 : decode cX0_fits_2 105 = .ok (.iinc 4 1, 3) := dk_132 4 1 (dk_at dksX0_fits_2_4 13 rfl rfl)
theorem dX0_fits_2_108 : decode cX0_fits_2 108 = .ok (.goto (-83), 3) := dk_167 255 173 (dk_at dksX0_fits_2_4 16 rfl rfl)
theorem dX0_fits_2_111 : decode cX0_fits_2 111 = .ok (.iload_n 1, 1) := dk_27 (dk_at dksX0_fits_2_4 19 rfl rfl)
theorem dX0_fits_2_112 : decode cX0_fits_2 112 = .ok (.iload_n 3, 1) := dk_29 (dk_at dksX0_fits_2_4 20 rfl rfl)
theorem dX0_fits_2_113 : decode cX0_fits_2 113 = .ok (.ifCond .eq 9, 3) := dk_153 0 9 (dk_at dksX0_fits_2_4 21 rfl rfl)
theorem dX0_fits_2_116 : decode cX0_fits_2 116 = .ok (.iconst 1, 1) := dk_4 (dk_at dksX0_fits_2_5 0 rfl rfl)
theorem dX0_fits_2_117 : decode cX0_fits_2 117 = .ok (.iload_n 2, 1) := dk_28 (dk_at dksX0_fits_2_5 1 rfl rfl)
theorem dX0_fits_2_118 : decode cX0_fits_2 118 = .ok (.ishl, 1) := dk_120 (dk_at dksX0_fits_2_5 2 rfl rfl)
theorem dX0_fits_2_119 : decode cX0_fits_2 119 = .ok (.goto 4, 3) := dk_167 0 4 (dk_at dksX0_fits_2_5 3 rfl rfl)
theorem dX0_fits_2_122 : decode cX0_fits_2 122 = .ok (.iconst 0, 1) := dk_3 (dk_at dksX0_fits_2_5 6 rfl rfl)
theorem dX0_fits_2_123 : decode cX0_fits_2 123 = .ok (.ior, 1) := dk_128 (dk_at dksX0_fits_2_5 7 rfl rfl)
theorem dX0_fits_2_124 : decode cX0_fits_2 124 = .ok (.istore_n 1, 1) := dk_60 (dk_at dksX0_fits_2_5 8 rfl rfl)
theorem dX0_fits_2_125 : decode cX0_fits_2 125 = .ok (.iinc 2 1, 3) := dk_132 2 1 (dk_at dksX0_fits_2_5 9 rfl rfl)
theorem dX0_fits_2_128 : decode cX0_fits_2 128 = .ok (.goto (-119), 3) := dk_167 255 137 (dk_at dksX0_fits_2_5 12 rfl rfl)
theorem dX0_fits_2_131 : decode cX0_fits_2 131 = .ok (.iload_n 1, 1) := dk_27 (dk_at dksX0_fits_2_5 15 rfl rfl)
theorem dX0_fits_2_132 : decode cX0_fits_2 132 = .ok (.ireturn, 1) := dk_172 (dk_at dksX0_fits_2_5 16 rfl rfl)
abbrev cX0_forget : ByteArray := prog_1_method_83_code
def yX0_forget : MethodName := ⟨RX0, "forget", "()I"⟩
def dkwX0_forget_2 : List UInt8 := [180, 1, 173, 28, 3, 79, 132, 2, 1, 167, 255, 211, 27, 172]
abbrev dktX0_forget_2 : List UInt8 := dkwX0_forget_2 ++ []
def dkwX0_forget_1 : List UInt8 := [182, 0, 233, 180, 1, 173, 28, 46, 158, 0, 7, 4, 167, 0, 4, 3, 96, 60, 42, 182, 0, 233]
abbrev dktX0_forget_1 : List UInt8 := dkwX0_forget_1 ++ dktX0_forget_2
def dkwX0_forget_0 : List UInt8 := [42, 3, 181, 0, 81, 3, 60, 3, 61, 28, 42, 182, 0, 233, 180, 1, 173, 190, 162, 0, 39, 27, 42]
abbrev dktX0_forget_0 : List UInt8 := dkwX0_forget_0 ++ dktX0_forget_1
theorem dksX0_forget_0 : cX0_forget.data.toList.drop 0 = dktX0_forget_0 := by decide +kernel
theorem dksX0_forget_1 : cX0_forget.data.toList.drop 23 = dktX0_forget_1 := dk_seg dksX0_forget_0 23 rfl rfl
theorem dksX0_forget_2 : cX0_forget.data.toList.drop 45 = dktX0_forget_2 := dk_seg dksX0_forget_1 22 rfl rfl
theorem dX0_forget_0 : decode cX0_forget 0 = .ok (.aload_n 0, 1) := dk_42 (dk_at dksX0_forget_0 0 rfl rfl)
theorem dX0_forget_1 : decode cX0_forget 1 = .ok (.iconst 0, 1) := dk_3 (dk_at dksX0_forget_0 1 rfl rfl)
theorem dX0_forget_2 : decode cX0_forget 2 = .ok (.putfield 81, 3) := dk_181 0 81 (dk_at dksX0_forget_0 2 rfl rfl)
theorem dX0_forget_5 : decode cX0_forget 5 = .ok (.iconst 0, 1) := dk_3 (dk_at dksX0_forget_0 5 rfl rfl)
theorem dX0_forget_6 : decode cX0_forget 6 = .ok (.istore_n 1, 1) := dk_60 (dk_at dksX0_forget_0 6 rfl rfl)
theorem dX0_forget_7 : decode cX0_forget 7 = .ok (.iconst 0, 1) := dk_3 (dk_at dksX0_forget_0 7 rfl rfl)
theorem dX0_forget_8 : decode cX0_forget 8 = .ok (.istore_n 2, 1) := dk_61 (dk_at dksX0_forget_0 8 rfl rfl)
theorem dX0_forget_9 : decode cX0_forget 9 = .ok (.iload_n 2, 1) := dk_28 (dk_at dksX0_forget_0 9 rfl rfl)
theorem dX0_forget_10 : decode cX0_forget 10 = .ok (.aload_n 0, 1) := dk_42 (dk_at dksX0_forget_0 10 rfl rfl)
theorem dX0_forget_11 : decode cX0_forget 11 = .ok (.invokevirtual 233, 3) := dk_182 0 233 (dk_at dksX0_forget_0 11 rfl rfl)
theorem dX0_forget_14 : decode cX0_forget 14 = .ok (.getfield 429, 3) := dk_180 1 173 (dk_at dksX0_forget_0 14 rfl rfl)
theorem dX0_forget_17 : decode cX0_forget 17 = .ok (.arraylength, 1) := dk_190 (dk_at dksX0_forget_0 17 rfl rfl)
theorem dX0_forget_18 : decode cX0_forget 18 = .ok (.if_icmp .ge 39, 3) := dk_162 0 39 (dk_at dksX0_forget_0 18 rfl rfl)
theorem dX0_forget_21 : decode cX0_forget 21 = .ok (.iload_n 1, 1) := dk_27 (dk_at dksX0_forget_0 21 rfl rfl)
theorem dX0_forget_22 : decode cX0_forget 22 = .ok (.aload_n 0, 1) := dk_42 (dk_at dksX0_forget_0 22 rfl rfl)
theorem dX0_forget_23 : decode cX0_forget 23 = .ok (.invokevirtual 233, 3) := dk_182 0 233 (dk_at dksX0_forget_1 0 rfl rfl)
theorem dX0_forget_26 : decode cX0_forget 26 = .ok (.getfield 429, 3) := dk_180 1 173 (dk_at dksX0_forget_1 3 rfl rfl)
theorem dX0_forget_29 : decode cX0_forget 29 = .ok (.iload_n 2, 1) := dk_28 (dk_at dksX0_forget_1 6 rfl rfl)
theorem dX0_forget_30 : decode cX0_forget 30 = .ok (.iaload, 1) := dk_46 (dk_at dksX0_forget_1 7 rfl rfl)
theorem dX0_forget_31 : decode cX0_forget 31 = .ok (.ifCond .le 7, 3) := dk_158 0 7 (dk_at dksX0_forget_1 8 rfl rfl)
theorem dX0_forget_34 : decode cX0_forget 34 = .ok (.iconst 1, 1) := dk_4 (dk_at dksX0_forget_1 11 rfl rfl)
theorem dX0_forget_35 : decode cX0_forget 35 = .ok (.goto 4, 3) := dk_167 0 4 (dk_at dksX0_forget_1 12 rfl rfl)
theorem dX0_forget_38 : decode cX0_forget 38 = .ok (.iconst 0, 1) := dk_3 (dk_at dksX0_forget_1 15 rfl rfl)
theorem dX0_forget_39 : decode cX0_forget 39 = .ok (.iadd, 1) := dk_96 (dk_at dksX0_forget_1 16 rfl rfl)
theorem dX0_forget_40 : decode cX0_forget 40 = .ok (.istore_n 1, 1) := dk_60 (dk_at dksX0_forget_1 17 rfl rfl)
theorem dX0_forget_41 : decode cX0_forget 41 = .ok (.aload_n 0, 1) := dk_42 (dk_at dksX0_forget_1 18 rfl rfl)
theorem dX0_forget_42 : decode cX0_forget 42 = .ok (.invokevirtual 233, 3) := dk_182 0 233 (dk_at dksX0_forget_1 19 rfl rfl)
theorem dX0_forget_45 : decode cX0_forget 45 = .ok (.getfield 429, 3) := dk_180 1 173 (dk_at dksX0_forget_2 0 rfl rfl)
theorem dX0_forget_48 : decode cX0_forget 48 = .ok (.iload_n 2, 1) := dk_28 (dk_at dksX0_forget_2 3 rfl rfl)
theorem dX0_forget_49 : decode cX0_forget 49 = .ok (.iconst 0, 1) := dk_3 (dk_at dksX0_forget_2 4 rfl rfl)
theorem dX0_forget_50 : decode cX0_forget 50 = .ok (.iastore, 1) := dk_79 (dk_at dksX0_forget_2 5 rfl rfl)
theorem dX0_forget_51 : decode cX0_forget 51 = .ok (.iinc 2 1, 3) := dk_132 2 1 (dk_at dksX0_forget_2 6 rfl rfl)
theorem dX0_forget_54 : decode cX0_forget 54 = .ok (.goto (-45), 3) := dk_167 255 211 (dk_at dksX0_forget_2 9 rfl rfl)
theorem dX0_forget_57 : decode cX0_forget 57 = .ok (.iload_n 1, 1) := dk_27 (dk_at dksX0_forget_2 12 rfl rfl)
theorem dX0_forget_58 : decode cX0_forget 58 = .ok (.ireturn, 1) := dk_172 (dk_at dksX0_forget_2 13 rfl rfl)
abbrev cX0_shows : ByteArray := prog_1_method_84_code
def yX0_shows : MethodName := ⟨RX0, "shows", "()I"⟩
def dkwX0_shows_3 : List UInt8 := [180, 1, 13, 28, 182, 1, 176, 120, 128, 60, 132, 2, 1, 167, 255, 181, 27, 184, 0, 250, 172]
abbrev dktX0_shows_3 : List UInt8 := dkwX0_shows_3 ++ []
def dkwX0_shows_2 : List UInt8 := [182, 0, 233, 180, 1, 13, 28, 182, 1, 176, 46, 154, 0, 23, 27, 4, 42, 182, 0, 233, 42, 182, 0, 233]
abbrev dktX0_shows_2 : List UInt8 := dkwX0_shows_2 ++ dktX0_shows_3
def dkwX0_shows_1 : List UInt8 := [182, 0, 204, 28, 122, 4, 126, 4, 160, 0, 49, 42, 182, 0, 233, 180, 1, 173, 42, 182, 0, 233, 42]
abbrev dktX0_shows_1 : List UInt8 := dkwX0_shows_1 ++ dktX0_shows_2
def dkwX0_shows_0 : List UInt8 := [42, 3, 181, 0, 81, 3, 60, 3, 61, 28, 42, 182, 0, 162, 182, 1, 145, 162, 0, 70, 42, 182, 0, 162]
abbrev dktX0_shows_0 : List UInt8 := dkwX0_shows_0 ++ dktX0_shows_1
theorem dksX0_shows_0 : cX0_shows.data.toList.drop 0 = dktX0_shows_0 := by decide +kernel
theorem dksX0_shows_1 : cX0_shows.data.toList.drop 24 = dktX0_shows_1 := dk_seg dksX0_shows_0 24 rfl rfl
theorem dksX0_shows_2 : cX0_shows.data.toList.drop 47 = dktX0_shows_2 := dk_seg dksX0_shows_1 23 rfl rfl
theorem dksX0_shows_3 : cX0_shows.data.toList.drop 71 = dktX0_shows_3 := dk_seg dksX0_shows_2 24 rfl rfl
theorem dX0_shows_0 : decode cX0_shows 0 = .ok (.aload_n 0, 1) := dk_42 (dk_at dksX0_shows_0 0 rfl rfl)
theorem dX0_shows_1 : decode cX0_shows 1 = .ok (.iconst 0, 1) := dk_3 (dk_at dksX0_shows_0 1 rfl rfl)
theorem dX0_shows_2 : decode cX0_shows 2 = .ok (.putfield 81, 3) := dk_181 0 81 (dk_at dksX0_shows_0 2 rfl rfl)
theorem dX0_shows_5 : decode cX0_shows 5 = .ok (.iconst 0, 1) := dk_3 (dk_at dksX0_shows_0 5 rfl rfl)
theorem dX0_shows_6 : decode cX0_shows 6 = .ok (.istore_n 1, 1) := dk_60 (dk_at dksX0_shows_0 6 rfl rfl)
theorem dX0_shows_7 : decode cX0_shows 7 = .ok (.iconst 0, 1) := dk_3 (dk_at dksX0_shows_0 7 rfl rfl)
theorem dX0_shows_8 : decode cX0_shows 8 = .ok (.istore_n 2, 1) := dk_61 (dk_at dksX0_shows_0 8 rfl rfl)
theorem dX0_shows_9 : decode cX0_shows 9 = .ok (.iload_n 2, 1) := dk_28 (dk_at dksX0_shows_0 9 rfl rfl)
theorem dX0_shows_10 : decode cX0_shows 10 = .ok (.aload_n 0, 1) := dk_42 (dk_at dksX0_shows_0 10 rfl rfl)
theorem dX0_shows_11 : decode cX0_shows 11 = .ok (.invokevirtual 162, 3) := dk_182 0 162 (dk_at dksX0_shows_0 11 rfl rfl)
theorem dX0_shows_14 : decode cX0_shows 14 = .ok (.invokevirtual 401, 3) := dk_182 1 145 (dk_at dksX0_shows_0 14 rfl rfl)
theorem dX0_shows_17 : decode cX0_shows 17 = .ok (.if_icmp .ge 70, 3) := dk_162 0 70 (dk_at dksX0_shows_0 17 rfl rfl)
theorem dX0_shows_20 : decode cX0_shows 20 = .ok (.aload_n 0, 1) := dk_42 (dk_at dksX0_shows_0 20 rfl rfl)
theorem dX0_shows_21 : decode cX0_shows 21 = .ok (.invokevirtual 162, 3) := dk_182 0 162 (dk_at dksX0_shows_0 21 rfl rfl)
theorem dX0_shows_24 : decode cX0_shows 24 = .ok (.invokevirtual 204, 3) := dk_182 0 204 (dk_at dksX0_shows_1 0 rfl rfl)
theorem dX0_shows_27 : decode cX0_shows 27 = .ok (.iload_n 2, 1) := dk_28 (dk_at dksX0_shows_1 3 rfl rfl)
theorem dX0_shows_28 : decode cX0_shows 28 = .ok (.ishr, 1) := dk_122 (dk_at dksX0_shows_1 4 rfl rfl)
theorem dX0_shows_29 : decode cX0_shows 29 = .ok (.iconst 1, 1) := dk_4 (dk_at dksX0_shows_1 5 rfl rfl)
theorem dX0_shows_30 : decode cX0_shows 30 = .ok (.iand, 1) := dk_126 (dk_at dksX0_shows_1 6 rfl rfl)
theorem dX0_shows_31 : decode cX0_shows 31 = .ok (.iconst 1, 1) := dk_4 (dk_at dksX0_shows_1 7 rfl rfl)
theorem dX0_shows_32 : decode cX0_shows 32 = .ok (.if_icmp .ne 49, 3) := dk_160 0 49 (dk_at dksX0_shows_1 8 rfl rfl)
theorem dX0_shows_35 : decode cX0_shows 35 = .ok (.aload_n 0, 1) := dk_42 (dk_at dksX0_shows_1 11 rfl rfl)
theorem dX0_shows_36 : decode cX0_shows 36 = .ok (.invokevirtual 233, 3) := dk_182 0 233 (dk_at dksX0_shows_1 12 rfl rfl)
theorem dX0_shows_39 : decode cX0_shows 39 = .ok (.getfield 429, 3) := dk_180 1 173 (dk_at dksX0_shows_1 15 rfl rfl)
theorem dX0_shows_42 : decode cX0_shows 42 = .ok (.aload_n 0, 1) := dk_42 (dk_at dksX0_shows_1 18 rfl rfl)
theorem dX0_shows_43 : decode cX0_shows 43 = .ok (.invokevirtual 233, 3) := dk_182 0 233 (dk_at dksX0_shows_1 19 rfl rfl)
theorem dX0_shows_46 : decode cX0_shows 46 = .ok (.aload_n 0, 1) := dk_42 (dk_at dksX0_shows_1 22 rfl rfl)
theorem dX0_shows_47 : decode cX0_shows 47 = .ok (.invokevirtual 233, 3) := dk_182 0 233 (dk_at dksX0_shows_2 0 rfl rfl)
theorem dX0_shows_50 : decode cX0_shows 50 = .ok (.getfield 269, 3) := dk_180 1 13 (dk_at dksX0_shows_2 3 rfl rfl)
theorem dX0_shows_53 : decode cX0_shows 53 = .ok (.iload_n 2, 1) := dk_28 (dk_at dksX0_shows_2 6 rfl rfl)
theorem dX0_shows_54 : decode cX0_shows 54 = .ok (.invokevirtual 432, 3) := dk_182 1 176 (dk_at dksX0_shows_2 7 rfl rfl)
theorem dX0_shows_57 : decode cX0_shows 57 = .ok (.iaload, 1) := dk_46 (dk_at dksX0_shows_2 10 rfl rfl)
theorem dX0_shows_58 : decode cX0_shows 58 = .ok (.ifCond .ne 23, 3) := dk_154 0 23 (dk_at dksX0_shows_2 11 rfl rfl)
theorem dX0_shows_61 : decode cX0_shows 61 = .ok (.iload_n 1, 1) := dk_27 (dk_at dksX0_shows_2 14 rfl rfl)
theorem dX0_shows_62 : decode cX0_shows 62 = .ok (.iconst 1, 1) := dk_4 (dk_at dksX0_shows_2 15 rfl rfl)
theorem dX0_shows_63 : decode cX0_shows 63 = .ok (.aload_n 0, 1) := dk_42 (dk_at dksX0_shows_2 16 rfl rfl)
theorem dX0_shows_64 : decode cX0_shows 64 = .ok (.invokevirtual 233, 3) := dk_182 0 233 (dk_at dksX0_shows_2 17 rfl rfl)
theorem dX0_shows_67 : decode cX0_shows 67 = .ok (.aload_n 0, 1) := dk_42 (dk_at dksX0_shows_2 20 rfl rfl)
theorem dX0_shows_68 : decode cX0_shows 68 = .ok (.invokevirtual 233, 3) := dk_182 0 233 (dk_at dksX0_shows_2 21 rfl rfl)
theorem dX0_shows_71 : decode cX0_shows 71 = .ok (.getfield 269, 3) := dk_180 1 13 (dk_at dksX0_shows_3 0 rfl rfl)
theorem dX0_shows_74 : decode cX0_shows 74 = .ok (.iload_n 2, 1) := dk_28 (dk_at dksX0_shows_3 3 rfl rfl)
theorem dX0_shows_75 : decode cX0_shows 75 = .ok (.invokevirtual 432, 3) := dk_182 1 176 (dk_at dksX0_shows_3 4 rfl rfl)
theorem dX0_shows_78 : decode cX0_shows 78 = .ok (.ishl, 1) := dk_120 (dk_at dksX0_shows_3 7 rfl rfl)
theorem dX0_shows_79 : decode cX0_shows 79 = .ok (.ior, 1) := dk_128 (dk_at dksX0_shows_3 8 rfl rfl)
theorem dX0_shows_80 : decode cX0_shows 80 = .ok (.istore_n 1, 1) := dk_60 (dk_at dksX0_shows_3 9 rfl rfl)
theorem dX0_shows_81 : decode cX0_shows 81 = .ok (.iinc 2 1, 3) := dk_132 2 1 (dk_at dksX0_shows_3 10 rfl rfl)
theorem dX0_shows_84 : decode cX0_shows 84 = .ok (.goto (-75), 3) := dk_167 255 181 (dk_at dksX0_shows_3 13 rfl rfl)
theorem dX0_shows_87 : decode cX0_shows 87 = .ok (.iload_n 1, 1) := dk_27 (dk_at dksX0_shows_3 16 rfl rfl)
theorem dX0_shows_88 : decode cX0_shows 88 = .ok (.invokestatic 250, 3) := dk_184 0 250 (dk_at dksX0_shows_3 17 rfl rfl)
theorem dX0_shows_91 : decode cX0_shows 91 = .ok (.ireturn, 1) := dk_172 (dk_at dksX0_shows_3 20 rfl rfl)
abbrev cX0_vote : ByteArray := prog_1_method_85_code
def yX0_vote : MethodName := ⟨RX0, "vote", "(I)I"⟩
def dkwX0_vote_1 : List UInt8 := [2, 167, 0, 15, 42, 42, 182, 0, 233, 27, 182, 1, 179, 182, 1, 32, 172]
abbrev dktX0_vote_1 : List UInt8 := dkwX0_vote_1 ++ []
def dkwX0_vote_0 : List UInt8 := [42, 42, 27, 182, 1, 52, 153, 0, 7, 3, 167, 0, 4, 4, 181, 0, 81, 42, 180, 0, 81, 158, 0, 7]
abbrev dktX0_vote_0 : List UInt8 := dkwX0_vote_0 ++ dktX0_vote_1
theorem dksX0_vote_0 : cX0_vote.data.toList.drop 0 = dktX0_vote_0 := by decide +kernel
theorem dksX0_vote_1 : cX0_vote.data.toList.drop 24 = dktX0_vote_1 := dk_seg dksX0_vote_0 24 rfl rfl
theorem dX0_vote_0 : decode cX0_vote 0 = .ok (.aload_n 0, 1) := dk_42 (dk_at dksX0_vote_0 0 rfl rfl)
theorem dX0_vote_1 : decode cX0_vote 1 = .ok (.aload_n 0, 1) := dk_42 (dk_at dksX0_vote_0 1 rfl rfl)
theorem dX0_vote_2 : decode cX0_vote 2 = .ok (.iload_n 1, 1) := dk_27 (dk_at dksX0_vote_0 2 rfl rfl)
theorem dX0_vote_3 : decode cX0_vote 3 = .ok (.invokevirtual 308, 3) := dk_182 1 52 (dk_at dksX0_vote_0 3 rfl rfl)
theorem dX0_vote_6 : decode cX0_vote 6 = .ok (.ifCond .eq 7, 3) := dk_153 0 7 (dk_at dksX0_vote_0 6 rfl rfl)
theorem dX0_vote_9 : decode cX0_vote 9 = .ok (.iconst 0, 1) := dk_3 (dk_at dksX0_vote_0 9 rfl rfl)
theorem dX0_vote_10 : decode cX0_vote 10 = .ok (.goto 4, 3) := dk_167 0 4 (dk_at dksX0_vote_0 10 rfl rfl)
theorem dX0_vote_13 : decode cX0_vote 13 = .ok (.iconst 1, 1) := dk_4 (dk_at dksX0_vote_0 13 rfl rfl)
theorem dX0_vote_14 : decode cX0_vote 14 = .ok (.putfield 81, 3) := dk_181 0 81 (dk_at dksX0_vote_0 14 rfl rfl)
theorem dX0_vote_17 : decode cX0_vote 17 = .ok (.aload_n 0, 1) := dk_42 (dk_at dksX0_vote_0 17 rfl rfl)
theorem dX0_vote_18 : decode cX0_vote 18 = .ok (.getfield 81, 3) := dk_180 0 81 (dk_at dksX0_vote_0 18 rfl rfl)
theorem dX0_vote_21 : decode cX0_vote 21 = .ok (.ifCond .le 7, 3) := dk_158 0 7 (dk_at dksX0_vote_0 21 rfl rfl)
theorem dX0_vote_24 : decode cX0_vote 24 = .ok (.iconst (-1), 1) := dk_2 (dk_at dksX0_vote_1 0 rfl rfl)
theorem dX0_vote_25 : decode cX0_vote 25 = .ok (.goto 15, 3) := dk_167 0 15 (dk_at dksX0_vote_1 1 rfl rfl)
theorem dX0_vote_28 : decode cX0_vote 28 = .ok (.aload_n 0, 1) := dk_42 (dk_at dksX0_vote_1 4 rfl rfl)
theorem dX0_vote_29 : decode cX0_vote 29 = .ok (.aload_n 0, 1) := dk_42 (dk_at dksX0_vote_1 5 rfl rfl)
theorem dX0_vote_30 : decode cX0_vote 30 = .ok (.invokevirtual 233, 3) := dk_182 0 233 (dk_at dksX0_vote_1 6 rfl rfl)
theorem dX0_vote_33 : decode cX0_vote 33 = .ok (.iload_n 1, 1) := dk_27 (dk_at dksX0_vote_1 9 rfl rfl)
theorem dX0_vote_34 : decode cX0_vote 34 = .ok (.invokevirtual 435, 3) := dk_182 1 179 (dk_at dksX0_vote_1 10 rfl rfl)
theorem dX0_vote_37 : decode cX0_vote 37 = .ok (.invokevirtual 288, 3) := dk_182 1 32 (dk_at dksX0_vote_1 13 rfl rfl)
theorem dX0_vote_40 : decode cX0_vote 40 = .ok (.ireturn, 1) := dk_172 (dk_at dksX0_vote_1 16 rfl rfl)
abbrev cX0_votes : ByteArray := prog_1_method_86_code
def yX0_votes : MethodName := ⟨RX0, "votes", "(I)I"⟩
def dkwX0_votes_1 : List UInt8 := [2, 167, 0, 11, 42, 182, 0, 233, 27, 182, 1, 182, 172]
abbrev dktX0_votes_1 : List UInt8 := dkwX0_votes_1 ++ []
def dkwX0_votes_0 : List UInt8 := [42, 42, 27, 182, 1, 43, 153, 0, 7, 3, 167, 0, 4, 4, 181, 0, 81, 42, 180, 0, 81, 158, 0, 7]
abbrev dktX0_votes_0 : List UInt8 := dkwX0_votes_0 ++ dktX0_votes_1
theorem dksX0_votes_0 : cX0_votes.data.toList.drop 0 = dktX0_votes_0 := by decide +kernel
theorem dksX0_votes_1 : cX0_votes.data.toList.drop 24 = dktX0_votes_1 := dk_seg dksX0_votes_0 24 rfl rfl
theorem dX0_votes_0 : decode cX0_votes 0 = .ok (.aload_n 0, 1) := dk_42 (dk_at dksX0_votes_0 0 rfl rfl)
theorem dX0_votes_1 : decode cX0_votes 1 = .ok (.aload_n 0, 1) := dk_42 (dk_at dksX0_votes_0 1 rfl rfl)
theorem dX0_votes_2 : decode cX0_votes 2 = .ok (.iload_n 1, 1) := dk_27 (dk_at dksX0_votes_0 2 rfl rfl)
theorem dX0_votes_3 : decode cX0_votes 3 = .ok (.invokevirtual 299, 3) := dk_182 1 43 (dk_at dksX0_votes_0 3 rfl rfl)
theorem dX0_votes_6 : decode cX0_votes 6 = .ok (.ifCond .eq 7, 3) := dk_153 0 7 (dk_at dksX0_votes_0 6 rfl rfl)
theorem dX0_votes_9 : decode cX0_votes 9 = .ok (.iconst 0, 1) := dk_3 (dk_at dksX0_votes_0 9 rfl rfl)
theorem dX0_votes_10 : decode cX0_votes 10 = .ok (.goto 4, 3) := dk_167 0 4 (dk_at dksX0_votes_0 10 rfl rfl)
theorem dX0_votes_13 : decode cX0_votes 13 = .ok (.iconst 1, 1) := dk_4 (dk_at dksX0_votes_0 13 rfl rfl)
theorem dX0_votes_14 : decode cX0_votes 14 = .ok (.putfield 81, 3) := dk_181 0 81 (dk_at dksX0_votes_0 14 rfl rfl)
theorem dX0_votes_17 : decode cX0_votes 17 = .ok (.aload_n 0, 1) := dk_42 (dk_at dksX0_votes_0 17 rfl rfl)
theorem dX0_votes_18 : decode cX0_votes 18 = .ok (.getfield 81, 3) := dk_180 0 81 (dk_at dksX0_votes_0 18 rfl rfl)
theorem dX0_votes_21 : decode cX0_votes 21 = .ok (.ifCond .le 7, 3) := dk_158 0 7 (dk_at dksX0_votes_0 21 rfl rfl)
theorem dX0_votes_24 : decode cX0_votes 24 = .ok (.iconst (-1), 1) := dk_2 (dk_at dksX0_votes_1 0 rfl rfl)
theorem dX0_votes_25 : decode cX0_votes 25 = .ok (.goto 11, 3) := dk_167 0 11 (dk_at dksX0_votes_1 1 rfl rfl)
theorem dX0_votes_28 : decode cX0_votes 28 = .ok (.aload_n 0, 1) := dk_42 (dk_at dksX0_votes_1 4 rfl rfl)
theorem dX0_votes_29 : decode cX0_votes 29 = .ok (.invokevirtual 233, 3) := dk_182 0 233 (dk_at dksX0_votes_1 5 rfl rfl)
theorem dX0_votes_32 : decode cX0_votes 32 = .ok (.iload_n 1, 1) := dk_27 (dk_at dksX0_votes_1 8 rfl rfl)
theorem dX0_votes_33 : decode cX0_votes 33 = .ok (.invokevirtual 438, 3) := dk_182 1 182 (dk_at dksX0_votes_1 9 rfl rfl)
theorem dX0_votes_36 : decode cX0_votes 36 = .ok (.ireturn, 1) := dk_172 (dk_at dksX0_votes_1 12 rfl rfl)
abbrev cX0_elect : ByteArray := prog_1_method_87_code
def yX0_elect : MethodName := ⟨RX0, "elect", "()I"⟩
def dkwX0_elect_1 : List UInt8 := [182, 1, 32, 172]
abbrev dktX0_elect_1 : List UInt8 := dkwX0_elect_1 ++ []
def dkwX0_elect_0 : List UInt8 := [42, 42, 182, 0, 233, 182, 1, 185, 153, 0, 13, 42, 182, 0, 233, 180, 1, 29, 167, 0, 4, 2]
abbrev dktX0_elect_0 : List UInt8 := dkwX0_elect_0 ++ dktX0_elect_1
theorem dksX0_elect_0 : cX0_elect.data.toList.drop 0 = dktX0_elect_0 := by decide +kernel
theorem dksX0_elect_1 : cX0_elect.data.toList.drop 22 = dktX0_elect_1 := dk_seg dksX0_elect_0 22 rfl rfl
theorem dX0_elect_0 : decode cX0_elect 0 = .ok (.aload_n 0, 1) := dk_42 (dk_at dksX0_elect_0 0 rfl rfl)
theorem dX0_elect_1 : decode cX0_elect 1 = .ok (.aload_n 0, 1) := dk_42 (dk_at dksX0_elect_0 1 rfl rfl)
theorem dX0_elect_2 : decode cX0_elect 2 = .ok (.invokevirtual 233, 3) := dk_182 0 233 (dk_at dksX0_elect_0 2 rfl rfl)
theorem dX0_elect_5 : decode cX0_elect 5 = .ok (.invokevirtual 441, 3) := dk_182 1 185 (dk_at dksX0_elect_0 5 rfl rfl)
theorem dX0_elect_8 : decode cX0_elect 8 = .ok (.ifCond .eq 13, 3) := dk_153 0 13 (dk_at dksX0_elect_0 8 rfl rfl)
theorem dX0_elect_11 : decode cX0_elect 11 = .ok (.aload_n 0, 1) := dk_42 (dk_at dksX0_elect_0 11 rfl rfl)
theorem dX0_elect_12 : decode cX0_elect 12 = .ok (.invokevirtual 233, 3) := dk_182 0 233 (dk_at dksX0_elect_0 12 rfl rfl)
theorem dX0_elect_15 : decode cX0_elect 15 = .ok (.getfield 285, 3) := dk_180 1 29 (dk_at dksX0_elect_0 15 rfl rfl)
theorem dX0_elect_18 : decode cX0_elect 18 = .ok (.goto 4, 3) := dk_167 0 4 (dk_at dksX0_elect_0 18 rfl rfl)
theorem dX0_elect_21 : decode cX0_elect 21 = .ok (.iconst (-1), 1) := dk_2 (dk_at dksX0_elect_0 21 rfl rfl)
theorem dX0_elect_22 : decode cX0_elect 22 = .ok (.invokevirtual 288, 3) := dk_182 1 32 (dk_at dksX0_elect_1 0 rfl rfl)
theorem dX0_elect_25 : decode cX0_elect 25 = .ok (.ireturn, 1) := dk_172 (dk_at dksX0_elect_1 3 rfl rfl)
abbrev cX0_reads : ByteArray := prog_1_method_88_code
def yX0_reads : MethodName := ⟨RX0, "reads", "(II)I"⟩
def dkwX0_reads_5 : List UInt8 := [122, 4, 126, 21, 4, 120, 128, 62, 132, 4, 1, 167, 255, 215, 29, 172]
abbrev dktX0_reads_5 : List UInt8 := dkwX0_reads_5 ++ []
def dkwX0_reads_4 : List UInt8 := [180, 0, 175, 162, 0, 35, 29, 42, 182, 0, 233, 180, 1, 13, 42, 182, 0, 162, 27, 21, 4, 182, 0, 196]
abbrev dktX0_reads_4 : List UInt8 := dkwX0_reads_4 ++ dktX0_reads_5
def dkwX0_reads_3 : List UInt8 := [182, 0, 233, 180, 1, 13, 27, 182, 1, 76, 172, 3, 62, 3, 54, 4, 21, 4, 42, 182, 0, 162]
abbrev dktX0_reads_3 : List UInt8 := dkwX0_reads_3 ++ dktX0_reads_4
def dkwX0_reads_2 : List UInt8 := [167, 0, 4, 4, 181, 0, 81, 42, 180, 0, 81, 158, 0, 5, 2, 172, 28, 154, 0, 16, 42, 42]
abbrev dktX0_reads_2 : List UInt8 := dkwX0_reads_2 ++ dktX0_reads_3
def dkwX0_reads_1 : List UInt8 := [180, 0, 175, 167, 0, 10, 42, 182, 0, 162, 180, 0, 166, 4, 100, 133, 184, 0, 171, 153, 0, 7, 3]
abbrev dktX0_reads_1 : List UInt8 := dkwX0_reads_1 ++ dktX0_reads_2
def dkwX0_reads_0 : List UInt8 := [42, 28, 133, 9, 10, 184, 0, 171, 153, 0, 40, 27, 133, 9, 28, 154, 0, 13, 42, 182, 0, 162]
abbrev dktX0_reads_0 : List UInt8 := dkwX0_reads_0 ++ dktX0_reads_1
theorem dksX0_reads_0 : cX0_reads.data.toList.drop 0 = dktX0_reads_0 := by decide +kernel
theorem dksX0_reads_1 : cX0_reads.data.toList.drop 22 = dktX0_reads_1 := dk_seg dksX0_reads_0 22 rfl rfl
theorem dksX0_reads_2 : cX0_reads.data.toList.drop 45 = dktX0_reads_2 := dk_seg dksX0_reads_1 23 rfl rfl
theorem dksX0_reads_3 : cX0_reads.data.toList.drop 67 = dktX0_reads_3 := dk_seg dksX0_reads_2 22 rfl rfl
theorem dksX0_reads_4 : cX0_reads.data.toList.drop 89 = dktX0_reads_4 := dk_seg dksX0_reads_3 22 rfl rfl
theorem dksX0_reads_5 : cX0_reads.data.toList.drop 113 = dktX0_reads_5 := dk_seg dksX0_reads_4 24 rfl rfl
theorem dX0_reads_0 : decode cX0_reads 0 = .ok (.aload_n 0, 1) := dk_42 (dk_at dksX0_reads_0 0 rfl rfl)
theorem dX0_reads_1 : decode cX0_reads 1 = .ok (.iload_n 2, 1) := dk_28 (dk_at dksX0_reads_0 1 rfl rfl)
theorem dX0_reads_2 : decode cX0_reads 2 = .ok (.i2l, 1) := dk_133 (dk_at dksX0_reads_0 2 rfl rfl)
theorem dX0_reads_3 : decode cX0_reads 3 = .ok (.lconst 0, 1) := dk_9 (dk_at dksX0_reads_0 3 rfl rfl)
theorem dX0_reads_4 : decode cX0_reads 4 = .ok (.lconst 1, 1) := dk_10 (dk_at dksX0_reads_0 4 rfl rfl)
theorem dX0_reads_5 : decode cX0_reads 5 = .ok (.invokestatic 171, 3) := dk_184 0 171 (dk_at dksX0_reads_0 5 rfl rfl)
theorem dX0_reads_8 : decode cX0_reads 8 = .ok (.ifCond .eq 40, 3) := dk_153 0 40 (dk_at dksX0_reads_0 8 rfl rfl)
theorem dX0_reads_11 : decode cX0_reads 11 = .ok (.iload_n 1, 1) := dk_27 (dk_at dksX0_reads_0 11 rfl rfl)
theorem dX0_reads_12 : decode cX0_reads 12 = .ok (.i2l, 1) := dk_133 (dk_at dksX0_reads_0 12 rfl rfl)
theorem dX0_reads_13 : decode cX0_reads 13 = .ok (.lconst 0, 1) := dk_9 (dk_at dksX0_reads_0 13 rfl rfl)
theorem dX0_reads_14 : decode cX0_reads 14 = .ok (.iload_n 2, 1) := dk_28 (dk_at dksX0_reads_0 14 rfl rfl)
theorem dX0_reads_15 : decode cX0_reads 15 = .ok (.ifCond .ne 13, 3) := dk_154 0 13 (dk_at dksX0_reads_0 15 rfl rfl)
theorem dX0_reads_18 : decode cX0_reads 18 = .ok (.aload_n 0, 1) := dk_42 (dk_at dksX0_reads_0 18 rfl rfl)
theorem dX0_reads_19 : decode cX0_reads 19 = .ok (.invokevirtual 162, 3) := dk_182 0 162 (dk_at dksX0_reads_0 19 rfl rfl)
theorem dX0_reads_22 : decode cX0_reads 22 = .ok (.getfield 175, 3) := dk_180 0 175 (dk_at dksX0_reads_1 0 rfl rfl)
theorem dX0_reads_25 : decode cX0_reads 25 = .ok (.goto 10, 3) := dk_167 0 10 (dk_at dksX0_reads_1 3 rfl rfl)
theorem dX0_reads_28 : decode cX0_reads 28 = .ok (.aload_n 0, 1) := dk_42 (dk_at dksX0_reads_1 6 rfl rfl)
theorem dX0_reads_29 : decode cX0_reads 29 = .ok (.invokevirtual 162, 3) := dk_182 0 162 (dk_at dksX0_reads_1 7 rfl rfl)
theorem dX0_reads_32 : decode cX0_reads 32 = .ok (.getfield 166, 3) := dk_180 0 166 (dk_at dksX0_reads_1 10 rfl rfl)
theorem dX0_reads_35 : decode cX0_reads 35 = .ok (.iconst 1, 1) := dk_4 (dk_at dksX0_reads_1 13 rfl rfl)
theorem dX0_reads_36 : decode cX0_reads 36 = .ok (.isub, 1) := dk_100 (dk_at dksX0_reads_1 14 rfl rfl)
theorem dX0_reads_37 : decode cX0_reads 37 = .ok (.i2l, 1) := dk_133 (dk_at dksX0_reads_1 15 rfl rfl)
theorem dX0_reads_38 : decode cX0_reads 38 = .ok (.invokestatic 171, 3) := dk_184 0 171 (dk_at dksX0_reads_1 16 rfl rfl)
theorem dX0_reads_41 : decode cX0_reads 41 = .ok (.ifCond .eq 7, 3) := dk_153 0 7 (dk_at dksX0_reads_1 19 rfl rfl)
theorem dX0_reads_44 : decode cX0_reads 44 = .ok (.iconst 0, 1) := dk_3 (dk_at dksX0_reads_1 22 rfl rfl)
theorem dX0_reads_45 : decode cX0_reads 45 = .ok (.goto 4, 3) := dk_167 0 4 (dk_at dksX0_reads_2 0 rfl rfl)
theorem dX0_reads_48 : decode cX0_reads 48 = .ok (.iconst 1, 1) := dk_4 (dk_at dksX0_reads_2 3 rfl rfl)
theorem dX0_reads_49 : decode cX0_reads 49 = .ok (.putfield 81, 3) := dk_181 0 81 (dk_at dksX0_reads_2 4 rfl rfl)
theorem dX0_reads_52 : decode cX0_reads 52 = .ok (.aload_n 0, 1) := dk_42 (dk_at dksX0_reads_2 7 rfl rfl)
theorem dX0_reads_53 : decode cX0_reads 53 = .ok (.getfield 81, 3) := dk_180 0 81 (dk_at dksX0_reads_2 8 rfl rfl)
theorem dX0_reads_56 : decode cX0_reads 56 = .ok (.ifCond .le 5, 3) := dk_158 0 5 (dk_at dksX0_reads_2 11 rfl rfl)
theorem dX0_reads_59 : decode cX0_reads 59 = .ok (.iconst (-1), 1) := dk_2 (dk_at dksX0_reads_2 14 rfl rfl)
theorem dX0_reads_60 : decode cX0_reads 60 = .ok (.ireturn, 1) := dk_172 (dk_at dksX0_reads_2 15 rfl rfl)
theorem dX0_reads_61 : decode cX0_reads 61 = .ok (.iload_n 2, 1) := dk_28 (dk_at dksX0_reads_2 16 rfl rfl)
theorem dX0_reads_62 : decode cX0_reads 62 = .ok (.ifCond .ne 16, 3) := dk_154 0 16 (dk_at dksX0_reads_2 17 rfl rfl)
theorem dX0_reads_65 : decode cX0_reads 65 = .ok (.aload_n 0, 1) := dk_42 (dk_at dksX0_reads_2 20 rfl rfl)
theorem dX0_reads_66 : decode cX0_reads 66 = .ok (.aload_n 0, 1) := dk_42 (dk_at dksX0_reads_2 21 rfl rfl)
theorem dX0_reads_67 : decode cX0_reads 67 = .ok (.invokevirtual 233, 3) := dk_182 0 233 (dk_at dksX0_reads_3 0 rfl rfl)
theorem dX0_reads_70 : decode cX0_reads 70 = .ok (.getfield 269, 3) := dk_180 1 13 (dk_at dksX0_reads_3 3 rfl rfl)
theorem dX0_reads_73 : decode cX0_reads 73 = .ok (.iload_n 1, 1) := dk_27 (dk_at dksX0_reads_3 6 rfl rfl)
theorem dX0_reads_74 : decode cX0_reads 74 = .ok (.invokevirtual 332, 3) := dk_182 1 76 (dk_at dksX0_reads_3 7 rfl rfl)
theorem dX0_reads_77 : decode cX0_reads 77 = .ok (.ireturn, 1) := dk_172 (dk_at dksX0_reads_3 10 rfl rfl)
theorem dX0_reads_78 : decode cX0_reads 78 = .ok (.iconst 0, 1) := dk_3 (dk_at dksX0_reads_3 11 rfl rfl)
theorem dX0_reads_79 : decode cX0_reads 79 = .ok (.istore_n 3, 1) := dk_62 (dk_at dksX0_reads_3 12 rfl rfl)
theorem dX0_reads_80 : decode cX0_reads 80 = .ok (.iconst 0, 1) := dk_3 (dk_at dksX0_reads_3 13 rfl rfl)
theorem dX0_reads_81 : decode cX0_reads 81 = .ok (.istore 4, 2) := dk_54 4 (dk_at dksX0_reads_3 14 rfl rfl)
theorem dX0_reads_83 : decode cX0_reads 83 = .ok (.iload 4, 2) := dk_21 4 (dk_at dksX0_reads_3 16 rfl rfl)
theorem dX0_reads_85 : decode cX0_reads 85 = .ok (.aload_n 0, 1) := dk_42 (dk_at dksX0_reads_3 18 rfl rfl)
theorem dX0_reads_86 : decode cX0_reads 86 = .ok (.invokevirtual 162, 3) := dk_182 0 162 (dk_at dksX0_reads_3 19 rfl rfl)
theorem dX0_reads_89 : decode cX0_reads 89 = .ok (.getfield 175, 3) := dk_180 0 175 (dk_at dksX0_reads_4 0 rfl rfl)
theorem dX0_reads_92 : decode cX0_reads 92 = .ok (.if_icmp .ge 35, 3) := dk_162 0 35 (dk_at dksX0_reads_4 3 rfl rfl)
theorem dX0_reads_95 : decode cX0_reads 95 = .ok (.iload_n 3, 1) := dk_29 (dk_at dksX0_reads_4 6 rfl rfl)
theorem dX0_reads_96 : decode cX0_reads 96 = .ok (.aload_n 0, 1) := dk_42 (dk_at dksX0_reads_4 7 rfl rfl)
theorem dX0_reads_97 : decode cX0_reads 97 = .ok (.invokevirtual 233, 3) := dk_182 0 233 (dk_at dksX0_reads_4 8 rfl rfl)
theorem dX0_reads_100 : decode cX0_reads 100 = .ok (.getfield 269, 3) := dk_180 1 13 (dk_at dksX0_reads_4 11 rfl rfl)
theorem dX0_reads_103 : decode cX0_reads 103 = .ok (.aload_n 0, 1) := dk_42 (dk_at dksX0_reads_4 14 rfl rfl)
theorem dX0_reads_104 : decode cX0_reads 104 = .ok (.invokevirtual 162, 3) := dk_182 0 162 (dk_at dksX0_reads_4 15 rfl rfl)
theorem dX0_reads_107 : decode cX0_reads 107 = .ok (.iload_n 1, 1) := dk_27 (dk_at dksX0_reads_4 18 rfl rfl)
theorem dX0_reads_108 : decode cX0_reads 108 = .ok (.iload 4, 2) := dk_21 4 (dk_at dksX0_reads_4 19 rfl rfl)
theorem dX0_reads_110 : decode cX0_reads 110 = .ok (.invokevirtual 196, 3) := dk_182 0 196 (dk_at dksX0_reads_4 21 rfl rfl)
theorem dX0_reads_113 : decode cX0_reads 113 = .ok (.ishr, 1) := dk_122 (dk_at dksX0_reads_5 0 rfl rfl)
theorem dX0_reads_114 : decode cX0_reads 114 = .ok (.iconst 1, 1) := dk_4 (dk_at dksX0_reads_5 1 rfl rfl)
theorem dX0_reads_115 : decode cX0_reads 115 = .ok (.iand, 1) := dk_126 (dk_at dksX0_reads_5 2 rfl rfl)
theorem dX0_reads_116 : decode cX0_reads 116 = .ok (.iload 4, 2) := dk_21 4 (dk_at dksX0_reads_5 3 rfl rfl)
theorem dX0_reads_118 : decode cX0_reads 118 = .ok (.ishl, 1) := dk_120 (dk_at dksX0_reads_5 5 rfl rfl)
theorem dX0_reads_119 : decode cX0_reads 119 = .ok (.ior, 1) := dk_128 (dk_at dksX0_reads_5 6 rfl rfl)
theorem dX0_reads_120 : decode cX0_reads 120 = .ok (.istore_n 3, 1) := dk_62 (dk_at dksX0_reads_5 7 rfl rfl)
theorem dX0_reads_121 : decode cX0_reads 121 = .ok (.iinc 4 1, 3) := dk_132 4 1 (dk_at dksX0_reads_5 8 rfl rfl)
theorem dX0_reads_124 : decode cX0_reads 124 = .ok (.goto (-41), 3) := dk_167 255 215 (dk_at dksX0_reads_5 11 rfl rfl)
theorem dX0_reads_127 : decode cX0_reads 127 = .ok (.iload_n 3, 1) := dk_29 (dk_at dksX0_reads_5 14 rfl rfl)
theorem dX0_reads_128 : decode cX0_reads 128 = .ok (.ireturn, 1) := dk_172 (dk_at dksX0_reads_5 15 rfl rfl)
abbrev cX0_mirror : ByteArray := prog_1_method_89_code
def yX0_mirror : MethodName := ⟨RX0, "mirror", "()I"⟩
def dkwX0_mirror_4 : List UInt8 := [132, 1, 1, 167, 255, 170, 4, 172]
abbrev dktX0_mirror_4 : List UInt8 := dkwX0_mirror_4 ++ []
def dkwX0_mirror_3 : List UInt8 := [4, 100, 28, 100, 27, 182, 0, 196, 122, 4, 126, 159, 0, 5, 3, 172, 132, 2, 1, 167, 255, 189]
abbrev dktX0_mirror_3 : List UInt8 := dkwX0_mirror_3 ++ dktX0_mirror_4
def dkwX0_mirror_2 : List UInt8 := [182, 0, 196, 122, 4, 126, 42, 182, 0, 233, 180, 1, 13, 42, 182, 0, 162, 42, 182, 0, 162, 180, 0, 166]
abbrev dktX0_mirror_2 : List UInt8 := dkwX0_mirror_2 ++ dktX0_mirror_3
def dkwX0_mirror_1 : List UInt8 := [182, 0, 162, 180, 0, 166, 162, 0, 62, 42, 182, 0, 233, 180, 1, 13, 42, 182, 0, 162, 28, 27]
abbrev dktX0_mirror_1 : List UInt8 := dkwX0_mirror_1 ++ dktX0_mirror_2
def dkwX0_mirror_0 : List UInt8 := [42, 3, 181, 0, 81, 3, 60, 27, 42, 182, 0, 162, 180, 0, 175, 162, 0, 81, 3, 61, 28, 42]
abbrev dktX0_mirror_0 : List UInt8 := dkwX0_mirror_0 ++ dktX0_mirror_1
theorem dksX0_mirror_0 : cX0_mirror.data.toList.drop 0 = dktX0_mirror_0 := by decide +kernel
theorem dksX0_mirror_1 : cX0_mirror.data.toList.drop 22 = dktX0_mirror_1 := dk_seg dksX0_mirror_0 22 rfl rfl
theorem dksX0_mirror_2 : cX0_mirror.data.toList.drop 44 = dktX0_mirror_2 := dk_seg dksX0_mirror_1 22 rfl rfl
theorem dksX0_mirror_3 : cX0_mirror.data.toList.drop 68 = dktX0_mirror_3 := dk_seg dksX0_mirror_2 24 rfl rfl
theorem dksX0_mirror_4 : cX0_mirror.data.toList.drop 90 = dktX0_mirror_4 := dk_seg dksX0_mirror_3 22 rfl rfl
theorem dX0_mirror_0 : decode cX0_mirror 0 = .ok (.aload_n 0, 1) := dk_42 (dk_at dksX0_mirror_0 0 rfl rfl)
theorem dX0_mirror_1 : decode cX0_mirror 1 = .ok (.iconst 0, 1) := dk_3 (dk_at dksX0_mirror_0 1 rfl rfl)
theorem dX0_mirror_2 : decode cX0_mirror 2 = .ok (.putfield 81, 3) := dk_181 0 81 (dk_at dksX0_mirror_0 2 rfl rfl)
theorem dX0_mirror_5 : decode cX0_mirror 5 = .ok (.iconst 0, 1) := dk_3 (dk_at dksX0_mirror_0 5 rfl rfl)
theorem dX0_mirror_6 : decode cX0_mirror 6 = .ok (.istore_n 1, 1) := dk_60 (dk_at dksX0_mirror_0 6 rfl rfl)
theorem dX0_mirror_7 : decode cX0_mirror 7 = .ok (.iload_n 1, 1) := dk_27 (dk_at dksX0_mirror_0 7 rfl rfl)
theorem dX0_mirror_8 : decode cX0_mirror 8 = .ok (.aload_n 0, 1) := dk_42 (dk_at dksX0_mirror_0 8 rfl rfl)
theorem dX0_mirror_9 : decode cX0_mirror 9 = .ok (.invokevirtual 162, 3) := dk_182 0 162 (dk_at dksX0_mirror_0 9 rfl rfl)
theorem dX0_mirror_12 : decode cX0_mirror 12 = .ok (.getfield 175, 3) := dk_180 0 175 (dk_at dksX0_mirror_0 12 rfl rfl)
theorem dX0_mirror_15 : decode cX0_mirror 15 = .ok (.if_icmp .ge 81, 3) := dk_162 0 81 (dk_at dksX0_mirror_0 15 rfl rfl)
theorem dX0_mirror_18 : decode cX0_mirror 18 = .ok (.iconst 0, 1) := dk_3 (dk_at dksX0_mirror_0 18 rfl rfl)
theorem dX0_mirror_19 : decode cX0_mirror 19 = .ok (.istore_n 2, 1) := dk_61 (dk_at dksX0_mirror_0 19 rfl rfl)
theorem dX0_mirror_20 : decode cX0_mirror 20 = .ok (.iload_n 2, 1) := dk_28 (dk_at dksX0_mirror_0 20 rfl rfl)
theorem dX0_mirror_21 : decode cX0_mirror 21 = .ok (.aload_n 0, 1) := dk_42 (dk_at dksX0_mirror_0 21 rfl rfl)
theorem dX0_mirror_22 : decode cX0_mirror 22 = .ok (.invokevirtual 162, 3) := dk_182 0 162 (dk_at dksX0_mirror_1 0 rfl rfl)
theorem dX0_mirror_25 : decode cX0_mirror 25 = .ok (.getfield 166, 3) := dk_180 0 166 (dk_at dksX0_mirror_1 3 rfl rfl)
theorem dX0_mirror_28 : decode cX0_mirror 28 = .ok (.if_icmp .ge 62, 3) := dk_162 0 62 (dk_at dksX0_mirror_1 6 rfl rfl)
theorem dX0_mirror_31 : decode cX0_mirror 31 = .ok (.aload_n 0, 1) := dk_42 (dk_at dksX0_mirror_1 9 rfl rfl)
theorem dX0_mirror_32 : decode cX0_mirror 32 = .ok (.invokevirtual 233, 3) := dk_182 0 233 (dk_at dksX0_mirror_1 10 rfl rfl)
theorem dX0_mirror_35 : decode cX0_mirror 35 = .ok (.getfield 269, 3) := dk_180 1 13 (dk_at dksX0_mirror_1 13 rfl rfl)
theorem dX0_mirror_38 : decode cX0_mirror 38 = .ok (.aload_n 0, 1) := dk_42 (dk_at dksX0_mirror_1 16 rfl rfl)
theorem dX0_mirror_39 : decode cX0_mirror 39 = .ok (.invokevirtual 162, 3) := dk_182 0 162 (dk_at dksX0_mirror_1 17 rfl rfl)
theorem dX0_mirror_42 : decode cX0_mirror 42 = .ok (.iload_n 2, 1) := dk_28 (dk_at dksX0_mirror_1 20 rfl rfl)
theorem dX0_mirror_43 : decode cX0_mirror 43 = .ok (.iload_n 1, 1) := dk_27 (dk_at dksX0_mirror_1 21 rfl rfl)
theorem dX0_mirror_44 : decode cX0_mirror 44 = .ok (.invokevirtual 196, 3) := dk_182 0 196 (dk_at dksX0_mirror_2 0 rfl rfl)
theorem dX0_mirror_47 : decode cX0_mirror 47 = .ok (.ishr, 1) := dk_122 (dk_at dksX0_mirror_2 3 rfl rfl)
theorem dX0_mirror_48 : decode cX0_mirror 48 = .ok (.iconst 1, 1) := dk_4 (dk_at dksX0_mirror_2 4 rfl rfl)
theorem dX0_mirror_49 : decode cX0_mirror 49 = .ok (.iand, 1) := dk_126 (dk_at dksX0_mirror_2 5 rfl rfl)
theorem dX0_mirror_50 : decode cX0_mirror 50 = .ok (.aload_n 0, 1) := dk_42 (dk_at dksX0_mirror_2 6 rfl rfl)
theorem dX0_mirror_51 : decode cX0_mirror 51 = .ok (.invokevirtual 233, 3) := dk_182 0 233 (dk_at dksX0_mirror_2 7 rfl rfl)
theorem dX0_mirror_54 : decode cX0_mirror 54 = .ok (.getfield 269, 3) := dk_180 1 13 (dk_at dksX0_mirror_2 10 rfl rfl)
theorem dX0_mirror_57 : decode cX0_mirror 57 = .ok (.aload_n 0, 1) := dk_42 (dk_at dksX0_mirror_2 13 rfl rfl)
theorem dX0_mirror_58 : decode cX0_mirror 58 = .ok (.invokevirtual 162, 3) := dk_182 0 162 (dk_at dksX0_mirror_2 14 rfl rfl)
theorem dX0_mirror_61 : decode cX0_mirror 61 = .ok (.aload_n 0, 1) := dk_42 (dk_at dksX0_mirror_2 17 rfl rfl)
theorem dX0_mirror_62 : decode cX0_mirror 62 = .ok (.invokevirtual 162, 3) := dk_182 0 162 (dk_at dksX0_mirror_2 18 rfl rfl)
theorem dX0_mirror_65 : decode cX0_mirror 65 = .ok (.getfield 166, 3) := dk_180 0 166 (dk_at dksX0_mirror_2 21 rfl rfl)
theorem dX0_mirror_68 : decode cX0_mirror 68 = .ok (.iconst 1, 1) := dk_4 (dk_at dksX0_mirror_3 0 rfl rfl)
theorem dX0_mirror_69 : decode cX0_mirror 69 = .ok (.isub, 1) := dk_100 (dk_at dksX0_mirror_3 1 rfl rfl)
theorem dX0_mirror_70 : decode cX0_mirror 70 = .ok (.iload_n 2, 1) := dk_28 (dk_at dksX0_mirror_3 2 rfl rfl)
theorem dX0_mirror_71 : decode cX0_mirror 71 = .ok (.isub, 1) := dk_100 (dk_at dksX0_mirror_3 3 rfl rfl)
theorem dX0_mirror_72 : decode cX0_mirror 72 = .ok (.iload_n 1, 1) := dk_27 (dk_at dksX0_mirror_3 4 rfl rfl)
theorem dX0_mirror_73 : decode cX0_mirror 73 = .ok (.invokevirtual 196, 3) := dk_182 0 196 (dk_at dksX0_mirror_3 5 rfl rfl)
theorem dX0_mirror_76 : decode cX0_mirror 76 = .ok (.ishr, 1) := dk_122 (dk_at dksX0_mirror_3 8 rfl rfl)
theorem dX0_mirror_77 : decode cX0_mirror 77 = .ok (.iconst 1, 1) := dk_4 (dk_at dksX0_mirror_3 9 rfl rfl)
theorem dX0_mirror_78 : decode cX0_mirror 78 = .ok (.iand, 1) := dk_126 (dk_at dksX0_mirror_3 10 rfl rfl)
theorem dX0_mirror_79 : decode cX0_mirror 79 = .ok (.if_icmp .eq 5, 3) := dk_159 0 5 (dk_at dksX0_mirror_3 11 rfl rfl)
theorem dX0_mirror_82 : decode cX0_mirror 82 = .ok (.iconst 0, 1) := dk_3 (dk_at dksX0_mirror_3 14 rfl rfl)
theorem dX0_mirror_83 : decode cX0_mirror 83 = .ok (.ireturn, 1) := dk_172 (dk_at dksX0_mirror_3 15 rfl rfl)
theorem dX0_mirror_84 : decode cX0_mirror 84 = .ok (.iinc 2 1, 3) := dk_132 2 1 (dk_at dksX0_mirror_3 16 rfl rfl)
theorem dX0_mirror_87 : decode cX0_mirror 87 = .ok (.goto (-67), 3) := dk_167 255 189 (dk_at dksX0_mirror_3 19 rfl rfl)
theorem dX0_mirror_90 : decode cX0_mirror 90 = .ok (.iinc 1 1, 3) := dk_132 1 1 (dk_at dksX0_mirror_4 0 rfl rfl)
theorem dX0_mirror_93 : decode cX0_mirror 93 = .ok (.goto (-86), 3) := dk_167 255 170 (dk_at dksX0_mirror_4 3 rfl rfl)
theorem dX0_mirror_96 : decode cX0_mirror 96 = .ok (.iconst 1, 1) := dk_4 (dk_at dksX0_mirror_4 6 rfl rfl)
theorem dX0_mirror_97 : decode cX0_mirror 97 = .ok (.ireturn, 1) := dk_172 (dk_at dksX0_mirror_4 7 rfl rfl)
abbrev cX0_heaps : ByteArray := prog_1_method_91_code
def yX0_heaps : MethodName := ⟨RX0, "heaps", "(I)I"⟩
def dkwX0_heaps_3 : List UInt8 := [21, 5, 2, 130, 126, 61, 167, 255, 220, 27, 154, 0, 7, 29, 167, 0, 5, 21, 4, 172]
abbrev dktX0_heaps_3 : List UInt8 := dkwX0_heaps_3 ++ []
def dkwX0_heaps_2 : List UInt8 := [184, 1, 188, 182, 1, 191, 54, 5, 132, 3, 1, 21, 4, 21, 5, 184, 0, 250, 184, 1, 112, 54, 4, 28]
abbrev dktX0_heaps_2 : List UInt8 := dkwX0_heaps_2 ++ dktX0_heaps_3
def dkwX0_heaps_1 : List UInt8 := [158, 0, 5, 2, 172, 42, 182, 0, 233, 180, 1, 13, 61, 3, 62, 3, 54, 4, 28, 153, 0, 38, 42, 28]
abbrev dktX0_heaps_1 : List UInt8 := dkwX0_heaps_1 ++ dktX0_heaps_2
def dkwX0_heaps_0 : List UInt8 := [42, 27, 133, 9, 10, 184, 0, 171, 153, 0, 7, 3, 167, 0, 4, 4, 181, 0, 81, 42, 180, 0, 81]
abbrev dktX0_heaps_0 : List UInt8 := dkwX0_heaps_0 ++ dktX0_heaps_1
theorem dksX0_heaps_0 : cX0_heaps.data.toList.drop 0 = dktX0_heaps_0 := by decide +kernel
theorem dksX0_heaps_1 : cX0_heaps.data.toList.drop 23 = dktX0_heaps_1 := dk_seg dksX0_heaps_0 23 rfl rfl
theorem dksX0_heaps_2 : cX0_heaps.data.toList.drop 47 = dktX0_heaps_2 := dk_seg dksX0_heaps_1 24 rfl rfl
theorem dksX0_heaps_3 : cX0_heaps.data.toList.drop 71 = dktX0_heaps_3 := dk_seg dksX0_heaps_2 24 rfl rfl
theorem dX0_heaps_0 : decode cX0_heaps 0 = .ok (.aload_n 0, 1) := dk_42 (dk_at dksX0_heaps_0 0 rfl rfl)
theorem dX0_heaps_1 : decode cX0_heaps 1 = .ok (.iload_n 1, 1) := dk_27 (dk_at dksX0_heaps_0 1 rfl rfl)
theorem dX0_heaps_2 : decode cX0_heaps 2 = .ok (.i2l, 1) := dk_133 (dk_at dksX0_heaps_0 2 rfl rfl)
theorem dX0_heaps_3 : decode cX0_heaps 3 = .ok (.lconst 0, 1) := dk_9 (dk_at dksX0_heaps_0 3 rfl rfl)
theorem dX0_heaps_4 : decode cX0_heaps 4 = .ok (.lconst 1, 1) := dk_10 (dk_at dksX0_heaps_0 4 rfl rfl)
theorem dX0_heaps_5 : decode cX0_heaps 5 = .ok (.invokestatic 171, 3) := dk_184 0 171 (dk_at dksX0_heaps_0 5 rfl rfl)
theorem dX0_heaps_8 : decode cX0_heaps 8 = .ok (.ifCond .eq 7, 3) := dk_153 0 7 (dk_at dksX0_heaps_0 8 rfl rfl)
theorem dX0_heaps_11 : decode cX0_heaps 11 = .ok (.iconst 0, 1) := dk_3 (dk_at dksX0_heaps_0 11 rfl rfl)
theorem dX0_heaps_12 : decode cX0_heaps 12 = .ok (.goto 4, 3) := dk_167 0 4 (dk_at dksX0_heaps_0 12 rfl rfl)
theorem dX0_heaps_15 : decode cX0_heaps 15 = .ok (.iconst 1, 1) := dk_4 (dk_at dksX0_heaps_0 15 rfl rfl)
theorem dX0_heaps_16 : decode cX0_heaps 16 = .ok (.putfield 81, 3) := dk_181 0 81 (dk_at dksX0_heaps_0 16 rfl rfl)
theorem dX0_heaps_19 : decode cX0_heaps 19 = .ok (.aload_n 0, 1) := dk_42 (dk_at dksX0_heaps_0 19 rfl rfl)
theorem dX0_heaps_20 : decode cX0_heaps 20 = .ok (.getfield 81, 3) := dk_180 0 81 (dk_at dksX0_heaps_0 20 rfl rfl)
theorem dX0_heaps_23 : decode cX0_heaps 23 = .ok (.ifCond .le 5, 3) := dk_158 0 5 (dk_at dksX0_heaps_1 0 rfl rfl)
theorem dX0_heaps_26 : decode cX0_heaps 26 = .ok (.iconst (-1), 1) := dk_2 (dk_at dksX0_heaps_1 3 rfl rfl)
theorem dX0_heaps_27 : decode cX0_heaps 27 = .ok (.ireturn, 1) := dk_172 (dk_at dksX0_heaps_1 4 rfl rfl)
theorem dX0_heaps_28 : decode cX0_heaps 28 = .ok (.aload_n 0, 1) := dk_42 (dk_at dksX0_heaps_1 5 rfl rfl)
theorem dX0_heaps_29 : decode cX0_heaps 29 = .ok (.invokevirtual 233, 3) := dk_182 0 233 (dk_at dksX0_heaps_1 6 rfl rfl)
theorem dX0_heaps_32 : decode cX0_heaps 32 = .ok (.getfield 269, 3) := dk_180 1 13 (dk_at dksX0_heaps_1 9 rfl rfl)
theorem dX0_heaps_35 : decode cX0_heaps 35 = .ok (.istore_n 2, 1) := dk_61 (dk_at dksX0_heaps_1 12 rfl rfl)
theorem dX0_heaps_36 : decode cX0_heaps 36 = .ok (.iconst 0, 1) := dk_3 (dk_at dksX0_heaps_1 13 rfl rfl)
theorem dX0_heaps_37 : decode cX0_heaps 37 = .ok (.istore_n 3, 1) := dk_62 (dk_at dksX0_heaps_1 14 rfl rfl)
theorem dX0_heaps_38 : decode cX0_heaps 38 = .ok (.iconst 0, 1) := dk_3 (dk_at dksX0_heaps_1 15 rfl rfl)
theorem dX0_heaps_39 : decode cX0_heaps 39 = .ok (.istore 4, 2) := dk_54 4 (dk_at dksX0_heaps_1 16 rfl rfl)
theorem dX0_heaps_41 : decode cX0_heaps 41 = .ok (.iload_n 2, 1) := dk_28 (dk_at dksX0_heaps_1 18 rfl rfl)
theorem dX0_heaps_42 : decode cX0_heaps 42 = .ok (.ifCond .eq 38, 3) := dk_153 0 38 (dk_at dksX0_heaps_1 19 rfl rfl)
theorem dX0_heaps_45 : decode cX0_heaps 45 = .ok (.aload_n 0, 1) := dk_42 (dk_at dksX0_heaps_1 22 rfl rfl)
theorem dX0_heaps_46 : decode cX0_heaps 46 = .ok (.iload_n 2, 1) := dk_28 (dk_at dksX0_heaps_1 23 rfl rfl)
theorem dX0_heaps_47 : decode cX0_heaps 47 = .ok (.invokestatic 444, 3) := dk_184 1 188 (dk_at dksX0_heaps_2 0 rfl rfl)
theorem dX0_heaps_50 : decode cX0_heaps 50 = .ok (.invokevirtual 447, 3) := dk_182 1 191 (dk_at dksX0_heaps_2 3 rfl rfl)
theorem dX0_heaps_53 : decode cX0_heaps 53 = .ok (.istore 5, 2) := dk_54 5 (dk_at dksX0_heaps_2 6 rfl rfl)
theorem dX0_heaps_55 : decode cX0_heaps 55 = .ok (.iinc 3 1, 3) := dk_132 3 1 (dk_at dksX0_heaps_2 8 rfl rfl)
theorem dX0_heaps_58 : decode cX0_heaps 58 = .ok (.iload 4, 2) := dk_21 4 (dk_at dksX0_heaps_2 11 rfl rfl)
theorem dX0_heaps_60 : decode cX0_heaps 60 = .ok (.iload 5, 2) := dk_21 5 (dk_at dksX0_heaps_2 13 rfl rfl)
theorem dX0_heaps_62 : decode cX0_heaps 62 = .ok (.invokestatic 250, 3) := dk_184 0 250 (dk_at dksX0_heaps_2 15 rfl rfl)
theorem dX0_heaps_65 : decode cX0_heaps 65 = .ok (.invokestatic 368, 3) := dk_184 1 112 (dk_at dksX0_heaps_2 18 rfl rfl)
theorem dX0_heaps_68 : decode cX0_heaps 68 = .ok (.istore 4, 2) := dk_54 4 (dk_at dksX0_heaps_2 21 rfl rfl)
theorem dX0_heaps_70 : decode cX0_heaps 70 = .ok (.iload_n 2, 1) := dk_28 (dk_at dksX0_heaps_2 23 rfl rfl)
theorem dX0_heaps_71 : decode cX0_heaps 71 = .ok (.iload 5, 2) := dk_21 5 (dk_at dksX0_heaps_3 0 rfl rfl)
theorem dX0_heaps_73 : decode cX0_heaps 73 = .ok (.iconst (-1), 1) := dk_2 (dk_at dksX0_heaps_3 2 rfl rfl)
theorem dX0_heaps_74 : decode cX0_heaps 74 = .ok (.ixor, 1) := dk_130 (dk_at dksX0_heaps_3 3 rfl rfl)
theorem dX0_heaps_75 : decode cX0_heaps 75 = .ok (.iand, 1) := dk_126 (dk_at dksX0_heaps_3 4 rfl rfl)
theorem dX0_heaps_76 : decode cX0_heaps 76 = .ok (.istore_n 2, 1) := dk_61 (dk_at dksX0_heaps_3 5 rfl rfl)
theorem dX0_heaps_77 : decode cX0_heaps 77 = .ok (.goto (-36), 3) := dk_167 255 220 (dk_at dksX0_heaps_3 6 rfl rfl)
theorem dX0_heaps_80 : decode cX0_heaps 80 = .ok (.iload_n 1, 1) := dk_27 (dk_at dksX0_heaps_3 9 rfl rfl)
theorem dX0_heaps_81 : decode cX0_heaps 81 = .ok (.ifCond .ne 7, 3) := dk_154 0 7 (dk_at dksX0_heaps_3 10 rfl rfl)
theorem dX0_heaps_84 : decode cX0_heaps 84 = .ok (.iload_n 3, 1) := dk_29 (dk_at dksX0_heaps_3 13 rfl rfl)
theorem dX0_heaps_85 : decode cX0_heaps 85 = .ok (.goto 5, 3) := dk_167 0 5 (dk_at dksX0_heaps_3 14 rfl rfl)
theorem dX0_heaps_88 : decode cX0_heaps 88 = .ok (.iload 4, 2) := dk_21 4 (dk_at dksX0_heaps_3 17 rfl rfl)
theorem dX0_heaps_90 : decode cX0_heaps 90 = .ok (.ireturn, 1) := dk_172 (dk_at dksX0_heaps_3 19 rfl rfl)
abbrev cX0_heapOf : ByteArray := prog_1_method_90_code
def yX0_heapOf : MethodName := ⟨RX0, "heapOf", "(I)I"⟩
def dkwX0_heapOf_2 : List UInt8 := [21, 4, 46, 42, 182, 0, 233, 180, 1, 13, 126, 128, 62, 132, 4, 1, 167, 255, 210, 167, 255, 197, 28, 172]
abbrev dktX0_heapOf_2 : List UInt8 := dkwX0_heapOf_2 ++ []
def dkwX0_heapOf_1 : List UInt8 := [182, 1, 145, 162, 0, 40, 28, 21, 4, 122, 4, 126, 4, 160, 0, 24, 29, 42, 182, 0, 162, 180, 1, 40]
abbrev dktX0_heapOf_1 : List UInt8 := dkwX0_heapOf_1 ++ dktX0_heapOf_2
def dkwX0_heapOf_0 : List UInt8 := [3, 61, 4, 27, 120, 62, 29, 28, 159, 0, 60, 29, 61, 3, 54, 4, 21, 4, 42, 182, 0, 162]
abbrev dktX0_heapOf_0 : List UInt8 := dkwX0_heapOf_0 ++ dktX0_heapOf_1
theorem dksX0_heapOf_0 : cX0_heapOf.data.toList.drop 0 = dktX0_heapOf_0 := by decide +kernel
theorem dksX0_heapOf_1 : cX0_heapOf.data.toList.drop 22 = dktX0_heapOf_1 := dk_seg dksX0_heapOf_0 22 rfl rfl
theorem dksX0_heapOf_2 : cX0_heapOf.data.toList.drop 46 = dktX0_heapOf_2 := dk_seg dksX0_heapOf_1 24 rfl rfl
theorem dX0_heapOf_0 : decode cX0_heapOf 0 = .ok (.iconst 0, 1) := dk_3 (dk_at dksX0_heapOf_0 0 rfl rfl)
theorem dX0_heapOf_1 : decode cX0_heapOf 1 = .ok (.istore_n 2, 1) := dk_61 (dk_at dksX0_heapOf_0 1 rfl rfl)
theorem dX0_heapOf_2 : decode cX0_heapOf 2 = .ok (.iconst 1, 1) := dk_4 (dk_at dksX0_heapOf_0 2 rfl rfl)
theorem dX0_heapOf_3 : decode cX0_heapOf 3 = .ok (.iload_n 1, 1) := dk_27 (dk_at dksX0_heapOf_0 3 rfl rfl)
theorem dX0_heapOf_4 : decode cX0_heapOf 4 = .ok (.ishl, 1) := dk_120 (dk_at dksX0_heapOf_0 4 rfl rfl)
theorem dX0_heapOf_5 : decode cX0_heapOf 5 = .ok (.istore_n 3, 1) := dk_62 (dk_at dksX0_heapOf_0 5 rfl rfl)
theorem dX0_heapOf_6 : decode cX0_heapOf 6 = .ok (.iload_n 3, 1) := dk_29 (dk_at dksX0_heapOf_0 6 rfl rfl)
theorem dX0_heapOf_7 : decode cX0_heapOf 7 = .ok (.iload_n 2, 1) := dk_28 (dk_at dksX0_heapOf_0 7 rfl rfl)
theorem dX0_heapOf_8 : decode cX0_heapOf 8 = .ok (.if_icmp .eq 60, 3) := dk_159 0 60 (dk_at dksX0_heapOf_0 8 rfl rfl)
theorem dX0_heapOf_11 : decode cX0_heapOf 11 = .ok (.iload_n 3, 1) := dk_29 (dk_at dksX0_heapOf_0 11 rfl rfl)
theorem dX0_heapOf_12 : decode cX0_heapOf 12 = .ok (.istore_n 2, 1) := dk_61 (dk_at dksX0_heapOf_0 12 rfl rfl)
theorem dX0_heapOf_13 : decode cX0_heapOf 13 = .ok (.iconst 0, 1) := dk_3 (dk_at dksX0_heapOf_0 13 rfl rfl)
theorem dX0_heapOf_14 : decode cX0_heapOf 14 = .ok (.istore 4, 2) := dk_54 4 (dk_at dksX0_heapOf_0 14 rfl rfl)
theorem dX0_heapOf_16 : decode cX0_heapOf 16 = .ok (.iload 4, 2) := dk_21 4 (dk_at dksX0_heapOf_0 16 rfl rfl)
theorem dX0_heapOf_18 : decode cX0_heapOf 18 = .ok (.aload_n 0, 1) := dk_42 (dk_at dksX0_heapOf_0 18 rfl rfl)
theorem dX0_heapOf_19 : decode cX0_heapOf 19 = .ok (.invokevirtual 162, 3) := dk_182 0 162 (dk_at dksX0_heapOf_0 19 rfl rfl)
theorem dX0_heapOf_22 : decode cX0_heapOf 22 = .ok (.invokevirtual 401, 3) := dk_182 1 145 (dk_at dksX0_heapOf_1 0 rfl rfl)
theorem dX0_heapOf_25 : decode cX0_heapOf 25 = .ok (.if_icmp .ge 40, 3) := dk_162 0 40 (dk_at dksX0_heapOf_1 3 rfl rfl)
theorem dX0_heapOf_28 : decode cX0_heapOf 28 = .ok (.iload_n 2, 1) := dk_28 (dk_at dksX0_heapOf_1 6 rfl rfl)
theorem dX0_heapOf_29 : decode cX0_heapOf 29 = .ok (.iload 4, 2) := dk_21 4 (dk_at dksX0_heapOf_1 7 rfl rfl)
theorem dX0_heapOf_31 : decode cX0_heapOf 31 = .ok (.ishr, 1) := dk_122 (dk_at dksX0_heapOf_1 9 rfl rfl)
theorem dX0_heapOf_32 : decode cX0_heapOf 32 = .ok (.iconst 1, 1) := dk_4 (dk_at dksX0_heapOf_1 10 rfl rfl)
theorem dX0_heapOf_33 : decode cX0_heapOf 33 = .ok (.iand, 1) := dk_126 (dk_at dksX0_heapOf_1 11 rfl rfl)
theorem dX0_heapOf_34 : decode cX0_heapOf 34 = .ok (.iconst 1, 1) := dk_4 (dk_at dksX0_heapOf_1 12 rfl rfl)
theorem dX0_heapOf_35 : decode cX0_heapOf 35 = .ok (.if_icmp .ne 24, 3) := dk_160 0 24 (dk_at dksX0_heapOf_1 13 rfl rfl)
theorem dX0_heapOf_38 : decode cX0_heapOf 38 = .ok (.iload_n 3, 1) := dk_29 (dk_at dksX0_heapOf_1 16 rfl rfl)
theorem dX0_heapOf_39 : decode cX0_heapOf 39 = .ok (.aload_n 0, 1) := dk_42 (dk_at dksX0_heapOf_1 17 rfl rfl)
theorem dX0_heapOf_40 : decode cX0_heapOf 40 = .ok (.invokevirtual 162, 3) := dk_182 0 162 (dk_at dksX0_heapOf_1 18 rfl rfl)
theorem dX0_heapOf_43 : decode cX0_heapOf 43 = .ok (.getfield 296, 3) := dk_180 1 40 (dk_at dksX0_heapOf_1 21 rfl rfl)
theorem dX0_heapOf_46 : decode cX0_heapOf 46 = .ok (.iload 4, 2) := dk_21 4 (dk_at dksX0_heapOf_2 0 rfl rfl)
theorem dX0_heapOf_48 : decode cX0_heapOf 48 = .ok (.iaload, 1) := dk_46 (dk_at dksX0_heapOf_2 2 rfl rfl)
theorem dX0_heapOf_49 : decode cX0_heapOf 49 = .ok (.aload_n 0, 1) := dk_42 (dk_at dksX0_heapOf_2 3 rfl rfl)
theorem dX0_heapOf_50 : decode cX0_heapOf 50 = .ok (.invokevirtual 233, 3) := dk_182 0 233 (dk_at dksX0_heapOf_2 4 rfl rfl)
theorem dX0_heapOf_53 : decode cX0_heapOf 53 = .ok (.getfield 269, 3) := dk_180 1 13 (dk_at dksX0_heapOf_2 7 rfl rfl)
theorem dX0_heapOf_56 : decode cX0_heapOf 56 = .ok (.iand, 1) := dk_126 (dk_at dksX0_heapOf_2 10 rfl rfl)
theorem dX0_heapOf_57 : decode cX0_heapOf 57 = .ok (.ior, 1) := dk_128 (dk_at dksX0_heapOf_2 11 rfl rfl)
theorem dX0_heapOf_58 : decode cX0_heapOf 58 = .ok (.istore_n 3, 1) := dk_62 (dk_at dksX0_heapOf_2 12 rfl rfl)
theorem dX0_heapOf_59 : decode cX0_heapOf 59 = .ok (.iinc 4 1, 3) := dk_132 4 1 (dk_at dksX0_heapOf_2 13 rfl rfl)
theorem dX0_heapOf_62 : decode cX0_heapOf 62 = .ok (.goto (-46), 3) := dk_167 255 210 (dk_at dksX0_heapOf_2 16 rfl rfl)
theorem dX0_heapOf_65 : decode cX0_heapOf 65 = .ok (.goto (-59), 3) := dk_167 255 197 (dk_at dksX0_heapOf_2 19 rfl rfl)
theorem dX0_heapOf_68 : decode cX0_heapOf 68 = .ok (.iload_n 2, 1) := dk_28 (dk_at dksX0_heapOf_2 22 rfl rfl)
theorem dX0_heapOf_69 : decode cX0_heapOf 69 = .ok (.ireturn, 1) := dk_172 (dk_at dksX0_heapOf_2 23 rfl rfl)
abbrev cX0_heap : ByteArray := prog_1_method_92_code
def yX0_heap : MethodName := ⟨RX0, "heap", "(II)I"⟩
def dkwX0_heap_2 : List UInt8 := [29, 182, 1, 191, 184, 0, 250, 172]
abbrev dktX0_heap_2 : List UInt8 := dkwX0_heap_2 ++ []
def dkwX0_heap_1 : List UInt8 := [28, 182, 0, 196, 62, 42, 182, 0, 233, 180, 1, 13, 29, 122, 4, 126, 154, 0, 7, 3, 167, 0, 11, 42]
abbrev dktX0_heap_1 : List UInt8 := dkwX0_heap_1 ++ dktX0_heap_2
def dkwX0_heap_0 : List UInt8 := [42, 42, 27, 28, 182, 1, 37, 181, 0, 81, 42, 180, 0, 81, 158, 0, 5, 2, 172, 42, 182, 0, 162, 27]
abbrev dktX0_heap_0 : List UInt8 := dkwX0_heap_0 ++ dktX0_heap_1
theorem dksX0_heap_0 : cX0_heap.data.toList.drop 0 = dktX0_heap_0 := by decide +kernel
theorem dksX0_heap_1 : cX0_heap.data.toList.drop 24 = dktX0_heap_1 := dk_seg dksX0_heap_0 24 rfl rfl
theorem dksX0_heap_2 : cX0_heap.data.toList.drop 48 = dktX0_heap_2 := dk_seg dksX0_heap_1 24 rfl rfl
theorem dX0_heap_0 : decode cX0_heap 0 = .ok (.aload_n 0, 1) := dk_42 (dk_at dksX0_heap_0 0 rfl rfl)
theorem dX0_heap_1 : decode cX0_heap 1 = .ok (.aload_n 0, 1) := dk_42 (dk_at dksX0_heap_0 1 rfl rfl)
theorem dX0_heap_2 : decode cX0_heap 2 = .ok (.iload_n 1, 1) := dk_27 (dk_at dksX0_heap_0 2 rfl rfl)
theorem dX0_heap_3 : decode cX0_heap 3 = .ok (.iload_n 2, 1) := dk_28 (dk_at dksX0_heap_0 3 rfl rfl)
theorem dX0_heap_4 : decode cX0_heap 4 = .ok (.invokevirtual 293, 3) := dk_182 1 37 (dk_at dksX0_heap_0 4 rfl rfl)
theorem dX0_heap_7 : decode cX0_heap 7 = .ok (.putfield 81, 3) := dk_181 0 81 (dk_at dksX0_heap_0 7 rfl rfl)
theorem dX0_heap_10 : decode cX0_heap 10 = .ok (.aload_n 0, 1) := dk_42 (dk_at dksX0_heap_0 10 rfl rfl)
theorem dX0_heap_11 : decode cX0_heap 11 = .ok (.getfield 81, 3) := dk_180 0 81 (dk_at dksX0_heap_0 11 rfl rfl)
theorem dX0_heap_14 : decode cX0_heap 14 = .ok (.ifCond .le 5, 3) := dk_158 0 5 (dk_at dksX0_heap_0 14 rfl rfl)
theorem dX0_heap_17 : decode cX0_heap 17 = .ok (.iconst (-1), 1) := dk_2 (dk_at dksX0_heap_0 17 rfl rfl)
theorem dX0_heap_18 : decode cX0_heap 18 = .ok (.ireturn, 1) := dk_172 (dk_at dksX0_heap_0 18 rfl rfl)
theorem dX0_heap_19 : decode cX0_heap 19 = .ok (.aload_n 0, 1) := dk_42 (dk_at dksX0_heap_0 19 rfl rfl)
theorem dX0_heap_20 : decode cX0_heap 20 = .ok (.invokevirtual 162, 3) := dk_182 0 162 (dk_at dksX0_heap_0 20 rfl rfl)
theorem dX0_heap_23 : decode cX0_heap 23 = .ok (.iload_n 1, 1) := dk_27 (dk_at dksX0_heap_0 23 rfl rfl)
theorem dX0_heap_24 : decode cX0_heap 24 = .ok (.iload_n 2, 1) := dk_28 (dk_at dksX0_heap_1 0 rfl rfl)
theorem dX0_heap_25 : decode cX0_heap 25 = .ok (.invokevirtual 196, 3) := dk_182 0 196 (dk_at dksX0_heap_1 1 rfl rfl)
theorem dX0_heap_28 : decode cX0_heap 28 = .ok (.istore_n 3, 1) := dk_62 (dk_at dksX0_heap_1 4 rfl rfl)
theorem dX0_heap_29 : decode cX0_heap 29 = .ok (.aload_n 0, 1) := dk_42 (dk_at dksX0_heap_1 5 rfl rfl)
theorem dX0_heap_30 : decode cX0_heap 30 = .ok (.invokevirtual 233, 3) := dk_182 0 233 (dk_at dksX0_heap_1 6 rfl rfl)
theorem dX0_heap_33 : decode cX0_heap 33 = .ok (.getfield 269, 3) := dk_180 1 13 (dk_at dksX0_heap_1 9 rfl rfl)
theorem dX0_heap_36 : decode cX0_heap 36 = .ok (.iload_n 3, 1) := dk_29 (dk_at dksX0_heap_1 12 rfl rfl)
theorem dX0_heap_37 : decode cX0_heap 37 = .ok (.ishr, 1) := dk_122 (dk_at dksX0_heap_1 13 rfl rfl)
theorem dX0_heap_38 : decode cX0_heap 38 = .ok (.iconst 1, 1) := dk_4 (dk_at dksX0_heap_1 14 rfl rfl)
theorem dX0_heap_39 : decode cX0_heap 39 = .ok (.iand, 1) := dk_126 (dk_at dksX0_heap_1 15 rfl rfl)
theorem dX0_heap_40 : decode cX0_heap 40 = .ok (.ifCond .ne 7, 3) := dk_154 0 7 (dk_at dksX0_heap_1 16 rfl rfl)
theorem dX0_heap_43 : decode cX0_heap 43 = .ok (.iconst 0, 1) := dk_3 (dk_at dksX0_heap_1 19 rfl rfl)
theorem dX0_heap_44 : decode cX0_heap 44 = .ok (.goto 11, 3) := dk_167 0 11 (dk_at dksX0_heap_1 20 rfl rfl)
theorem dX0_heap_47 : decode cX0_heap 47 = .ok (.aload_n 0, 1) := dk_42 (dk_at dksX0_heap_1 23 rfl rfl)
theorem dX0_heap_48 : decode cX0_heap 48 = .ok (.iload_n 3, 1) := dk_29 (dk_at dksX0_heap_2 0 rfl rfl)
theorem dX0_heap_49 : decode cX0_heap 49 = .ok (.invokevirtual 447, 3) := dk_182 1 191 (dk_at dksX0_heap_2 1 rfl rfl)
theorem dX0_heap_52 : decode cX0_heap 52 = .ok (.invokestatic 250, 3) := dk_184 0 250 (dk_at dksX0_heap_2 4 rfl rfl)
theorem dX0_heap_55 : decode cX0_heap 55 = .ok (.ireturn, 1) := dk_172 (dk_at dksX0_heap_2 7 rfl rfl)
abbrev cX0_company : ByteArray := prog_1_method_93_code
def yX0_company : MethodName := ⟨RX0, "company", "()Z"⟩
def dkwX0_company_4 : List UInt8 := [133, 42, 182, 0, 233, 180, 1, 13, 184, 0, 250, 133, 182, 1, 194, 87, 4, 172]
abbrev dktX0_company_4 : List UInt8 := dkwX0_company_4 ++ []
def dkwX0_company_3 : List UInt8 := [182, 0, 233, 180, 1, 13, 126, 184, 0, 250, 167, 0, 4, 3, 96, 60, 132, 2, 1, 167, 255, 200, 42, 27]
abbrev dktX0_company_3 : List UInt8 := dkwX0_company_3 ++ dktX0_company_4
def dkwX0_company_2 : List UInt8 := [182, 0, 233, 180, 1, 13, 28, 122, 4, 126, 4, 160, 0, 26, 42, 182, 0, 162, 180, 1, 40, 28, 46, 42]
abbrev dktX0_company_2 : List UInt8 := dkwX0_company_2 ++ dktX0_company_3
def dkwX0_company_1 : List UInt8 := [158, 0, 5, 3, 172, 3, 60, 3, 61, 28, 42, 182, 0, 162, 182, 1, 145, 162, 0, 51, 27, 42]
abbrev dktX0_company_1 : List UInt8 := dkwX0_company_1 ++ dktX0_company_2
def dkwX0_company_0 : List UInt8 := [42, 42, 182, 0, 233, 180, 1, 13, 154, 0, 8, 16, 6, 167, 0, 4, 3, 181, 0, 81, 42, 180, 0, 81]
abbrev dktX0_company_0 : List UInt8 := dkwX0_company_0 ++ dktX0_company_1
theorem dksX0_company_0 : cX0_company.data.toList.drop 0 = dktX0_company_0 := by decide +kernel
theorem dksX0_company_1 : cX0_company.data.toList.drop 24 = dktX0_company_1 := dk_seg dksX0_company_0 24 rfl rfl
theorem dksX0_company_2 : cX0_company.data.toList.drop 46 = dktX0_company_2 := dk_seg dksX0_company_1 22 rfl rfl
theorem dksX0_company_3 : cX0_company.data.toList.drop 70 = dktX0_company_3 := dk_seg dksX0_company_2 24 rfl rfl
theorem dksX0_company_4 : cX0_company.data.toList.drop 94 = dktX0_company_4 := dk_seg dksX0_company_3 24 rfl rfl
theorem dX0_company_0 : decode cX0_company 0 = .ok (.aload_n 0, 1) := dk_42 (dk_at dksX0_company_0 0 rfl rfl)
theorem dX0_company_1 : decode cX0_company 1 = .ok (.aload_n 0, 1) := dk_42 (dk_at dksX0_company_0 1 rfl rfl)
theorem dX0_company_2 : decode cX0_company 2 = .ok (.invokevirtual 233, 3) := dk_182 0 233 (dk_at dksX0_company_0 2 rfl rfl)
theorem dX0_company_5 : decode cX0_company 5 = .ok (.getfield 269, 3) := dk_180 1 13 (dk_at dksX0_company_0 5 rfl rfl)
theorem dX0_company_8 : decode cX0_company 8 = .ok (.ifCond .ne 8, 3) := dk_154 0 8 (dk_at dksX0_company_0 8 rfl rfl)
theorem dX0_company_11 : decode cX0_company 11 = .ok (.bipush 6, 2) := dk_16 6 (dk_at dksX0_company_0 11 rfl rfl)
theorem dX0_company_13 : decode cX0_company 13 = .ok (.goto 4, 3) := dk_167 0 4 (dk_at dksX0_company_0 13 rfl rfl)
theorem dX0_company_16 : decode cX0_company 16 = .ok (.iconst 0, 1) := dk_3 (dk_at dksX0_company_0 16 rfl rfl)
theorem dX0_company_17 : decode cX0_company 17 = .ok (.putfield 81, 3) := dk_181 0 81 (dk_at dksX0_company_0 17 rfl rfl)
theorem dX0_company_20 : decode cX0_company 20 = .ok (.aload_n 0, 1) := dk_42 (dk_at dksX0_company_0 20 rfl rfl)
theorem dX0_company_21 : decode cX0_company 21 = .ok (.getfield 81, 3) := dk_180 0 81 (dk_at dksX0_company_0 21 rfl rfl)
theorem dX0_company_24 : decode cX0_company 24 = .ok (.ifCond .le 5, 3) := dk_158 0 5 (dk_at dksX0_company_1 0 rfl rfl)
theorem dX0_company_27 : decode cX0_company 27 = .ok (.iconst 0, 1) := dk_3 (dk_at dksX0_company_1 3 rfl rfl)
theorem dX0_company_28 : decode cX0_company 28 = .ok (.ireturn, 1) := dk_172 (dk_at dksX0_company_1 4 rfl rfl)
theorem dX0_company_29 : decode cX0_company 29 = .ok (.iconst 0, 1) := dk_3 (dk_at dksX0_company_1 5 rfl rfl)
theorem dX0_company_30 : decode cX0_company 30 = .ok (.istore_n 1, 1) := dk_60 (dk_at dksX0_company_1 6 rfl rfl)
theorem dX0_company_31 : decode cX0_company 31 = .ok (.iconst 0, 1) := dk_3 (dk_at dksX0_company_1 7 rfl rfl)
theorem dX0_company_32 : decode cX0_company 32 = .ok (.istore_n 2, 1) := dk_61 (dk_at dksX0_company_1 8 rfl rfl)
theorem dX0_company_33 : decode cX0_company 33 = .ok (.iload_n 2, 1) := dk_28 (dk_at dksX0_company_1 9 rfl rfl)
theorem dX0_company_34 : decode cX0_company 34 = .ok (.aload_n 0, 1) := dk_42 (dk_at dksX0_company_1 10 rfl rfl)
theorem dX0_company_35 : decode cX0_company 35 = .ok (.invokevirtual 162, 3) := dk_182 0 162 (dk_at dksX0_company_1 11 rfl rfl)
theorem dX0_company_38 : decode cX0_company 38 = .ok (.invokevirtual 401, 3) := dk_182 1 145 (dk_at dksX0_company_1 14 rfl rfl)
theorem dX0_company_41 : decode cX0_company 41 = .ok (.if_icmp .ge 51, 3) := dk_162 0 51 (dk_at dksX0_company_1 17 rfl rfl)
theorem dX0_company_44 : decode cX0_company 44 = .ok (.iload_n 1, 1) := dk_27 (dk_at dksX0_company_1 20 rfl rfl)
theorem dX0_company_45 : decode cX0_company 45 = .ok (.aload_n 0, 1) := dk_42 (dk_at dksX0_company_1 21 rfl rfl)
theorem dX0_company_46 : decode cX0_company 46 = .ok (.invokevirtual 233, 3) := dk_182 0 233 (dk_at dksX0_company_2 0 rfl rfl)
theorem dX0_company_49 : decode cX0_company 49 = .ok (.getfield 269, 3) := dk_180 1 13 (dk_at dksX0_company_2 3 rfl rfl)
theorem dX0_company_52 : decode cX0_company 52 = .ok (.iload_n 2, 1) := dk_28 (dk_at dksX0_company_2 6 rfl rfl)
theorem dX0_company_53 : decode cX0_company 53 = .ok (.ishr, 1) := dk_122 (dk_at dksX0_company_2 7 rfl rfl)
theorem dX0_company_54 : decode cX0_company 54 = .ok (.iconst 1, 1) := dk_4 (dk_at dksX0_company_2 8 rfl rfl)
theorem dX0_company_55 : decode cX0_company 55 = .ok (.iand, 1) := dk_126 (dk_at dksX0_company_2 9 rfl rfl)
theorem dX0_company_56 : decode cX0_company 56 = .ok (.iconst 1, 1) := dk_4 (dk_at dksX0_company_2 10 rfl rfl)
theorem dX0_company_57 : decode cX0_company 57 = .ok (.if_icmp .ne 26, 3) := dk_160 0 26 (dk_at dksX0_company_2 11 rfl rfl)
theorem dX0_company_60 : decode cX0_company 60 = .ok (.aload_n 0, 1) := dk_42 (dk_at dksX0_company_2 14 rfl rfl)
theorem dX0_company_61 : decode cX0_company 61 = .ok (.invokevirtual 162, 3) := dk_182 0 162 (dk_at dksX0_company_2 15 rfl rfl)
theorem dX0_company_64 : decode cX0_company 64 = .ok (.getfield 296, 3) := dk_180 1 40 (dk_at dksX0_company_2 18 rfl rfl)
theorem dX0_company_67 : decode cX0_company 67 = .ok (.iload_n 2, 1) := dk_28 (dk_at dksX0_company_2 21 rfl rfl)
theorem dX0_company_68 : decode cX0_company 68 = .ok (.iaload, 1) := dk_46 (dk_at dksX0_company_2 22 rfl rfl)
theorem dX0_company_69 : decode cX0_company 69 = .ok (.aload_n 0, 1) := dk_42 (dk_at dksX0_company_2 23 rfl rfl)
theorem dX0_company_70 : decode cX0_company 70 = .ok (.invokevirtual 233, 3) := dk_182 0 233 (dk_at dksX0_company_3 0 rfl rfl)
theorem dX0_company_73 : decode cX0_company 73 = .ok (.getfield 269, 3) := dk_180 1 13 (dk_at dksX0_company_3 3 rfl rfl)
theorem dX0_company_76 : decode cX0_company 76 = .ok (.iand, 1) := dk_126 (dk_at dksX0_company_3 6 rfl rfl)
theorem dX0_company_77 : decode cX0_company 77 = .ok (.invokestatic 250, 3) := dk_184 0 250 (dk_at dksX0_company_3 7 rfl rfl)
theorem dX0_company_80 : decode cX0_company 80 = .ok (.goto 4, 3) := dk_167 0 4 (dk_at dksX0_company_3 10 rfl rfl)
theorem dX0_company_83 : decode cX0_company 83 = .ok (.iconst 0, 1) := dk_3 (dk_at dksX0_company_3 13 rfl rfl)
theorem dX0_company_84 : decode cX0_company 84 = .ok (.iadd, 1) := dk_96 (dk_at dksX0_company_3 14 rfl rfl)
theorem dX0_company_85 : decode cX0_company 85 = .ok (.istore_n 1, 1) := dk_60 (dk_at dksX0_company_3 15 rfl rfl)
theorem dX0_company_86 : decode cX0_company 86 = .ok (.iinc 2 1, 3) := dk_132 2 1 (dk_at dksX0_company_3 16 rfl rfl)
theorem dX0_company_89 : decode cX0_company 89 = .ok (.goto (-56), 3) := dk_167 255 200 (dk_at dksX0_company_3 19 rfl rfl)
theorem dX0_company_92 : decode cX0_company 92 = .ok (.aload_n 0, 1) := dk_42 (dk_at dksX0_company_3 22 rfl rfl)
theorem dX0_company_93 : decode cX0_company 93 = .ok (.iload_n 1, 1) := dk_27 (dk_at dksX0_company_3 23 rfl rfl)
theorem dX0_company_94 : decode cX0_company 94 = .ok (.i2l, 1) := dk_133 (dk_at dksX0_company_4 0 rfl rfl)
theorem dX0_company_95 : decode cX0_company 95 = .ok (.aload_n 0, 1) := dk_42 (dk_at dksX0_company_4 1 rfl rfl)
theorem dX0_company_96 : decode cX0_company 96 = .ok (.invokevirtual 233, 3) := dk_182 0 233 (dk_at dksX0_company_4 2 rfl rfl)
theorem dX0_company_99 : decode cX0_company 99 = .ok (.getfield 269, 3) := dk_180 1 13 (dk_at dksX0_company_4 5 rfl rfl)
theorem dX0_company_102 : decode cX0_company 102 = .ok (.invokestatic 250, 3) := dk_184 0 250 (dk_at dksX0_company_4 8 rfl rfl)
theorem dX0_company_105 : decode cX0_company 105 = .ok (.i2l, 1) := dk_133 (dk_at dksX0_company_4 11 rfl rfl)
theorem dX0_company_106 : decode cX0_company 106 = .ok (.invokevirtual 450, 3) := dk_182 1 194 (dk_at dksX0_company_4 12 rfl rfl)
theorem dX0_company_109 : decode cX0_company 109 = .ok (.pop, 1) := dk_87 (dk_at dksX0_company_4 15 rfl rfl)
theorem dX0_company_110 : decode cX0_company 110 = .ok (.iconst 1, 1) := dk_4 (dk_at dksX0_company_4 16 rfl rfl)
theorem dX0_company_111 : decode cX0_company 111 = .ok (.ireturn, 1) := dk_172 (dk_at dksX0_company_4 17 rfl rfl)
abbrev cX0_fraction : ByteArray := prog_1_method_13_code
def yX0_fraction : MethodName := ⟨RX0, "fraction", "(JJ)I"⟩
def dkwX0_fraction_2 : List UInt8 := [181, 0, 48, 31, 184, 0, 100, 172]
abbrev dktX0_fraction_2 : List UInt8 := dkwX0_fraction_2 ++ []
def dkwX0_fraction_1 : List UInt8 := [22, 7, 55, 5, 22, 9, 55, 7, 167, 255, 234, 42, 31, 22, 5, 109, 181, 0, 84, 42, 33, 22, 5, 109]
abbrev dktX0_fraction_1 : List UInt8 := dkwX0_fraction_1 ++ dktX0_fraction_2
def dkwX0_fraction_0 : List UInt8 := [31, 184, 0, 94, 55, 5, 33, 55, 7, 22, 7, 9, 148, 153, 0, 21, 22, 5, 22, 7, 113, 55, 9]
abbrev dktX0_fraction_0 : List UInt8 := dkwX0_fraction_0 ++ dktX0_fraction_1
theorem dksX0_fraction_0 : cX0_fraction.data.toList.drop 0 = dktX0_fraction_0 := by decide +kernel
theorem dksX0_fraction_1 : cX0_fraction.data.toList.drop 23 = dktX0_fraction_1 := dk_seg dksX0_fraction_0 23 rfl rfl
theorem dksX0_fraction_2 : cX0_fraction.data.toList.drop 47 = dktX0_fraction_2 := dk_seg dksX0_fraction_1 24 rfl rfl
theorem dX0_fraction_0 : decode cX0_fraction 0 = .ok (.lload_n 1, 1) := dk_31 (dk_at dksX0_fraction_0 0 rfl rfl)
theorem dX0_fraction_1 : decode cX0_fraction 1 = .ok (.invokestatic 94, 3) := dk_184 0 94 (dk_at dksX0_fraction_0 1 rfl rfl)
theorem dX0_fraction_4 : decode cX0_fraction 4 = .ok (.lstore 5, 2) := dk_55 5 (dk_at dksX0_fraction_0 4 rfl rfl)
theorem dX0_fraction_6 : decode cX0_fraction 6 = .ok (.lload_n 3, 1) := dk_33 (dk_at dksX0_fraction_0 6 rfl rfl)
theorem dX0_fraction_7 : decode cX0_fraction 7 = .ok (.lstore 7, 2) := dk_55 7 (dk_at dksX0_fraction_0 7 rfl rfl)
theorem dX0_fraction_9 : decode cX0_fraction 9 = .ok (.lload 7, 2) := dk_22 7 (dk_at dksX0_fraction_0 9 rfl rfl)
theorem dX0_fraction_11 : decode cX0_fraction 11 = .ok (.lconst 0, 1) := dk_9 (dk_at dksX0_fraction_0 11 rfl rfl)
theorem dX0_fraction_12 : decode cX0_fraction 12 = .ok (.lcmp, 1) := dk_148 (dk_at dksX0_fraction_0 12 rfl rfl)
theorem dX0_fraction_13 : decode cX0_fraction 13 = .ok (.ifCond .eq 21, 3) := dk_153 0 21 (dk_at dksX0_fraction_0 13 rfl rfl)
theorem dX0_fraction_16 : decode cX0_fraction 16 = .ok (.lload 5, 2) := dk_22 5 (dk_at dksX0_fraction_0 16 rfl rfl)
theorem dX0_fraction_18 : decode cX0_fraction 18 = .ok (.lload 7, 2) := dk_22 7 (dk_at dksX0_fraction_0 18 rfl rfl)
theorem dX0_fraction_20 : decode cX0_fraction 20 = .ok (.lrem, 1) := dk_113 (dk_at dksX0_fraction_0 20 rfl rfl)
theorem dX0_fraction_21 : decode cX0_fraction 21 = .ok (.lstore 9, 2) := dk_55 9 (dk_at dksX0_fraction_0 21 rfl rfl)
theorem dX0_fraction_23 : decode cX0_fraction 23 = .ok (.lload 7, 2) := dk_22 7 (dk_at dksX0_fraction_1 0 rfl rfl)
theorem dX0_fraction_25 : decode cX0_fraction 25 = .ok (.lstore 5, 2) := dk_55 5 (dk_at dksX0_fraction_1 2 rfl rfl)
theorem dX0_fraction_27 : decode cX0_fraction 27 = .ok (.lload 9, 2) := dk_22 9 (dk_at dksX0_fraction_1 4 rfl rfl)
theorem dX0_fraction_29 : decode cX0_fraction 29 = .ok (.lstore 7, 2) := dk_55 7 (dk_at dksX0_fraction_1 6 rfl rfl)
theorem dX0_fraction_31 : decode cX0_fraction 31 = .ok (.goto (-22), 3) := dk_167 255 234 (dk_at dksX0_fraction_1 8 rfl rfl)
theorem dX0_fraction_34 : decode cX0_fraction 34 = .ok (.aload_n 0, 1) := dk_42 (dk_at dksX0_fraction_1 11 rfl rfl)
theorem dX0_fraction_35 : decode cX0_fraction 35 = .ok (.lload_n 1, 1) := dk_31 (dk_at dksX0_fraction_1 12 rfl rfl)
theorem dX0_fraction_36 : decode cX0_fraction 36 = .ok (.lload 5, 2) := dk_22 5 (dk_at dksX0_fraction_1 13 rfl rfl)
theorem dX0_fraction_38 : decode cX0_fraction 38 = .ok (.ldiv, 1) := dk_109 (dk_at dksX0_fraction_1 15 rfl rfl)
theorem dX0_fraction_39 : decode cX0_fraction 39 = .ok (.putfield 84, 3) := dk_181 0 84 (dk_at dksX0_fraction_1 16 rfl rfl)
theorem dX0_fraction_42 : decode cX0_fraction 42 = .ok (.aload_n 0, 1) := dk_42 (dk_at dksX0_fraction_1 19 rfl rfl)
theorem dX0_fraction_43 : decode cX0_fraction 43 = .ok (.lload_n 3, 1) := dk_33 (dk_at dksX0_fraction_1 20 rfl rfl)
theorem dX0_fraction_44 : decode cX0_fraction 44 = .ok (.lload 5, 2) := dk_22 5 (dk_at dksX0_fraction_1 21 rfl rfl)
theorem dX0_fraction_46 : decode cX0_fraction 46 = .ok (.ldiv, 1) := dk_109 (dk_at dksX0_fraction_1 23 rfl rfl)
theorem dX0_fraction_47 : decode cX0_fraction 47 = .ok (.putfield 48, 3) := dk_181 0 48 (dk_at dksX0_fraction_2 0 rfl rfl)
theorem dX0_fraction_50 : decode cX0_fraction 50 = .ok (.lload_n 1, 1) := dk_31 (dk_at dksX0_fraction_2 3 rfl rfl)
theorem dX0_fraction_51 : decode cX0_fraction 51 = .ok (.invokestatic 100, 3) := dk_184 0 100 (dk_at dksX0_fraction_2 4 rfl rfl)
theorem dX0_fraction_54 : decode cX0_fraction 54 = .ok (.ireturn, 1) := dk_172 (dk_at dksX0_fraction_2 7 rfl rfl)
abbrev cX0_live : ByteArray := prog_1_method_94_code
def yX0_live : MethodName := ⟨RX0, "live", "(I)I"⟩
def dkwX0_live_5 : List UInt8 := [153, 0, 7, 4, 167, 0, 4, 3, 79, 42, 4, 181, 1, 223, 44, 180, 1, 226, 172]
abbrev dktX0_live_5 : List UInt8 := dkwX0_live_5 ++ []
def dkwX0_live_4 : List UInt8 := [44, 180, 1, 213, 79, 42, 180, 0, 78, 6, 44, 180, 1, 216, 79, 42, 180, 0, 78, 7, 44, 180, 1, 219]
abbrev dktX0_live_4 : List UInt8 := dkwX0_live_4 ++ dktX0_live_5
def dkwX0_live_3 : List UInt8 := [180, 0, 78, 3, 44, 180, 1, 207, 79, 42, 180, 0, 78, 4, 44, 180, 1, 210, 79, 42, 180, 0, 78, 5]
abbrev dktX0_live_3 : List UInt8 := dkwX0_live_3 ++ dktX0_live_4
def dkwX0_live_2 : List UInt8 := [89, 42, 182, 0, 233, 27, 183, 1, 200, 77, 42, 180, 0, 55, 180, 0, 243, 44, 182, 1, 203, 42]
abbrev dktX0_live_2 : List UInt8 := dkwX0_live_2 ++ dktX0_live_3
def dkwX0_live_1 : List UInt8 := [199, 0, 8, 16, 6, 167, 0, 4, 3, 181, 0, 81, 42, 180, 0, 81, 158, 0, 5, 2, 172, 187, 1, 198]
abbrev dktX0_live_1 : List UInt8 := dkwX0_live_1 ++ dktX0_live_2
def dkwX0_live_0 : List UInt8 := [42, 27, 133, 9, 20, 1, 110, 184, 0, 171, 154, 0, 7, 4, 167, 0, 19, 42, 180, 0, 55, 180, 0, 243]
abbrev dktX0_live_0 : List UInt8 := dkwX0_live_0 ++ dktX0_live_1
theorem dksX0_live_0 : cX0_live.data.toList.drop 0 = dktX0_live_0 := by decide +kernel
theorem dksX0_live_1 : cX0_live.data.toList.drop 24 = dktX0_live_1 := dk_seg dksX0_live_0 24 rfl rfl
theorem dksX0_live_2 : cX0_live.data.toList.drop 48 = dktX0_live_2 := dk_seg dksX0_live_1 24 rfl rfl
theorem dksX0_live_3 : cX0_live.data.toList.drop 70 = dktX0_live_3 := dk_seg dksX0_live_2 22 rfl rfl
theorem dksX0_live_4 : cX0_live.data.toList.drop 94 = dktX0_live_4 := dk_seg dksX0_live_3 24 rfl rfl
theorem dksX0_live_5 : cX0_live.data.toList.drop 118 = dktX0_live_5 := dk_seg dksX0_live_4 24 rfl rfl
theorem dX0_live_0 : decode cX0_live 0 = .ok (.aload_n 0, 1) := dk_42 (dk_at dksX0_live_0 0 rfl rfl)
theorem dX0_live_1 : decode cX0_live 1 = .ok (.iload_n 1, 1) := dk_27 (dk_at dksX0_live_0 1 rfl rfl)
theorem dX0_live_2 : decode cX0_live 2 = .ok (.i2l, 1) := dk_133 (dk_at dksX0_live_0 2 rfl rfl)
theorem dX0_live_3 : decode cX0_live 3 = .ok (.lconst 0, 1) := dk_9 (dk_at dksX0_live_0 3 rfl rfl)
theorem dX0_live_4 : decode cX0_live 4 = .ok (.ldc2_w 366, 3) := dk_20 1 110 (dk_at dksX0_live_0 4 rfl rfl)
theorem dX0_live_7 : decode cX0_live 7 = .ok (.invokestatic 171, 3) := dk_184 0 171 (dk_at dksX0_live_0 7 rfl rfl)
theorem dX0_live_10 : decode cX0_live 10 = .ok (.ifCond .ne 7, 3) := dk_154 0 7 (dk_at dksX0_live_0 10 rfl rfl)
theorem dX0_live_13 : decode cX0_live 13 = .ok (.iconst 1, 1) := dk_4 (dk_at dksX0_live_0 13 rfl rfl)
theorem dX0_live_14 : decode cX0_live 14 = .ok (.goto 19, 3) := dk_167 0 19 (dk_at dksX0_live_0 14 rfl rfl)
theorem dX0_live_17 : decode cX0_live 17 = .ok (.aload_n 0, 1) := dk_42 (dk_at dksX0_live_0 17 rfl rfl)
theorem dX0_live_18 : decode cX0_live 18 = .ok (.getfield 55, 3) := dk_180 0 55 (dk_at dksX0_live_0 18 rfl rfl)
theorem dX0_live_21 : decode cX0_live 21 = .ok (.getfield 243, 3) := dk_180 0 243 (dk_at dksX0_live_0 21 rfl rfl)
theorem dX0_live_24 : decode cX0_live 24 = .ok (.ifnonnull 8, 3) := dk_199 0 8 (dk_at dksX0_live_1 0 rfl rfl)
theorem dX0_live_27 : decode cX0_live 27 = .ok (.bipush 6, 2) := dk_16 6 (dk_at dksX0_live_1 3 rfl rfl)
theorem dX0_live_29 : decode cX0_live 29 = .ok (.goto 4, 3) := dk_167 0 4 (dk_at dksX0_live_1 5 rfl rfl)
theorem dX0_live_32 : decode cX0_live 32 = .ok (.iconst 0, 1) := dk_3 (dk_at dksX0_live_1 8 rfl rfl)
theorem dX0_live_33 : decode cX0_live 33 = .ok (.putfield 81, 3) := dk_181 0 81 (dk_at dksX0_live_1 9 rfl rfl)
theorem dX0_live_36 : decode cX0_live 36 = .ok (.aload_n 0, 1) := dk_42 (dk_at dksX0_live_1 12 rfl rfl)
theorem dX0_live_37 : decode cX0_live 37 = .ok (.getfield 81, 3) := dk_180 0 81 (dk_at dksX0_live_1 13 rfl rfl)
theorem dX0_live_40 : decode cX0_live 40 = .ok (.ifCond .le 5, 3) := dk_158 0 5 (dk_at dksX0_live_1 16 rfl rfl)
theorem dX0_live_43 : decode cX0_live 43 = .ok (.iconst (-1), 1) := dk_2 (dk_at dksX0_live_1 19 rfl rfl)
theorem dX0_live_44 : decode cX0_live 44 = .ok (.ireturn, 1) := dk_172 (dk_at dksX0_live_1 20 rfl rfl)
theorem dX0_live_45 : decode cX0_live 45 = .ok (.new 454, 3) := dk_187 1 198 (dk_at dksX0_live_1 21 rfl rfl)
theorem dX0_live_48 : decode cX0_live 48 = .ok (.dup, 1) := dk_89 (dk_at dksX0_live_2 0 rfl rfl)
theorem dX0_live_49 : decode cX0_live 49 = .ok (.aload_n 0, 1) := dk_42 (dk_at dksX0_live_2 1 rfl rfl)
theorem dX0_live_50 : decode cX0_live 50 = .ok (.invokevirtual 233, 3) := dk_182 0 233 (dk_at dksX0_live_2 2 rfl rfl)
theorem dX0_live_53 : decode cX0_live 53 = .ok (.iload_n 1, 1) := dk_27 (dk_at dksX0_live_2 5 rfl rfl)
theorem dX0_live_54 : decode cX0_live 54 = .ok (.invokespecial 456, 3) := dk_183 1 200 (dk_at dksX0_live_2 6 rfl rfl)
theorem dX0_live_57 : decode cX0_live 57 = .ok (.astore_n 2, 1) := dk_77 (dk_at dksX0_live_2 9 rfl rfl)
theorem dX0_live_58 : decode cX0_live 58 = .ok (.aload_n 0, 1) := dk_42 (dk_at dksX0_live_2 10 rfl rfl)
theorem dX0_live_59 : decode cX0_live 59 = .ok (.getfield 55, 3) := dk_180 0 55 (dk_at dksX0_live_2 11 rfl rfl)
theorem dX0_live_62 : decode cX0_live 62 = .ok (.getfield 243, 3) := dk_180 0 243 (dk_at dksX0_live_2 14 rfl rfl)
theorem dX0_live_65 : decode cX0_live 65 = .ok (.aload_n 2, 1) := dk_44 (dk_at dksX0_live_2 17 rfl rfl)
theorem dX0_live_66 : decode cX0_live 66 = .ok (.invokevirtual 459, 3) := dk_182 1 203 (dk_at dksX0_live_2 18 rfl rfl)
theorem dX0_live_69 : decode cX0_live 69 = .ok (.aload_n 0, 1) := dk_42 (dk_at dksX0_live_2 21 rfl rfl)
theorem dX0_live_70 : decode cX0_live 70 = .ok (.getfield 78, 3) := dk_180 0 78 (dk_at dksX0_live_3 0 rfl rfl)
theorem dX0_live_73 : decode cX0_live 73 = .ok (.iconst 0, 1) := dk_3 (dk_at dksX0_live_3 3 rfl rfl)
theorem dX0_live_74 : decode cX0_live 74 = .ok (.aload_n 2, 1) := dk_44 (dk_at dksX0_live_3 4 rfl rfl)
theorem dX0_live_75 : decode cX0_live 75 = .ok (.getfield 463, 3) := dk_180 1 207 (dk_at dksX0_live_3 5 rfl rfl)
theorem dX0_live_78 : decode cX0_live 78 = .ok (.iastore, 1) := dk_79 (dk_at dksX0_live_3 8 rfl rfl)
theorem dX0_live_79 : decode cX0_live 79 = .ok (.aload_n 0, 1) := dk_42 (dk_at dksX0_live_3 9 rfl rfl)
theorem dX0_live_80 : decode cX0_live 80 = .ok (.getfield 78, 3) := dk_180 0 78 (dk_at dksX0_live_3 10 rfl rfl)
theorem dX0_live_83 : decode cX0_live 83 = .ok (.iconst 1, 1) := dk_4 (dk_at dksX0_live_3 13 rfl rfl)
theorem dX0_live_84 : decode cX0_live 84 = .ok (.aload_n 2, 1) := dk_44 (dk_at dksX0_live_3 14 rfl rfl)
theorem dX0_live_85 : decode cX0_live 85 = .ok (.getfield 466, 3) := dk_180 1 210 (dk_at dksX0_live_3 15 rfl rfl)
theorem dX0_live_88 : decode cX0_live 88 = .ok (.iastore, 1) := dk_79 (dk_at dksX0_live_3 18 rfl rfl)
theorem dX0_live_89 : decode cX0_live 89 = .ok (.aload_n 0, 1) := dk_42 (dk_at dksX0_live_3 19 rfl rfl)
theorem dX0_live_90 : decode cX0_live 90 = .ok (.getfield 78, 3) := dk_180 0 78 (dk_at dksX0_live_3 20 rfl rfl)
theorem dX0_live_93 : decode cX0_live 93 = .ok (.iconst 2, 1) := dk_5 (dk_at dksX0_live_3 23 rfl rfl)
theorem dX0_live_94 : decode cX0_live 94 = .ok (.aload_n 2, 1) := dk_44 (dk_at dksX0_live_4 0 rfl rfl)
theorem dX0_live_95 : decode cX0_live 95 = .ok (.getfield 469, 3) := dk_180 1 213 (dk_at dksX0_live_4 1 rfl rfl)
theorem dX0_live_98 : decode cX0_live 98 = .ok (.iastore, 1) := dk_79 (dk_at dksX0_live_4 4 rfl rfl)
theorem dX0_live_99 : decode cX0_live 99 = .ok (.aload_n 0, 1) := dk_42 (dk_at dksX0_live_4 5 rfl rfl)
theorem dX0_live_100 : decode cX0_live 100 = .ok (.getfield 78, 3) := dk_180 0 78 (dk_at dksX0_live_4 6 rfl rfl)
theorem dX0_live_103 : decode cX0_live 103 = .ok (.iconst 3, 1) := dk_6 (dk_at dksX0_live_4 9 rfl rfl)
theorem dX0_live_104 : decode cX0_live 104 = .ok (.aload_n 2, 1) := dk_44 (dk_at dksX0_live_4 10 rfl rfl)
theorem dX0_live_105 : decode cX0_live 105 = .ok (.getfield 472, 3) := dk_180 1 216 (dk_at dksX0_live_4 11 rfl rfl)
theorem dX0_live_108 : decode cX0_live 108 = .ok (.iastore, 1) := dk_79 (dk_at dksX0_live_4 14 rfl rfl)
theorem dX0_live_109 : decode cX0_live 109 = .ok (.aload_n 0, 1) := dk_42 (dk_at dksX0_live_4 15 rfl rfl)
theorem dX0_live_110 : decode cX0_live 110 = .ok (.getfield 78, 3) := dk_180 0 78 (dk_at dksX0_live_4 16 rfl rfl)
theorem dX0_live_113 : decode cX0_live 113 = .ok (.iconst 4, 1) := dk_7 (dk_at dksX0_live_4 19 rfl rfl)
theorem dX0_live_114 : decode cX0_live 114 = .ok (.aload_n 2, 1) := dk_44 (dk_at dksX0_live_4 20 rfl rfl)
theorem dX0_live_115 : decode cX0_live 115 = .ok (.getfield 475, 3) := dk_180 1 219 (dk_at dksX0_live_4 21 rfl rfl)
theorem dX0_live_118 : decode cX0_live 118 = .ok (.ifCond .eq 7, 3) := dk_153 0 7 (dk_at dksX0_live_5 0 rfl rfl)
theorem dX0_live_121 : decode cX0_live 121 = .ok (.iconst 1, 1) := dk_4 (dk_at dksX0_live_5 3 rfl rfl)
theorem dX0_live_122 : decode cX0_live 122 = .ok (.goto 4, 3) := dk_167 0 4 (dk_at dksX0_live_5 4 rfl rfl)
theorem dX0_live_125 : decode cX0_live 125 = .ok (.iconst 0, 1) := dk_3 (dk_at dksX0_live_5 7 rfl rfl)
theorem dX0_live_126 : decode cX0_live 126 = .ok (.iastore, 1) := dk_79 (dk_at dksX0_live_5 8 rfl rfl)
theorem dX0_live_127 : decode cX0_live 127 = .ok (.aload_n 0, 1) := dk_42 (dk_at dksX0_live_5 9 rfl rfl)
theorem dX0_live_128 : decode cX0_live 128 = .ok (.iconst 1, 1) := dk_4 (dk_at dksX0_live_5 10 rfl rfl)
theorem dX0_live_129 : decode cX0_live 129 = .ok (.putfield 479, 3) := dk_181 1 223 (dk_at dksX0_live_5 11 rfl rfl)
theorem dX0_live_132 : decode cX0_live 132 = .ok (.aload_n 2, 1) := dk_44 (dk_at dksX0_live_5 14 rfl rfl)
theorem dX0_live_133 : decode cX0_live 133 = .ok (.getfield 482, 3) := dk_180 1 226 (dk_at dksX0_live_5 15 rfl rfl)
theorem dX0_live_136 : decode cX0_live 136 = .ok (.ireturn, 1) := dk_172 (dk_at dksX0_live_5 18 rfl rfl)
abbrev cX0_lived : ByteArray := prog_1_method_95_code
def yX0_lived : MethodName := ⟨RX0, "lived", "(I)I"⟩
def dkwX0_lived_2 : List UInt8 := [27, 46, 172]
abbrev dktX0_lived_2 : List UInt8 := dkwX0_lived_2 ++ []
def dkwX0_lived_1 : List UInt8 := [3, 167, 0, 5, 16, 6, 181, 0, 81, 42, 180, 0, 81, 158, 0, 7, 2, 167, 0, 9, 42, 180, 0, 78]
abbrev dktX0_lived_1 : List UInt8 := dkwX0_lived_1 ++ dktX0_lived_2
def dkwX0_lived_0 : List UInt8 := [42, 27, 133, 9, 20, 1, 171, 184, 0, 171, 154, 0, 7, 4, 167, 0, 16, 42, 180, 1, 223, 153, 0, 7]
abbrev dktX0_lived_0 : List UInt8 := dkwX0_lived_0 ++ dktX0_lived_1
theorem dksX0_lived_0 : cX0_lived.data.toList.drop 0 = dktX0_lived_0 := by decide +kernel
theorem dksX0_lived_1 : cX0_lived.data.toList.drop 24 = dktX0_lived_1 := dk_seg dksX0_lived_0 24 rfl rfl
theorem dksX0_lived_2 : cX0_lived.data.toList.drop 48 = dktX0_lived_2 := dk_seg dksX0_lived_1 24 rfl rfl
theorem dX0_lived_0 : decode cX0_lived 0 = .ok (.aload_n 0, 1) := dk_42 (dk_at dksX0_lived_0 0 rfl rfl)
theorem dX0_lived_1 : decode cX0_lived 1 = .ok (.iload_n 1, 1) := dk_27 (dk_at dksX0_lived_0 1 rfl rfl)
theorem dX0_lived_2 : decode cX0_lived 2 = .ok (.i2l, 1) := dk_133 (dk_at dksX0_lived_0 2 rfl rfl)
theorem dX0_lived_3 : decode cX0_lived 3 = .ok (.lconst 0, 1) := dk_9 (dk_at dksX0_lived_0 3 rfl rfl)
theorem dX0_lived_4 : decode cX0_lived 4 = .ok (.ldc2_w 427, 3) := dk_20 1 171 (dk_at dksX0_lived_0 4 rfl rfl)
theorem dX0_lived_7 : decode cX0_lived 7 = .ok (.invokestatic 171, 3) := dk_184 0 171 (dk_at dksX0_lived_0 7 rfl rfl)
theorem dX0_lived_10 : decode cX0_lived 10 = .ok (.ifCond .ne 7, 3) := dk_154 0 7 (dk_at dksX0_lived_0 10 rfl rfl)
theorem dX0_lived_13 : decode cX0_lived 13 = .ok (.iconst 1, 1) := dk_4 (dk_at dksX0_lived_0 13 rfl rfl)
theorem dX0_lived_14 : decode cX0_lived 14 = .ok (.goto 16, 3) := dk_167 0 16 (dk_at dksX0_lived_0 14 rfl rfl)
theorem dX0_lived_17 : decode cX0_lived 17 = .ok (.aload_n 0, 1) := dk_42 (dk_at dksX0_lived_0 17 rfl rfl)
theorem dX0_lived_18 : decode cX0_lived 18 = .ok (.getfield 479, 3) := dk_180 1 223 (dk_at dksX0_lived_0 18 rfl rfl)
theorem dX0_lived_21 : decode cX0_lived 21 = .ok (.ifCond .eq 7, 3) := dk_153 0 7 (dk_at dksX0_lived_0 21 rfl rfl)
theorem dX0_lived_24 : decode cX0_lived 24 = .ok (.iconst 0, 1) := dk_3 (dk_at dksX0_lived_1 0 rfl rfl)
theorem dX0_lived_25 : decode cX0_lived 25 = .ok (.goto 5, 3) := dk_167 0 5 (dk_at dksX0_lived_1 1 rfl rfl)
theorem dX0_lived_28 : decode cX0_lived 28 = .ok (.bipush 6, 2) := dk_16 6 (dk_at dksX0_lived_1 4 rfl rfl)
theorem dX0_lived_30 : decode cX0_lived 30 = .ok (.putfield 81, 3) := dk_181 0 81 (dk_at dksX0_lived_1 6 rfl rfl)
theorem dX0_lived_33 : decode cX0_lived 33 = .ok (.aload_n 0, 1) := dk_42 (dk_at dksX0_lived_1 9 rfl rfl)
theorem dX0_lived_34 : decode cX0_lived 34 = .ok (.getfield 81, 3) := dk_180 0 81 (dk_at dksX0_lived_1 10 rfl rfl)
theorem dX0_lived_37 : decode cX0_lived 37 = .ok (.ifCond .le 7, 3) := dk_158 0 7 (dk_at dksX0_lived_1 13 rfl rfl)
theorem dX0_lived_40 : decode cX0_lived 40 = .ok (.iconst (-1), 1) := dk_2 (dk_at dksX0_lived_1 16 rfl rfl)
theorem dX0_lived_41 : decode cX0_lived 41 = .ok (.goto 9, 3) := dk_167 0 9 (dk_at dksX0_lived_1 17 rfl rfl)
theorem dX0_lived_44 : decode cX0_lived 44 = .ok (.aload_n 0, 1) := dk_42 (dk_at dksX0_lived_1 20 rfl rfl)
theorem dX0_lived_45 : decode cX0_lived 45 = .ok (.getfield 78, 3) := dk_180 0 78 (dk_at dksX0_lived_1 21 rfl rfl)
theorem dX0_lived_48 : decode cX0_lived 48 = .ok (.iload_n 1, 1) := dk_27 (dk_at dksX0_lived_2 0 rfl rfl)
theorem dX0_lived_49 : decode cX0_lived 49 = .ok (.iaload, 1) := dk_46 (dk_at dksX0_lived_2 1 rfl rfl)
theorem dX0_lived_50 : decode cX0_lived 50 = .ok (.ireturn, 1) := dk_172 (dk_at dksX0_lived_2 2 rfl rfl)
abbrev cX0_mean : ByteArray := prog_1_method_96_code
def yX0_mean : MethodName := ⟨RX0, "mean", "(II)Z"⟩
def dkwX0_mean_5 : List UInt8 := [184, 0, 250, 96, 62, 132, 4, 1, 167, 255, 198, 42, 29, 133, 28, 133, 182, 1, 194, 87, 4, 172]
abbrev dktX0_mean_5 : List UInt8 := dkwX0_mean_5 ++ []
def dkwX0_mean_4 : List UInt8 := [89, 42, 180, 0, 74, 27, 21, 4, 96, 183, 1, 200, 182, 1, 203, 29, 42, 180, 0, 74, 180, 1, 13]
abbrev dktX0_mean_4 : List UInt8 := dkwX0_mean_4 ++ dktX0_mean_5
def dkwX0_mean_3 : List UInt8 := [162, 0, 58, 42, 180, 0, 74, 42, 182, 0, 233, 182, 1, 231, 42, 180, 0, 55, 180, 0, 243, 187, 1, 198]
abbrev dktX0_mean_3 : List UInt8 := dkwX0_mean_3 ++ dktX0_mean_4
def dkwX0_mean_2 : List UInt8 := [167, 0, 4, 3, 181, 0, 81, 42, 180, 0, 81, 158, 0, 5, 3, 172, 3, 62, 3, 54, 4, 21, 4, 28]
abbrev dktX0_mean_2 : List UInt8 := dkwX0_mean_2 ++ dktX0_mean_3
def dkwX0_mean_1 : List UInt8 := [184, 0, 171, 154, 0, 7, 4, 167, 0, 19, 42, 180, 0, 55, 180, 0, 243, 199, 0, 8, 16, 6]
abbrev dktX0_mean_1 : List UInt8 := dkwX0_mean_1 ++ dktX0_mean_2
def dkwX0_mean_0 : List UInt8 := [42, 28, 133, 10, 20, 1, 229, 184, 0, 171, 153, 0, 20, 27, 133, 9, 17, 39, 15, 28, 100, 4, 96, 133]
abbrev dktX0_mean_0 : List UInt8 := dkwX0_mean_0 ++ dktX0_mean_1
theorem dksX0_mean_0 : cX0_mean.data.toList.drop 0 = dktX0_mean_0 := by decide +kernel
theorem dksX0_mean_1 : cX0_mean.data.toList.drop 24 = dktX0_mean_1 := dk_seg dksX0_mean_0 24 rfl rfl
theorem dksX0_mean_2 : cX0_mean.data.toList.drop 46 = dktX0_mean_2 := dk_seg dksX0_mean_1 22 rfl rfl
theorem dksX0_mean_3 : cX0_mean.data.toList.drop 70 = dktX0_mean_3 := dk_seg dksX0_mean_2 24 rfl rfl
theorem dksX0_mean_4 : cX0_mean.data.toList.drop 94 = dktX0_mean_4 := dk_seg dksX0_mean_3 24 rfl rfl
theorem dksX0_mean_5 : cX0_mean.data.toList.drop 117 = dktX0_mean_5 := dk_seg dksX0_mean_4 23 rfl rfl
theorem dX0_mean_0 : decode cX0_mean 0 = .ok (.aload_n 0, 1) := dk_42 (dk_at dksX0_mean_0 0 rfl rfl)
theorem dX0_mean_1 : decode cX0_mean 1 = .ok (.iload_n 2, 1) := dk_28 (dk_at dksX0_mean_0 1 rfl rfl)
theorem dX0_mean_2 : decode cX0_mean 2 = .ok (.i2l, 1) := dk_133 (dk_at dksX0_mean_0 2 rfl rfl)
theorem dX0_mean_3 : decode cX0_mean 3 = .ok (.lconst 1, 1) := dk_10 (dk_at dksX0_mean_0 3 rfl rfl)
theorem dX0_mean_4 : decode cX0_mean 4 = .ok (.ldc2_w 485, 3) := dk_20 1 229 (dk_at dksX0_mean_0 4 rfl rfl)
theorem dX0_mean_7 : decode cX0_mean 7 = .ok (.invokestatic 171, 3) := dk_184 0 171 (dk_at dksX0_mean_0 7 rfl rfl)
theorem dX0_mean_10 : decode cX0_mean 10 = .ok (.ifCond .eq 20, 3) := dk_153 0 20 (dk_at dksX0_mean_0 10 rfl rfl)
theorem dX0_mean_13 : decode cX0_mean 13 = .ok (.iload_n 1, 1) := dk_27 (dk_at dksX0_mean_0 13 rfl rfl)
theorem dX0_mean_14 : decode cX0_mean 14 = .ok (.i2l, 1) := dk_133 (dk_at dksX0_mean_0 14 rfl rfl)
theorem dX0_mean_15 : decode cX0_mean 15 = .ok (.lconst 0, 1) := dk_9 (dk_at dksX0_mean_0 15 rfl rfl)
theorem dX0_mean_16 : decode cX0_mean 16 = .ok (.sipush 9999, 3) := dk_17 39 15 (dk_at dksX0_mean_0 16 rfl rfl)
theorem dX0_mean_19 : decode cX0_mean 19 = .ok (.iload_n 2, 1) := dk_28 (dk_at dksX0_mean_0 19 rfl rfl)
theorem dX0_mean_20 : decode cX0_mean 20 = .ok (.isub, 1) := dk_100 (dk_at dksX0_mean_0 20 rfl rfl)
theorem dX0_mean_21 : decode cX0_mean 21 = .ok (.iconst 1, 1) := dk_4 (dk_at dksX0_mean_0 21 rfl rfl)
theorem dX0_mean_22 : decode cX0_mean 22 = .ok (.iadd, 1) := dk_96 (dk_at dksX0_mean_0 22 rfl rfl)
theorem dX0_mean_23 : decode cX0_mean 23 = .ok (.i2l, 1) := dk_133 (dk_at dksX0_mean_0 23 rfl rfl)
theorem dX0_mean_24 : decode cX0_mean 24 = .ok (.invokestatic 171, 3) := dk_184 0 171 (dk_at dksX0_mean_1 0 rfl rfl)
theorem dX0_mean_27 : decode cX0_mean 27 = .ok (.ifCond .ne 7, 3) := dk_154 0 7 (dk_at dksX0_mean_1 3 rfl rfl)
theorem dX0_mean_30 : decode cX0_mean 30 = .ok (.iconst 1, 1) := dk_4 (dk_at dksX0_mean_1 6 rfl rfl)
theorem dX0_mean_31 : decode cX0_mean 31 = .ok (.goto 19, 3) := dk_167 0 19 (dk_at dksX0_mean_1 7 rfl rfl)
theorem dX0_mean_34 : decode cX0_mean 34 = .ok (.aload_n 0, 1) := dk_42 (dk_at dksX0_mean_1 10 rfl rfl)
theorem dX0_mean_35 : decode cX0_mean 35 = .ok (.getfield 55, 3) := dk_180 0 55 (dk_at dksX0_mean_1 11 rfl rfl)
theorem dX0_mean_38 : decode cX0_mean 38 = .ok (.getfield 243, 3) := dk_180 0 243 (dk_at dksX0_mean_1 14 rfl rfl)
theorem dX0_mean_41 : decode cX0_mean 41 = .ok (.ifnonnull 8, 3) := dk_199 0 8 (dk_at dksX0_mean_1 17 rfl rfl)
theorem dX0_mean_44 : decode cX0_mean 44 = .ok (.bipush 6, 2) := dk_16 6 (dk_at dksX0_mean_1 20 rfl rfl)
theorem dX0_mean_46 : decode cX0_mean 46 = .ok (.goto 4, 3) := dk_167 0 4 (dk_at dksX0_mean_2 0 rfl rfl)
theorem dX0_mean_49 : decode cX0_mean 49 = .ok (.iconst 0, 1) := dk_3 (dk_at dksX0_mean_2 3 rfl rfl)
theorem dX0_mean_50 : decode cX0_mean 50 = .ok (.putfield 81, 3) := dk_181 0 81 (dk_at dksX0_mean_2 4 rfl rfl)
theorem dX0_mean_53 : decode cX0_mean 53 = .ok (.aload_n 0, 1) := dk_42 (dk_at dksX0_mean_2 7 rfl rfl)
theorem dX0_mean_54 : decode cX0_mean 54 = .ok (.getfield 81, 3) := dk_180 0 81 (dk_at dksX0_mean_2 8 rfl rfl)
theorem dX0_mean_57 : decode cX0_mean 57 = .ok (.ifCond .le 5, 3) := dk_158 0 5 (dk_at dksX0_mean_2 11 rfl rfl)
theorem dX0_mean_60 : decode cX0_mean 60 = .ok (.iconst 0, 1) := dk_3 (dk_at dksX0_mean_2 14 rfl rfl)
theorem dX0_mean_61 : decode cX0_mean 61 = .ok (.ireturn, 1) := dk_172 (dk_at dksX0_mean_2 15 rfl rfl)
theorem dX0_mean_62 : decode cX0_mean 62 = .ok (.iconst 0, 1) := dk_3 (dk_at dksX0_mean_2 16 rfl rfl)
theorem dX0_mean_63 : decode cX0_mean 63 = .ok (.istore_n 3, 1) := dk_62 (dk_at dksX0_mean_2 17 rfl rfl)
theorem dX0_mean_64 : decode cX0_mean 64 = .ok (.iconst 0, 1) := dk_3 (dk_at dksX0_mean_2 18 rfl rfl)
theorem dX0_mean_65 : decode cX0_mean 65 = .ok (.istore 4, 2) := dk_54 4 (dk_at dksX0_mean_2 19 rfl rfl)
theorem dX0_mean_67 : decode cX0_mean 67 = .ok (.iload 4, 2) := dk_21 4 (dk_at dksX0_mean_2 21 rfl rfl)
theorem dX0_mean_69 : decode cX0_mean 69 = .ok (.iload_n 2, 1) := dk_28 (dk_at dksX0_mean_2 23 rfl rfl)
theorem dX0_mean_70 : decode cX0_mean 70 = .ok (.if_icmp .ge 58, 3) := dk_162 0 58 (dk_at dksX0_mean_3 0 rfl rfl)
theorem dX0_mean_73 : decode cX0_mean 73 = .ok (.aload_n 0, 1) := dk_42 (dk_at dksX0_mean_3 3 rfl rfl)
theorem dX0_mean_74 : decode cX0_mean 74 = .ok (.getfield 74, 3) := dk_180 0 74 (dk_at dksX0_mean_3 4 rfl rfl)
theorem dX0_mean_77 : decode cX0_mean 77 = .ok (.aload_n 0, 1) := dk_42 (dk_at dksX0_mean_3 7 rfl rfl)
theorem dX0_mean_78 : decode cX0_mean 78 = .ok (.invokevirtual 233, 3) := dk_182 0 233 (dk_at dksX0_mean_3 8 rfl rfl)
theorem dX0_mean_81 : decode cX0_mean 81 = .ok (.invokevirtual 487, 3) := dk_182 1 231 (dk_at dksX0_mean_3 11 rfl rfl)
theorem dX0_mean_84 : decode cX0_mean 84 = .ok (.aload_n 0, 1) := dk_42 (dk_at dksX0_mean_3 14 rfl rfl)
theorem dX0_mean_85 : decode cX0_mean 85 = .ok (.getfield 55, 3) := dk_180 0 55 (dk_at dksX0_mean_3 15 rfl rfl)
theorem dX0_mean_88 : decode cX0_mean 88 = .ok (.getfield 243, 3) := dk_180 0 243 (dk_at dksX0_mean_3 18 rfl rfl)
theorem dX0_mean_91 : decode cX0_mean 91 = .ok (.new 454, 3) := dk_187 1 198 (dk_at dksX0_mean_3 21 rfl rfl)
theorem dX0_mean_94 : decode cX0_mean 94 = .ok (.dup, 1) := dk_89 (dk_at dksX0_mean_4 0 rfl rfl)
theorem dX0_mean_95 : decode cX0_mean 95 = .ok (.aload_n 0, 1) := dk_42 (dk_at dksX0_mean_4 1 rfl rfl)
theorem dX0_mean_96 : decode cX0_mean 96 = .ok (.getfield 74, 3) := dk_180 0 74 (dk_at dksX0_mean_4 2 rfl rfl)
theorem dX0_mean_99 : decode cX0_mean 99 = .ok (.iload_n 1, 1) := dk_27 (dk_at dksX0_mean_4 5 rfl rfl)
theorem dX0_mean_100 : decode cX0_mean 100 = .ok (.iload 4, 2) := dk_21 4 (dk_at dksX0_mean_4 6 rfl rfl)
theorem dX0_mean_102 : decode cX0_mean 102 = .ok (.iadd, 1) := dk_96 (dk_at dksX0_mean_4 8 rfl rfl)
theorem dX0_mean_103 : decode cX0_mean 103 = .ok (.invokespecial 456, 3) := dk_183 1 200 (dk_at dksX0_mean_4 9 rfl rfl)
theorem dX0_mean_106 : decode cX0_mean 106 = .ok (.invokevirtual 459, 3) := dk_182 1 203 (dk_at dksX0_mean_4 12 rfl rfl)
theorem dX0_mean_109 : decode cX0_mean 109 = .ok (.iload_n 3, 1) := dk_29 (dk_at dksX0_mean_4 15 rfl rfl)
theorem dX0_mean_110 : decode cX0_mean 110 = .ok (.aload_n 0, 1) := dk_42 (dk_at dksX0_mean_4 16 rfl rfl)
theorem dX0_mean_111 : decode cX0_mean 111 = .ok (.getfield 74, 3) := dk_180 0 74 (dk_at dksX0_mean_4 17 rfl rfl)
theorem dX0_mean_114 : decode cX0_mean 114 = .ok (.getfield 269, 3) := dk_180 1 13 (dk_at dksX0_mean_4 20 rfl rfl)
theorem dX0_mean_117 : decode cX0_mean 117 = .ok (.invokestatic 250, 3) := dk_184 0 250 (dk_at dksX0_mean_5 0 rfl rfl)
theorem dX0_mean_120 : decode cX0_mean 120 = .ok (.iadd, 1) := dk_96 (dk_at dksX0_mean_5 3 rfl rfl)
theorem dX0_mean_121 : decode cX0_mean 121 = .ok (.istore_n 3, 1) := dk_62 (dk_at dksX0_mean_5 4 rfl rfl)
theorem dX0_mean_122 : decode cX0_mean 122 = .ok (.iinc 4 1, 3) := dk_132 4 1 (dk_at dksX0_mean_5 5 rfl rfl)
theorem dX0_mean_125 : decode cX0_mean 125 = .ok (.goto (-58), 3) := dk_167 255 198 (dk_at dksX0_mean_5 8 rfl rfl)
theorem dX0_mean_128 : decode cX0_mean 128 = .ok (.aload_n 0, 1) := dk_42 (dk_at dksX0_mean_5 11 rfl rfl)
theorem dX0_mean_129 : decode cX0_mean 129 = .ok (.iload_n 3, 1) := dk_29 (dk_at dksX0_mean_5 12 rfl rfl)
theorem dX0_mean_130 : decode cX0_mean 130 = .ok (.i2l, 1) := dk_133 (dk_at dksX0_mean_5 13 rfl rfl)
theorem dX0_mean_131 : decode cX0_mean 131 = .ok (.iload_n 2, 1) := dk_28 (dk_at dksX0_mean_5 14 rfl rfl)
theorem dX0_mean_132 : decode cX0_mean 132 = .ok (.i2l, 1) := dk_133 (dk_at dksX0_mean_5 15 rfl rfl)
theorem dX0_mean_133 : decode cX0_mean 133 = .ok (.invokevirtual 450, 3) := dk_182 1 194 (dk_at dksX0_mean_5 16 rfl rfl)
theorem dX0_mean_136 : decode cX0_mean 136 = .ok (.pop, 1) := dk_87 (dk_at dksX0_mean_5 19 rfl rfl)
theorem dX0_mean_137 : decode cX0_mean 137 = .ok (.iconst 1, 1) := dk_4 (dk_at dksX0_mean_5 20 rfl rfl)
theorem dX0_mean_138 : decode cX0_mean 138 = .ok (.ireturn, 1) := dk_172 (dk_at dksX0_mean_5 21 rfl rfl)
abbrev cX0_mark : ByteArray := prog_1_method_97_code
def yX0_mark : MethodName := ⟨RX0, "mark", "()I"⟩
def dkwX0_mark_3 : List UInt8 := [42, 89, 180, 1, 235, 4, 96, 181, 1, 235, 42, 180, 1, 235, 172]
abbrev dktX0_mark_3 : List UInt8 := dkwX0_mark_3 ++ []
def dkwX0_mark_2 : List UInt8 := [187, 0, 52, 89, 183, 0, 54, 83, 42, 180, 0, 59, 42, 180, 1, 235, 50, 42, 180, 0, 55, 182, 1, 238]
abbrev dktX0_mark_2 : List UInt8 := dkwX0_mark_2 ++ dktX0_mark_3
def dkwX0_mark_1 : List UInt8 := [2, 172, 42, 180, 0, 59, 42, 180, 1, 235, 50, 199, 0, 19, 42, 180, 0, 59, 42, 180, 1, 235]
abbrev dktX0_mark_1 : List UInt8 := dkwX0_mark_1 ++ dktX0_mark_2
def dkwX0_mark_0 : List UInt8 := [42, 42, 180, 1, 235, 6, 160, 0, 7, 7, 167, 0, 4, 3, 181, 0, 81, 42, 180, 0, 81, 158, 0, 5]
abbrev dktX0_mark_0 : List UInt8 := dkwX0_mark_0 ++ dktX0_mark_1
theorem dksX0_mark_0 : cX0_mark.data.toList.drop 0 = dktX0_mark_0 := by decide +kernel
theorem dksX0_mark_1 : cX0_mark.data.toList.drop 24 = dktX0_mark_1 := dk_seg dksX0_mark_0 24 rfl rfl
theorem dksX0_mark_2 : cX0_mark.data.toList.drop 46 = dktX0_mark_2 := dk_seg dksX0_mark_1 22 rfl rfl
theorem dksX0_mark_3 : cX0_mark.data.toList.drop 70 = dktX0_mark_3 := dk_seg dksX0_mark_2 24 rfl rfl
theorem dX0_mark_0 : decode cX0_mark 0 = .ok (.aload_n 0, 1) := dk_42 (dk_at dksX0_mark_0 0 rfl rfl)
theorem dX0_mark_1 : decode cX0_mark 1 = .ok (.aload_n 0, 1) := dk_42 (dk_at dksX0_mark_0 1 rfl rfl)
theorem dX0_mark_2 : decode cX0_mark 2 = .ok (.getfield 491, 3) := dk_180 1 235 (dk_at dksX0_mark_0 2 rfl rfl)
theorem dX0_mark_5 : decode cX0_mark 5 = .ok (.iconst 3, 1) := dk_6 (dk_at dksX0_mark_0 5 rfl rfl)
theorem dX0_mark_6 : decode cX0_mark 6 = .ok (.if_icmp .ne 7, 3) := dk_160 0 7 (dk_at dksX0_mark_0 6 rfl rfl)
theorem dX0_mark_9 : decode cX0_mark 9 = .ok (.iconst 4, 1) := dk_7 (dk_at dksX0_mark_0 9 rfl rfl)
theorem dX0_mark_10 : decode cX0_mark 10 = .ok (.goto 4, 3) := dk_167 0 4 (dk_at dksX0_mark_0 10 rfl rfl)
theorem dX0_mark_13 : decode cX0_mark 13 = .ok (.iconst 0, 1) := dk_3 (dk_at dksX0_mark_0 13 rfl rfl)
theorem dX0_mark_14 : decode cX0_mark 14 = .ok (.putfield 81, 3) := dk_181 0 81 (dk_at dksX0_mark_0 14 rfl rfl)
theorem dX0_mark_17 : decode cX0_mark 17 = .ok (.aload_n 0, 1) := dk_42 (dk_at dksX0_mark_0 17 rfl rfl)
theorem dX0_mark_18 : decode cX0_mark 18 = .ok (.getfield 81, 3) := dk_180 0 81 (dk_at dksX0_mark_0 18 rfl rfl)
theorem dX0_mark_21 : decode cX0_mark 21 = .ok (.ifCond .le 5, 3) := dk_158 0 5 (dk_at dksX0_mark_0 21 rfl rfl)
theorem dX0_mark_24 : decode cX0_mark 24 = .ok (.iconst (-1), 1) := dk_2 (dk_at dksX0_mark_1 0 rfl rfl)
theorem dX0_mark_25 : decode cX0_mark 25 = .ok (.ireturn, 1) := dk_172 (dk_at dksX0_mark_1 1 rfl rfl)
theorem dX0_mark_26 : decode cX0_mark 26 = .ok (.aload_n 0, 1) := dk_42 (dk_at dksX0_mark_1 2 rfl rfl)
theorem dX0_mark_27 : decode cX0_mark 27 = .ok (.getfield 59, 3) := dk_180 0 59 (dk_at dksX0_mark_1 3 rfl rfl)
theorem dX0_mark_30 : decode cX0_mark 30 = .ok (.aload_n 0, 1) := dk_42 (dk_at dksX0_mark_1 6 rfl rfl)
theorem dX0_mark_31 : decode cX0_mark 31 = .ok (.getfield 491, 3) := dk_180 1 235 (dk_at dksX0_mark_1 7 rfl rfl)
theorem dX0_mark_34 : decode cX0_mark 34 = .ok (.aaload, 1) := dk_50 (dk_at dksX0_mark_1 10 rfl rfl)
theorem dX0_mark_35 : decode cX0_mark 35 = .ok (.ifnonnull 19, 3) := dk_199 0 19 (dk_at dksX0_mark_1 11 rfl rfl)
theorem dX0_mark_38 : decode cX0_mark 38 = .ok (.aload_n 0, 1) := dk_42 (dk_at dksX0_mark_1 14 rfl rfl)
theorem dX0_mark_39 : decode cX0_mark 39 = .ok (.getfield 59, 3) := dk_180 0 59 (dk_at dksX0_mark_1 15 rfl rfl)
theorem dX0_mark_42 : decode cX0_mark 42 = .ok (.aload_n 0, 1) := dk_42 (dk_at dksX0_mark_1 18 rfl rfl)
theorem dX0_mark_43 : decode cX0_mark 43 = .ok (.getfield 491, 3) := dk_180 1 235 (dk_at dksX0_mark_1 19 rfl rfl)
theorem dX0_mark_46 : decode cX0_mark 46 = .ok (.new 52, 3) := dk_187 0 52 (dk_at dksX0_mark_2 0 rfl rfl)
theorem dX0_mark_49 : decode cX0_mark 49 = .ok (.dup, 1) := dk_89 (dk_at dksX0_mark_2 3 rfl rfl)
theorem dX0_mark_50 : decode cX0_mark 50 = .ok (.invokespecial 54, 3) := dk_183 0 54 (dk_at dksX0_mark_2 4 rfl rfl)
theorem dX0_mark_53 : decode cX0_mark 53 = .ok (.aastore, 1) := dk_83 (dk_at dksX0_mark_2 7 rfl rfl)
theorem dX0_mark_54 : decode cX0_mark 54 = .ok (.aload_n 0, 1) := dk_42 (dk_at dksX0_mark_2 8 rfl rfl)
theorem dX0_mark_55 : decode cX0_mark 55 = .ok (.getfield 59, 3) := dk_180 0 59 (dk_at dksX0_mark_2 9 rfl rfl)
theorem dX0_mark_58 : decode cX0_mark 58 = .ok (.aload_n 0, 1) := dk_42 (dk_at dksX0_mark_2 12 rfl rfl)
theorem dX0_mark_59 : decode cX0_mark 59 = .ok (.getfield 491, 3) := dk_180 1 235 (dk_at dksX0_mark_2 13 rfl rfl)
theorem dX0_mark_62 : decode cX0_mark 62 = .ok (.aaload, 1) := dk_50 (dk_at dksX0_mark_2 16 rfl rfl)
theorem dX0_mark_63 : decode cX0_mark 63 = .ok (.aload_n 0, 1) := dk_42 (dk_at dksX0_mark_2 17 rfl rfl)
theorem dX0_mark_64 : decode cX0_mark 64 = .ok (.getfield 55, 3) := dk_180 0 55 (dk_at dksX0_mark_2 18 rfl rfl)
theorem dX0_mark_67 : decode cX0_mark 67 = .ok (.invokevirtual 494, 3) := dk_182 1 238 (dk_at dksX0_mark_2 21 rfl rfl)
theorem dX0_mark_70 : decode cX0_mark 70 = .ok (.aload_n 0, 1) := dk_42 (dk_at dksX0_mark_3 0 rfl rfl)
theorem dX0_mark_71 : decode cX0_mark 71 = .ok (.dup, 1) := dk_89 (dk_at dksX0_mark_3 1 rfl rfl)
theorem dX0_mark_72 : decode cX0_mark 72 = .ok (.getfield 491, 3) := dk_180 1 235 (dk_at dksX0_mark_3 2 rfl rfl)
theorem dX0_mark_75 : decode cX0_mark 75 = .ok (.iconst 1, 1) := dk_4 (dk_at dksX0_mark_3 5 rfl rfl)
theorem dX0_mark_76 : decode cX0_mark 76 = .ok (.iadd, 1) := dk_96 (dk_at dksX0_mark_3 6 rfl rfl)
theorem dX0_mark_77 : decode cX0_mark 77 = .ok (.putfield 491, 3) := dk_181 1 235 (dk_at dksX0_mark_3 7 rfl rfl)
theorem dX0_mark_80 : decode cX0_mark 80 = .ok (.aload_n 0, 1) := dk_42 (dk_at dksX0_mark_3 10 rfl rfl)
theorem dX0_mark_81 : decode cX0_mark 81 = .ok (.getfield 491, 3) := dk_180 1 235 (dk_at dksX0_mark_3 11 rfl rfl)
theorem dX0_mark_84 : decode cX0_mark 84 = .ok (.ireturn, 1) := dk_172 (dk_at dksX0_mark_3 14 rfl rfl)
abbrev cX0_back : ByteArray := prog_1_method_98_code
def yX0_back : MethodName := ⟨RX0, "back", "()I"⟩
def dkwX0_back_2 : List UInt8 := [50, 182, 1, 238, 42, 180, 1, 235, 172]
abbrev dktX0_back_2 : List UInt8 := dkwX0_back_2 ++ []
def dkwX0_back_1 : List UInt8 := [2, 172, 42, 89, 180, 1, 235, 4, 100, 181, 1, 235, 42, 180, 0, 55, 42, 180, 0, 59, 42, 180, 1, 235]
abbrev dktX0_back_1 : List UInt8 := dkwX0_back_1 ++ dktX0_back_2
def dkwX0_back_0 : List UInt8 := [42, 42, 180, 1, 235, 154, 0, 8, 16, 6, 167, 0, 4, 3, 181, 0, 81, 42, 180, 0, 81, 158, 0, 5]
abbrev dktX0_back_0 : List UInt8 := dkwX0_back_0 ++ dktX0_back_1
theorem dksX0_back_0 : cX0_back.data.toList.drop 0 = dktX0_back_0 := by decide +kernel
theorem dksX0_back_1 : cX0_back.data.toList.drop 24 = dktX0_back_1 := dk_seg dksX0_back_0 24 rfl rfl
theorem dksX0_back_2 : cX0_back.data.toList.drop 48 = dktX0_back_2 := dk_seg dksX0_back_1 24 rfl rfl
theorem dX0_back_0 : decode cX0_back 0 = .ok (.aload_n 0, 1) := dk_42 (dk_at dksX0_back_0 0 rfl rfl)
theorem dX0_back_1 : decode cX0_back 1 = .ok (.aload_n 0, 1) := dk_42 (dk_at dksX0_back_0 1 rfl rfl)
theorem dX0_back_2 : decode cX0_back 2 = .ok (.getfield 491, 3) := dk_180 1 235 (dk_at dksX0_back_0 2 rfl rfl)
theorem dX0_back_5 : decode cX0_back 5 = .ok (.ifCond .ne 8, 3) := dk_154 0 8 (dk_at dksX0_back_0 5 rfl rfl)
theorem dX0_back_8 : decode cX0_back 8 = .ok (.bipush 6, 2) := dk_16 6 (dk_at dksX0_back_0 8 rfl rfl)
theorem dX0_back_10 : decode cX0_back 10 = .ok (.goto 4, 3) := dk_167 0 4 (dk_at dksX0_back_0 10 rfl rfl)
theorem dX0_back_13 : decode cX0_back 13 = .ok (.iconst 0, 1) := dk_3 (dk_at dksX0_back_0 13 rfl rfl)
theorem dX0_back_14 : decode cX0_back 14 = .ok (.putfield 81, 3) := dk_181 0 81 (dk_at dksX0_back_0 14 rfl rfl)
theorem dX0_back_17 : decode cX0_back 17 = .ok (.aload_n 0, 1) := dk_42 (dk_at dksX0_back_0 17 rfl rfl)
theorem dX0_back_18 : decode cX0_back 18 = .ok (.getfield 81, 3) := dk_180 0 81 (dk_at dksX0_back_0 18 rfl rfl)
theorem dX0_back_21 : decode cX0_back 21 = .ok (.ifCond .le 5, 3) := dk_158 0 5 (dk_at dksX0_back_0 21 rfl rfl)
theorem dX0_back_24 : decode cX0_back 24 = .ok (.iconst (-1), 1) := dk_2 (dk_at dksX0_back_1 0 rfl rfl)
theorem dX0_back_25 : decode cX0_back 25 = .ok (.ireturn, 1) := dk_172 (dk_at dksX0_back_1 1 rfl rfl)
theorem dX0_back_26 : decode cX0_back 26 = .ok (.aload_n 0, 1) := dk_42 (dk_at dksX0_back_1 2 rfl rfl)
theorem dX0_back_27 : decode cX0_back 27 = .ok (.dup, 1) := dk_89 (dk_at dksX0_back_1 3 rfl rfl)
theorem dX0_back_28 : decode cX0_back 28 = .ok (.getfield 491, 3) := dk_180 1 235 (dk_at dksX0_back_1 4 rfl rfl)
theorem dX0_back_31 : decode cX0_back 31 = .ok (.iconst 1, 1) := dk_4 (dk_at dksX0_back_1 7 rfl rfl)
theorem dX0_back_32 : decode cX0_back 32 = .ok (.isub, 1) := dk_100 (dk_at dksX0_back_1 8 rfl rfl)
theorem dX0_back_33 : decode cX0_back 33 = .ok (.putfield 491, 3) := dk_181 1 235 (dk_at dksX0_back_1 9 rfl rfl)
theorem dX0_back_36 : decode cX0_back 36 = .ok (.aload_n 0, 1) := dk_42 (dk_at dksX0_back_1 12 rfl rfl)
theorem dX0_back_37 : decode cX0_back 37 = .ok (.getfield 55, 3) := dk_180 0 55 (dk_at dksX0_back_1 13 rfl rfl)
theorem dX0_back_40 : decode cX0_back 40 = .ok (.aload_n 0, 1) := dk_42 (dk_at dksX0_back_1 16 rfl rfl)
theorem dX0_back_41 : decode cX0_back 41 = .ok (.getfield 59, 3) := dk_180 0 59 (dk_at dksX0_back_1 17 rfl rfl)
theorem dX0_back_44 : decode cX0_back 44 = .ok (.aload_n 0, 1) := dk_42 (dk_at dksX0_back_1 20 rfl rfl)
theorem dX0_back_45 : decode cX0_back 45 = .ok (.getfield 491, 3) := dk_180 1 235 (dk_at dksX0_back_1 21 rfl rfl)
theorem dX0_back_48 : decode cX0_back 48 = .ok (.aaload, 1) := dk_50 (dk_at dksX0_back_2 0 rfl rfl)
theorem dX0_back_49 : decode cX0_back 49 = .ok (.invokevirtual 494, 3) := dk_182 1 238 (dk_at dksX0_back_2 1 rfl rfl)
theorem dX0_back_52 : decode cX0_back 52 = .ok (.aload_n 0, 1) := dk_42 (dk_at dksX0_back_2 4 rfl rfl)
theorem dX0_back_53 : decode cX0_back 53 = .ok (.getfield 491, 3) := dk_180 1 235 (dk_at dksX0_back_2 5 rfl rfl)
theorem dX0_back_56 : decode cX0_back 56 = .ok (.ireturn, 1) := dk_172 (dk_at dksX0_back_2 8 rfl rfl)
theorem q135 : (Jvm.Cond.initialized "WindowHill") ∈ lw_all := lw_g (lw_at lw_m1 1 rfl) rfl
theorem q165 : (Jvm.Cond.instantiable "WindowHill" (23 : Nat)) ∈ lw_all := lw_g (lw_at lw_m1 31 rfl) rfl
theorem q167 : (Jvm.Cond.instanceMethod ({ cls := "WindowHill", name := "<init>", desc := "()V" } : Jvm.MethodName)) ∈ lw_all := lw_g (lw_at lw_m1 33 rfl) rfl
theorem q168 : (Jvm.Cond.code ({ cls := "WindowHill", name := "<init>", desc := "()V" } : Jvm.MethodName) prog_1_method_6_code (1 : Nat) (Option.none : Option Jvm.ClassFile.FieldType)) ∈ lw_all := lw_g (lw_at lw_m1 34 rfl) rfl
theorem q169 : (Jvm.Cond.methodLink "WindowHill" (9 : Nat) ({ cls := "java/lang/Object", name := "<init>", desc := "()V" } : Jvm.MethodName)) ∈ lw_all := lw_g (lw_at lw_m1 35 rfl) rfl
theorem q172 : (Jvm.Cond.classLink "WindowHill" (15 : Nat) "WindowHill$Tray") ∈ lw_all := lw_g (lw_at lw_m1 38 rfl) rfl
theorem q175 : (Jvm.Cond.methodLinkNest "WindowHill" (17 : Nat) ({ cls := "WindowHill$Tray", name := "<init>", desc := "()V" } : Jvm.MethodName) "WindowHill") ∈ lw_tbl := lw_at lw_m1 41 rfl
theorem q179 : (Jvm.Cond.fieldLinkNest "WindowHill" (110 : Nat) "WindowHill$Tray" "row" "Ljava/lang/Object;" "WindowHill") ∈ lw_tbl := lw_at lw_m1 45 rfl
theorem q183 : (Jvm.Cond.classLink "WindowHill" (34 : Nat) "WindowHill$Bad") ∈ lw_all := lw_g (lw_at lw_m1 49 rfl) rfl
theorem q223 : (Jvm.Cond.methodLink "WindowHill" (36 : Nat) ({ cls := "WindowHill$Bad", name := "<init>", desc := "()V" } : Jvm.MethodName)) ∈ lw_all := lw_g (lw_at lw_m1 89 rfl) rfl
theorem q233 : (Jvm.Cond.fieldLinkNest "WindowHill" (215 : Nat) "WindowHill$Bad" "kind" "I" "WindowHill") ∈ lw_tbl := lw_at lw_m1 99 rfl
theorem q235 : (Jvm.Cond.fieldLinkNest "WindowHill" (218 : Nat) "WindowHill$Bad" "place" "I" "WindowHill") ∈ lw_tbl := lw_at lw_m1 101 rfl
theorem q254 : (Jvm.Cond.classLink "WindowHill" (41 : Nat) "WindowHill$Refused") ∈ lw_all := lw_g (lw_at lw_m1 120 rfl) rfl
theorem q263 : (Jvm.Cond.methodLink "WindowHill" (43 : Nat) ({ cls := "WindowHill$Refused", name := "<init>", desc := "()V" } : Jvm.MethodName)) ∈ lw_all := lw_g (lw_at lw_m1 129 rfl) rfl
theorem q268 : (Jvm.Cond.fieldLinkNest "WindowHill" (91 : Nat) "WindowHill$Refused" "why" "I" "WindowHill") ∈ lw_tbl := lw_at lw_m1 134 rfl
theorem q273 : (Jvm.Cond.classLink "WindowHill" (52 : Nat) "WindowHill$House") ∈ lw_all := lw_g (lw_at lw_m1 139 rfl) rfl
theorem q275 : (Jvm.Cond.methodLinkNest "WindowHill" (54 : Nat) ({ cls := "WindowHill$House", name := "<init>", desc := "()V" } : Jvm.MethodName) "WindowHill") ∈ lw_tbl := lw_at lw_m1 141 rfl
theorem q294 : (Jvm.Cond.fieldLinkNest "WindowHill" (166 : Nat) "WindowHill$Town" "wide" "I" "WindowHill") ∈ lw_tbl := lw_at lw_m1 160 rfl
theorem q298 : (Jvm.Cond.fieldLinkNest "WindowHill" (175 : Nat) "WindowHill$Town" "rows" "I" "WindowHill") ∈ lw_tbl := lw_at lw_m1 164 rfl
theorem q301 : (Jvm.Cond.fieldLinkNest "WindowHill" (247 : Nat) "WindowHill$Town" "houses" "I" "WindowHill") ∈ lw_tbl := lw_at lw_m1 167 rfl
theorem q305 : (Jvm.Cond.fieldLinkNest "WindowHill" (371 : Nat) "WindowHill$Town" "always" "I" "WindowHill") ∈ lw_tbl := lw_at lw_m1 171 rfl
theorem q311 : (Jvm.Cond.fieldLinkNest "WindowHill" (178 : Nat) "WindowHill$Town" "rules" "I" "WindowHill") ∈ lw_tbl := lw_at lw_m1 177 rfl
theorem q315 : (Jvm.Cond.fieldLinkNest "WindowHill" (181 : Nat) "WindowHill$Town" "citizens" "I" "WindowHill") ∈ lw_tbl := lw_at lw_m1 181 rfl
theorem q320 : (Jvm.Cond.fieldLinkNest "WindowHill" (296 : Nat) "WindowHill$Town" "beside" "[I" "WindowHill") ∈ lw_tbl := lw_at lw_m1 186 rfl
theorem q324 : (Jvm.Cond.fieldLinkNest "WindowHill" (311 : Nat) "WindowHill$Town" "least" "[I" "WindowHill") ∈ lw_tbl := lw_at lw_m1 190 rfl
theorem q328 : (Jvm.Cond.fieldLinkNest "WindowHill" (314 : Nat) "WindowHill$Town" "most" "[I" "WindowHill") ∈ lw_tbl := lw_at lw_m1 194 rfl
theorem q374 : (Jvm.Cond.fieldLinkNest "WindowHill" (158 : Nat) "WindowHill$Hill" "town" "LWindowHill$Town;" "WindowHill") ∈ lw_tbl := lw_at lw_m2 0 rfl
theorem q376 : (Jvm.Cond.fieldLinkNest "WindowHill" (302 : Nat) "WindowHill$Hill" "born" "[I" "WindowHill") ∈ lw_tbl := lw_at lw_m2 2 rfl
theorem q378 : (Jvm.Cond.fieldLinkNest "WindowHill" (305 : Nat) "WindowHill$Hill" "stays" "[I" "WindowHill") ∈ lw_tbl := lw_at lw_m2 4 rfl
theorem q380 : (Jvm.Cond.fieldLinkNest "WindowHill" (429 : Nat) "WindowHill$Hill" "seen" "[I" "WindowHill") ∈ lw_tbl := lw_at lw_m2 6 rfl
theorem q384 : (Jvm.Cond.fieldLinkNest "WindowHill" (269 : Nat) "WindowHill$Hill" "lit" "I" "WindowHill") ∈ lw_tbl := lw_at lw_m2 10 rfl
theorem q387 : (Jvm.Cond.fieldLinkNest "WindowHill" (285 : Nat) "WindowHill$Hill" "mayor" "I" "WindowHill") ∈ lw_tbl := lw_at lw_m2 13 rfl
theorem q389 : (Jvm.Cond.fieldLinkNest "WindowHill" (275 : Nat) "WindowHill$Hill" "night" "I" "WindowHill") ∈ lw_tbl := lw_at lw_m2 15 rfl
theorem q391 : (Jvm.Cond.fieldLinkNest "WindowHill" (278 : Nat) "WindowHill$Hill" "oil" "I" "WindowHill") ∈ lw_tbl := lw_at lw_m2 17 rfl
theorem q410 : (Jvm.Cond.fieldLinkNest "WindowHill" (155 : Nat) "WindowHill$House" "hill" "LWindowHill$Hill;" "WindowHill") ∈ lw_tbl := lw_at lw_m2 36 rfl
theorem q412 : (Jvm.Cond.fieldLinkNest "WindowHill" (243 : Nat) "WindowHill$House" "year" "LWindowHill$Loop;" "WindowHill") ∈ lw_tbl := lw_at lw_m2 38 rfl
theorem q419 : (Jvm.Cond.classLink "WindowHill" (66 : Nat) "[[J") ∈ lw_all := lw_g (lw_at lw_m2 45 rfl) rfl
theorem q421 : (Jvm.Cond.classLink "WindowHill" (71 : Nat) "WindowHill$Hill") ∈ lw_all := lw_g (lw_at lw_m2 47 rfl) rfl
theorem q422 : (Jvm.Cond.methodLinkNest "WindowHill" (73 : Nat) ({ cls := "WindowHill$Hill", name := "<init>", desc := "()V" } : Jvm.MethodName) "WindowHill") ∈ lw_tbl := lw_at lw_m2 48 rfl
theorem q423 : (Jvm.Cond.fieldLink "WindowHill" (18 : Nat) "WindowHill" "trays" "[LWindowHill$Tray;") ∈ lw_all := lw_g (lw_at lw_m2 49 rfl) rfl
theorem q425 : (Jvm.Cond.fieldLink "WindowHill" (24 : Nat) "WindowHill" "tape" "[B") ∈ lw_all := lw_g (lw_at lw_m2 51 rfl) rfl
theorem q426 : (Jvm.Cond.fieldLink "WindowHill" (208 : Nat) "WindowHill" "taped" "I") ∈ lw_all := lw_g (lw_at lw_m2 52 rfl) rfl
theorem q427 : (Jvm.Cond.fieldLink "WindowHill" (27 : Nat) "WindowHill" "faultKind" "I") ∈ lw_all := lw_g (lw_at lw_m2 53 rfl) rfl
theorem q428 : (Jvm.Cond.fieldLink "WindowHill" (31 : Nat) "WindowHill" "faultAt" "I") ∈ lw_all := lw_g (lw_at lw_m2 54 rfl) rfl
theorem q429 : (Jvm.Cond.fieldLink "WindowHill" (37 : Nat) "WindowHill" "bad" "LWindowHill$Bad;") ∈ lw_all := lw_g (lw_at lw_m2 55 rfl) rfl
theorem q431 : (Jvm.Cond.fieldLink "WindowHill" (44 : Nat) "WindowHill" "refused" "LWindowHill$Refused;") ∈ lw_all := lw_g (lw_at lw_m2 57 rfl) rfl
theorem q432 : (Jvm.Cond.fieldLink "WindowHill" (81 : Nat) "WindowHill" "status" "I") ∈ lw_all := lw_g (lw_at lw_m2 58 rfl) rfl
theorem q433 : (Jvm.Cond.fieldLink "WindowHill" (84 : Nat) "WindowHill" "above" "J") ∈ lw_all := lw_g (lw_at lw_m2 59 rfl) rfl
theorem q434 : (Jvm.Cond.fieldLink "WindowHill" (48 : Nat) "WindowHill" "under" "J") ∈ lw_all := lw_g (lw_at lw_m2 60 rfl) rfl
theorem q435 : (Jvm.Cond.fieldLink "WindowHill" (55 : Nat) "WindowHill" "now" "LWindowHill$House;") ∈ lw_all := lw_g (lw_at lw_m2 61 rfl) rfl
theorem q436 : (Jvm.Cond.fieldLink "WindowHill" (59 : Nat) "WindowHill" "marks" "[LWindowHill$House;") ∈ lw_all := lw_g (lw_at lw_m2 62 rfl) rfl
theorem q437 : (Jvm.Cond.fieldLink "WindowHill" (491 : Nat) "WindowHill" "markMany" "I") ∈ lw_all := lw_g (lw_at lw_m2 63 rfl) rfl
theorem q438 : (Jvm.Cond.fieldLink "WindowHill" (63 : Nat) "WindowHill" "pictures" "[I") ∈ lw_all := lw_g (lw_at lw_m2 64 rfl) rfl
theorem q439 : (Jvm.Cond.fieldLink "WindowHill" (349 : Nat) "WindowHill" "lead" "I") ∈ lw_all := lw_g (lw_at lw_m2 65 rfl) rfl
theorem q440 : (Jvm.Cond.fieldLink "WindowHill" (352 : Nat) "WindowHill" "round" "I") ∈ lw_all := lw_g (lw_at lw_m2 66 rfl) rfl
theorem q441 : (Jvm.Cond.fieldLink "WindowHill" (68 : Nat) "WindowHill" "ways" "[[J") ∈ lw_all := lw_g (lw_at lw_m2 67 rfl) rfl
theorem q442 : (Jvm.Cond.fieldLink "WindowHill" (398 : Nat) "WindowHill" "bestSet" "I") ∈ lw_all := lw_g (lw_at lw_m2 68 rfl) rfl
theorem q443 : (Jvm.Cond.fieldLink "WindowHill" (410 : Nat) "WindowHill" "bestMany" "I") ∈ lw_all := lw_g (lw_at lw_m2 69 rfl) rfl
theorem q444 : (Jvm.Cond.fieldLink "WindowHill" (420 : Nat) "WindowHill" "left" "I") ∈ lw_all := lw_g (lw_at lw_m2 70 rfl) rfl
theorem q445 : (Jvm.Cond.fieldLink "WindowHill" (74 : Nat) "WindowHill" "aside" "LWindowHill$Hill;") ∈ lw_all := lw_g (lw_at lw_m2 71 rfl) rfl
theorem q446 : (Jvm.Cond.fieldLink "WindowHill" (78 : Nat) "WindowHill" "last" "[I") ∈ lw_all := lw_g (lw_at lw_m2 72 rfl) rfl
theorem q447 : (Jvm.Cond.fieldLink "WindowHill" (479 : Nat) "WindowHill" "hasLived" "Z") ∈ lw_all := lw_g (lw_at lw_m2 73 rfl) rfl
theorem q448 : (Jvm.Cond.laysFinal "WindowHill" "WindowHill" "trays" "[LWindowHill$Tray;") ∈ lw_all := lw_g (lw_at lw_m2 74 rfl) rfl
theorem q449 : (Jvm.Cond.soleField "WindowHill" "trays") ∈ lw_all := lw_g (lw_at lw_m2 75 rfl) rfl
theorem q450 : (Jvm.Cond.laysFinal "WindowHill" "WindowHill" "tape" "[B") ∈ lw_all := lw_g (lw_at lw_m2 76 rfl) rfl
theorem q451 : (Jvm.Cond.soleField "WindowHill" "tape") ∈ lw_all := lw_g (lw_at lw_m2 77 rfl) rfl
theorem q452 : (Jvm.Cond.lays "WindowHill" "WindowHill" "taped" "I") ∈ lw_all := lw_g (lw_at lw_m2 78 rfl) rfl
theorem q453 : (Jvm.Cond.soleField "WindowHill" "taped") ∈ lw_all := lw_g (lw_at lw_m2 79 rfl) rfl
theorem q454 : (Jvm.Cond.lays "WindowHill" "WindowHill" "faultKind" "I") ∈ lw_all := lw_g (lw_at lw_m2 80 rfl) rfl
theorem q455 : (Jvm.Cond.soleField "WindowHill" "faultKind") ∈ lw_all := lw_g (lw_at lw_m2 81 rfl) rfl
theorem q456 : (Jvm.Cond.lays "WindowHill" "WindowHill" "faultAt" "I") ∈ lw_all := lw_g (lw_at lw_m2 82 rfl) rfl
theorem q457 : (Jvm.Cond.soleField "WindowHill" "faultAt") ∈ lw_all := lw_g (lw_at lw_m2 83 rfl) rfl
theorem q458 : (Jvm.Cond.laysFinal "WindowHill" "WindowHill" "bad" "LWindowHill$Bad;") ∈ lw_all := lw_g (lw_at lw_m2 84 rfl) rfl
theorem q459 : (Jvm.Cond.soleField "WindowHill" "bad") ∈ lw_all := lw_g (lw_at lw_m2 85 rfl) rfl
theorem q460 : (Jvm.Cond.laysFinal "WindowHill" "WindowHill" "refused" "LWindowHill$Refused;") ∈ lw_all := lw_g (lw_at lw_m2 86 rfl) rfl
theorem q461 : (Jvm.Cond.soleField "WindowHill" "refused") ∈ lw_all := lw_g (lw_at lw_m2 87 rfl) rfl
theorem q462 : (Jvm.Cond.lays "WindowHill" "WindowHill" "status" "I") ∈ lw_all := lw_g (lw_at lw_m2 88 rfl) rfl
theorem q463 : (Jvm.Cond.soleField "WindowHill" "status") ∈ lw_all := lw_g (lw_at lw_m2 89 rfl) rfl
theorem q464 : (Jvm.Cond.lays "WindowHill" "WindowHill" "above" "J") ∈ lw_all := lw_g (lw_at lw_m2 90 rfl) rfl
theorem q465 : (Jvm.Cond.soleField "WindowHill" "above") ∈ lw_all := lw_g (lw_at lw_m2 91 rfl) rfl
theorem q466 : (Jvm.Cond.lays "WindowHill" "WindowHill" "under" "J") ∈ lw_all := lw_g (lw_at lw_m2 92 rfl) rfl
theorem q467 : (Jvm.Cond.soleField "WindowHill" "under") ∈ lw_all := lw_g (lw_at lw_m2 93 rfl) rfl
theorem q468 : (Jvm.Cond.laysFinal "WindowHill" "WindowHill" "now" "LWindowHill$House;") ∈ lw_all := lw_g (lw_at lw_m2 94 rfl) rfl
theorem q469 : (Jvm.Cond.soleField "WindowHill" "now") ∈ lw_all := lw_g (lw_at lw_m2 95 rfl) rfl
theorem q470 : (Jvm.Cond.laysFinal "WindowHill" "WindowHill" "marks" "[LWindowHill$House;") ∈ lw_all := lw_g (lw_at lw_m2 96 rfl) rfl
theorem q471 : (Jvm.Cond.soleField "WindowHill" "marks") ∈ lw_all := lw_g (lw_at lw_m2 97 rfl) rfl
theorem q472 : (Jvm.Cond.lays "WindowHill" "WindowHill" "markMany" "I") ∈ lw_all := lw_g (lw_at lw_m2 98 rfl) rfl
theorem q473 : (Jvm.Cond.soleField "WindowHill" "markMany") ∈ lw_all := lw_g (lw_at lw_m2 99 rfl) rfl
theorem q474 : (Jvm.Cond.laysFinal "WindowHill" "WindowHill" "pictures" "[I") ∈ lw_all := lw_g (lw_at lw_m2 100 rfl) rfl
theorem q475 : (Jvm.Cond.soleField "WindowHill" "pictures") ∈ lw_all := lw_g (lw_at lw_m2 101 rfl) rfl
theorem q476 : (Jvm.Cond.lays "WindowHill" "WindowHill" "lead" "I") ∈ lw_all := lw_g (lw_at lw_m2 102 rfl) rfl
theorem q477 : (Jvm.Cond.soleField "WindowHill" "lead") ∈ lw_all := lw_g (lw_at lw_m2 103 rfl) rfl
theorem q478 : (Jvm.Cond.lays "WindowHill" "WindowHill" "round" "I") ∈ lw_all := lw_g (lw_at lw_m2 104 rfl) rfl
theorem q479 : (Jvm.Cond.soleField "WindowHill" "round") ∈ lw_all := lw_g (lw_at lw_m2 105 rfl) rfl
theorem q480 : (Jvm.Cond.laysFinal "WindowHill" "WindowHill" "ways" "[[J") ∈ lw_all := lw_g (lw_at lw_m2 106 rfl) rfl
theorem q481 : (Jvm.Cond.soleField "WindowHill" "ways") ∈ lw_all := lw_g (lw_at lw_m2 107 rfl) rfl
theorem q482 : (Jvm.Cond.lays "WindowHill" "WindowHill" "bestSet" "I") ∈ lw_all := lw_g (lw_at lw_m2 108 rfl) rfl
theorem q483 : (Jvm.Cond.soleField "WindowHill" "bestSet") ∈ lw_all := lw_g (lw_at lw_m2 109 rfl) rfl
theorem q484 : (Jvm.Cond.lays "WindowHill" "WindowHill" "bestMany" "I") ∈ lw_all := lw_g (lw_at lw_m2 110 rfl) rfl
theorem q485 : (Jvm.Cond.soleField "WindowHill" "bestMany") ∈ lw_all := lw_g (lw_at lw_m2 111 rfl) rfl
theorem q486 : (Jvm.Cond.lays "WindowHill" "WindowHill" "left" "I") ∈ lw_all := lw_g (lw_at lw_m2 112 rfl) rfl
theorem q487 : (Jvm.Cond.soleField "WindowHill" "left") ∈ lw_all := lw_g (lw_at lw_m2 113 rfl) rfl
theorem q488 : (Jvm.Cond.laysFinal "WindowHill" "WindowHill" "aside" "LWindowHill$Hill;") ∈ lw_all := lw_g (lw_at lw_m2 114 rfl) rfl
theorem q489 : (Jvm.Cond.soleField "WindowHill" "aside") ∈ lw_all := lw_g (lw_at lw_m2 115 rfl) rfl
theorem q490 : (Jvm.Cond.laysFinal "WindowHill" "WindowHill" "last" "[I") ∈ lw_all := lw_g (lw_at lw_m2 116 rfl) rfl
theorem q491 : (Jvm.Cond.soleField "WindowHill" "last") ∈ lw_all := lw_g (lw_at lw_m2 117 rfl) rfl
theorem q492 : (Jvm.Cond.lays "WindowHill" "WindowHill" "hasLived" "Z") ∈ lw_all := lw_g (lw_at lw_m2 118 rfl) rfl
theorem q493 : (Jvm.Cond.soleField "WindowHill" "hasLived") ∈ lw_all := lw_g (lw_at lw_m2 119 rfl) rfl
theorem q494 : (Jvm.Cond.superclass "WindowHill" "java/lang/Object") ∈ lw_all := lw_g (lw_at lw_m2 120 rfl) rfl
theorem q496 : (Jvm.Cond.instanceMethod ({ cls := "WindowHill", name := "status", desc := "()I" } : Jvm.MethodName)) ∈ lw_all := lw_g (lw_at lw_m2 122 rfl) rfl
theorem q497 : (Jvm.Cond.selects "WindowHill" ({ cls := "WindowHill", name := "status", desc := "()I" } : Jvm.MethodName) ({ cls := "WindowHill", name := "status", desc := "()I" } : Jvm.MethodName)) ∈ lw_all := lw_g (lw_at lw_m2 123 rfl) rfl
theorem q498 : (Jvm.Cond.code ({ cls := "WindowHill", name := "status", desc := "()I" } : Jvm.MethodName) prog_1_method_7_code (1 : Nat) (Option.some Jvm.ClassFile.FieldType.int)) ∈ lw_all := lw_g (lw_at lw_m2 124 rfl) rfl
theorem q500 : (Jvm.Cond.instanceMethod ({ cls := "WindowHill", name := "top", desc := "()J" } : Jvm.MethodName)) ∈ lw_all := lw_g (lw_at lw_m2 126 rfl) rfl
theorem q501 : (Jvm.Cond.selects "WindowHill" ({ cls := "WindowHill", name := "top", desc := "()J" } : Jvm.MethodName) ({ cls := "WindowHill", name := "top", desc := "()J" } : Jvm.MethodName)) ∈ lw_all := lw_g (lw_at lw_m2 127 rfl) rfl
theorem q502 : (Jvm.Cond.code ({ cls := "WindowHill", name := "top", desc := "()J" } : Jvm.MethodName) prog_1_method_8_code (1 : Nat) (Option.some Jvm.ClassFile.FieldType.long)) ∈ lw_all := lw_g (lw_at lw_m2 128 rfl) rfl
theorem q504 : (Jvm.Cond.instanceMethod ({ cls := "WindowHill", name := "bottom", desc := "()J" } : Jvm.MethodName)) ∈ lw_all := lw_g (lw_at lw_m2 130 rfl) rfl
theorem q505 : (Jvm.Cond.selects "WindowHill" ({ cls := "WindowHill", name := "bottom", desc := "()J" } : Jvm.MethodName) ({ cls := "WindowHill", name := "bottom", desc := "()J" } : Jvm.MethodName)) ∈ lw_all := lw_g (lw_at lw_m2 131 rfl) rfl
theorem q506 : (Jvm.Cond.code ({ cls := "WindowHill", name := "bottom", desc := "()J" } : Jvm.MethodName) prog_1_method_9_code (1 : Nat) (Option.some Jvm.ClassFile.FieldType.long)) ∈ lw_all := lw_g (lw_at lw_m2 132 rfl) rfl
theorem q508 : (Jvm.Cond.instanceMethod ({ cls := "WindowHill", name := "tray", desc := "(III)Z" } : Jvm.MethodName)) ∈ lw_all := lw_g (lw_at lw_m2 134 rfl) rfl
theorem q509 : (Jvm.Cond.selects "WindowHill" ({ cls := "WindowHill", name := "tray", desc := "(III)Z" } : Jvm.MethodName) ({ cls := "WindowHill", name := "tray", desc := "(III)Z" } : Jvm.MethodName)) ∈ lw_all := lw_g (lw_at lw_m2 135 rfl) rfl
theorem q510 : (Jvm.Cond.codeWith ({ cls := "WindowHill", name := "tray", desc := "(III)Z" } : Jvm.MethodName) prog_1_method_15_code (5 : Nat) (Option.some Jvm.ClassFile.FieldType.boolean) [((5 : Nat), (54 : Nat), (55 : Nat), (117 : Nat)), ((5 : Nat), (54 : Nat), (64 : Nat), (41 : Nat))]) ∈ lw_all := lw_g (lw_at lw_m2 136 rfl) rfl
theorem q511 : (Jvm.Cond.classLink "WindowHill" (117 : Nat) "java/lang/NegativeArraySizeException") ∈ lw_all := lw_g (lw_at lw_m2 137 rfl) rfl
theorem q540 : (Jvm.Cond.methodLink "WindowHill" (106 : Nat) ({ cls := "WindowHill", name := "want", desc := "(ZI)V" } : Jvm.MethodName)) ∈ lw_all := lw_g (lw_at lw_m2 166 rfl) rfl
theorem q541 : (Jvm.Cond.privateMethod ({ cls := "WindowHill", name := "want", desc := "(ZI)V" } : Jvm.MethodName)) ∈ lw_tbl := lw_at lw_m2 167 rfl
theorem q542 : (Jvm.Cond.instanceMethod ({ cls := "WindowHill", name := "want", desc := "(ZI)V" } : Jvm.MethodName)) ∈ lw_all := lw_g (lw_at lw_m2 168 rfl) rfl
theorem q543 : (Jvm.Cond.code ({ cls := "WindowHill", name := "want", desc := "(ZI)V" } : Jvm.MethodName) prog_1_method_10_code (3 : Nat) (Option.none : Option Jvm.ClassFile.FieldType)) ∈ lw_all := lw_g (lw_at lw_m2 169 rfl) rfl
theorem q544 : (Jvm.Cond.methodLink "WindowHill" (87 : Nat) ({ cls := "WindowHill$Refused", name := "by", desc := "(I)LWindowHill$Refused;" } : Jvm.MethodName)) ∈ lw_all := lw_g (lw_at lw_m2 170 rfl) rfl
theorem q548 : (Jvm.Cond.methodLink "WindowHill" (114 : Nat) ({ cls := "WindowHill", name := "row", desc := "(II)Ljava/lang/Object;" } : Jvm.MethodName)) ∈ lw_all := lw_g (lw_at lw_m2 174 rfl) rfl
theorem q549 : (Jvm.Cond.static ({ cls := "WindowHill", name := "row", desc := "(II)Ljava/lang/Object;" } : Jvm.MethodName)) ∈ lw_all := lw_g (lw_at lw_m2 175 rfl) rfl
theorem q550 : (Jvm.Cond.code ({ cls := "WindowHill", name := "row", desc := "(II)Ljava/lang/Object;" } : Jvm.MethodName) prog_1_method_1_code (2 : Nat) (Option.some (Jvm.ClassFile.FieldType.object "java/lang/Object"))) ∈ lw_all := lw_g (lw_at lw_m2 176 rfl) rfl
theorem q551 : (Jvm.Cond.methodLink "WindowHill" (119 : Nat) ({ cls := "WindowHill", name := "no", desc := "(LWindowHill$Refused;)Z" } : Jvm.MethodName)) ∈ lw_all := lw_g (lw_at lw_m2 177 rfl) rfl
theorem q552 : (Jvm.Cond.privateMethod ({ cls := "WindowHill", name := "no", desc := "(LWindowHill$Refused;)Z" } : Jvm.MethodName)) ∈ lw_tbl := lw_at lw_m2 178 rfl
theorem q553 : (Jvm.Cond.instanceMethod ({ cls := "WindowHill", name := "no", desc := "(LWindowHill$Refused;)Z" } : Jvm.MethodName)) ∈ lw_all := lw_g (lw_at lw_m2 179 rfl) rfl
theorem q554 : (Jvm.Cond.code ({ cls := "WindowHill", name := "no", desc := "(LWindowHill$Refused;)Z" } : Jvm.MethodName) prog_1_method_12_code (2 : Nat) (Option.some Jvm.ClassFile.FieldType.boolean)) ∈ lw_all := lw_g (lw_at lw_m2 180 rfl) rfl
theorem q557 : (Jvm.Cond.instanceMethod ({ cls := "WindowHill", name := "write", desc := "(IIJ)Z" } : Jvm.MethodName)) ∈ lw_all := lw_g (lw_at lw_m2 183 rfl) rfl
theorem q558 : (Jvm.Cond.selects "WindowHill" ({ cls := "WindowHill", name := "write", desc := "(IIJ)Z" } : Jvm.MethodName) ({ cls := "WindowHill", name := "write", desc := "(IIJ)Z" } : Jvm.MethodName)) ∈ lw_all := lw_g (lw_at lw_m2 184 rfl) rfl
theorem q559 : (Jvm.Cond.codeWith ({ cls := "WindowHill", name := "write", desc := "(IIJ)Z" } : Jvm.MethodName) prog_1_method_16_code (6 : Nat) (Option.some Jvm.ClassFile.FieldType.boolean) [((5 : Nat), (16 : Nat), (17 : Nat), (131 : Nat)), ((5 : Nat), (16 : Nat), (26 : Nat), (41 : Nat))]) ∈ lw_all := lw_g (lw_at lw_m2 185 rfl) rfl
theorem q560 : (Jvm.Cond.classLink "WindowHill" (131 : Nat) "java/lang/ArrayIndexOutOfBoundsException") ∈ lw_all := lw_g (lw_at lw_m2 186 rfl) rfl
theorem q579 : (Jvm.Cond.methodLink "WindowHill" (123 : Nat) ({ cls := "WindowHill", name := "on", desc := "(I)Ljava/lang/Object;" } : Jvm.MethodName)) ∈ lw_all := lw_g (lw_at lw_m2 205 rfl) rfl
theorem q580 : (Jvm.Cond.privateMethod ({ cls := "WindowHill", name := "on", desc := "(I)Ljava/lang/Object;" } : Jvm.MethodName)) ∈ lw_tbl := lw_at lw_m2 206 rfl
theorem q581 : (Jvm.Cond.instanceMethod ({ cls := "WindowHill", name := "on", desc := "(I)Ljava/lang/Object;" } : Jvm.MethodName)) ∈ lw_all := lw_g (lw_at lw_m2 207 rfl) rfl
theorem q582 : (Jvm.Cond.code ({ cls := "WindowHill", name := "on", desc := "(I)Ljava/lang/Object;" } : Jvm.MethodName) prog_1_method_14_code (2 : Nat) (Option.some (Jvm.ClassFile.FieldType.object "java/lang/Object"))) ∈ lw_all := lw_g (lw_at lw_m2 208 rfl) rfl
theorem q583 : (Jvm.Cond.methodLink "WindowHill" (127 : Nat) ({ cls := "WindowHill", name := "put", desc := "(Ljava/lang/Object;IJ)V" } : Jvm.MethodName)) ∈ lw_all := lw_g (lw_at lw_m2 209 rfl) rfl
theorem q584 : (Jvm.Cond.static ({ cls := "WindowHill", name := "put", desc := "(Ljava/lang/Object;IJ)V" } : Jvm.MethodName)) ∈ lw_all := lw_g (lw_at lw_m2 210 rfl) rfl
theorem q585 : (Jvm.Cond.code ({ cls := "WindowHill", name := "put", desc := "(Ljava/lang/Object;IJ)V" } : Jvm.MethodName) prog_1_method_5_code (7 : Nat) (Option.none : Option Jvm.ClassFile.FieldType)) ∈ lw_all := lw_g (lw_at lw_m2 211 rfl) rfl
theorem q586 : (Jvm.Cond.classLink "WindowHill" (1 : Nat) "[B") ∈ lw_all := lw_g (lw_at lw_m2 212 rfl) rfl
theorem q587 : (Jvm.Cond.classLink "WindowHill" (3 : Nat) "[S") ∈ lw_all := lw_g (lw_at lw_m2 213 rfl) rfl
theorem q588 : (Jvm.Cond.classLink "WindowHill" (5 : Nat) "[I") ∈ lw_all := lw_g (lw_at lw_m2 214 rfl) rfl
theorem q589 : (Jvm.Cond.classLink "WindowHill" (7 : Nat) "[J") ∈ lw_all := lw_g (lw_at lw_m2 215 rfl) rfl
theorem q591 : (Jvm.Cond.instanceMethod ({ cls := "WindowHill", name := "read", desc := "(II)J" } : Jvm.MethodName)) ∈ lw_all := lw_g (lw_at lw_m2 217 rfl) rfl
theorem q592 : (Jvm.Cond.selects "WindowHill" ({ cls := "WindowHill", name := "read", desc := "(II)J" } : Jvm.MethodName) ({ cls := "WindowHill", name := "read", desc := "(II)J" } : Jvm.MethodName)) ∈ lw_all := lw_g (lw_at lw_m2 218 rfl) rfl
theorem q593 : (Jvm.Cond.codeWith ({ cls := "WindowHill", name := "read", desc := "(II)J" } : Jvm.MethodName) prog_1_method_17_code (4 : Nat) (Option.some Jvm.ClassFile.FieldType.long) [((5 : Nat), (14 : Nat), (15 : Nat), (131 : Nat)), ((5 : Nat), (14 : Nat), (25 : Nat), (41 : Nat))]) ∈ lw_all := lw_g (lw_at lw_m2 219 rfl) rfl
theorem q594 : (Jvm.Cond.methodLink "WindowHill" (133 : Nat) ({ cls := "WindowHill", name := "number", desc := "(Ljava/lang/Object;I)J" } : Jvm.MethodName)) ∈ lw_all := lw_g (lw_at lw_m2 220 rfl) rfl
theorem q595 : (Jvm.Cond.static ({ cls := "WindowHill", name := "number", desc := "(Ljava/lang/Object;I)J" } : Jvm.MethodName)) ∈ lw_all := lw_g (lw_at lw_m2 221 rfl) rfl
theorem q596 : (Jvm.Cond.code ({ cls := "WindowHill", name := "number", desc := "(Ljava/lang/Object;I)J" } : Jvm.MethodName) prog_1_method_4_code (3 : Nat) (Option.some Jvm.ClassFile.FieldType.long)) ∈ lw_all := lw_g (lw_at lw_m2 222 rfl) rfl
theorem q597 : (Jvm.Cond.constantLong "WindowHill" (137 : Nat) (-1 : Int64)) ∈ lw_all := lw_g (lw_at lw_m2 223 rfl) rfl
theorem q598 : (Jvm.Cond.methodLink "WindowHill" (139 : Nat) ({ cls := "WindowHill", name := "none", desc := "(LWindowHill$Refused;)I" } : Jvm.MethodName)) ∈ lw_all := lw_g (lw_at lw_m2 224 rfl) rfl
theorem q599 : (Jvm.Cond.privateMethod ({ cls := "WindowHill", name := "none", desc := "(LWindowHill$Refused;)I" } : Jvm.MethodName)) ∈ lw_tbl := lw_at lw_m2 225 rfl
theorem q600 : (Jvm.Cond.instanceMethod ({ cls := "WindowHill", name := "none", desc := "(LWindowHill$Refused;)I" } : Jvm.MethodName)) ∈ lw_all := lw_g (lw_at lw_m2 226 rfl) rfl
theorem q601 : (Jvm.Cond.code ({ cls := "WindowHill", name := "none", desc := "(LWindowHill$Refused;)I" } : Jvm.MethodName) prog_1_method_11_code (2 : Nat) (Option.some Jvm.ClassFile.FieldType.int)) ∈ lw_all := lw_g (lw_at lw_m2 227 rfl) rfl
theorem q603 : (Jvm.Cond.instanceMethod ({ cls := "WindowHill", name := "pour", desc := "(IIIII)Z" } : Jvm.MethodName)) ∈ lw_all := lw_g (lw_at lw_m2 229 rfl) rfl
theorem q604 : (Jvm.Cond.selects "WindowHill" ({ cls := "WindowHill", name := "pour", desc := "(IIIII)Z" } : Jvm.MethodName) ({ cls := "WindowHill", name := "pour", desc := "(IIIII)Z" } : Jvm.MethodName)) ∈ lw_all := lw_g (lw_at lw_m2 230 rfl) rfl
theorem q605 : (Jvm.Cond.codeWith ({ cls := "WindowHill", name := "pour", desc := "(IIIII)Z" } : Jvm.MethodName) prog_1_method_18_code (9 : Nat) (Option.some Jvm.ClassFile.FieldType.boolean) [((85 : Nat), (97 : Nat), (100 : Nat), (153 : Nat)), ((5 : Nat), (112 : Nat), (113 : Nat), (41 : Nat))]) ∈ lw_all := lw_g (lw_at lw_m2 231 rfl) rfl
theorem q606 : (Jvm.Cond.classLink "WindowHill" (153 : Nat) "java/lang/IndexOutOfBoundsException") ∈ lw_all := lw_g (lw_at lw_m2 232 rfl) rfl
theorem q607 : (Jvm.Cond.methodLink "WindowHill" (143 : Nat) ({ cls := "WindowHill", name := "sortOf", desc := "(Ljava/lang/Object;)I" } : Jvm.MethodName)) ∈ lw_all := lw_g (lw_at lw_m2 233 rfl) rfl
theorem q608 : (Jvm.Cond.static ({ cls := "WindowHill", name := "sortOf", desc := "(Ljava/lang/Object;)I" } : Jvm.MethodName)) ∈ lw_all := lw_g (lw_at lw_m2 234 rfl) rfl
theorem q609 : (Jvm.Cond.code ({ cls := "WindowHill", name := "sortOf", desc := "(Ljava/lang/Object;)I" } : Jvm.MethodName) prog_1_method_2_code (1 : Nat) (Option.some Jvm.ClassFile.FieldType.int)) ∈ lw_all := lw_g (lw_at lw_m2 235 rfl) rfl
theorem q610 : (Jvm.Cond.methodLink "WindowHill" (147 : Nat) ({ cls := "java/lang/System", name := "arraycopy", desc := "(Ljava/lang/Object;ILjava/lang/Object;II)V" } : Jvm.MethodName)) ∈ lw_all := lw_g (lw_at lw_m2 236 rfl) rfl
theorem q614 : (Jvm.Cond.instanceMethod ({ cls := "WindowHill", name := "feed", desc := "(IIIII)I" } : Jvm.MethodName)) ∈ lw_all := lw_g (lw_at lw_m3 0 rfl) rfl
theorem q615 : (Jvm.Cond.selects "WindowHill" ({ cls := "WindowHill", name := "feed", desc := "(IIIII)I" } : Jvm.MethodName) ({ cls := "WindowHill", name := "feed", desc := "(IIIII)I" } : Jvm.MethodName)) ∈ lw_all := lw_g (lw_at lw_m3 1 rfl) rfl
theorem q616 : (Jvm.Cond.code ({ cls := "WindowHill", name := "feed", desc := "(IIIII)I" } : Jvm.MethodName) prog_1_method_30_code (6 : Nat) (Option.some Jvm.ClassFile.FieldType.int)) ∈ lw_all := lw_g (lw_at lw_m3 2 rfl) rfl
theorem q617 : (Jvm.Cond.methodLink "WindowHill" (211 : Nat) ({ cls := "WindowHill", name := "lay", desc := "(I)V" } : Jvm.MethodName)) ∈ lw_all := lw_g (lw_at lw_m3 3 rfl) rfl
theorem q618 : (Jvm.Cond.privateMethod ({ cls := "WindowHill", name := "lay", desc := "(I)V" } : Jvm.MethodName)) ∈ lw_tbl := lw_at lw_m3 4 rfl
theorem q619 : (Jvm.Cond.instanceMethod ({ cls := "WindowHill", name := "lay", desc := "(I)V" } : Jvm.MethodName)) ∈ lw_all := lw_g (lw_at lw_m3 5 rfl) rfl
theorem q620 : (Jvm.Cond.code ({ cls := "WindowHill", name := "lay", desc := "(I)V" } : Jvm.MethodName) prog_1_method_31_code (3 : Nat) (Option.none : Option Jvm.ClassFile.FieldType)) ∈ lw_all := lw_g (lw_at lw_m3 6 rfl) rfl
theorem q622 : (Jvm.Cond.instanceMethod ({ cls := "WindowHill", name := "town", desc := "(I)I" } : Jvm.MethodName)) ∈ lw_all := lw_g (lw_at lw_m3 8 rfl) rfl
theorem q623 : (Jvm.Cond.selects "WindowHill" ({ cls := "WindowHill", name := "town", desc := "(I)I" } : Jvm.MethodName) ({ cls := "WindowHill", name := "town", desc := "(I)I" } : Jvm.MethodName)) ∈ lw_all := lw_g (lw_at lw_m3 9 rfl) rfl
theorem q624 : (Jvm.Cond.codeWith ({ cls := "WindowHill", name := "town", desc := "(I)I" } : Jvm.MethodName) prog_1_method_34_code (4 : Nat) (Option.some Jvm.ClassFile.FieldType.int) [((13 : Nat), (63 : Nat), (64 : Nat), (34 : Nat))]) ∈ lw_all := lw_g (lw_at lw_m3 10 rfl) rfl
theorem q625 : (Jvm.Cond.methodLink "WindowHill" (221 : Nat) ({ cls := "WindowHill", name := "opens", desc := "(II)Z" } : Jvm.MethodName)) ∈ lw_all := lw_g (lw_at lw_m3 11 rfl) rfl
theorem q626 : (Jvm.Cond.privateMethod ({ cls := "WindowHill", name := "opens", desc := "(II)Z" } : Jvm.MethodName)) ∈ lw_tbl := lw_at lw_m3 12 rfl
theorem q627 : (Jvm.Cond.instanceMethod ({ cls := "WindowHill", name := "opens", desc := "(II)Z" } : Jvm.MethodName)) ∈ lw_all := lw_g (lw_at lw_m3 13 rfl) rfl
theorem q628 : (Jvm.Cond.code ({ cls := "WindowHill", name := "opens", desc := "(II)Z" } : Jvm.MethodName) prog_1_method_32_code (3 : Nat) (Option.some Jvm.ClassFile.FieldType.boolean)) ∈ lw_all := lw_g (lw_at lw_m3 14 rfl) rfl
theorem q629 : (Jvm.Cond.classLink "WindowHill" (167 : Nat) "WindowHill$Town") ∈ lw_all := lw_g (lw_at lw_m3 15 rfl) rfl
theorem q630 : (Jvm.Cond.methodLinkNest "WindowHill" (224 : Nat) ({ cls := "WindowHill$Town", name := "<init>", desc := "()V" } : Jvm.MethodName) "WindowHill") ∈ lw_tbl := lw_at lw_m3 16 rfl
theorem q631 : (Jvm.Cond.classLink "WindowHill" (225 : Nat) "WindowHill$Reader") ∈ lw_all := lw_g (lw_at lw_m3 17 rfl) rfl
theorem q633 : (Jvm.Cond.methodLink "WindowHill" (227 : Nat) ({ cls := "WindowHill$Reader", name := "<init>", desc := "(LWindowHill;I)V" } : Jvm.MethodName)) ∈ lw_all := lw_g (lw_at lw_m3 19 rfl) rfl
theorem q655 : (Jvm.Cond.fieldLinkNest "WindowHill" (264 : Nat) "WindowHill$Reader" "steps" "I" "WindowHill") ∈ lw_tbl := lw_at lw_m3 41 rfl
theorem q657 : (Jvm.Cond.fieldLinkNest "WindowHill" (236 : Nat) "WindowHill$Reader" "picture" "I" "WindowHill") ∈ lw_tbl := lw_at lw_m3 43 rfl
theorem q676 : (Jvm.Cond.methodLink "WindowHill" (230 : Nat) ({ cls := "WindowHill$Reader", name := "town", desc := "(LWindowHill$Town;)V" } : Jvm.MethodName)) ∈ lw_all := lw_g (lw_at lw_m3 62 rfl) rfl
theorem q841 : (Jvm.Cond.methodLink "WindowHill" (233 : Nat) ({ cls := "WindowHill", name := "hill", desc := "()LWindowHill$Hill;" } : Jvm.MethodName)) ∈ lw_all := lw_g (lw_at lw_m3 227 rfl) rfl
theorem q842 : (Jvm.Cond.privateMethod ({ cls := "WindowHill", name := "hill", desc := "()LWindowHill$Hill;" } : Jvm.MethodName)) ∈ lw_tbl := lw_at lw_m3 228 rfl
theorem q843 : (Jvm.Cond.instanceMethod ({ cls := "WindowHill", name := "hill", desc := "()LWindowHill$Hill;" } : Jvm.MethodName)) ∈ lw_all := lw_g (lw_at lw_m3 229 rfl) rfl
theorem q844 : (Jvm.Cond.code ({ cls := "WindowHill", name := "hill", desc := "()LWindowHill$Hill;" } : Jvm.MethodName) prog_1_method_20_code (1 : Nat) (Option.some (Jvm.ClassFile.FieldType.object "WindowHill$Hill"))) ∈ lw_all := lw_g (lw_at lw_m3 230 rfl) rfl
theorem q845 : (Jvm.Cond.methodLink "WindowHill" (239 : Nat) ({ cls := "WindowHill$Hill", name := "begin", desc := "(LWindowHill$Town;I)V" } : Jvm.MethodName)) ∈ lw_all := lw_g (lw_at lw_m3 231 rfl) rfl
theorem q850 : (Jvm.Cond.methodLink "WindowHill" (250 : Nat) ({ cls := "WindowHill", name := "many", desc := "(I)I" } : Jvm.MethodName)) ∈ lw_all := lw_g (lw_at lw_m3 236 rfl) rfl
theorem q851 : (Jvm.Cond.static ({ cls := "WindowHill", name := "many", desc := "(I)I" } : Jvm.MethodName)) ∈ lw_all := lw_g (lw_at lw_m3 237 rfl) rfl
theorem q852 : (Jvm.Cond.code ({ cls := "WindowHill", name := "many", desc := "(I)I" } : Jvm.MethodName) prog_1_method_26_code (1 : Nat) (Option.some Jvm.ClassFile.FieldType.int)) ∈ lw_all := lw_g (lw_at lw_m3 238 rfl) rfl
theorem q853 : (Jvm.Cond.methodLink "WindowHill" (186 : Nat) ({ cls := "java/lang/Integer", name := "bitCount", desc := "(I)I" } : Jvm.MethodName)) ∈ lw_all := lw_g (lw_at lw_m3 239 rfl) rfl
theorem q859 : (Jvm.Cond.methodLink "WindowHill" (253 : Nat) ({ cls := "WindowHill", name := "faulty", desc := "(LWindowHill$Bad;)I" } : Jvm.MethodName)) ∈ lw_all := lw_g (lw_at lw_m4 5 rfl) rfl
theorem q860 : (Jvm.Cond.privateMethod ({ cls := "WindowHill", name := "faulty", desc := "(LWindowHill$Bad;)I" } : Jvm.MethodName)) ∈ lw_tbl := lw_at lw_m4 6 rfl
theorem q861 : (Jvm.Cond.instanceMethod ({ cls := "WindowHill", name := "faulty", desc := "(LWindowHill$Bad;)I" } : Jvm.MethodName)) ∈ lw_all := lw_g (lw_at lw_m4 7 rfl) rfl
theorem q862 : (Jvm.Cond.code ({ cls := "WindowHill", name := "faulty", desc := "(LWindowHill$Bad;)I" } : Jvm.MethodName) prog_1_method_33_code (2 : Nat) (Option.some Jvm.ClassFile.FieldType.int)) ∈ lw_all := lw_g (lw_at lw_m4 8 rfl) rfl
theorem q864 : (Jvm.Cond.instanceMethod ({ cls := "WindowHill", name := "year", desc := "(I)I" } : Jvm.MethodName)) ∈ lw_all := lw_g (lw_at lw_m4 10 rfl) rfl
theorem q865 : (Jvm.Cond.selects "WindowHill" ({ cls := "WindowHill", name := "year", desc := "(I)I" } : Jvm.MethodName) ({ cls := "WindowHill", name := "year", desc := "(I)I" } : Jvm.MethodName)) ∈ lw_all := lw_g (lw_at lw_m4 11 rfl) rfl
theorem q866 : (Jvm.Cond.codeWith ({ cls := "WindowHill", name := "year", desc := "(I)I" } : Jvm.MethodName) prog_1_method_35_code (4 : Nat) (Option.some Jvm.ClassFile.FieldType.int) [((13 : Nat), (53 : Nat), (54 : Nat), (34 : Nat))]) ∈ lw_all := lw_g (lw_at lw_m4 12 rfl) rfl
theorem q867 : (Jvm.Cond.classLink "WindowHill" (257 : Nat) "WindowHill$Loop") ∈ lw_all := lw_g (lw_at lw_m4 13 rfl) rfl
theorem q869 : (Jvm.Cond.methodLink "WindowHill" (259 : Nat) ({ cls := "WindowHill$Loop", name := "<init>", desc := "(I)V" } : Jvm.MethodName)) ∈ lw_all := lw_g (lw_at lw_m4 15 rfl) rfl
theorem q891 : (Jvm.Cond.methodLink "WindowHill" (162 : Nat) ({ cls := "WindowHill", name := "at", desc := "()LWindowHill$Town;" } : Jvm.MethodName)) ∈ lw_all := lw_g (lw_at lw_m4 37 rfl) rfl
theorem q892 : (Jvm.Cond.privateMethod ({ cls := "WindowHill", name := "at", desc := "()LWindowHill$Town;" } : Jvm.MethodName)) ∈ lw_tbl := lw_at lw_m4 38 rfl
theorem q893 : (Jvm.Cond.instanceMethod ({ cls := "WindowHill", name := "at", desc := "()LWindowHill$Town;" } : Jvm.MethodName)) ∈ lw_all := lw_g (lw_at lw_m4 39 rfl) rfl
theorem q894 : (Jvm.Cond.code ({ cls := "WindowHill", name := "at", desc := "()LWindowHill$Town;" } : Jvm.MethodName) prog_1_method_21_code (1 : Nat) (Option.some (Jvm.ClassFile.FieldType.object "WindowHill$Town"))) ∈ lw_all := lw_g (lw_at lw_m4 40 rfl) rfl
theorem q895 : (Jvm.Cond.methodLink "WindowHill" (261 : Nat) ({ cls := "WindowHill$Reader", name := "year", desc := "(LWindowHill$Town;LWindowHill$Block;)V" } : Jvm.MethodName)) ∈ lw_all := lw_g (lw_at lw_m4 41 rfl) rfl
theorem q961 : (Jvm.Cond.instanceMethod ({ cls := "WindowHill", name := "fault", desc := "(I)I" } : Jvm.MethodName)) ∈ lw_all := lw_g (lw_at lw_m4 107 rfl) rfl
theorem q962 : (Jvm.Cond.selects "WindowHill" ({ cls := "WindowHill", name := "fault", desc := "(I)I" } : Jvm.MethodName) ({ cls := "WindowHill", name := "fault", desc := "(I)I" } : Jvm.MethodName)) ∈ lw_all := lw_g (lw_at lw_m4 108 rfl) rfl
theorem q963 : (Jvm.Cond.code ({ cls := "WindowHill", name := "fault", desc := "(I)I" } : Jvm.MethodName) prog_1_method_36_code (2 : Nat) (Option.some Jvm.ClassFile.FieldType.int)) ∈ lw_all := lw_g (lw_at lw_m4 109 rfl) rfl
theorem q965 : (Jvm.Cond.instanceMethod ({ cls := "WindowHill", name := "told", desc := "(I)I" } : Jvm.MethodName)) ∈ lw_all := lw_g (lw_at lw_m4 111 rfl) rfl
theorem q966 : (Jvm.Cond.selects "WindowHill" ({ cls := "WindowHill", name := "told", desc := "(I)I" } : Jvm.MethodName) ({ cls := "WindowHill", name := "told", desc := "(I)I" } : Jvm.MethodName)) ∈ lw_all := lw_g (lw_at lw_m4 112 rfl) rfl
theorem q967 : (Jvm.Cond.code ({ cls := "WindowHill", name := "told", desc := "(I)I" } : Jvm.MethodName) prog_1_method_37_code (2 : Nat) (Option.some Jvm.ClassFile.FieldType.int)) ∈ lw_all := lw_g (lw_at lw_m4 113 rfl) rfl
theorem q968 : (Jvm.Cond.constantLong "WindowHill" (267 : Nat) (10 : Int64)) ∈ lw_all := lw_g (lw_at lw_m4 114 rfl) rfl
theorem q969 : (Jvm.Cond.methodLink "WindowHill" (171 : Nat) ({ cls := "WindowHill", name := "isIn", desc := "(JJJ)Z" } : Jvm.MethodName)) ∈ lw_all := lw_g (lw_at lw_m4 115 rfl) rfl
theorem q970 : (Jvm.Cond.static ({ cls := "WindowHill", name := "isIn", desc := "(JJJ)Z" } : Jvm.MethodName)) ∈ lw_all := lw_g (lw_at lw_m4 116 rfl) rfl
theorem q971 : (Jvm.Cond.code ({ cls := "WindowHill", name := "isIn", desc := "(JJJ)Z" } : Jvm.MethodName) prog_1_method_19_code (6 : Nat) (Option.some Jvm.ClassFile.FieldType.boolean)) ∈ lw_all := lw_g (lw_at lw_m4 117 rfl) rfl
theorem q972 : (Jvm.Cond.methodLink "WindowHill" (272 : Nat) ({ cls := "WindowHill$Town", name := "stuck", desc := "()I" } : Jvm.MethodName)) ∈ lw_all := lw_g (lw_at lw_m4 118 rfl) rfl
theorem q976 : (Jvm.Cond.methodLink "WindowHill" (281 : Nat) ({ cls := "WindowHill$Town", name := "joins", desc := "()Z" } : Jvm.MethodName)) ∈ lw_all := lw_g (lw_at lw_m4 122 rfl) rfl
theorem q977 : (Jvm.Cond.methodLink "WindowHill" (288 : Nat) ({ cls := "WindowHill", name := "answer", desc := "(I)I" } : Jvm.MethodName)) ∈ lw_all := lw_g (lw_at lw_m4 123 rfl) rfl
theorem q978 : (Jvm.Cond.privateMethod ({ cls := "WindowHill", name := "answer", desc := "(I)I" } : Jvm.MethodName)) ∈ lw_tbl := lw_at lw_m4 124 rfl
theorem q979 : (Jvm.Cond.instanceMethod ({ cls := "WindowHill", name := "answer", desc := "(I)I" } : Jvm.MethodName)) ∈ lw_all := lw_g (lw_at lw_m4 125 rfl) rfl
theorem q980 : (Jvm.Cond.code ({ cls := "WindowHill", name := "answer", desc := "(I)I" } : Jvm.MethodName) prog_1_method_29_code (2 : Nat) (Option.some Jvm.ClassFile.FieldType.int)) ∈ lw_all := lw_g (lw_at lw_m4 126 rfl) rfl
theorem q982 : (Jvm.Cond.instanceMethod ({ cls := "WindowHill", name := "picture", desc := "()J" } : Jvm.MethodName)) ∈ lw_all := lw_g (lw_at lw_m4 128 rfl) rfl
theorem q983 : (Jvm.Cond.selects "WindowHill" ({ cls := "WindowHill", name := "picture", desc := "()J" } : Jvm.MethodName) ({ cls := "WindowHill", name := "picture", desc := "()J" } : Jvm.MethodName)) ∈ lw_all := lw_g (lw_at lw_m4 129 rfl) rfl
theorem q984 : (Jvm.Cond.code ({ cls := "WindowHill", name := "picture", desc := "()J" } : Jvm.MethodName) prog_1_method_38_code (1 : Nat) (Option.some Jvm.ClassFile.FieldType.long)) ∈ lw_all := lw_g (lw_at lw_m4 130 rfl) rfl
theorem q986 : (Jvm.Cond.instanceMethod ({ cls := "WindowHill", name := "lamp", desc := "(III)I" } : Jvm.MethodName)) ∈ lw_all := lw_g (lw_at lw_m4 132 rfl) rfl
theorem q987 : (Jvm.Cond.selects "WindowHill" ({ cls := "WindowHill", name := "lamp", desc := "(III)I" } : Jvm.MethodName) ({ cls := "WindowHill", name := "lamp", desc := "(III)I" } : Jvm.MethodName)) ∈ lw_all := lw_g (lw_at lw_m4 133 rfl) rfl
theorem q988 : (Jvm.Cond.code ({ cls := "WindowHill", name := "lamp", desc := "(III)I" } : Jvm.MethodName) prog_1_method_39_code (5 : Nat) (Option.some Jvm.ClassFile.FieldType.int)) ∈ lw_all := lw_g (lw_at lw_m4 134 rfl) rfl
theorem q989 : (Jvm.Cond.constantLong "WindowHill" (291 : Nat) (3 : Int64)) ∈ lw_all := lw_g (lw_at lw_m4 135 rfl) rfl
theorem q990 : (Jvm.Cond.methodLink "WindowHill" (293 : Nat) ({ cls := "WindowHill", name := "whyNoHouse", desc := "(II)I" } : Jvm.MethodName)) ∈ lw_all := lw_g (lw_at lw_m4 136 rfl) rfl
theorem q991 : (Jvm.Cond.privateMethod ({ cls := "WindowHill", name := "whyNoHouse", desc := "(II)I" } : Jvm.MethodName)) ∈ lw_tbl := lw_at lw_m4 137 rfl
theorem q992 : (Jvm.Cond.instanceMethod ({ cls := "WindowHill", name := "whyNoHouse", desc := "(II)I" } : Jvm.MethodName)) ∈ lw_all := lw_g (lw_at lw_m4 138 rfl) rfl
theorem q993 : (Jvm.Cond.code ({ cls := "WindowHill", name := "whyNoHouse", desc := "(II)I" } : Jvm.MethodName) prog_1_method_27_code (3 : Nat) (Option.some Jvm.ClassFile.FieldType.int)) ∈ lw_all := lw_g (lw_at lw_m4 139 rfl) rfl
theorem q994 : (Jvm.Cond.methodLink "WindowHill" (192 : Nat) ({ cls := "WindowHill", name := "isPlace", desc := "(II)Z" } : Jvm.MethodName)) ∈ lw_all := lw_g (lw_at lw_m4 140 rfl) rfl
theorem q995 : (Jvm.Cond.privateMethod ({ cls := "WindowHill", name := "isPlace", desc := "(II)Z" } : Jvm.MethodName)) ∈ lw_tbl := lw_at lw_m4 141 rfl
theorem q996 : (Jvm.Cond.instanceMethod ({ cls := "WindowHill", name := "isPlace", desc := "(II)Z" } : Jvm.MethodName)) ∈ lw_all := lw_g (lw_at lw_m4 142 rfl) rfl
theorem q997 : (Jvm.Cond.code ({ cls := "WindowHill", name := "isPlace", desc := "(II)Z" } : Jvm.MethodName) prog_1_method_22_code (3 : Nat) (Option.some Jvm.ClassFile.FieldType.boolean)) ∈ lw_all := lw_g (lw_at lw_m4 143 rfl) rfl
theorem q998 : (Jvm.Cond.methodLink "WindowHill" (196 : Nat) ({ cls := "WindowHill$Town", name := "cell", desc := "(II)I" } : Jvm.MethodName)) ∈ lw_all := lw_g (lw_at lw_m4 144 rfl) rfl
theorem q999 : (Jvm.Cond.methodLink "WindowHill" (200 : Nat) ({ cls := "WindowHill$Town", name := "isHouse", desc := "(I)Z" } : Jvm.MethodName)) ∈ lw_all := lw_g (lw_at lw_m4 145 rfl) rfl
theorem q1004 : (Jvm.Cond.instanceMethod ({ cls := "WindowHill", name := "rule", desc := "(II)I" } : Jvm.MethodName)) ∈ lw_all := lw_g (lw_at lw_m4 150 rfl) rfl
theorem q1005 : (Jvm.Cond.selects "WindowHill" ({ cls := "WindowHill", name := "rule", desc := "(II)I" } : Jvm.MethodName) ({ cls := "WindowHill", name := "rule", desc := "(II)I" } : Jvm.MethodName)) ∈ lw_all := lw_g (lw_at lw_m4 151 rfl) rfl
theorem q1006 : (Jvm.Cond.code ({ cls := "WindowHill", name := "rule", desc := "(II)I" } : Jvm.MethodName) prog_1_method_40_code (3 : Nat) (Option.some Jvm.ClassFile.FieldType.int)) ∈ lw_all := lw_g (lw_at lw_m4 152 rfl) rfl
theorem q1007 : (Jvm.Cond.methodLink "WindowHill" (299 : Nat) ({ cls := "WindowHill", name := "isRule", desc := "(I)Z" } : Jvm.MethodName)) ∈ lw_all := lw_g (lw_at lw_m4 153 rfl) rfl
theorem q1008 : (Jvm.Cond.privateMethod ({ cls := "WindowHill", name := "isRule", desc := "(I)Z" } : Jvm.MethodName)) ∈ lw_tbl := lw_at lw_m4 154 rfl
theorem q1009 : (Jvm.Cond.instanceMethod ({ cls := "WindowHill", name := "isRule", desc := "(I)Z" } : Jvm.MethodName)) ∈ lw_all := lw_g (lw_at lw_m4 155 rfl) rfl
theorem q1010 : (Jvm.Cond.code ({ cls := "WindowHill", name := "isRule", desc := "(I)Z" } : Jvm.MethodName) prog_1_method_23_code (2 : Nat) (Option.some Jvm.ClassFile.FieldType.boolean)) ∈ lw_all := lw_g (lw_at lw_m4 156 rfl) rfl
theorem q1012 : (Jvm.Cond.instanceMethod ({ cls := "WindowHill", name := "citizen", desc := "(II)I" } : Jvm.MethodName)) ∈ lw_all := lw_g (lw_at lw_m4 158 rfl) rfl
theorem q1013 : (Jvm.Cond.selects "WindowHill" ({ cls := "WindowHill", name := "citizen", desc := "(II)I" } : Jvm.MethodName) ({ cls := "WindowHill", name := "citizen", desc := "(II)I" } : Jvm.MethodName)) ∈ lw_all := lw_g (lw_at lw_m4 159 rfl) rfl
theorem q1014 : (Jvm.Cond.code ({ cls := "WindowHill", name := "citizen", desc := "(II)I" } : Jvm.MethodName) prog_1_method_41_code (3 : Nat) (Option.some Jvm.ClassFile.FieldType.int)) ∈ lw_all := lw_g (lw_at lw_m4 160 rfl) rfl
theorem q1015 : (Jvm.Cond.methodLink "WindowHill" (308 : Nat) ({ cls := "WindowHill", name := "isCitizen", desc := "(I)Z" } : Jvm.MethodName)) ∈ lw_all := lw_g (lw_at lw_m4 161 rfl) rfl
theorem q1016 : (Jvm.Cond.privateMethod ({ cls := "WindowHill", name := "isCitizen", desc := "(I)Z" } : Jvm.MethodName)) ∈ lw_tbl := lw_at lw_m4 162 rfl
theorem q1017 : (Jvm.Cond.instanceMethod ({ cls := "WindowHill", name := "isCitizen", desc := "(I)Z" } : Jvm.MethodName)) ∈ lw_all := lw_g (lw_at lw_m4 163 rfl) rfl
theorem q1018 : (Jvm.Cond.code ({ cls := "WindowHill", name := "isCitizen", desc := "(I)Z" } : Jvm.MethodName) prog_1_method_24_code (2 : Nat) (Option.some Jvm.ClassFile.FieldType.boolean)) ∈ lw_all := lw_g (lw_at lw_m4 164 rfl) rfl
theorem q1020 : (Jvm.Cond.instanceMethod ({ cls := "WindowHill", name := "turn", desc := "(II)I" } : Jvm.MethodName)) ∈ lw_all := lw_g (lw_at lw_m4 166 rfl) rfl
theorem q1021 : (Jvm.Cond.selects "WindowHill" ({ cls := "WindowHill", name := "turn", desc := "(II)I" } : Jvm.MethodName) ({ cls := "WindowHill", name := "turn", desc := "(II)I" } : Jvm.MethodName)) ∈ lw_all := lw_g (lw_at lw_m4 167 rfl) rfl
theorem q1022 : (Jvm.Cond.code ({ cls := "WindowHill", name := "turn", desc := "(II)I" } : Jvm.MethodName) prog_1_method_42_code (3 : Nat) (Option.some Jvm.ClassFile.FieldType.int)) ∈ lw_all := lw_g (lw_at lw_m4 168 rfl) rfl
theorem q1023 : (Jvm.Cond.methodLink "WindowHill" (317 : Nat) ({ cls := "WindowHill", name := "whyStuck", desc := "(II)I" } : Jvm.MethodName)) ∈ lw_all := lw_g (lw_at lw_m4 169 rfl) rfl
theorem q1024 : (Jvm.Cond.privateMethod ({ cls := "WindowHill", name := "whyStuck", desc := "(II)I" } : Jvm.MethodName)) ∈ lw_tbl := lw_at lw_m4 170 rfl
theorem q1025 : (Jvm.Cond.instanceMethod ({ cls := "WindowHill", name := "whyStuck", desc := "(II)I" } : Jvm.MethodName)) ∈ lw_all := lw_g (lw_at lw_m4 171 rfl) rfl
theorem q1026 : (Jvm.Cond.code ({ cls := "WindowHill", name := "whyStuck", desc := "(II)I" } : Jvm.MethodName) prog_1_method_28_code (3 : Nat) (Option.some Jvm.ClassFile.FieldType.int)) ∈ lw_all := lw_g (lw_at lw_m4 172 rfl) rfl
theorem q1027 : (Jvm.Cond.methodLink "WindowHill" (204 : Nat) ({ cls := "WindowHill$Town", name := "free", desc := "()I" } : Jvm.MethodName)) ∈ lw_all := lw_g (lw_at lw_m4 173 rfl) rfl
theorem q1033 : (Jvm.Cond.instanceMethod ({ cls := "WindowHill", name := "paint", desc := "(J)I" } : Jvm.MethodName)) ∈ lw_all := lw_g (lw_at lw_m4 179 rfl) rfl
theorem q1034 : (Jvm.Cond.selects "WindowHill" ({ cls := "WindowHill", name := "paint", desc := "(J)I" } : Jvm.MethodName) ({ cls := "WindowHill", name := "paint", desc := "(J)I" } : Jvm.MethodName)) ∈ lw_all := lw_g (lw_at lw_m4 180 rfl) rfl
theorem q1035 : (Jvm.Cond.code ({ cls := "WindowHill", name := "paint", desc := "(J)I" } : Jvm.MethodName) prog_1_method_43_code (3 : Nat) (Option.some Jvm.ClassFile.FieldType.int)) ∈ lw_all := lw_g (lw_at lw_m4 181 rfl) rfl
theorem q1036 : (Jvm.Cond.methodLink "WindowHill" (320 : Nat) ({ cls := "WindowHill", name := "isPicture", desc := "(J)Z" } : Jvm.MethodName)) ∈ lw_all := lw_g (lw_at lw_m4 182 rfl) rfl
theorem q1037 : (Jvm.Cond.static ({ cls := "WindowHill", name := "isPicture", desc := "(J)Z" } : Jvm.MethodName)) ∈ lw_all := lw_g (lw_at lw_m4 183 rfl) rfl
theorem q1038 : (Jvm.Cond.code ({ cls := "WindowHill", name := "isPicture", desc := "(J)Z" } : Jvm.MethodName) prog_1_method_25_code (2 : Nat) (Option.some Jvm.ClassFile.FieldType.boolean)) ∈ lw_all := lw_g (lw_at lw_m4 184 rfl) rfl
theorem q1039 : (Jvm.Cond.constantLong "WindowHill" (184 : Nat) (1073741823 : Int64)) ∈ lw_all := lw_g (lw_at lw_m4 185 rfl) rfl
theorem q1040 : (Jvm.Cond.methodLink "WindowHill" (324 : Nat) ({ cls := "WindowHill$Hill", name := "paint", desc := "(I)V" } : Jvm.MethodName)) ∈ lw_all := lw_g (lw_at lw_m4 186 rfl) rfl
theorem q1046 : (Jvm.Cond.instanceMethod ({ cls := "WindowHill", name := "paintRows", desc := "(I)I" } : Jvm.MethodName)) ∈ lw_all := lw_g (lw_at lw_m4 192 rfl) rfl
theorem q1047 : (Jvm.Cond.selects "WindowHill" ({ cls := "WindowHill", name := "paintRows", desc := "(I)I" } : Jvm.MethodName) ({ cls := "WindowHill", name := "paintRows", desc := "(I)I" } : Jvm.MethodName)) ∈ lw_all := lw_g (lw_at lw_m4 193 rfl) rfl
theorem q1048 : (Jvm.Cond.codeWith ({ cls := "WindowHill", name := "paintRows", desc := "(I)I" } : Jvm.MethodName) prog_1_method_44_code (5 : Nat) (Option.some Jvm.ClassFile.FieldType.int) [((5 : Nat), (141 : Nat), (142 : Nat), (41 : Nat))]) ∈ lw_all := lw_g (lw_at lw_m4 194 rfl) rfl
theorem q1049 : (Jvm.Cond.methodLink "WindowHill" (327 : Nat) ({ cls := "WindowHill", name := "sizeOf", desc := "(Ljava/lang/Object;)I" } : Jvm.MethodName)) ∈ lw_all := lw_g (lw_at lw_m4 195 rfl) rfl
theorem q1050 : (Jvm.Cond.static ({ cls := "WindowHill", name := "sizeOf", desc := "(Ljava/lang/Object;)I" } : Jvm.MethodName)) ∈ lw_all := lw_g (lw_at lw_m4 196 rfl) rfl
theorem q1051 : (Jvm.Cond.code ({ cls := "WindowHill", name := "sizeOf", desc := "(Ljava/lang/Object;)I" } : Jvm.MethodName) prog_1_method_3_code (2 : Nat) (Option.some Jvm.ClassFile.FieldType.int)) ∈ lw_all := lw_g (lw_at lw_m4 197 rfl) rfl
theorem q1052 : (Jvm.Cond.constantLong "WindowHill" (330 : Nat) (31 : Int64)) ∈ lw_all := lw_g (lw_at lw_m4 198 rfl) rfl
theorem q1054 : (Jvm.Cond.instanceMethod ({ cls := "WindowHill", name := "copyRows", desc := "(I)I" } : Jvm.MethodName)) ∈ lw_all := lw_g (lw_at lw_m4 200 rfl) rfl
theorem q1055 : (Jvm.Cond.selects "WindowHill" ({ cls := "WindowHill", name := "copyRows", desc := "(I)I" } : Jvm.MethodName) ({ cls := "WindowHill", name := "copyRows", desc := "(I)I" } : Jvm.MethodName)) ∈ lw_all := lw_g (lw_at lw_m4 201 rfl) rfl
theorem q1056 : (Jvm.Cond.codeWith ({ cls := "WindowHill", name := "copyRows", desc := "(I)I" } : Jvm.MethodName) prog_1_method_46_code (3 : Nat) (Option.some Jvm.ClassFile.FieldType.int) [((5 : Nat), (47 : Nat), (50 : Nat), (41 : Nat))]) ∈ lw_all := lw_g (lw_at lw_m4 202 rfl) rfl
theorem q1057 : (Jvm.Cond.methodLink "WindowHill" (332 : Nat) ({ cls := "WindowHill", name := "strip", desc := "(II)I" } : Jvm.MethodName)) ∈ lw_all := lw_g (lw_at lw_m4 203 rfl) rfl
theorem q1058 : (Jvm.Cond.privateMethod ({ cls := "WindowHill", name := "strip", desc := "(II)I" } : Jvm.MethodName)) ∈ lw_tbl := lw_at lw_m4 204 rfl
theorem q1059 : (Jvm.Cond.instanceMethod ({ cls := "WindowHill", name := "strip", desc := "(II)I" } : Jvm.MethodName)) ∈ lw_all := lw_g (lw_at lw_m4 205 rfl) rfl
theorem q1060 : (Jvm.Cond.code ({ cls := "WindowHill", name := "strip", desc := "(II)I" } : Jvm.MethodName) prog_1_method_45_code (3 : Nat) (Option.some Jvm.ClassFile.FieldType.int)) ∈ lw_all := lw_g (lw_at lw_m4 206 rfl) rfl
theorem q1061 : (Jvm.Cond.methodLink "WindowHill" (335 : Nat) ({ cls := "WindowHill", name := "write", desc := "(IIJ)Z" } : Jvm.MethodName)) ∈ lw_all := lw_g (lw_at lw_m4 207 rfl) rfl
theorem q1063 : (Jvm.Cond.instanceMethod ({ cls := "WindowHill", name := "mayor", desc := "(I)Z" } : Jvm.MethodName)) ∈ lw_all := lw_g (lw_at lw_m4 209 rfl) rfl
theorem q1064 : (Jvm.Cond.selects "WindowHill" ({ cls := "WindowHill", name := "mayor", desc := "(I)Z" } : Jvm.MethodName) ({ cls := "WindowHill", name := "mayor", desc := "(I)Z" } : Jvm.MethodName)) ∈ lw_all := lw_g (lw_at lw_m4 210 rfl) rfl
theorem q1065 : (Jvm.Cond.code ({ cls := "WindowHill", name := "mayor", desc := "(I)Z" } : Jvm.MethodName) prog_1_method_47_code (2 : Nat) (Option.some Jvm.ClassFile.FieldType.boolean)) ∈ lw_all := lw_g (lw_at lw_m4 211 rfl) rfl
theorem q1067 : (Jvm.Cond.instanceMethod ({ cls := "WindowHill", name := "bend", desc := "(III)Z" } : Jvm.MethodName)) ∈ lw_all := lw_g (lw_at lw_m4 213 rfl) rfl
theorem q1068 : (Jvm.Cond.selects "WindowHill" ({ cls := "WindowHill", name := "bend", desc := "(III)Z" } : Jvm.MethodName) ({ cls := "WindowHill", name := "bend", desc := "(III)Z" } : Jvm.MethodName)) ∈ lw_all := lw_g (lw_at lw_m4 214 rfl) rfl
theorem q1069 : (Jvm.Cond.code ({ cls := "WindowHill", name := "bend", desc := "(III)Z" } : Jvm.MethodName) prog_1_method_48_code (4 : Nat) (Option.some Jvm.ClassFile.FieldType.boolean)) ∈ lw_all := lw_g (lw_at lw_m4 215 rfl) rfl
theorem q1071 : (Jvm.Cond.instanceMethod ({ cls := "WindowHill", name := "night", desc := "(I)I" } : Jvm.MethodName)) ∈ lw_all := lw_g (lw_at lw_m4 217 rfl) rfl
theorem q1072 : (Jvm.Cond.selects "WindowHill" ({ cls := "WindowHill", name := "night", desc := "(I)I" } : Jvm.MethodName) ({ cls := "WindowHill", name := "night", desc := "(I)I" } : Jvm.MethodName)) ∈ lw_all := lw_g (lw_at lw_m4 218 rfl) rfl
theorem q1073 : (Jvm.Cond.code ({ cls := "WindowHill", name := "night", desc := "(I)I" } : Jvm.MethodName) prog_1_method_49_code (3 : Nat) (Option.some Jvm.ClassFile.FieldType.int)) ∈ lw_all := lw_g (lw_at lw_m4 219 rfl) rfl
theorem q1074 : (Jvm.Cond.constantLong "WindowHill" (339 : Nat) (999 : Int64)) ∈ lw_all := lw_g (lw_at lw_m4 220 rfl) rfl
theorem q1075 : (Jvm.Cond.methodLink "WindowHill" (341 : Nat) ({ cls := "WindowHill$Hill", name := "night", desc := "()V" } : Jvm.MethodName)) ∈ lw_all := lw_g (lw_at lw_m4 221 rfl) rfl
theorem q1101 : (Jvm.Cond.instanceMethod ({ cls := "WindowHill", name := "ahead", desc := "(I)J" } : Jvm.MethodName)) ∈ lw_all := lw_g (lw_at lw_m5 7 rfl) rfl
theorem q1102 : (Jvm.Cond.selects "WindowHill" ({ cls := "WindowHill", name := "ahead", desc := "(I)J" } : Jvm.MethodName) ({ cls := "WindowHill", name := "ahead", desc := "(I)J" } : Jvm.MethodName)) ∈ lw_all := lw_g (lw_at lw_m5 8 rfl) rfl
theorem q1103 : (Jvm.Cond.code ({ cls := "WindowHill", name := "ahead", desc := "(I)J" } : Jvm.MethodName) prog_1_method_50_code (2 : Nat) (Option.some Jvm.ClassFile.FieldType.long)) ∈ lw_all := lw_g (lw_at lw_m5 9 rfl) rfl
theorem q1104 : (Jvm.Cond.methodLink "WindowHill" (343 : Nat) ({ cls := "WindowHill$Hill", name := "after", desc := "(II)I" } : Jvm.MethodName)) ∈ lw_all := lw_g (lw_at lw_m5 10 rfl) rfl
theorem q1109 : (Jvm.Cond.instanceMethod ({ cls := "WindowHill", name := "again", desc := "(I)I" } : Jvm.MethodName)) ∈ lw_all := lw_g (lw_at lw_m5 15 rfl) rfl
theorem q1110 : (Jvm.Cond.selects "WindowHill" ({ cls := "WindowHill", name := "again", desc := "(I)I" } : Jvm.MethodName) ({ cls := "WindowHill", name := "again", desc := "(I)I" } : Jvm.MethodName)) ∈ lw_all := lw_g (lw_at lw_m5 16 rfl) rfl
theorem q1111 : (Jvm.Cond.code ({ cls := "WindowHill", name := "again", desc := "(I)I" } : Jvm.MethodName) prog_1_method_52_code (2 : Nat) (Option.some Jvm.ClassFile.FieldType.int)) ∈ lw_all := lw_g (lw_at lw_m5 17 rfl) rfl
theorem q1112 : (Jvm.Cond.methodLink "WindowHill" (355 : Nat) ({ cls := "WindowHill", name := "comesAgain", desc := "()Z" } : Jvm.MethodName)) ∈ lw_all := lw_g (lw_at lw_m5 18 rfl) rfl
theorem q1113 : (Jvm.Cond.privateMethod ({ cls := "WindowHill", name := "comesAgain", desc := "()Z" } : Jvm.MethodName)) ∈ lw_tbl := lw_at lw_m5 19 rfl
theorem q1114 : (Jvm.Cond.instanceMethod ({ cls := "WindowHill", name := "comesAgain", desc := "()Z" } : Jvm.MethodName)) ∈ lw_all := lw_g (lw_at lw_m5 20 rfl) rfl
theorem q1115 : (Jvm.Cond.code ({ cls := "WindowHill", name := "comesAgain", desc := "()Z" } : Jvm.MethodName) prog_1_method_51_code (3 : Nat) (Option.some Jvm.ClassFile.FieldType.boolean)) ∈ lw_all := lw_g (lw_at lw_m5 21 rfl) rfl
theorem q1116 : (Jvm.Cond.methodLink "WindowHill" (346 : Nat) ({ cls := "WindowHill$Hill", name := "next", desc := "(I)I" } : Jvm.MethodName)) ∈ lw_all := lw_g (lw_at lw_m5 22 rfl) rfl
theorem q1118 : (Jvm.Cond.instanceMethod ({ cls := "WindowHill", name := "far", desc := "(I)J" } : Jvm.MethodName)) ∈ lw_all := lw_g (lw_at lw_m5 24 rfl) rfl
theorem q1119 : (Jvm.Cond.selects "WindowHill" ({ cls := "WindowHill", name := "far", desc := "(I)J" } : Jvm.MethodName) ({ cls := "WindowHill", name := "far", desc := "(I)J" } : Jvm.MethodName)) ∈ lw_all := lw_g (lw_at lw_m5 25 rfl) rfl
theorem q1120 : (Jvm.Cond.code ({ cls := "WindowHill", name := "far", desc := "(I)J" } : Jvm.MethodName) prog_1_method_53_code (2 : Nat) (Option.some Jvm.ClassFile.FieldType.long)) ∈ lw_all := lw_g (lw_at lw_m5 26 rfl) rfl
theorem q1121 : (Jvm.Cond.constantLong "WindowHill" (358 : Nat) (999999999 : Int64)) ∈ lw_all := lw_g (lw_at lw_m5 27 rfl) rfl
theorem q1123 : (Jvm.Cond.instanceMethod ({ cls := "WindowHill", name := "walks", desc := "(I)I" } : Jvm.MethodName)) ∈ lw_all := lw_g (lw_at lw_m5 29 rfl) rfl
theorem q1124 : (Jvm.Cond.selects "WindowHill" ({ cls := "WindowHill", name := "walks", desc := "(I)I" } : Jvm.MethodName) ({ cls := "WindowHill", name := "walks", desc := "(I)I" } : Jvm.MethodName)) ∈ lw_all := lw_g (lw_at lw_m5 30 rfl) rfl
theorem q1125 : (Jvm.Cond.code ({ cls := "WindowHill", name := "walks", desc := "(I)I" } : Jvm.MethodName) prog_1_method_55_code (6 : Nat) (Option.some Jvm.ClassFile.FieldType.int)) ∈ lw_all := lw_g (lw_at lw_m5 31 rfl) rfl
theorem q1126 : (Jvm.Cond.constantLong "WindowHill" (360 : Nat) (2 : Int64)) ∈ lw_all := lw_g (lw_at lw_m5 32 rfl) rfl
theorem q1127 : (Jvm.Cond.methodLink "WindowHill" (362 : Nat) ({ cls := "WindowHill", name := "moved", desc := "(III)I" } : Jvm.MethodName)) ∈ lw_all := lw_g (lw_at lw_m5 33 rfl) rfl
theorem q1128 : (Jvm.Cond.privateMethod ({ cls := "WindowHill", name := "moved", desc := "(III)I" } : Jvm.MethodName)) ∈ lw_tbl := lw_at lw_m5 34 rfl
theorem q1129 : (Jvm.Cond.instanceMethod ({ cls := "WindowHill", name := "moved", desc := "(III)I" } : Jvm.MethodName)) ∈ lw_all := lw_g (lw_at lw_m5 35 rfl) rfl
theorem q1130 : (Jvm.Cond.code ({ cls := "WindowHill", name := "moved", desc := "(III)I" } : Jvm.MethodName) prog_1_method_54_code (7 : Nat) (Option.some Jvm.ClassFile.FieldType.int)) ∈ lw_all := lw_g (lw_at lw_m5 36 rfl) rfl
theorem q1132 : (Jvm.Cond.instanceMethod ({ cls := "WindowHill", name := "still", desc := "()I" } : Jvm.MethodName)) ∈ lw_all := lw_g (lw_at lw_m5 38 rfl) rfl
theorem q1133 : (Jvm.Cond.selects "WindowHill" ({ cls := "WindowHill", name := "still", desc := "()I" } : Jvm.MethodName) ({ cls := "WindowHill", name := "still", desc := "()I" } : Jvm.MethodName)) ∈ lw_all := lw_g (lw_at lw_m5 39 rfl) rfl
theorem q1134 : (Jvm.Cond.code ({ cls := "WindowHill", name := "still", desc := "()I" } : Jvm.MethodName) prog_1_method_56_code (1 : Nat) (Option.some Jvm.ClassFile.FieldType.int)) ∈ lw_all := lw_g (lw_at lw_m5 40 rfl) rfl
theorem q1136 : (Jvm.Cond.instanceMethod ({ cls := "WindowHill", name := "next", desc := "(I)I" } : Jvm.MethodName)) ∈ lw_all := lw_g (lw_at lw_m5 42 rfl) rfl
theorem q1137 : (Jvm.Cond.selects "WindowHill" ({ cls := "WindowHill", name := "next", desc := "(I)I" } : Jvm.MethodName) ({ cls := "WindowHill", name := "next", desc := "(I)I" } : Jvm.MethodName)) ∈ lw_all := lw_g (lw_at lw_m5 43 rfl) rfl
theorem q1138 : (Jvm.Cond.code ({ cls := "WindowHill", name := "next", desc := "(I)I" } : Jvm.MethodName) prog_1_method_57_code (4 : Nat) (Option.some Jvm.ClassFile.FieldType.int)) ∈ lw_all := lw_g (lw_at lw_m5 44 rfl) rfl
theorem q1140 : (Jvm.Cond.instanceMethod ({ cls := "WindowHill", name := "oil", desc := "(I)I" } : Jvm.MethodName)) ∈ lw_all := lw_g (lw_at lw_m5 46 rfl) rfl
theorem q1141 : (Jvm.Cond.selects "WindowHill" ({ cls := "WindowHill", name := "oil", desc := "(I)I" } : Jvm.MethodName) ({ cls := "WindowHill", name := "oil", desc := "(I)I" } : Jvm.MethodName)) ∈ lw_all := lw_g (lw_at lw_m5 47 rfl) rfl
theorem q1142 : (Jvm.Cond.code ({ cls := "WindowHill", name := "oil", desc := "(I)I" } : Jvm.MethodName) prog_1_method_58_code (5 : Nat) (Option.some Jvm.ClassFile.FieldType.int)) ∈ lw_all := lw_g (lw_at lw_m5 48 rfl) rfl
theorem q1143 : (Jvm.Cond.constantLong "WindowHill" (366 : Nat) (9999 : Int64)) ∈ lw_all := lw_g (lw_at lw_m5 49 rfl) rfl
theorem q1145 : (Jvm.Cond.instanceMethod ({ cls := "WindowHill", name := "brightest", desc := "(I)I" } : Jvm.MethodName)) ∈ lw_all := lw_g (lw_at lw_m5 51 rfl) rfl
theorem q1146 : (Jvm.Cond.selects "WindowHill" ({ cls := "WindowHill", name := "brightest", desc := "(I)I" } : Jvm.MethodName) ({ cls := "WindowHill", name := "brightest", desc := "(I)I" } : Jvm.MethodName)) ∈ lw_all := lw_g (lw_at lw_m5 52 rfl) rfl
theorem q1147 : (Jvm.Cond.code ({ cls := "WindowHill", name := "brightest", desc := "(I)I" } : Jvm.MethodName) prog_1_method_59_code (5 : Nat) (Option.some Jvm.ClassFile.FieldType.int)) ∈ lw_all := lw_g (lw_at lw_m5 53 rfl) rfl
theorem q1148 : (Jvm.Cond.methodLink "WindowHill" (368 : Nat) ({ cls := "java/lang/Math", name := "max", desc := "(II)I" } : Jvm.MethodName)) ∈ lw_all := lw_g (lw_at lw_m5 54 rfl) rfl
theorem q1152 : (Jvm.Cond.instanceMethod ({ cls := "WindowHill", name := "ancestors", desc := "()J" } : Jvm.MethodName)) ∈ lw_all := lw_g (lw_at lw_m5 58 rfl) rfl
theorem q1153 : (Jvm.Cond.selects "WindowHill" ({ cls := "WindowHill", name := "ancestors", desc := "()J" } : Jvm.MethodName) ({ cls := "WindowHill", name := "ancestors", desc := "()J" } : Jvm.MethodName)) ∈ lw_all := lw_g (lw_at lw_m5 59 rfl) rfl
theorem q1154 : (Jvm.Cond.code ({ cls := "WindowHill", name := "ancestors", desc := "()J" } : Jvm.MethodName) prog_1_method_65_code (1 : Nat) (Option.some Jvm.ClassFile.FieldType.long)) ∈ lw_all := lw_g (lw_at lw_m5 60 rfl) rfl
theorem q1155 : (Jvm.Cond.methodLink "WindowHill" (389 : Nat) ({ cls := "WindowHill", name := "sum", desc := "(IZ)J" } : Jvm.MethodName)) ∈ lw_all := lw_g (lw_at lw_m5 61 rfl) rfl
theorem q1156 : (Jvm.Cond.privateMethod ({ cls := "WindowHill", name := "sum", desc := "(IZ)J" } : Jvm.MethodName)) ∈ lw_tbl := lw_at lw_m5 62 rfl
theorem q1157 : (Jvm.Cond.instanceMethod ({ cls := "WindowHill", name := "sum", desc := "(IZ)J" } : Jvm.MethodName)) ∈ lw_all := lw_g (lw_at lw_m5 63 rfl) rfl
theorem q1158 : (Jvm.Cond.code ({ cls := "WindowHill", name := "sum", desc := "(IZ)J" } : Jvm.MethodName) prog_1_method_63_code (9 : Nat) (Option.some Jvm.ClassFile.FieldType.long)) ∈ lw_all := lw_g (lw_at lw_m5 64 rfl) rfl
theorem q1159 : (Jvm.Cond.methodLink "WindowHill" (385 : Nat) ({ cls := "WindowHill", name := "fill", desc := "(IZ)V" } : Jvm.MethodName)) ∈ lw_all := lw_g (lw_at lw_m5 65 rfl) rfl
theorem q1160 : (Jvm.Cond.privateMethod ({ cls := "WindowHill", name := "fill", desc := "(IZ)V" } : Jvm.MethodName)) ∈ lw_tbl := lw_at lw_m5 66 rfl
theorem q1161 : (Jvm.Cond.instanceMethod ({ cls := "WindowHill", name := "fill", desc := "(IZ)V" } : Jvm.MethodName)) ∈ lw_all := lw_g (lw_at lw_m5 67 rfl) rfl
theorem q1162 : (Jvm.Cond.code ({ cls := "WindowHill", name := "fill", desc := "(IZ)V" } : Jvm.MethodName) prog_1_method_62_code (10 : Nat) (Option.none : Option Jvm.ClassFile.FieldType)) ∈ lw_all := lw_g (lw_at lw_m5 68 rfl) rfl
theorem q1163 : (Jvm.Cond.methodLink "WindowHill" (378 : Nat) ({ cls := "WindowHill", name := "isPattern", desc := "(II)Z" } : Jvm.MethodName)) ∈ lw_all := lw_g (lw_at lw_m5 69 rfl) rfl
theorem q1164 : (Jvm.Cond.privateMethod ({ cls := "WindowHill", name := "isPattern", desc := "(II)Z" } : Jvm.MethodName)) ∈ lw_tbl := lw_at lw_m5 70 rfl
theorem q1165 : (Jvm.Cond.instanceMethod ({ cls := "WindowHill", name := "isPattern", desc := "(II)Z" } : Jvm.MethodName)) ∈ lw_all := lw_g (lw_at lw_m5 71 rfl) rfl
theorem q1166 : (Jvm.Cond.code ({ cls := "WindowHill", name := "isPattern", desc := "(II)Z" } : Jvm.MethodName) prog_1_method_60_code (4 : Nat) (Option.some Jvm.ClassFile.FieldType.boolean)) ∈ lw_all := lw_g (lw_at lw_m5 72 rfl) rfl
theorem q1167 : (Jvm.Cond.methodLink "WindowHill" (381 : Nat) ({ cls := "WindowHill", name := "fits", desc := "(IIIIIZ)Z" } : Jvm.MethodName)) ∈ lw_all := lw_g (lw_at lw_m5 73 rfl) rfl
theorem q1168 : (Jvm.Cond.privateMethod ({ cls := "WindowHill", name := "fits", desc := "(IIIIIZ)Z" } : Jvm.MethodName)) ∈ lw_tbl := lw_at lw_m5 74 rfl
theorem q1169 : (Jvm.Cond.instanceMethod ({ cls := "WindowHill", name := "fits", desc := "(IIIIIZ)Z" } : Jvm.MethodName)) ∈ lw_all := lw_g (lw_at lw_m5 75 rfl) rfl
theorem q1170 : (Jvm.Cond.code ({ cls := "WindowHill", name := "fits", desc := "(IIIIIZ)Z" } : Jvm.MethodName) prog_1_method_61_code (15 : Nat) (Option.some Jvm.ClassFile.FieldType.boolean)) ∈ lw_all := lw_g (lw_at lw_m5 76 rfl) rfl
theorem q1171 : (Jvm.Cond.methodLink "WindowHill" (374 : Nat) ({ cls := "WindowHill$Hill", name := "becomes", desc := "(IZI)Z" } : Jvm.MethodName)) ∈ lw_all := lw_g (lw_at lw_m5 77 rfl) rfl
theorem q1173 : (Jvm.Cond.instanceMethod ({ cls := "WindowHill", name := "ancestor", desc := "()J" } : Jvm.MethodName)) ∈ lw_all := lw_g (lw_at lw_m5 79 rfl) rfl
theorem q1174 : (Jvm.Cond.selects "WindowHill" ({ cls := "WindowHill", name := "ancestor", desc := "()J" } : Jvm.MethodName) ({ cls := "WindowHill", name := "ancestor", desc := "()J" } : Jvm.MethodName)) ∈ lw_all := lw_g (lw_at lw_m5 80 rfl) rfl
theorem q1175 : (Jvm.Cond.code ({ cls := "WindowHill", name := "ancestor", desc := "()J" } : Jvm.MethodName) prog_1_method_67_code (1 : Nat) (Option.some Jvm.ClassFile.FieldType.long)) ∈ lw_all := lw_g (lw_at lw_m5 81 rfl) rfl
theorem q1176 : (Jvm.Cond.methodLink "WindowHill" (393 : Nat) ({ cls := "WindowHill", name := "least", desc := "(IZ)J" } : Jvm.MethodName)) ∈ lw_all := lw_g (lw_at lw_m5 82 rfl) rfl
theorem q1177 : (Jvm.Cond.privateMethod ({ cls := "WindowHill", name := "least", desc := "(IZ)J" } : Jvm.MethodName)) ∈ lw_tbl := lw_at lw_m5 83 rfl
theorem q1178 : (Jvm.Cond.instanceMethod ({ cls := "WindowHill", name := "least", desc := "(IZ)J" } : Jvm.MethodName)) ∈ lw_all := lw_g (lw_at lw_m5 84 rfl) rfl
theorem q1179 : (Jvm.Cond.code ({ cls := "WindowHill", name := "least", desc := "(IZ)J" } : Jvm.MethodName) prog_1_method_64_code (13 : Nat) (Option.some Jvm.ClassFile.FieldType.long)) ∈ lw_all := lw_g (lw_at lw_m5 85 rfl) rfl
theorem q1180 : (Jvm.Cond.methodLink "WindowHill" (395 : Nat) ({ cls := "WindowHill", name := "answerLong", desc := "(J)J" } : Jvm.MethodName)) ∈ lw_all := lw_g (lw_at lw_m5 86 rfl) rfl
theorem q1181 : (Jvm.Cond.privateMethod ({ cls := "WindowHill", name := "answerLong", desc := "(J)J" } : Jvm.MethodName)) ∈ lw_tbl := lw_at lw_m5 87 rfl
theorem q1182 : (Jvm.Cond.instanceMethod ({ cls := "WindowHill", name := "answerLong", desc := "(J)J" } : Jvm.MethodName)) ∈ lw_all := lw_g (lw_at lw_m5 88 rfl) rfl
theorem q1183 : (Jvm.Cond.code ({ cls := "WindowHill", name := "answerLong", desc := "(J)J" } : Jvm.MethodName) prog_1_method_66_code (3 : Nat) (Option.some Jvm.ClassFile.FieldType.long)) ∈ lw_all := lw_g (lw_at lw_m5 89 rfl) rfl
theorem q1185 : (Jvm.Cond.instanceMethod ({ cls := "WindowHill", name := "stills", desc := "()J" } : Jvm.MethodName)) ∈ lw_all := lw_g (lw_at lw_m5 91 rfl) rfl
theorem q1186 : (Jvm.Cond.selects "WindowHill" ({ cls := "WindowHill", name := "stills", desc := "()J" } : Jvm.MethodName) ({ cls := "WindowHill", name := "stills", desc := "()J" } : Jvm.MethodName)) ∈ lw_all := lw_g (lw_at lw_m5 92 rfl) rfl
theorem q1187 : (Jvm.Cond.code ({ cls := "WindowHill", name := "stills", desc := "()J" } : Jvm.MethodName) prog_1_method_68_code (1 : Nat) (Option.some Jvm.ClassFile.FieldType.long)) ∈ lw_all := lw_g (lw_at lw_m5 93 rfl) rfl
theorem q1189 : (Jvm.Cond.instanceMethod ({ cls := "WindowHill", name := "firstStill", desc := "()J" } : Jvm.MethodName)) ∈ lw_all := lw_g (lw_at lw_m5 95 rfl) rfl
theorem q1190 : (Jvm.Cond.selects "WindowHill" ({ cls := "WindowHill", name := "firstStill", desc := "()J" } : Jvm.MethodName) ({ cls := "WindowHill", name := "firstStill", desc := "()J" } : Jvm.MethodName)) ∈ lw_all := lw_g (lw_at lw_m5 96 rfl) rfl
theorem q1191 : (Jvm.Cond.code ({ cls := "WindowHill", name := "firstStill", desc := "()J" } : Jvm.MethodName) prog_1_method_69_code (1 : Nat) (Option.some Jvm.ClassFile.FieldType.long)) ∈ lw_all := lw_g (lw_at lw_m5 97 rfl) rfl
theorem q1193 : (Jvm.Cond.instanceMethod ({ cls := "WindowHill", name := "pictures", desc := "()J" } : Jvm.MethodName)) ∈ lw_all := lw_g (lw_at lw_m5 99 rfl) rfl
theorem q1194 : (Jvm.Cond.selects "WindowHill" ({ cls := "WindowHill", name := "pictures", desc := "()J" } : Jvm.MethodName) ({ cls := "WindowHill", name := "pictures", desc := "()J" } : Jvm.MethodName)) ∈ lw_all := lw_g (lw_at lw_m5 100 rfl) rfl
theorem q1195 : (Jvm.Cond.code ({ cls := "WindowHill", name := "pictures", desc := "()J" } : Jvm.MethodName) prog_1_method_70_code (1 : Nat) (Option.some Jvm.ClassFile.FieldType.long)) ∈ lw_all := lw_g (lw_at lw_m5 101 rfl) rfl
theorem q1197 : (Jvm.Cond.instanceMethod ({ cls := "WindowHill", name := "signal", desc := "(IIII)I" } : Jvm.MethodName)) ∈ lw_all := lw_g (lw_at lw_m5 103 rfl) rfl
theorem q1198 : (Jvm.Cond.selects "WindowHill" ({ cls := "WindowHill", name := "signal", desc := "(IIII)I" } : Jvm.MethodName) ({ cls := "WindowHill", name := "signal", desc := "(IIII)I" } : Jvm.MethodName)) ∈ lw_all := lw_g (lw_at lw_m5 104 rfl) rfl
theorem q1199 : (Jvm.Cond.code ({ cls := "WindowHill", name := "signal", desc := "(IIII)I" } : Jvm.MethodName) prog_1_method_72_code (6 : Nat) (Option.some Jvm.ClassFile.FieldType.int)) ∈ lw_all := lw_g (lw_at lw_m5 105 rfl) rfl
theorem q1200 : (Jvm.Cond.constantLong "WindowHill" (408 : Nat) (30 : Int64)) ∈ lw_all := lw_g (lw_at lw_m5 106 rfl) rfl
theorem q1201 : (Jvm.Cond.methodLink "WindowHill" (404 : Nat) ({ cls := "WindowHill", name := "tries", desc := "(IIIII)V" } : Jvm.MethodName)) ∈ lw_all := lw_g (lw_at lw_m5 107 rfl) rfl
theorem q1202 : (Jvm.Cond.privateMethod ({ cls := "WindowHill", name := "tries", desc := "(IIIII)V" } : Jvm.MethodName)) ∈ lw_tbl := lw_at lw_m5 108 rfl
theorem q1203 : (Jvm.Cond.instanceMethod ({ cls := "WindowHill", name := "tries", desc := "(IIIII)V" } : Jvm.MethodName)) ∈ lw_all := lw_g (lw_at lw_m5 109 rfl) rfl
theorem q1204 : (Jvm.Cond.code ({ cls := "WindowHill", name := "tries", desc := "(IIIII)V" } : Jvm.MethodName) prog_1_method_71_code (7 : Nat) (Option.none : Option Jvm.ClassFile.FieldType)) ∈ lw_all := lw_g (lw_at lw_m5 110 rfl) rfl
theorem q1205 : (Jvm.Cond.methodLink "WindowHill" (401 : Nat) ({ cls := "WindowHill$Town", name := "cells", desc := "()I" } : Jvm.MethodName)) ∈ lw_all := lw_g (lw_at lw_m5 111 rfl) rfl
theorem q1207 : (Jvm.Cond.instanceMethod ({ cls := "WindowHill", name := "spoils", desc := "(III)I" } : Jvm.MethodName)) ∈ lw_all := lw_g (lw_at lw_m5 113 rfl) rfl
theorem q1208 : (Jvm.Cond.selects "WindowHill" ({ cls := "WindowHill", name := "spoils", desc := "(III)I" } : Jvm.MethodName) ({ cls := "WindowHill", name := "spoils", desc := "(III)I" } : Jvm.MethodName)) ∈ lw_all := lw_g (lw_at lw_m5 114 rfl) rfl
theorem q1209 : (Jvm.Cond.code ({ cls := "WindowHill", name := "spoils", desc := "(III)I" } : Jvm.MethodName) prog_1_method_74_code (4 : Nat) (Option.some Jvm.ClassFile.FieldType.int)) ∈ lw_all := lw_g (lw_at lw_m5 115 rfl) rfl
theorem q1210 : (Jvm.Cond.methodLink "WindowHill" (413 : Nat) ({ cls := "WindowHill", name := "spoilsOf", desc := "(II)I" } : Jvm.MethodName)) ∈ lw_all := lw_g (lw_at lw_m5 116 rfl) rfl
theorem q1211 : (Jvm.Cond.privateMethod ({ cls := "WindowHill", name := "spoilsOf", desc := "(II)I" } : Jvm.MethodName)) ∈ lw_tbl := lw_at lw_m5 117 rfl
theorem q1212 : (Jvm.Cond.instanceMethod ({ cls := "WindowHill", name := "spoilsOf", desc := "(II)I" } : Jvm.MethodName)) ∈ lw_all := lw_g (lw_at lw_m5 118 rfl) rfl
theorem q1213 : (Jvm.Cond.code ({ cls := "WindowHill", name := "spoilsOf", desc := "(II)I" } : Jvm.MethodName) prog_1_method_73_code (3 : Nat) (Option.some Jvm.ClassFile.FieldType.int)) ∈ lw_all := lw_g (lw_at lw_m5 119 rfl) rfl
theorem q1215 : (Jvm.Cond.instanceMethod ({ cls := "WindowHill", name := "worst", desc := "(II)I" } : Jvm.MethodName)) ∈ lw_all := lw_g (lw_at lw_m5 121 rfl) rfl
theorem q1216 : (Jvm.Cond.selects "WindowHill" ({ cls := "WindowHill", name := "worst", desc := "(II)I" } : Jvm.MethodName) ({ cls := "WindowHill", name := "worst", desc := "(II)I" } : Jvm.MethodName)) ∈ lw_all := lw_g (lw_at lw_m5 122 rfl) rfl
theorem q1217 : (Jvm.Cond.code ({ cls := "WindowHill", name := "worst", desc := "(II)I" } : Jvm.MethodName) prog_1_method_75_code (7 : Nat) (Option.some Jvm.ClassFile.FieldType.int)) ∈ lw_all := lw_g (lw_at lw_m5 123 rfl) rfl
theorem q1219 : (Jvm.Cond.instanceMethod ({ cls := "WindowHill", name := "mend", desc := "(JI)I" } : Jvm.MethodName)) ∈ lw_all := lw_g (lw_at lw_m5 125 rfl) rfl
theorem q1220 : (Jvm.Cond.selects "WindowHill" ({ cls := "WindowHill", name := "mend", desc := "(JI)I" } : Jvm.MethodName) ({ cls := "WindowHill", name := "mend", desc := "(JI)I" } : Jvm.MethodName)) ∈ lw_all := lw_g (lw_at lw_m5 126 rfl) rfl
theorem q1221 : (Jvm.Cond.code ({ cls := "WindowHill", name := "mend", desc := "(JI)I" } : Jvm.MethodName) prog_1_method_78_code (6 : Nat) (Option.some Jvm.ClassFile.FieldType.int)) ∈ lw_all := lw_g (lw_at lw_m5 127 rfl) rfl
theorem q1222 : (Jvm.Cond.methodLink "WindowHill" (423 : Nat) ({ cls := "WindowHill", name := "mends", desc := "(IIJ)V" } : Jvm.MethodName)) ∈ lw_all := lw_g (lw_at lw_m5 128 rfl) rfl
theorem q1223 : (Jvm.Cond.privateMethod ({ cls := "WindowHill", name := "mends", desc := "(IIJ)V" } : Jvm.MethodName)) ∈ lw_tbl := lw_at lw_m5 129 rfl
theorem q1224 : (Jvm.Cond.instanceMethod ({ cls := "WindowHill", name := "mends", desc := "(IIJ)V" } : Jvm.MethodName)) ∈ lw_all := lw_g (lw_at lw_m5 130 rfl) rfl
theorem q1225 : (Jvm.Cond.code ({ cls := "WindowHill", name := "mends", desc := "(IIJ)V" } : Jvm.MethodName) prog_1_method_77_code (6 : Nat) (Option.none : Option Jvm.ClassFile.FieldType)) ∈ lw_all := lw_g (lw_at lw_m5 131 rfl) rfl
theorem q1226 : (Jvm.Cond.methodLink "WindowHill" (416 : Nat) ({ cls := "WindowHill", name := "unlikeTo", desc := "(IJ)I" } : Jvm.MethodName)) ∈ lw_all := lw_g (lw_at lw_m5 132 rfl) rfl
theorem q1227 : (Jvm.Cond.privateMethod ({ cls := "WindowHill", name := "unlikeTo", desc := "(IJ)I" } : Jvm.MethodName)) ∈ lw_tbl := lw_at lw_m5 133 rfl
theorem q1228 : (Jvm.Cond.instanceMethod ({ cls := "WindowHill", name := "unlikeTo", desc := "(IJ)I" } : Jvm.MethodName)) ∈ lw_all := lw_g (lw_at lw_m5 134 rfl) rfl
theorem q1229 : (Jvm.Cond.code ({ cls := "WindowHill", name := "unlikeTo", desc := "(IJ)I" } : Jvm.MethodName) prog_1_method_76_code (4 : Nat) (Option.some Jvm.ClassFile.FieldType.int)) ∈ lw_all := lw_g (lw_at lw_m5 135 rfl) rfl
theorem q1231 : (Jvm.Cond.instanceMethod ({ cls := "WindowHill", name := "unlike", desc := "(J)I" } : Jvm.MethodName)) ∈ lw_all := lw_g (lw_at lw_m5 137 rfl) rfl
theorem q1232 : (Jvm.Cond.selects "WindowHill" ({ cls := "WindowHill", name := "unlike", desc := "(J)I" } : Jvm.MethodName) ({ cls := "WindowHill", name := "unlike", desc := "(J)I" } : Jvm.MethodName)) ∈ lw_all := lw_g (lw_at lw_m5 138 rfl) rfl
theorem q1233 : (Jvm.Cond.code ({ cls := "WindowHill", name := "unlike", desc := "(J)I" } : Jvm.MethodName) prog_1_method_79_code (3 : Nat) (Option.some Jvm.ClassFile.FieldType.int)) ∈ lw_all := lw_g (lw_at lw_m5 139 rfl) rfl
theorem q1235 : (Jvm.Cond.instanceMethod ({ cls := "WindowHill", name := "seen", desc := "(II)I" } : Jvm.MethodName)) ∈ lw_all := lw_g (lw_at lw_m5 141 rfl) rfl
theorem q1236 : (Jvm.Cond.selects "WindowHill" ({ cls := "WindowHill", name := "seen", desc := "(II)I" } : Jvm.MethodName) ({ cls := "WindowHill", name := "seen", desc := "(II)I" } : Jvm.MethodName)) ∈ lw_all := lw_g (lw_at lw_m5 142 rfl) rfl
theorem q1237 : (Jvm.Cond.code ({ cls := "WindowHill", name := "seen", desc := "(II)I" } : Jvm.MethodName) prog_1_method_80_code (3 : Nat) (Option.some Jvm.ClassFile.FieldType.int)) ∈ lw_all := lw_g (lw_at lw_m5 143 rfl) rfl
theorem q1238 : (Jvm.Cond.constantLong "WindowHill" (427 : Nat) (4 : Int64)) ∈ lw_all := lw_g (lw_at lw_m5 144 rfl) rfl
theorem q1240 : (Jvm.Cond.instanceMethod ({ cls := "WindowHill", name := "rulesLeft", desc := "()I" } : Jvm.MethodName)) ∈ lw_all := lw_g (lw_at lw_m5 146 rfl) rfl
theorem q1241 : (Jvm.Cond.selects "WindowHill" ({ cls := "WindowHill", name := "rulesLeft", desc := "()I" } : Jvm.MethodName) ({ cls := "WindowHill", name := "rulesLeft", desc := "()I" } : Jvm.MethodName)) ∈ lw_all := lw_g (lw_at lw_m5 147 rfl) rfl
theorem q1242 : (Jvm.Cond.code ({ cls := "WindowHill", name := "rulesLeft", desc := "()I" } : Jvm.MethodName) prog_1_method_81_code (3 : Nat) (Option.some Jvm.ClassFile.FieldType.int)) ∈ lw_all := lw_g (lw_at lw_m5 148 rfl) rfl
theorem q1244 : (Jvm.Cond.instanceMethod ({ cls := "WindowHill", name := "fits", desc := "()I" } : Jvm.MethodName)) ∈ lw_all := lw_g (lw_at lw_m5 150 rfl) rfl
theorem q1245 : (Jvm.Cond.selects "WindowHill" ({ cls := "WindowHill", name := "fits", desc := "()I" } : Jvm.MethodName) ({ cls := "WindowHill", name := "fits", desc := "()I" } : Jvm.MethodName)) ∈ lw_all := lw_g (lw_at lw_m5 151 rfl) rfl
theorem q1246 : (Jvm.Cond.code ({ cls := "WindowHill", name := "fits", desc := "()I" } : Jvm.MethodName) prog_1_method_82_code (5 : Nat) (Option.some Jvm.ClassFile.FieldType.int)) ∈ lw_all := lw_g (lw_at lw_m5 152 rfl) rfl
theorem q1248 : (Jvm.Cond.instanceMethod ({ cls := "WindowHill", name := "forget", desc := "()I" } : Jvm.MethodName)) ∈ lw_all := lw_g (lw_at lw_m5 154 rfl) rfl
theorem q1249 : (Jvm.Cond.selects "WindowHill" ({ cls := "WindowHill", name := "forget", desc := "()I" } : Jvm.MethodName) ({ cls := "WindowHill", name := "forget", desc := "()I" } : Jvm.MethodName)) ∈ lw_all := lw_g (lw_at lw_m5 155 rfl) rfl
theorem q1250 : (Jvm.Cond.code ({ cls := "WindowHill", name := "forget", desc := "()I" } : Jvm.MethodName) prog_1_method_83_code (3 : Nat) (Option.some Jvm.ClassFile.FieldType.int)) ∈ lw_all := lw_g (lw_at lw_m5 156 rfl) rfl
theorem q1252 : (Jvm.Cond.instanceMethod ({ cls := "WindowHill", name := "shows", desc := "()I" } : Jvm.MethodName)) ∈ lw_all := lw_g (lw_at lw_m5 158 rfl) rfl
theorem q1253 : (Jvm.Cond.selects "WindowHill" ({ cls := "WindowHill", name := "shows", desc := "()I" } : Jvm.MethodName) ({ cls := "WindowHill", name := "shows", desc := "()I" } : Jvm.MethodName)) ∈ lw_all := lw_g (lw_at lw_m5 159 rfl) rfl
theorem q1254 : (Jvm.Cond.code ({ cls := "WindowHill", name := "shows", desc := "()I" } : Jvm.MethodName) prog_1_method_84_code (3 : Nat) (Option.some Jvm.ClassFile.FieldType.int)) ∈ lw_all := lw_g (lw_at lw_m5 160 rfl) rfl
theorem q1255 : (Jvm.Cond.methodLink "WindowHill" (432 : Nat) ({ cls := "WindowHill$Hill", name := "sight", desc := "(II)I" } : Jvm.MethodName)) ∈ lw_all := lw_g (lw_at lw_m5 161 rfl) rfl
theorem q1257 : (Jvm.Cond.instanceMethod ({ cls := "WindowHill", name := "vote", desc := "(I)I" } : Jvm.MethodName)) ∈ lw_all := lw_g (lw_at lw_m5 163 rfl) rfl
theorem q1258 : (Jvm.Cond.selects "WindowHill" ({ cls := "WindowHill", name := "vote", desc := "(I)I" } : Jvm.MethodName) ({ cls := "WindowHill", name := "vote", desc := "(I)I" } : Jvm.MethodName)) ∈ lw_all := lw_g (lw_at lw_m5 164 rfl) rfl
theorem q1259 : (Jvm.Cond.code ({ cls := "WindowHill", name := "vote", desc := "(I)I" } : Jvm.MethodName) prog_1_method_85_code (2 : Nat) (Option.some Jvm.ClassFile.FieldType.int)) ∈ lw_all := lw_g (lw_at lw_m5 165 rfl) rfl
theorem q1260 : (Jvm.Cond.methodLink "WindowHill" (435 : Nat) ({ cls := "WindowHill$Hill", name := "vote", desc := "(I)I" } : Jvm.MethodName)) ∈ lw_all := lw_g (lw_at lw_m5 166 rfl) rfl
theorem q1270 : (Jvm.Cond.instanceMethod ({ cls := "WindowHill", name := "votes", desc := "(I)I" } : Jvm.MethodName)) ∈ lw_all := lw_g (lw_at lw_m5 176 rfl) rfl
theorem q1271 : (Jvm.Cond.selects "WindowHill" ({ cls := "WindowHill", name := "votes", desc := "(I)I" } : Jvm.MethodName) ({ cls := "WindowHill", name := "votes", desc := "(I)I" } : Jvm.MethodName)) ∈ lw_all := lw_g (lw_at lw_m5 177 rfl) rfl
theorem q1272 : (Jvm.Cond.code ({ cls := "WindowHill", name := "votes", desc := "(I)I" } : Jvm.MethodName) prog_1_method_86_code (2 : Nat) (Option.some Jvm.ClassFile.FieldType.int)) ∈ lw_all := lw_g (lw_at lw_m5 178 rfl) rfl
theorem q1273 : (Jvm.Cond.methodLink "WindowHill" (438 : Nat) ({ cls := "WindowHill$Hill", name := "votes", desc := "(I)I" } : Jvm.MethodName)) ∈ lw_all := lw_g (lw_at lw_m5 179 rfl) rfl
theorem q1279 : (Jvm.Cond.instanceMethod ({ cls := "WindowHill", name := "elect", desc := "()I" } : Jvm.MethodName)) ∈ lw_all := lw_g (lw_at lw_m5 185 rfl) rfl
theorem q1280 : (Jvm.Cond.selects "WindowHill" ({ cls := "WindowHill", name := "elect", desc := "()I" } : Jvm.MethodName) ({ cls := "WindowHill", name := "elect", desc := "()I" } : Jvm.MethodName)) ∈ lw_all := lw_g (lw_at lw_m5 186 rfl) rfl
theorem q1281 : (Jvm.Cond.code ({ cls := "WindowHill", name := "elect", desc := "()I" } : Jvm.MethodName) prog_1_method_87_code (1 : Nat) (Option.some Jvm.ClassFile.FieldType.int)) ∈ lw_all := lw_g (lw_at lw_m5 187 rfl) rfl
theorem q1282 : (Jvm.Cond.methodLink "WindowHill" (441 : Nat) ({ cls := "WindowHill$Hill", name := "elects", desc := "()Z" } : Jvm.MethodName)) ∈ lw_all := lw_g (lw_at lw_m5 188 rfl) rfl
theorem q1288 : (Jvm.Cond.instanceMethod ({ cls := "WindowHill", name := "reads", desc := "(II)I" } : Jvm.MethodName)) ∈ lw_all := lw_g (lw_at lw_m5 194 rfl) rfl
theorem q1289 : (Jvm.Cond.selects "WindowHill" ({ cls := "WindowHill", name := "reads", desc := "(II)I" } : Jvm.MethodName) ({ cls := "WindowHill", name := "reads", desc := "(II)I" } : Jvm.MethodName)) ∈ lw_all := lw_g (lw_at lw_m5 195 rfl) rfl
theorem q1290 : (Jvm.Cond.code ({ cls := "WindowHill", name := "reads", desc := "(II)I" } : Jvm.MethodName) prog_1_method_88_code (5 : Nat) (Option.some Jvm.ClassFile.FieldType.int)) ∈ lw_all := lw_g (lw_at lw_m5 196 rfl) rfl
theorem q1292 : (Jvm.Cond.instanceMethod ({ cls := "WindowHill", name := "mirror", desc := "()I" } : Jvm.MethodName)) ∈ lw_all := lw_g (lw_at lw_m5 198 rfl) rfl
theorem q1293 : (Jvm.Cond.selects "WindowHill" ({ cls := "WindowHill", name := "mirror", desc := "()I" } : Jvm.MethodName) ({ cls := "WindowHill", name := "mirror", desc := "()I" } : Jvm.MethodName)) ∈ lw_all := lw_g (lw_at lw_m5 199 rfl) rfl
theorem q1294 : (Jvm.Cond.code ({ cls := "WindowHill", name := "mirror", desc := "()I" } : Jvm.MethodName) prog_1_method_89_code (3 : Nat) (Option.some Jvm.ClassFile.FieldType.int)) ∈ lw_all := lw_g (lw_at lw_m5 200 rfl) rfl
theorem q1296 : (Jvm.Cond.instanceMethod ({ cls := "WindowHill", name := "heaps", desc := "(I)I" } : Jvm.MethodName)) ∈ lw_all := lw_g (lw_at lw_m5 202 rfl) rfl
theorem q1297 : (Jvm.Cond.selects "WindowHill" ({ cls := "WindowHill", name := "heaps", desc := "(I)I" } : Jvm.MethodName) ({ cls := "WindowHill", name := "heaps", desc := "(I)I" } : Jvm.MethodName)) ∈ lw_all := lw_g (lw_at lw_m5 203 rfl) rfl
theorem q1298 : (Jvm.Cond.code ({ cls := "WindowHill", name := "heaps", desc := "(I)I" } : Jvm.MethodName) prog_1_method_91_code (6 : Nat) (Option.some Jvm.ClassFile.FieldType.int)) ∈ lw_all := lw_g (lw_at lw_m5 204 rfl) rfl
theorem q1299 : (Jvm.Cond.methodLink "WindowHill" (444 : Nat) ({ cls := "java/lang/Integer", name := "numberOfTrailingZeros", desc := "(I)I" } : Jvm.MethodName)) ∈ lw_all := lw_g (lw_at lw_m5 205 rfl) rfl
theorem q1303 : (Jvm.Cond.methodLink "WindowHill" (447 : Nat) ({ cls := "WindowHill", name := "heapOf", desc := "(I)I" } : Jvm.MethodName)) ∈ lw_all := lw_g (lw_at lw_m5 209 rfl) rfl
theorem q1304 : (Jvm.Cond.privateMethod ({ cls := "WindowHill", name := "heapOf", desc := "(I)I" } : Jvm.MethodName)) ∈ lw_tbl := lw_at lw_m5 210 rfl
theorem q1305 : (Jvm.Cond.instanceMethod ({ cls := "WindowHill", name := "heapOf", desc := "(I)I" } : Jvm.MethodName)) ∈ lw_all := lw_g (lw_at lw_m5 211 rfl) rfl
theorem q1306 : (Jvm.Cond.code ({ cls := "WindowHill", name := "heapOf", desc := "(I)I" } : Jvm.MethodName) prog_1_method_90_code (5 : Nat) (Option.some Jvm.ClassFile.FieldType.int)) ∈ lw_all := lw_g (lw_at lw_m5 212 rfl) rfl
theorem q1308 : (Jvm.Cond.instanceMethod ({ cls := "WindowHill", name := "heap", desc := "(II)I" } : Jvm.MethodName)) ∈ lw_all := lw_g (lw_at lw_m5 214 rfl) rfl
theorem q1309 : (Jvm.Cond.selects "WindowHill" ({ cls := "WindowHill", name := "heap", desc := "(II)I" } : Jvm.MethodName) ({ cls := "WindowHill", name := "heap", desc := "(II)I" } : Jvm.MethodName)) ∈ lw_all := lw_g (lw_at lw_m5 215 rfl) rfl
theorem q1310 : (Jvm.Cond.code ({ cls := "WindowHill", name := "heap", desc := "(II)I" } : Jvm.MethodName) prog_1_method_92_code (4 : Nat) (Option.some Jvm.ClassFile.FieldType.int)) ∈ lw_all := lw_g (lw_at lw_m5 216 rfl) rfl
theorem q1312 : (Jvm.Cond.instanceMethod ({ cls := "WindowHill", name := "company", desc := "()Z" } : Jvm.MethodName)) ∈ lw_all := lw_g (lw_at lw_m5 218 rfl) rfl
theorem q1313 : (Jvm.Cond.selects "WindowHill" ({ cls := "WindowHill", name := "company", desc := "()Z" } : Jvm.MethodName) ({ cls := "WindowHill", name := "company", desc := "()Z" } : Jvm.MethodName)) ∈ lw_all := lw_g (lw_at lw_m5 219 rfl) rfl
theorem q1314 : (Jvm.Cond.code ({ cls := "WindowHill", name := "company", desc := "()Z" } : Jvm.MethodName) prog_1_method_93_code (3 : Nat) (Option.some Jvm.ClassFile.FieldType.boolean)) ∈ lw_all := lw_g (lw_at lw_m5 220 rfl) rfl
theorem q1315 : (Jvm.Cond.methodLink "WindowHill" (450 : Nat) ({ cls := "WindowHill", name := "fraction", desc := "(JJ)I" } : Jvm.MethodName)) ∈ lw_all := lw_g (lw_at lw_m5 221 rfl) rfl
theorem q1316 : (Jvm.Cond.privateMethod ({ cls := "WindowHill", name := "fraction", desc := "(JJ)I" } : Jvm.MethodName)) ∈ lw_tbl := lw_at lw_m5 222 rfl
theorem q1317 : (Jvm.Cond.instanceMethod ({ cls := "WindowHill", name := "fraction", desc := "(JJ)I" } : Jvm.MethodName)) ∈ lw_all := lw_g (lw_at lw_m5 223 rfl) rfl
theorem q1318 : (Jvm.Cond.code ({ cls := "WindowHill", name := "fraction", desc := "(JJ)I" } : Jvm.MethodName) prog_1_method_13_code (11 : Nat) (Option.some Jvm.ClassFile.FieldType.int)) ∈ lw_all := lw_g (lw_at lw_m5 224 rfl) rfl
theorem q1319 : (Jvm.Cond.methodLink "WindowHill" (94 : Nat) ({ cls := "java/lang/Math", name := "abs", desc := "(J)J" } : Jvm.MethodName)) ∈ lw_all := lw_g (lw_at lw_m5 225 rfl) rfl
theorem q1322 : (Jvm.Cond.methodLink "WindowHill" (100 : Nat) ({ cls := "java/lang/Long", name := "signum", desc := "(J)I" } : Jvm.MethodName)) ∈ lw_all := lw_g (lw_at lw_m5 228 rfl) rfl
theorem q1326 : (Jvm.Cond.instanceMethod ({ cls := "WindowHill", name := "live", desc := "(I)I" } : Jvm.MethodName)) ∈ lw_all := lw_g (lw_at lw_m5 232 rfl) rfl
theorem q1327 : (Jvm.Cond.selects "WindowHill" ({ cls := "WindowHill", name := "live", desc := "(I)I" } : Jvm.MethodName) ({ cls := "WindowHill", name := "live", desc := "(I)I" } : Jvm.MethodName)) ∈ lw_all := lw_g (lw_at lw_m5 233 rfl) rfl
theorem q1328 : (Jvm.Cond.code ({ cls := "WindowHill", name := "live", desc := "(I)I" } : Jvm.MethodName) prog_1_method_94_code (3 : Nat) (Option.some Jvm.ClassFile.FieldType.int)) ∈ lw_all := lw_g (lw_at lw_m5 234 rfl) rfl
theorem q1329 : (Jvm.Cond.classLink "WindowHill" (454 : Nat) "WindowHill$Living") ∈ lw_all := lw_g (lw_at lw_m5 235 rfl) rfl
theorem q1331 : (Jvm.Cond.methodLink "WindowHill" (456 : Nat) ({ cls := "WindowHill$Living", name := "<init>", desc := "(LWindowHill$Hill;I)V" } : Jvm.MethodName)) ∈ lw_all := lw_g (lw_at lw_m5 237 rfl) rfl
theorem q1340 : (Jvm.Cond.fieldLinkNest "WindowHill" (482 : Nat) "WindowHill$Living" "done" "I" "WindowHill") ∈ lw_tbl := lw_at lw_m6 6 rfl
theorem q1342 : (Jvm.Cond.fieldLinkNest "WindowHill" (463 : Nat) "WindowHill$Living" "missed" "I" "WindowHill") ∈ lw_tbl := lw_at lw_m6 8 rfl
theorem q1344 : (Jvm.Cond.fieldLinkNest "WindowHill" (466 : Nat) "WindowHill$Living" "nights" "I" "WindowHill") ∈ lw_tbl := lw_at lw_m6 10 rfl
theorem q1346 : (Jvm.Cond.fieldLinkNest "WindowHill" (469 : Nat) "WindowHill$Living" "storms" "I" "WindowHill") ∈ lw_tbl := lw_at lw_m6 12 rfl
theorem q1348 : (Jvm.Cond.fieldLinkNest "WindowHill" (472 : Nat) "WindowHill$Living" "births" "I" "WindowHill") ∈ lw_tbl := lw_at lw_m6 14 rfl
theorem q1354 : (Jvm.Cond.fieldLinkNest "WindowHill" (475 : Nat) "WindowHill$Living" "isLeft" "Z" "WindowHill") ∈ lw_tbl := lw_at lw_m6 20 rfl
theorem q1374 : (Jvm.Cond.methodLink "WindowHill" (459 : Nat) ({ cls := "WindowHill$Loop", name := "all", desc := "(LWindowHill$Living;)V" } : Jvm.MethodName)) ∈ lw_all := lw_g (lw_at lw_m6 40 rfl) rfl
theorem q1432 : (Jvm.Cond.instanceMethod ({ cls := "WindowHill", name := "lived", desc := "(I)I" } : Jvm.MethodName)) ∈ lw_all := lw_g (lw_at lw_m6 98 rfl) rfl
theorem q1433 : (Jvm.Cond.selects "WindowHill" ({ cls := "WindowHill", name := "lived", desc := "(I)I" } : Jvm.MethodName) ({ cls := "WindowHill", name := "lived", desc := "(I)I" } : Jvm.MethodName)) ∈ lw_all := lw_g (lw_at lw_m6 99 rfl) rfl
theorem q1434 : (Jvm.Cond.code ({ cls := "WindowHill", name := "lived", desc := "(I)I" } : Jvm.MethodName) prog_1_method_95_code (2 : Nat) (Option.some Jvm.ClassFile.FieldType.int)) ∈ lw_all := lw_g (lw_at lw_m6 100 rfl) rfl
theorem q1436 : (Jvm.Cond.instanceMethod ({ cls := "WindowHill", name := "mean", desc := "(II)Z" } : Jvm.MethodName)) ∈ lw_all := lw_g (lw_at lw_m6 102 rfl) rfl
theorem q1437 : (Jvm.Cond.selects "WindowHill" ({ cls := "WindowHill", name := "mean", desc := "(II)Z" } : Jvm.MethodName) ({ cls := "WindowHill", name := "mean", desc := "(II)Z" } : Jvm.MethodName)) ∈ lw_all := lw_g (lw_at lw_m6 103 rfl) rfl
theorem q1438 : (Jvm.Cond.code ({ cls := "WindowHill", name := "mean", desc := "(II)Z" } : Jvm.MethodName) prog_1_method_96_code (5 : Nat) (Option.some Jvm.ClassFile.FieldType.boolean)) ∈ lw_all := lw_g (lw_at lw_m6 104 rfl) rfl
theorem q1439 : (Jvm.Cond.constantLong "WindowHill" (485 : Nat) (20 : Int64)) ∈ lw_all := lw_g (lw_at lw_m6 105 rfl) rfl
theorem q1440 : (Jvm.Cond.methodLink "WindowHill" (487 : Nat) ({ cls := "WindowHill$Hill", name := "be", desc := "(LWindowHill$Hill;)V" } : Jvm.MethodName)) ∈ lw_all := lw_g (lw_at lw_m6 106 rfl) rfl
theorem q1445 : (Jvm.Cond.instanceMethod ({ cls := "WindowHill", name := "mark", desc := "()I" } : Jvm.MethodName)) ∈ lw_all := lw_g (lw_at lw_m6 111 rfl) rfl
theorem q1446 : (Jvm.Cond.selects "WindowHill" ({ cls := "WindowHill", name := "mark", desc := "()I" } : Jvm.MethodName) ({ cls := "WindowHill", name := "mark", desc := "()I" } : Jvm.MethodName)) ∈ lw_all := lw_g (lw_at lw_m6 112 rfl) rfl
theorem q1447 : (Jvm.Cond.code ({ cls := "WindowHill", name := "mark", desc := "()I" } : Jvm.MethodName) prog_1_method_97_code (1 : Nat) (Option.some Jvm.ClassFile.FieldType.int)) ∈ lw_all := lw_g (lw_at lw_m6 113 rfl) rfl
theorem q1448 : (Jvm.Cond.methodLink "WindowHill" (494 : Nat) ({ cls := "WindowHill$House", name := "be", desc := "(LWindowHill$House;)V" } : Jvm.MethodName)) ∈ lw_all := lw_g (lw_at lw_m6 114 rfl) rfl
theorem q1454 : (Jvm.Cond.instanceMethod ({ cls := "WindowHill", name := "back", desc := "()I" } : Jvm.MethodName)) ∈ lw_all := lw_g (lw_at lw_m6 120 rfl) rfl
theorem q1455 : (Jvm.Cond.selects "WindowHill" ({ cls := "WindowHill", name := "back", desc := "()I" } : Jvm.MethodName) ({ cls := "WindowHill", name := "back", desc := "()I" } : Jvm.MethodName)) ∈ lw_all := lw_g (lw_at lw_m6 121 rfl) rfl
theorem q1456 : (Jvm.Cond.code ({ cls := "WindowHill", name := "back", desc := "()I" } : Jvm.MethodName) prog_1_method_98_code (1 : Nat) (Option.some Jvm.ClassFile.FieldType.int)) ∈ lw_all := lw_g (lw_at lw_m6 122 rfl) rfl
theorem in_X0 : ∀ w ∈ wsX00, w ∈ lw_all := lw_in wsX00 [448, 450, 452, 454, 456, 458, 460, 462, 464, 466, 468, 470, 472, 474, 476, 478, 480, 482, 484, 486, 488, 490, 492] (by decide +kernel) (by decide +kernel)
