/-! WindowHillModel -/
set_option maxRecDepth 100000
def RX7 : String := "WindowHillModel"
def TX7 : u_T := fun k => match k with
  | 0 => ("WindowHillModel", "at", "[I", true)
  | 1 => ("WindowHillModel", "names", "[J", true)
  | 2 => ("WindowHillModel", "status", "I", false)
  | 3 => ("WindowHillModel", "top", "J", false)
  | 4 => ("WindowHillModel", "bottom", "J", false)
  | 5 => ("WindowHillModel", "sort", "[I", true)
  | 6 => ("WindowHillModel", "trayMany", "[I", true)
  | 7 => ("WindowHillModel", "trays", "[J", true)
  | 8 => ("WindowHillModel", "tape", "[B", true)
  | 9 => ("WindowHillModel", "text", "[B", true)
  | 10 => ("WindowHillModel", "taped", "I", false)
  | 11 => ("WindowHillModel", "size", "I", false)
  | 12 => ("WindowHillModel", "token", "I", false)
  | 13 => ("WindowHillModel", "from", "I", false)
  | 14 => ("WindowHillModel", "end", "I", false)
  | 15 => ("WindowHillModel", "value", "I", false)
  | 16 => ("WindowHillModel", "faultKind", "I", false)
  | 17 => ("WindowHillModel", "faultPlace", "I", false)
  | 18 => ("WindowHillModel", "faults", "I", false)
  | 19 => ("WindowHillModel", "seen", "I", false)
  | 20 => ("WindowHillModel", "opened", "[I", true)
  | 21 => ("WindowHillModel", "depth", "I", false)
  | 22 => ("WindowHillModel", "counted", "I", false)
  | 23 => ("WindowHillModel", "beside", "[I", true)
  | 24 => ("WindowHillModel", "then", "[I", true)
  | 25 => ("WindowHillModel", "lead", "I", false)
  | 26 => ("WindowHillModel", "round", "I", false)
  | 27 => ("WindowHillModel", "ways", "[J", true)
  | 28 => ("WindowHillModel", "further", "[J", true)
  | 29 => ("WindowHillModel", "canBe", "[I", true)
  | 30 => ("WindowHillModel", "tried", "I", false)
  | 31 => ("WindowHillModel", "triedMany", "I", false)
  | 32 => ("WindowHillModel", "drawn", "I", false)
  | 33 => ("WindowHillModel", "ranSteps", "I", false)
  | 34 => ("WindowHillModel", "loops", "[I", true)
  | 35 => ("WindowHillModel", "ran", "[I", true)
  | 36 => ("WindowHillModel", "told0", "[I", true)
  | 37 => ("WindowHillModel", "isTold", "Z", false)
  | _ => ("WindowHillModel", "marks", "I", false)
def tyX7 : Nat → FieldType := fun k => match k with
  | 0 => .array .int
  | 1 => .array .long
  | 2 => .int
  | 3 => .long
  | 4 => .long
  | 5 => .array .int
  | 6 => .array .int
  | 7 => .array .long
  | 8 => .array .byte
  | 9 => .array .byte
  | 10 => .int
  | 11 => .int
  | 12 => .int
  | 13 => .int
  | 14 => .int
  | 15 => .int
  | 16 => .int
  | 17 => .int
  | 18 => .int
  | 19 => .int
  | 20 => .array .int
  | 21 => .int
  | 22 => .int
  | 23 => .array .int
  | 24 => .array .int
  | 25 => .int
  | 26 => .int
  | 27 => .array .long
  | 28 => .array .long
  | 29 => .array .int
  | 30 => .int
  | 31 => .int
  | 32 => .int
  | 33 => .int
  | 34 => .array .int
  | 35 => .array .int
  | 36 => .array .int
  | 37 => .boolean
  | _ => .int
abbrev wsX70 : List Cond := u_ws RX7 TX7 39
set_option maxRecDepth 100000 in
theorem nmX7 : ∀ a, a < 39 → ∀ b, b < 39 → a ≠ b → (TX7 a).2.1 ≠ (TX7 b).2.1 := by decide +kernel
set_option maxRecDepth 100000 in
theorem tyX7_ok : ∀ k, k < 39 → parseFieldDescriptor (TX7 k).2.2.1 = some (tyX7 k) := by decide +kernel
abbrev cX7_init : ByteArray := prog_16_method_1_code
def yX7_init : MethodName := ⟨RX7, "<init>", "()V"⟩
def dkwX7_init_8 : List UInt8 := [180, 0, 7, 5, 4, 79, 177]
abbrev dktX7_init_8 : List UInt8 := dkwX7_init_8 ++ []
def dkwX7_init_7 : List UInt8 := [181, 0, 68, 42, 3, 182, 0, 71, 42, 180, 0, 7, 3, 4, 79, 42, 180, 0, 7, 4, 4, 79, 42]
abbrev dktX7_init_7 : List UInt8 := dkwX7_init_7 ++ dktX7_init_8
def dkwX7_init_6 : List UInt8 := [181, 0, 59, 42, 16, 80, 188, 10, 181, 0, 62, 42, 8, 188, 10, 181, 0, 65, 42, 8, 188, 10]
abbrev dktX7_init_6 : List UInt8 := dkwX7_init_6 ++ dktX7_init_7
def dkwX7_init_5 : List UInt8 := [17, 4, 0, 188, 11, 181, 0, 53, 42, 17, 4, 0, 188, 11, 181, 0, 56, 42, 17, 24, 0, 188, 10]
abbrev dktX7_init_5 : List UInt8 := dkwX7_init_5 ++ dktX7_init_6
def dkwX7_init_4 : List UInt8 := [188, 10, 181, 0, 44, 42, 16, 30, 188, 10, 181, 0, 47, 42, 17, 7, 209, 188, 10, 181, 0, 50, 42]
abbrev dktX7_init_4 : List UInt8 := dkwX7_init_4 ++ dktX7_init_5
def dkwX7_init_3 : List UInt8 := [181, 0, 30, 42, 17, 3, 132, 188, 8, 181, 0, 34, 42, 2, 181, 0, 37, 42, 2, 181, 0, 41, 42, 6]
abbrev dktX7_init_3 : List UInt8 := dkwX7_init_3 ++ dktX7_init_4
def dkwX7_init_2 : List UInt8 := [2, 79, 89, 6, 2, 79, 181, 0, 24, 42, 17, 0, 240, 188, 11, 181, 0, 27, 42, 17, 3, 132, 188, 8]
abbrev dktX7_init_2 : List UInt8 := dkwX7_init_2 ++ dktX7_init_3
def dkwX7_init_1 : List UInt8 := [181, 0, 17, 42, 7, 188, 10, 181, 0, 21, 42, 7, 188, 10, 89, 3, 2, 79, 89, 4, 2, 79, 89, 5]
abbrev dktX7_init_1 : List UInt8 := dkwX7_init_1 ++ dktX7_init_2
def dkwX7_init_0 : List UInt8 := [42, 183, 0, 1, 42, 17, 9, 156, 188, 10, 181, 0, 7, 42, 16, 60, 188, 11, 181, 0, 13, 42, 10]
abbrev dktX7_init_0 : List UInt8 := dkwX7_init_0 ++ dktX7_init_1
theorem dksX7_init_0 : cX7_init.data.toList.drop 0 = dktX7_init_0 := by decide +kernel
theorem dksX7_init_1 : cX7_init.data.toList.drop 23 = dktX7_init_1 := dk_seg dksX7_init_0 23 rfl rfl
theorem dksX7_init_2 : cX7_init.data.toList.drop 47 = dktX7_init_2 := dk_seg dksX7_init_1 24 rfl rfl
theorem dksX7_init_3 : cX7_init.data.toList.drop 71 = dktX7_init_3 := dk_seg dksX7_init_2 24 rfl rfl
theorem dksX7_init_4 : cX7_init.data.toList.drop 95 = dktX7_init_4 := dk_seg dksX7_init_3 24 rfl rfl
theorem dksX7_init_5 : cX7_init.data.toList.drop 118 = dktX7_init_5 := dk_seg dksX7_init_4 23 rfl rfl
theorem dksX7_init_6 : cX7_init.data.toList.drop 141 = dktX7_init_6 := dk_seg dksX7_init_5 23 rfl rfl
theorem dksX7_init_7 : cX7_init.data.toList.drop 163 = dktX7_init_7 := dk_seg dksX7_init_6 22 rfl rfl
theorem dksX7_init_8 : cX7_init.data.toList.drop 186 = dktX7_init_8 := dk_seg dksX7_init_7 23 rfl rfl
theorem dX7_init_0 : decode cX7_init 0 = .ok (.aload_n 0, 1) := dk_42 (dk_at dksX7_init_0 0 rfl rfl)
theorem dX7_init_1 : decode cX7_init 1 = .ok (.invokespecial 1, 3) := dk_183 0 1 (dk_at dksX7_init_0 1 rfl rfl)
theorem dX7_init_4 : decode cX7_init 4 = .ok (.aload_n 0, 1) := dk_42 (dk_at dksX7_init_0 4 rfl rfl)
theorem dX7_init_5 : decode cX7_init 5 = .ok (.sipush 2460, 3) := dk_17 9 156 (dk_at dksX7_init_0 5 rfl rfl)
theorem dX7_init_8 : decode cX7_init 8 = .ok (.newarray .int, 2) := dk_188_10 (dk_at dksX7_init_0 8 rfl rfl)
theorem dX7_init_10 : decode cX7_init 10 = .ok (.putfield 7, 3) := dk_181 0 7 (dk_at dksX7_init_0 10 rfl rfl)
theorem dX7_init_13 : decode cX7_init 13 = .ok (.aload_n 0, 1) := dk_42 (dk_at dksX7_init_0 13 rfl rfl)
theorem dX7_init_14 : decode cX7_init 14 = .ok (.bipush 60, 2) := dk_16 60 (dk_at dksX7_init_0 14 rfl rfl)
theorem dX7_init_16 : decode cX7_init 16 = .ok (.newarray .long, 2) := dk_188_11 (dk_at dksX7_init_0 16 rfl rfl)
theorem dX7_init_18 : decode cX7_init 18 = .ok (.putfield 13, 3) := dk_181 0 13 (dk_at dksX7_init_0 18 rfl rfl)
theorem dX7_init_21 : decode cX7_init 21 = .ok (.aload_n 0, 1) := dk_42 (dk_at dksX7_init_0 21 rfl rfl)
theorem dX7_init_22 : decode cX7_init 22 = .ok (.lconst 1, 1) := dk_10 (dk_at dksX7_init_0 22 rfl rfl)
theorem dX7_init_23 : decode cX7_init 23 = .ok (.putfield 17, 3) := dk_181 0 17 (dk_at dksX7_init_1 0 rfl rfl)
theorem dX7_init_26 : decode cX7_init 26 = .ok (.aload_n 0, 1) := dk_42 (dk_at dksX7_init_1 3 rfl rfl)
theorem dX7_init_27 : decode cX7_init 27 = .ok (.iconst 4, 1) := dk_7 (dk_at dksX7_init_1 4 rfl rfl)
theorem dX7_init_28 : decode cX7_init 28 = .ok (.newarray .int, 2) := dk_188_10 (dk_at dksX7_init_1 5 rfl rfl)
theorem dX7_init_30 : decode cX7_init 30 = .ok (.putfield 21, 3) := dk_181 0 21 (dk_at dksX7_init_1 7 rfl rfl)
theorem dX7_init_33 : decode cX7_init 33 = .ok (.aload_n 0, 1) := dk_42 (dk_at dksX7_init_1 10 rfl rfl)
theorem dX7_init_34 : decode cX7_init 34 = .ok (.iconst 4, 1) := dk_7 (dk_at dksX7_init_1 11 rfl rfl)
theorem dX7_init_35 : decode cX7_init 35 = .ok (.newarray .int, 2) := dk_188_10 (dk_at dksX7_init_1 12 rfl rfl)
theorem dX7_init_37 : decode cX7_init 37 = .ok (.dup, 1) := dk_89 (dk_at dksX7_init_1 14 rfl rfl)
theorem dX7_init_38 : decode cX7_init 38 = .ok (.iconst 0, 1) := dk_3 (dk_at dksX7_init_1 15 rfl rfl)
theorem dX7_init_39 : decode cX7_init 39 = .ok (.iconst (-1), 1) := dk_2 (dk_at dksX7_init_1 16 rfl rfl)
theorem dX7_init_40 : decode cX7_init 40 = .ok (.iastore, 1) := dk_79 (dk_at dksX7_init_1 17 rfl rfl)
theorem dX7_init_41 : decode cX7_init 41 = .ok (.dup, 1) := dk_89 (dk_at dksX7_init_1 18 rfl rfl)
theorem dX7_init_42 : decode cX7_init 42 = .ok (.iconst 1, 1) := dk_4 (dk_at dksX7_init_1 19 rfl rfl)
theorem dX7_init_43 : decode cX7_init 43 = .ok (.iconst (-1), 1) := dk_2 (dk_at dksX7_init_1 20 rfl rfl)
theorem dX7_init_44 : decode cX7_init 44 = .ok (.iastore, 1) := dk_79 (dk_at dksX7_init_1 21 rfl rfl)
theorem dX7_init_45 : decode cX7_init 45 = .ok (.dup, 1) := dk_89 (dk_at dksX7_init_1 22 rfl rfl)
theorem dX7_init_46 : decode cX7_init 46 = .ok (.iconst 2, 1) := dk_5 (dk_at dksX7_init_1 23 rfl rfl)
theorem dX7_init_47 : decode cX7_init 47 = .ok (.iconst (-1), 1) := dk_2 (dk_at dksX7_init_2 0 rfl rfl)
theorem dX7_init_48 : decode cX7_init 48 = .ok (.iastore, 1) := dk_79 (dk_at dksX7_init_2 1 rfl rfl)
theorem dX7_init_49 : decode cX7_init 49 = .ok (.dup, 1) := dk_89 (dk_at dksX7_init_2 2 rfl rfl)
theorem dX7_init_50 : decode cX7_init 50 = .ok (.iconst 3, 1) := dk_6 (dk_at dksX7_init_2 3 rfl rfl)
theorem dX7_init_51 : decode cX7_init 51 = .ok (.iconst (-1), 1) := dk_2 (dk_at dksX7_init_2 4 rfl rfl)
theorem dX7_init_52 : decode cX7_init 52 = .ok (.iastore, 1) := dk_79 (dk_at dksX7_init_2 5 rfl rfl)
theorem dX7_init_53 : decode cX7_init 53 = .ok (.putfield 24, 3) := dk_181 0 24 (dk_at dksX7_init_2 6 rfl rfl)
theorem dX7_init_56 : decode cX7_init 56 = .ok (.aload_n 0, 1) := dk_42 (dk_at dksX7_init_2 9 rfl rfl)
theorem dX7_init_57 : decode cX7_init 57 = .ok (.sipush 240, 3) := dk_17 0 240 (dk_at dksX7_init_2 10 rfl rfl)
theorem dX7_init_60 : decode cX7_init 60 = .ok (.newarray .long, 2) := dk_188_11 (dk_at dksX7_init_2 13 rfl rfl)
theorem dX7_init_62 : decode cX7_init 62 = .ok (.putfield 27, 3) := dk_181 0 27 (dk_at dksX7_init_2 15 rfl rfl)
theorem dX7_init_65 : decode cX7_init 65 = .ok (.aload_n 0, 1) := dk_42 (dk_at dksX7_init_2 18 rfl rfl)
theorem dX7_init_66 : decode cX7_init 66 = .ok (.sipush 900, 3) := dk_17 3 132 (dk_at dksX7_init_2 19 rfl rfl)
theorem dX7_init_69 : decode cX7_init 69 = .ok (.newarray .byte, 2) := dk_188_8 (dk_at dksX7_init_2 22 rfl rfl)
theorem dX7_init_71 : decode cX7_init 71 = .ok (.putfield 30, 3) := dk_181 0 30 (dk_at dksX7_init_3 0 rfl rfl)
theorem dX7_init_74 : decode cX7_init 74 = .ok (.aload_n 0, 1) := dk_42 (dk_at dksX7_init_3 3 rfl rfl)
theorem dX7_init_75 : decode cX7_init 75 = .ok (.sipush 900, 3) := dk_17 3 132 (dk_at dksX7_init_3 4 rfl rfl)
theorem dX7_init_78 : decode cX7_init 78 = .ok (.newarray .byte, 2) := dk_188_8 (dk_at dksX7_init_3 7 rfl rfl)
theorem dX7_init_80 : decode cX7_init 80 = .ok (.putfield 34, 3) := dk_181 0 34 (dk_at dksX7_init_3 9 rfl rfl)
theorem dX7_init_83 : decode cX7_init 83 = .ok (.aload_n 0, 1) := dk_42 (dk_at dksX7_init_3 12 rfl rfl)
theorem dX7_init_84 : decode cX7_init 84 = .ok (.iconst (-1), 1) := dk_2 (dk_at dksX7_init_3 13 rfl rfl)
theorem dX7_init_85 : decode cX7_init 85 = .ok (.putfield 37, 3) := dk_181 0 37 (dk_at dksX7_init_3 14 rfl rfl)
theorem dX7_init_88 : decode cX7_init 88 = .ok (.aload_n 0, 1) := dk_42 (dk_at dksX7_init_3 17 rfl rfl)
theorem dX7_init_89 : decode cX7_init 89 = .ok (.iconst (-1), 1) := dk_2 (dk_at dksX7_init_3 18 rfl rfl)
theorem dX7_init_90 : decode cX7_init 90 = .ok (.putfield 41, 3) := dk_181 0 41 (dk_at dksX7_init_3 19 rfl rfl)
theorem dX7_init_93 : decode cX7_init 93 = .ok (.aload_n 0, 1) := dk_42 (dk_at dksX7_init_3 22 rfl rfl)
theorem dX7_init_94 : decode cX7_init 94 = .ok (.iconst 3, 1) := dk_6 (dk_at dksX7_init_3 23 rfl rfl)
theorem dX7_init_95 : decode cX7_init 95 = .ok (.newarray .int, 2) := dk_188_10 (dk_at dksX7_init_4 0 rfl rfl)
theorem dX7_init_97 : decode cX7_init 97 = .ok (.putfield 44, 3) := dk_181 0 44 (dk_at dksX7_init_4 2 rfl rfl)
theorem dX7_init_100 : decode cX7_init 100 = .ok (.aload_n 0, 1) := dk_42 (dk_at dksX7_init_4 5 rfl rfl)
theorem dX7_init_101 : decode cX7_init 101 = .ok (.bipush 30, 2) := dk_16 30 (dk_at dksX7_init_4 6 rfl rfl)
theorem dX7_init_103 : decode cX7_init 103 = .ok (.newarray .int, 2) := dk_188_10 (dk_at dksX7_init_4 8 rfl rfl)
theorem dX7_init_105 : decode cX7_init 105 = .ok (.putfield 47, 3) := dk_181 0 47 (dk_at dksX7_init_4 10 rfl rfl)
theorem dX7_init_108 : decode cX7_init 108 = .ok (.aload_n 0, 1) := dk_42 (dk_at dksX7_init_4 13 rfl rfl)
theorem dX7_init_109 : decode cX7_init 109 = .ok (.sipush 2001, 3) := dk_17 7 209 (dk_at dksX7_init_4 14 rfl rfl)
theorem dX7_init_112 : decode cX7_init 112 = .ok (.newarray .int, 2) := dk_188_10 (dk_at dksX7_init_4 17 rfl rfl)
theorem dX7_init_114 : decode cX7_init 114 = .ok (.putfield 50, 3) := dk_181 0 50 (dk_at dksX7_init_4 19 rfl rfl)
theorem dX7_init_117 : decode cX7_init 117 = .ok (.aload_n 0, 1) := dk_42 (dk_at dksX7_init_4 22 rfl rfl)
theorem dX7_init_118 : decode cX7_init 118 = .ok (.sipush 1024, 3) := dk_17 4 0 (dk_at dksX7_init_5 0 rfl rfl)
theorem dX7_init_121 : decode cX7_init 121 = .ok (.newarray .long, 2) := dk_188_11 (dk_at dksX7_init_5 3 rfl rfl)
theorem dX7_init_123 : decode cX7_init 123 = .ok (.putfield 53, 3) := dk_181 0 53 (dk_at dksX7_init_5 5 rfl rfl)
theorem dX7_init_126 : decode cX7_init 126 = .ok (.aload_n 0, 1) := dk_42 (dk_at dksX7_init_5 8 rfl rfl)
theorem dX7_init_127 : decode cX7_init 127 = .ok (.sipush 1024, 3) := dk_17 4 0 (dk_at dksX7_init_5 9 rfl rfl)
theorem dX7_init_130 : decode cX7_init 130 = .ok (.newarray .long, 2) := dk_188_11 (dk_at dksX7_init_5 12 rfl rfl)
theorem dX7_init_132 : decode cX7_init 132 = .ok (.putfield 56, 3) := dk_181 0 56 (dk_at dksX7_init_5 14 rfl rfl)
theorem dX7_init_135 : decode cX7_init 135 = .ok (.aload_n 0, 1) := dk_42 (dk_at dksX7_init_5 17 rfl rfl)
theorem dX7_init_136 : decode cX7_init 136 = .ok (.sipush 6144, 3) := dk_17 24 0 (dk_at dksX7_init_5 18 rfl rfl)
theorem dX7_init_139 : decode cX7_init 139 = .ok (.newarray .int, 2) := dk_188_10 (dk_at dksX7_init_5 21 rfl rfl)
theorem dX7_init_141 : decode cX7_init 141 = .ok (.putfield 59, 3) := dk_181 0 59 (dk_at dksX7_init_6 0 rfl rfl)
theorem dX7_init_144 : decode cX7_init 144 = .ok (.aload_n 0, 1) := dk_42 (dk_at dksX7_init_6 3 rfl rfl)
theorem dX7_init_145 : decode cX7_init 145 = .ok (.bipush 80, 2) := dk_16 80 (dk_at dksX7_init_6 4 rfl rfl)
theorem dX7_init_147 : decode cX7_init 147 = .ok (.newarray .int, 2) := dk_188_10 (dk_at dksX7_init_6 6 rfl rfl)
theorem dX7_init_149 : decode cX7_init 149 = .ok (.putfield 62, 3) := dk_181 0 62 (dk_at dksX7_init_6 8 rfl rfl)
theorem dX7_init_152 : decode cX7_init 152 = .ok (.aload_n 0, 1) := dk_42 (dk_at dksX7_init_6 11 rfl rfl)
theorem dX7_init_153 : decode cX7_init 153 = .ok (.iconst 5, 1) := dk_8 (dk_at dksX7_init_6 12 rfl rfl)
theorem dX7_init_154 : decode cX7_init 154 = .ok (.newarray .int, 2) := dk_188_10 (dk_at dksX7_init_6 13 rfl rfl)
theorem dX7_init_156 : decode cX7_init 156 = .ok (.putfield 65, 3) := dk_181 0 65 (dk_at dksX7_init_6 15 rfl rfl)
theorem dX7_init_159 : decode cX7_init 159 = .ok (.aload_n 0, 1) := dk_42 (dk_at dksX7_init_6 18 rfl rfl)
theorem dX7_init_160 : decode cX7_init 160 = .ok (.iconst 5, 1) := dk_8 (dk_at dksX7_init_6 19 rfl rfl)
theorem dX7_init_161 : decode cX7_init 161 = .ok (.newarray .int, 2) := dk_188_10 (dk_at dksX7_init_6 20 rfl rfl)
theorem dX7_init_163 : decode cX7_init 163 = .ok (.putfield 68, 3) := dk_181 0 68 (dk_at dksX7_init_7 0 rfl rfl)
theorem dX7_init_166 : decode cX7_init 166 = .ok (.aload_n 0, 1) := dk_42 (dk_at dksX7_init_7 3 rfl rfl)
theorem dX7_init_167 : decode cX7_init 167 = .ok (.iconst 0, 1) := dk_3 (dk_at dksX7_init_7 4 rfl rfl)
theorem dX7_init_168 : decode cX7_init 168 = .ok (.invokevirtual 71, 3) := dk_182 0 71 (dk_at dksX7_init_7 5 rfl rfl)
theorem dX7_init_171 : decode cX7_init 171 = .ok (.aload_n 0, 1) := dk_42 (dk_at dksX7_init_7 8 rfl rfl)
theorem dX7_init_172 : decode cX7_init 172 = .ok (.getfield 7, 3) := dk_180 0 7 (dk_at dksX7_init_7 9 rfl rfl)
theorem dX7_init_175 : decode cX7_init 175 = .ok (.iconst 0, 1) := dk_3 (dk_at dksX7_init_7 12 rfl rfl)
theorem dX7_init_176 : decode cX7_init 176 = .ok (.iconst 1, 1) := dk_4 (dk_at dksX7_init_7 13 rfl rfl)
theorem dX7_init_177 : decode cX7_init 177 = .ok (.iastore, 1) := dk_79 (dk_at dksX7_init_7 14 rfl rfl)
theorem dX7_init_178 : decode cX7_init 178 = .ok (.aload_n 0, 1) := dk_42 (dk_at dksX7_init_7 15 rfl rfl)
theorem dX7_init_179 : decode cX7_init 179 = .ok (.getfield 7, 3) := dk_180 0 7 (dk_at dksX7_init_7 16 rfl rfl)
theorem dX7_init_182 : decode cX7_init 182 = .ok (.iconst 1, 1) := dk_4 (dk_at dksX7_init_7 19 rfl rfl)
theorem dX7_init_183 : decode cX7_init 183 = .ok (.iconst 1, 1) := dk_4 (dk_at dksX7_init_7 20 rfl rfl)
theorem dX7_init_184 : decode cX7_init 184 = .ok (.iastore, 1) := dk_79 (dk_at dksX7_init_7 21 rfl rfl)
theorem dX7_init_185 : decode cX7_init 185 = .ok (.aload_n 0, 1) := dk_42 (dk_at dksX7_init_7 22 rfl rfl)
theorem dX7_init_186 : decode cX7_init 186 = .ok (.getfield 7, 3) := dk_180 0 7 (dk_at dksX7_init_8 0 rfl rfl)
theorem dX7_init_189 : decode cX7_init 189 = .ok (.iconst 2, 1) := dk_5 (dk_at dksX7_init_8 3 rfl rfl)
theorem dX7_init_190 : decode cX7_init 190 = .ok (.iconst 1, 1) := dk_4 (dk_at dksX7_init_8 4 rfl rfl)
theorem dX7_init_191 : decode cX7_init 191 = .ok (.iastore, 1) := dk_79 (dk_at dksX7_init_8 5 rfl rfl)
theorem dX7_init_192 : decode cX7_init 192 = .ok (.return_, 1) := dk_177 (dk_at dksX7_init_8 6 rfl rfl)
abbrev cX7_plain : ByteArray := prog_16_method_2_code
def yX7_plain : MethodName := ⟨RX7, "plain", "(I)V"⟩
def dkwX7_plain_1 : List UInt8 := [42, 180, 0, 7, 27, 16, 10, 96, 2, 79, 42, 180, 0, 7, 27, 16, 11, 96, 2, 79, 177]
abbrev dktX7_plain_1 : List UInt8 := dkwX7_plain_1 ++ []
def dkwX7_plain_0 : List UInt8 := [3, 61, 28, 17, 1, 154, 162, 0, 18, 42, 180, 0, 7, 27, 28, 96, 3, 79, 132, 2, 1, 167, 255, 237]
abbrev dktX7_plain_0 : List UInt8 := dkwX7_plain_0 ++ dktX7_plain_1
theorem dksX7_plain_0 : cX7_plain.data.toList.drop 0 = dktX7_plain_0 := by decide +kernel
theorem dksX7_plain_1 : cX7_plain.data.toList.drop 24 = dktX7_plain_1 := dk_seg dksX7_plain_0 24 rfl rfl
theorem dX7_plain_0 : decode cX7_plain 0 = .ok (.iconst 0, 1) := dk_3 (dk_at dksX7_plain_0 0 rfl rfl)
theorem dX7_plain_1 : decode cX7_plain 1 = .ok (.istore_n 2, 1) := dk_61 (dk_at dksX7_plain_0 1 rfl rfl)
theorem dX7_plain_2 : decode cX7_plain 2 = .ok (.iload_n 2, 1) := dk_28 (dk_at dksX7_plain_0 2 rfl rfl)
theorem dX7_plain_3 : decode cX7_plain 3 = .ok (.sipush 410, 3) := dk_17 1 154 (dk_at dksX7_plain_0 3 rfl rfl)
theorem dX7_plain_6 : decode cX7_plain 6 = .ok (.if_icmp .ge 18, 3) := dk_162 0 18 (dk_at dksX7_plain_0 6 rfl rfl)
theorem dX7_plain_9 : decode cX7_plain 9 = .ok (.aload_n 0, 1) := dk_42 (dk_at dksX7_plain_0 9 rfl rfl)
theorem dX7_plain_10 : decode cX7_plain 10 = .ok (.getfield 7, 3) := dk_180 0 7 (dk_at dksX7_plain_0 10 rfl rfl)
theorem dX7_plain_13 : decode cX7_plain 13 = .ok (.iload_n 1, 1) := dk_27 (dk_at dksX7_plain_0 13 rfl rfl)
theorem dX7_plain_14 : decode cX7_plain 14 = .ok (.iload_n 2, 1) := dk_28 (dk_at dksX7_plain_0 14 rfl rfl)
theorem dX7_plain_15 : decode cX7_plain 15 = .ok (.iadd, 1) := dk_96 (dk_at dksX7_plain_0 15 rfl rfl)
theorem dX7_plain_16 : decode cX7_plain 16 = .ok (.iconst 0, 1) := dk_3 (dk_at dksX7_plain_0 16 rfl rfl)
theorem dX7_plain_17 : decode cX7_plain 17 = .ok (.iastore, 1) := dk_79 (dk_at dksX7_plain_0 17 rfl rfl)
theorem dX7_plain_18 : decode cX7_plain 18 = .ok (.iinc 2 1, 3) := dk_132 2 1 (dk_at dksX7_plain_0 18 rfl rfl)
theorem dX7_plain_21 : decode cX7_plain 21 = .ok (.goto (-19), 3) := dk_167 255 237 (dk_at dksX7_plain_0 21 rfl rfl)
theorem dX7_plain_24 : decode cX7_plain 24 = .ok (.aload_n 0, 1) := dk_42 (dk_at dksX7_plain_1 0 rfl rfl)
theorem dX7_plain_25 : decode cX7_plain 25 = .ok (.getfield 7, 3) := dk_180 0 7 (dk_at dksX7_plain_1 1 rfl rfl)
theorem dX7_plain_28 : decode cX7_plain 28 = .ok (.iload_n 1, 1) := dk_27 (dk_at dksX7_plain_1 4 rfl rfl)
theorem dX7_plain_29 : decode cX7_plain 29 = .ok (.bipush 10, 2) := dk_16 10 (dk_at dksX7_plain_1 5 rfl rfl)
theorem dX7_plain_31 : decode cX7_plain 31 = .ok (.iadd, 1) := dk_96 (dk_at dksX7_plain_1 7 rfl rfl)
theorem dX7_plain_32 : decode cX7_plain 32 = .ok (.iconst (-1), 1) := dk_2 (dk_at dksX7_plain_1 8 rfl rfl)
theorem dX7_plain_33 : decode cX7_plain 33 = .ok (.iastore, 1) := dk_79 (dk_at dksX7_plain_1 9 rfl rfl)
theorem dX7_plain_34 : decode cX7_plain 34 = .ok (.aload_n 0, 1) := dk_42 (dk_at dksX7_plain_1 10 rfl rfl)
theorem dX7_plain_35 : decode cX7_plain 35 = .ok (.getfield 7, 3) := dk_180 0 7 (dk_at dksX7_plain_1 11 rfl rfl)
theorem dX7_plain_38 : decode cX7_plain 38 = .ok (.iload_n 1, 1) := dk_27 (dk_at dksX7_plain_1 14 rfl rfl)
theorem dX7_plain_39 : decode cX7_plain 39 = .ok (.bipush 11, 2) := dk_16 11 (dk_at dksX7_plain_1 15 rfl rfl)
theorem dX7_plain_41 : decode cX7_plain 41 = .ok (.iadd, 1) := dk_96 (dk_at dksX7_plain_1 17 rfl rfl)
theorem dX7_plain_42 : decode cX7_plain 42 = .ok (.iconst (-1), 1) := dk_2 (dk_at dksX7_plain_1 18 rfl rfl)
theorem dX7_plain_43 : decode cX7_plain 43 = .ok (.iastore, 1) := dk_79 (dk_at dksX7_plain_1 19 rfl rfl)
theorem dX7_plain_44 : decode cX7_plain 44 = .ok (.return_, 1) := dk_177 (dk_at dksX7_plain_1 20 rfl rfl)
abbrev cX7_status : ByteArray := prog_16_method_3_code
def yX7_status : MethodName := ⟨RX7, "status", "()I"⟩
theorem dX7_status_0 : decode cX7_status 0 = .ok (.aload_n 0, 1) := by decide +kernel
theorem dX7_status_1 : decode cX7_status 1 = .ok (.getfield 75, 3) := by decide +kernel
theorem dX7_status_4 : decode cX7_status 4 = .ok (.ireturn, 1) := by decide +kernel
abbrev cX7_top : ByteArray := prog_16_method_4_code
def yX7_top : MethodName := ⟨RX7, "top", "()J"⟩
theorem dX7_top_0 : decode cX7_top 0 = .ok (.aload_n 0, 1) := by decide +kernel
theorem dX7_top_1 : decode cX7_top 1 = .ok (.getfield 78, 3) := by decide +kernel
theorem dX7_top_4 : decode cX7_top 4 = .ok (.lreturn, 1) := by decide +kernel
abbrev cX7_bottom : ByteArray := prog_16_method_5_code
def yX7_bottom : MethodName := ⟨RX7, "bottom", "()J"⟩
theorem dX7_bottom_0 : decode cX7_bottom 0 = .ok (.aload_n 0, 1) := by decide +kernel
theorem dX7_bottom_1 : decode cX7_bottom 1 = .ok (.getfield 17, 3) := by decide +kernel
theorem dX7_bottom_4 : decode cX7_bottom 4 = .ok (.lreturn, 1) := by decide +kernel
abbrev cX7_tray : ByteArray := prog_16_method_14_code
def yX7_tray : MethodName := ⟨RX7, "tray", "(III)Z"⟩
def dkwX7_tray_3 : List UInt8 := [167, 255, 234, 42, 3, 182, 0, 88, 172]
abbrev dktX7_tray_3 : List UInt8 := dkwX7_tray_3 ++ []
def dkwX7_tray_2 : List UInt8 := [54, 4, 21, 4, 29, 162, 0, 22, 42, 180, 0, 27, 16, 60, 27, 104, 21, 4, 96, 9, 80, 132, 4, 1]
abbrev dktX7_tray_2 : List UInt8 := dkwX7_tray_2 ++ dktX7_tray_3
def dkwX7_tray_1 : List UInt8 := [164, 0, 9, 42, 4, 182, 0, 88, 172, 42, 180, 0, 21, 27, 28, 79, 42, 180, 0, 24, 27, 29, 79, 3]
abbrev dktX7_tray_1 : List UInt8 := dkwX7_tray_1 ++ dktX7_tray_2
def dkwX7_tray_0 : List UInt8 := [27, 184, 0, 92, 153, 0, 22, 28, 155, 0, 18, 28, 6, 163, 0, 13, 29, 155, 0, 9, 29, 16, 60]
abbrev dktX7_tray_0 : List UInt8 := dkwX7_tray_0 ++ dktX7_tray_1
theorem dksX7_tray_0 : cX7_tray.data.toList.drop 0 = dktX7_tray_0 := by decide +kernel
theorem dksX7_tray_1 : cX7_tray.data.toList.drop 23 = dktX7_tray_1 := dk_seg dksX7_tray_0 23 rfl rfl
theorem dksX7_tray_2 : cX7_tray.data.toList.drop 47 = dktX7_tray_2 := dk_seg dksX7_tray_1 24 rfl rfl
theorem dksX7_tray_3 : cX7_tray.data.toList.drop 71 = dktX7_tray_3 := dk_seg dksX7_tray_2 24 rfl rfl
theorem dX7_tray_0 : decode cX7_tray 0 = .ok (.iload_n 1, 1) := dk_27 (dk_at dksX7_tray_0 0 rfl rfl)
theorem dX7_tray_1 : decode cX7_tray 1 = .ok (.invokestatic 92, 3) := dk_184 0 92 (dk_at dksX7_tray_0 1 rfl rfl)
theorem dX7_tray_4 : decode cX7_tray 4 = .ok (.ifCond .eq 22, 3) := dk_153 0 22 (dk_at dksX7_tray_0 4 rfl rfl)
theorem dX7_tray_7 : decode cX7_tray 7 = .ok (.iload_n 2, 1) := dk_28 (dk_at dksX7_tray_0 7 rfl rfl)
theorem dX7_tray_8 : decode cX7_tray 8 = .ok (.ifCond .lt 18, 3) := dk_155 0 18 (dk_at dksX7_tray_0 8 rfl rfl)
theorem dX7_tray_11 : decode cX7_tray 11 = .ok (.iload_n 2, 1) := dk_28 (dk_at dksX7_tray_0 11 rfl rfl)
theorem dX7_tray_12 : decode cX7_tray 12 = .ok (.iconst 3, 1) := dk_6 (dk_at dksX7_tray_0 12 rfl rfl)
theorem dX7_tray_13 : decode cX7_tray 13 = .ok (.if_icmp .gt 13, 3) := dk_163 0 13 (dk_at dksX7_tray_0 13 rfl rfl)
theorem dX7_tray_16 : decode cX7_tray 16 = .ok (.iload_n 3, 1) := dk_29 (dk_at dksX7_tray_0 16 rfl rfl)
theorem dX7_tray_17 : decode cX7_tray 17 = .ok (.ifCond .lt 9, 3) := dk_155 0 9 (dk_at dksX7_tray_0 17 rfl rfl)
theorem dX7_tray_20 : decode cX7_tray 20 = .ok (.iload_n 3, 1) := dk_29 (dk_at dksX7_tray_0 20 rfl rfl)
theorem dX7_tray_21 : decode cX7_tray 21 = .ok (.bipush 60, 2) := dk_16 60 (dk_at dksX7_tray_0 21 rfl rfl)
theorem dX7_tray_23 : decode cX7_tray 23 = .ok (.if_icmp .le 9, 3) := dk_164 0 9 (dk_at dksX7_tray_1 0 rfl rfl)
theorem dX7_tray_26 : decode cX7_tray 26 = .ok (.aload_n 0, 1) := dk_42 (dk_at dksX7_tray_1 3 rfl rfl)
theorem dX7_tray_27 : decode cX7_tray 27 = .ok (.iconst 1, 1) := dk_4 (dk_at dksX7_tray_1 4 rfl rfl)
theorem dX7_tray_28 : decode cX7_tray 28 = .ok (.invokevirtual 88, 3) := dk_182 0 88 (dk_at dksX7_tray_1 5 rfl rfl)
theorem dX7_tray_31 : decode cX7_tray 31 = .ok (.ireturn, 1) := dk_172 (dk_at dksX7_tray_1 8 rfl rfl)
theorem dX7_tray_32 : decode cX7_tray 32 = .ok (.aload_n 0, 1) := dk_42 (dk_at dksX7_tray_1 9 rfl rfl)
theorem dX7_tray_33 : decode cX7_tray 33 = .ok (.getfield 21, 3) := dk_180 0 21 (dk_at dksX7_tray_1 10 rfl rfl)
theorem dX7_tray_36 : decode cX7_tray 36 = .ok (.iload_n 1, 1) := dk_27 (dk_at dksX7_tray_1 13 rfl rfl)
theorem dX7_tray_37 : decode cX7_tray 37 = .ok (.iload_n 2, 1) := dk_28 (dk_at dksX7_tray_1 14 rfl rfl)
theorem dX7_tray_38 : decode cX7_tray 38 = .ok (.iastore, 1) := dk_79 (dk_at dksX7_tray_1 15 rfl rfl)
theorem dX7_tray_39 : decode cX7_tray 39 = .ok (.aload_n 0, 1) := dk_42 (dk_at dksX7_tray_1 16 rfl rfl)
theorem dX7_tray_40 : decode cX7_tray 40 = .ok (.getfield 24, 3) := dk_180 0 24 (dk_at dksX7_tray_1 17 rfl rfl)
theorem dX7_tray_43 : decode cX7_tray 43 = .ok (.iload_n 1, 1) := dk_27 (dk_at dksX7_tray_1 20 rfl rfl)
theorem dX7_tray_44 : decode cX7_tray 44 = .ok (.iload_n 3, 1) := dk_29 (dk_at dksX7_tray_1 21 rfl rfl)
theorem dX7_tray_45 : decode cX7_tray 45 = .ok (.iastore, 1) := dk_79 (dk_at dksX7_tray_1 22 rfl rfl)
theorem dX7_tray_46 : decode cX7_tray 46 = .ok (.iconst 0, 1) := dk_3 (dk_at dksX7_tray_1 23 rfl rfl)
theorem dX7_tray_47 : decode cX7_tray 47 = .ok (.istore 4, 2) := dk_54 4 (dk_at dksX7_tray_2 0 rfl rfl)
theorem dX7_tray_49 : decode cX7_tray 49 = .ok (.iload 4, 2) := dk_21 4 (dk_at dksX7_tray_2 2 rfl rfl)
theorem dX7_tray_51 : decode cX7_tray 51 = .ok (.iload_n 3, 1) := dk_29 (dk_at dksX7_tray_2 4 rfl rfl)
theorem dX7_tray_52 : decode cX7_tray 52 = .ok (.if_icmp .ge 22, 3) := dk_162 0 22 (dk_at dksX7_tray_2 5 rfl rfl)
theorem dX7_tray_55 : decode cX7_tray 55 = .ok (.aload_n 0, 1) := dk_42 (dk_at dksX7_tray_2 8 rfl rfl)
theorem dX7_tray_56 : decode cX7_tray 56 = .ok (.getfield 27, 3) := dk_180 0 27 (dk_at dksX7_tray_2 9 rfl rfl)
theorem dX7_tray_59 : decode cX7_tray 59 = .ok (.bipush 60, 2) := dk_16 60 (dk_at dksX7_tray_2 12 rfl rfl)
theorem dX7_tray_61 : decode cX7_tray 61 = .ok (.iload_n 1, 1) := dk_27 (dk_at dksX7_tray_2 14 rfl rfl)
theorem dX7_tray_62 : decode cX7_tray 62 = .ok (.imul, 1) := dk_104 (dk_at dksX7_tray_2 15 rfl rfl)
theorem dX7_tray_63 : decode cX7_tray 63 = .ok (.iload 4, 2) := dk_21 4 (dk_at dksX7_tray_2 16 rfl rfl)
theorem dX7_tray_65 : decode cX7_tray 65 = .ok (.iadd, 1) := dk_96 (dk_at dksX7_tray_2 18 rfl rfl)
theorem dX7_tray_66 : decode cX7_tray 66 = .ok (.lconst 0, 1) := dk_9 (dk_at dksX7_tray_2 19 rfl rfl)
theorem dX7_tray_67 : decode cX7_tray 67 = .ok (.lastore, 1) := dk_80 (dk_at dksX7_tray_2 20 rfl rfl)
theorem dX7_tray_68 : decode cX7_tray 68 = .ok (.iinc 4 1, 3) := dk_132 4 1 (dk_at dksX7_tray_2 21 rfl rfl)
theorem dX7_tray_71 : decode cX7_tray 71 = .ok (.goto (-22), 3) := dk_167 255 234 (dk_at dksX7_tray_3 0 rfl rfl)
theorem dX7_tray_74 : decode cX7_tray 74 = .ok (.aload_n 0, 1) := dk_42 (dk_at dksX7_tray_3 3 rfl rfl)
theorem dX7_tray_75 : decode cX7_tray 75 = .ok (.iconst 0, 1) := dk_3 (dk_at dksX7_tray_3 4 rfl rfl)
theorem dX7_tray_76 : decode cX7_tray 76 = .ok (.invokevirtual 88, 3) := dk_182 0 88 (dk_at dksX7_tray_3 5 rfl rfl)
theorem dX7_tray_79 : decode cX7_tray 79 = .ok (.ireturn, 1) := dk_172 (dk_at dksX7_tray_3 8 rfl rfl)
abbrev cX7_isTray : ByteArray := prog_16_method_12_code
def yX7_isTray : MethodName := ⟨RX7, "isTray", "(I)Z"⟩
def dkwX7_isTray_0 : List UInt8 := [26, 155, 0, 12, 26, 7, 162, 0, 7, 4, 167, 0, 4, 3, 172]
abbrev dktX7_isTray_0 : List UInt8 := dkwX7_isTray_0 ++ []
theorem dksX7_isTray_0 : cX7_isTray.data.toList.drop 0 = dktX7_isTray_0 := by decide +kernel
theorem dX7_isTray_0 : decode cX7_isTray 0 = .ok (.iload_n 0, 1) := dk_26 (dk_at dksX7_isTray_0 0 rfl rfl)
theorem dX7_isTray_1 : decode cX7_isTray 1 = .ok (.ifCond .lt 12, 3) := dk_155 0 12 (dk_at dksX7_isTray_0 1 rfl rfl)
theorem dX7_isTray_4 : decode cX7_isTray 4 = .ok (.iload_n 0, 1) := dk_26 (dk_at dksX7_isTray_0 4 rfl rfl)
theorem dX7_isTray_5 : decode cX7_isTray 5 = .ok (.iconst 4, 1) := dk_7 (dk_at dksX7_isTray_0 5 rfl rfl)
theorem dX7_isTray_6 : decode cX7_isTray 6 = .ok (.if_icmp .ge 7, 3) := dk_162 0 7 (dk_at dksX7_isTray_0 6 rfl rfl)
theorem dX7_isTray_9 : decode cX7_isTray 9 = .ok (.iconst 1, 1) := dk_4 (dk_at dksX7_isTray_0 9 rfl rfl)
theorem dX7_isTray_10 : decode cX7_isTray 10 = .ok (.goto 4, 3) := dk_167 0 4 (dk_at dksX7_isTray_0 10 rfl rfl)
theorem dX7_isTray_13 : decode cX7_isTray 13 = .ok (.iconst 0, 1) := dk_3 (dk_at dksX7_isTray_0 13 rfl rfl)
theorem dX7_isTray_14 : decode cX7_isTray 14 = .ok (.ireturn, 1) := dk_172 (dk_at dksX7_isTray_0 14 rfl rfl)
abbrev cX7_is : ByteArray := prog_16_method_6_code
def yX7_is : MethodName := ⟨RX7, "is", "(I)Z"⟩
def dkwX7_is_0 : List UInt8 := [42, 27, 181, 0, 75, 27, 154, 0, 7, 4, 167, 0, 4, 3, 172]
abbrev dktX7_is_0 : List UInt8 := dkwX7_is_0 ++ []
theorem dksX7_is_0 : cX7_is.data.toList.drop 0 = dktX7_is_0 := by decide +kernel
theorem dX7_is_0 : decode cX7_is 0 = .ok (.aload_n 0, 1) := dk_42 (dk_at dksX7_is_0 0 rfl rfl)
theorem dX7_is_1 : decode cX7_is 1 = .ok (.iload_n 1, 1) := dk_27 (dk_at dksX7_is_0 1 rfl rfl)
theorem dX7_is_2 : decode cX7_is 2 = .ok (.putfield 75, 3) := dk_181 0 75 (dk_at dksX7_is_0 2 rfl rfl)
theorem dX7_is_5 : decode cX7_is 5 = .ok (.iload_n 1, 1) := dk_27 (dk_at dksX7_is_0 5 rfl rfl)
theorem dX7_is_6 : decode cX7_is 6 = .ok (.ifCond .ne 7, 3) := dk_154 0 7 (dk_at dksX7_is_0 6 rfl rfl)
theorem dX7_is_9 : decode cX7_is 9 = .ok (.iconst 1, 1) := dk_4 (dk_at dksX7_is_0 9 rfl rfl)
theorem dX7_is_10 : decode cX7_is 10 = .ok (.goto 4, 3) := dk_167 0 4 (dk_at dksX7_is_0 10 rfl rfl)
theorem dX7_is_13 : decode cX7_is 13 = .ok (.iconst 0, 1) := dk_3 (dk_at dksX7_is_0 13 rfl rfl)
theorem dX7_is_14 : decode cX7_is 14 = .ok (.ireturn, 1) := dk_172 (dk_at dksX7_is_0 14 rfl rfl)
abbrev cX7_write : ByteArray := prog_16_method_16_code
def yX7_write : MethodName := ⟨RX7, "write", "(IIJ)Z"⟩
def dkwX7_write_1 : List UInt8 := [42, 180, 0, 21, 27, 46, 184, 0, 99, 80, 42, 21, 5, 182, 0, 88, 172]
abbrev dktX7_write_1 : List UInt8 := dkwX7_write_1 ++ []
def dkwX7_write_0 : List UInt8 := [42, 27, 28, 182, 0, 95, 54, 5, 21, 5, 154, 0, 24, 42, 180, 0, 27, 16, 60, 27, 104, 28, 96, 33]
abbrev dktX7_write_0 : List UInt8 := dkwX7_write_0 ++ dktX7_write_1
theorem dksX7_write_0 : cX7_write.data.toList.drop 0 = dktX7_write_0 := by decide +kernel
theorem dksX7_write_1 : cX7_write.data.toList.drop 24 = dktX7_write_1 := dk_seg dksX7_write_0 24 rfl rfl
theorem dX7_write_0 : decode cX7_write 0 = .ok (.aload_n 0, 1) := dk_42 (dk_at dksX7_write_0 0 rfl rfl)
theorem dX7_write_1 : decode cX7_write 1 = .ok (.iload_n 1, 1) := dk_27 (dk_at dksX7_write_0 1 rfl rfl)
theorem dX7_write_2 : decode cX7_write 2 = .ok (.iload_n 2, 1) := dk_28 (dk_at dksX7_write_0 2 rfl rfl)
theorem dX7_write_3 : decode cX7_write 3 = .ok (.invokevirtual 95, 3) := dk_182 0 95 (dk_at dksX7_write_0 3 rfl rfl)
theorem dX7_write_6 : decode cX7_write 6 = .ok (.istore 5, 2) := dk_54 5 (dk_at dksX7_write_0 6 rfl rfl)
theorem dX7_write_8 : decode cX7_write 8 = .ok (.iload 5, 2) := dk_21 5 (dk_at dksX7_write_0 8 rfl rfl)
theorem dX7_write_10 : decode cX7_write 10 = .ok (.ifCond .ne 24, 3) := dk_154 0 24 (dk_at dksX7_write_0 10 rfl rfl)
theorem dX7_write_13 : decode cX7_write 13 = .ok (.aload_n 0, 1) := dk_42 (dk_at dksX7_write_0 13 rfl rfl)
theorem dX7_write_14 : decode cX7_write 14 = .ok (.getfield 27, 3) := dk_180 0 27 (dk_at dksX7_write_0 14 rfl rfl)
theorem dX7_write_17 : decode cX7_write 17 = .ok (.bipush 60, 2) := dk_16 60 (dk_at dksX7_write_0 17 rfl rfl)
theorem dX7_write_19 : decode cX7_write 19 = .ok (.iload_n 1, 1) := dk_27 (dk_at dksX7_write_0 19 rfl rfl)
theorem dX7_write_20 : decode cX7_write 20 = .ok (.imul, 1) := dk_104 (dk_at dksX7_write_0 20 rfl rfl)
theorem dX7_write_21 : decode cX7_write 21 = .ok (.iload_n 2, 1) := dk_28 (dk_at dksX7_write_0 21 rfl rfl)
theorem dX7_write_22 : decode cX7_write 22 = .ok (.iadd, 1) := dk_96 (dk_at dksX7_write_0 22 rfl rfl)
theorem dX7_write_23 : decode cX7_write 23 = .ok (.lload_n 3, 1) := dk_33 (dk_at dksX7_write_0 23 rfl rfl)
theorem dX7_write_24 : decode cX7_write 24 = .ok (.aload_n 0, 1) := dk_42 (dk_at dksX7_write_1 0 rfl rfl)
theorem dX7_write_25 : decode cX7_write 25 = .ok (.getfield 21, 3) := dk_180 0 21 (dk_at dksX7_write_1 1 rfl rfl)
theorem dX7_write_28 : decode cX7_write 28 = .ok (.iload_n 1, 1) := dk_27 (dk_at dksX7_write_1 4 rfl rfl)
theorem dX7_write_29 : decode cX7_write 29 = .ok (.iaload, 1) := dk_46 (dk_at dksX7_write_1 5 rfl rfl)
theorem dX7_write_30 : decode cX7_write 30 = .ok (.invokestatic 99, 3) := dk_184 0 99 (dk_at dksX7_write_1 6 rfl rfl)
theorem dX7_write_33 : decode cX7_write 33 = .ok (.lastore, 1) := dk_80 (dk_at dksX7_write_1 9 rfl rfl)
theorem dX7_write_34 : decode cX7_write 34 = .ok (.aload_n 0, 1) := dk_42 (dk_at dksX7_write_1 10 rfl rfl)
theorem dX7_write_35 : decode cX7_write 35 = .ok (.iload 5, 2) := dk_21 5 (dk_at dksX7_write_1 11 rfl rfl)
theorem dX7_write_37 : decode cX7_write 37 = .ok (.invokevirtual 88, 3) := dk_182 0 88 (dk_at dksX7_write_1 13 rfl rfl)
theorem dX7_write_40 : decode cX7_write 40 = .ok (.ireturn, 1) := dk_172 (dk_at dksX7_write_1 16 rfl rfl)
abbrev cX7_wrongPlace : ByteArray := prog_16_method_15_code
def yX7_wrongPlace : MethodName := ⟨RX7, "wrongPlace", "(II)I"⟩
def dkwX7_wrongPlace_1 : List UInt8 := [167, 0, 22, 28, 155, 0, 13, 28, 42, 180, 0, 24, 27, 46, 161, 0, 7, 6, 167, 0, 4, 3, 172]
abbrev dktX7_wrongPlace_1 : List UInt8 := dkwX7_wrongPlace_1 ++ []
def dkwX7_wrongPlace_0 : List UInt8 := [27, 184, 0, 92, 154, 0, 7, 4, 167, 0, 36, 42, 180, 0, 24, 27, 46, 2, 160, 0, 7, 5]
abbrev dktX7_wrongPlace_0 : List UInt8 := dkwX7_wrongPlace_0 ++ dktX7_wrongPlace_1
theorem dksX7_wrongPlace_0 : cX7_wrongPlace.data.toList.drop 0 = dktX7_wrongPlace_0 := by decide +kernel
theorem dksX7_wrongPlace_1 : cX7_wrongPlace.data.toList.drop 22 = dktX7_wrongPlace_1 := dk_seg dksX7_wrongPlace_0 22 rfl rfl
theorem dX7_wrongPlace_0 : decode cX7_wrongPlace 0 = .ok (.iload_n 1, 1) := dk_27 (dk_at dksX7_wrongPlace_0 0 rfl rfl)
theorem dX7_wrongPlace_1 : decode cX7_wrongPlace 1 = .ok (.invokestatic 92, 3) := dk_184 0 92 (dk_at dksX7_wrongPlace_0 1 rfl rfl)
theorem dX7_wrongPlace_4 : decode cX7_wrongPlace 4 = .ok (.ifCond .ne 7, 3) := dk_154 0 7 (dk_at dksX7_wrongPlace_0 4 rfl rfl)
theorem dX7_wrongPlace_7 : decode cX7_wrongPlace 7 = .ok (.iconst 1, 1) := dk_4 (dk_at dksX7_wrongPlace_0 7 rfl rfl)
theorem dX7_wrongPlace_8 : decode cX7_wrongPlace 8 = .ok (.goto 36, 3) := dk_167 0 36 (dk_at dksX7_wrongPlace_0 8 rfl rfl)
theorem dX7_wrongPlace_11 : decode cX7_wrongPlace 11 = .ok (.aload_n 0, 1) := dk_42 (dk_at dksX7_wrongPlace_0 11 rfl rfl)
theorem dX7_wrongPlace_12 : decode cX7_wrongPlace 12 = .ok (.getfield 24, 3) := dk_180 0 24 (dk_at dksX7_wrongPlace_0 12 rfl rfl)
theorem dX7_wrongPlace_15 : decode cX7_wrongPlace 15 = .ok (.iload_n 1, 1) := dk_27 (dk_at dksX7_wrongPlace_0 15 rfl rfl)
theorem dX7_wrongPlace_16 : decode cX7_wrongPlace 16 = .ok (.iaload, 1) := dk_46 (dk_at dksX7_wrongPlace_0 16 rfl rfl)
theorem dX7_wrongPlace_17 : decode cX7_wrongPlace 17 = .ok (.iconst (-1), 1) := dk_2 (dk_at dksX7_wrongPlace_0 17 rfl rfl)
theorem dX7_wrongPlace_18 : decode cX7_wrongPlace 18 = .ok (.if_icmp .ne 7, 3) := dk_160 0 7 (dk_at dksX7_wrongPlace_0 18 rfl rfl)
theorem dX7_wrongPlace_21 : decode cX7_wrongPlace 21 = .ok (.iconst 2, 1) := dk_5 (dk_at dksX7_wrongPlace_0 21 rfl rfl)
theorem dX7_wrongPlace_22 : decode cX7_wrongPlace 22 = .ok (.goto 22, 3) := dk_167 0 22 (dk_at dksX7_wrongPlace_1 0 rfl rfl)
theorem dX7_wrongPlace_25 : decode cX7_wrongPlace 25 = .ok (.iload_n 2, 1) := dk_28 (dk_at dksX7_wrongPlace_1 3 rfl rfl)
theorem dX7_wrongPlace_26 : decode cX7_wrongPlace 26 = .ok (.ifCond .lt 13, 3) := dk_155 0 13 (dk_at dksX7_wrongPlace_1 4 rfl rfl)
theorem dX7_wrongPlace_29 : decode cX7_wrongPlace 29 = .ok (.iload_n 2, 1) := dk_28 (dk_at dksX7_wrongPlace_1 7 rfl rfl)
theorem dX7_wrongPlace_30 : decode cX7_wrongPlace 30 = .ok (.aload_n 0, 1) := dk_42 (dk_at dksX7_wrongPlace_1 8 rfl rfl)
theorem dX7_wrongPlace_31 : decode cX7_wrongPlace 31 = .ok (.getfield 24, 3) := dk_180 0 24 (dk_at dksX7_wrongPlace_1 9 rfl rfl)
theorem dX7_wrongPlace_34 : decode cX7_wrongPlace 34 = .ok (.iload_n 1, 1) := dk_27 (dk_at dksX7_wrongPlace_1 12 rfl rfl)
theorem dX7_wrongPlace_35 : decode cX7_wrongPlace 35 = .ok (.iaload, 1) := dk_46 (dk_at dksX7_wrongPlace_1 13 rfl rfl)
theorem dX7_wrongPlace_36 : decode cX7_wrongPlace 36 = .ok (.if_icmp .lt 7, 3) := dk_161 0 7 (dk_at dksX7_wrongPlace_1 14 rfl rfl)
theorem dX7_wrongPlace_39 : decode cX7_wrongPlace 39 = .ok (.iconst 3, 1) := dk_6 (dk_at dksX7_wrongPlace_1 17 rfl rfl)
theorem dX7_wrongPlace_40 : decode cX7_wrongPlace 40 = .ok (.goto 4, 3) := dk_167 0 4 (dk_at dksX7_wrongPlace_1 18 rfl rfl)
theorem dX7_wrongPlace_43 : decode cX7_wrongPlace 43 = .ok (.iconst 0, 1) := dk_3 (dk_at dksX7_wrongPlace_1 21 rfl rfl)
theorem dX7_wrongPlace_44 : decode cX7_wrongPlace 44 = .ok (.ireturn, 1) := dk_172 (dk_at dksX7_wrongPlace_1 22 rfl rfl)
abbrev cX7_cut : ByteArray := prog_16_method_13_code
def yX7_cut : MethodName := ⟨RX7, "cut", "(JI)J"⟩
def dkwX7_cut_1 : List UInt8 := [5, 160, 0, 9, 30, 136, 133, 167, 0, 4, 30, 173]
abbrev dktX7_cut_1 : List UInt8 := dkwX7_cut_1 ++ []
def dkwX7_cut_0 : List UInt8 := [28, 154, 0, 10, 30, 136, 145, 133, 167, 0, 27, 28, 4, 160, 0, 10, 30, 136, 147, 133, 167, 0, 15, 28]
abbrev dktX7_cut_0 : List UInt8 := dkwX7_cut_0 ++ dktX7_cut_1
theorem dksX7_cut_0 : cX7_cut.data.toList.drop 0 = dktX7_cut_0 := by decide +kernel
theorem dksX7_cut_1 : cX7_cut.data.toList.drop 24 = dktX7_cut_1 := dk_seg dksX7_cut_0 24 rfl rfl
theorem dX7_cut_0 : decode cX7_cut 0 = .ok (.iload_n 2, 1) := dk_28 (dk_at dksX7_cut_0 0 rfl rfl)
theorem dX7_cut_1 : decode cX7_cut 1 = .ok (.ifCond .ne 10, 3) := dk_154 0 10 (dk_at dksX7_cut_0 1 rfl rfl)
theorem dX7_cut_4 : decode cX7_cut 4 = .ok (.lload_n 0, 1) := dk_30 (dk_at dksX7_cut_0 4 rfl rfl)
theorem dX7_cut_5 : decode cX7_cut 5 = .ok (.l2i, 1) := dk_136 (dk_at dksX7_cut_0 5 rfl rfl)
theorem dX7_cut_6 : decode cX7_cut 6 = .ok (.i2b, 1) := dk_145 (dk_at dksX7_cut_0 6 rfl rfl)
theorem dX7_cut_7 : decode cX7_cut 7 = .ok (.i2l, 1) := dk_133 (dk_at dksX7_cut_0 7 rfl rfl)
theorem dX7_cut_8 : decode cX7_cut 8 = .ok (.goto 27, 3) := dk_167 0 27 (dk_at dksX7_cut_0 8 rfl rfl)
theorem dX7_cut_11 : decode cX7_cut 11 = .ok (.iload_n 2, 1) := dk_28 (dk_at dksX7_cut_0 11 rfl rfl)
theorem dX7_cut_12 : decode cX7_cut 12 = .ok (.iconst 1, 1) := dk_4 (dk_at dksX7_cut_0 12 rfl rfl)
theorem dX7_cut_13 : decode cX7_cut 13 = .ok (.if_icmp .ne 10, 3) := dk_160 0 10 (dk_at dksX7_cut_0 13 rfl rfl)
theorem dX7_cut_16 : decode cX7_cut 16 = .ok (.lload_n 0, 1) := dk_30 (dk_at dksX7_cut_0 16 rfl rfl)
theorem dX7_cut_17 : decode cX7_cut 17 = .ok (.l2i, 1) := dk_136 (dk_at dksX7_cut_0 17 rfl rfl)
theorem dX7_cut_18 : decode cX7_cut 18 = .ok (.i2s, 1) := dk_147 (dk_at dksX7_cut_0 18 rfl rfl)
theorem dX7_cut_19 : decode cX7_cut 19 = .ok (.i2l, 1) := dk_133 (dk_at dksX7_cut_0 19 rfl rfl)
theorem dX7_cut_20 : decode cX7_cut 20 = .ok (.goto 15, 3) := dk_167 0 15 (dk_at dksX7_cut_0 20 rfl rfl)
theorem dX7_cut_23 : decode cX7_cut 23 = .ok (.iload_n 2, 1) := dk_28 (dk_at dksX7_cut_0 23 rfl rfl)
theorem dX7_cut_24 : decode cX7_cut 24 = .ok (.iconst 2, 1) := dk_5 (dk_at dksX7_cut_1 0 rfl rfl)
theorem dX7_cut_25 : decode cX7_cut 25 = .ok (.if_icmp .ne 9, 3) := dk_160 0 9 (dk_at dksX7_cut_1 1 rfl rfl)
theorem dX7_cut_28 : decode cX7_cut 28 = .ok (.lload_n 0, 1) := dk_30 (dk_at dksX7_cut_1 4 rfl rfl)
theorem dX7_cut_29 : decode cX7_cut 29 = .ok (.l2i, 1) := dk_136 (dk_at dksX7_cut_1 5 rfl rfl)
theorem dX7_cut_30 : decode cX7_cut 30 = .ok (.i2l, 1) := dk_133 (dk_at dksX7_cut_1 6 rfl rfl)
theorem dX7_cut_31 : decode cX7_cut 31 = .ok (.goto 4, 3) := dk_167 0 4 (dk_at dksX7_cut_1 7 rfl rfl)
theorem dX7_cut_34 : decode cX7_cut 34 = .ok (.lload_n 0, 1) := dk_30 (dk_at dksX7_cut_1 10 rfl rfl)
theorem dX7_cut_35 : decode cX7_cut 35 = .ok (.lreturn, 1) := dk_173 (dk_at dksX7_cut_1 11 rfl rfl)
abbrev cX7_read : ByteArray := prog_16_method_17_code
def yX7_read : MethodName := ⟨RX7, "read", "(II)J"⟩
def dkwX7_read_1 : List UInt8 := [180, 0, 27, 16, 60, 27, 104, 28, 96, 47, 173]
abbrev dktX7_read_1 : List UInt8 := dkwX7_read_1 ++ []
def dkwX7_read_0 : List UInt8 := [42, 42, 27, 28, 182, 0, 95, 181, 0, 75, 42, 180, 0, 75, 158, 0, 9, 20, 0, 103, 167, 0, 14, 42]
abbrev dktX7_read_0 : List UInt8 := dkwX7_read_0 ++ dktX7_read_1
theorem dksX7_read_0 : cX7_read.data.toList.drop 0 = dktX7_read_0 := by decide +kernel
theorem dksX7_read_1 : cX7_read.data.toList.drop 24 = dktX7_read_1 := dk_seg dksX7_read_0 24 rfl rfl
theorem dX7_read_0 : decode cX7_read 0 = .ok (.aload_n 0, 1) := dk_42 (dk_at dksX7_read_0 0 rfl rfl)
theorem dX7_read_1 : decode cX7_read 1 = .ok (.aload_n 0, 1) := dk_42 (dk_at dksX7_read_0 1 rfl rfl)
theorem dX7_read_2 : decode cX7_read 2 = .ok (.iload_n 1, 1) := dk_27 (dk_at dksX7_read_0 2 rfl rfl)
theorem dX7_read_3 : decode cX7_read 3 = .ok (.iload_n 2, 1) := dk_28 (dk_at dksX7_read_0 3 rfl rfl)
theorem dX7_read_4 : decode cX7_read 4 = .ok (.invokevirtual 95, 3) := dk_182 0 95 (dk_at dksX7_read_0 4 rfl rfl)
theorem dX7_read_7 : decode cX7_read 7 = .ok (.putfield 75, 3) := dk_181 0 75 (dk_at dksX7_read_0 7 rfl rfl)
theorem dX7_read_10 : decode cX7_read 10 = .ok (.aload_n 0, 1) := dk_42 (dk_at dksX7_read_0 10 rfl rfl)
theorem dX7_read_11 : decode cX7_read 11 = .ok (.getfield 75, 3) := dk_180 0 75 (dk_at dksX7_read_0 11 rfl rfl)
theorem dX7_read_14 : decode cX7_read 14 = .ok (.ifCond .le 9, 3) := dk_158 0 9 (dk_at dksX7_read_0 14 rfl rfl)
theorem dX7_read_17 : decode cX7_read 17 = .ok (.ldc2_w 103, 3) := dk_20 0 103 (dk_at dksX7_read_0 17 rfl rfl)
theorem dX7_read_20 : decode cX7_read 20 = .ok (.goto 14, 3) := dk_167 0 14 (dk_at dksX7_read_0 20 rfl rfl)
theorem dX7_read_23 : decode cX7_read 23 = .ok (.aload_n 0, 1) := dk_42 (dk_at dksX7_read_0 23 rfl rfl)
theorem dX7_read_24 : decode cX7_read 24 = .ok (.getfield 27, 3) := dk_180 0 27 (dk_at dksX7_read_1 0 rfl rfl)
theorem dX7_read_27 : decode cX7_read 27 = .ok (.bipush 60, 2) := dk_16 60 (dk_at dksX7_read_1 3 rfl rfl)
theorem dX7_read_29 : decode cX7_read 29 = .ok (.iload_n 1, 1) := dk_27 (dk_at dksX7_read_1 5 rfl rfl)
theorem dX7_read_30 : decode cX7_read 30 = .ok (.imul, 1) := dk_104 (dk_at dksX7_read_1 6 rfl rfl)
theorem dX7_read_31 : decode cX7_read 31 = .ok (.iload_n 2, 1) := dk_28 (dk_at dksX7_read_1 7 rfl rfl)
theorem dX7_read_32 : decode cX7_read 32 = .ok (.iadd, 1) := dk_96 (dk_at dksX7_read_1 8 rfl rfl)
theorem dX7_read_33 : decode cX7_read 33 = .ok (.laload, 1) := dk_47 (dk_at dksX7_read_1 9 rfl rfl)
theorem dX7_read_34 : decode cX7_read 34 = .ok (.lreturn, 1) := dk_173 (dk_at dksX7_read_1 10 rfl rfl)
abbrev cX7_pour : ByteArray := prog_16_method_18_code
def yX7_pour : MethodName := ⟨RX7, "pour", "(IIIII)Z"⟩
def dkwX7_pour_8 : List UInt8 := [182, 0, 88, 172]
abbrev dktX7_pour_8 : List UInt8 := dkwX7_pour_8 ++ []
def dkwX7_pour_7 : List UInt8 := [180, 0, 27, 16, 60, 27, 104, 28, 96, 21, 7, 96, 47, 80, 132, 6, 1, 167, 255, 197, 42, 3]
abbrev dktX7_pour_7 : List UInt8 := dkwX7_pour_7 ++ dktX7_pour_8
def dkwX7_pour_6 : List UInt8 := [167, 0, 5, 21, 6, 54, 7, 42, 180, 0, 27, 16, 60, 29, 104, 21, 4, 96, 21, 7, 96, 42]
abbrev dktX7_pour_6 : List UInt8 := dkwX7_pour_6 ++ dktX7_pour_7
def dkwX7_pour_5 : List UInt8 := [3, 54, 6, 21, 6, 21, 5, 162, 0, 58, 28, 21, 4, 162, 0, 13, 21, 5, 4, 100, 21, 6, 100]
abbrev dktX7_pour_5 : List UInt8 := dkwX7_pour_5 ++ dktX7_pour_6
def dkwX7_pour_4 : List UInt8 := [100, 163, 0, 17, 21, 5, 42, 180, 0, 24, 29, 46, 21, 4, 100, 164, 0, 9, 42, 6, 182, 0, 88, 172]
abbrev dktX7_pour_4 : List UInt8 := dkwX7_pour_4 ++ dktX7_pour_5
def dkwX7_pour_3 : List UInt8 := [180, 0, 21, 29, 46, 159, 0, 10, 42, 16, 8, 182, 0, 88, 172, 21, 5, 42, 180, 0, 24, 27, 46, 28]
abbrev dktX7_pour_3 : List UInt8 := dkwX7_pour_3 ++ dktX7_pour_4
def dkwX7_pour_2 : List UInt8 := [180, 0, 24, 29, 46, 2, 160, 0, 9, 42, 5, 182, 0, 88, 172, 42, 180, 0, 21, 27, 46, 42]
abbrev dktX7_pour_2 : List UInt8 := dkwX7_pour_2 ++ dktX7_pour_3
def dkwX7_pour_1 : List UInt8 := [21, 5, 156, 0, 9, 42, 4, 182, 0, 88, 172, 42, 180, 0, 24, 27, 46, 2, 159, 0, 13, 42]
abbrev dktX7_pour_1 : List UInt8 := dkwX7_pour_1 ++ dktX7_pour_2
def dkwX7_pour_0 : List UInt8 := [27, 184, 0, 92, 153, 0, 24, 29, 184, 0, 92, 153, 0, 17, 28, 155, 0, 13, 21, 4, 155, 0, 8]
abbrev dktX7_pour_0 : List UInt8 := dkwX7_pour_0 ++ dktX7_pour_1
theorem dksX7_pour_0 : cX7_pour.data.toList.drop 0 = dktX7_pour_0 := by decide +kernel
theorem dksX7_pour_1 : cX7_pour.data.toList.drop 23 = dktX7_pour_1 := dk_seg dksX7_pour_0 23 rfl rfl
theorem dksX7_pour_2 : cX7_pour.data.toList.drop 45 = dktX7_pour_2 := dk_seg dksX7_pour_1 22 rfl rfl
theorem dksX7_pour_3 : cX7_pour.data.toList.drop 67 = dktX7_pour_3 := dk_seg dksX7_pour_2 22 rfl rfl
theorem dksX7_pour_4 : cX7_pour.data.toList.drop 91 = dktX7_pour_4 := dk_seg dksX7_pour_3 24 rfl rfl
theorem dksX7_pour_5 : cX7_pour.data.toList.drop 115 = dktX7_pour_5 := dk_seg dksX7_pour_4 24 rfl rfl
theorem dksX7_pour_6 : cX7_pour.data.toList.drop 138 = dktX7_pour_6 := dk_seg dksX7_pour_5 23 rfl rfl
theorem dksX7_pour_7 : cX7_pour.data.toList.drop 160 = dktX7_pour_7 := dk_seg dksX7_pour_6 22 rfl rfl
theorem dksX7_pour_8 : cX7_pour.data.toList.drop 182 = dktX7_pour_8 := dk_seg dksX7_pour_7 22 rfl rfl
theorem dX7_pour_0 : decode cX7_pour 0 = .ok (.iload_n 1, 1) := dk_27 (dk_at dksX7_pour_0 0 rfl rfl)
theorem dX7_pour_1 : decode cX7_pour 1 = .ok (.invokestatic 92, 3) := dk_184 0 92 (dk_at dksX7_pour_0 1 rfl rfl)
theorem dX7_pour_4 : decode cX7_pour 4 = .ok (.ifCond .eq 24, 3) := dk_153 0 24 (dk_at dksX7_pour_0 4 rfl rfl)
theorem dX7_pour_7 : decode cX7_pour 7 = .ok (.iload_n 3, 1) := dk_29 (dk_at dksX7_pour_0 7 rfl rfl)
theorem dX7_pour_8 : decode cX7_pour 8 = .ok (.invokestatic 92, 3) := dk_184 0 92 (dk_at dksX7_pour_0 8 rfl rfl)
theorem dX7_pour_11 : decode cX7_pour 11 = .ok (.ifCond .eq 17, 3) := dk_153 0 17 (dk_at dksX7_pour_0 11 rfl rfl)
theorem dX7_pour_14 : decode cX7_pour 14 = .ok (.iload_n 2, 1) := dk_28 (dk_at dksX7_pour_0 14 rfl rfl)
theorem dX7_pour_15 : decode cX7_pour 15 = .ok (.ifCond .lt 13, 3) := dk_155 0 13 (dk_at dksX7_pour_0 15 rfl rfl)
theorem dX7_pour_18 : decode cX7_pour 18 = .ok (.iload 4, 2) := dk_21 4 (dk_at dksX7_pour_0 18 rfl rfl)
theorem dX7_pour_20 : decode cX7_pour 20 = .ok (.ifCond .lt 8, 3) := dk_155 0 8 (dk_at dksX7_pour_0 20 rfl rfl)
theorem dX7_pour_23 : decode cX7_pour 23 = .ok (.iload 5, 2) := dk_21 5 (dk_at dksX7_pour_1 0 rfl rfl)
theorem dX7_pour_25 : decode cX7_pour 25 = .ok (.ifCond .ge 9, 3) := dk_156 0 9 (dk_at dksX7_pour_1 2 rfl rfl)
theorem dX7_pour_28 : decode cX7_pour 28 = .ok (.aload_n 0, 1) := dk_42 (dk_at dksX7_pour_1 5 rfl rfl)
theorem dX7_pour_29 : decode cX7_pour 29 = .ok (.iconst 1, 1) := dk_4 (dk_at dksX7_pour_1 6 rfl rfl)
theorem dX7_pour_30 : decode cX7_pour 30 = .ok (.invokevirtual 88, 3) := dk_182 0 88 (dk_at dksX7_pour_1 7 rfl rfl)
theorem dX7_pour_33 : decode cX7_pour 33 = .ok (.ireturn, 1) := dk_172 (dk_at dksX7_pour_1 10 rfl rfl)
theorem dX7_pour_34 : decode cX7_pour 34 = .ok (.aload_n 0, 1) := dk_42 (dk_at dksX7_pour_1 11 rfl rfl)
theorem dX7_pour_35 : decode cX7_pour 35 = .ok (.getfield 24, 3) := dk_180 0 24 (dk_at dksX7_pour_1 12 rfl rfl)
theorem dX7_pour_38 : decode cX7_pour 38 = .ok (.iload_n 1, 1) := dk_27 (dk_at dksX7_pour_1 15 rfl rfl)
theorem dX7_pour_39 : decode cX7_pour 39 = .ok (.iaload, 1) := dk_46 (dk_at dksX7_pour_1 16 rfl rfl)
theorem dX7_pour_40 : decode cX7_pour 40 = .ok (.iconst (-1), 1) := dk_2 (dk_at dksX7_pour_1 17 rfl rfl)
theorem dX7_pour_41 : decode cX7_pour 41 = .ok (.if_icmp .eq 13, 3) := dk_159 0 13 (dk_at dksX7_pour_1 18 rfl rfl)
theorem dX7_pour_44 : decode cX7_pour 44 = .ok (.aload_n 0, 1) := dk_42 (dk_at dksX7_pour_1 21 rfl rfl)
theorem dX7_pour_45 : decode cX7_pour 45 = .ok (.getfield 24, 3) := dk_180 0 24 (dk_at dksX7_pour_2 0 rfl rfl)
theorem dX7_pour_48 : decode cX7_pour 48 = .ok (.iload_n 3, 1) := dk_29 (dk_at dksX7_pour_2 3 rfl rfl)
theorem dX7_pour_49 : decode cX7_pour 49 = .ok (.iaload, 1) := dk_46 (dk_at dksX7_pour_2 4 rfl rfl)
theorem dX7_pour_50 : decode cX7_pour 50 = .ok (.iconst (-1), 1) := dk_2 (dk_at dksX7_pour_2 5 rfl rfl)
theorem dX7_pour_51 : decode cX7_pour 51 = .ok (.if_icmp .ne 9, 3) := dk_160 0 9 (dk_at dksX7_pour_2 6 rfl rfl)
theorem dX7_pour_54 : decode cX7_pour 54 = .ok (.aload_n 0, 1) := dk_42 (dk_at dksX7_pour_2 9 rfl rfl)
theorem dX7_pour_55 : decode cX7_pour 55 = .ok (.iconst 2, 1) := dk_5 (dk_at dksX7_pour_2 10 rfl rfl)
theorem dX7_pour_56 : decode cX7_pour 56 = .ok (.invokevirtual 88, 3) := dk_182 0 88 (dk_at dksX7_pour_2 11 rfl rfl)
theorem dX7_pour_59 : decode cX7_pour 59 = .ok (.ireturn, 1) := dk_172 (dk_at dksX7_pour_2 14 rfl rfl)
theorem dX7_pour_60 : decode cX7_pour 60 = .ok (.aload_n 0, 1) := dk_42 (dk_at dksX7_pour_2 15 rfl rfl)
theorem dX7_pour_61 : decode cX7_pour 61 = .ok (.getfield 21, 3) := dk_180 0 21 (dk_at dksX7_pour_2 16 rfl rfl)
theorem dX7_pour_64 : decode cX7_pour 64 = .ok (.iload_n 1, 1) := dk_27 (dk_at dksX7_pour_2 19 rfl rfl)
theorem dX7_pour_65 : decode cX7_pour 65 = .ok (.iaload, 1) := dk_46 (dk_at dksX7_pour_2 20 rfl rfl)
theorem dX7_pour_66 : decode cX7_pour 66 = .ok (.aload_n 0, 1) := dk_42 (dk_at dksX7_pour_2 21 rfl rfl)
theorem dX7_pour_67 : decode cX7_pour 67 = .ok (.getfield 21, 3) := dk_180 0 21 (dk_at dksX7_pour_3 0 rfl rfl)
theorem dX7_pour_70 : decode cX7_pour 70 = .ok (.iload_n 3, 1) := dk_29 (dk_at dksX7_pour_3 3 rfl rfl)
theorem dX7_pour_71 : decode cX7_pour 71 = .ok (.iaload, 1) := dk_46 (dk_at dksX7_pour_3 4 rfl rfl)
theorem dX7_pour_72 : decode cX7_pour 72 = .ok (.if_icmp .eq 10, 3) := dk_159 0 10 (dk_at dksX7_pour_3 5 rfl rfl)
theorem dX7_pour_75 : decode cX7_pour 75 = .ok (.aload_n 0, 1) := dk_42 (dk_at dksX7_pour_3 8 rfl rfl)
theorem dX7_pour_76 : decode cX7_pour 76 = .ok (.bipush 8, 2) := dk_16 8 (dk_at dksX7_pour_3 9 rfl rfl)
theorem dX7_pour_78 : decode cX7_pour 78 = .ok (.invokevirtual 88, 3) := dk_182 0 88 (dk_at dksX7_pour_3 11 rfl rfl)
theorem dX7_pour_81 : decode cX7_pour 81 = .ok (.ireturn, 1) := dk_172 (dk_at dksX7_pour_3 14 rfl rfl)
theorem dX7_pour_82 : decode cX7_pour 82 = .ok (.iload 5, 2) := dk_21 5 (dk_at dksX7_pour_3 15 rfl rfl)
theorem dX7_pour_84 : decode cX7_pour 84 = .ok (.aload_n 0, 1) := dk_42 (dk_at dksX7_pour_3 17 rfl rfl)
theorem dX7_pour_85 : decode cX7_pour 85 = .ok (.getfield 24, 3) := dk_180 0 24 (dk_at dksX7_pour_3 18 rfl rfl)
theorem dX7_pour_88 : decode cX7_pour 88 = .ok (.iload_n 1, 1) := dk_27 (dk_at dksX7_pour_3 21 rfl rfl)
theorem dX7_pour_89 : decode cX7_pour 89 = .ok (.iaload, 1) := dk_46 (dk_at dksX7_pour_3 22 rfl rfl)
theorem dX7_pour_90 : decode cX7_pour 90 = .ok (.iload_n 2, 1) := dk_28 (dk_at dksX7_pour_3 23 rfl rfl)
theorem dX7_pour_91 : decode cX7_pour 91 = .ok (.isub, 1) := dk_100 (dk_at dksX7_pour_4 0 rfl rfl)
theorem dX7_pour_92 : decode cX7_pour 92 = .ok (.if_icmp .gt 17, 3) := dk_163 0 17 (dk_at dksX7_pour_4 1 rfl rfl)
theorem dX7_pour_95 : decode cX7_pour 95 = .ok (.iload 5, 2) := dk_21 5 (dk_at dksX7_pour_4 4 rfl rfl)
theorem dX7_pour_97 : decode cX7_pour 97 = .ok (.aload_n 0, 1) := dk_42 (dk_at dksX7_pour_4 6 rfl rfl)
theorem dX7_pour_98 : decode cX7_pour 98 = .ok (.getfield 24, 3) := dk_180 0 24 (dk_at dksX7_pour_4 7 rfl rfl)
theorem dX7_pour_101 : decode cX7_pour 101 = .ok (.iload_n 3, 1) := dk_29 (dk_at dksX7_pour_4 10 rfl rfl)
theorem dX7_pour_102 : decode cX7_pour 102 = .ok (.iaload, 1) := dk_46 (dk_at dksX7_pour_4 11 rfl rfl)
theorem dX7_pour_103 : decode cX7_pour 103 = .ok (.iload 4, 2) := dk_21 4 (dk_at dksX7_pour_4 12 rfl rfl)
theorem dX7_pour_105 : decode cX7_pour 105 = .ok (.isub, 1) := dk_100 (dk_at dksX7_pour_4 14 rfl rfl)
theorem dX7_pour_106 : decode cX7_pour 106 = .ok (.if_icmp .le 9, 3) := dk_164 0 9 (dk_at dksX7_pour_4 15 rfl rfl)
theorem dX7_pour_109 : decode cX7_pour 109 = .ok (.aload_n 0, 1) := dk_42 (dk_at dksX7_pour_4 18 rfl rfl)
theorem dX7_pour_110 : decode cX7_pour 110 = .ok (.iconst 3, 1) := dk_6 (dk_at dksX7_pour_4 19 rfl rfl)
theorem dX7_pour_111 : decode cX7_pour 111 = .ok (.invokevirtual 88, 3) := dk_182 0 88 (dk_at dksX7_pour_4 20 rfl rfl)
theorem dX7_pour_114 : decode cX7_pour 114 = .ok (.ireturn, 1) := dk_172 (dk_at dksX7_pour_4 23 rfl rfl)
theorem dX7_pour_115 : decode cX7_pour 115 = .ok (.iconst 0, 1) := dk_3 (dk_at dksX7_pour_5 0 rfl rfl)
theorem dX7_pour_116 : decode cX7_pour 116 = .ok (.istore 6, 2) := dk_54 6 (dk_at dksX7_pour_5 1 rfl rfl)
theorem dX7_pour_118 : decode cX7_pour 118 = .ok (.iload 6, 2) := dk_21 6 (dk_at dksX7_pour_5 3 rfl rfl)
theorem dX7_pour_120 : decode cX7_pour 120 = .ok (.iload 5, 2) := dk_21 5 (dk_at dksX7_pour_5 5 rfl rfl)
theorem dX7_pour_122 : decode cX7_pour 122 = .ok (.if_icmp .ge 58, 3) := dk_162 0 58 (dk_at dksX7_pour_5 7 rfl rfl)
theorem dX7_pour_125 : decode cX7_pour 125 = .ok (.iload_n 2, 1) := dk_28 (dk_at dksX7_pour_5 10 rfl rfl)
theorem dX7_pour_126 : decode cX7_pour 126 = .ok (.iload 4, 2) := dk_21 4 (dk_at dksX7_pour_5 11 rfl rfl)
theorem dX7_pour_128 : decode cX7_pour 128 = .ok (.if_icmp .ge 13, 3) := dk_162 0 13 (dk_at dksX7_pour_5 13 rfl rfl)
theorem dX7_pour_131 : decode cX7_pour 131 = .ok (.iload 5, 2) := dk_21 5 (dk_at dksX7_pour_5 16 rfl rfl)
theorem dX7_pour_133 : decode cX7_pour 133 = .ok (.iconst 1, 1) := dk_4 (dk_at dksX7_pour_5 18 rfl rfl)
theorem dX7_pour_134 : decode cX7_pour 134 = .ok (.isub, 1) := dk_100 (dk_at dksX7_pour_5 19 rfl rfl)
theorem dX7_pour_135 : decode cX7_pour 135 = .ok (.iload 6, 2) := dk_21 6 (dk_at dksX7_pour_5 20 rfl rfl)
theorem dX7_pour_137 : decode cX7_pour 137 = .ok (.isub, 1) := dk_100 (dk_at dksX7_pour_5 22 rfl rfl)
theorem dX7_pour_138 : decode cX7_pour 138 = .ok (.goto 5, 3) := dk_167 0 5 (dk_at dksX7_pour_6 0 rfl rfl)
theorem dX7_pour_141 : decode cX7_pour 141 = .ok (.iload 6, 2) := dk_21 6 (dk_at dksX7_pour_6 3 rfl rfl)
theorem dX7_pour_143 : decode cX7_pour 143 = .ok (.istore 7, 2) := dk_54 7 (dk_at dksX7_pour_6 5 rfl rfl)
theorem dX7_pour_145 : decode cX7_pour 145 = .ok (.aload_n 0, 1) := dk_42 (dk_at dksX7_pour_6 7 rfl rfl)
theorem dX7_pour_146 : decode cX7_pour 146 = .ok (.getfield 27, 3) := dk_180 0 27 (dk_at dksX7_pour_6 8 rfl rfl)
theorem dX7_pour_149 : decode cX7_pour 149 = .ok (.bipush 60, 2) := dk_16 60 (dk_at dksX7_pour_6 11 rfl rfl)
theorem dX7_pour_151 : decode cX7_pour 151 = .ok (.iload_n 3, 1) := dk_29 (dk_at dksX7_pour_6 13 rfl rfl)
theorem dX7_pour_152 : decode cX7_pour 152 = .ok (.imul, 1) := dk_104 (dk_at dksX7_pour_6 14 rfl rfl)
theorem dX7_pour_153 : decode cX7_pour 153 = .ok (.iload 4, 2) := dk_21 4 (dk_at dksX7_pour_6 15 rfl rfl)
theorem dX7_pour_155 : decode cX7_pour 155 = .ok (.iadd, 1) := dk_96 (dk_at dksX7_pour_6 17 rfl rfl)
theorem dX7_pour_156 : decode cX7_pour 156 = .ok (.iload 7, 2) := dk_21 7 (dk_at dksX7_pour_6 18 rfl rfl)
theorem dX7_pour_158 : decode cX7_pour 158 = .ok (.iadd, 1) := dk_96 (dk_at dksX7_pour_6 20 rfl rfl)
theorem dX7_pour_159 : decode cX7_pour 159 = .ok (.aload_n 0, 1) := dk_42 (dk_at dksX7_pour_6 21 rfl rfl)
theorem dX7_pour_160 : decode cX7_pour 160 = .ok (.getfield 27, 3) := dk_180 0 27 (dk_at dksX7_pour_7 0 rfl rfl)
theorem dX7_pour_163 : decode cX7_pour 163 = .ok (.bipush 60, 2) := dk_16 60 (dk_at dksX7_pour_7 3 rfl rfl)
theorem dX7_pour_165 : decode cX7_pour 165 = .ok (.iload_n 1, 1) := dk_27 (dk_at dksX7_pour_7 5 rfl rfl)
theorem dX7_pour_166 : decode cX7_pour 166 = .ok (.imul, 1) := dk_104 (dk_at dksX7_pour_7 6 rfl rfl)
theorem dX7_pour_167 : decode cX7_pour 167 = .ok (.iload_n 2, 1) := dk_28 (dk_at dksX7_pour_7 7 rfl rfl)
theorem dX7_pour_168 : decode cX7_pour 168 = .ok (.iadd, 1) := dk_96 (dk_at dksX7_pour_7 8 rfl rfl)
theorem dX7_pour_169 : decode cX7_pour 169 = .ok (.iload 7, 2) := dk_21 7 (dk_at dksX7_pour_7 9 rfl rfl)
theorem dX7_pour_171 : decode cX7_pour 171 = .ok (.iadd, 1) := dk_96 (dk_at dksX7_pour_7 11 rfl rfl)
theorem dX7_pour_172 : decode cX7_pour 172 = .ok (.laload, 1) := dk_47 (dk_at dksX7_pour_7 12 rfl rfl)
theorem dX7_pour_173 : decode cX7_pour 173 = .ok (.lastore, 1) := dk_80 (dk_at dksX7_pour_7 13 rfl rfl)
theorem dX7_pour_174 : decode cX7_pour 174 = .ok (.iinc 6 1, 3) := dk_132 6 1 (dk_at dksX7_pour_7 14 rfl rfl)
theorem dX7_pour_177 : decode cX7_pour 177 = .ok (.goto (-59), 3) := dk_167 255 197 (dk_at dksX7_pour_7 17 rfl rfl)
theorem dX7_pour_180 : decode cX7_pour 180 = .ok (.aload_n 0, 1) := dk_42 (dk_at dksX7_pour_7 20 rfl rfl)
theorem dX7_pour_181 : decode cX7_pour 181 = .ok (.iconst 0, 1) := dk_3 (dk_at dksX7_pour_7 21 rfl rfl)
theorem dX7_pour_182 : decode cX7_pour 182 = .ok (.invokevirtual 88, 3) := dk_182 0 88 (dk_at dksX7_pour_8 0 rfl rfl)
theorem dX7_pour_185 : decode cX7_pour 185 = .ok (.ireturn, 1) := dk_172 (dk_at dksX7_pour_8 3 rfl rfl)
abbrev cX7_feed : ByteArray := prog_16_method_20_code
def yX7_feed : MethodName := ⟨RX7, "feed", "(IIIII)I"⟩
def dkwX7_feed_2 : List UInt8 := [172]
abbrev dktX7_feed_2 : List UInt8 := dkwX7_feed_2 ++ []
def dkwX7_feed_1 : List UInt8 := [182, 0, 108, 42, 29, 182, 0, 108, 42, 21, 4, 182, 0, 108, 42, 21, 5, 182, 0, 108, 42, 180, 0, 105]
abbrev dktX7_feed_1 : List UInt8 := dkwX7_feed_1 ++ dktX7_feed_2
def dkwX7_feed_0 : List UInt8 := [42, 180, 0, 105, 16, 20, 96, 17, 3, 132, 164, 0, 5, 2, 172, 42, 27, 182, 0, 108, 42, 28]
abbrev dktX7_feed_0 : List UInt8 := dkwX7_feed_0 ++ dktX7_feed_1
theorem dksX7_feed_0 : cX7_feed.data.toList.drop 0 = dktX7_feed_0 := by decide +kernel
theorem dksX7_feed_1 : cX7_feed.data.toList.drop 22 = dktX7_feed_1 := dk_seg dksX7_feed_0 22 rfl rfl
theorem dksX7_feed_2 : cX7_feed.data.toList.drop 46 = dktX7_feed_2 := dk_seg dksX7_feed_1 24 rfl rfl
theorem dX7_feed_0 : decode cX7_feed 0 = .ok (.aload_n 0, 1) := dk_42 (dk_at dksX7_feed_0 0 rfl rfl)
theorem dX7_feed_1 : decode cX7_feed 1 = .ok (.getfield 105, 3) := dk_180 0 105 (dk_at dksX7_feed_0 1 rfl rfl)
theorem dX7_feed_4 : decode cX7_feed 4 = .ok (.bipush 20, 2) := dk_16 20 (dk_at dksX7_feed_0 4 rfl rfl)
theorem dX7_feed_6 : decode cX7_feed 6 = .ok (.iadd, 1) := dk_96 (dk_at dksX7_feed_0 6 rfl rfl)
theorem dX7_feed_7 : decode cX7_feed 7 = .ok (.sipush 900, 3) := dk_17 3 132 (dk_at dksX7_feed_0 7 rfl rfl)
theorem dX7_feed_10 : decode cX7_feed 10 = .ok (.if_icmp .le 5, 3) := dk_164 0 5 (dk_at dksX7_feed_0 10 rfl rfl)
theorem dX7_feed_13 : decode cX7_feed 13 = .ok (.iconst (-1), 1) := dk_2 (dk_at dksX7_feed_0 13 rfl rfl)
theorem dX7_feed_14 : decode cX7_feed 14 = .ok (.ireturn, 1) := dk_172 (dk_at dksX7_feed_0 14 rfl rfl)
theorem dX7_feed_15 : decode cX7_feed 15 = .ok (.aload_n 0, 1) := dk_42 (dk_at dksX7_feed_0 15 rfl rfl)
theorem dX7_feed_16 : decode cX7_feed 16 = .ok (.iload_n 1, 1) := dk_27 (dk_at dksX7_feed_0 16 rfl rfl)
theorem dX7_feed_17 : decode cX7_feed 17 = .ok (.invokevirtual 108, 3) := dk_182 0 108 (dk_at dksX7_feed_0 17 rfl rfl)
theorem dX7_feed_20 : decode cX7_feed 20 = .ok (.aload_n 0, 1) := dk_42 (dk_at dksX7_feed_0 20 rfl rfl)
theorem dX7_feed_21 : decode cX7_feed 21 = .ok (.iload_n 2, 1) := dk_28 (dk_at dksX7_feed_0 21 rfl rfl)
theorem dX7_feed_22 : decode cX7_feed 22 = .ok (.invokevirtual 108, 3) := dk_182 0 108 (dk_at dksX7_feed_1 0 rfl rfl)
theorem dX7_feed_25 : decode cX7_feed 25 = .ok (.aload_n 0, 1) := dk_42 (dk_at dksX7_feed_1 3 rfl rfl)
theorem dX7_feed_26 : decode cX7_feed 26 = .ok (.iload_n 3, 1) := dk_29 (dk_at dksX7_feed_1 4 rfl rfl)
theorem dX7_feed_27 : decode cX7_feed 27 = .ok (.invokevirtual 108, 3) := dk_182 0 108 (dk_at dksX7_feed_1 5 rfl rfl)
theorem dX7_feed_30 : decode cX7_feed 30 = .ok (.aload_n 0, 1) := dk_42 (dk_at dksX7_feed_1 8 rfl rfl)
theorem dX7_feed_31 : decode cX7_feed 31 = .ok (.iload 4, 2) := dk_21 4 (dk_at dksX7_feed_1 9 rfl rfl)
theorem dX7_feed_33 : decode cX7_feed 33 = .ok (.invokevirtual 108, 3) := dk_182 0 108 (dk_at dksX7_feed_1 11 rfl rfl)
theorem dX7_feed_36 : decode cX7_feed 36 = .ok (.aload_n 0, 1) := dk_42 (dk_at dksX7_feed_1 14 rfl rfl)
theorem dX7_feed_37 : decode cX7_feed 37 = .ok (.iload 5, 2) := dk_21 5 (dk_at dksX7_feed_1 15 rfl rfl)
theorem dX7_feed_39 : decode cX7_feed 39 = .ok (.invokevirtual 108, 3) := dk_182 0 108 (dk_at dksX7_feed_1 17 rfl rfl)
theorem dX7_feed_42 : decode cX7_feed 42 = .ok (.aload_n 0, 1) := dk_42 (dk_at dksX7_feed_1 20 rfl rfl)
theorem dX7_feed_43 : decode cX7_feed 43 = .ok (.getfield 105, 3) := dk_180 0 105 (dk_at dksX7_feed_1 21 rfl rfl)
theorem dX7_feed_46 : decode cX7_feed 46 = .ok (.ireturn, 1) := dk_172 (dk_at dksX7_feed_2 0 rfl rfl)
abbrev cX7_four : ByteArray := prog_16_method_21_code
def yX7_four : MethodName := ⟨RX7, "four", "(I)V"⟩
def dkwX7_four_1 : List UInt8 := [180, 0, 105, 4, 96, 181, 0, 105, 132, 2, 248, 167, 255, 226, 177]
abbrev dktX7_four_1 : List UInt8 := dkwX7_four_1 ++ []
def dkwX7_four_0 : List UInt8 := [16, 24, 61, 28, 155, 0, 32, 42, 180, 0, 30, 42, 180, 0, 105, 27, 28, 122, 145, 84, 42, 89]
abbrev dktX7_four_0 : List UInt8 := dkwX7_four_0 ++ dktX7_four_1
theorem dksX7_four_0 : cX7_four.data.toList.drop 0 = dktX7_four_0 := by decide +kernel
theorem dksX7_four_1 : cX7_four.data.toList.drop 22 = dktX7_four_1 := dk_seg dksX7_four_0 22 rfl rfl
theorem dX7_four_0 : decode cX7_four 0 = .ok (.bipush 24, 2) := dk_16 24 (dk_at dksX7_four_0 0 rfl rfl)
theorem dX7_four_2 : decode cX7_four 2 = .ok (.istore_n 2, 1) := dk_61 (dk_at dksX7_four_0 2 rfl rfl)
theorem dX7_four_3 : decode cX7_four 3 = .ok (.iload_n 2, 1) := dk_28 (dk_at dksX7_four_0 3 rfl rfl)
theorem dX7_four_4 : decode cX7_four 4 = .ok (.ifCond .lt 32, 3) := dk_155 0 32 (dk_at dksX7_four_0 4 rfl rfl)
theorem dX7_four_7 : decode cX7_four 7 = .ok (.aload_n 0, 1) := dk_42 (dk_at dksX7_four_0 7 rfl rfl)
theorem dX7_four_8 : decode cX7_four 8 = .ok (.getfield 30, 3) := dk_180 0 30 (dk_at dksX7_four_0 8 rfl rfl)
theorem dX7_four_11 : decode cX7_four 11 = .ok (.aload_n 0, 1) := dk_42 (dk_at dksX7_four_0 11 rfl rfl)
theorem dX7_four_12 : decode cX7_four 12 = .ok (.getfield 105, 3) := dk_180 0 105 (dk_at dksX7_four_0 12 rfl rfl)
theorem dX7_four_15 : decode cX7_four 15 = .ok (.iload_n 1, 1) := dk_27 (dk_at dksX7_four_0 15 rfl rfl)
theorem dX7_four_16 : decode cX7_four 16 = .ok (.iload_n 2, 1) := dk_28 (dk_at dksX7_four_0 16 rfl rfl)
theorem dX7_four_17 : decode cX7_four 17 = .ok (.ishr, 1) := dk_122 (dk_at dksX7_four_0 17 rfl rfl)
theorem dX7_four_18 : decode cX7_four 18 = .ok (.i2b, 1) := dk_145 (dk_at dksX7_four_0 18 rfl rfl)
theorem dX7_four_19 : decode cX7_four 19 = .ok (.bastore, 1) := dk_84 (dk_at dksX7_four_0 19 rfl rfl)
theorem dX7_four_20 : decode cX7_four 20 = .ok (.aload_n 0, 1) := dk_42 (dk_at dksX7_four_0 20 rfl rfl)
theorem dX7_four_21 : decode cX7_four 21 = .ok (.dup, 1) := dk_89 (dk_at dksX7_four_0 21 rfl rfl)
theorem dX7_four_22 : decode cX7_four 22 = .ok (.getfield 105, 3) := dk_180 0 105 (dk_at dksX7_four_1 0 rfl rfl)
theorem dX7_four_25 : decode cX7_four 25 = .ok (.iconst 1, 1) := dk_4 (dk_at dksX7_four_1 3 rfl rfl)
theorem dX7_four_26 : decode cX7_four 26 = .ok (.iadd, 1) := dk_96 (dk_at dksX7_four_1 4 rfl rfl)
theorem dX7_four_27 : decode cX7_four 27 = .ok (.putfield 105, 3) := dk_181 0 105 (dk_at dksX7_four_1 5 rfl rfl)
theorem dX7_four_30 : decode cX7_four 30 = .ok (.iinc 2 (-8), 3) := dk_132 2 248 (dk_at dksX7_four_1 8 rfl rfl)
theorem dX7_four_33 : decode cX7_four 33 = .ok (.goto (-30), 3) := dk_167 255 226 (dk_at dksX7_four_1 11 rfl rfl)
theorem dX7_four_36 : decode cX7_four 36 = .ok (.return_, 1) := dk_177 (dk_at dksX7_four_1 14 rfl rfl)
abbrev cX7_fault : ByteArray := prog_16_method_36_code
def yX7_fault : MethodName := ⟨RX7, "fault", "(I)I"⟩
def dkwX7_fault_1 : List UInt8 := [172]
abbrev dktX7_fault_1 : List UInt8 := dkwX7_fault_1 ++ []
def dkwX7_fault_0 : List UInt8 := [27, 154, 0, 10, 42, 180, 0, 37, 167, 0, 16, 27, 4, 160, 0, 10, 42, 180, 0, 41, 167, 0, 4, 2]
abbrev dktX7_fault_0 : List UInt8 := dkwX7_fault_0 ++ dktX7_fault_1
theorem dksX7_fault_0 : cX7_fault.data.toList.drop 0 = dktX7_fault_0 := by decide +kernel
theorem dksX7_fault_1 : cX7_fault.data.toList.drop 24 = dktX7_fault_1 := dk_seg dksX7_fault_0 24 rfl rfl
theorem dX7_fault_0 : decode cX7_fault 0 = .ok (.iload_n 1, 1) := dk_27 (dk_at dksX7_fault_0 0 rfl rfl)
theorem dX7_fault_1 : decode cX7_fault 1 = .ok (.ifCond .ne 10, 3) := dk_154 0 10 (dk_at dksX7_fault_0 1 rfl rfl)
theorem dX7_fault_4 : decode cX7_fault 4 = .ok (.aload_n 0, 1) := dk_42 (dk_at dksX7_fault_0 4 rfl rfl)
theorem dX7_fault_5 : decode cX7_fault 5 = .ok (.getfield 37, 3) := dk_180 0 37 (dk_at dksX7_fault_0 5 rfl rfl)
theorem dX7_fault_8 : decode cX7_fault 8 = .ok (.goto 16, 3) := dk_167 0 16 (dk_at dksX7_fault_0 8 rfl rfl)
theorem dX7_fault_11 : decode cX7_fault 11 = .ok (.iload_n 1, 1) := dk_27 (dk_at dksX7_fault_0 11 rfl rfl)
theorem dX7_fault_12 : decode cX7_fault 12 = .ok (.iconst 1, 1) := dk_4 (dk_at dksX7_fault_0 12 rfl rfl)
theorem dX7_fault_13 : decode cX7_fault 13 = .ok (.if_icmp .ne 10, 3) := dk_160 0 10 (dk_at dksX7_fault_0 13 rfl rfl)
theorem dX7_fault_16 : decode cX7_fault 16 = .ok (.aload_n 0, 1) := dk_42 (dk_at dksX7_fault_0 16 rfl rfl)
theorem dX7_fault_17 : decode cX7_fault 17 = .ok (.getfield 41, 3) := dk_180 0 41 (dk_at dksX7_fault_0 17 rfl rfl)
theorem dX7_fault_20 : decode cX7_fault 20 = .ok (.goto 4, 3) := dk_167 0 4 (dk_at dksX7_fault_0 20 rfl rfl)
theorem dX7_fault_23 : decode cX7_fault 23 = .ok (.iconst (-1), 1) := dk_2 (dk_at dksX7_fault_0 23 rfl rfl)
theorem dX7_fault_24 : decode cX7_fault 24 = .ok (.ireturn, 1) := dk_172 (dk_at dksX7_fault_1 0 rfl rfl)
abbrev cX7_town : ByteArray := prog_16_method_48_code
def yX7_town : MethodName := ⟨RX7, "town", "(I)I"⟩
def dkwX7_town_7 : List UInt8 := [184, 0, 226, 182, 0, 229, 172]
abbrev dktX7_town_7 : List UInt8 := dkwX7_town_7 ++ []
def dkwX7_town_6 : List UInt8 := [180, 0, 13, 16, 40, 29, 96, 47, 80, 132, 3, 1, 167, 255, 232, 42, 42, 180, 0, 7, 5, 46]
abbrev dktX7_town_6 : List UInt8 := dkwX7_town_6 ++ dktX7_town_7
def dkwX7_town_5 : List UInt8 := [29, 96, 46, 79, 132, 3, 1, 167, 255, 230, 3, 62, 29, 16, 10, 162, 0, 24, 42, 180, 0, 13, 29, 42]
abbrev dktX7_town_5 : List UInt8 := dkwX7_town_5 ++ dktX7_town_6
def dkwX7_town_4 : List UInt8 := [154, 0, 63, 3, 62, 29, 17, 1, 154, 162, 0, 25, 42, 180, 0, 7, 29, 42, 180, 0, 7, 17, 6, 104]
abbrev dktX7_town_4 : List UInt8 := dkwX7_town_4 ++ dktX7_town_5
def dkwX7_town_3 : List UInt8 := [28, 153, 0, 18, 42, 180, 0, 126, 153, 0, 11, 42, 182, 0, 223, 61, 167, 255, 240, 42, 180, 0, 151]
abbrev dktX7_town_3 : List UInt8 := dkwX7_town_3 ++ dktX7_town_4
def dkwX7_town_2 : List UInt8 := [167, 255, 237, 28, 153, 0, 20, 42, 180, 0, 7, 17, 6, 105, 46, 154, 0, 9, 42, 5, 182, 0, 163, 61]
abbrev dktX7_town_2 : List UInt8 := dkwX7_town_2 ++ dktX7_town_3
def dkwX7_town_1 : List UInt8 := [42, 182, 0, 217, 61, 28, 153, 0, 21, 42, 18, 174, 182, 0, 166, 4, 160, 0, 11, 42, 182, 0, 220, 61]
abbrev dktX7_town_1 : List UInt8 := dkwX7_town_1 ++ dktX7_town_2
def dkwX7_town_0 : List UInt8 := [42, 27, 17, 3, 132, 182, 0, 213, 154, 0, 9, 42, 4, 182, 0, 81, 172, 42, 17, 6, 104, 182, 0, 71]
abbrev dktX7_town_0 : List UInt8 := dkwX7_town_0 ++ dktX7_town_1
theorem dksX7_town_0 : cX7_town.data.toList.drop 0 = dktX7_town_0 := by decide +kernel
theorem dksX7_town_1 : cX7_town.data.toList.drop 24 = dktX7_town_1 := dk_seg dksX7_town_0 24 rfl rfl
theorem dksX7_town_2 : cX7_town.data.toList.drop 48 = dktX7_town_2 := dk_seg dksX7_town_1 24 rfl rfl
theorem dksX7_town_3 : cX7_town.data.toList.drop 72 = dktX7_town_3 := dk_seg dksX7_town_2 24 rfl rfl
theorem dksX7_town_4 : cX7_town.data.toList.drop 95 = dktX7_town_4 := dk_seg dksX7_town_3 23 rfl rfl
theorem dksX7_town_5 : cX7_town.data.toList.drop 119 = dktX7_town_5 := dk_seg dksX7_town_4 24 rfl rfl
theorem dksX7_town_6 : cX7_town.data.toList.drop 143 = dktX7_town_6 := dk_seg dksX7_town_5 24 rfl rfl
theorem dksX7_town_7 : cX7_town.data.toList.drop 165 = dktX7_town_7 := dk_seg dksX7_town_6 22 rfl rfl
theorem dX7_town_0 : decode cX7_town 0 = .ok (.aload_n 0, 1) := dk_42 (dk_at dksX7_town_0 0 rfl rfl)
theorem dX7_town_1 : decode cX7_town 1 = .ok (.iload_n 1, 1) := dk_27 (dk_at dksX7_town_0 1 rfl rfl)
theorem dX7_town_2 : decode cX7_town 2 = .ok (.sipush 900, 3) := dk_17 3 132 (dk_at dksX7_town_0 2 rfl rfl)
theorem dX7_town_5 : decode cX7_town 5 = .ok (.invokevirtual 213, 3) := dk_182 0 213 (dk_at dksX7_town_0 5 rfl rfl)
theorem dX7_town_8 : decode cX7_town 8 = .ok (.ifCond .ne 9, 3) := dk_154 0 9 (dk_at dksX7_town_0 8 rfl rfl)
theorem dX7_town_11 : decode cX7_town 11 = .ok (.aload_n 0, 1) := dk_42 (dk_at dksX7_town_0 11 rfl rfl)
theorem dX7_town_12 : decode cX7_town 12 = .ok (.iconst 1, 1) := dk_4 (dk_at dksX7_town_0 12 rfl rfl)
theorem dX7_town_13 : decode cX7_town 13 = .ok (.invokevirtual 81, 3) := dk_182 0 81 (dk_at dksX7_town_0 13 rfl rfl)
theorem dX7_town_16 : decode cX7_town 16 = .ok (.ireturn, 1) := dk_172 (dk_at dksX7_town_0 16 rfl rfl)
theorem dX7_town_17 : decode cX7_town 17 = .ok (.aload_n 0, 1) := dk_42 (dk_at dksX7_town_0 17 rfl rfl)
theorem dX7_town_18 : decode cX7_town 18 = .ok (.sipush 1640, 3) := dk_17 6 104 (dk_at dksX7_town_0 18 rfl rfl)
theorem dX7_town_21 : decode cX7_town 21 = .ok (.invokevirtual 71, 3) := dk_182 0 71 (dk_at dksX7_town_0 21 rfl rfl)
theorem dX7_town_24 : decode cX7_town 24 = .ok (.aload_n 0, 1) := dk_42 (dk_at dksX7_town_1 0 rfl rfl)
theorem dX7_town_25 : decode cX7_town 25 = .ok (.invokevirtual 217, 3) := dk_182 0 217 (dk_at dksX7_town_1 1 rfl rfl)
theorem dX7_town_28 : decode cX7_town 28 = .ok (.istore_n 2, 1) := dk_61 (dk_at dksX7_town_1 4 rfl rfl)
theorem dX7_town_29 : decode cX7_town 29 = .ok (.iload_n 2, 1) := dk_28 (dk_at dksX7_town_1 5 rfl rfl)
theorem dX7_town_30 : decode cX7_town 30 = .ok (.ifCond .eq 21, 3) := dk_153 0 21 (dk_at dksX7_town_1 6 rfl rfl)
theorem dX7_town_33 : decode cX7_town 33 = .ok (.aload_n 0, 1) := dk_42 (dk_at dksX7_town_1 9 rfl rfl)
theorem dX7_town_34 : decode cX7_town 34 = .ok (.ldc 174, 2) := dk_18 174 (dk_at dksX7_town_1 10 rfl rfl)
theorem dX7_town_36 : decode cX7_town 36 = .ok (.invokevirtual 166, 3) := dk_182 0 166 (dk_at dksX7_town_1 12 rfl rfl)
theorem dX7_town_39 : decode cX7_town 39 = .ok (.iconst 1, 1) := dk_4 (dk_at dksX7_town_1 15 rfl rfl)
theorem dX7_town_40 : decode cX7_town 40 = .ok (.if_icmp .ne 11, 3) := dk_160 0 11 (dk_at dksX7_town_1 16 rfl rfl)
theorem dX7_town_43 : decode cX7_town 43 = .ok (.aload_n 0, 1) := dk_42 (dk_at dksX7_town_1 19 rfl rfl)
theorem dX7_town_44 : decode cX7_town 44 = .ok (.invokevirtual 220, 3) := dk_182 0 220 (dk_at dksX7_town_1 20 rfl rfl)
theorem dX7_town_47 : decode cX7_town 47 = .ok (.istore_n 2, 1) := dk_61 (dk_at dksX7_town_1 23 rfl rfl)
theorem dX7_town_48 : decode cX7_town 48 = .ok (.goto (-19), 3) := dk_167 255 237 (dk_at dksX7_town_2 0 rfl rfl)
theorem dX7_town_51 : decode cX7_town 51 = .ok (.iload_n 2, 1) := dk_28 (dk_at dksX7_town_2 3 rfl rfl)
theorem dX7_town_52 : decode cX7_town 52 = .ok (.ifCond .eq 20, 3) := dk_153 0 20 (dk_at dksX7_town_2 4 rfl rfl)
theorem dX7_town_55 : decode cX7_town 55 = .ok (.aload_n 0, 1) := dk_42 (dk_at dksX7_town_2 7 rfl rfl)
theorem dX7_town_56 : decode cX7_town 56 = .ok (.getfield 7, 3) := dk_180 0 7 (dk_at dksX7_town_2 8 rfl rfl)
theorem dX7_town_59 : decode cX7_town 59 = .ok (.sipush 1641, 3) := dk_17 6 105 (dk_at dksX7_town_2 11 rfl rfl)
theorem dX7_town_62 : decode cX7_town 62 = .ok (.iaload, 1) := dk_46 (dk_at dksX7_town_2 14 rfl rfl)
theorem dX7_town_63 : decode cX7_town 63 = .ok (.ifCond .ne 9, 3) := dk_154 0 9 (dk_at dksX7_town_2 15 rfl rfl)
theorem dX7_town_66 : decode cX7_town 66 = .ok (.aload_n 0, 1) := dk_42 (dk_at dksX7_town_2 18 rfl rfl)
theorem dX7_town_67 : decode cX7_town 67 = .ok (.iconst 2, 1) := dk_5 (dk_at dksX7_town_2 19 rfl rfl)
theorem dX7_town_68 : decode cX7_town 68 = .ok (.invokevirtual 163, 3) := dk_182 0 163 (dk_at dksX7_town_2 20 rfl rfl)
theorem dX7_town_71 : decode cX7_town 71 = .ok (.istore_n 2, 1) := dk_61 (dk_at dksX7_town_2 23 rfl rfl)
theorem dX7_town_72 : decode cX7_town 72 = .ok (.iload_n 2, 1) := dk_28 (dk_at dksX7_town_3 0 rfl rfl)
theorem dX7_town_73 : decode cX7_town 73 = .ok (.ifCond .eq 18, 3) := dk_153 0 18 (dk_at dksX7_town_3 1 rfl rfl)
theorem dX7_town_76 : decode cX7_town 76 = .ok (.aload_n 0, 1) := dk_42 (dk_at dksX7_town_3 4 rfl rfl)
theorem dX7_town_77 : decode cX7_town 77 = .ok (.getfield 126, 3) := dk_180 0 126 (dk_at dksX7_town_3 5 rfl rfl)
theorem dX7_town_80 : decode cX7_town 80 = .ok (.ifCond .eq 11, 3) := dk_153 0 11 (dk_at dksX7_town_3 8 rfl rfl)
theorem dX7_town_83 : decode cX7_town 83 = .ok (.aload_n 0, 1) := dk_42 (dk_at dksX7_town_3 11 rfl rfl)
theorem dX7_town_84 : decode cX7_town 84 = .ok (.invokevirtual 223, 3) := dk_182 0 223 (dk_at dksX7_town_3 12 rfl rfl)
theorem dX7_town_87 : decode cX7_town 87 = .ok (.istore_n 2, 1) := dk_61 (dk_at dksX7_town_3 15 rfl rfl)
theorem dX7_town_88 : decode cX7_town 88 = .ok (.goto (-16), 3) := dk_167 255 240 (dk_at dksX7_town_3 16 rfl rfl)
theorem dX7_town_91 : decode cX7_town 91 = .ok (.aload_n 0, 1) := dk_42 (dk_at dksX7_town_3 19 rfl rfl)
theorem dX7_town_92 : decode cX7_town 92 = .ok (.getfield 151, 3) := dk_180 0 151 (dk_at dksX7_town_3 20 rfl rfl)
theorem dX7_town_95 : decode cX7_town 95 = .ok (.ifCond .ne 63, 3) := dk_154 0 63 (dk_at dksX7_town_4 0 rfl rfl)
theorem dX7_town_98 : decode cX7_town 98 = .ok (.iconst 0, 1) := dk_3 (dk_at dksX7_town_4 3 rfl rfl)
theorem dX7_town_99 : decode cX7_town 99 = .ok (.istore_n 3, 1) := dk_62 (dk_at dksX7_town_4 4 rfl rfl)
theorem dX7_town_100 : decode cX7_town 100 = .ok (.iload_n 3, 1) := dk_29 (dk_at dksX7_town_4 5 rfl rfl)
theorem dX7_town_101 : decode cX7_town 101 = .ok (.sipush 410, 3) := dk_17 1 154 (dk_at dksX7_town_4 6 rfl rfl)
theorem dX7_town_104 : decode cX7_town 104 = .ok (.if_icmp .ge 25, 3) := dk_162 0 25 (dk_at dksX7_town_4 9 rfl rfl)
theorem dX7_town_107 : decode cX7_town 107 = .ok (.aload_n 0, 1) := dk_42 (dk_at dksX7_town_4 12 rfl rfl)
theorem dX7_town_108 : decode cX7_town 108 = .ok (.getfield 7, 3) := dk_180 0 7 (dk_at dksX7_town_4 13 rfl rfl)
theorem dX7_town_111 : decode cX7_town 111 = .ok (.iload_n 3, 1) := dk_29 (dk_at dksX7_town_4 16 rfl rfl)
theorem dX7_town_112 : decode cX7_town 112 = .ok (.aload_n 0, 1) := dk_42 (dk_at dksX7_town_4 17 rfl rfl)
theorem dX7_town_113 : decode cX7_town 113 = .ok (.getfield 7, 3) := dk_180 0 7 (dk_at dksX7_town_4 18 rfl rfl)
theorem dX7_town_116 : decode cX7_town 116 = .ok (.sipush 1640, 3) := dk_17 6 104 (dk_at dksX7_town_4 21 rfl rfl)
theorem dX7_town_119 : decode cX7_town 119 = .ok (.iload_n 3, 1) := dk_29 (dk_at dksX7_town_5 0 rfl rfl)
theorem dX7_town_120 : decode cX7_town 120 = .ok (.iadd, 1) := dk_96 (dk_at dksX7_town_5 1 rfl rfl)
theorem dX7_town_121 : decode cX7_town 121 = .ok (.iaload, 1) := dk_46 (dk_at dksX7_town_5 2 rfl rfl)
theorem dX7_town_122 : decode cX7_town 122 = .ok (.iastore, 1) := dk_79 (dk_at dksX7_town_5 3 rfl rfl)
theorem dX7_town_123 : decode cX7_town 123 = .ok (.iinc 3 1, 3) := dk_132 3 1 (dk_at dksX7_town_5 4 rfl rfl)
theorem dX7_town_126 : decode cX7_town 126 = .ok (.goto (-26), 3) := dk_167 255 230 (dk_at dksX7_town_5 7 rfl rfl)
theorem dX7_town_129 : decode cX7_town 129 = .ok (.iconst 0, 1) := dk_3 (dk_at dksX7_town_5 10 rfl rfl)
theorem dX7_town_130 : decode cX7_town 130 = .ok (.istore_n 3, 1) := dk_62 (dk_at dksX7_town_5 11 rfl rfl)
theorem dX7_town_131 : decode cX7_town 131 = .ok (.iload_n 3, 1) := dk_29 (dk_at dksX7_town_5 12 rfl rfl)
theorem dX7_town_132 : decode cX7_town 132 = .ok (.bipush 10, 2) := dk_16 10 (dk_at dksX7_town_5 13 rfl rfl)
theorem dX7_town_134 : decode cX7_town 134 = .ok (.if_icmp .ge 24, 3) := dk_162 0 24 (dk_at dksX7_town_5 15 rfl rfl)
theorem dX7_town_137 : decode cX7_town 137 = .ok (.aload_n 0, 1) := dk_42 (dk_at dksX7_town_5 18 rfl rfl)
theorem dX7_town_138 : decode cX7_town 138 = .ok (.getfield 13, 3) := dk_180 0 13 (dk_at dksX7_town_5 19 rfl rfl)
theorem dX7_town_141 : decode cX7_town 141 = .ok (.iload_n 3, 1) := dk_29 (dk_at dksX7_town_5 22 rfl rfl)
theorem dX7_town_142 : decode cX7_town 142 = .ok (.aload_n 0, 1) := dk_42 (dk_at dksX7_town_5 23 rfl rfl)
theorem dX7_town_143 : decode cX7_town 143 = .ok (.getfield 13, 3) := dk_180 0 13 (dk_at dksX7_town_6 0 rfl rfl)
theorem dX7_town_146 : decode cX7_town 146 = .ok (.bipush 40, 2) := dk_16 40 (dk_at dksX7_town_6 3 rfl rfl)
theorem dX7_town_148 : decode cX7_town 148 = .ok (.iload_n 3, 1) := dk_29 (dk_at dksX7_town_6 5 rfl rfl)
theorem dX7_town_149 : decode cX7_town 149 = .ok (.iadd, 1) := dk_96 (dk_at dksX7_town_6 6 rfl rfl)
theorem dX7_town_150 : decode cX7_town 150 = .ok (.laload, 1) := dk_47 (dk_at dksX7_town_6 7 rfl rfl)
theorem dX7_town_151 : decode cX7_town 151 = .ok (.lastore, 1) := dk_80 (dk_at dksX7_town_6 8 rfl rfl)
theorem dX7_town_152 : decode cX7_town 152 = .ok (.iinc 3 1, 3) := dk_132 3 1 (dk_at dksX7_town_6 9 rfl rfl)
theorem dX7_town_155 : decode cX7_town 155 = .ok (.goto (-24), 3) := dk_167 255 232 (dk_at dksX7_town_6 12 rfl rfl)
theorem dX7_town_158 : decode cX7_town 158 = .ok (.aload_n 0, 1) := dk_42 (dk_at dksX7_town_6 15 rfl rfl)
theorem dX7_town_159 : decode cX7_town 159 = .ok (.aload_n 0, 1) := dk_42 (dk_at dksX7_town_6 16 rfl rfl)
theorem dX7_town_160 : decode cX7_town 160 = .ok (.getfield 7, 3) := dk_180 0 7 (dk_at dksX7_town_6 17 rfl rfl)
theorem dX7_town_163 : decode cX7_town 163 = .ok (.iconst 2, 1) := dk_5 (dk_at dksX7_town_6 20 rfl rfl)
theorem dX7_town_164 : decode cX7_town 164 = .ok (.iaload, 1) := dk_46 (dk_at dksX7_town_6 21 rfl rfl)
theorem dX7_town_165 : decode cX7_town 165 = .ok (.invokestatic 226, 3) := dk_184 0 226 (dk_at dksX7_town_7 0 rfl rfl)
theorem dX7_town_168 : decode cX7_town 168 = .ok (.invokevirtual 229, 3) := dk_182 0 229 (dk_at dksX7_town_7 3 rfl rfl)
theorem dX7_town_171 : decode cX7_town 171 = .ok (.ireturn, 1) := dk_172 (dk_at dksX7_town_7 6 rfl rfl)
abbrev cX7_begins : ByteArray := prog_16_method_29_code
def yX7_begins : MethodName := ⟨RX7, "begins", "(II)Z"⟩
def dkwX7_begins_3 : List UInt8 := [3, 181, 0, 154, 42, 182, 0, 157, 4, 172]
abbrev dktX7_begins_3 : List UInt8 := dkwX7_begins_3 ++ []
def dkwX7_begins_2 : List UInt8 := [167, 255, 236, 42, 3, 181, 0, 105, 42, 3, 181, 0, 151, 42, 2, 181, 0, 41, 42, 3, 181, 0, 114, 42]
abbrev dktX7_begins_2 : List UInt8 := dkwX7_begins_2 ++ dktX7_begins_3
def dkwX7_begins_1 : List UInt8 := [3, 62, 29, 27, 162, 0, 21, 42, 180, 0, 34, 29, 42, 180, 0, 30, 29, 51, 84, 132, 3, 1]
abbrev dktX7_begins_1 : List UInt8 := dkwX7_begins_1 ++ dktX7_begins_2
def dkwX7_begins_0 : List UInt8 := [27, 155, 0, 16, 27, 42, 180, 0, 105, 163, 0, 8, 27, 28, 164, 0, 5, 3, 172, 42, 27, 181, 0, 111]
abbrev dktX7_begins_0 : List UInt8 := dkwX7_begins_0 ++ dktX7_begins_1
theorem dksX7_begins_0 : cX7_begins.data.toList.drop 0 = dktX7_begins_0 := by decide +kernel
theorem dksX7_begins_1 : cX7_begins.data.toList.drop 24 = dktX7_begins_1 := dk_seg dksX7_begins_0 24 rfl rfl
theorem dksX7_begins_2 : cX7_begins.data.toList.drop 46 = dktX7_begins_2 := dk_seg dksX7_begins_1 22 rfl rfl
theorem dksX7_begins_3 : cX7_begins.data.toList.drop 70 = dktX7_begins_3 := dk_seg dksX7_begins_2 24 rfl rfl
theorem dX7_begins_0 : decode cX7_begins 0 = .ok (.iload_n 1, 1) := dk_27 (dk_at dksX7_begins_0 0 rfl rfl)
theorem dX7_begins_1 : decode cX7_begins 1 = .ok (.ifCond .lt 16, 3) := dk_155 0 16 (dk_at dksX7_begins_0 1 rfl rfl)
theorem dX7_begins_4 : decode cX7_begins 4 = .ok (.iload_n 1, 1) := dk_27 (dk_at dksX7_begins_0 4 rfl rfl)
theorem dX7_begins_5 : decode cX7_begins 5 = .ok (.aload_n 0, 1) := dk_42 (dk_at dksX7_begins_0 5 rfl rfl)
theorem dX7_begins_6 : decode cX7_begins 6 = .ok (.getfield 105, 3) := dk_180 0 105 (dk_at dksX7_begins_0 6 rfl rfl)
theorem dX7_begins_9 : decode cX7_begins 9 = .ok (.if_icmp .gt 8, 3) := dk_163 0 8 (dk_at dksX7_begins_0 9 rfl rfl)
theorem dX7_begins_12 : decode cX7_begins 12 = .ok (.iload_n 1, 1) := dk_27 (dk_at dksX7_begins_0 12 rfl rfl)
theorem dX7_begins_13 : decode cX7_begins 13 = .ok (.iload_n 2, 1) := dk_28 (dk_at dksX7_begins_0 13 rfl rfl)
theorem dX7_begins_14 : decode cX7_begins 14 = .ok (.if_icmp .le 5, 3) := dk_164 0 5 (dk_at dksX7_begins_0 14 rfl rfl)
theorem dX7_begins_17 : decode cX7_begins 17 = .ok (.iconst 0, 1) := dk_3 (dk_at dksX7_begins_0 17 rfl rfl)
theorem dX7_begins_18 : decode cX7_begins 18 = .ok (.ireturn, 1) := dk_172 (dk_at dksX7_begins_0 18 rfl rfl)
theorem dX7_begins_19 : decode cX7_begins 19 = .ok (.aload_n 0, 1) := dk_42 (dk_at dksX7_begins_0 19 rfl rfl)
theorem dX7_begins_20 : decode cX7_begins 20 = .ok (.iload_n 1, 1) := dk_27 (dk_at dksX7_begins_0 20 rfl rfl)
theorem dX7_begins_21 : decode cX7_begins 21 = .ok (.putfield 111, 3) := dk_181 0 111 (dk_at dksX7_begins_0 21 rfl rfl)
theorem dX7_begins_24 : decode cX7_begins 24 = .ok (.iconst 0, 1) := dk_3 (dk_at dksX7_begins_1 0 rfl rfl)
theorem dX7_begins_25 : decode cX7_begins 25 = .ok (.istore_n 3, 1) := dk_62 (dk_at dksX7_begins_1 1 rfl rfl)
theorem dX7_begins_26 : decode cX7_begins 26 = .ok (.iload_n 3, 1) := dk_29 (dk_at dksX7_begins_1 2 rfl rfl)
theorem dX7_begins_27 : decode cX7_begins 27 = .ok (.iload_n 1, 1) := dk_27 (dk_at dksX7_begins_1 3 rfl rfl)
theorem dX7_begins_28 : decode cX7_begins 28 = .ok (.if_icmp .ge 21, 3) := dk_162 0 21 (dk_at dksX7_begins_1 4 rfl rfl)
theorem dX7_begins_31 : decode cX7_begins 31 = .ok (.aload_n 0, 1) := dk_42 (dk_at dksX7_begins_1 7 rfl rfl)
theorem dX7_begins_32 : decode cX7_begins 32 = .ok (.getfield 34, 3) := dk_180 0 34 (dk_at dksX7_begins_1 8 rfl rfl)
theorem dX7_begins_35 : decode cX7_begins 35 = .ok (.iload_n 3, 1) := dk_29 (dk_at dksX7_begins_1 11 rfl rfl)
theorem dX7_begins_36 : decode cX7_begins 36 = .ok (.aload_n 0, 1) := dk_42 (dk_at dksX7_begins_1 12 rfl rfl)
theorem dX7_begins_37 : decode cX7_begins 37 = .ok (.getfield 30, 3) := dk_180 0 30 (dk_at dksX7_begins_1 13 rfl rfl)
theorem dX7_begins_40 : decode cX7_begins 40 = .ok (.iload_n 3, 1) := dk_29 (dk_at dksX7_begins_1 16 rfl rfl)
theorem dX7_begins_41 : decode cX7_begins 41 = .ok (.baload, 1) := dk_51 (dk_at dksX7_begins_1 17 rfl rfl)
theorem dX7_begins_42 : decode cX7_begins 42 = .ok (.bastore, 1) := dk_84 (dk_at dksX7_begins_1 18 rfl rfl)
theorem dX7_begins_43 : decode cX7_begins 43 = .ok (.iinc 3 1, 3) := dk_132 3 1 (dk_at dksX7_begins_1 19 rfl rfl)
theorem dX7_begins_46 : decode cX7_begins 46 = .ok (.goto (-20), 3) := dk_167 255 236 (dk_at dksX7_begins_2 0 rfl rfl)
theorem dX7_begins_49 : decode cX7_begins 49 = .ok (.aload_n 0, 1) := dk_42 (dk_at dksX7_begins_2 3 rfl rfl)
theorem dX7_begins_50 : decode cX7_begins 50 = .ok (.iconst 0, 1) := dk_3 (dk_at dksX7_begins_2 4 rfl rfl)
theorem dX7_begins_51 : decode cX7_begins 51 = .ok (.putfield 105, 3) := dk_181 0 105 (dk_at dksX7_begins_2 5 rfl rfl)
theorem dX7_begins_54 : decode cX7_begins 54 = .ok (.aload_n 0, 1) := dk_42 (dk_at dksX7_begins_2 8 rfl rfl)
theorem dX7_begins_55 : decode cX7_begins 55 = .ok (.iconst 0, 1) := dk_3 (dk_at dksX7_begins_2 9 rfl rfl)
theorem dX7_begins_56 : decode cX7_begins 56 = .ok (.putfield 151, 3) := dk_181 0 151 (dk_at dksX7_begins_2 10 rfl rfl)
theorem dX7_begins_59 : decode cX7_begins 59 = .ok (.aload_n 0, 1) := dk_42 (dk_at dksX7_begins_2 13 rfl rfl)
theorem dX7_begins_60 : decode cX7_begins 60 = .ok (.iconst (-1), 1) := dk_2 (dk_at dksX7_begins_2 14 rfl rfl)
theorem dX7_begins_61 : decode cX7_begins 61 = .ok (.putfield 41, 3) := dk_181 0 41 (dk_at dksX7_begins_2 15 rfl rfl)
theorem dX7_begins_64 : decode cX7_begins 64 = .ok (.aload_n 0, 1) := dk_42 (dk_at dksX7_begins_2 18 rfl rfl)
theorem dX7_begins_65 : decode cX7_begins 65 = .ok (.iconst 0, 1) := dk_3 (dk_at dksX7_begins_2 19 rfl rfl)
theorem dX7_begins_66 : decode cX7_begins 66 = .ok (.putfield 114, 3) := dk_181 0 114 (dk_at dksX7_begins_2 20 rfl rfl)
theorem dX7_begins_69 : decode cX7_begins 69 = .ok (.aload_n 0, 1) := dk_42 (dk_at dksX7_begins_2 23 rfl rfl)
theorem dX7_begins_70 : decode cX7_begins 70 = .ok (.iconst 0, 1) := dk_3 (dk_at dksX7_begins_3 0 rfl rfl)
theorem dX7_begins_71 : decode cX7_begins 71 = .ok (.putfield 154, 3) := dk_181 0 154 (dk_at dksX7_begins_3 1 rfl rfl)
theorem dX7_begins_74 : decode cX7_begins 74 = .ok (.aload_n 0, 1) := dk_42 (dk_at dksX7_begins_3 4 rfl rfl)
theorem dX7_begins_75 : decode cX7_begins 75 = .ok (.invokevirtual 157, 3) := dk_182 0 157 (dk_at dksX7_begins_3 5 rfl rfl)
theorem dX7_begins_78 : decode cX7_begins 78 = .ok (.iconst 1, 1) := dk_4 (dk_at dksX7_begins_3 8 rfl rfl)
theorem dX7_begins_79 : decode cX7_begins 79 = .ok (.ireturn, 1) := dk_172 (dk_at dksX7_begins_3 9 rfl rfl)
abbrev cX7_onward : ByteArray := prog_16_method_25_code
def yX7_onward : MethodName := ⟨RX7, "onward", "()V"⟩
def dkwX7_onward_10 : List UInt8 := [16, 62, 159, 0, 9, 27, 16, 61, 160, 0, 7, 7, 167, 0, 4, 4, 181, 0, 126, 177]
abbrev dktX7_onward_10 : List UInt8 := dkwX7_onward_10 ++ []
def dkwX7_onward_9 : List UInt8 := [89, 180, 0, 114, 4, 96, 181, 0, 114, 42, 27, 16, 59, 159, 0, 21, 27, 16, 60, 159, 0, 15, 27]
abbrev dktX7_onward_9 : List UInt8 := dkwX7_onward_9 ++ dktX7_onward_10
def dkwX7_onward_8 : List UInt8 := [180, 0, 114, 42, 180, 0, 120, 100, 7, 164, 0, 7, 4, 167, 0, 4, 6, 181, 0, 126, 167, 0, 46, 42]
abbrev dktX7_onward_8 : List UInt8 := dkwX7_onward_8 ++ dktX7_onward_9
def dkwX7_onward_7 : List UInt8 := [100, 184, 0, 136, 181, 0, 123, 42, 89, 180, 0, 114, 4, 96, 181, 0, 114, 167, 255, 204, 42, 42]
abbrev dktX7_onward_7 : List UInt8 := dkwX7_onward_7 ++ dktX7_onward_8
def dkwX7_onward_6 : List UInt8 := [153, 0, 44, 42, 18, 135, 16, 10, 42, 180, 0, 123, 104, 42, 42, 180, 0, 114, 182, 0, 117, 96, 16, 48]
abbrev dktX7_onward_6 : List UInt8 := dkwX7_onward_6 ++ dktX7_onward_7
def dkwX7_onward_5 : List UInt8 := [184, 0, 132, 153, 0, 88, 42, 3, 181, 0, 123, 42, 42, 180, 0, 114, 182, 0, 117, 184, 0, 132]
abbrev dktX7_onward_5 : List UInt8 := dkwX7_onward_5 ++ dktX7_onward_6
def dkwX7_onward_4 : List UInt8 := [42, 89, 180, 0, 114, 4, 96, 181, 0, 114, 167, 255, 232, 42, 5, 181, 0, 126, 167, 0, 138, 27]
abbrev dktX7_onward_4 : List UInt8 := dkwX7_onward_4 ++ dktX7_onward_5
def dkwX7_onward_3 : List UInt8 := [167, 0, 180, 27, 184, 0, 129, 153, 0, 38, 42, 42, 180, 0, 114, 182, 0, 117, 184, 0, 129, 153, 0, 16]
abbrev dktX7_onward_3 : List UInt8 := dkwX7_onward_3 ++ dktX7_onward_4
def dkwX7_onward_2 : List UInt8 := [42, 42, 180, 0, 114, 182, 0, 117, 60, 42, 27, 181, 0, 123, 27, 2, 160, 0, 11, 42, 3, 181, 0, 126]
abbrev dktX7_onward_2 : List UInt8 := dkwX7_onward_2 ++ dktX7_onward_3
def dkwX7_onward_1 : List UInt8 := [160, 0, 16, 42, 89, 180, 0, 114, 4, 96, 181, 0, 114, 167, 255, 220, 42, 42, 180, 0, 114, 181, 0, 120]
abbrev dktX7_onward_1 : List UInt8 := dkwX7_onward_1 ++ dktX7_onward_2
def dkwX7_onward_0 : List UInt8 := [42, 42, 180, 0, 114, 182, 0, 117, 16, 32, 159, 0, 16, 42, 42, 180, 0, 114, 182, 0, 117, 16, 10]
abbrev dktX7_onward_0 : List UInt8 := dkwX7_onward_0 ++ dktX7_onward_1
theorem dksX7_onward_0 : cX7_onward.data.toList.drop 0 = dktX7_onward_0 := by decide +kernel
theorem dksX7_onward_1 : cX7_onward.data.toList.drop 23 = dktX7_onward_1 := dk_seg dksX7_onward_0 23 rfl rfl
theorem dksX7_onward_2 : cX7_onward.data.toList.drop 47 = dktX7_onward_2 := dk_seg dksX7_onward_1 24 rfl rfl
theorem dksX7_onward_3 : cX7_onward.data.toList.drop 71 = dktX7_onward_3 := dk_seg dksX7_onward_2 24 rfl rfl
theorem dksX7_onward_4 : cX7_onward.data.toList.drop 95 = dktX7_onward_4 := dk_seg dksX7_onward_3 24 rfl rfl
theorem dksX7_onward_5 : cX7_onward.data.toList.drop 117 = dktX7_onward_5 := dk_seg dksX7_onward_4 22 rfl rfl
theorem dksX7_onward_6 : cX7_onward.data.toList.drop 139 = dktX7_onward_6 := dk_seg dksX7_onward_5 22 rfl rfl
theorem dksX7_onward_7 : cX7_onward.data.toList.drop 163 = dktX7_onward_7 := dk_seg dksX7_onward_6 24 rfl rfl
theorem dksX7_onward_8 : cX7_onward.data.toList.drop 185 = dktX7_onward_8 := dk_seg dksX7_onward_7 22 rfl rfl
theorem dksX7_onward_9 : cX7_onward.data.toList.drop 209 = dktX7_onward_9 := dk_seg dksX7_onward_8 24 rfl rfl
theorem dksX7_onward_10 : cX7_onward.data.toList.drop 232 = dktX7_onward_10 := dk_seg dksX7_onward_9 23 rfl rfl
theorem dX7_onward_0 : decode cX7_onward 0 = .ok (.aload_n 0, 1) := dk_42 (dk_at dksX7_onward_0 0 rfl rfl)
theorem dX7_onward_1 : decode cX7_onward 1 = .ok (.aload_n 0, 1) := dk_42 (dk_at dksX7_onward_0 1 rfl rfl)
theorem dX7_onward_2 : decode cX7_onward 2 = .ok (.getfield 114, 3) := dk_180 0 114 (dk_at dksX7_onward_0 2 rfl rfl)
theorem dX7_onward_5 : decode cX7_onward 5 = .ok (.invokevirtual 117, 3) := dk_182 0 117 (dk_at dksX7_onward_0 5 rfl rfl)
theorem dX7_onward_8 : decode cX7_onward 8 = .ok (.bipush 32, 2) := dk_16 32 (dk_at dksX7_onward_0 8 rfl rfl)
theorem dX7_onward_10 : decode cX7_onward 10 = .ok (.if_icmp .eq 16, 3) := dk_159 0 16 (dk_at dksX7_onward_0 10 rfl rfl)
theorem dX7_onward_13 : decode cX7_onward 13 = .ok (.aload_n 0, 1) := dk_42 (dk_at dksX7_onward_0 13 rfl rfl)
theorem dX7_onward_14 : decode cX7_onward 14 = .ok (.aload_n 0, 1) := dk_42 (dk_at dksX7_onward_0 14 rfl rfl)
theorem dX7_onward_15 : decode cX7_onward 15 = .ok (.getfield 114, 3) := dk_180 0 114 (dk_at dksX7_onward_0 15 rfl rfl)
theorem dX7_onward_18 : decode cX7_onward 18 = .ok (.invokevirtual 117, 3) := dk_182 0 117 (dk_at dksX7_onward_0 18 rfl rfl)
theorem dX7_onward_21 : decode cX7_onward 21 = .ok (.bipush 10, 2) := dk_16 10 (dk_at dksX7_onward_0 21 rfl rfl)
theorem dX7_onward_23 : decode cX7_onward 23 = .ok (.if_icmp .ne 16, 3) := dk_160 0 16 (dk_at dksX7_onward_1 0 rfl rfl)
theorem dX7_onward_26 : decode cX7_onward 26 = .ok (.aload_n 0, 1) := dk_42 (dk_at dksX7_onward_1 3 rfl rfl)
theorem dX7_onward_27 : decode cX7_onward 27 = .ok (.dup, 1) := dk_89 (dk_at dksX7_onward_1 4 rfl rfl)
theorem dX7_onward_28 : decode cX7_onward 28 = .ok (.getfield 114, 3) := dk_180 0 114 (dk_at dksX7_onward_1 5 rfl rfl)
theorem dX7_onward_31 : decode cX7_onward 31 = .ok (.iconst 1, 1) := dk_4 (dk_at dksX7_onward_1 8 rfl rfl)
theorem dX7_onward_32 : decode cX7_onward 32 = .ok (.iadd, 1) := dk_96 (dk_at dksX7_onward_1 9 rfl rfl)
theorem dX7_onward_33 : decode cX7_onward 33 = .ok (.putfield 114, 3) := dk_181 0 114 (dk_at dksX7_onward_1 10 rfl rfl)
theorem dX7_onward_36 : decode cX7_onward 36 = .ok (.goto (-36), 3) := dk_167 255 220 (dk_at dksX7_onward_1 13 rfl rfl)
theorem dX7_onward_39 : decode cX7_onward 39 = .ok (.aload_n 0, 1) := dk_42 (dk_at dksX7_onward_1 16 rfl rfl)
theorem dX7_onward_40 : decode cX7_onward 40 = .ok (.aload_n 0, 1) := dk_42 (dk_at dksX7_onward_1 17 rfl rfl)
theorem dX7_onward_41 : decode cX7_onward 41 = .ok (.getfield 114, 3) := dk_180 0 114 (dk_at dksX7_onward_1 18 rfl rfl)
theorem dX7_onward_44 : decode cX7_onward 44 = .ok (.putfield 120, 3) := dk_181 0 120 (dk_at dksX7_onward_1 21 rfl rfl)
theorem dX7_onward_47 : decode cX7_onward 47 = .ok (.aload_n 0, 1) := dk_42 (dk_at dksX7_onward_2 0 rfl rfl)
theorem dX7_onward_48 : decode cX7_onward 48 = .ok (.aload_n 0, 1) := dk_42 (dk_at dksX7_onward_2 1 rfl rfl)
theorem dX7_onward_49 : decode cX7_onward 49 = .ok (.getfield 114, 3) := dk_180 0 114 (dk_at dksX7_onward_2 2 rfl rfl)
theorem dX7_onward_52 : decode cX7_onward 52 = .ok (.invokevirtual 117, 3) := dk_182 0 117 (dk_at dksX7_onward_2 5 rfl rfl)
theorem dX7_onward_55 : decode cX7_onward 55 = .ok (.istore_n 1, 1) := dk_60 (dk_at dksX7_onward_2 8 rfl rfl)
theorem dX7_onward_56 : decode cX7_onward 56 = .ok (.aload_n 0, 1) := dk_42 (dk_at dksX7_onward_2 9 rfl rfl)
theorem dX7_onward_57 : decode cX7_onward 57 = .ok (.iload_n 1, 1) := dk_27 (dk_at dksX7_onward_2 10 rfl rfl)
theorem dX7_onward_58 : decode cX7_onward 58 = .ok (.putfield 123, 3) := dk_181 0 123 (dk_at dksX7_onward_2 11 rfl rfl)
theorem dX7_onward_61 : decode cX7_onward 61 = .ok (.iload_n 1, 1) := dk_27 (dk_at dksX7_onward_2 14 rfl rfl)
theorem dX7_onward_62 : decode cX7_onward 62 = .ok (.iconst (-1), 1) := dk_2 (dk_at dksX7_onward_2 15 rfl rfl)
theorem dX7_onward_63 : decode cX7_onward 63 = .ok (.if_icmp .ne 11, 3) := dk_160 0 11 (dk_at dksX7_onward_2 16 rfl rfl)
theorem dX7_onward_66 : decode cX7_onward 66 = .ok (.aload_n 0, 1) := dk_42 (dk_at dksX7_onward_2 19 rfl rfl)
theorem dX7_onward_67 : decode cX7_onward 67 = .ok (.iconst 0, 1) := dk_3 (dk_at dksX7_onward_2 20 rfl rfl)
theorem dX7_onward_68 : decode cX7_onward 68 = .ok (.putfield 126, 3) := dk_181 0 126 (dk_at dksX7_onward_2 21 rfl rfl)
theorem dX7_onward_71 : decode cX7_onward 71 = .ok (.goto 180, 3) := dk_167 0 180 (dk_at dksX7_onward_3 0 rfl rfl)
theorem dX7_onward_74 : decode cX7_onward 74 = .ok (.iload_n 1, 1) := dk_27 (dk_at dksX7_onward_3 3 rfl rfl)
theorem dX7_onward_75 : decode cX7_onward 75 = .ok (.invokestatic 129, 3) := dk_184 0 129 (dk_at dksX7_onward_3 4 rfl rfl)
theorem dX7_onward_78 : decode cX7_onward 78 = .ok (.ifCond .eq 38, 3) := dk_153 0 38 (dk_at dksX7_onward_3 7 rfl rfl)
theorem dX7_onward_81 : decode cX7_onward 81 = .ok (.aload_n 0, 1) := dk_42 (dk_at dksX7_onward_3 10 rfl rfl)
theorem dX7_onward_82 : decode cX7_onward 82 = .ok (.aload_n 0, 1) := dk_42 (dk_at dksX7_onward_3 11 rfl rfl)
theorem dX7_onward_83 : decode cX7_onward 83 = .ok (.getfield 114, 3) := dk_180 0 114 (dk_at dksX7_onward_3 12 rfl rfl)
theorem dX7_onward_86 : decode cX7_onward 86 = .ok (.invokevirtual 117, 3) := dk_182 0 117 (dk_at dksX7_onward_3 15 rfl rfl)
theorem dX7_onward_89 : decode cX7_onward 89 = .ok (.invokestatic 129, 3) := dk_184 0 129 (dk_at dksX7_onward_3 18 rfl rfl)
theorem dX7_onward_92 : decode cX7_onward 92 = .ok (.ifCond .eq 16, 3) := dk_153 0 16 (dk_at dksX7_onward_3 21 rfl rfl)
theorem dX7_onward_95 : decode cX7_onward 95 = .ok (.aload_n 0, 1) := dk_42 (dk_at dksX7_onward_4 0 rfl rfl)
theorem dX7_onward_96 : decode cX7_onward 96 = .ok (.dup, 1) := dk_89 (dk_at dksX7_onward_4 1 rfl rfl)
theorem dX7_onward_97 : decode cX7_onward 97 = .ok (.getfield 114, 3) := dk_180 0 114 (dk_at dksX7_onward_4 2 rfl rfl)
theorem dX7_onward_100 : decode cX7_onward 100 = .ok (.iconst 1, 1) := dk_4 (dk_at dksX7_onward_4 5 rfl rfl)
theorem dX7_onward_101 : decode cX7_onward 101 = .ok (.iadd, 1) := dk_96 (dk_at dksX7_onward_4 6 rfl rfl)
theorem dX7_onward_102 : decode cX7_onward 102 = .ok (.putfield 114, 3) := dk_181 0 114 (dk_at dksX7_onward_4 7 rfl rfl)
theorem dX7_onward_105 : decode cX7_onward 105 = .ok (.goto (-24), 3) := dk_167 255 232 (dk_at dksX7_onward_4 10 rfl rfl)
theorem dX7_onward_108 : decode cX7_onward 108 = .ok (.aload_n 0, 1) := dk_42 (dk_at dksX7_onward_4 13 rfl rfl)
theorem dX7_onward_109 : decode cX7_onward 109 = .ok (.iconst 2, 1) := dk_5 (dk_at dksX7_onward_4 14 rfl rfl)
theorem dX7_onward_110 : decode cX7_onward 110 = .ok (.putfield 126, 3) := dk_181 0 126 (dk_at dksX7_onward_4 15 rfl rfl)
theorem dX7_onward_113 : decode cX7_onward 113 = .ok (.goto 138, 3) := dk_167 0 138 (dk_at dksX7_onward_4 18 rfl rfl)
theorem dX7_onward_116 : decode cX7_onward 116 = .ok (.iload_n 1, 1) := dk_27 (dk_at dksX7_onward_4 21 rfl rfl)
theorem dX7_onward_117 : decode cX7_onward 117 = .ok (.invokestatic 132, 3) := dk_184 0 132 (dk_at dksX7_onward_5 0 rfl rfl)
theorem dX7_onward_120 : decode cX7_onward 120 = .ok (.ifCond .eq 88, 3) := dk_153 0 88 (dk_at dksX7_onward_5 3 rfl rfl)
theorem dX7_onward_123 : decode cX7_onward 123 = .ok (.aload_n 0, 1) := dk_42 (dk_at dksX7_onward_5 6 rfl rfl)
theorem dX7_onward_124 : decode cX7_onward 124 = .ok (.iconst 0, 1) := dk_3 (dk_at dksX7_onward_5 7 rfl rfl)
theorem dX7_onward_125 : decode cX7_onward 125 = .ok (.putfield 123, 3) := dk_181 0 123 (dk_at dksX7_onward_5 8 rfl rfl)
theorem dX7_onward_128 : decode cX7_onward 128 = .ok (.aload_n 0, 1) := dk_42 (dk_at dksX7_onward_5 11 rfl rfl)
theorem dX7_onward_129 : decode cX7_onward 129 = .ok (.aload_n 0, 1) := dk_42 (dk_at dksX7_onward_5 12 rfl rfl)
theorem dX7_onward_130 : decode cX7_onward 130 = .ok (.getfield 114, 3) := dk_180 0 114 (dk_at dksX7_onward_5 13 rfl rfl)
theorem dX7_onward_133 : decode cX7_onward 133 = .ok (.invokevirtual 117, 3) := dk_182 0 117 (dk_at dksX7_onward_5 16 rfl rfl)
theorem dX7_onward_136 : decode cX7_onward 136 = .ok (.invokestatic 132, 3) := dk_184 0 132 (dk_at dksX7_onward_5 19 rfl rfl)
theorem dX7_onward_139 : decode cX7_onward 139 = .ok (.ifCond .eq 44, 3) := dk_153 0 44 (dk_at dksX7_onward_6 0 rfl rfl)
theorem dX7_onward_142 : decode cX7_onward 142 = .ok (.aload_n 0, 1) := dk_42 (dk_at dksX7_onward_6 3 rfl rfl)
theorem dX7_onward_143 : decode cX7_onward 143 = .ok (.ldc 135, 2) := dk_18 135 (dk_at dksX7_onward_6 4 rfl rfl)
theorem dX7_onward_145 : decode cX7_onward 145 = .ok (.bipush 10, 2) := dk_16 10 (dk_at dksX7_onward_6 6 rfl rfl)
theorem dX7_onward_147 : decode cX7_onward 147 = .ok (.aload_n 0, 1) := dk_42 (dk_at dksX7_onward_6 8 rfl rfl)
theorem dX7_onward_148 : decode cX7_onward 148 = .ok (.getfield 123, 3) := dk_180 0 123 (dk_at dksX7_onward_6 9 rfl rfl)
theorem dX7_onward_151 : decode cX7_onward 151 = .ok (.imul, 1) := dk_104 (dk_at dksX7_onward_6 12 rfl rfl)
theorem dX7_onward_152 : decode cX7_onward 152 = .ok (.aload_n 0, 1) := dk_42 (dk_at dksX7_onward_6 13 rfl rfl)
theorem dX7_onward_153 : decode cX7_onward 153 = .ok (.aload_n 0, 1) := dk_42 (dk_at dksX7_onward_6 14 rfl rfl)
theorem dX7_onward_154 : decode cX7_onward 154 = .ok (.getfield 114, 3) := dk_180 0 114 (dk_at dksX7_onward_6 15 rfl rfl)
theorem dX7_onward_157 : decode cX7_onward 157 = .ok (.invokevirtual 117, 3) := dk_182 0 117 (dk_at dksX7_onward_6 18 rfl rfl)
theorem dX7_onward_160 : decode cX7_onward 160 = .ok (.iadd, 1) := dk_96 (dk_at dksX7_onward_6 21 rfl rfl)
theorem dX7_onward_161 : decode cX7_onward 161 = .ok (.bipush 48, 2) := dk_16 48 (dk_at dksX7_onward_6 22 rfl rfl)
theorem dX7_onward_163 : decode cX7_onward 163 = .ok (.isub, 1) := dk_100 (dk_at dksX7_onward_7 0 rfl rfl)
theorem dX7_onward_164 : decode cX7_onward 164 = .ok (.invokestatic 136, 3) := dk_184 0 136 (dk_at dksX7_onward_7 1 rfl rfl)
theorem dX7_onward_167 : decode cX7_onward 167 = .ok (.putfield 123, 3) := dk_181 0 123 (dk_at dksX7_onward_7 4 rfl rfl)
theorem dX7_onward_170 : decode cX7_onward 170 = .ok (.aload_n 0, 1) := dk_42 (dk_at dksX7_onward_7 7 rfl rfl)
theorem dX7_onward_171 : decode cX7_onward 171 = .ok (.dup, 1) := dk_89 (dk_at dksX7_onward_7 8 rfl rfl)
theorem dX7_onward_172 : decode cX7_onward 172 = .ok (.getfield 114, 3) := dk_180 0 114 (dk_at dksX7_onward_7 9 rfl rfl)
theorem dX7_onward_175 : decode cX7_onward 175 = .ok (.iconst 1, 1) := dk_4 (dk_at dksX7_onward_7 12 rfl rfl)
theorem dX7_onward_176 : decode cX7_onward 176 = .ok (.iadd, 1) := dk_96 (dk_at dksX7_onward_7 13 rfl rfl)
theorem dX7_onward_177 : decode cX7_onward 177 = .ok (.putfield 114, 3) := dk_181 0 114 (dk_at dksX7_onward_7 14 rfl rfl)
theorem dX7_onward_180 : decode cX7_onward 180 = .ok (.goto (-52), 3) := dk_167 255 204 (dk_at dksX7_onward_7 17 rfl rfl)
theorem dX7_onward_183 : decode cX7_onward 183 = .ok (.aload_n 0, 1) := dk_42 (dk_at dksX7_onward_7 20 rfl rfl)
theorem dX7_onward_184 : decode cX7_onward 184 = .ok (.aload_n 0, 1) := dk_42 (dk_at dksX7_onward_7 21 rfl rfl)
theorem dX7_onward_185 : decode cX7_onward 185 = .ok (.getfield 114, 3) := dk_180 0 114 (dk_at dksX7_onward_8 0 rfl rfl)
theorem dX7_onward_188 : decode cX7_onward 188 = .ok (.aload_n 0, 1) := dk_42 (dk_at dksX7_onward_8 3 rfl rfl)
theorem dX7_onward_189 : decode cX7_onward 189 = .ok (.getfield 120, 3) := dk_180 0 120 (dk_at dksX7_onward_8 4 rfl rfl)
theorem dX7_onward_192 : decode cX7_onward 192 = .ok (.isub, 1) := dk_100 (dk_at dksX7_onward_8 7 rfl rfl)
theorem dX7_onward_193 : decode cX7_onward 193 = .ok (.iconst 4, 1) := dk_7 (dk_at dksX7_onward_8 8 rfl rfl)
theorem dX7_onward_194 : decode cX7_onward 194 = .ok (.if_icmp .le 7, 3) := dk_164 0 7 (dk_at dksX7_onward_8 9 rfl rfl)
theorem dX7_onward_197 : decode cX7_onward 197 = .ok (.iconst 1, 1) := dk_4 (dk_at dksX7_onward_8 12 rfl rfl)
theorem dX7_onward_198 : decode cX7_onward 198 = .ok (.goto 4, 3) := dk_167 0 4 (dk_at dksX7_onward_8 13 rfl rfl)
theorem dX7_onward_201 : decode cX7_onward 201 = .ok (.iconst 3, 1) := dk_6 (dk_at dksX7_onward_8 16 rfl rfl)
theorem dX7_onward_202 : decode cX7_onward 202 = .ok (.putfield 126, 3) := dk_181 0 126 (dk_at dksX7_onward_8 17 rfl rfl)
theorem dX7_onward_205 : decode cX7_onward 205 = .ok (.goto 46, 3) := dk_167 0 46 (dk_at dksX7_onward_8 20 rfl rfl)
theorem dX7_onward_208 : decode cX7_onward 208 = .ok (.aload_n 0, 1) := dk_42 (dk_at dksX7_onward_8 23 rfl rfl)
theorem dX7_onward_209 : decode cX7_onward 209 = .ok (.dup, 1) := dk_89 (dk_at dksX7_onward_9 0 rfl rfl)
theorem dX7_onward_210 : decode cX7_onward 210 = .ok (.getfield 114, 3) := dk_180 0 114 (dk_at dksX7_onward_9 1 rfl rfl)
theorem dX7_onward_213 : decode cX7_onward 213 = .ok (.iconst 1, 1) := dk_4 (dk_at dksX7_onward_9 4 rfl rfl)
theorem dX7_onward_214 : decode cX7_onward 214 = .ok (.iadd, 1) := dk_96 (dk_at dksX7_onward_9 5 rfl rfl)
theorem dX7_onward_215 : decode cX7_onward 215 = .ok (.putfield 114, 3) := dk_181 0 114 (dk_at dksX7_onward_9 6 rfl rfl)
theorem dX7_onward_218 : decode cX7_onward 218 = .ok (.aload_n 0, 1) := dk_42 (dk_at dksX7_onward_9 9 rfl rfl)
theorem dX7_onward_219 : decode cX7_onward 219 = .ok (.iload_n 1, 1) := dk_27 (dk_at dksX7_onward_9 10 rfl rfl)
theorem dX7_onward_220 : decode cX7_onward 220 = .ok (.bipush 59, 2) := dk_16 59 (dk_at dksX7_onward_9 11 rfl rfl)
theorem dX7_onward_222 : decode cX7_onward 222 = .ok (.if_icmp .eq 21, 3) := dk_159 0 21 (dk_at dksX7_onward_9 13 rfl rfl)
theorem dX7_onward_225 : decode cX7_onward 225 = .ok (.iload_n 1, 1) := dk_27 (dk_at dksX7_onward_9 16 rfl rfl)
theorem dX7_onward_226 : decode cX7_onward 226 = .ok (.bipush 60, 2) := dk_16 60 (dk_at dksX7_onward_9 17 rfl rfl)
theorem dX7_onward_228 : decode cX7_onward 228 = .ok (.if_icmp .eq 15, 3) := dk_159 0 15 (dk_at dksX7_onward_9 19 rfl rfl)
theorem dX7_onward_231 : decode cX7_onward 231 = .ok (.iload_n 1, 1) := dk_27 (dk_at dksX7_onward_9 22 rfl rfl)
theorem dX7_onward_232 : decode cX7_onward 232 = .ok (.bipush 62, 2) := dk_16 62 (dk_at dksX7_onward_10 0 rfl rfl)
theorem dX7_onward_234 : decode cX7_onward 234 = .ok (.if_icmp .eq 9, 3) := dk_159 0 9 (dk_at dksX7_onward_10 2 rfl rfl)
theorem dX7_onward_237 : decode cX7_onward 237 = .ok (.iload_n 1, 1) := dk_27 (dk_at dksX7_onward_10 5 rfl rfl)
theorem dX7_onward_238 : decode cX7_onward 238 = .ok (.bipush 61, 2) := dk_16 61 (dk_at dksX7_onward_10 6 rfl rfl)
theorem dX7_onward_240 : decode cX7_onward 240 = .ok (.if_icmp .ne 7, 3) := dk_160 0 7 (dk_at dksX7_onward_10 8 rfl rfl)
theorem dX7_onward_243 : decode cX7_onward 243 = .ok (.iconst 4, 1) := dk_7 (dk_at dksX7_onward_10 11 rfl rfl)
theorem dX7_onward_244 : decode cX7_onward 244 = .ok (.goto 4, 3) := dk_167 0 4 (dk_at dksX7_onward_10 12 rfl rfl)
theorem dX7_onward_247 : decode cX7_onward 247 = .ok (.iconst 1, 1) := dk_4 (dk_at dksX7_onward_10 15 rfl rfl)
theorem dX7_onward_248 : decode cX7_onward 248 = .ok (.putfield 126, 3) := dk_181 0 126 (dk_at dksX7_onward_10 16 rfl rfl)
theorem dX7_onward_251 : decode cX7_onward 251 = .ok (.return_, 1) := dk_177 (dk_at dksX7_onward_10 19 rfl rfl)
abbrev cX7_byteAt : ByteArray := prog_16_method_22_code
def yX7_byteAt : MethodName := ⟨RX7, "byteAt", "(I)I"⟩
def dkwX7_byteAt_0 : List UInt8 := [27, 42, 180, 0, 111, 162, 0, 16, 42, 180, 0, 34, 27, 51, 17, 0, 255, 126, 167, 0, 4, 2, 172]
abbrev dktX7_byteAt_0 : List UInt8 := dkwX7_byteAt_0 ++ []
theorem dksX7_byteAt_0 : cX7_byteAt.data.toList.drop 0 = dktX7_byteAt_0 := by decide +kernel
theorem dX7_byteAt_0 : decode cX7_byteAt 0 = .ok (.iload_n 1, 1) := dk_27 (dk_at dksX7_byteAt_0 0 rfl rfl)
theorem dX7_byteAt_1 : decode cX7_byteAt 1 = .ok (.aload_n 0, 1) := dk_42 (dk_at dksX7_byteAt_0 1 rfl rfl)
theorem dX7_byteAt_2 : decode cX7_byteAt 2 = .ok (.getfield 111, 3) := dk_180 0 111 (dk_at dksX7_byteAt_0 2 rfl rfl)
theorem dX7_byteAt_5 : decode cX7_byteAt 5 = .ok (.if_icmp .ge 16, 3) := dk_162 0 16 (dk_at dksX7_byteAt_0 5 rfl rfl)
theorem dX7_byteAt_8 : decode cX7_byteAt 8 = .ok (.aload_n 0, 1) := dk_42 (dk_at dksX7_byteAt_0 8 rfl rfl)
theorem dX7_byteAt_9 : decode cX7_byteAt 9 = .ok (.getfield 34, 3) := dk_180 0 34 (dk_at dksX7_byteAt_0 9 rfl rfl)
theorem dX7_byteAt_12 : decode cX7_byteAt 12 = .ok (.iload_n 1, 1) := dk_27 (dk_at dksX7_byteAt_0 12 rfl rfl)
theorem dX7_byteAt_13 : decode cX7_byteAt 13 = .ok (.baload, 1) := dk_51 (dk_at dksX7_byteAt_0 13 rfl rfl)
theorem dX7_byteAt_14 : decode cX7_byteAt 14 = .ok (.sipush 255, 3) := dk_17 0 255 (dk_at dksX7_byteAt_0 14 rfl rfl)
theorem dX7_byteAt_17 : decode cX7_byteAt 17 = .ok (.iand, 1) := dk_126 (dk_at dksX7_byteAt_0 17 rfl rfl)
theorem dX7_byteAt_18 : decode cX7_byteAt 18 = .ok (.goto 4, 3) := dk_167 0 4 (dk_at dksX7_byteAt_0 18 rfl rfl)
theorem dX7_byteAt_21 : decode cX7_byteAt 21 = .ok (.iconst (-1), 1) := dk_2 (dk_at dksX7_byteAt_0 21 rfl rfl)
theorem dX7_byteAt_22 : decode cX7_byteAt 22 = .ok (.ireturn, 1) := dk_172 (dk_at dksX7_byteAt_0 22 rfl rfl)
abbrev cX7_isSmall : ByteArray := prog_16_method_23_code
def yX7_isSmall : MethodName := ⟨RX7, "isSmall", "(I)Z"⟩
def dkwX7_isSmall_0 : List UInt8 := [26, 16, 97, 161, 0, 13, 26, 16, 122, 163, 0, 7, 4, 167, 0, 4, 3, 172]
abbrev dktX7_isSmall_0 : List UInt8 := dkwX7_isSmall_0 ++ []
theorem dksX7_isSmall_0 : cX7_isSmall.data.toList.drop 0 = dktX7_isSmall_0 := by decide +kernel
theorem dX7_isSmall_0 : decode cX7_isSmall 0 = .ok (.iload_n 0, 1) := dk_26 (dk_at dksX7_isSmall_0 0 rfl rfl)
theorem dX7_isSmall_1 : decode cX7_isSmall 1 = .ok (.bipush 97, 2) := dk_16 97 (dk_at dksX7_isSmall_0 1 rfl rfl)
theorem dX7_isSmall_3 : decode cX7_isSmall 3 = .ok (.if_icmp .lt 13, 3) := dk_161 0 13 (dk_at dksX7_isSmall_0 3 rfl rfl)
theorem dX7_isSmall_6 : decode cX7_isSmall 6 = .ok (.iload_n 0, 1) := dk_26 (dk_at dksX7_isSmall_0 6 rfl rfl)
theorem dX7_isSmall_7 : decode cX7_isSmall 7 = .ok (.bipush 122, 2) := dk_16 122 (dk_at dksX7_isSmall_0 7 rfl rfl)
theorem dX7_isSmall_9 : decode cX7_isSmall 9 = .ok (.if_icmp .gt 7, 3) := dk_163 0 7 (dk_at dksX7_isSmall_0 9 rfl rfl)
theorem dX7_isSmall_12 : decode cX7_isSmall 12 = .ok (.iconst 1, 1) := dk_4 (dk_at dksX7_isSmall_0 12 rfl rfl)
theorem dX7_isSmall_13 : decode cX7_isSmall 13 = .ok (.goto 4, 3) := dk_167 0 4 (dk_at dksX7_isSmall_0 13 rfl rfl)
theorem dX7_isSmall_16 : decode cX7_isSmall 16 = .ok (.iconst 0, 1) := dk_3 (dk_at dksX7_isSmall_0 16 rfl rfl)
theorem dX7_isSmall_17 : decode cX7_isSmall 17 = .ok (.ireturn, 1) := dk_172 (dk_at dksX7_isSmall_0 17 rfl rfl)
abbrev cX7_isDigit : ByteArray := prog_16_method_24_code
def yX7_isDigit : MethodName := ⟨RX7, "isDigit", "(I)Z"⟩
def dkwX7_isDigit_0 : List UInt8 := [26, 16, 48, 161, 0, 13, 26, 16, 57, 163, 0, 7, 4, 167, 0, 4, 3, 172]
abbrev dktX7_isDigit_0 : List UInt8 := dkwX7_isDigit_0 ++ []
theorem dksX7_isDigit_0 : cX7_isDigit.data.toList.drop 0 = dktX7_isDigit_0 := by decide +kernel
theorem dX7_isDigit_0 : decode cX7_isDigit 0 = .ok (.iload_n 0, 1) := dk_26 (dk_at dksX7_isDigit_0 0 rfl rfl)
theorem dX7_isDigit_1 : decode cX7_isDigit 1 = .ok (.bipush 48, 2) := dk_16 48 (dk_at dksX7_isDigit_0 1 rfl rfl)
theorem dX7_isDigit_3 : decode cX7_isDigit 3 = .ok (.if_icmp .lt 13, 3) := dk_161 0 13 (dk_at dksX7_isDigit_0 3 rfl rfl)
theorem dX7_isDigit_6 : decode cX7_isDigit 6 = .ok (.iload_n 0, 1) := dk_26 (dk_at dksX7_isDigit_0 6 rfl rfl)
theorem dX7_isDigit_7 : decode cX7_isDigit 7 = .ok (.bipush 57, 2) := dk_16 57 (dk_at dksX7_isDigit_0 7 rfl rfl)
theorem dX7_isDigit_9 : decode cX7_isDigit 9 = .ok (.if_icmp .gt 7, 3) := dk_163 0 7 (dk_at dksX7_isDigit_0 9 rfl rfl)
theorem dX7_isDigit_12 : decode cX7_isDigit 12 = .ok (.iconst 1, 1) := dk_4 (dk_at dksX7_isDigit_0 12 rfl rfl)
theorem dX7_isDigit_13 : decode cX7_isDigit 13 = .ok (.goto 4, 3) := dk_167 0 4 (dk_at dksX7_isDigit_0 13 rfl rfl)
theorem dX7_isDigit_16 : decode cX7_isDigit 16 = .ok (.iconst 0, 1) := dk_3 (dk_at dksX7_isDigit_0 16 rfl rfl)
theorem dX7_isDigit_17 : decode cX7_isDigit 17 = .ok (.ireturn, 1) := dk_172 (dk_at dksX7_isDigit_0 17 rfl rfl)
abbrev cX7_refuse : ByteArray := prog_16_method_7_code
def yX7_refuse : MethodName := ⟨RX7, "refuse", "(I)I"⟩
def dkwX7_refuse_0 : List UInt8 := [42, 27, 181, 0, 75, 2, 172]
abbrev dktX7_refuse_0 : List UInt8 := dkwX7_refuse_0 ++ []
theorem dksX7_refuse_0 : cX7_refuse.data.toList.drop 0 = dktX7_refuse_0 := by decide +kernel
theorem dX7_refuse_0 : decode cX7_refuse 0 = .ok (.aload_n 0, 1) := dk_42 (dk_at dksX7_refuse_0 0 rfl rfl)
theorem dX7_refuse_1 : decode cX7_refuse 1 = .ok (.iload_n 1, 1) := dk_27 (dk_at dksX7_refuse_0 1 rfl rfl)
theorem dX7_refuse_2 : decode cX7_refuse 2 = .ok (.putfield 75, 3) := dk_181 0 75 (dk_at dksX7_refuse_0 2 rfl rfl)
theorem dX7_refuse_5 : decode cX7_refuse 5 = .ok (.iconst (-1), 1) := dk_2 (dk_at dksX7_refuse_0 5 rfl rfl)
theorem dX7_refuse_6 : decode cX7_refuse 6 = .ok (.ireturn, 1) := dk_172 (dk_at dksX7_refuse_0 6 rfl rfl)
abbrev cX7_first : ByteArray := prog_16_method_41_code
def yX7_first : MethodName := ⟨RX7, "first", "()Z"⟩
def dkwX7_first_2 : List UInt8 := [164, 0, 7, 4, 167, 0, 4, 3, 79, 42, 16, 59, 182, 0, 194, 172]
abbrev dktX7_first_2 : List UInt8 := dkwX7_first_2 ++ []
def dkwX7_first_1 : List UInt8 := [42, 180, 0, 7, 17, 6, 113, 42, 7, 182, 0, 191, 153, 0, 19, 42, 180, 0, 7, 17, 6, 104, 46, 5]
abbrev dktX7_first_1 : List UInt8 := dkwX7_first_1 ++ dktX7_first_2
def dkwX7_first_0 : List UInt8 := [42, 18, 174, 3, 182, 0, 183, 153, 0, 15, 42, 17, 6, 104, 4, 8, 182, 0, 187, 154, 0, 5, 3, 172]
abbrev dktX7_first_0 : List UInt8 := dkwX7_first_0 ++ dktX7_first_1
theorem dksX7_first_0 : cX7_first.data.toList.drop 0 = dktX7_first_0 := by decide +kernel
theorem dksX7_first_1 : cX7_first.data.toList.drop 24 = dktX7_first_1 := dk_seg dksX7_first_0 24 rfl rfl
theorem dksX7_first_2 : cX7_first.data.toList.drop 48 = dktX7_first_2 := dk_seg dksX7_first_1 24 rfl rfl
theorem dX7_first_0 : decode cX7_first 0 = .ok (.aload_n 0, 1) := dk_42 (dk_at dksX7_first_0 0 rfl rfl)
theorem dX7_first_1 : decode cX7_first 1 = .ok (.ldc 174, 2) := dk_18 174 (dk_at dksX7_first_0 1 rfl rfl)
theorem dX7_first_3 : decode cX7_first 3 = .ok (.iconst 0, 1) := dk_3 (dk_at dksX7_first_0 3 rfl rfl)
theorem dX7_first_4 : decode cX7_first 4 = .ok (.invokevirtual 183, 3) := dk_182 0 183 (dk_at dksX7_first_0 4 rfl rfl)
theorem dX7_first_7 : decode cX7_first 7 = .ok (.ifCond .eq 15, 3) := dk_153 0 15 (dk_at dksX7_first_0 7 rfl rfl)
theorem dX7_first_10 : decode cX7_first 10 = .ok (.aload_n 0, 1) := dk_42 (dk_at dksX7_first_0 10 rfl rfl)
theorem dX7_first_11 : decode cX7_first 11 = .ok (.sipush 1640, 3) := dk_17 6 104 (dk_at dksX7_first_0 11 rfl rfl)
theorem dX7_first_14 : decode cX7_first 14 = .ok (.iconst 1, 1) := dk_4 (dk_at dksX7_first_0 14 rfl rfl)
theorem dX7_first_15 : decode cX7_first 15 = .ok (.iconst 5, 1) := dk_8 (dk_at dksX7_first_0 15 rfl rfl)
theorem dX7_first_16 : decode cX7_first 16 = .ok (.invokevirtual 187, 3) := dk_182 0 187 (dk_at dksX7_first_0 16 rfl rfl)
theorem dX7_first_19 : decode cX7_first 19 = .ok (.ifCond .ne 5, 3) := dk_154 0 5 (dk_at dksX7_first_0 19 rfl rfl)
theorem dX7_first_22 : decode cX7_first 22 = .ok (.iconst 0, 1) := dk_3 (dk_at dksX7_first_0 22 rfl rfl)
theorem dX7_first_23 : decode cX7_first 23 = .ok (.ireturn, 1) := dk_172 (dk_at dksX7_first_0 23 rfl rfl)
theorem dX7_first_24 : decode cX7_first 24 = .ok (.aload_n 0, 1) := dk_42 (dk_at dksX7_first_1 0 rfl rfl)
theorem dX7_first_25 : decode cX7_first 25 = .ok (.getfield 7, 3) := dk_180 0 7 (dk_at dksX7_first_1 1 rfl rfl)
theorem dX7_first_28 : decode cX7_first 28 = .ok (.sipush 1649, 3) := dk_17 6 113 (dk_at dksX7_first_1 4 rfl rfl)
theorem dX7_first_31 : decode cX7_first 31 = .ok (.aload_n 0, 1) := dk_42 (dk_at dksX7_first_1 7 rfl rfl)
theorem dX7_first_32 : decode cX7_first 32 = .ok (.iconst 4, 1) := dk_7 (dk_at dksX7_first_1 8 rfl rfl)
theorem dX7_first_33 : decode cX7_first 33 = .ok (.invokevirtual 191, 3) := dk_182 0 191 (dk_at dksX7_first_1 9 rfl rfl)
theorem dX7_first_36 : decode cX7_first 36 = .ok (.ifCond .eq 19, 3) := dk_153 0 19 (dk_at dksX7_first_1 12 rfl rfl)
theorem dX7_first_39 : decode cX7_first 39 = .ok (.aload_n 0, 1) := dk_42 (dk_at dksX7_first_1 15 rfl rfl)
theorem dX7_first_40 : decode cX7_first 40 = .ok (.getfield 7, 3) := dk_180 0 7 (dk_at dksX7_first_1 16 rfl rfl)
theorem dX7_first_43 : decode cX7_first 43 = .ok (.sipush 1640, 3) := dk_17 6 104 (dk_at dksX7_first_1 19 rfl rfl)
theorem dX7_first_46 : decode cX7_first 46 = .ok (.iaload, 1) := dk_46 (dk_at dksX7_first_1 22 rfl rfl)
theorem dX7_first_47 : decode cX7_first 47 = .ok (.iconst 2, 1) := dk_5 (dk_at dksX7_first_1 23 rfl rfl)
theorem dX7_first_48 : decode cX7_first 48 = .ok (.if_icmp .le 7, 3) := dk_164 0 7 (dk_at dksX7_first_2 0 rfl rfl)
theorem dX7_first_51 : decode cX7_first 51 = .ok (.iconst 1, 1) := dk_4 (dk_at dksX7_first_2 3 rfl rfl)
theorem dX7_first_52 : decode cX7_first 52 = .ok (.goto 4, 3) := dk_167 0 4 (dk_at dksX7_first_2 4 rfl rfl)
theorem dX7_first_55 : decode cX7_first 55 = .ok (.iconst 0, 1) := dk_3 (dk_at dksX7_first_2 7 rfl rfl)
theorem dX7_first_56 : decode cX7_first 56 = .ok (.iastore, 1) := dk_79 (dk_at dksX7_first_2 8 rfl rfl)
theorem dX7_first_57 : decode cX7_first 57 = .ok (.aload_n 0, 1) := dk_42 (dk_at dksX7_first_2 9 rfl rfl)
theorem dX7_first_58 : decode cX7_first 58 = .ok (.bipush 59, 2) := dk_16 59 (dk_at dksX7_first_2 10 rfl rfl)
theorem dX7_first_60 : decode cX7_first 60 = .ok (.invokevirtual 194, 3) := dk_182 0 194 (dk_at dksX7_first_2 12 rfl rfl)
theorem dX7_first_63 : decode cX7_first 63 = .ok (.ireturn, 1) := dk_172 (dk_at dksX7_first_2 15 rfl rfl)
abbrev cX7_wantWord : ByteArray := prog_16_method_31_code
def yX7_wantWord : MethodName := ⟨RX7, "wantWord", "(Ljava/lang/String;I)Z"⟩
def dkwX7_wantWord_0 : List UInt8 := [42, 43, 182, 0, 166, 28, 159, 0, 9, 42, 5, 182, 0, 163, 172, 42, 182, 0, 157, 4, 172]
abbrev dktX7_wantWord_0 : List UInt8 := dkwX7_wantWord_0 ++ []
theorem dksX7_wantWord_0 : cX7_wantWord.data.toList.drop 0 = dktX7_wantWord_0 := by decide +kernel
theorem dX7_wantWord_0 : decode cX7_wantWord 0 = .ok (.aload_n 0, 1) := dk_42 (dk_at dksX7_wantWord_0 0 rfl rfl)
theorem dX7_wantWord_1 : decode cX7_wantWord 1 = .ok (.aload_n 1, 1) := dk_43 (dk_at dksX7_wantWord_0 1 rfl rfl)
theorem dX7_wantWord_2 : decode cX7_wantWord 2 = .ok (.invokevirtual 166, 3) := dk_182 0 166 (dk_at dksX7_wantWord_0 2 rfl rfl)
theorem dX7_wantWord_5 : decode cX7_wantWord 5 = .ok (.iload_n 2, 1) := dk_28 (dk_at dksX7_wantWord_0 5 rfl rfl)
theorem dX7_wantWord_6 : decode cX7_wantWord 6 = .ok (.if_icmp .eq 9, 3) := dk_159 0 9 (dk_at dksX7_wantWord_0 6 rfl rfl)
theorem dX7_wantWord_9 : decode cX7_wantWord 9 = .ok (.aload_n 0, 1) := dk_42 (dk_at dksX7_wantWord_0 9 rfl rfl)
theorem dX7_wantWord_10 : decode cX7_wantWord 10 = .ok (.iconst 2, 1) := dk_5 (dk_at dksX7_wantWord_0 10 rfl rfl)
theorem dX7_wantWord_11 : decode cX7_wantWord 11 = .ok (.invokevirtual 163, 3) := dk_182 0 163 (dk_at dksX7_wantWord_0 11 rfl rfl)
theorem dX7_wantWord_14 : decode cX7_wantWord 14 = .ok (.ireturn, 1) := dk_172 (dk_at dksX7_wantWord_0 14 rfl rfl)
theorem dX7_wantWord_15 : decode cX7_wantWord 15 = .ok (.aload_n 0, 1) := dk_42 (dk_at dksX7_wantWord_0 15 rfl rfl)
theorem dX7_wantWord_16 : decode cX7_wantWord 16 = .ok (.invokevirtual 157, 3) := dk_182 0 157 (dk_at dksX7_wantWord_0 16 rfl rfl)
theorem dX7_wantWord_19 : decode cX7_wantWord 19 = .ok (.iconst 1, 1) := dk_4 (dk_at dksX7_wantWord_0 19 rfl rfl)
theorem dX7_wantWord_20 : decode cX7_wantWord 20 = .ok (.ireturn, 1) := dk_172 (dk_at dksX7_wantWord_0 20 rfl rfl)
abbrev cX7_inWords : ByteArray := prog_16_method_27_code
def yX7_inWords : MethodName := ⟨RX7, "inWords", "(Ljava/lang/String;)I"⟩
def dkwX7_inWords_5 : List UInt8 := [153, 0, 5, 28, 172, 132, 2, 1, 21, 4, 4, 96, 62, 167, 255, 140, 2, 172]
abbrev dktX7_inWords_5 : List UInt8 := dkwX7_inWords_5 ++ []
def dkwX7_inWords_4 : List UInt8 := [29, 100, 182, 0, 117, 160, 0, 7, 4, 167, 0, 4, 3, 54, 5, 132, 6, 1, 167, 255, 212, 21, 5]
abbrev dktX7_inWords_4 : List UInt8 := dkwX7_inWords_4 ++ dktX7_inWords_5
def dkwX7_inWords_3 : List UInt8 := [21, 4, 162, 0, 43, 21, 5, 153, 0, 38, 43, 21, 6, 182, 0, 147, 42, 42, 180, 0, 120, 21, 6, 96]
abbrev dktX7_inWords_3 : List UInt8 := dkwX7_inWords_3 ++ dktX7_inWords_4
def dkwX7_inWords_2 : List UInt8 := [180, 0, 114, 42, 180, 0, 120, 100, 160, 0, 7, 4, 167, 0, 4, 3, 54, 5, 29, 54, 6, 21, 6]
abbrev dktX7_inWords_2 : List UInt8 := dkwX7_inWords_2 ++ dktX7_inWords_3
def dkwX7_inWords_1 : List UInt8 := [54, 4, 43, 21, 4, 182, 0, 147, 16, 32, 159, 0, 9, 132, 4, 1, 167, 255, 242, 21, 4, 29, 100, 42]
abbrev dktX7_inWords_1 : List UInt8 := dkwX7_inWords_1 ++ dktX7_inWords_2
def dkwX7_inWords_0 : List UInt8 := [42, 180, 0, 126, 5, 159, 0, 5, 2, 172, 3, 61, 4, 62, 29, 43, 182, 0, 141, 162, 0, 114, 29]
abbrev dktX7_inWords_0 : List UInt8 := dkwX7_inWords_0 ++ dktX7_inWords_1
theorem dksX7_inWords_0 : cX7_inWords.data.toList.drop 0 = dktX7_inWords_0 := by decide +kernel
theorem dksX7_inWords_1 : cX7_inWords.data.toList.drop 23 = dktX7_inWords_1 := dk_seg dksX7_inWords_0 23 rfl rfl
theorem dksX7_inWords_2 : cX7_inWords.data.toList.drop 47 = dktX7_inWords_2 := dk_seg dksX7_inWords_1 24 rfl rfl
theorem dksX7_inWords_3 : cX7_inWords.data.toList.drop 70 = dktX7_inWords_3 := dk_seg dksX7_inWords_2 23 rfl rfl
theorem dksX7_inWords_4 : cX7_inWords.data.toList.drop 94 = dktX7_inWords_4 := dk_seg dksX7_inWords_3 24 rfl rfl
theorem dksX7_inWords_5 : cX7_inWords.data.toList.drop 117 = dktX7_inWords_5 := dk_seg dksX7_inWords_4 23 rfl rfl
theorem dX7_inWords_0 : decode cX7_inWords 0 = .ok (.aload_n 0, 1) := dk_42 (dk_at dksX7_inWords_0 0 rfl rfl)
theorem dX7_inWords_1 : decode cX7_inWords 1 = .ok (.getfield 126, 3) := dk_180 0 126 (dk_at dksX7_inWords_0 1 rfl rfl)
theorem dX7_inWords_4 : decode cX7_inWords 4 = .ok (.iconst 2, 1) := dk_5 (dk_at dksX7_inWords_0 4 rfl rfl)
theorem dX7_inWords_5 : decode cX7_inWords 5 = .ok (.if_icmp .eq 5, 3) := dk_159 0 5 (dk_at dksX7_inWords_0 5 rfl rfl)
theorem dX7_inWords_8 : decode cX7_inWords 8 = .ok (.iconst (-1), 1) := dk_2 (dk_at dksX7_inWords_0 8 rfl rfl)
theorem dX7_inWords_9 : decode cX7_inWords 9 = .ok (.ireturn, 1) := dk_172 (dk_at dksX7_inWords_0 9 rfl rfl)
theorem dX7_inWords_10 : decode cX7_inWords 10 = .ok (.iconst 0, 1) := dk_3 (dk_at dksX7_inWords_0 10 rfl rfl)
theorem dX7_inWords_11 : decode cX7_inWords 11 = .ok (.istore_n 2, 1) := dk_61 (dk_at dksX7_inWords_0 11 rfl rfl)
theorem dX7_inWords_12 : decode cX7_inWords 12 = .ok (.iconst 1, 1) := dk_4 (dk_at dksX7_inWords_0 12 rfl rfl)
theorem dX7_inWords_13 : decode cX7_inWords 13 = .ok (.istore_n 3, 1) := dk_62 (dk_at dksX7_inWords_0 13 rfl rfl)
theorem dX7_inWords_14 : decode cX7_inWords 14 = .ok (.iload_n 3, 1) := dk_29 (dk_at dksX7_inWords_0 14 rfl rfl)
theorem dX7_inWords_15 : decode cX7_inWords 15 = .ok (.aload_n 1, 1) := dk_43 (dk_at dksX7_inWords_0 15 rfl rfl)
theorem dX7_inWords_16 : decode cX7_inWords 16 = .ok (.invokevirtual 141, 3) := dk_182 0 141 (dk_at dksX7_inWords_0 16 rfl rfl)
theorem dX7_inWords_19 : decode cX7_inWords 19 = .ok (.if_icmp .ge 114, 3) := dk_162 0 114 (dk_at dksX7_inWords_0 19 rfl rfl)
theorem dX7_inWords_22 : decode cX7_inWords 22 = .ok (.iload_n 3, 1) := dk_29 (dk_at dksX7_inWords_0 22 rfl rfl)
theorem dX7_inWords_23 : decode cX7_inWords 23 = .ok (.istore 4, 2) := dk_54 4 (dk_at dksX7_inWords_1 0 rfl rfl)
theorem dX7_inWords_25 : decode cX7_inWords 25 = .ok (.aload_n 1, 1) := dk_43 (dk_at dksX7_inWords_1 2 rfl rfl)
theorem dX7_inWords_26 : decode cX7_inWords 26 = .ok (.iload 4, 2) := dk_21 4 (dk_at dksX7_inWords_1 3 rfl rfl)
theorem dX7_inWords_28 : decode cX7_inWords 28 = .ok (.invokevirtual 147, 3) := dk_182 0 147 (dk_at dksX7_inWords_1 5 rfl rfl)
theorem dX7_inWords_31 : decode cX7_inWords 31 = .ok (.bipush 32, 2) := dk_16 32 (dk_at dksX7_inWords_1 8 rfl rfl)
theorem dX7_inWords_33 : decode cX7_inWords 33 = .ok (.if_icmp .eq 9, 3) := dk_159 0 9 (dk_at dksX7_inWords_1 10 rfl rfl)
theorem dX7_inWords_36 : decode cX7_inWords 36 = .ok (.iinc 4 1, 3) := dk_132 4 1 (dk_at dksX7_inWords_1 13 rfl rfl)
theorem dX7_inWords_39 : decode cX7_inWords 39 = .ok (.goto (-14), 3) := dk_167 255 242 (dk_at dksX7_inWords_1 16 rfl rfl)
theorem dX7_inWords_42 : decode cX7_inWords 42 = .ok (.iload 4, 2) := dk_21 4 (dk_at dksX7_inWords_1 19 rfl rfl)
theorem dX7_inWords_44 : decode cX7_inWords 44 = .ok (.iload_n 3, 1) := dk_29 (dk_at dksX7_inWords_1 21 rfl rfl)
theorem dX7_inWords_45 : decode cX7_inWords 45 = .ok (.isub, 1) := dk_100 (dk_at dksX7_inWords_1 22 rfl rfl)
theorem dX7_inWords_46 : decode cX7_inWords 46 = .ok (.aload_n 0, 1) := dk_42 (dk_at dksX7_inWords_1 23 rfl rfl)
theorem dX7_inWords_47 : decode cX7_inWords 47 = .ok (.getfield 114, 3) := dk_180 0 114 (dk_at dksX7_inWords_2 0 rfl rfl)
theorem dX7_inWords_50 : decode cX7_inWords 50 = .ok (.aload_n 0, 1) := dk_42 (dk_at dksX7_inWords_2 3 rfl rfl)
theorem dX7_inWords_51 : decode cX7_inWords 51 = .ok (.getfield 120, 3) := dk_180 0 120 (dk_at dksX7_inWords_2 4 rfl rfl)
theorem dX7_inWords_54 : decode cX7_inWords 54 = .ok (.isub, 1) := dk_100 (dk_at dksX7_inWords_2 7 rfl rfl)
theorem dX7_inWords_55 : decode cX7_inWords 55 = .ok (.if_icmp .ne 7, 3) := dk_160 0 7 (dk_at dksX7_inWords_2 8 rfl rfl)
theorem dX7_inWords_58 : decode cX7_inWords 58 = .ok (.iconst 1, 1) := dk_4 (dk_at dksX7_inWords_2 11 rfl rfl)
theorem dX7_inWords_59 : decode cX7_inWords 59 = .ok (.goto 4, 3) := dk_167 0 4 (dk_at dksX7_inWords_2 12 rfl rfl)
theorem dX7_inWords_62 : decode cX7_inWords 62 = .ok (.iconst 0, 1) := dk_3 (dk_at dksX7_inWords_2 15 rfl rfl)
theorem dX7_inWords_63 : decode cX7_inWords 63 = .ok (.istore 5, 2) := dk_54 5 (dk_at dksX7_inWords_2 16 rfl rfl)
theorem dX7_inWords_65 : decode cX7_inWords 65 = .ok (.iload_n 3, 1) := dk_29 (dk_at dksX7_inWords_2 18 rfl rfl)
theorem dX7_inWords_66 : decode cX7_inWords 66 = .ok (.istore 6, 2) := dk_54 6 (dk_at dksX7_inWords_2 19 rfl rfl)
theorem dX7_inWords_68 : decode cX7_inWords 68 = .ok (.iload 6, 2) := dk_21 6 (dk_at dksX7_inWords_2 21 rfl rfl)
theorem dX7_inWords_70 : decode cX7_inWords 70 = .ok (.iload 4, 2) := dk_21 4 (dk_at dksX7_inWords_3 0 rfl rfl)
theorem dX7_inWords_72 : decode cX7_inWords 72 = .ok (.if_icmp .ge 43, 3) := dk_162 0 43 (dk_at dksX7_inWords_3 2 rfl rfl)
theorem dX7_inWords_75 : decode cX7_inWords 75 = .ok (.iload 5, 2) := dk_21 5 (dk_at dksX7_inWords_3 5 rfl rfl)
theorem dX7_inWords_77 : decode cX7_inWords 77 = .ok (.ifCond .eq 38, 3) := dk_153 0 38 (dk_at dksX7_inWords_3 7 rfl rfl)
theorem dX7_inWords_80 : decode cX7_inWords 80 = .ok (.aload_n 1, 1) := dk_43 (dk_at dksX7_inWords_3 10 rfl rfl)
theorem dX7_inWords_81 : decode cX7_inWords 81 = .ok (.iload 6, 2) := dk_21 6 (dk_at dksX7_inWords_3 11 rfl rfl)
theorem dX7_inWords_83 : decode cX7_inWords 83 = .ok (.invokevirtual 147, 3) := dk_182 0 147 (dk_at dksX7_inWords_3 13 rfl rfl)
theorem dX7_inWords_86 : decode cX7_inWords 86 = .ok (.aload_n 0, 1) := dk_42 (dk_at dksX7_inWords_3 16 rfl rfl)
theorem dX7_inWords_87 : decode cX7_inWords 87 = .ok (.aload_n 0, 1) := dk_42 (dk_at dksX7_inWords_3 17 rfl rfl)
theorem dX7_inWords_88 : decode cX7_inWords 88 = .ok (.getfield 120, 3) := dk_180 0 120 (dk_at dksX7_inWords_3 18 rfl rfl)
theorem dX7_inWords_91 : decode cX7_inWords 91 = .ok (.iload 6, 2) := dk_21 6 (dk_at dksX7_inWords_3 21 rfl rfl)
theorem dX7_inWords_93 : decode cX7_inWords 93 = .ok (.iadd, 1) := dk_96 (dk_at dksX7_inWords_3 23 rfl rfl)
theorem dX7_inWords_94 : decode cX7_inWords 94 = .ok (.iload_n 3, 1) := dk_29 (dk_at dksX7_inWords_4 0 rfl rfl)
theorem dX7_inWords_95 : decode cX7_inWords 95 = .ok (.isub, 1) := dk_100 (dk_at dksX7_inWords_4 1 rfl rfl)
theorem dX7_inWords_96 : decode cX7_inWords 96 = .ok (.invokevirtual 117, 3) := dk_182 0 117 (dk_at dksX7_inWords_4 2 rfl rfl)
theorem dX7_inWords_99 : decode cX7_inWords 99 = .ok (.if_icmp .ne 7, 3) := dk_160 0 7 (dk_at dksX7_inWords_4 5 rfl rfl)
theorem dX7_inWords_102 : decode cX7_inWords 102 = .ok (.iconst 1, 1) := dk_4 (dk_at dksX7_inWords_4 8 rfl rfl)
theorem dX7_inWords_103 : decode cX7_inWords 103 = .ok (.goto 4, 3) := dk_167 0 4 (dk_at dksX7_inWords_4 9 rfl rfl)
theorem dX7_inWords_106 : decode cX7_inWords 106 = .ok (.iconst 0, 1) := dk_3 (dk_at dksX7_inWords_4 12 rfl rfl)
theorem dX7_inWords_107 : decode cX7_inWords 107 = .ok (.istore 5, 2) := dk_54 5 (dk_at dksX7_inWords_4 13 rfl rfl)
theorem dX7_inWords_109 : decode cX7_inWords 109 = .ok (.iinc 6 1, 3) := dk_132 6 1 (dk_at dksX7_inWords_4 15 rfl rfl)
theorem dX7_inWords_112 : decode cX7_inWords 112 = .ok (.goto (-44), 3) := dk_167 255 212 (dk_at dksX7_inWords_4 18 rfl rfl)
theorem dX7_inWords_115 : decode cX7_inWords 115 = .ok (.iload 5, 2) := dk_21 5 (dk_at dksX7_inWords_4 21 rfl rfl)
theorem dX7_inWords_117 : decode cX7_inWords 117 = .ok (.ifCond .eq 5, 3) := dk_153 0 5 (dk_at dksX7_inWords_5 0 rfl rfl)
theorem dX7_inWords_120 : decode cX7_inWords 120 = .ok (.iload_n 2, 1) := dk_28 (dk_at dksX7_inWords_5 3 rfl rfl)
theorem dX7_inWords_121 : decode cX7_inWords 121 = .ok (.ireturn, 1) := dk_172 (dk_at dksX7_inWords_5 4 rfl rfl)
theorem dX7_inWords_122 : decode cX7_inWords 122 = .ok (.iinc 2 1, 3) := dk_132 2 1 (dk_at dksX7_inWords_5 5 rfl rfl)
theorem dX7_inWords_125 : decode cX7_inWords 125 = .ok (.iload 4, 2) := dk_21 4 (dk_at dksX7_inWords_5 8 rfl rfl)
theorem dX7_inWords_127 : decode cX7_inWords 127 = .ok (.iconst 1, 1) := dk_4 (dk_at dksX7_inWords_5 10 rfl rfl)
theorem dX7_inWords_128 : decode cX7_inWords 128 = .ok (.iadd, 1) := dk_96 (dk_at dksX7_inWords_5 11 rfl rfl)
theorem dX7_inWords_129 : decode cX7_inWords 129 = .ok (.istore_n 3, 1) := dk_62 (dk_at dksX7_inWords_5 12 rfl rfl)
theorem dX7_inWords_130 : decode cX7_inWords 130 = .ok (.goto (-116), 3) := dk_167 255 140 (dk_at dksX7_inWords_5 13 rfl rfl)
theorem dX7_inWords_133 : decode cX7_inWords 133 = .ok (.iconst (-1), 1) := dk_2 (dk_at dksX7_inWords_5 16 rfl rfl)
theorem dX7_inWords_134 : decode cX7_inWords 134 = .ok (.ireturn, 1) := dk_172 (dk_at dksX7_inWords_5 17 rfl rfl)
abbrev cX7_fails : ByteArray := prog_16_method_28_code
def yX7_fails : MethodName := ⟨RX7, "fails", "(I)Z"⟩
def dkwX7_fails_1 : List UInt8 := [42, 42, 180, 0, 120, 181, 0, 41, 3, 172]
abbrev dktX7_fails_1 : List UInt8 := dkwX7_fails_1 ++ []
def dkwX7_fails_0 : List UInt8 := [42, 180, 0, 151, 154, 0, 28, 42, 42, 180, 0, 126, 4, 160, 0, 7, 4, 167, 0, 4, 27, 181, 0, 151]
abbrev dktX7_fails_0 : List UInt8 := dkwX7_fails_0 ++ dktX7_fails_1
theorem dksX7_fails_0 : cX7_fails.data.toList.drop 0 = dktX7_fails_0 := by decide +kernel
theorem dksX7_fails_1 : cX7_fails.data.toList.drop 24 = dktX7_fails_1 := dk_seg dksX7_fails_0 24 rfl rfl
theorem dX7_fails_0 : decode cX7_fails 0 = .ok (.aload_n 0, 1) := dk_42 (dk_at dksX7_fails_0 0 rfl rfl)
theorem dX7_fails_1 : decode cX7_fails 1 = .ok (.getfield 151, 3) := dk_180 0 151 (dk_at dksX7_fails_0 1 rfl rfl)
theorem dX7_fails_4 : decode cX7_fails 4 = .ok (.ifCond .ne 28, 3) := dk_154 0 28 (dk_at dksX7_fails_0 4 rfl rfl)
theorem dX7_fails_7 : decode cX7_fails 7 = .ok (.aload_n 0, 1) := dk_42 (dk_at dksX7_fails_0 7 rfl rfl)
theorem dX7_fails_8 : decode cX7_fails 8 = .ok (.aload_n 0, 1) := dk_42 (dk_at dksX7_fails_0 8 rfl rfl)
theorem dX7_fails_9 : decode cX7_fails 9 = .ok (.getfield 126, 3) := dk_180 0 126 (dk_at dksX7_fails_0 9 rfl rfl)
theorem dX7_fails_12 : decode cX7_fails 12 = .ok (.iconst 1, 1) := dk_4 (dk_at dksX7_fails_0 12 rfl rfl)
theorem dX7_fails_13 : decode cX7_fails 13 = .ok (.if_icmp .ne 7, 3) := dk_160 0 7 (dk_at dksX7_fails_0 13 rfl rfl)
theorem dX7_fails_16 : decode cX7_fails 16 = .ok (.iconst 1, 1) := dk_4 (dk_at dksX7_fails_0 16 rfl rfl)
theorem dX7_fails_17 : decode cX7_fails 17 = .ok (.goto 4, 3) := dk_167 0 4 (dk_at dksX7_fails_0 17 rfl rfl)
theorem dX7_fails_20 : decode cX7_fails 20 = .ok (.iload_n 1, 1) := dk_27 (dk_at dksX7_fails_0 20 rfl rfl)
theorem dX7_fails_21 : decode cX7_fails 21 = .ok (.putfield 151, 3) := dk_181 0 151 (dk_at dksX7_fails_0 21 rfl rfl)
theorem dX7_fails_24 : decode cX7_fails 24 = .ok (.aload_n 0, 1) := dk_42 (dk_at dksX7_fails_1 0 rfl rfl)
theorem dX7_fails_25 : decode cX7_fails 25 = .ok (.aload_n 0, 1) := dk_42 (dk_at dksX7_fails_1 1 rfl rfl)
theorem dX7_fails_26 : decode cX7_fails 26 = .ok (.getfield 120, 3) := dk_180 0 120 (dk_at dksX7_fails_1 2 rfl rfl)
theorem dX7_fails_29 : decode cX7_fails 29 = .ok (.putfield 41, 3) := dk_181 0 41 (dk_at dksX7_fails_1 5 rfl rfl)
theorem dX7_fails_32 : decode cX7_fails 32 = .ok (.iconst 0, 1) := dk_3 (dk_at dksX7_fails_1 8 rfl rfl)
theorem dX7_fails_33 : decode cX7_fails 33 = .ok (.ireturn, 1) := dk_172 (dk_at dksX7_fails_1 9 rfl rfl)
abbrev cX7_number : ByteArray := prog_16_method_32_code
def yX7_number : MethodName := ⟨RX7, "number", "(III)Z"⟩
def dkwX7_number_2 : List UInt8 := [182, 0, 157, 4, 172]
abbrev dktX7_number_2 : List UInt8 := dkwX7_number_2 ++ []
def dkwX7_number_1 : List UInt8 := [180, 0, 123, 29, 164, 0, 9, 42, 7, 182, 0, 163, 172, 42, 180, 0, 7, 27, 42, 180, 0, 123, 79, 42]
abbrev dktX7_number_1 : List UInt8 := dkwX7_number_1 ++ dktX7_number_2
def dkwX7_number_0 : List UInt8 := [42, 180, 0, 126, 6, 159, 0, 9, 42, 5, 182, 0, 163, 172, 42, 180, 0, 123, 28, 161, 0, 11, 42]
abbrev dktX7_number_0 : List UInt8 := dkwX7_number_0 ++ dktX7_number_1
theorem dksX7_number_0 : cX7_number.data.toList.drop 0 = dktX7_number_0 := by decide +kernel
theorem dksX7_number_1 : cX7_number.data.toList.drop 23 = dktX7_number_1 := dk_seg dksX7_number_0 23 rfl rfl
theorem dksX7_number_2 : cX7_number.data.toList.drop 47 = dktX7_number_2 := dk_seg dksX7_number_1 24 rfl rfl
theorem dX7_number_0 : decode cX7_number 0 = .ok (.aload_n 0, 1) := dk_42 (dk_at dksX7_number_0 0 rfl rfl)
theorem dX7_number_1 : decode cX7_number 1 = .ok (.getfield 126, 3) := dk_180 0 126 (dk_at dksX7_number_0 1 rfl rfl)
theorem dX7_number_4 : decode cX7_number 4 = .ok (.iconst 3, 1) := dk_6 (dk_at dksX7_number_0 4 rfl rfl)
theorem dX7_number_5 : decode cX7_number 5 = .ok (.if_icmp .eq 9, 3) := dk_159 0 9 (dk_at dksX7_number_0 5 rfl rfl)
theorem dX7_number_8 : decode cX7_number 8 = .ok (.aload_n 0, 1) := dk_42 (dk_at dksX7_number_0 8 rfl rfl)
theorem dX7_number_9 : decode cX7_number 9 = .ok (.iconst 2, 1) := dk_5 (dk_at dksX7_number_0 9 rfl rfl)
theorem dX7_number_10 : decode cX7_number 10 = .ok (.invokevirtual 163, 3) := dk_182 0 163 (dk_at dksX7_number_0 10 rfl rfl)
theorem dX7_number_13 : decode cX7_number 13 = .ok (.ireturn, 1) := dk_172 (dk_at dksX7_number_0 13 rfl rfl)
theorem dX7_number_14 : decode cX7_number 14 = .ok (.aload_n 0, 1) := dk_42 (dk_at dksX7_number_0 14 rfl rfl)
theorem dX7_number_15 : decode cX7_number 15 = .ok (.getfield 123, 3) := dk_180 0 123 (dk_at dksX7_number_0 15 rfl rfl)
theorem dX7_number_18 : decode cX7_number 18 = .ok (.iload_n 2, 1) := dk_28 (dk_at dksX7_number_0 18 rfl rfl)
theorem dX7_number_19 : decode cX7_number 19 = .ok (.if_icmp .lt 11, 3) := dk_161 0 11 (dk_at dksX7_number_0 19 rfl rfl)
theorem dX7_number_22 : decode cX7_number 22 = .ok (.aload_n 0, 1) := dk_42 (dk_at dksX7_number_0 22 rfl rfl)
theorem dX7_number_23 : decode cX7_number 23 = .ok (.getfield 123, 3) := dk_180 0 123 (dk_at dksX7_number_1 0 rfl rfl)
theorem dX7_number_26 : decode cX7_number 26 = .ok (.iload_n 3, 1) := dk_29 (dk_at dksX7_number_1 3 rfl rfl)
theorem dX7_number_27 : decode cX7_number 27 = .ok (.if_icmp .le 9, 3) := dk_164 0 9 (dk_at dksX7_number_1 4 rfl rfl)
theorem dX7_number_30 : decode cX7_number 30 = .ok (.aload_n 0, 1) := dk_42 (dk_at dksX7_number_1 7 rfl rfl)
theorem dX7_number_31 : decode cX7_number 31 = .ok (.iconst 4, 1) := dk_7 (dk_at dksX7_number_1 8 rfl rfl)
theorem dX7_number_32 : decode cX7_number 32 = .ok (.invokevirtual 163, 3) := dk_182 0 163 (dk_at dksX7_number_1 9 rfl rfl)
theorem dX7_number_35 : decode cX7_number 35 = .ok (.ireturn, 1) := dk_172 (dk_at dksX7_number_1 12 rfl rfl)
theorem dX7_number_36 : decode cX7_number 36 = .ok (.aload_n 0, 1) := dk_42 (dk_at dksX7_number_1 13 rfl rfl)
theorem dX7_number_37 : decode cX7_number 37 = .ok (.getfield 7, 3) := dk_180 0 7 (dk_at dksX7_number_1 14 rfl rfl)
theorem dX7_number_40 : decode cX7_number 40 = .ok (.iload_n 1, 1) := dk_27 (dk_at dksX7_number_1 17 rfl rfl)
theorem dX7_number_41 : decode cX7_number 41 = .ok (.aload_n 0, 1) := dk_42 (dk_at dksX7_number_1 18 rfl rfl)
theorem dX7_number_42 : decode cX7_number 42 = .ok (.getfield 123, 3) := dk_180 0 123 (dk_at dksX7_number_1 19 rfl rfl)
theorem dX7_number_45 : decode cX7_number 45 = .ok (.iastore, 1) := dk_79 (dk_at dksX7_number_1 22 rfl rfl)
theorem dX7_number_46 : decode cX7_number 46 = .ok (.aload_n 0, 1) := dk_42 (dk_at dksX7_number_1 23 rfl rfl)
theorem dX7_number_47 : decode cX7_number 47 = .ok (.invokevirtual 157, 3) := dk_182 0 157 (dk_at dksX7_number_2 0 rfl rfl)
theorem dX7_number_50 : decode cX7_number 50 = .ok (.iconst 1, 1) := dk_4 (dk_at dksX7_number_2 3 rfl rfl)
theorem dX7_number_51 : decode cX7_number 51 = .ok (.ireturn, 1) := dk_172 (dk_at dksX7_number_2 4 rfl rfl)
abbrev cX7_isThere : ByteArray := prog_16_method_39_code
def yX7_isThere : MethodName := ⟨RX7, "isThere", "(I)Z"⟩
def dkwX7_isThere_0 : List UInt8 := [42, 18, 174, 182, 0, 166, 27, 159, 0, 5, 3, 172, 42, 182, 0, 157, 4, 172]
abbrev dktX7_isThere_0 : List UInt8 := dkwX7_isThere_0 ++ []
theorem dksX7_isThere_0 : cX7_isThere.data.toList.drop 0 = dktX7_isThere_0 := by decide +kernel
theorem dX7_isThere_0 : decode cX7_isThere 0 = .ok (.aload_n 0, 1) := dk_42 (dk_at dksX7_isThere_0 0 rfl rfl)
theorem dX7_isThere_1 : decode cX7_isThere 1 = .ok (.ldc 174, 2) := dk_18 174 (dk_at dksX7_isThere_0 1 rfl rfl)
theorem dX7_isThere_3 : decode cX7_isThere 3 = .ok (.invokevirtual 166, 3) := dk_182 0 166 (dk_at dksX7_isThere_0 3 rfl rfl)
theorem dX7_isThere_6 : decode cX7_isThere 6 = .ok (.iload_n 1, 1) := dk_27 (dk_at dksX7_isThere_0 6 rfl rfl)
theorem dX7_isThere_7 : decode cX7_isThere 7 = .ok (.if_icmp .eq 5, 3) := dk_159 0 5 (dk_at dksX7_isThere_0 7 rfl rfl)
theorem dX7_isThere_10 : decode cX7_isThere 10 = .ok (.iconst 0, 1) := dk_3 (dk_at dksX7_isThere_0 10 rfl rfl)
theorem dX7_isThere_11 : decode cX7_isThere 11 = .ok (.ireturn, 1) := dk_172 (dk_at dksX7_isThere_0 11 rfl rfl)
theorem dX7_isThere_12 : decode cX7_isThere 12 = .ok (.aload_n 0, 1) := dk_42 (dk_at dksX7_isThere_0 12 rfl rfl)
theorem dX7_isThere_13 : decode cX7_isThere 13 = .ok (.invokevirtual 157, 3) := dk_182 0 157 (dk_at dksX7_isThere_0 13 rfl rfl)
theorem dX7_isThere_16 : decode cX7_isThere 16 = .ok (.iconst 1, 1) := dk_4 (dk_at dksX7_isThere_0 16 rfl rfl)
theorem dX7_isThere_17 : decode cX7_isThere 17 = .ok (.ireturn, 1) := dk_172 (dk_at dksX7_isThere_0 17 rfl rfl)
abbrev cX7_wantSign : ByteArray := prog_16_method_30_code
def yX7_wantSign : MethodName := ⟨RX7, "wantSign", "(I)Z"⟩
def dkwX7_wantSign_0 : List UInt8 := [42, 27, 182, 0, 160, 154, 0, 9, 42, 5, 182, 0, 163, 172, 42, 182, 0, 157, 4, 172]
abbrev dktX7_wantSign_0 : List UInt8 := dkwX7_wantSign_0 ++ []
theorem dksX7_wantSign_0 : cX7_wantSign.data.toList.drop 0 = dktX7_wantSign_0 := by decide +kernel
theorem dX7_wantSign_0 : decode cX7_wantSign 0 = .ok (.aload_n 0, 1) := dk_42 (dk_at dksX7_wantSign_0 0 rfl rfl)
theorem dX7_wantSign_1 : decode cX7_wantSign 1 = .ok (.iload_n 1, 1) := dk_27 (dk_at dksX7_wantSign_0 1 rfl rfl)
theorem dX7_wantSign_2 : decode cX7_wantSign 2 = .ok (.invokevirtual 160, 3) := dk_182 0 160 (dk_at dksX7_wantSign_0 2 rfl rfl)
theorem dX7_wantSign_5 : decode cX7_wantSign 5 = .ok (.ifCond .ne 9, 3) := dk_154 0 9 (dk_at dksX7_wantSign_0 5 rfl rfl)
theorem dX7_wantSign_8 : decode cX7_wantSign 8 = .ok (.aload_n 0, 1) := dk_42 (dk_at dksX7_wantSign_0 8 rfl rfl)
theorem dX7_wantSign_9 : decode cX7_wantSign 9 = .ok (.iconst 2, 1) := dk_5 (dk_at dksX7_wantSign_0 9 rfl rfl)
theorem dX7_wantSign_10 : decode cX7_wantSign 10 = .ok (.invokevirtual 163, 3) := dk_182 0 163 (dk_at dksX7_wantSign_0 10 rfl rfl)
theorem dX7_wantSign_13 : decode cX7_wantSign 13 = .ok (.ireturn, 1) := dk_172 (dk_at dksX7_wantSign_0 13 rfl rfl)
theorem dX7_wantSign_14 : decode cX7_wantSign 14 = .ok (.aload_n 0, 1) := dk_42 (dk_at dksX7_wantSign_0 14 rfl rfl)
theorem dX7_wantSign_15 : decode cX7_wantSign 15 = .ok (.invokevirtual 157, 3) := dk_182 0 157 (dk_at dksX7_wantSign_0 15 rfl rfl)
theorem dX7_wantSign_18 : decode cX7_wantSign 18 = .ok (.iconst 1, 1) := dk_4 (dk_at dksX7_wantSign_0 18 rfl rfl)
theorem dX7_wantSign_19 : decode cX7_wantSign 19 = .ok (.ireturn, 1) := dk_172 (dk_at dksX7_wantSign_0 19 rfl rfl)
abbrev cX7_isSign : ByteArray := prog_16_method_26_code
def yX7_isSign : MethodName := ⟨RX7, "isSign", "(I)Z"⟩
def dkwX7_isSign_0 : List UInt8 := [42, 180, 0, 126, 7, 160, 0, 15, 42, 180, 0, 123, 27, 160, 0, 7, 4, 167, 0, 4, 3, 172]
abbrev dktX7_isSign_0 : List UInt8 := dkwX7_isSign_0 ++ []
theorem dksX7_isSign_0 : cX7_isSign.data.toList.drop 0 = dktX7_isSign_0 := by decide +kernel
theorem dX7_isSign_0 : decode cX7_isSign 0 = .ok (.aload_n 0, 1) := dk_42 (dk_at dksX7_isSign_0 0 rfl rfl)
theorem dX7_isSign_1 : decode cX7_isSign 1 = .ok (.getfield 126, 3) := dk_180 0 126 (dk_at dksX7_isSign_0 1 rfl rfl)
theorem dX7_isSign_4 : decode cX7_isSign 4 = .ok (.iconst 4, 1) := dk_7 (dk_at dksX7_isSign_0 4 rfl rfl)
theorem dX7_isSign_5 : decode cX7_isSign 5 = .ok (.if_icmp .ne 15, 3) := dk_160 0 15 (dk_at dksX7_isSign_0 5 rfl rfl)
theorem dX7_isSign_8 : decode cX7_isSign 8 = .ok (.aload_n 0, 1) := dk_42 (dk_at dksX7_isSign_0 8 rfl rfl)
theorem dX7_isSign_9 : decode cX7_isSign 9 = .ok (.getfield 123, 3) := dk_180 0 123 (dk_at dksX7_isSign_0 9 rfl rfl)
theorem dX7_isSign_12 : decode cX7_isSign 12 = .ok (.iload_n 1, 1) := dk_27 (dk_at dksX7_isSign_0 12 rfl rfl)
theorem dX7_isSign_13 : decode cX7_isSign 13 = .ok (.if_icmp .ne 7, 3) := dk_160 0 7 (dk_at dksX7_isSign_0 13 rfl rfl)
theorem dX7_isSign_16 : decode cX7_isSign 16 = .ok (.iconst 1, 1) := dk_4 (dk_at dksX7_isSign_0 16 rfl rfl)
theorem dX7_isSign_17 : decode cX7_isSign 17 = .ok (.goto 4, 3) := dk_167 0 4 (dk_at dksX7_isSign_0 17 rfl rfl)
theorem dX7_isSign_20 : decode cX7_isSign 20 = .ok (.iconst 0, 1) := dk_3 (dk_at dksX7_isSign_0 20 rfl rfl)
theorem dX7_isSign_21 : decode cX7_isSign 21 = .ok (.ireturn, 1) := dk_172 (dk_at dksX7_isSign_0 21 rfl rfl)
abbrev cX7_aRow : ByteArray := prog_16_method_43_code
def yX7_aRow : MethodName := ⟨RX7, "aRow", "()Z"⟩
def dkwX7_aRow_9 : List UInt8 := [180, 0, 7, 17, 6, 105, 92, 46, 4, 96, 79, 42, 182, 0, 157, 42, 16, 59, 182, 0, 194, 172]
abbrev dktX7_aRow_9 : List UInt8 := dkwX7_aRow_9 ++ []
def dkwX7_aRow_8 : List UInt8 := [16, 120, 160, 0, 15, 42, 180, 0, 7, 17, 6, 108, 92, 46, 28, 128, 79, 132, 1, 1, 167, 255, 146, 42]
abbrev dktX7_aRow_8 : List UInt8 := dkwX7_aRow_8 ++ dktX7_aRow_9
def dkwX7_aRow_7 : List UInt8 := [16, 119, 160, 0, 15, 42, 180, 0, 7, 17, 6, 107, 92, 46, 28, 128, 79, 29, 16, 119, 159, 0, 9, 29]
abbrev dktX7_aRow_7 : List UInt8 := dkwX7_aRow_7 ++ dktX7_aRow_8
def dkwX7_aRow_6 : List UInt8 := [16, 110, 159, 0, 15, 42, 180, 0, 7, 17, 6, 106, 92, 46, 28, 128, 79, 29, 16, 108, 159, 0, 9, 29]
abbrev dktX7_aRow_6 : List UInt8 := dkwX7_aRow_6 ++ dktX7_aRow_7
def dkwX7_aRow_5 : List UInt8 := [180, 0, 7, 17, 6, 105, 46, 104, 27, 96, 42, 180, 0, 120, 100, 120, 61, 42, 27, 182, 0, 117, 62, 29]
abbrev dktX7_aRow_5 : List UInt8 := dkwX7_aRow_5 ++ dktX7_aRow_6
def dkwX7_aRow_4 : List UInt8 := [180, 0, 120, 60, 27, 42, 180, 0, 114, 162, 0, 108, 4, 42, 180, 0, 7, 17, 6, 104, 46, 42]
abbrev dktX7_aRow_4 : List UInt8 := dkwX7_aRow_4 ++ dktX7_aRow_5
def dkwX7_aRow_3 : List UInt8 := [27, 182, 0, 117, 184, 0, 197, 154, 0, 9, 42, 5, 182, 0, 163, 172, 132, 1, 1, 167, 255, 228, 42]
abbrev dktX7_aRow_3 : List UInt8 := dkwX7_aRow_3 ++ dktX7_aRow_4
def dkwX7_aRow_2 : List UInt8 := [46, 159, 0, 9, 42, 5, 182, 0, 163, 172, 42, 180, 0, 120, 60, 27, 42, 180, 0, 114, 162, 0, 26, 42]
abbrev dktX7_aRow_2 : List UInt8 := dkwX7_aRow_2 ++ dktX7_aRow_3
def dkwX7_aRow_1 : List UInt8 := [42, 180, 0, 126, 5, 160, 0, 23, 42, 180, 0, 114, 42, 180, 0, 120, 100, 42, 180, 0, 7, 17, 6, 104]
abbrev dktX7_aRow_1 : List UInt8 := dkwX7_aRow_1 ++ dktX7_aRow_2
def dkwX7_aRow_0 : List UInt8 := [42, 180, 0, 7, 17, 6, 105, 46, 16, 6, 160, 0, 10, 42, 16, 6, 182, 0, 163, 172, 42, 182, 0, 157]
abbrev dktX7_aRow_0 : List UInt8 := dkwX7_aRow_0 ++ dktX7_aRow_1
theorem dksX7_aRow_0 : cX7_aRow.data.toList.drop 0 = dktX7_aRow_0 := by decide +kernel
theorem dksX7_aRow_1 : cX7_aRow.data.toList.drop 24 = dktX7_aRow_1 := dk_seg dksX7_aRow_0 24 rfl rfl
theorem dksX7_aRow_2 : cX7_aRow.data.toList.drop 48 = dktX7_aRow_2 := dk_seg dksX7_aRow_1 24 rfl rfl
theorem dksX7_aRow_3 : cX7_aRow.data.toList.drop 72 = dktX7_aRow_3 := dk_seg dksX7_aRow_2 24 rfl rfl
theorem dksX7_aRow_4 : cX7_aRow.data.toList.drop 95 = dktX7_aRow_4 := dk_seg dksX7_aRow_3 23 rfl rfl
theorem dksX7_aRow_5 : cX7_aRow.data.toList.drop 117 = dktX7_aRow_5 := dk_seg dksX7_aRow_4 22 rfl rfl
theorem dksX7_aRow_6 : cX7_aRow.data.toList.drop 141 = dktX7_aRow_6 := dk_seg dksX7_aRow_5 24 rfl rfl
theorem dksX7_aRow_7 : cX7_aRow.data.toList.drop 165 = dktX7_aRow_7 := dk_seg dksX7_aRow_6 24 rfl rfl
theorem dksX7_aRow_8 : cX7_aRow.data.toList.drop 189 = dktX7_aRow_8 := dk_seg dksX7_aRow_7 24 rfl rfl
theorem dksX7_aRow_9 : cX7_aRow.data.toList.drop 213 = dktX7_aRow_9 := dk_seg dksX7_aRow_8 24 rfl rfl
theorem dX7_aRow_0 : decode cX7_aRow 0 = .ok (.aload_n 0, 1) := dk_42 (dk_at dksX7_aRow_0 0 rfl rfl)
theorem dX7_aRow_1 : decode cX7_aRow 1 = .ok (.getfield 7, 3) := dk_180 0 7 (dk_at dksX7_aRow_0 1 rfl rfl)
theorem dX7_aRow_4 : decode cX7_aRow 4 = .ok (.sipush 1641, 3) := dk_17 6 105 (dk_at dksX7_aRow_0 4 rfl rfl)
theorem dX7_aRow_7 : decode cX7_aRow 7 = .ok (.iaload, 1) := dk_46 (dk_at dksX7_aRow_0 7 rfl rfl)
theorem dX7_aRow_8 : decode cX7_aRow 8 = .ok (.bipush 6, 2) := dk_16 6 (dk_at dksX7_aRow_0 8 rfl rfl)
theorem dX7_aRow_10 : decode cX7_aRow 10 = .ok (.if_icmp .ne 10, 3) := dk_160 0 10 (dk_at dksX7_aRow_0 10 rfl rfl)
theorem dX7_aRow_13 : decode cX7_aRow 13 = .ok (.aload_n 0, 1) := dk_42 (dk_at dksX7_aRow_0 13 rfl rfl)
theorem dX7_aRow_14 : decode cX7_aRow 14 = .ok (.bipush 6, 2) := dk_16 6 (dk_at dksX7_aRow_0 14 rfl rfl)
theorem dX7_aRow_16 : decode cX7_aRow 16 = .ok (.invokevirtual 163, 3) := dk_182 0 163 (dk_at dksX7_aRow_0 16 rfl rfl)
theorem dX7_aRow_19 : decode cX7_aRow 19 = .ok (.ireturn, 1) := dk_172 (dk_at dksX7_aRow_0 19 rfl rfl)
theorem dX7_aRow_20 : decode cX7_aRow 20 = .ok (.aload_n 0, 1) := dk_42 (dk_at dksX7_aRow_0 20 rfl rfl)
theorem dX7_aRow_21 : decode cX7_aRow 21 = .ok (.invokevirtual 157, 3) := dk_182 0 157 (dk_at dksX7_aRow_0 21 rfl rfl)
theorem dX7_aRow_24 : decode cX7_aRow 24 = .ok (.aload_n 0, 1) := dk_42 (dk_at dksX7_aRow_1 0 rfl rfl)
theorem dX7_aRow_25 : decode cX7_aRow 25 = .ok (.getfield 126, 3) := dk_180 0 126 (dk_at dksX7_aRow_1 1 rfl rfl)
theorem dX7_aRow_28 : decode cX7_aRow 28 = .ok (.iconst 2, 1) := dk_5 (dk_at dksX7_aRow_1 4 rfl rfl)
theorem dX7_aRow_29 : decode cX7_aRow 29 = .ok (.if_icmp .ne 23, 3) := dk_160 0 23 (dk_at dksX7_aRow_1 5 rfl rfl)
theorem dX7_aRow_32 : decode cX7_aRow 32 = .ok (.aload_n 0, 1) := dk_42 (dk_at dksX7_aRow_1 8 rfl rfl)
theorem dX7_aRow_33 : decode cX7_aRow 33 = .ok (.getfield 114, 3) := dk_180 0 114 (dk_at dksX7_aRow_1 9 rfl rfl)
theorem dX7_aRow_36 : decode cX7_aRow 36 = .ok (.aload_n 0, 1) := dk_42 (dk_at dksX7_aRow_1 12 rfl rfl)
theorem dX7_aRow_37 : decode cX7_aRow 37 = .ok (.getfield 120, 3) := dk_180 0 120 (dk_at dksX7_aRow_1 13 rfl rfl)
theorem dX7_aRow_40 : decode cX7_aRow 40 = .ok (.isub, 1) := dk_100 (dk_at dksX7_aRow_1 16 rfl rfl)
theorem dX7_aRow_41 : decode cX7_aRow 41 = .ok (.aload_n 0, 1) := dk_42 (dk_at dksX7_aRow_1 17 rfl rfl)
theorem dX7_aRow_42 : decode cX7_aRow 42 = .ok (.getfield 7, 3) := dk_180 0 7 (dk_at dksX7_aRow_1 18 rfl rfl)
theorem dX7_aRow_45 : decode cX7_aRow 45 = .ok (.sipush 1640, 3) := dk_17 6 104 (dk_at dksX7_aRow_1 21 rfl rfl)
theorem dX7_aRow_48 : decode cX7_aRow 48 = .ok (.iaload, 1) := dk_46 (dk_at dksX7_aRow_2 0 rfl rfl)
theorem dX7_aRow_49 : decode cX7_aRow 49 = .ok (.if_icmp .eq 9, 3) := dk_159 0 9 (dk_at dksX7_aRow_2 1 rfl rfl)
theorem dX7_aRow_52 : decode cX7_aRow 52 = .ok (.aload_n 0, 1) := dk_42 (dk_at dksX7_aRow_2 4 rfl rfl)
theorem dX7_aRow_53 : decode cX7_aRow 53 = .ok (.iconst 2, 1) := dk_5 (dk_at dksX7_aRow_2 5 rfl rfl)
theorem dX7_aRow_54 : decode cX7_aRow 54 = .ok (.invokevirtual 163, 3) := dk_182 0 163 (dk_at dksX7_aRow_2 6 rfl rfl)
theorem dX7_aRow_57 : decode cX7_aRow 57 = .ok (.ireturn, 1) := dk_172 (dk_at dksX7_aRow_2 9 rfl rfl)
theorem dX7_aRow_58 : decode cX7_aRow 58 = .ok (.aload_n 0, 1) := dk_42 (dk_at dksX7_aRow_2 10 rfl rfl)
theorem dX7_aRow_59 : decode cX7_aRow 59 = .ok (.getfield 120, 3) := dk_180 0 120 (dk_at dksX7_aRow_2 11 rfl rfl)
theorem dX7_aRow_62 : decode cX7_aRow 62 = .ok (.istore_n 1, 1) := dk_60 (dk_at dksX7_aRow_2 14 rfl rfl)
theorem dX7_aRow_63 : decode cX7_aRow 63 = .ok (.iload_n 1, 1) := dk_27 (dk_at dksX7_aRow_2 15 rfl rfl)
theorem dX7_aRow_64 : decode cX7_aRow 64 = .ok (.aload_n 0, 1) := dk_42 (dk_at dksX7_aRow_2 16 rfl rfl)
theorem dX7_aRow_65 : decode cX7_aRow 65 = .ok (.getfield 114, 3) := dk_180 0 114 (dk_at dksX7_aRow_2 17 rfl rfl)
theorem dX7_aRow_68 : decode cX7_aRow 68 = .ok (.if_icmp .ge 26, 3) := dk_162 0 26 (dk_at dksX7_aRow_2 20 rfl rfl)
theorem dX7_aRow_71 : decode cX7_aRow 71 = .ok (.aload_n 0, 1) := dk_42 (dk_at dksX7_aRow_2 23 rfl rfl)
theorem dX7_aRow_72 : decode cX7_aRow 72 = .ok (.iload_n 1, 1) := dk_27 (dk_at dksX7_aRow_3 0 rfl rfl)
theorem dX7_aRow_73 : decode cX7_aRow 73 = .ok (.invokevirtual 117, 3) := dk_182 0 117 (dk_at dksX7_aRow_3 1 rfl rfl)
theorem dX7_aRow_76 : decode cX7_aRow 76 = .ok (.invokestatic 197, 3) := dk_184 0 197 (dk_at dksX7_aRow_3 4 rfl rfl)
theorem dX7_aRow_79 : decode cX7_aRow 79 = .ok (.ifCond .ne 9, 3) := dk_154 0 9 (dk_at dksX7_aRow_3 7 rfl rfl)
theorem dX7_aRow_82 : decode cX7_aRow 82 = .ok (.aload_n 0, 1) := dk_42 (dk_at dksX7_aRow_3 10 rfl rfl)
theorem dX7_aRow_83 : decode cX7_aRow 83 = .ok (.iconst 2, 1) := dk_5 (dk_at dksX7_aRow_3 11 rfl rfl)
theorem dX7_aRow_84 : decode cX7_aRow 84 = .ok (.invokevirtual 163, 3) := dk_182 0 163 (dk_at dksX7_aRow_3 12 rfl rfl)
theorem dX7_aRow_87 : decode cX7_aRow 87 = .ok (.ireturn, 1) := dk_172 (dk_at dksX7_aRow_3 15 rfl rfl)
theorem dX7_aRow_88 : decode cX7_aRow 88 = .ok (.iinc 1 1, 3) := dk_132 1 1 (dk_at dksX7_aRow_3 16 rfl rfl)
theorem dX7_aRow_91 : decode cX7_aRow 91 = .ok (.goto (-28), 3) := dk_167 255 228 (dk_at dksX7_aRow_3 19 rfl rfl)
theorem dX7_aRow_94 : decode cX7_aRow 94 = .ok (.aload_n 0, 1) := dk_42 (dk_at dksX7_aRow_3 22 rfl rfl)
theorem dX7_aRow_95 : decode cX7_aRow 95 = .ok (.getfield 120, 3) := dk_180 0 120 (dk_at dksX7_aRow_4 0 rfl rfl)
theorem dX7_aRow_98 : decode cX7_aRow 98 = .ok (.istore_n 1, 1) := dk_60 (dk_at dksX7_aRow_4 3 rfl rfl)
theorem dX7_aRow_99 : decode cX7_aRow 99 = .ok (.iload_n 1, 1) := dk_27 (dk_at dksX7_aRow_4 4 rfl rfl)
theorem dX7_aRow_100 : decode cX7_aRow 100 = .ok (.aload_n 0, 1) := dk_42 (dk_at dksX7_aRow_4 5 rfl rfl)
theorem dX7_aRow_101 : decode cX7_aRow 101 = .ok (.getfield 114, 3) := dk_180 0 114 (dk_at dksX7_aRow_4 6 rfl rfl)
theorem dX7_aRow_104 : decode cX7_aRow 104 = .ok (.if_icmp .ge 108, 3) := dk_162 0 108 (dk_at dksX7_aRow_4 9 rfl rfl)
theorem dX7_aRow_107 : decode cX7_aRow 107 = .ok (.iconst 1, 1) := dk_4 (dk_at dksX7_aRow_4 12 rfl rfl)
theorem dX7_aRow_108 : decode cX7_aRow 108 = .ok (.aload_n 0, 1) := dk_42 (dk_at dksX7_aRow_4 13 rfl rfl)
theorem dX7_aRow_109 : decode cX7_aRow 109 = .ok (.getfield 7, 3) := dk_180 0 7 (dk_at dksX7_aRow_4 14 rfl rfl)
theorem dX7_aRow_112 : decode cX7_aRow 112 = .ok (.sipush 1640, 3) := dk_17 6 104 (dk_at dksX7_aRow_4 17 rfl rfl)
theorem dX7_aRow_115 : decode cX7_aRow 115 = .ok (.iaload, 1) := dk_46 (dk_at dksX7_aRow_4 20 rfl rfl)
theorem dX7_aRow_116 : decode cX7_aRow 116 = .ok (.aload_n 0, 1) := dk_42 (dk_at dksX7_aRow_4 21 rfl rfl)
theorem dX7_aRow_117 : decode cX7_aRow 117 = .ok (.getfield 7, 3) := dk_180 0 7 (dk_at dksX7_aRow_5 0 rfl rfl)
theorem dX7_aRow_120 : decode cX7_aRow 120 = .ok (.sipush 1641, 3) := dk_17 6 105 (dk_at dksX7_aRow_5 3 rfl rfl)
theorem dX7_aRow_123 : decode cX7_aRow 123 = .ok (.iaload, 1) := dk_46 (dk_at dksX7_aRow_5 6 rfl rfl)
theorem dX7_aRow_124 : decode cX7_aRow 124 = .ok (.imul, 1) := dk_104 (dk_at dksX7_aRow_5 7 rfl rfl)
theorem dX7_aRow_125 : decode cX7_aRow 125 = .ok (.iload_n 1, 1) := dk_27 (dk_at dksX7_aRow_5 8 rfl rfl)
theorem dX7_aRow_126 : decode cX7_aRow 126 = .ok (.iadd, 1) := dk_96 (dk_at dksX7_aRow_5 9 rfl rfl)
theorem dX7_aRow_127 : decode cX7_aRow 127 = .ok (.aload_n 0, 1) := dk_42 (dk_at dksX7_aRow_5 10 rfl rfl)
theorem dX7_aRow_128 : decode cX7_aRow 128 = .ok (.getfield 120, 3) := dk_180 0 120 (dk_at dksX7_aRow_5 11 rfl rfl)
theorem dX7_aRow_131 : decode cX7_aRow 131 = .ok (.isub, 1) := dk_100 (dk_at dksX7_aRow_5 14 rfl rfl)
theorem dX7_aRow_132 : decode cX7_aRow 132 = .ok (.ishl, 1) := dk_120 (dk_at dksX7_aRow_5 15 rfl rfl)
theorem dX7_aRow_133 : decode cX7_aRow 133 = .ok (.istore_n 2, 1) := dk_61 (dk_at dksX7_aRow_5 16 rfl rfl)
theorem dX7_aRow_134 : decode cX7_aRow 134 = .ok (.aload_n 0, 1) := dk_42 (dk_at dksX7_aRow_5 17 rfl rfl)
theorem dX7_aRow_135 : decode cX7_aRow 135 = .ok (.iload_n 1, 1) := dk_27 (dk_at dksX7_aRow_5 18 rfl rfl)
theorem dX7_aRow_136 : decode cX7_aRow 136 = .ok (.invokevirtual 117, 3) := dk_182 0 117 (dk_at dksX7_aRow_5 19 rfl rfl)
theorem dX7_aRow_139 : decode cX7_aRow 139 = .ok (.istore_n 3, 1) := dk_62 (dk_at dksX7_aRow_5 22 rfl rfl)
theorem dX7_aRow_140 : decode cX7_aRow 140 = .ok (.iload_n 3, 1) := dk_29 (dk_at dksX7_aRow_5 23 rfl rfl)
theorem dX7_aRow_141 : decode cX7_aRow 141 = .ok (.bipush 110, 2) := dk_16 110 (dk_at dksX7_aRow_6 0 rfl rfl)
theorem dX7_aRow_143 : decode cX7_aRow 143 = .ok (.if_icmp .eq 15, 3) := dk_159 0 15 (dk_at dksX7_aRow_6 2 rfl rfl)
theorem dX7_aRow_146 : decode cX7_aRow 146 = .ok (.aload_n 0, 1) := dk_42 (dk_at dksX7_aRow_6 5 rfl rfl)
theorem dX7_aRow_147 : decode cX7_aRow 147 = .ok (.getfield 7, 3) := dk_180 0 7 (dk_at dksX7_aRow_6 6 rfl rfl)
theorem dX7_aRow_150 : decode cX7_aRow 150 = .ok (.sipush 1642, 3) := dk_17 6 106 (dk_at dksX7_aRow_6 9 rfl rfl)
theorem dX7_aRow_153 : decode cX7_aRow 153 = .ok (.dup2, 1) := dk_92 (dk_at dksX7_aRow_6 12 rfl rfl)
theorem dX7_aRow_154 : decode cX7_aRow 154 = .ok (.iaload, 1) := dk_46 (dk_at dksX7_aRow_6 13 rfl rfl)
theorem dX7_aRow_155 : decode cX7_aRow 155 = .ok (.iload_n 2, 1) := dk_28 (dk_at dksX7_aRow_6 14 rfl rfl)
theorem dX7_aRow_156 : decode cX7_aRow 156 = .ok (.ior, 1) := dk_128 (dk_at dksX7_aRow_6 15 rfl rfl)
theorem dX7_aRow_157 : decode cX7_aRow 157 = .ok (.iastore, 1) := dk_79 (dk_at dksX7_aRow_6 16 rfl rfl)
theorem dX7_aRow_158 : decode cX7_aRow 158 = .ok (.iload_n 3, 1) := dk_29 (dk_at dksX7_aRow_6 17 rfl rfl)
theorem dX7_aRow_159 : decode cX7_aRow 159 = .ok (.bipush 108, 2) := dk_16 108 (dk_at dksX7_aRow_6 18 rfl rfl)
theorem dX7_aRow_161 : decode cX7_aRow 161 = .ok (.if_icmp .eq 9, 3) := dk_159 0 9 (dk_at dksX7_aRow_6 20 rfl rfl)
theorem dX7_aRow_164 : decode cX7_aRow 164 = .ok (.iload_n 3, 1) := dk_29 (dk_at dksX7_aRow_6 23 rfl rfl)
theorem dX7_aRow_165 : decode cX7_aRow 165 = .ok (.bipush 119, 2) := dk_16 119 (dk_at dksX7_aRow_7 0 rfl rfl)
theorem dX7_aRow_167 : decode cX7_aRow 167 = .ok (.if_icmp .ne 15, 3) := dk_160 0 15 (dk_at dksX7_aRow_7 2 rfl rfl)
theorem dX7_aRow_170 : decode cX7_aRow 170 = .ok (.aload_n 0, 1) := dk_42 (dk_at dksX7_aRow_7 5 rfl rfl)
theorem dX7_aRow_171 : decode cX7_aRow 171 = .ok (.getfield 7, 3) := dk_180 0 7 (dk_at dksX7_aRow_7 6 rfl rfl)
theorem dX7_aRow_174 : decode cX7_aRow 174 = .ok (.sipush 1643, 3) := dk_17 6 107 (dk_at dksX7_aRow_7 9 rfl rfl)
theorem dX7_aRow_177 : decode cX7_aRow 177 = .ok (.dup2, 1) := dk_92 (dk_at dksX7_aRow_7 12 rfl rfl)
theorem dX7_aRow_178 : decode cX7_aRow 178 = .ok (.iaload, 1) := dk_46 (dk_at dksX7_aRow_7 13 rfl rfl)
theorem dX7_aRow_179 : decode cX7_aRow 179 = .ok (.iload_n 2, 1) := dk_28 (dk_at dksX7_aRow_7 14 rfl rfl)
theorem dX7_aRow_180 : decode cX7_aRow 180 = .ok (.ior, 1) := dk_128 (dk_at dksX7_aRow_7 15 rfl rfl)
theorem dX7_aRow_181 : decode cX7_aRow 181 = .ok (.iastore, 1) := dk_79 (dk_at dksX7_aRow_7 16 rfl rfl)
theorem dX7_aRow_182 : decode cX7_aRow 182 = .ok (.iload_n 3, 1) := dk_29 (dk_at dksX7_aRow_7 17 rfl rfl)
theorem dX7_aRow_183 : decode cX7_aRow 183 = .ok (.bipush 119, 2) := dk_16 119 (dk_at dksX7_aRow_7 18 rfl rfl)
theorem dX7_aRow_185 : decode cX7_aRow 185 = .ok (.if_icmp .eq 9, 3) := dk_159 0 9 (dk_at dksX7_aRow_7 20 rfl rfl)
theorem dX7_aRow_188 : decode cX7_aRow 188 = .ok (.iload_n 3, 1) := dk_29 (dk_at dksX7_aRow_7 23 rfl rfl)
theorem dX7_aRow_189 : decode cX7_aRow 189 = .ok (.bipush 120, 2) := dk_16 120 (dk_at dksX7_aRow_8 0 rfl rfl)
theorem dX7_aRow_191 : decode cX7_aRow 191 = .ok (.if_icmp .ne 15, 3) := dk_160 0 15 (dk_at dksX7_aRow_8 2 rfl rfl)
theorem dX7_aRow_194 : decode cX7_aRow 194 = .ok (.aload_n 0, 1) := dk_42 (dk_at dksX7_aRow_8 5 rfl rfl)
theorem dX7_aRow_195 : decode cX7_aRow 195 = .ok (.getfield 7, 3) := dk_180 0 7 (dk_at dksX7_aRow_8 6 rfl rfl)
theorem dX7_aRow_198 : decode cX7_aRow 198 = .ok (.sipush 1644, 3) := dk_17 6 108 (dk_at dksX7_aRow_8 9 rfl rfl)
theorem dX7_aRow_201 : decode cX7_aRow 201 = .ok (.dup2, 1) := dk_92 (dk_at dksX7_aRow_8 12 rfl rfl)
theorem dX7_aRow_202 : decode cX7_aRow 202 = .ok (.iaload, 1) := dk_46 (dk_at dksX7_aRow_8 13 rfl rfl)
theorem dX7_aRow_203 : decode cX7_aRow 203 = .ok (.iload_n 2, 1) := dk_28 (dk_at dksX7_aRow_8 14 rfl rfl)
theorem dX7_aRow_204 : decode cX7_aRow 204 = .ok (.ior, 1) := dk_128 (dk_at dksX7_aRow_8 15 rfl rfl)
theorem dX7_aRow_205 : decode cX7_aRow 205 = .ok (.iastore, 1) := dk_79 (dk_at dksX7_aRow_8 16 rfl rfl)
theorem dX7_aRow_206 : decode cX7_aRow 206 = .ok (.iinc 1 1, 3) := dk_132 1 1 (dk_at dksX7_aRow_8 17 rfl rfl)
theorem dX7_aRow_209 : decode cX7_aRow 209 = .ok (.goto (-110), 3) := dk_167 255 146 (dk_at dksX7_aRow_8 20 rfl rfl)
theorem dX7_aRow_212 : decode cX7_aRow 212 = .ok (.aload_n 0, 1) := dk_42 (dk_at dksX7_aRow_8 23 rfl rfl)
theorem dX7_aRow_213 : decode cX7_aRow 213 = .ok (.getfield 7, 3) := dk_180 0 7 (dk_at dksX7_aRow_9 0 rfl rfl)
theorem dX7_aRow_216 : decode cX7_aRow 216 = .ok (.sipush 1641, 3) := dk_17 6 105 (dk_at dksX7_aRow_9 3 rfl rfl)
theorem dX7_aRow_219 : decode cX7_aRow 219 = .ok (.dup2, 1) := dk_92 (dk_at dksX7_aRow_9 6 rfl rfl)
theorem dX7_aRow_220 : decode cX7_aRow 220 = .ok (.iaload, 1) := dk_46 (dk_at dksX7_aRow_9 7 rfl rfl)
theorem dX7_aRow_221 : decode cX7_aRow 221 = .ok (.iconst 1, 1) := dk_4 (dk_at dksX7_aRow_9 8 rfl rfl)
theorem dX7_aRow_222 : decode cX7_aRow 222 = .ok (.iadd, 1) := dk_96 (dk_at dksX7_aRow_9 9 rfl rfl)
theorem dX7_aRow_223 : decode cX7_aRow 223 = .ok (.iastore, 1) := dk_79 (dk_at dksX7_aRow_9 10 rfl rfl)
theorem dX7_aRow_224 : decode cX7_aRow 224 = .ok (.aload_n 0, 1) := dk_42 (dk_at dksX7_aRow_9 11 rfl rfl)
theorem dX7_aRow_225 : decode cX7_aRow 225 = .ok (.invokevirtual 157, 3) := dk_182 0 157 (dk_at dksX7_aRow_9 12 rfl rfl)
theorem dX7_aRow_228 : decode cX7_aRow 228 = .ok (.aload_n 0, 1) := dk_42 (dk_at dksX7_aRow_9 15 rfl rfl)
theorem dX7_aRow_229 : decode cX7_aRow 229 = .ok (.bipush 59, 2) := dk_16 59 (dk_at dksX7_aRow_9 16 rfl rfl)
theorem dX7_aRow_231 : decode cX7_aRow 231 = .ok (.invokevirtual 194, 3) := dk_182 0 194 (dk_at dksX7_aRow_9 18 rfl rfl)
theorem dX7_aRow_234 : decode cX7_aRow 234 = .ok (.ireturn, 1) := dk_172 (dk_at dksX7_aRow_9 21 rfl rfl)
abbrev cX7_isLamp : ByteArray := prog_16_method_42_code
def yX7_isLamp : MethodName := ⟨RX7, "isLamp", "(I)Z"⟩
def dkwX7_isLamp_1 : List UInt8 := [26, 16, 120, 160, 0, 7, 4, 167, 0, 4, 3, 172]
abbrev dktX7_isLamp_1 : List UInt8 := dkwX7_isLamp_1 ++ []
def dkwX7_isLamp_0 : List UInt8 := [26, 16, 100, 159, 0, 27, 26, 16, 108, 159, 0, 21, 26, 16, 110, 159, 0, 15, 26, 16, 119, 159, 0, 9]
abbrev dktX7_isLamp_0 : List UInt8 := dkwX7_isLamp_0 ++ dktX7_isLamp_1
theorem dksX7_isLamp_0 : cX7_isLamp.data.toList.drop 0 = dktX7_isLamp_0 := by decide +kernel
theorem dksX7_isLamp_1 : cX7_isLamp.data.toList.drop 24 = dktX7_isLamp_1 := dk_seg dksX7_isLamp_0 24 rfl rfl
theorem dX7_isLamp_0 : decode cX7_isLamp 0 = .ok (.iload_n 0, 1) := dk_26 (dk_at dksX7_isLamp_0 0 rfl rfl)
theorem dX7_isLamp_1 : decode cX7_isLamp 1 = .ok (.bipush 100, 2) := dk_16 100 (dk_at dksX7_isLamp_0 1 rfl rfl)
theorem dX7_isLamp_3 : decode cX7_isLamp 3 = .ok (.if_icmp .eq 27, 3) := dk_159 0 27 (dk_at dksX7_isLamp_0 3 rfl rfl)
theorem dX7_isLamp_6 : decode cX7_isLamp 6 = .ok (.iload_n 0, 1) := dk_26 (dk_at dksX7_isLamp_0 6 rfl rfl)
theorem dX7_isLamp_7 : decode cX7_isLamp 7 = .ok (.bipush 108, 2) := dk_16 108 (dk_at dksX7_isLamp_0 7 rfl rfl)
theorem dX7_isLamp_9 : decode cX7_isLamp 9 = .ok (.if_icmp .eq 21, 3) := dk_159 0 21 (dk_at dksX7_isLamp_0 9 rfl rfl)
theorem dX7_isLamp_12 : decode cX7_isLamp 12 = .ok (.iload_n 0, 1) := dk_26 (dk_at dksX7_isLamp_0 12 rfl rfl)
theorem dX7_isLamp_13 : decode cX7_isLamp 13 = .ok (.bipush 110, 2) := dk_16 110 (dk_at dksX7_isLamp_0 13 rfl rfl)
theorem dX7_isLamp_15 : decode cX7_isLamp 15 = .ok (.if_icmp .eq 15, 3) := dk_159 0 15 (dk_at dksX7_isLamp_0 15 rfl rfl)
theorem dX7_isLamp_18 : decode cX7_isLamp 18 = .ok (.iload_n 0, 1) := dk_26 (dk_at dksX7_isLamp_0 18 rfl rfl)
theorem dX7_isLamp_19 : decode cX7_isLamp 19 = .ok (.bipush 119, 2) := dk_16 119 (dk_at dksX7_isLamp_0 19 rfl rfl)
theorem dX7_isLamp_21 : decode cX7_isLamp 21 = .ok (.if_icmp .eq 9, 3) := dk_159 0 9 (dk_at dksX7_isLamp_0 21 rfl rfl)
theorem dX7_isLamp_24 : decode cX7_isLamp 24 = .ok (.iload_n 0, 1) := dk_26 (dk_at dksX7_isLamp_1 0 rfl rfl)
theorem dX7_isLamp_25 : decode cX7_isLamp 25 = .ok (.bipush 120, 2) := dk_16 120 (dk_at dksX7_isLamp_1 1 rfl rfl)
theorem dX7_isLamp_27 : decode cX7_isLamp 27 = .ok (.if_icmp .ne 7, 3) := dk_160 0 7 (dk_at dksX7_isLamp_1 3 rfl rfl)
theorem dX7_isLamp_30 : decode cX7_isLamp 30 = .ok (.iconst 1, 1) := dk_4 (dk_at dksX7_isLamp_1 6 rfl rfl)
theorem dX7_isLamp_31 : decode cX7_isLamp 31 = .ok (.goto 4, 3) := dk_167 0 4 (dk_at dksX7_isLamp_1 7 rfl rfl)
theorem dX7_isLamp_34 : decode cX7_isLamp 34 = .ok (.iconst 0, 1) := dk_3 (dk_at dksX7_isLamp_1 10 rfl rfl)
theorem dX7_isLamp_35 : decode cX7_isLamp 35 = .ok (.ireturn, 1) := dk_172 (dk_at dksX7_isLamp_1 11 rfl rfl)
abbrev cX7_townPart : ByteArray := prog_16_method_47_code
def yX7_townPart : MethodName := ⟨RX7, "townPart", "()Z"⟩
def dkwX7_townPart_2 : List UInt8 := [182, 0, 194, 153, 0, 7, 4, 167, 0, 4, 3, 172]
abbrev dktX7_townPart_2 : List UInt8 := dkwX7_townPart_2 ++ []
def dkwX7_townPart_1 : List UInt8 := [5, 160, 0, 13, 42, 182, 0, 206, 153, 0, 26, 167, 0, 10, 42, 182, 0, 210, 153, 0, 16, 42, 16, 59]
abbrev dktX7_townPart_1 : List UInt8 := dkwX7_townPart_1 ++ dktX7_townPart_2
def dkwX7_townPart_0 : List UInt8 := [42, 18, 174, 182, 0, 166, 60, 27, 5, 159, 0, 14, 27, 6, 159, 0, 9, 42, 5, 182, 0, 163, 172, 27]
abbrev dktX7_townPart_0 : List UInt8 := dkwX7_townPart_0 ++ dktX7_townPart_1
theorem dksX7_townPart_0 : cX7_townPart.data.toList.drop 0 = dktX7_townPart_0 := by decide +kernel
theorem dksX7_townPart_1 : cX7_townPart.data.toList.drop 24 = dktX7_townPart_1 := dk_seg dksX7_townPart_0 24 rfl rfl
theorem dksX7_townPart_2 : cX7_townPart.data.toList.drop 48 = dktX7_townPart_2 := dk_seg dksX7_townPart_1 24 rfl rfl
theorem dX7_townPart_0 : decode cX7_townPart 0 = .ok (.aload_n 0, 1) := dk_42 (dk_at dksX7_townPart_0 0 rfl rfl)
theorem dX7_townPart_1 : decode cX7_townPart 1 = .ok (.ldc 174, 2) := dk_18 174 (dk_at dksX7_townPart_0 1 rfl rfl)
theorem dX7_townPart_3 : decode cX7_townPart 3 = .ok (.invokevirtual 166, 3) := dk_182 0 166 (dk_at dksX7_townPart_0 3 rfl rfl)
theorem dX7_townPart_6 : decode cX7_townPart 6 = .ok (.istore_n 1, 1) := dk_60 (dk_at dksX7_townPart_0 6 rfl rfl)
theorem dX7_townPart_7 : decode cX7_townPart 7 = .ok (.iload_n 1, 1) := dk_27 (dk_at dksX7_townPart_0 7 rfl rfl)
theorem dX7_townPart_8 : decode cX7_townPart 8 = .ok (.iconst 2, 1) := dk_5 (dk_at dksX7_townPart_0 8 rfl rfl)
theorem dX7_townPart_9 : decode cX7_townPart 9 = .ok (.if_icmp .eq 14, 3) := dk_159 0 14 (dk_at dksX7_townPart_0 9 rfl rfl)
theorem dX7_townPart_12 : decode cX7_townPart 12 = .ok (.iload_n 1, 1) := dk_27 (dk_at dksX7_townPart_0 12 rfl rfl)
theorem dX7_townPart_13 : decode cX7_townPart 13 = .ok (.iconst 3, 1) := dk_6 (dk_at dksX7_townPart_0 13 rfl rfl)
theorem dX7_townPart_14 : decode cX7_townPart 14 = .ok (.if_icmp .eq 9, 3) := dk_159 0 9 (dk_at dksX7_townPart_0 14 rfl rfl)
theorem dX7_townPart_17 : decode cX7_townPart 17 = .ok (.aload_n 0, 1) := dk_42 (dk_at dksX7_townPart_0 17 rfl rfl)
theorem dX7_townPart_18 : decode cX7_townPart 18 = .ok (.iconst 2, 1) := dk_5 (dk_at dksX7_townPart_0 18 rfl rfl)
theorem dX7_townPart_19 : decode cX7_townPart 19 = .ok (.invokevirtual 163, 3) := dk_182 0 163 (dk_at dksX7_townPart_0 19 rfl rfl)
theorem dX7_townPart_22 : decode cX7_townPart 22 = .ok (.ireturn, 1) := dk_172 (dk_at dksX7_townPart_0 22 rfl rfl)
theorem dX7_townPart_23 : decode cX7_townPart 23 = .ok (.iload_n 1, 1) := dk_27 (dk_at dksX7_townPart_0 23 rfl rfl)
theorem dX7_townPart_24 : decode cX7_townPart 24 = .ok (.iconst 2, 1) := dk_5 (dk_at dksX7_townPart_1 0 rfl rfl)
theorem dX7_townPart_25 : decode cX7_townPart 25 = .ok (.if_icmp .ne 13, 3) := dk_160 0 13 (dk_at dksX7_townPart_1 1 rfl rfl)
theorem dX7_townPart_28 : decode cX7_townPart 28 = .ok (.aload_n 0, 1) := dk_42 (dk_at dksX7_townPart_1 4 rfl rfl)
theorem dX7_townPart_29 : decode cX7_townPart 29 = .ok (.invokevirtual 206, 3) := dk_182 0 206 (dk_at dksX7_townPart_1 5 rfl rfl)
theorem dX7_townPart_32 : decode cX7_townPart 32 = .ok (.ifCond .eq 26, 3) := dk_153 0 26 (dk_at dksX7_townPart_1 8 rfl rfl)
theorem dX7_townPart_35 : decode cX7_townPart 35 = .ok (.goto 10, 3) := dk_167 0 10 (dk_at dksX7_townPart_1 11 rfl rfl)
theorem dX7_townPart_38 : decode cX7_townPart 38 = .ok (.aload_n 0, 1) := dk_42 (dk_at dksX7_townPart_1 14 rfl rfl)
theorem dX7_townPart_39 : decode cX7_townPart 39 = .ok (.invokevirtual 210, 3) := dk_182 0 210 (dk_at dksX7_townPart_1 15 rfl rfl)
theorem dX7_townPart_42 : decode cX7_townPart 42 = .ok (.ifCond .eq 16, 3) := dk_153 0 16 (dk_at dksX7_townPart_1 18 rfl rfl)
theorem dX7_townPart_45 : decode cX7_townPart 45 = .ok (.aload_n 0, 1) := dk_42 (dk_at dksX7_townPart_1 21 rfl rfl)
theorem dX7_townPart_46 : decode cX7_townPart 46 = .ok (.bipush 59, 2) := dk_16 59 (dk_at dksX7_townPart_1 22 rfl rfl)
theorem dX7_townPart_48 : decode cX7_townPart 48 = .ok (.invokevirtual 194, 3) := dk_182 0 194 (dk_at dksX7_townPart_2 0 rfl rfl)
theorem dX7_townPart_51 : decode cX7_townPart 51 = .ok (.ifCond .eq 7, 3) := dk_153 0 7 (dk_at dksX7_townPart_2 3 rfl rfl)
theorem dX7_townPart_54 : decode cX7_townPart 54 = .ok (.iconst 1, 1) := dk_4 (dk_at dksX7_townPart_2 6 rfl rfl)
theorem dX7_townPart_55 : decode cX7_townPart 55 = .ok (.goto 4, 3) := dk_167 0 4 (dk_at dksX7_townPart_2 7 rfl rfl)
theorem dX7_townPart_58 : decode cX7_townPart 58 = .ok (.iconst 0, 1) := dk_3 (dk_at dksX7_townPart_2 10 rfl rfl)
theorem dX7_townPart_59 : decode cX7_townPart 59 = .ok (.ireturn, 1) := dk_172 (dk_at dksX7_townPart_2 11 rfl rfl)
abbrev cX7_aRule : ByteArray := prog_16_method_45_code
def yX7_aRule : MethodName := ⟨RX7, "aRule", "()Z"⟩
def dkwX7_aRule_3 : List UInt8 := [17, 6, 109, 92, 46, 4, 96, 79, 42, 180, 0, 7, 17, 6, 114, 3, 79, 4, 172]
abbrev dktX7_aRule_3 : List UInt8 := dkwX7_aRule_3 ++ []
def dkwX7_aRule_2 : List UInt8 := [16, 6, 182, 0, 191, 153, 0, 15, 42, 27, 4, 96, 182, 0, 203, 154, 0, 5, 3, 172, 42, 180, 0, 7]
abbrev dktX7_aRule_2 : List UInt8 := dkwX7_aRule_2 ++ dktX7_aRule_3
def dkwX7_aRule_1 : List UInt8 := [154, 0, 5, 3, 172, 42, 8, 182, 0, 191, 153, 0, 13, 42, 27, 182, 0, 203, 154, 0, 5, 3, 172, 42]
abbrev dktX7_aRule_1 : List UInt8 := dkwX7_aRule_1 ++ dktX7_aRule_2
def dkwX7_aRule_0 : List UInt8 := [17, 6, 116, 5, 42, 180, 0, 7, 17, 6, 109, 46, 104, 96, 60, 42, 8, 7, 3, 182, 0, 200]
abbrev dktX7_aRule_0 : List UInt8 := dkwX7_aRule_0 ++ dktX7_aRule_1
theorem dksX7_aRule_0 : cX7_aRule.data.toList.drop 0 = dktX7_aRule_0 := by decide +kernel
theorem dksX7_aRule_1 : cX7_aRule.data.toList.drop 22 = dktX7_aRule_1 := dk_seg dksX7_aRule_0 22 rfl rfl
theorem dksX7_aRule_2 : cX7_aRule.data.toList.drop 46 = dktX7_aRule_2 := dk_seg dksX7_aRule_1 24 rfl rfl
theorem dksX7_aRule_3 : cX7_aRule.data.toList.drop 70 = dktX7_aRule_3 := dk_seg dksX7_aRule_2 24 rfl rfl
theorem dX7_aRule_0 : decode cX7_aRule 0 = .ok (.sipush 1652, 3) := dk_17 6 116 (dk_at dksX7_aRule_0 0 rfl rfl)
theorem dX7_aRule_3 : decode cX7_aRule 3 = .ok (.iconst 2, 1) := dk_5 (dk_at dksX7_aRule_0 3 rfl rfl)
theorem dX7_aRule_4 : decode cX7_aRule 4 = .ok (.aload_n 0, 1) := dk_42 (dk_at dksX7_aRule_0 4 rfl rfl)
theorem dX7_aRule_5 : decode cX7_aRule 5 = .ok (.getfield 7, 3) := dk_180 0 7 (dk_at dksX7_aRule_0 5 rfl rfl)
theorem dX7_aRule_8 : decode cX7_aRule 8 = .ok (.sipush 1645, 3) := dk_17 6 109 (dk_at dksX7_aRule_0 8 rfl rfl)
theorem dX7_aRule_11 : decode cX7_aRule 11 = .ok (.iaload, 1) := dk_46 (dk_at dksX7_aRule_0 11 rfl rfl)
theorem dX7_aRule_12 : decode cX7_aRule 12 = .ok (.imul, 1) := dk_104 (dk_at dksX7_aRule_0 12 rfl rfl)
theorem dX7_aRule_13 : decode cX7_aRule 13 = .ok (.iadd, 1) := dk_96 (dk_at dksX7_aRule_0 13 rfl rfl)
theorem dX7_aRule_14 : decode cX7_aRule 14 = .ok (.istore_n 1, 1) := dk_60 (dk_at dksX7_aRule_0 14 rfl rfl)
theorem dX7_aRule_15 : decode cX7_aRule 15 = .ok (.aload_n 0, 1) := dk_42 (dk_at dksX7_aRule_0 15 rfl rfl)
theorem dX7_aRule_16 : decode cX7_aRule 16 = .ok (.iconst 5, 1) := dk_8 (dk_at dksX7_aRule_0 16 rfl rfl)
theorem dX7_aRule_17 : decode cX7_aRule 17 = .ok (.iconst 4, 1) := dk_7 (dk_at dksX7_aRule_0 17 rfl rfl)
theorem dX7_aRule_18 : decode cX7_aRule 18 = .ok (.iconst 0, 1) := dk_3 (dk_at dksX7_aRule_0 18 rfl rfl)
theorem dX7_aRule_19 : decode cX7_aRule 19 = .ok (.invokevirtual 200, 3) := dk_182 0 200 (dk_at dksX7_aRule_0 19 rfl rfl)
theorem dX7_aRule_22 : decode cX7_aRule 22 = .ok (.ifCond .ne 5, 3) := dk_154 0 5 (dk_at dksX7_aRule_1 0 rfl rfl)
theorem dX7_aRule_25 : decode cX7_aRule 25 = .ok (.iconst 0, 1) := dk_3 (dk_at dksX7_aRule_1 3 rfl rfl)
theorem dX7_aRule_26 : decode cX7_aRule 26 = .ok (.ireturn, 1) := dk_172 (dk_at dksX7_aRule_1 4 rfl rfl)
theorem dX7_aRule_27 : decode cX7_aRule 27 = .ok (.aload_n 0, 1) := dk_42 (dk_at dksX7_aRule_1 5 rfl rfl)
theorem dX7_aRule_28 : decode cX7_aRule 28 = .ok (.iconst 5, 1) := dk_8 (dk_at dksX7_aRule_1 6 rfl rfl)
theorem dX7_aRule_29 : decode cX7_aRule 29 = .ok (.invokevirtual 191, 3) := dk_182 0 191 (dk_at dksX7_aRule_1 7 rfl rfl)
theorem dX7_aRule_32 : decode cX7_aRule 32 = .ok (.ifCond .eq 13, 3) := dk_153 0 13 (dk_at dksX7_aRule_1 10 rfl rfl)
theorem dX7_aRule_35 : decode cX7_aRule 35 = .ok (.aload_n 0, 1) := dk_42 (dk_at dksX7_aRule_1 13 rfl rfl)
theorem dX7_aRule_36 : decode cX7_aRule 36 = .ok (.iload_n 1, 1) := dk_27 (dk_at dksX7_aRule_1 14 rfl rfl)
theorem dX7_aRule_37 : decode cX7_aRule 37 = .ok (.invokevirtual 203, 3) := dk_182 0 203 (dk_at dksX7_aRule_1 15 rfl rfl)
theorem dX7_aRule_40 : decode cX7_aRule 40 = .ok (.ifCond .ne 5, 3) := dk_154 0 5 (dk_at dksX7_aRule_1 18 rfl rfl)
theorem dX7_aRule_43 : decode cX7_aRule 43 = .ok (.iconst 0, 1) := dk_3 (dk_at dksX7_aRule_1 21 rfl rfl)
theorem dX7_aRule_44 : decode cX7_aRule 44 = .ok (.ireturn, 1) := dk_172 (dk_at dksX7_aRule_1 22 rfl rfl)
theorem dX7_aRule_45 : decode cX7_aRule 45 = .ok (.aload_n 0, 1) := dk_42 (dk_at dksX7_aRule_1 23 rfl rfl)
theorem dX7_aRule_46 : decode cX7_aRule 46 = .ok (.bipush 6, 2) := dk_16 6 (dk_at dksX7_aRule_2 0 rfl rfl)
theorem dX7_aRule_48 : decode cX7_aRule 48 = .ok (.invokevirtual 191, 3) := dk_182 0 191 (dk_at dksX7_aRule_2 2 rfl rfl)
theorem dX7_aRule_51 : decode cX7_aRule 51 = .ok (.ifCond .eq 15, 3) := dk_153 0 15 (dk_at dksX7_aRule_2 5 rfl rfl)
theorem dX7_aRule_54 : decode cX7_aRule 54 = .ok (.aload_n 0, 1) := dk_42 (dk_at dksX7_aRule_2 8 rfl rfl)
theorem dX7_aRule_55 : decode cX7_aRule 55 = .ok (.iload_n 1, 1) := dk_27 (dk_at dksX7_aRule_2 9 rfl rfl)
theorem dX7_aRule_56 : decode cX7_aRule 56 = .ok (.iconst 1, 1) := dk_4 (dk_at dksX7_aRule_2 10 rfl rfl)
theorem dX7_aRule_57 : decode cX7_aRule 57 = .ok (.iadd, 1) := dk_96 (dk_at dksX7_aRule_2 11 rfl rfl)
theorem dX7_aRule_58 : decode cX7_aRule 58 = .ok (.invokevirtual 203, 3) := dk_182 0 203 (dk_at dksX7_aRule_2 12 rfl rfl)
theorem dX7_aRule_61 : decode cX7_aRule 61 = .ok (.ifCond .ne 5, 3) := dk_154 0 5 (dk_at dksX7_aRule_2 15 rfl rfl)
theorem dX7_aRule_64 : decode cX7_aRule 64 = .ok (.iconst 0, 1) := dk_3 (dk_at dksX7_aRule_2 18 rfl rfl)
theorem dX7_aRule_65 : decode cX7_aRule 65 = .ok (.ireturn, 1) := dk_172 (dk_at dksX7_aRule_2 19 rfl rfl)
theorem dX7_aRule_66 : decode cX7_aRule 66 = .ok (.aload_n 0, 1) := dk_42 (dk_at dksX7_aRule_2 20 rfl rfl)
theorem dX7_aRule_67 : decode cX7_aRule 67 = .ok (.getfield 7, 3) := dk_180 0 7 (dk_at dksX7_aRule_2 21 rfl rfl)
theorem dX7_aRule_70 : decode cX7_aRule 70 = .ok (.sipush 1645, 3) := dk_17 6 109 (dk_at dksX7_aRule_3 0 rfl rfl)
theorem dX7_aRule_73 : decode cX7_aRule 73 = .ok (.dup2, 1) := dk_92 (dk_at dksX7_aRule_3 3 rfl rfl)
theorem dX7_aRule_74 : decode cX7_aRule 74 = .ok (.iaload, 1) := dk_46 (dk_at dksX7_aRule_3 4 rfl rfl)
theorem dX7_aRule_75 : decode cX7_aRule 75 = .ok (.iconst 1, 1) := dk_4 (dk_at dksX7_aRule_3 5 rfl rfl)
theorem dX7_aRule_76 : decode cX7_aRule 76 = .ok (.iadd, 1) := dk_96 (dk_at dksX7_aRule_3 6 rfl rfl)
theorem dX7_aRule_77 : decode cX7_aRule 77 = .ok (.iastore, 1) := dk_79 (dk_at dksX7_aRule_3 7 rfl rfl)
theorem dX7_aRule_78 : decode cX7_aRule 78 = .ok (.aload_n 0, 1) := dk_42 (dk_at dksX7_aRule_3 8 rfl rfl)
theorem dX7_aRule_79 : decode cX7_aRule 79 = .ok (.getfield 7, 3) := dk_180 0 7 (dk_at dksX7_aRule_3 9 rfl rfl)
theorem dX7_aRule_82 : decode cX7_aRule 82 = .ok (.sipush 1650, 3) := dk_17 6 114 (dk_at dksX7_aRule_3 12 rfl rfl)
theorem dX7_aRule_85 : decode cX7_aRule 85 = .ok (.iconst 0, 1) := dk_3 (dk_at dksX7_aRule_3 15 rfl rfl)
theorem dX7_aRule_86 : decode cX7_aRule 86 = .ok (.iastore, 1) := dk_79 (dk_at dksX7_aRule_3 16 rfl rfl)
theorem dX7_aRule_87 : decode cX7_aRule 87 = .ok (.iconst 1, 1) := dk_4 (dk_at dksX7_aRule_3 17 rfl rfl)
theorem dX7_aRule_88 : decode cX7_aRule 88 = .ok (.ireturn, 1) := dk_172 (dk_at dksX7_aRule_3 18 rfl rfl)
abbrev cX7_newOne : ByteArray := prog_16_method_40_code
def yX7_newOne : MethodName := ⟨RX7, "newOne", "(III)Z"⟩
def dkwX7_newOne_4 : List UInt8 := [180, 0, 7, 17, 6, 104, 27, 96, 46, 96, 42, 182, 0, 170, 80, 42, 182, 0, 157, 4, 172]
abbrev dktX7_newOne_4 : List UInt8 := dkwX7_newOne_4 ++ []
def dkwX7_newOne_3 : List UInt8 := [46, 182, 0, 180, 2, 159, 0, 9, 42, 6, 182, 0, 163, 172, 42, 180, 0, 13, 16, 40, 29, 96, 42]
abbrev dktX7_newOne_3 : List UInt8 := dkwX7_newOne_3 ++ dktX7_newOne_4
def dkwX7_newOne_2 : List UInt8 := [180, 0, 7, 17, 6, 109, 46, 182, 0, 180, 2, 160, 0, 21, 42, 16, 44, 42, 180, 0, 7, 17, 6, 110]
abbrev dktX7_newOne_2 : List UInt8 := dkwX7_newOne_2 ++ dktX7_newOne_3
def dkwX7_newOne_1 : List UInt8 := [182, 0, 157, 42, 18, 174, 182, 0, 176, 154, 0, 9, 42, 5, 182, 0, 163, 172, 42, 16, 40, 42]
abbrev dktX7_newOne_1 : List UInt8 := dkwX7_newOne_1 ++ dktX7_newOne_2
def dkwX7_newOne_0 : List UInt8 := [42, 180, 0, 7, 17, 6, 104, 27, 96, 46, 28, 160, 0, 10, 42, 16, 6, 182, 0, 163, 172, 42]
abbrev dktX7_newOne_0 : List UInt8 := dkwX7_newOne_0 ++ dktX7_newOne_1
theorem dksX7_newOne_0 : cX7_newOne.data.toList.drop 0 = dktX7_newOne_0 := by decide +kernel
theorem dksX7_newOne_1 : cX7_newOne.data.toList.drop 22 = dktX7_newOne_1 := dk_seg dksX7_newOne_0 22 rfl rfl
theorem dksX7_newOne_2 : cX7_newOne.data.toList.drop 44 = dktX7_newOne_2 := dk_seg dksX7_newOne_1 22 rfl rfl
theorem dksX7_newOne_3 : cX7_newOne.data.toList.drop 68 = dktX7_newOne_3 := dk_seg dksX7_newOne_2 24 rfl rfl
theorem dksX7_newOne_4 : cX7_newOne.data.toList.drop 91 = dktX7_newOne_4 := dk_seg dksX7_newOne_3 23 rfl rfl
theorem dX7_newOne_0 : decode cX7_newOne 0 = .ok (.aload_n 0, 1) := dk_42 (dk_at dksX7_newOne_0 0 rfl rfl)
theorem dX7_newOne_1 : decode cX7_newOne 1 = .ok (.getfield 7, 3) := dk_180 0 7 (dk_at dksX7_newOne_0 1 rfl rfl)
theorem dX7_newOne_4 : decode cX7_newOne 4 = .ok (.sipush 1640, 3) := dk_17 6 104 (dk_at dksX7_newOne_0 4 rfl rfl)
theorem dX7_newOne_7 : decode cX7_newOne 7 = .ok (.iload_n 1, 1) := dk_27 (dk_at dksX7_newOne_0 7 rfl rfl)
theorem dX7_newOne_8 : decode cX7_newOne 8 = .ok (.iadd, 1) := dk_96 (dk_at dksX7_newOne_0 8 rfl rfl)
theorem dX7_newOne_9 : decode cX7_newOne 9 = .ok (.iaload, 1) := dk_46 (dk_at dksX7_newOne_0 9 rfl rfl)
theorem dX7_newOne_10 : decode cX7_newOne 10 = .ok (.iload_n 2, 1) := dk_28 (dk_at dksX7_newOne_0 10 rfl rfl)
theorem dX7_newOne_11 : decode cX7_newOne 11 = .ok (.if_icmp .ne 10, 3) := dk_160 0 10 (dk_at dksX7_newOne_0 11 rfl rfl)
theorem dX7_newOne_14 : decode cX7_newOne 14 = .ok (.aload_n 0, 1) := dk_42 (dk_at dksX7_newOne_0 14 rfl rfl)
theorem dX7_newOne_15 : decode cX7_newOne 15 = .ok (.bipush 6, 2) := dk_16 6 (dk_at dksX7_newOne_0 15 rfl rfl)
theorem dX7_newOne_17 : decode cX7_newOne 17 = .ok (.invokevirtual 163, 3) := dk_182 0 163 (dk_at dksX7_newOne_0 17 rfl rfl)
theorem dX7_newOne_20 : decode cX7_newOne 20 = .ok (.ireturn, 1) := dk_172 (dk_at dksX7_newOne_0 20 rfl rfl)
theorem dX7_newOne_21 : decode cX7_newOne 21 = .ok (.aload_n 0, 1) := dk_42 (dk_at dksX7_newOne_0 21 rfl rfl)
theorem dX7_newOne_22 : decode cX7_newOne 22 = .ok (.invokevirtual 157, 3) := dk_182 0 157 (dk_at dksX7_newOne_1 0 rfl rfl)
theorem dX7_newOne_25 : decode cX7_newOne 25 = .ok (.aload_n 0, 1) := dk_42 (dk_at dksX7_newOne_1 3 rfl rfl)
theorem dX7_newOne_26 : decode cX7_newOne 26 = .ok (.ldc 174, 2) := dk_18 174 (dk_at dksX7_newOne_1 4 rfl rfl)
theorem dX7_newOne_28 : decode cX7_newOne 28 = .ok (.invokevirtual 176, 3) := dk_182 0 176 (dk_at dksX7_newOne_1 6 rfl rfl)
theorem dX7_newOne_31 : decode cX7_newOne 31 = .ok (.ifCond .ne 9, 3) := dk_154 0 9 (dk_at dksX7_newOne_1 9 rfl rfl)
theorem dX7_newOne_34 : decode cX7_newOne 34 = .ok (.aload_n 0, 1) := dk_42 (dk_at dksX7_newOne_1 12 rfl rfl)
theorem dX7_newOne_35 : decode cX7_newOne 35 = .ok (.iconst 2, 1) := dk_5 (dk_at dksX7_newOne_1 13 rfl rfl)
theorem dX7_newOne_36 : decode cX7_newOne 36 = .ok (.invokevirtual 163, 3) := dk_182 0 163 (dk_at dksX7_newOne_1 14 rfl rfl)
theorem dX7_newOne_39 : decode cX7_newOne 39 = .ok (.ireturn, 1) := dk_172 (dk_at dksX7_newOne_1 17 rfl rfl)
theorem dX7_newOne_40 : decode cX7_newOne 40 = .ok (.aload_n 0, 1) := dk_42 (dk_at dksX7_newOne_1 18 rfl rfl)
theorem dX7_newOne_41 : decode cX7_newOne 41 = .ok (.bipush 40, 2) := dk_16 40 (dk_at dksX7_newOne_1 19 rfl rfl)
theorem dX7_newOne_43 : decode cX7_newOne 43 = .ok (.aload_n 0, 1) := dk_42 (dk_at dksX7_newOne_1 21 rfl rfl)
theorem dX7_newOne_44 : decode cX7_newOne 44 = .ok (.getfield 7, 3) := dk_180 0 7 (dk_at dksX7_newOne_2 0 rfl rfl)
theorem dX7_newOne_47 : decode cX7_newOne 47 = .ok (.sipush 1645, 3) := dk_17 6 109 (dk_at dksX7_newOne_2 3 rfl rfl)
theorem dX7_newOne_50 : decode cX7_newOne 50 = .ok (.iaload, 1) := dk_46 (dk_at dksX7_newOne_2 6 rfl rfl)
theorem dX7_newOne_51 : decode cX7_newOne 51 = .ok (.invokevirtual 180, 3) := dk_182 0 180 (dk_at dksX7_newOne_2 7 rfl rfl)
theorem dX7_newOne_54 : decode cX7_newOne 54 = .ok (.iconst (-1), 1) := dk_2 (dk_at dksX7_newOne_2 10 rfl rfl)
theorem dX7_newOne_55 : decode cX7_newOne 55 = .ok (.if_icmp .ne 21, 3) := dk_160 0 21 (dk_at dksX7_newOne_2 11 rfl rfl)
theorem dX7_newOne_58 : decode cX7_newOne 58 = .ok (.aload_n 0, 1) := dk_42 (dk_at dksX7_newOne_2 14 rfl rfl)
theorem dX7_newOne_59 : decode cX7_newOne 59 = .ok (.bipush 44, 2) := dk_16 44 (dk_at dksX7_newOne_2 15 rfl rfl)
theorem dX7_newOne_61 : decode cX7_newOne 61 = .ok (.aload_n 0, 1) := dk_42 (dk_at dksX7_newOne_2 17 rfl rfl)
theorem dX7_newOne_62 : decode cX7_newOne 62 = .ok (.getfield 7, 3) := dk_180 0 7 (dk_at dksX7_newOne_2 18 rfl rfl)
theorem dX7_newOne_65 : decode cX7_newOne 65 = .ok (.sipush 1646, 3) := dk_17 6 110 (dk_at dksX7_newOne_2 21 rfl rfl)
theorem dX7_newOne_68 : decode cX7_newOne 68 = .ok (.iaload, 1) := dk_46 (dk_at dksX7_newOne_3 0 rfl rfl)
theorem dX7_newOne_69 : decode cX7_newOne 69 = .ok (.invokevirtual 180, 3) := dk_182 0 180 (dk_at dksX7_newOne_3 1 rfl rfl)
theorem dX7_newOne_72 : decode cX7_newOne 72 = .ok (.iconst (-1), 1) := dk_2 (dk_at dksX7_newOne_3 4 rfl rfl)
theorem dX7_newOne_73 : decode cX7_newOne 73 = .ok (.if_icmp .eq 9, 3) := dk_159 0 9 (dk_at dksX7_newOne_3 5 rfl rfl)
theorem dX7_newOne_76 : decode cX7_newOne 76 = .ok (.aload_n 0, 1) := dk_42 (dk_at dksX7_newOne_3 8 rfl rfl)
theorem dX7_newOne_77 : decode cX7_newOne 77 = .ok (.iconst 3, 1) := dk_6 (dk_at dksX7_newOne_3 9 rfl rfl)
theorem dX7_newOne_78 : decode cX7_newOne 78 = .ok (.invokevirtual 163, 3) := dk_182 0 163 (dk_at dksX7_newOne_3 10 rfl rfl)
theorem dX7_newOne_81 : decode cX7_newOne 81 = .ok (.ireturn, 1) := dk_172 (dk_at dksX7_newOne_3 13 rfl rfl)
theorem dX7_newOne_82 : decode cX7_newOne 82 = .ok (.aload_n 0, 1) := dk_42 (dk_at dksX7_newOne_3 14 rfl rfl)
theorem dX7_newOne_83 : decode cX7_newOne 83 = .ok (.getfield 13, 3) := dk_180 0 13 (dk_at dksX7_newOne_3 15 rfl rfl)
theorem dX7_newOne_86 : decode cX7_newOne 86 = .ok (.bipush 40, 2) := dk_16 40 (dk_at dksX7_newOne_3 18 rfl rfl)
theorem dX7_newOne_88 : decode cX7_newOne 88 = .ok (.iload_n 3, 1) := dk_29 (dk_at dksX7_newOne_3 20 rfl rfl)
theorem dX7_newOne_89 : decode cX7_newOne 89 = .ok (.iadd, 1) := dk_96 (dk_at dksX7_newOne_3 21 rfl rfl)
theorem dX7_newOne_90 : decode cX7_newOne 90 = .ok (.aload_n 0, 1) := dk_42 (dk_at dksX7_newOne_3 22 rfl rfl)
theorem dX7_newOne_91 : decode cX7_newOne 91 = .ok (.getfield 7, 3) := dk_180 0 7 (dk_at dksX7_newOne_4 0 rfl rfl)
theorem dX7_newOne_94 : decode cX7_newOne 94 = .ok (.sipush 1640, 3) := dk_17 6 104 (dk_at dksX7_newOne_4 3 rfl rfl)
theorem dX7_newOne_97 : decode cX7_newOne 97 = .ok (.iload_n 1, 1) := dk_27 (dk_at dksX7_newOne_4 6 rfl rfl)
theorem dX7_newOne_98 : decode cX7_newOne 98 = .ok (.iadd, 1) := dk_96 (dk_at dksX7_newOne_4 7 rfl rfl)
theorem dX7_newOne_99 : decode cX7_newOne 99 = .ok (.iaload, 1) := dk_46 (dk_at dksX7_newOne_4 8 rfl rfl)
theorem dX7_newOne_100 : decode cX7_newOne 100 = .ok (.iadd, 1) := dk_96 (dk_at dksX7_newOne_4 9 rfl rfl)
theorem dX7_newOne_101 : decode cX7_newOne 101 = .ok (.aload_n 0, 1) := dk_42 (dk_at dksX7_newOne_4 10 rfl rfl)
theorem dX7_newOne_102 : decode cX7_newOne 102 = .ok (.invokevirtual 170, 3) := dk_182 0 170 (dk_at dksX7_newOne_4 11 rfl rfl)
theorem dX7_newOne_105 : decode cX7_newOne 105 = .ok (.lastore, 1) := dk_80 (dk_at dksX7_newOne_4 14 rfl rfl)
theorem dX7_newOne_106 : decode cX7_newOne 106 = .ok (.aload_n 0, 1) := dk_42 (dk_at dksX7_newOne_4 15 rfl rfl)
theorem dX7_newOne_107 : decode cX7_newOne 107 = .ok (.invokevirtual 157, 3) := dk_182 0 157 (dk_at dksX7_newOne_4 16 rfl rfl)
theorem dX7_newOne_110 : decode cX7_newOne 110 = .ok (.iconst 1, 1) := dk_4 (dk_at dksX7_newOne_4 19 rfl rfl)
theorem dX7_newOne_111 : decode cX7_newOne 111 = .ok (.ireturn, 1) := dk_172 (dk_at dksX7_newOne_4 20 rfl rfl)
abbrev cX7_isName : ByteArray := prog_16_method_33_code
def yX7_isName : MethodName := ⟨RX7, "isName", "(Ljava/lang/String;)Z"⟩
def dkwX7_isName_1 : List UInt8 := [182, 0, 166, 2, 160, 0, 7, 4, 167, 0, 4, 3, 172]
abbrev dktX7_isName_1 : List UInt8 := dkwX7_isName_1 ++ []
def dkwX7_isName_0 : List UInt8 := [42, 180, 0, 126, 5, 160, 0, 30, 42, 180, 0, 114, 42, 180, 0, 120, 100, 16, 8, 163, 0, 16, 42, 43]
abbrev dktX7_isName_0 : List UInt8 := dkwX7_isName_0 ++ dktX7_isName_1
theorem dksX7_isName_0 : cX7_isName.data.toList.drop 0 = dktX7_isName_0 := by decide +kernel
theorem dksX7_isName_1 : cX7_isName.data.toList.drop 24 = dktX7_isName_1 := dk_seg dksX7_isName_0 24 rfl rfl
theorem dX7_isName_0 : decode cX7_isName 0 = .ok (.aload_n 0, 1) := dk_42 (dk_at dksX7_isName_0 0 rfl rfl)
theorem dX7_isName_1 : decode cX7_isName 1 = .ok (.getfield 126, 3) := dk_180 0 126 (dk_at dksX7_isName_0 1 rfl rfl)
theorem dX7_isName_4 : decode cX7_isName 4 = .ok (.iconst 2, 1) := dk_5 (dk_at dksX7_isName_0 4 rfl rfl)
theorem dX7_isName_5 : decode cX7_isName 5 = .ok (.if_icmp .ne 30, 3) := dk_160 0 30 (dk_at dksX7_isName_0 5 rfl rfl)
theorem dX7_isName_8 : decode cX7_isName 8 = .ok (.aload_n 0, 1) := dk_42 (dk_at dksX7_isName_0 8 rfl rfl)
theorem dX7_isName_9 : decode cX7_isName 9 = .ok (.getfield 114, 3) := dk_180 0 114 (dk_at dksX7_isName_0 9 rfl rfl)
theorem dX7_isName_12 : decode cX7_isName 12 = .ok (.aload_n 0, 1) := dk_42 (dk_at dksX7_isName_0 12 rfl rfl)
theorem dX7_isName_13 : decode cX7_isName 13 = .ok (.getfield 120, 3) := dk_180 0 120 (dk_at dksX7_isName_0 13 rfl rfl)
theorem dX7_isName_16 : decode cX7_isName 16 = .ok (.isub, 1) := dk_100 (dk_at dksX7_isName_0 16 rfl rfl)
theorem dX7_isName_17 : decode cX7_isName 17 = .ok (.bipush 8, 2) := dk_16 8 (dk_at dksX7_isName_0 17 rfl rfl)
theorem dX7_isName_19 : decode cX7_isName 19 = .ok (.if_icmp .gt 16, 3) := dk_163 0 16 (dk_at dksX7_isName_0 19 rfl rfl)
theorem dX7_isName_22 : decode cX7_isName 22 = .ok (.aload_n 0, 1) := dk_42 (dk_at dksX7_isName_0 22 rfl rfl)
theorem dX7_isName_23 : decode cX7_isName 23 = .ok (.aload_n 1, 1) := dk_43 (dk_at dksX7_isName_0 23 rfl rfl)
theorem dX7_isName_24 : decode cX7_isName 24 = .ok (.invokevirtual 166, 3) := dk_182 0 166 (dk_at dksX7_isName_1 0 rfl rfl)
theorem dX7_isName_27 : decode cX7_isName 27 = .ok (.iconst (-1), 1) := dk_2 (dk_at dksX7_isName_1 3 rfl rfl)
theorem dX7_isName_28 : decode cX7_isName 28 = .ok (.if_icmp .ne 7, 3) := dk_160 0 7 (dk_at dksX7_isName_1 4 rfl rfl)
theorem dX7_isName_31 : decode cX7_isName 31 = .ok (.iconst 1, 1) := dk_4 (dk_at dksX7_isName_1 7 rfl rfl)
theorem dX7_isName_32 : decode cX7_isName 32 = .ok (.goto 4, 3) := dk_167 0 4 (dk_at dksX7_isName_1 8 rfl rfl)
theorem dX7_isName_35 : decode cX7_isName 35 = .ok (.iconst 0, 1) := dk_3 (dk_at dksX7_isName_1 11 rfl rfl)
theorem dX7_isName_36 : decode cX7_isName 36 = .ok (.ireturn, 1) := dk_172 (dk_at dksX7_isName_1 12 rfl rfl)
abbrev cX7_findHere : ByteArray := prog_16_method_35_code
def yX7_findHere : MethodName := ⟨RX7, "findHere", "(II)I"⟩
def dkwX7_findHere_1 : List UInt8 := [172, 132, 3, 1, 167, 255, 230, 2, 172]
abbrev dktX7_findHere_1 : List UInt8 := dkwX7_findHere_1 ++ []
def dkwX7_findHere_0 : List UInt8 := [3, 62, 29, 28, 162, 0, 27, 42, 180, 0, 13, 27, 29, 96, 47, 42, 182, 0, 170, 148, 154, 0, 5, 29]
abbrev dktX7_findHere_0 : List UInt8 := dkwX7_findHere_0 ++ dktX7_findHere_1
theorem dksX7_findHere_0 : cX7_findHere.data.toList.drop 0 = dktX7_findHere_0 := by decide +kernel
theorem dksX7_findHere_1 : cX7_findHere.data.toList.drop 24 = dktX7_findHere_1 := dk_seg dksX7_findHere_0 24 rfl rfl
theorem dX7_findHere_0 : decode cX7_findHere 0 = .ok (.iconst 0, 1) := dk_3 (dk_at dksX7_findHere_0 0 rfl rfl)
theorem dX7_findHere_1 : decode cX7_findHere 1 = .ok (.istore_n 3, 1) := dk_62 (dk_at dksX7_findHere_0 1 rfl rfl)
theorem dX7_findHere_2 : decode cX7_findHere 2 = .ok (.iload_n 3, 1) := dk_29 (dk_at dksX7_findHere_0 2 rfl rfl)
theorem dX7_findHere_3 : decode cX7_findHere 3 = .ok (.iload_n 2, 1) := dk_28 (dk_at dksX7_findHere_0 3 rfl rfl)
theorem dX7_findHere_4 : decode cX7_findHere 4 = .ok (.if_icmp .ge 27, 3) := dk_162 0 27 (dk_at dksX7_findHere_0 4 rfl rfl)
theorem dX7_findHere_7 : decode cX7_findHere 7 = .ok (.aload_n 0, 1) := dk_42 (dk_at dksX7_findHere_0 7 rfl rfl)
theorem dX7_findHere_8 : decode cX7_findHere 8 = .ok (.getfield 13, 3) := dk_180 0 13 (dk_at dksX7_findHere_0 8 rfl rfl)
theorem dX7_findHere_11 : decode cX7_findHere 11 = .ok (.iload_n 1, 1) := dk_27 (dk_at dksX7_findHere_0 11 rfl rfl)
theorem dX7_findHere_12 : decode cX7_findHere 12 = .ok (.iload_n 3, 1) := dk_29 (dk_at dksX7_findHere_0 12 rfl rfl)
theorem dX7_findHere_13 : decode cX7_findHere 13 = .ok (.iadd, 1) := dk_96 (dk_at dksX7_findHere_0 13 rfl rfl)
theorem dX7_findHere_14 : decode cX7_findHere 14 = .ok (.laload, 1) := dk_47 (dk_at dksX7_findHere_0 14 rfl rfl)
theorem dX7_findHere_15 : decode cX7_findHere 15 = .ok (.aload_n 0, 1) := dk_42 (dk_at dksX7_findHere_0 15 rfl rfl)
theorem dX7_findHere_16 : decode cX7_findHere 16 = .ok (.invokevirtual 170, 3) := dk_182 0 170 (dk_at dksX7_findHere_0 16 rfl rfl)
theorem dX7_findHere_19 : decode cX7_findHere 19 = .ok (.lcmp, 1) := dk_148 (dk_at dksX7_findHere_0 19 rfl rfl)
theorem dX7_findHere_20 : decode cX7_findHere 20 = .ok (.ifCond .ne 5, 3) := dk_154 0 5 (dk_at dksX7_findHere_0 20 rfl rfl)
theorem dX7_findHere_23 : decode cX7_findHere 23 = .ok (.iload_n 3, 1) := dk_29 (dk_at dksX7_findHere_0 23 rfl rfl)
theorem dX7_findHere_24 : decode cX7_findHere 24 = .ok (.ireturn, 1) := dk_172 (dk_at dksX7_findHere_1 0 rfl rfl)
theorem dX7_findHere_25 : decode cX7_findHere 25 = .ok (.iinc 3 1, 3) := dk_132 3 1 (dk_at dksX7_findHere_1 1 rfl rfl)
theorem dX7_findHere_28 : decode cX7_findHere 28 = .ok (.goto (-26), 3) := dk_167 255 230 (dk_at dksX7_findHere_1 4 rfl rfl)
theorem dX7_findHere_31 : decode cX7_findHere 31 = .ok (.iconst (-1), 1) := dk_2 (dk_at dksX7_findHere_1 7 rfl rfl)
theorem dX7_findHere_32 : decode cX7_findHere 32 = .ok (.ireturn, 1) := dk_172 (dk_at dksX7_findHere_1 8 rfl rfl)
abbrev cX7_nameHere : ByteArray := prog_16_method_34_code
def yX7_nameHere : MethodName := ⟨RX7, "nameHere", "()J"⟩
def dkwX7_nameHere_1 : List UInt8 := [133, 129, 64, 132, 3, 1, 167, 255, 233, 31, 173]
abbrev dktX7_nameHere_1 : List UInt8 := dkwX7_nameHere_1 ++ []
def dkwX7_nameHere_0 : List UInt8 := [9, 64, 42, 180, 0, 120, 62, 29, 42, 180, 0, 114, 162, 0, 21, 31, 16, 8, 121, 42, 29, 182, 0, 117]
abbrev dktX7_nameHere_0 : List UInt8 := dkwX7_nameHere_0 ++ dktX7_nameHere_1
theorem dksX7_nameHere_0 : cX7_nameHere.data.toList.drop 0 = dktX7_nameHere_0 := by decide +kernel
theorem dksX7_nameHere_1 : cX7_nameHere.data.toList.drop 24 = dktX7_nameHere_1 := dk_seg dksX7_nameHere_0 24 rfl rfl
theorem dX7_nameHere_0 : decode cX7_nameHere 0 = .ok (.lconst 0, 1) := dk_9 (dk_at dksX7_nameHere_0 0 rfl rfl)
theorem dX7_nameHere_1 : decode cX7_nameHere 1 = .ok (.lstore_n 1, 1) := dk_64 (dk_at dksX7_nameHere_0 1 rfl rfl)
theorem dX7_nameHere_2 : decode cX7_nameHere 2 = .ok (.aload_n 0, 1) := dk_42 (dk_at dksX7_nameHere_0 2 rfl rfl)
theorem dX7_nameHere_3 : decode cX7_nameHere 3 = .ok (.getfield 120, 3) := dk_180 0 120 (dk_at dksX7_nameHere_0 3 rfl rfl)
theorem dX7_nameHere_6 : decode cX7_nameHere 6 = .ok (.istore_n 3, 1) := dk_62 (dk_at dksX7_nameHere_0 6 rfl rfl)
theorem dX7_nameHere_7 : decode cX7_nameHere 7 = .ok (.iload_n 3, 1) := dk_29 (dk_at dksX7_nameHere_0 7 rfl rfl)
theorem dX7_nameHere_8 : decode cX7_nameHere 8 = .ok (.aload_n 0, 1) := dk_42 (dk_at dksX7_nameHere_0 8 rfl rfl)
theorem dX7_nameHere_9 : decode cX7_nameHere 9 = .ok (.getfield 114, 3) := dk_180 0 114 (dk_at dksX7_nameHere_0 9 rfl rfl)
theorem dX7_nameHere_12 : decode cX7_nameHere 12 = .ok (.if_icmp .ge 21, 3) := dk_162 0 21 (dk_at dksX7_nameHere_0 12 rfl rfl)
theorem dX7_nameHere_15 : decode cX7_nameHere 15 = .ok (.lload_n 1, 1) := dk_31 (dk_at dksX7_nameHere_0 15 rfl rfl)
theorem dX7_nameHere_16 : decode cX7_nameHere 16 = .ok (.bipush 8, 2) := dk_16 8 (dk_at dksX7_nameHere_0 16 rfl rfl)
theorem dX7_nameHere_18 : decode cX7_nameHere 18 = .ok (.lshl, 1) := dk_121 (dk_at dksX7_nameHere_0 18 rfl rfl)
theorem dX7_nameHere_19 : decode cX7_nameHere 19 = .ok (.aload_n 0, 1) := dk_42 (dk_at dksX7_nameHere_0 19 rfl rfl)
theorem dX7_nameHere_20 : decode cX7_nameHere 20 = .ok (.iload_n 3, 1) := dk_29 (dk_at dksX7_nameHere_0 20 rfl rfl)
theorem dX7_nameHere_21 : decode cX7_nameHere 21 = .ok (.invokevirtual 117, 3) := dk_182 0 117 (dk_at dksX7_nameHere_0 21 rfl rfl)
theorem dX7_nameHere_24 : decode cX7_nameHere 24 = .ok (.i2l, 1) := dk_133 (dk_at dksX7_nameHere_1 0 rfl rfl)
theorem dX7_nameHere_25 : decode cX7_nameHere 25 = .ok (.lor, 1) := dk_129 (dk_at dksX7_nameHere_1 1 rfl rfl)
theorem dX7_nameHere_26 : decode cX7_nameHere 26 = .ok (.lstore_n 1, 1) := dk_64 (dk_at dksX7_nameHere_1 2 rfl rfl)
theorem dX7_nameHere_27 : decode cX7_nameHere 27 = .ok (.iinc 3 1, 3) := dk_132 3 1 (dk_at dksX7_nameHere_1 3 rfl rfl)
theorem dX7_nameHere_30 : decode cX7_nameHere 30 = .ok (.goto (-23), 3) := dk_167 255 233 (dk_at dksX7_nameHere_1 6 rfl rfl)
theorem dX7_nameHere_33 : decode cX7_nameHere 33 = .ok (.lload_n 1, 1) := dk_31 (dk_at dksX7_nameHere_1 9 rfl rfl)
theorem dX7_nameHere_34 : decode cX7_nameHere 34 = .ok (.lreturn, 1) := dk_173 (dk_at dksX7_nameHere_1 10 rfl rfl)
abbrev cX7_neighbours : ByteArray := prog_16_method_44_code
def yX7_neighbours : MethodName := ⟨RX7, "neighbours", "(I)Z"⟩
def dkwX7_neighbours_3 : List UInt8 := [120, 128, 79, 42, 182, 0, 157, 167, 255, 192, 4, 172]
abbrev dktX7_neighbours_3 : List UInt8 := dkwX7_neighbours_3 ++ []
def dkwX7_neighbours_2 : List UInt8 := [4, 126, 4, 160, 0, 9, 42, 8, 182, 0, 163, 172, 42, 180, 0, 7, 27, 92, 46, 4, 42, 180, 0, 123]
abbrev dktX7_neighbours_2 : List UInt8 := dkwX7_neighbours_2 ++ dktX7_neighbours_3
def dkwX7_neighbours_1 : List UInt8 := [180, 0, 123, 7, 164, 0, 9, 42, 7, 182, 0, 163, 172, 42, 180, 0, 7, 27, 46, 42, 180, 0, 123, 122]
abbrev dktX7_neighbours_1 : List UInt8 := dkwX7_neighbours_1 ++ dktX7_neighbours_2
def dkwX7_neighbours_0 : List UInt8 := [42, 180, 0, 126, 6, 159, 0, 9, 42, 5, 182, 0, 163, 172, 42, 180, 0, 126, 6, 160, 0, 62, 42]
abbrev dktX7_neighbours_0 : List UInt8 := dkwX7_neighbours_0 ++ dktX7_neighbours_1
theorem dksX7_neighbours_0 : cX7_neighbours.data.toList.drop 0 = dktX7_neighbours_0 := by decide +kernel
theorem dksX7_neighbours_1 : cX7_neighbours.data.toList.drop 23 = dktX7_neighbours_1 := dk_seg dksX7_neighbours_0 23 rfl rfl
theorem dksX7_neighbours_2 : cX7_neighbours.data.toList.drop 47 = dktX7_neighbours_2 := dk_seg dksX7_neighbours_1 24 rfl rfl
theorem dksX7_neighbours_3 : cX7_neighbours.data.toList.drop 71 = dktX7_neighbours_3 := dk_seg dksX7_neighbours_2 24 rfl rfl
theorem dX7_neighbours_0 : decode cX7_neighbours 0 = .ok (.aload_n 0, 1) := dk_42 (dk_at dksX7_neighbours_0 0 rfl rfl)
theorem dX7_neighbours_1 : decode cX7_neighbours 1 = .ok (.getfield 126, 3) := dk_180 0 126 (dk_at dksX7_neighbours_0 1 rfl rfl)
theorem dX7_neighbours_4 : decode cX7_neighbours 4 = .ok (.iconst 3, 1) := dk_6 (dk_at dksX7_neighbours_0 4 rfl rfl)
theorem dX7_neighbours_5 : decode cX7_neighbours 5 = .ok (.if_icmp .eq 9, 3) := dk_159 0 9 (dk_at dksX7_neighbours_0 5 rfl rfl)
theorem dX7_neighbours_8 : decode cX7_neighbours 8 = .ok (.aload_n 0, 1) := dk_42 (dk_at dksX7_neighbours_0 8 rfl rfl)
theorem dX7_neighbours_9 : decode cX7_neighbours 9 = .ok (.iconst 2, 1) := dk_5 (dk_at dksX7_neighbours_0 9 rfl rfl)
theorem dX7_neighbours_10 : decode cX7_neighbours 10 = .ok (.invokevirtual 163, 3) := dk_182 0 163 (dk_at dksX7_neighbours_0 10 rfl rfl)
theorem dX7_neighbours_13 : decode cX7_neighbours 13 = .ok (.ireturn, 1) := dk_172 (dk_at dksX7_neighbours_0 13 rfl rfl)
theorem dX7_neighbours_14 : decode cX7_neighbours 14 = .ok (.aload_n 0, 1) := dk_42 (dk_at dksX7_neighbours_0 14 rfl rfl)
theorem dX7_neighbours_15 : decode cX7_neighbours 15 = .ok (.getfield 126, 3) := dk_180 0 126 (dk_at dksX7_neighbours_0 15 rfl rfl)
theorem dX7_neighbours_18 : decode cX7_neighbours 18 = .ok (.iconst 3, 1) := dk_6 (dk_at dksX7_neighbours_0 18 rfl rfl)
theorem dX7_neighbours_19 : decode cX7_neighbours 19 = .ok (.if_icmp .ne 62, 3) := dk_160 0 62 (dk_at dksX7_neighbours_0 19 rfl rfl)
theorem dX7_neighbours_22 : decode cX7_neighbours 22 = .ok (.aload_n 0, 1) := dk_42 (dk_at dksX7_neighbours_0 22 rfl rfl)
theorem dX7_neighbours_23 : decode cX7_neighbours 23 = .ok (.getfield 123, 3) := dk_180 0 123 (dk_at dksX7_neighbours_1 0 rfl rfl)
theorem dX7_neighbours_26 : decode cX7_neighbours 26 = .ok (.iconst 4, 1) := dk_7 (dk_at dksX7_neighbours_1 3 rfl rfl)
theorem dX7_neighbours_27 : decode cX7_neighbours 27 = .ok (.if_icmp .le 9, 3) := dk_164 0 9 (dk_at dksX7_neighbours_1 4 rfl rfl)
theorem dX7_neighbours_30 : decode cX7_neighbours 30 = .ok (.aload_n 0, 1) := dk_42 (dk_at dksX7_neighbours_1 7 rfl rfl)
theorem dX7_neighbours_31 : decode cX7_neighbours 31 = .ok (.iconst 4, 1) := dk_7 (dk_at dksX7_neighbours_1 8 rfl rfl)
theorem dX7_neighbours_32 : decode cX7_neighbours 32 = .ok (.invokevirtual 163, 3) := dk_182 0 163 (dk_at dksX7_neighbours_1 9 rfl rfl)
theorem dX7_neighbours_35 : decode cX7_neighbours 35 = .ok (.ireturn, 1) := dk_172 (dk_at dksX7_neighbours_1 12 rfl rfl)
theorem dX7_neighbours_36 : decode cX7_neighbours 36 = .ok (.aload_n 0, 1) := dk_42 (dk_at dksX7_neighbours_1 13 rfl rfl)
theorem dX7_neighbours_37 : decode cX7_neighbours 37 = .ok (.getfield 7, 3) := dk_180 0 7 (dk_at dksX7_neighbours_1 14 rfl rfl)
theorem dX7_neighbours_40 : decode cX7_neighbours 40 = .ok (.iload_n 1, 1) := dk_27 (dk_at dksX7_neighbours_1 17 rfl rfl)
theorem dX7_neighbours_41 : decode cX7_neighbours 41 = .ok (.iaload, 1) := dk_46 (dk_at dksX7_neighbours_1 18 rfl rfl)
theorem dX7_neighbours_42 : decode cX7_neighbours 42 = .ok (.aload_n 0, 1) := dk_42 (dk_at dksX7_neighbours_1 19 rfl rfl)
theorem dX7_neighbours_43 : decode cX7_neighbours 43 = .ok (.getfield 123, 3) := dk_180 0 123 (dk_at dksX7_neighbours_1 20 rfl rfl)
theorem dX7_neighbours_46 : decode cX7_neighbours 46 = .ok (.ishr, 1) := dk_122 (dk_at dksX7_neighbours_1 23 rfl rfl)
theorem dX7_neighbours_47 : decode cX7_neighbours 47 = .ok (.iconst 1, 1) := dk_4 (dk_at dksX7_neighbours_2 0 rfl rfl)
theorem dX7_neighbours_48 : decode cX7_neighbours 48 = .ok (.iand, 1) := dk_126 (dk_at dksX7_neighbours_2 1 rfl rfl)
theorem dX7_neighbours_49 : decode cX7_neighbours 49 = .ok (.iconst 1, 1) := dk_4 (dk_at dksX7_neighbours_2 2 rfl rfl)
theorem dX7_neighbours_50 : decode cX7_neighbours 50 = .ok (.if_icmp .ne 9, 3) := dk_160 0 9 (dk_at dksX7_neighbours_2 3 rfl rfl)
theorem dX7_neighbours_53 : decode cX7_neighbours 53 = .ok (.aload_n 0, 1) := dk_42 (dk_at dksX7_neighbours_2 6 rfl rfl)
theorem dX7_neighbours_54 : decode cX7_neighbours 54 = .ok (.iconst 5, 1) := dk_8 (dk_at dksX7_neighbours_2 7 rfl rfl)
theorem dX7_neighbours_55 : decode cX7_neighbours 55 = .ok (.invokevirtual 163, 3) := dk_182 0 163 (dk_at dksX7_neighbours_2 8 rfl rfl)
theorem dX7_neighbours_58 : decode cX7_neighbours 58 = .ok (.ireturn, 1) := dk_172 (dk_at dksX7_neighbours_2 11 rfl rfl)
theorem dX7_neighbours_59 : decode cX7_neighbours 59 = .ok (.aload_n 0, 1) := dk_42 (dk_at dksX7_neighbours_2 12 rfl rfl)
theorem dX7_neighbours_60 : decode cX7_neighbours 60 = .ok (.getfield 7, 3) := dk_180 0 7 (dk_at dksX7_neighbours_2 13 rfl rfl)
theorem dX7_neighbours_63 : decode cX7_neighbours 63 = .ok (.iload_n 1, 1) := dk_27 (dk_at dksX7_neighbours_2 16 rfl rfl)
theorem dX7_neighbours_64 : decode cX7_neighbours 64 = .ok (.dup2, 1) := dk_92 (dk_at dksX7_neighbours_2 17 rfl rfl)
theorem dX7_neighbours_65 : decode cX7_neighbours 65 = .ok (.iaload, 1) := dk_46 (dk_at dksX7_neighbours_2 18 rfl rfl)
theorem dX7_neighbours_66 : decode cX7_neighbours 66 = .ok (.iconst 1, 1) := dk_4 (dk_at dksX7_neighbours_2 19 rfl rfl)
theorem dX7_neighbours_67 : decode cX7_neighbours 67 = .ok (.aload_n 0, 1) := dk_42 (dk_at dksX7_neighbours_2 20 rfl rfl)
theorem dX7_neighbours_68 : decode cX7_neighbours 68 = .ok (.getfield 123, 3) := dk_180 0 123 (dk_at dksX7_neighbours_2 21 rfl rfl)
theorem dX7_neighbours_71 : decode cX7_neighbours 71 = .ok (.ishl, 1) := dk_120 (dk_at dksX7_neighbours_3 0 rfl rfl)
theorem dX7_neighbours_72 : decode cX7_neighbours 72 = .ok (.ior, 1) := dk_128 (dk_at dksX7_neighbours_3 1 rfl rfl)
theorem dX7_neighbours_73 : decode cX7_neighbours 73 = .ok (.iastore, 1) := dk_79 (dk_at dksX7_neighbours_3 2 rfl rfl)
theorem dX7_neighbours_74 : decode cX7_neighbours 74 = .ok (.aload_n 0, 1) := dk_42 (dk_at dksX7_neighbours_3 3 rfl rfl)
theorem dX7_neighbours_75 : decode cX7_neighbours 75 = .ok (.invokevirtual 157, 3) := dk_182 0 157 (dk_at dksX7_neighbours_3 4 rfl rfl)
theorem dX7_neighbours_78 : decode cX7_neighbours 78 = .ok (.goto (-64), 3) := dk_167 255 192 (dk_at dksX7_neighbours_3 7 rfl rfl)
theorem dX7_neighbours_81 : decode cX7_neighbours 81 = .ok (.iconst 1, 1) := dk_4 (dk_at dksX7_neighbours_3 10 rfl rfl)
theorem dX7_neighbours_82 : decode cX7_neighbours 82 = .ok (.ireturn, 1) := dk_172 (dk_at dksX7_neighbours_3 11 rfl rfl)
abbrev cX7_aCitizen : ByteArray := prog_16_method_46_code
def yX7_aCitizen : MethodName := ⟨RX7, "aCitizen", "()Z"⟩
def dkwX7_aCitizen_3 : List UInt8 := [16, 30, 182, 0, 187, 154, 0, 5, 3, 172, 42, 180, 0, 7, 17, 6, 110, 92, 46, 4, 96, 79, 4, 172]
abbrev dktX7_aCitizen_3 : List UInt8 := dkwX7_aCitizen_3 ++ []
def dkwX7_aCitizen_2 : List UInt8 := [153, 0, 32, 42, 18, 174, 16, 8, 182, 0, 183, 153, 0, 21, 42, 27, 4, 96, 42, 180, 0, 7, 27, 46]
abbrev dktX7_aCitizen_2 : List UInt8 := dkwX7_aCitizen_2 ++ dktX7_aCitizen_3
def dkwX7_aCitizen_1 : List UInt8 := [154, 0, 5, 3, 172, 42, 18, 174, 16, 7, 182, 0, 183, 153, 0, 43, 42, 27, 3, 16, 30, 182, 0, 187]
abbrev dktX7_aCitizen_1 : List UInt8 := dkwX7_aCitizen_1 ++ dktX7_aCitizen_2
def dkwX7_aCitizen_0 : List UInt8 := [17, 6, 124, 5, 42, 180, 0, 7, 17, 6, 110, 46, 104, 96, 60, 42, 16, 6, 16, 6, 7, 182, 0, 200]
abbrev dktX7_aCitizen_0 : List UInt8 := dkwX7_aCitizen_0 ++ dktX7_aCitizen_1
theorem dksX7_aCitizen_0 : cX7_aCitizen.data.toList.drop 0 = dktX7_aCitizen_0 := by decide +kernel
theorem dksX7_aCitizen_1 : cX7_aCitizen.data.toList.drop 24 = dktX7_aCitizen_1 := dk_seg dksX7_aCitizen_0 24 rfl rfl
theorem dksX7_aCitizen_2 : cX7_aCitizen.data.toList.drop 48 = dktX7_aCitizen_2 := dk_seg dksX7_aCitizen_1 24 rfl rfl
theorem dksX7_aCitizen_3 : cX7_aCitizen.data.toList.drop 72 = dktX7_aCitizen_3 := dk_seg dksX7_aCitizen_2 24 rfl rfl
theorem dX7_aCitizen_0 : decode cX7_aCitizen 0 = .ok (.sipush 1660, 3) := dk_17 6 124 (dk_at dksX7_aCitizen_0 0 rfl rfl)
theorem dX7_aCitizen_3 : decode cX7_aCitizen 3 = .ok (.iconst 2, 1) := dk_5 (dk_at dksX7_aCitizen_0 3 rfl rfl)
theorem dX7_aCitizen_4 : decode cX7_aCitizen 4 = .ok (.aload_n 0, 1) := dk_42 (dk_at dksX7_aCitizen_0 4 rfl rfl)
theorem dX7_aCitizen_5 : decode cX7_aCitizen 5 = .ok (.getfield 7, 3) := dk_180 0 7 (dk_at dksX7_aCitizen_0 5 rfl rfl)
theorem dX7_aCitizen_8 : decode cX7_aCitizen 8 = .ok (.sipush 1646, 3) := dk_17 6 110 (dk_at dksX7_aCitizen_0 8 rfl rfl)
theorem dX7_aCitizen_11 : decode cX7_aCitizen 11 = .ok (.iaload, 1) := dk_46 (dk_at dksX7_aCitizen_0 11 rfl rfl)
theorem dX7_aCitizen_12 : decode cX7_aCitizen 12 = .ok (.imul, 1) := dk_104 (dk_at dksX7_aCitizen_0 12 rfl rfl)
theorem dX7_aCitizen_13 : decode cX7_aCitizen 13 = .ok (.iadd, 1) := dk_96 (dk_at dksX7_aCitizen_0 13 rfl rfl)
theorem dX7_aCitizen_14 : decode cX7_aCitizen 14 = .ok (.istore_n 1, 1) := dk_60 (dk_at dksX7_aCitizen_0 14 rfl rfl)
theorem dX7_aCitizen_15 : decode cX7_aCitizen 15 = .ok (.aload_n 0, 1) := dk_42 (dk_at dksX7_aCitizen_0 15 rfl rfl)
theorem dX7_aCitizen_16 : decode cX7_aCitizen 16 = .ok (.bipush 6, 2) := dk_16 6 (dk_at dksX7_aCitizen_0 16 rfl rfl)
theorem dX7_aCitizen_18 : decode cX7_aCitizen 18 = .ok (.bipush 6, 2) := dk_16 6 (dk_at dksX7_aCitizen_0 18 rfl rfl)
theorem dX7_aCitizen_20 : decode cX7_aCitizen 20 = .ok (.iconst 4, 1) := dk_7 (dk_at dksX7_aCitizen_0 20 rfl rfl)
theorem dX7_aCitizen_21 : decode cX7_aCitizen 21 = .ok (.invokevirtual 200, 3) := dk_182 0 200 (dk_at dksX7_aCitizen_0 21 rfl rfl)
theorem dX7_aCitizen_24 : decode cX7_aCitizen 24 = .ok (.ifCond .ne 5, 3) := dk_154 0 5 (dk_at dksX7_aCitizen_1 0 rfl rfl)
theorem dX7_aCitizen_27 : decode cX7_aCitizen 27 = .ok (.iconst 0, 1) := dk_3 (dk_at dksX7_aCitizen_1 3 rfl rfl)
theorem dX7_aCitizen_28 : decode cX7_aCitizen 28 = .ok (.ireturn, 1) := dk_172 (dk_at dksX7_aCitizen_1 4 rfl rfl)
theorem dX7_aCitizen_29 : decode cX7_aCitizen 29 = .ok (.aload_n 0, 1) := dk_42 (dk_at dksX7_aCitizen_1 5 rfl rfl)
theorem dX7_aCitizen_30 : decode cX7_aCitizen 30 = .ok (.ldc 174, 2) := dk_18 174 (dk_at dksX7_aCitizen_1 6 rfl rfl)
theorem dX7_aCitizen_32 : decode cX7_aCitizen 32 = .ok (.bipush 7, 2) := dk_16 7 (dk_at dksX7_aCitizen_1 8 rfl rfl)
theorem dX7_aCitizen_34 : decode cX7_aCitizen 34 = .ok (.invokevirtual 183, 3) := dk_182 0 183 (dk_at dksX7_aCitizen_1 10 rfl rfl)
theorem dX7_aCitizen_37 : decode cX7_aCitizen 37 = .ok (.ifCond .eq 43, 3) := dk_153 0 43 (dk_at dksX7_aCitizen_1 13 rfl rfl)
theorem dX7_aCitizen_40 : decode cX7_aCitizen 40 = .ok (.aload_n 0, 1) := dk_42 (dk_at dksX7_aCitizen_1 16 rfl rfl)
theorem dX7_aCitizen_41 : decode cX7_aCitizen 41 = .ok (.iload_n 1, 1) := dk_27 (dk_at dksX7_aCitizen_1 17 rfl rfl)
theorem dX7_aCitizen_42 : decode cX7_aCitizen 42 = .ok (.iconst 0, 1) := dk_3 (dk_at dksX7_aCitizen_1 18 rfl rfl)
theorem dX7_aCitizen_43 : decode cX7_aCitizen 43 = .ok (.bipush 30, 2) := dk_16 30 (dk_at dksX7_aCitizen_1 19 rfl rfl)
theorem dX7_aCitizen_45 : decode cX7_aCitizen 45 = .ok (.invokevirtual 187, 3) := dk_182 0 187 (dk_at dksX7_aCitizen_1 21 rfl rfl)
theorem dX7_aCitizen_48 : decode cX7_aCitizen 48 = .ok (.ifCond .eq 32, 3) := dk_153 0 32 (dk_at dksX7_aCitizen_2 0 rfl rfl)
theorem dX7_aCitizen_51 : decode cX7_aCitizen 51 = .ok (.aload_n 0, 1) := dk_42 (dk_at dksX7_aCitizen_2 3 rfl rfl)
theorem dX7_aCitizen_52 : decode cX7_aCitizen 52 = .ok (.ldc 174, 2) := dk_18 174 (dk_at dksX7_aCitizen_2 4 rfl rfl)
theorem dX7_aCitizen_54 : decode cX7_aCitizen 54 = .ok (.bipush 8, 2) := dk_16 8 (dk_at dksX7_aCitizen_2 6 rfl rfl)
theorem dX7_aCitizen_56 : decode cX7_aCitizen 56 = .ok (.invokevirtual 183, 3) := dk_182 0 183 (dk_at dksX7_aCitizen_2 8 rfl rfl)
theorem dX7_aCitizen_59 : decode cX7_aCitizen 59 = .ok (.ifCond .eq 21, 3) := dk_153 0 21 (dk_at dksX7_aCitizen_2 11 rfl rfl)
theorem dX7_aCitizen_62 : decode cX7_aCitizen 62 = .ok (.aload_n 0, 1) := dk_42 (dk_at dksX7_aCitizen_2 14 rfl rfl)
theorem dX7_aCitizen_63 : decode cX7_aCitizen 63 = .ok (.iload_n 1, 1) := dk_27 (dk_at dksX7_aCitizen_2 15 rfl rfl)
theorem dX7_aCitizen_64 : decode cX7_aCitizen 64 = .ok (.iconst 1, 1) := dk_4 (dk_at dksX7_aCitizen_2 16 rfl rfl)
theorem dX7_aCitizen_65 : decode cX7_aCitizen 65 = .ok (.iadd, 1) := dk_96 (dk_at dksX7_aCitizen_2 17 rfl rfl)
theorem dX7_aCitizen_66 : decode cX7_aCitizen 66 = .ok (.aload_n 0, 1) := dk_42 (dk_at dksX7_aCitizen_2 18 rfl rfl)
theorem dX7_aCitizen_67 : decode cX7_aCitizen 67 = .ok (.getfield 7, 3) := dk_180 0 7 (dk_at dksX7_aCitizen_2 19 rfl rfl)
theorem dX7_aCitizen_70 : decode cX7_aCitizen 70 = .ok (.iload_n 1, 1) := dk_27 (dk_at dksX7_aCitizen_2 22 rfl rfl)
theorem dX7_aCitizen_71 : decode cX7_aCitizen 71 = .ok (.iaload, 1) := dk_46 (dk_at dksX7_aCitizen_2 23 rfl rfl)
theorem dX7_aCitizen_72 : decode cX7_aCitizen 72 = .ok (.bipush 30, 2) := dk_16 30 (dk_at dksX7_aCitizen_3 0 rfl rfl)
theorem dX7_aCitizen_74 : decode cX7_aCitizen 74 = .ok (.invokevirtual 187, 3) := dk_182 0 187 (dk_at dksX7_aCitizen_3 2 rfl rfl)
theorem dX7_aCitizen_77 : decode cX7_aCitizen 77 = .ok (.ifCond .ne 5, 3) := dk_154 0 5 (dk_at dksX7_aCitizen_3 5 rfl rfl)
theorem dX7_aCitizen_80 : decode cX7_aCitizen 80 = .ok (.iconst 0, 1) := dk_3 (dk_at dksX7_aCitizen_3 8 rfl rfl)
theorem dX7_aCitizen_81 : decode cX7_aCitizen 81 = .ok (.ireturn, 1) := dk_172 (dk_at dksX7_aCitizen_3 9 rfl rfl)
theorem dX7_aCitizen_82 : decode cX7_aCitizen 82 = .ok (.aload_n 0, 1) := dk_42 (dk_at dksX7_aCitizen_3 10 rfl rfl)
theorem dX7_aCitizen_83 : decode cX7_aCitizen 83 = .ok (.getfield 7, 3) := dk_180 0 7 (dk_at dksX7_aCitizen_3 11 rfl rfl)
theorem dX7_aCitizen_86 : decode cX7_aCitizen 86 = .ok (.sipush 1646, 3) := dk_17 6 110 (dk_at dksX7_aCitizen_3 14 rfl rfl)
theorem dX7_aCitizen_89 : decode cX7_aCitizen 89 = .ok (.dup2, 1) := dk_92 (dk_at dksX7_aCitizen_3 17 rfl rfl)
theorem dX7_aCitizen_90 : decode cX7_aCitizen 90 = .ok (.iaload, 1) := dk_46 (dk_at dksX7_aCitizen_3 18 rfl rfl)
theorem dX7_aCitizen_91 : decode cX7_aCitizen 91 = .ok (.iconst 1, 1) := dk_4 (dk_at dksX7_aCitizen_3 19 rfl rfl)
theorem dX7_aCitizen_92 : decode cX7_aCitizen 92 = .ok (.iadd, 1) := dk_96 (dk_at dksX7_aCitizen_3 20 rfl rfl)
theorem dX7_aCitizen_93 : decode cX7_aCitizen 93 = .ok (.iastore, 1) := dk_79 (dk_at dksX7_aCitizen_3 21 rfl rfl)
theorem dX7_aCitizen_94 : decode cX7_aCitizen 94 = .ok (.iconst 1, 1) := dk_4 (dk_at dksX7_aCitizen_3 22 rfl rfl)
theorem dX7_aCitizen_95 : decode cX7_aCitizen 95 = .ok (.ireturn, 1) := dk_172 (dk_at dksX7_aCitizen_3 23 rfl rfl)
abbrev cX7_bits : ByteArray := prog_16_method_54_code
def yX7_bits : MethodName := ⟨RX7, "bits", "(I)I"⟩
def dkwX7_bits_0 : List UInt8 := [3, 60, 26, 61, 28, 153, 0, 15, 132, 1, 1, 28, 28, 4, 100, 126, 61, 167, 255, 243, 27, 172]
abbrev dktX7_bits_0 : List UInt8 := dkwX7_bits_0 ++ []
theorem dksX7_bits_0 : cX7_bits.data.toList.drop 0 = dktX7_bits_0 := by decide +kernel
theorem dX7_bits_0 : decode cX7_bits 0 = .ok (.iconst 0, 1) := dk_3 (dk_at dksX7_bits_0 0 rfl rfl)
theorem dX7_bits_1 : decode cX7_bits 1 = .ok (.istore_n 1, 1) := dk_60 (dk_at dksX7_bits_0 1 rfl rfl)
theorem dX7_bits_2 : decode cX7_bits 2 = .ok (.iload_n 0, 1) := dk_26 (dk_at dksX7_bits_0 2 rfl rfl)
theorem dX7_bits_3 : decode cX7_bits 3 = .ok (.istore_n 2, 1) := dk_61 (dk_at dksX7_bits_0 3 rfl rfl)
theorem dX7_bits_4 : decode cX7_bits 4 = .ok (.iload_n 2, 1) := dk_28 (dk_at dksX7_bits_0 4 rfl rfl)
theorem dX7_bits_5 : decode cX7_bits 5 = .ok (.ifCond .eq 15, 3) := dk_153 0 15 (dk_at dksX7_bits_0 5 rfl rfl)
theorem dX7_bits_8 : decode cX7_bits 8 = .ok (.iinc 1 1, 3) := dk_132 1 1 (dk_at dksX7_bits_0 8 rfl rfl)
theorem dX7_bits_11 : decode cX7_bits 11 = .ok (.iload_n 2, 1) := dk_28 (dk_at dksX7_bits_0 11 rfl rfl)
theorem dX7_bits_12 : decode cX7_bits 12 = .ok (.iload_n 2, 1) := dk_28 (dk_at dksX7_bits_0 12 rfl rfl)
theorem dX7_bits_13 : decode cX7_bits 13 = .ok (.iconst 1, 1) := dk_4 (dk_at dksX7_bits_0 13 rfl rfl)
theorem dX7_bits_14 : decode cX7_bits 14 = .ok (.isub, 1) := dk_100 (dk_at dksX7_bits_0 14 rfl rfl)
theorem dX7_bits_15 : decode cX7_bits 15 = .ok (.iand, 1) := dk_126 (dk_at dksX7_bits_0 15 rfl rfl)
theorem dX7_bits_16 : decode cX7_bits 16 = .ok (.istore_n 2, 1) := dk_61 (dk_at dksX7_bits_0 16 rfl rfl)
theorem dX7_bits_17 : decode cX7_bits 17 = .ok (.goto (-13), 3) := dk_167 255 243 (dk_at dksX7_bits_0 17 rfl rfl)
theorem dX7_bits_20 : decode cX7_bits 20 = .ok (.iload_n 1, 1) := dk_27 (dk_at dksX7_bits_0 20 rfl rfl)
theorem dX7_bits_21 : decode cX7_bits 21 = .ok (.ireturn, 1) := dk_172 (dk_at dksX7_bits_0 21 rfl rfl)
abbrev cX7_taken : ByteArray := prog_16_method_37_code
def yX7_taken : MethodName := ⟨RX7, "taken", "(I)I"⟩
def dkwX7_taken_1 : List UInt8 := [42, 27, 182, 0, 85, 172]
abbrev dktX7_taken_1 : List UInt8 := dkwX7_taken_1 ++ []
def dkwX7_taken_0 : List UInt8 := [42, 42, 180, 0, 151, 181, 0, 37, 42, 180, 0, 151, 158, 0, 12, 42, 16, 9, 182, 0, 81, 167, 0, 8]
abbrev dktX7_taken_0 : List UInt8 := dkwX7_taken_0 ++ dktX7_taken_1
theorem dksX7_taken_0 : cX7_taken.data.toList.drop 0 = dktX7_taken_0 := by decide +kernel
theorem dksX7_taken_1 : cX7_taken.data.toList.drop 24 = dktX7_taken_1 := dk_seg dksX7_taken_0 24 rfl rfl
theorem dX7_taken_0 : decode cX7_taken 0 = .ok (.aload_n 0, 1) := dk_42 (dk_at dksX7_taken_0 0 rfl rfl)
theorem dX7_taken_1 : decode cX7_taken 1 = .ok (.aload_n 0, 1) := dk_42 (dk_at dksX7_taken_0 1 rfl rfl)
theorem dX7_taken_2 : decode cX7_taken 2 = .ok (.getfield 151, 3) := dk_180 0 151 (dk_at dksX7_taken_0 2 rfl rfl)
theorem dX7_taken_5 : decode cX7_taken 5 = .ok (.putfield 37, 3) := dk_181 0 37 (dk_at dksX7_taken_0 5 rfl rfl)
theorem dX7_taken_8 : decode cX7_taken 8 = .ok (.aload_n 0, 1) := dk_42 (dk_at dksX7_taken_0 8 rfl rfl)
theorem dX7_taken_9 : decode cX7_taken 9 = .ok (.getfield 151, 3) := dk_180 0 151 (dk_at dksX7_taken_0 9 rfl rfl)
theorem dX7_taken_12 : decode cX7_taken 12 = .ok (.ifCond .le 12, 3) := dk_158 0 12 (dk_at dksX7_taken_0 12 rfl rfl)
theorem dX7_taken_15 : decode cX7_taken 15 = .ok (.aload_n 0, 1) := dk_42 (dk_at dksX7_taken_0 15 rfl rfl)
theorem dX7_taken_16 : decode cX7_taken 16 = .ok (.bipush 9, 2) := dk_16 9 (dk_at dksX7_taken_0 16 rfl rfl)
theorem dX7_taken_18 : decode cX7_taken 18 = .ok (.invokevirtual 81, 3) := dk_182 0 81 (dk_at dksX7_taken_0 18 rfl rfl)
theorem dX7_taken_21 : decode cX7_taken 21 = .ok (.goto 8, 3) := dk_167 0 8 (dk_at dksX7_taken_0 21 rfl rfl)
theorem dX7_taken_24 : decode cX7_taken 24 = .ok (.aload_n 0, 1) := dk_42 (dk_at dksX7_taken_1 0 rfl rfl)
theorem dX7_taken_25 : decode cX7_taken 25 = .ok (.iload_n 1, 1) := dk_27 (dk_at dksX7_taken_1 1 rfl rfl)
theorem dX7_taken_26 : decode cX7_taken 26 = .ok (.invokevirtual 85, 3) := dk_182 0 85 (dk_at dksX7_taken_1 2 rfl rfl)
theorem dX7_taken_29 : decode cX7_taken 29 = .ok (.ireturn, 1) := dk_172 (dk_at dksX7_taken_1 5 rfl rfl)
abbrev cX7_gives : ByteArray := prog_16_method_8_code
def yX7_gives : MethodName := ⟨RX7, "gives", "(I)I"⟩
def dkwX7_gives_0 : List UInt8 := [42, 3, 181, 0, 75, 27, 172]
abbrev dktX7_gives_0 : List UInt8 := dkwX7_gives_0 ++ []
theorem dksX7_gives_0 : cX7_gives.data.toList.drop 0 = dktX7_gives_0 := by decide +kernel
theorem dX7_gives_0 : decode cX7_gives 0 = .ok (.aload_n 0, 1) := dk_42 (dk_at dksX7_gives_0 0 rfl rfl)
theorem dX7_gives_1 : decode cX7_gives 1 = .ok (.iconst 0, 1) := dk_3 (dk_at dksX7_gives_0 1 rfl rfl)
theorem dX7_gives_2 : decode cX7_gives 2 = .ok (.putfield 75, 3) := dk_181 0 75 (dk_at dksX7_gives_0 2 rfl rfl)
theorem dX7_gives_5 : decode cX7_gives 5 = .ok (.iload_n 1, 1) := dk_27 (dk_at dksX7_gives_0 5 rfl rfl)
theorem dX7_gives_6 : decode cX7_gives 6 = .ok (.ireturn, 1) := dk_172 (dk_at dksX7_gives_0 6 rfl rfl)
abbrev cX7_year : ByteArray := prog_16_method_53_code
def yX7_year : MethodName := ⟨RX7, "year", "(I)I"⟩
def dkwX7_year_6 : List UInt8 := [172]
abbrev dktX7_year_6 : List UInt8 := dkwX7_year_6 ++ []
def dkwX7_year_5 : List UInt8 := [180, 0, 7, 17, 6, 104, 29, 96, 46, 79, 132, 3, 1, 167, 255, 230, 42, 42, 180, 0, 244, 182, 0, 229]
abbrev dktX7_year_5 : List UInt8 := dkwX7_year_5 ++ dktX7_year_6
def dkwX7_year_4 : List UInt8 := [180, 0, 7, 17, 6, 115, 46, 79, 16, 44, 62, 29, 17, 1, 149, 162, 0, 25, 42, 180, 0, 7, 29, 42]
abbrev dktX7_year_4 : List UInt8 := dkwX7_year_4 ++ dktX7_year_5
def dkwX7_year_3 : List UInt8 := [158, 0, 9, 42, 5, 182, 0, 163, 87, 42, 180, 0, 151, 154, 0, 50, 42, 180, 0, 7, 16, 11, 42]
abbrev dktX7_year_3 : List UInt8 := dkwX7_year_3 ++ dktX7_year_4
def dkwX7_year_2 : List UInt8 := [153, 0, 11, 42, 182, 0, 250, 61, 167, 255, 240, 42, 180, 0, 151, 154, 0, 16, 42, 180, 0, 241]
abbrev dktX7_year_2 : List UInt8 := dkwX7_year_2 ++ dktX7_year_3
def dkwX7_year_1 : List UInt8 := [3, 79, 42, 3, 181, 0, 241, 42, 3, 181, 0, 244, 4, 61, 28, 153, 0, 18, 42, 180, 0, 126]
abbrev dktX7_year_1 : List UInt8 := dkwX7_year_1 ++ dktX7_year_2
def dkwX7_year_0 : List UInt8 := [42, 27, 17, 1, 44, 182, 0, 213, 154, 0, 9, 42, 4, 182, 0, 81, 172, 42, 180, 0, 7, 17, 6, 115]
abbrev dktX7_year_0 : List UInt8 := dkwX7_year_0 ++ dktX7_year_1
theorem dksX7_year_0 : cX7_year.data.toList.drop 0 = dktX7_year_0 := by decide +kernel
theorem dksX7_year_1 : cX7_year.data.toList.drop 24 = dktX7_year_1 := dk_seg dksX7_year_0 24 rfl rfl
theorem dksX7_year_2 : cX7_year.data.toList.drop 46 = dktX7_year_2 := dk_seg dksX7_year_1 22 rfl rfl
theorem dksX7_year_3 : cX7_year.data.toList.drop 68 = dktX7_year_3 := dk_seg dksX7_year_2 22 rfl rfl
theorem dksX7_year_4 : cX7_year.data.toList.drop 91 = dktX7_year_4 := dk_seg dksX7_year_3 23 rfl rfl
theorem dksX7_year_5 : cX7_year.data.toList.drop 115 = dktX7_year_5 := dk_seg dksX7_year_4 24 rfl rfl
theorem dksX7_year_6 : cX7_year.data.toList.drop 139 = dktX7_year_6 := dk_seg dksX7_year_5 24 rfl rfl
theorem dX7_year_0 : decode cX7_year 0 = .ok (.aload_n 0, 1) := dk_42 (dk_at dksX7_year_0 0 rfl rfl)
theorem dX7_year_1 : decode cX7_year 1 = .ok (.iload_n 1, 1) := dk_27 (dk_at dksX7_year_0 1 rfl rfl)
theorem dX7_year_2 : decode cX7_year 2 = .ok (.sipush 300, 3) := dk_17 1 44 (dk_at dksX7_year_0 2 rfl rfl)
theorem dX7_year_5 : decode cX7_year 5 = .ok (.invokevirtual 213, 3) := dk_182 0 213 (dk_at dksX7_year_0 5 rfl rfl)
theorem dX7_year_8 : decode cX7_year 8 = .ok (.ifCond .ne 9, 3) := dk_154 0 9 (dk_at dksX7_year_0 8 rfl rfl)
theorem dX7_year_11 : decode cX7_year 11 = .ok (.aload_n 0, 1) := dk_42 (dk_at dksX7_year_0 11 rfl rfl)
theorem dX7_year_12 : decode cX7_year 12 = .ok (.iconst 1, 1) := dk_4 (dk_at dksX7_year_0 12 rfl rfl)
theorem dX7_year_13 : decode cX7_year 13 = .ok (.invokevirtual 81, 3) := dk_182 0 81 (dk_at dksX7_year_0 13 rfl rfl)
theorem dX7_year_16 : decode cX7_year 16 = .ok (.ireturn, 1) := dk_172 (dk_at dksX7_year_0 16 rfl rfl)
theorem dX7_year_17 : decode cX7_year 17 = .ok (.aload_n 0, 1) := dk_42 (dk_at dksX7_year_0 17 rfl rfl)
theorem dX7_year_18 : decode cX7_year 18 = .ok (.getfield 7, 3) := dk_180 0 7 (dk_at dksX7_year_0 18 rfl rfl)
theorem dX7_year_21 : decode cX7_year 21 = .ok (.sipush 1651, 3) := dk_17 6 115 (dk_at dksX7_year_0 21 rfl rfl)
theorem dX7_year_24 : decode cX7_year 24 = .ok (.iconst 0, 1) := dk_3 (dk_at dksX7_year_1 0 rfl rfl)
theorem dX7_year_25 : decode cX7_year 25 = .ok (.iastore, 1) := dk_79 (dk_at dksX7_year_1 1 rfl rfl)
theorem dX7_year_26 : decode cX7_year 26 = .ok (.aload_n 0, 1) := dk_42 (dk_at dksX7_year_1 2 rfl rfl)
theorem dX7_year_27 : decode cX7_year 27 = .ok (.iconst 0, 1) := dk_3 (dk_at dksX7_year_1 3 rfl rfl)
theorem dX7_year_28 : decode cX7_year 28 = .ok (.putfield 241, 3) := dk_181 0 241 (dk_at dksX7_year_1 4 rfl rfl)
theorem dX7_year_31 : decode cX7_year 31 = .ok (.aload_n 0, 1) := dk_42 (dk_at dksX7_year_1 7 rfl rfl)
theorem dX7_year_32 : decode cX7_year 32 = .ok (.iconst 0, 1) := dk_3 (dk_at dksX7_year_1 8 rfl rfl)
theorem dX7_year_33 : decode cX7_year 33 = .ok (.putfield 244, 3) := dk_181 0 244 (dk_at dksX7_year_1 9 rfl rfl)
theorem dX7_year_36 : decode cX7_year 36 = .ok (.iconst 1, 1) := dk_4 (dk_at dksX7_year_1 12 rfl rfl)
theorem dX7_year_37 : decode cX7_year 37 = .ok (.istore_n 2, 1) := dk_61 (dk_at dksX7_year_1 13 rfl rfl)
theorem dX7_year_38 : decode cX7_year 38 = .ok (.iload_n 2, 1) := dk_28 (dk_at dksX7_year_1 14 rfl rfl)
theorem dX7_year_39 : decode cX7_year 39 = .ok (.ifCond .eq 18, 3) := dk_153 0 18 (dk_at dksX7_year_1 15 rfl rfl)
theorem dX7_year_42 : decode cX7_year 42 = .ok (.aload_n 0, 1) := dk_42 (dk_at dksX7_year_1 18 rfl rfl)
theorem dX7_year_43 : decode cX7_year 43 = .ok (.getfield 126, 3) := dk_180 0 126 (dk_at dksX7_year_1 19 rfl rfl)
theorem dX7_year_46 : decode cX7_year 46 = .ok (.ifCond .eq 11, 3) := dk_153 0 11 (dk_at dksX7_year_2 0 rfl rfl)
theorem dX7_year_49 : decode cX7_year 49 = .ok (.aload_n 0, 1) := dk_42 (dk_at dksX7_year_2 3 rfl rfl)
theorem dX7_year_50 : decode cX7_year 50 = .ok (.invokevirtual 250, 3) := dk_182 0 250 (dk_at dksX7_year_2 4 rfl rfl)
theorem dX7_year_53 : decode cX7_year 53 = .ok (.istore_n 2, 1) := dk_61 (dk_at dksX7_year_2 7 rfl rfl)
theorem dX7_year_54 : decode cX7_year 54 = .ok (.goto (-16), 3) := dk_167 255 240 (dk_at dksX7_year_2 8 rfl rfl)
theorem dX7_year_57 : decode cX7_year 57 = .ok (.aload_n 0, 1) := dk_42 (dk_at dksX7_year_2 11 rfl rfl)
theorem dX7_year_58 : decode cX7_year 58 = .ok (.getfield 151, 3) := dk_180 0 151 (dk_at dksX7_year_2 12 rfl rfl)
theorem dX7_year_61 : decode cX7_year 61 = .ok (.ifCond .ne 16, 3) := dk_154 0 16 (dk_at dksX7_year_2 15 rfl rfl)
theorem dX7_year_64 : decode cX7_year 64 = .ok (.aload_n 0, 1) := dk_42 (dk_at dksX7_year_2 18 rfl rfl)
theorem dX7_year_65 : decode cX7_year 65 = .ok (.getfield 241, 3) := dk_180 0 241 (dk_at dksX7_year_2 19 rfl rfl)
theorem dX7_year_68 : decode cX7_year 68 = .ok (.ifCond .le 9, 3) := dk_158 0 9 (dk_at dksX7_year_3 0 rfl rfl)
theorem dX7_year_71 : decode cX7_year 71 = .ok (.aload_n 0, 1) := dk_42 (dk_at dksX7_year_3 3 rfl rfl)
theorem dX7_year_72 : decode cX7_year 72 = .ok (.iconst 2, 1) := dk_5 (dk_at dksX7_year_3 4 rfl rfl)
theorem dX7_year_73 : decode cX7_year 73 = .ok (.invokevirtual 163, 3) := dk_182 0 163 (dk_at dksX7_year_3 5 rfl rfl)
theorem dX7_year_76 : decode cX7_year 76 = .ok (.pop, 1) := dk_87 (dk_at dksX7_year_3 8 rfl rfl)
theorem dX7_year_77 : decode cX7_year 77 = .ok (.aload_n 0, 1) := dk_42 (dk_at dksX7_year_3 9 rfl rfl)
theorem dX7_year_78 : decode cX7_year 78 = .ok (.getfield 151, 3) := dk_180 0 151 (dk_at dksX7_year_3 10 rfl rfl)
theorem dX7_year_81 : decode cX7_year 81 = .ok (.ifCond .ne 50, 3) := dk_154 0 50 (dk_at dksX7_year_3 13 rfl rfl)
theorem dX7_year_84 : decode cX7_year 84 = .ok (.aload_n 0, 1) := dk_42 (dk_at dksX7_year_3 16 rfl rfl)
theorem dX7_year_85 : decode cX7_year 85 = .ok (.getfield 7, 3) := dk_180 0 7 (dk_at dksX7_year_3 17 rfl rfl)
theorem dX7_year_88 : decode cX7_year 88 = .ok (.bipush 11, 2) := dk_16 11 (dk_at dksX7_year_3 20 rfl rfl)
theorem dX7_year_90 : decode cX7_year 90 = .ok (.aload_n 0, 1) := dk_42 (dk_at dksX7_year_3 22 rfl rfl)
theorem dX7_year_91 : decode cX7_year 91 = .ok (.getfield 7, 3) := dk_180 0 7 (dk_at dksX7_year_4 0 rfl rfl)
theorem dX7_year_94 : decode cX7_year 94 = .ok (.sipush 1651, 3) := dk_17 6 115 (dk_at dksX7_year_4 3 rfl rfl)
theorem dX7_year_97 : decode cX7_year 97 = .ok (.iaload, 1) := dk_46 (dk_at dksX7_year_4 6 rfl rfl)
theorem dX7_year_98 : decode cX7_year 98 = .ok (.iastore, 1) := dk_79 (dk_at dksX7_year_4 7 rfl rfl)
theorem dX7_year_99 : decode cX7_year 99 = .ok (.bipush 44, 2) := dk_16 44 (dk_at dksX7_year_4 8 rfl rfl)
theorem dX7_year_101 : decode cX7_year 101 = .ok (.istore_n 3, 1) := dk_62 (dk_at dksX7_year_4 10 rfl rfl)
theorem dX7_year_102 : decode cX7_year 102 = .ok (.iload_n 3, 1) := dk_29 (dk_at dksX7_year_4 11 rfl rfl)
theorem dX7_year_103 : decode cX7_year 103 = .ok (.sipush 405, 3) := dk_17 1 149 (dk_at dksX7_year_4 12 rfl rfl)
theorem dX7_year_106 : decode cX7_year 106 = .ok (.if_icmp .ge 25, 3) := dk_162 0 25 (dk_at dksX7_year_4 15 rfl rfl)
theorem dX7_year_109 : decode cX7_year 109 = .ok (.aload_n 0, 1) := dk_42 (dk_at dksX7_year_4 18 rfl rfl)
theorem dX7_year_110 : decode cX7_year 110 = .ok (.getfield 7, 3) := dk_180 0 7 (dk_at dksX7_year_4 19 rfl rfl)
theorem dX7_year_113 : decode cX7_year 113 = .ok (.iload_n 3, 1) := dk_29 (dk_at dksX7_year_4 22 rfl rfl)
theorem dX7_year_114 : decode cX7_year 114 = .ok (.aload_n 0, 1) := dk_42 (dk_at dksX7_year_4 23 rfl rfl)
theorem dX7_year_115 : decode cX7_year 115 = .ok (.getfield 7, 3) := dk_180 0 7 (dk_at dksX7_year_5 0 rfl rfl)
theorem dX7_year_118 : decode cX7_year 118 = .ok (.sipush 1640, 3) := dk_17 6 104 (dk_at dksX7_year_5 3 rfl rfl)
theorem dX7_year_121 : decode cX7_year 121 = .ok (.iload_n 3, 1) := dk_29 (dk_at dksX7_year_5 6 rfl rfl)
theorem dX7_year_122 : decode cX7_year 122 = .ok (.iadd, 1) := dk_96 (dk_at dksX7_year_5 7 rfl rfl)
theorem dX7_year_123 : decode cX7_year 123 = .ok (.iaload, 1) := dk_46 (dk_at dksX7_year_5 8 rfl rfl)
theorem dX7_year_124 : decode cX7_year 124 = .ok (.iastore, 1) := dk_79 (dk_at dksX7_year_5 9 rfl rfl)
theorem dX7_year_125 : decode cX7_year 125 = .ok (.iinc 3 1, 3) := dk_132 3 1 (dk_at dksX7_year_5 10 rfl rfl)
theorem dX7_year_128 : decode cX7_year 128 = .ok (.goto (-26), 3) := dk_167 255 230 (dk_at dksX7_year_5 13 rfl rfl)
theorem dX7_year_131 : decode cX7_year 131 = .ok (.aload_n 0, 1) := dk_42 (dk_at dksX7_year_5 16 rfl rfl)
theorem dX7_year_132 : decode cX7_year 132 = .ok (.aload_n 0, 1) := dk_42 (dk_at dksX7_year_5 17 rfl rfl)
theorem dX7_year_133 : decode cX7_year 133 = .ok (.getfield 244, 3) := dk_180 0 244 (dk_at dksX7_year_5 18 rfl rfl)
theorem dX7_year_136 : decode cX7_year 136 = .ok (.invokevirtual 229, 3) := dk_182 0 229 (dk_at dksX7_year_5 21 rfl rfl)
theorem dX7_year_139 : decode cX7_year 139 = .ok (.ireturn, 1) := dk_172 (dk_at dksX7_year_6 0 rfl rfl)
abbrev cX7_yearStep : ByteArray := prog_16_method_52_code
def yX7_yearStep : MethodName := ⟨RX7, "yearStep", "()Z"⟩
def dkwX7_yearStep_12 : List UInt8 := [182, 0, 194, 172]
abbrev dktX7_yearStep_12 : List UInt8 := dkwX7_yearStep_12 ++ []
def dkwX7_yearStep_11 : List UInt8 := [17, 6, 148, 16, 6, 42, 180, 0, 44, 42, 180, 0, 241, 46, 104, 96, 7, 96, 28, 79, 42, 16, 59]
abbrev dktX7_yearStep_11 : List UInt8 := dkwX7_yearStep_11 ++ dktX7_yearStep_12
def dkwX7_yearStep_10 : List UInt8 := [181, 0, 241, 42, 180, 0, 7, 29, 7, 96, 42, 180, 0, 44, 42, 180, 0, 241, 46, 79, 42, 180, 0, 7]
abbrev dktX7_yearStep_10 : List UInt8 := dkwX7_yearStep_10 ++ dktX7_yearStep_11
def dkwX7_yearStep_9 : List UInt8 := [42, 89, 180, 0, 241, 4, 96, 181, 0, 241, 27, 16, 17, 160, 0, 54, 42, 89, 180, 0, 241, 4, 100]
abbrev dktX7_yearStep_9 : List UInt8 := dkwX7_yearStep_9 ++ dktX7_yearStep_10
def dkwX7_yearStep_8 : List UInt8 := [29, 182, 0, 247, 154, 0, 5, 3, 172, 21, 4, 153, 0, 23, 42, 180, 0, 44, 42, 180, 0, 241, 28, 79]
abbrev dktX7_yearStep_8 : List UInt8 := dkwX7_yearStep_8 ++ dktX7_yearStep_9
def dkwX7_yearStep_7 : List UInt8 := [132, 5, 1, 167, 255, 236, 42, 180, 0, 7, 17, 6, 115, 92, 46, 4, 96, 79, 42, 182, 0, 157, 42, 27]
abbrev dktX7_yearStep_7 : List UInt8 := dkwX7_yearStep_7 ++ dktX7_yearStep_8
def dkwX7_yearStep_6 : List UInt8 := [29, 27, 79, 4, 54, 5, 21, 5, 16, 6, 162, 0, 19, 42, 180, 0, 7, 29, 21, 5, 96, 3, 79]
abbrev dktX7_yearStep_6 : List UInt8 := dkwX7_yearStep_6 ++ dktX7_yearStep_7
def dkwX7_yearStep_5 : List UInt8 := [42, 89, 180, 0, 244, 27, 16, 17, 160, 0, 7, 3, 167, 0, 4, 4, 96, 181, 0, 244, 42, 180, 0, 7]
abbrev dktX7_yearStep_5 : List UInt8 := dkwX7_yearStep_5 ++ dktX7_yearStep_6
def dkwX7_yearStep_4 : List UInt8 := [182, 0, 163, 172, 21, 4, 153, 0, 18, 42, 180, 0, 241, 6, 160, 0, 10, 42, 16, 7, 182, 0, 163, 172]
abbrev dktX7_yearStep_4 : List UInt8 := dkwX7_yearStep_4 ++ dktX7_yearStep_5
def dkwX7_yearStep_3 : List UInt8 := [182, 0, 163, 172, 27, 16, 17, 159, 0, 19, 42, 180, 0, 244, 16, 30, 160, 0, 10, 42, 16, 6]
abbrev dktX7_yearStep_3 : List UInt8 := dkwX7_yearStep_3 ++ dktX7_yearStep_4
def dkwX7_yearStep_2 : List UInt8 := [161, 0, 22, 27, 16, 18, 163, 0, 16, 27, 16, 17, 160, 0, 16, 42, 180, 0, 241, 154, 0, 9, 42, 5]
abbrev dktX7_yearStep_2 : List UInt8 := dkwX7_yearStep_2 ++ dktX7_yearStep_3
def dkwX7_yearStep_1 : List UInt8 := [62, 27, 16, 15, 159, 0, 9, 27, 16, 16, 160, 0, 7, 4, 167, 0, 4, 3, 54, 4, 27, 16, 9]
abbrev dktX7_yearStep_1 : List UInt8 := dkwX7_yearStep_1 ++ dktX7_yearStep_2
def dkwX7_yearStep_0 : List UInt8 := [42, 18, 174, 182, 0, 166, 60, 42, 180, 0, 7, 17, 6, 115, 46, 61, 17, 6, 148, 16, 6, 28, 104, 96]
abbrev dktX7_yearStep_0 : List UInt8 := dkwX7_yearStep_0 ++ dktX7_yearStep_1
theorem dksX7_yearStep_0 : cX7_yearStep.data.toList.drop 0 = dktX7_yearStep_0 := by decide +kernel
theorem dksX7_yearStep_1 : cX7_yearStep.data.toList.drop 24 = dktX7_yearStep_1 := dk_seg dksX7_yearStep_0 24 rfl rfl
theorem dksX7_yearStep_2 : cX7_yearStep.data.toList.drop 47 = dktX7_yearStep_2 := dk_seg dksX7_yearStep_1 23 rfl rfl
theorem dksX7_yearStep_3 : cX7_yearStep.data.toList.drop 71 = dktX7_yearStep_3 := dk_seg dksX7_yearStep_2 24 rfl rfl
theorem dksX7_yearStep_4 : cX7_yearStep.data.toList.drop 93 = dktX7_yearStep_4 := dk_seg dksX7_yearStep_3 22 rfl rfl
theorem dksX7_yearStep_5 : cX7_yearStep.data.toList.drop 117 = dktX7_yearStep_5 := dk_seg dksX7_yearStep_4 24 rfl rfl
theorem dksX7_yearStep_6 : cX7_yearStep.data.toList.drop 141 = dktX7_yearStep_6 := dk_seg dksX7_yearStep_5 24 rfl rfl
theorem dksX7_yearStep_7 : cX7_yearStep.data.toList.drop 164 = dktX7_yearStep_7 := dk_seg dksX7_yearStep_6 23 rfl rfl
theorem dksX7_yearStep_8 : cX7_yearStep.data.toList.drop 188 = dktX7_yearStep_8 := dk_seg dksX7_yearStep_7 24 rfl rfl
theorem dksX7_yearStep_9 : cX7_yearStep.data.toList.drop 212 = dktX7_yearStep_9 := dk_seg dksX7_yearStep_8 24 rfl rfl
theorem dksX7_yearStep_10 : cX7_yearStep.data.toList.drop 235 = dktX7_yearStep_10 := dk_seg dksX7_yearStep_9 23 rfl rfl
theorem dksX7_yearStep_11 : cX7_yearStep.data.toList.drop 259 = dktX7_yearStep_11 := dk_seg dksX7_yearStep_10 24 rfl rfl
theorem dksX7_yearStep_12 : cX7_yearStep.data.toList.drop 282 = dktX7_yearStep_12 := dk_seg dksX7_yearStep_11 23 rfl rfl
theorem dX7_yearStep_0 : decode cX7_yearStep 0 = .ok (.aload_n 0, 1) := dk_42 (dk_at dksX7_yearStep_0 0 rfl rfl)
theorem dX7_yearStep_1 : decode cX7_yearStep 1 = .ok (.ldc 174, 2) := dk_18 174 (dk_at dksX7_yearStep_0 1 rfl rfl)
theorem dX7_yearStep_3 : decode cX7_yearStep 3 = .ok (.invokevirtual 166, 3) := dk_182 0 166 (dk_at dksX7_yearStep_0 3 rfl rfl)
theorem dX7_yearStep_6 : decode cX7_yearStep 6 = .ok (.istore_n 1, 1) := dk_60 (dk_at dksX7_yearStep_0 6 rfl rfl)
theorem dX7_yearStep_7 : decode cX7_yearStep 7 = .ok (.aload_n 0, 1) := dk_42 (dk_at dksX7_yearStep_0 7 rfl rfl)
theorem dX7_yearStep_8 : decode cX7_yearStep 8 = .ok (.getfield 7, 3) := dk_180 0 7 (dk_at dksX7_yearStep_0 8 rfl rfl)
theorem dX7_yearStep_11 : decode cX7_yearStep 11 = .ok (.sipush 1651, 3) := dk_17 6 115 (dk_at dksX7_yearStep_0 11 rfl rfl)
theorem dX7_yearStep_14 : decode cX7_yearStep 14 = .ok (.iaload, 1) := dk_46 (dk_at dksX7_yearStep_0 14 rfl rfl)
theorem dX7_yearStep_15 : decode cX7_yearStep 15 = .ok (.istore_n 2, 1) := dk_61 (dk_at dksX7_yearStep_0 15 rfl rfl)
theorem dX7_yearStep_16 : decode cX7_yearStep 16 = .ok (.sipush 1684, 3) := dk_17 6 148 (dk_at dksX7_yearStep_0 16 rfl rfl)
theorem dX7_yearStep_19 : decode cX7_yearStep 19 = .ok (.bipush 6, 2) := dk_16 6 (dk_at dksX7_yearStep_0 19 rfl rfl)
theorem dX7_yearStep_21 : decode cX7_yearStep 21 = .ok (.iload_n 2, 1) := dk_28 (dk_at dksX7_yearStep_0 21 rfl rfl)
theorem dX7_yearStep_22 : decode cX7_yearStep 22 = .ok (.imul, 1) := dk_104 (dk_at dksX7_yearStep_0 22 rfl rfl)
theorem dX7_yearStep_23 : decode cX7_yearStep 23 = .ok (.iadd, 1) := dk_96 (dk_at dksX7_yearStep_0 23 rfl rfl)
theorem dX7_yearStep_24 : decode cX7_yearStep 24 = .ok (.istore_n 3, 1) := dk_62 (dk_at dksX7_yearStep_1 0 rfl rfl)
theorem dX7_yearStep_25 : decode cX7_yearStep 25 = .ok (.iload_n 1, 1) := dk_27 (dk_at dksX7_yearStep_1 1 rfl rfl)
theorem dX7_yearStep_26 : decode cX7_yearStep 26 = .ok (.bipush 15, 2) := dk_16 15 (dk_at dksX7_yearStep_1 2 rfl rfl)
theorem dX7_yearStep_28 : decode cX7_yearStep 28 = .ok (.if_icmp .eq 9, 3) := dk_159 0 9 (dk_at dksX7_yearStep_1 4 rfl rfl)
theorem dX7_yearStep_31 : decode cX7_yearStep 31 = .ok (.iload_n 1, 1) := dk_27 (dk_at dksX7_yearStep_1 7 rfl rfl)
theorem dX7_yearStep_32 : decode cX7_yearStep 32 = .ok (.bipush 16, 2) := dk_16 16 (dk_at dksX7_yearStep_1 8 rfl rfl)
theorem dX7_yearStep_34 : decode cX7_yearStep 34 = .ok (.if_icmp .ne 7, 3) := dk_160 0 7 (dk_at dksX7_yearStep_1 10 rfl rfl)
theorem dX7_yearStep_37 : decode cX7_yearStep 37 = .ok (.iconst 1, 1) := dk_4 (dk_at dksX7_yearStep_1 13 rfl rfl)
theorem dX7_yearStep_38 : decode cX7_yearStep 38 = .ok (.goto 4, 3) := dk_167 0 4 (dk_at dksX7_yearStep_1 14 rfl rfl)
theorem dX7_yearStep_41 : decode cX7_yearStep 41 = .ok (.iconst 0, 1) := dk_3 (dk_at dksX7_yearStep_1 17 rfl rfl)
theorem dX7_yearStep_42 : decode cX7_yearStep 42 = .ok (.istore 4, 2) := dk_54 4 (dk_at dksX7_yearStep_1 18 rfl rfl)
theorem dX7_yearStep_44 : decode cX7_yearStep 44 = .ok (.iload_n 1, 1) := dk_27 (dk_at dksX7_yearStep_1 20 rfl rfl)
theorem dX7_yearStep_45 : decode cX7_yearStep 45 = .ok (.bipush 9, 2) := dk_16 9 (dk_at dksX7_yearStep_1 21 rfl rfl)
theorem dX7_yearStep_47 : decode cX7_yearStep 47 = .ok (.if_icmp .lt 22, 3) := dk_161 0 22 (dk_at dksX7_yearStep_2 0 rfl rfl)
theorem dX7_yearStep_50 : decode cX7_yearStep 50 = .ok (.iload_n 1, 1) := dk_27 (dk_at dksX7_yearStep_2 3 rfl rfl)
theorem dX7_yearStep_51 : decode cX7_yearStep 51 = .ok (.bipush 18, 2) := dk_16 18 (dk_at dksX7_yearStep_2 4 rfl rfl)
theorem dX7_yearStep_53 : decode cX7_yearStep 53 = .ok (.if_icmp .gt 16, 3) := dk_163 0 16 (dk_at dksX7_yearStep_2 6 rfl rfl)
theorem dX7_yearStep_56 : decode cX7_yearStep 56 = .ok (.iload_n 1, 1) := dk_27 (dk_at dksX7_yearStep_2 9 rfl rfl)
theorem dX7_yearStep_57 : decode cX7_yearStep 57 = .ok (.bipush 17, 2) := dk_16 17 (dk_at dksX7_yearStep_2 10 rfl rfl)
theorem dX7_yearStep_59 : decode cX7_yearStep 59 = .ok (.if_icmp .ne 16, 3) := dk_160 0 16 (dk_at dksX7_yearStep_2 12 rfl rfl)
theorem dX7_yearStep_62 : decode cX7_yearStep 62 = .ok (.aload_n 0, 1) := dk_42 (dk_at dksX7_yearStep_2 15 rfl rfl)
theorem dX7_yearStep_63 : decode cX7_yearStep 63 = .ok (.getfield 241, 3) := dk_180 0 241 (dk_at dksX7_yearStep_2 16 rfl rfl)
theorem dX7_yearStep_66 : decode cX7_yearStep 66 = .ok (.ifCond .ne 9, 3) := dk_154 0 9 (dk_at dksX7_yearStep_2 19 rfl rfl)
theorem dX7_yearStep_69 : decode cX7_yearStep 69 = .ok (.aload_n 0, 1) := dk_42 (dk_at dksX7_yearStep_2 22 rfl rfl)
theorem dX7_yearStep_70 : decode cX7_yearStep 70 = .ok (.iconst 2, 1) := dk_5 (dk_at dksX7_yearStep_2 23 rfl rfl)
theorem dX7_yearStep_71 : decode cX7_yearStep 71 = .ok (.invokevirtual 163, 3) := dk_182 0 163 (dk_at dksX7_yearStep_3 0 rfl rfl)
theorem dX7_yearStep_74 : decode cX7_yearStep 74 = .ok (.ireturn, 1) := dk_172 (dk_at dksX7_yearStep_3 3 rfl rfl)
theorem dX7_yearStep_75 : decode cX7_yearStep 75 = .ok (.iload_n 1, 1) := dk_27 (dk_at dksX7_yearStep_3 4 rfl rfl)
theorem dX7_yearStep_76 : decode cX7_yearStep 76 = .ok (.bipush 17, 2) := dk_16 17 (dk_at dksX7_yearStep_3 5 rfl rfl)
theorem dX7_yearStep_78 : decode cX7_yearStep 78 = .ok (.if_icmp .eq 19, 3) := dk_159 0 19 (dk_at dksX7_yearStep_3 7 rfl rfl)
theorem dX7_yearStep_81 : decode cX7_yearStep 81 = .ok (.aload_n 0, 1) := dk_42 (dk_at dksX7_yearStep_3 10 rfl rfl)
theorem dX7_yearStep_82 : decode cX7_yearStep 82 = .ok (.getfield 244, 3) := dk_180 0 244 (dk_at dksX7_yearStep_3 11 rfl rfl)
theorem dX7_yearStep_85 : decode cX7_yearStep 85 = .ok (.bipush 30, 2) := dk_16 30 (dk_at dksX7_yearStep_3 14 rfl rfl)
theorem dX7_yearStep_87 : decode cX7_yearStep 87 = .ok (.if_icmp .ne 10, 3) := dk_160 0 10 (dk_at dksX7_yearStep_3 16 rfl rfl)
theorem dX7_yearStep_90 : decode cX7_yearStep 90 = .ok (.aload_n 0, 1) := dk_42 (dk_at dksX7_yearStep_3 19 rfl rfl)
theorem dX7_yearStep_91 : decode cX7_yearStep 91 = .ok (.bipush 6, 2) := dk_16 6 (dk_at dksX7_yearStep_3 20 rfl rfl)
theorem dX7_yearStep_93 : decode cX7_yearStep 93 = .ok (.invokevirtual 163, 3) := dk_182 0 163 (dk_at dksX7_yearStep_4 0 rfl rfl)
theorem dX7_yearStep_96 : decode cX7_yearStep 96 = .ok (.ireturn, 1) := dk_172 (dk_at dksX7_yearStep_4 3 rfl rfl)
theorem dX7_yearStep_97 : decode cX7_yearStep 97 = .ok (.iload 4, 2) := dk_21 4 (dk_at dksX7_yearStep_4 4 rfl rfl)
theorem dX7_yearStep_99 : decode cX7_yearStep 99 = .ok (.ifCond .eq 18, 3) := dk_153 0 18 (dk_at dksX7_yearStep_4 6 rfl rfl)
theorem dX7_yearStep_102 : decode cX7_yearStep 102 = .ok (.aload_n 0, 1) := dk_42 (dk_at dksX7_yearStep_4 9 rfl rfl)
theorem dX7_yearStep_103 : decode cX7_yearStep 103 = .ok (.getfield 241, 3) := dk_180 0 241 (dk_at dksX7_yearStep_4 10 rfl rfl)
theorem dX7_yearStep_106 : decode cX7_yearStep 106 = .ok (.iconst 3, 1) := dk_6 (dk_at dksX7_yearStep_4 13 rfl rfl)
theorem dX7_yearStep_107 : decode cX7_yearStep 107 = .ok (.if_icmp .ne 10, 3) := dk_160 0 10 (dk_at dksX7_yearStep_4 14 rfl rfl)
theorem dX7_yearStep_110 : decode cX7_yearStep 110 = .ok (.aload_n 0, 1) := dk_42 (dk_at dksX7_yearStep_4 17 rfl rfl)
theorem dX7_yearStep_111 : decode cX7_yearStep 111 = .ok (.bipush 7, 2) := dk_16 7 (dk_at dksX7_yearStep_4 18 rfl rfl)
theorem dX7_yearStep_113 : decode cX7_yearStep 113 = .ok (.invokevirtual 163, 3) := dk_182 0 163 (dk_at dksX7_yearStep_4 20 rfl rfl)
theorem dX7_yearStep_116 : decode cX7_yearStep 116 = .ok (.ireturn, 1) := dk_172 (dk_at dksX7_yearStep_4 23 rfl rfl)
theorem dX7_yearStep_117 : decode cX7_yearStep 117 = .ok (.aload_n 0, 1) := dk_42 (dk_at dksX7_yearStep_5 0 rfl rfl)
theorem dX7_yearStep_118 : decode cX7_yearStep 118 = .ok (.dup, 1) := dk_89 (dk_at dksX7_yearStep_5 1 rfl rfl)
theorem dX7_yearStep_119 : decode cX7_yearStep 119 = .ok (.getfield 244, 3) := dk_180 0 244 (dk_at dksX7_yearStep_5 2 rfl rfl)
theorem dX7_yearStep_122 : decode cX7_yearStep 122 = .ok (.iload_n 1, 1) := dk_27 (dk_at dksX7_yearStep_5 5 rfl rfl)
theorem dX7_yearStep_123 : decode cX7_yearStep 123 = .ok (.bipush 17, 2) := dk_16 17 (dk_at dksX7_yearStep_5 6 rfl rfl)
theorem dX7_yearStep_125 : decode cX7_yearStep 125 = .ok (.if_icmp .ne 7, 3) := dk_160 0 7 (dk_at dksX7_yearStep_5 8 rfl rfl)
theorem dX7_yearStep_128 : decode cX7_yearStep 128 = .ok (.iconst 0, 1) := dk_3 (dk_at dksX7_yearStep_5 11 rfl rfl)
theorem dX7_yearStep_129 : decode cX7_yearStep 129 = .ok (.goto 4, 3) := dk_167 0 4 (dk_at dksX7_yearStep_5 12 rfl rfl)
theorem dX7_yearStep_132 : decode cX7_yearStep 132 = .ok (.iconst 1, 1) := dk_4 (dk_at dksX7_yearStep_5 15 rfl rfl)
theorem dX7_yearStep_133 : decode cX7_yearStep 133 = .ok (.iadd, 1) := dk_96 (dk_at dksX7_yearStep_5 16 rfl rfl)
theorem dX7_yearStep_134 : decode cX7_yearStep 134 = .ok (.putfield 244, 3) := dk_181 0 244 (dk_at dksX7_yearStep_5 17 rfl rfl)
theorem dX7_yearStep_137 : decode cX7_yearStep 137 = .ok (.aload_n 0, 1) := dk_42 (dk_at dksX7_yearStep_5 20 rfl rfl)
theorem dX7_yearStep_138 : decode cX7_yearStep 138 = .ok (.getfield 7, 3) := dk_180 0 7 (dk_at dksX7_yearStep_5 21 rfl rfl)
theorem dX7_yearStep_141 : decode cX7_yearStep 141 = .ok (.iload_n 3, 1) := dk_29 (dk_at dksX7_yearStep_6 0 rfl rfl)
theorem dX7_yearStep_142 : decode cX7_yearStep 142 = .ok (.iload_n 1, 1) := dk_27 (dk_at dksX7_yearStep_6 1 rfl rfl)
theorem dX7_yearStep_143 : decode cX7_yearStep 143 = .ok (.iastore, 1) := dk_79 (dk_at dksX7_yearStep_6 2 rfl rfl)
theorem dX7_yearStep_144 : decode cX7_yearStep 144 = .ok (.iconst 1, 1) := dk_4 (dk_at dksX7_yearStep_6 3 rfl rfl)
theorem dX7_yearStep_145 : decode cX7_yearStep 145 = .ok (.istore 5, 2) := dk_54 5 (dk_at dksX7_yearStep_6 4 rfl rfl)
theorem dX7_yearStep_147 : decode cX7_yearStep 147 = .ok (.iload 5, 2) := dk_21 5 (dk_at dksX7_yearStep_6 6 rfl rfl)
theorem dX7_yearStep_149 : decode cX7_yearStep 149 = .ok (.bipush 6, 2) := dk_16 6 (dk_at dksX7_yearStep_6 8 rfl rfl)
theorem dX7_yearStep_151 : decode cX7_yearStep 151 = .ok (.if_icmp .ge 19, 3) := dk_162 0 19 (dk_at dksX7_yearStep_6 10 rfl rfl)
theorem dX7_yearStep_154 : decode cX7_yearStep 154 = .ok (.aload_n 0, 1) := dk_42 (dk_at dksX7_yearStep_6 13 rfl rfl)
theorem dX7_yearStep_155 : decode cX7_yearStep 155 = .ok (.getfield 7, 3) := dk_180 0 7 (dk_at dksX7_yearStep_6 14 rfl rfl)
theorem dX7_yearStep_158 : decode cX7_yearStep 158 = .ok (.iload_n 3, 1) := dk_29 (dk_at dksX7_yearStep_6 17 rfl rfl)
theorem dX7_yearStep_159 : decode cX7_yearStep 159 = .ok (.iload 5, 2) := dk_21 5 (dk_at dksX7_yearStep_6 18 rfl rfl)
theorem dX7_yearStep_161 : decode cX7_yearStep 161 = .ok (.iadd, 1) := dk_96 (dk_at dksX7_yearStep_6 20 rfl rfl)
theorem dX7_yearStep_162 : decode cX7_yearStep 162 = .ok (.iconst 0, 1) := dk_3 (dk_at dksX7_yearStep_6 21 rfl rfl)
theorem dX7_yearStep_163 : decode cX7_yearStep 163 = .ok (.iastore, 1) := dk_79 (dk_at dksX7_yearStep_6 22 rfl rfl)
theorem dX7_yearStep_164 : decode cX7_yearStep 164 = .ok (.iinc 5 1, 3) := dk_132 5 1 (dk_at dksX7_yearStep_7 0 rfl rfl)
theorem dX7_yearStep_167 : decode cX7_yearStep 167 = .ok (.goto (-20), 3) := dk_167 255 236 (dk_at dksX7_yearStep_7 3 rfl rfl)
theorem dX7_yearStep_170 : decode cX7_yearStep 170 = .ok (.aload_n 0, 1) := dk_42 (dk_at dksX7_yearStep_7 6 rfl rfl)
theorem dX7_yearStep_171 : decode cX7_yearStep 171 = .ok (.getfield 7, 3) := dk_180 0 7 (dk_at dksX7_yearStep_7 7 rfl rfl)
theorem dX7_yearStep_174 : decode cX7_yearStep 174 = .ok (.sipush 1651, 3) := dk_17 6 115 (dk_at dksX7_yearStep_7 10 rfl rfl)
theorem dX7_yearStep_177 : decode cX7_yearStep 177 = .ok (.dup2, 1) := dk_92 (dk_at dksX7_yearStep_7 13 rfl rfl)
theorem dX7_yearStep_178 : decode cX7_yearStep 178 = .ok (.iaload, 1) := dk_46 (dk_at dksX7_yearStep_7 14 rfl rfl)
theorem dX7_yearStep_179 : decode cX7_yearStep 179 = .ok (.iconst 1, 1) := dk_4 (dk_at dksX7_yearStep_7 15 rfl rfl)
theorem dX7_yearStep_180 : decode cX7_yearStep 180 = .ok (.iadd, 1) := dk_96 (dk_at dksX7_yearStep_7 16 rfl rfl)
theorem dX7_yearStep_181 : decode cX7_yearStep 181 = .ok (.iastore, 1) := dk_79 (dk_at dksX7_yearStep_7 17 rfl rfl)
theorem dX7_yearStep_182 : decode cX7_yearStep 182 = .ok (.aload_n 0, 1) := dk_42 (dk_at dksX7_yearStep_7 18 rfl rfl)
theorem dX7_yearStep_183 : decode cX7_yearStep 183 = .ok (.invokevirtual 157, 3) := dk_182 0 157 (dk_at dksX7_yearStep_7 19 rfl rfl)
theorem dX7_yearStep_186 : decode cX7_yearStep 186 = .ok (.aload_n 0, 1) := dk_42 (dk_at dksX7_yearStep_7 22 rfl rfl)
theorem dX7_yearStep_187 : decode cX7_yearStep 187 = .ok (.iload_n 1, 1) := dk_27 (dk_at dksX7_yearStep_7 23 rfl rfl)
theorem dX7_yearStep_188 : decode cX7_yearStep 188 = .ok (.iload_n 3, 1) := dk_29 (dk_at dksX7_yearStep_8 0 rfl rfl)
theorem dX7_yearStep_189 : decode cX7_yearStep 189 = .ok (.invokevirtual 247, 3) := dk_182 0 247 (dk_at dksX7_yearStep_8 1 rfl rfl)
theorem dX7_yearStep_192 : decode cX7_yearStep 192 = .ok (.ifCond .ne 5, 3) := dk_154 0 5 (dk_at dksX7_yearStep_8 4 rfl rfl)
theorem dX7_yearStep_195 : decode cX7_yearStep 195 = .ok (.iconst 0, 1) := dk_3 (dk_at dksX7_yearStep_8 7 rfl rfl)
theorem dX7_yearStep_196 : decode cX7_yearStep 196 = .ok (.ireturn, 1) := dk_172 (dk_at dksX7_yearStep_8 8 rfl rfl)
theorem dX7_yearStep_197 : decode cX7_yearStep 197 = .ok (.iload 4, 2) := dk_21 4 (dk_at dksX7_yearStep_8 9 rfl rfl)
theorem dX7_yearStep_199 : decode cX7_yearStep 199 = .ok (.ifCond .eq 23, 3) := dk_153 0 23 (dk_at dksX7_yearStep_8 11 rfl rfl)
theorem dX7_yearStep_202 : decode cX7_yearStep 202 = .ok (.aload_n 0, 1) := dk_42 (dk_at dksX7_yearStep_8 14 rfl rfl)
theorem dX7_yearStep_203 : decode cX7_yearStep 203 = .ok (.getfield 44, 3) := dk_180 0 44 (dk_at dksX7_yearStep_8 15 rfl rfl)
theorem dX7_yearStep_206 : decode cX7_yearStep 206 = .ok (.aload_n 0, 1) := dk_42 (dk_at dksX7_yearStep_8 18 rfl rfl)
theorem dX7_yearStep_207 : decode cX7_yearStep 207 = .ok (.getfield 241, 3) := dk_180 0 241 (dk_at dksX7_yearStep_8 19 rfl rfl)
theorem dX7_yearStep_210 : decode cX7_yearStep 210 = .ok (.iload_n 2, 1) := dk_28 (dk_at dksX7_yearStep_8 22 rfl rfl)
theorem dX7_yearStep_211 : decode cX7_yearStep 211 = .ok (.iastore, 1) := dk_79 (dk_at dksX7_yearStep_8 23 rfl rfl)
theorem dX7_yearStep_212 : decode cX7_yearStep 212 = .ok (.aload_n 0, 1) := dk_42 (dk_at dksX7_yearStep_9 0 rfl rfl)
theorem dX7_yearStep_213 : decode cX7_yearStep 213 = .ok (.dup, 1) := dk_89 (dk_at dksX7_yearStep_9 1 rfl rfl)
theorem dX7_yearStep_214 : decode cX7_yearStep 214 = .ok (.getfield 241, 3) := dk_180 0 241 (dk_at dksX7_yearStep_9 2 rfl rfl)
theorem dX7_yearStep_217 : decode cX7_yearStep 217 = .ok (.iconst 1, 1) := dk_4 (dk_at dksX7_yearStep_9 5 rfl rfl)
theorem dX7_yearStep_218 : decode cX7_yearStep 218 = .ok (.iadd, 1) := dk_96 (dk_at dksX7_yearStep_9 6 rfl rfl)
theorem dX7_yearStep_219 : decode cX7_yearStep 219 = .ok (.putfield 241, 3) := dk_181 0 241 (dk_at dksX7_yearStep_9 7 rfl rfl)
theorem dX7_yearStep_222 : decode cX7_yearStep 222 = .ok (.iload_n 1, 1) := dk_27 (dk_at dksX7_yearStep_9 10 rfl rfl)
theorem dX7_yearStep_223 : decode cX7_yearStep 223 = .ok (.bipush 17, 2) := dk_16 17 (dk_at dksX7_yearStep_9 11 rfl rfl)
theorem dX7_yearStep_225 : decode cX7_yearStep 225 = .ok (.if_icmp .ne 54, 3) := dk_160 0 54 (dk_at dksX7_yearStep_9 13 rfl rfl)
theorem dX7_yearStep_228 : decode cX7_yearStep 228 = .ok (.aload_n 0, 1) := dk_42 (dk_at dksX7_yearStep_9 16 rfl rfl)
theorem dX7_yearStep_229 : decode cX7_yearStep 229 = .ok (.dup, 1) := dk_89 (dk_at dksX7_yearStep_9 17 rfl rfl)
theorem dX7_yearStep_230 : decode cX7_yearStep 230 = .ok (.getfield 241, 3) := dk_180 0 241 (dk_at dksX7_yearStep_9 18 rfl rfl)
theorem dX7_yearStep_233 : decode cX7_yearStep 233 = .ok (.iconst 1, 1) := dk_4 (dk_at dksX7_yearStep_9 21 rfl rfl)
theorem dX7_yearStep_234 : decode cX7_yearStep 234 = .ok (.isub, 1) := dk_100 (dk_at dksX7_yearStep_9 22 rfl rfl)
theorem dX7_yearStep_235 : decode cX7_yearStep 235 = .ok (.putfield 241, 3) := dk_181 0 241 (dk_at dksX7_yearStep_10 0 rfl rfl)
theorem dX7_yearStep_238 : decode cX7_yearStep 238 = .ok (.aload_n 0, 1) := dk_42 (dk_at dksX7_yearStep_10 3 rfl rfl)
theorem dX7_yearStep_239 : decode cX7_yearStep 239 = .ok (.getfield 7, 3) := dk_180 0 7 (dk_at dksX7_yearStep_10 4 rfl rfl)
theorem dX7_yearStep_242 : decode cX7_yearStep 242 = .ok (.iload_n 3, 1) := dk_29 (dk_at dksX7_yearStep_10 7 rfl rfl)
theorem dX7_yearStep_243 : decode cX7_yearStep 243 = .ok (.iconst 4, 1) := dk_7 (dk_at dksX7_yearStep_10 8 rfl rfl)
theorem dX7_yearStep_244 : decode cX7_yearStep 244 = .ok (.iadd, 1) := dk_96 (dk_at dksX7_yearStep_10 9 rfl rfl)
theorem dX7_yearStep_245 : decode cX7_yearStep 245 = .ok (.aload_n 0, 1) := dk_42 (dk_at dksX7_yearStep_10 10 rfl rfl)
theorem dX7_yearStep_246 : decode cX7_yearStep 246 = .ok (.getfield 44, 3) := dk_180 0 44 (dk_at dksX7_yearStep_10 11 rfl rfl)
theorem dX7_yearStep_249 : decode cX7_yearStep 249 = .ok (.aload_n 0, 1) := dk_42 (dk_at dksX7_yearStep_10 14 rfl rfl)
theorem dX7_yearStep_250 : decode cX7_yearStep 250 = .ok (.getfield 241, 3) := dk_180 0 241 (dk_at dksX7_yearStep_10 15 rfl rfl)
theorem dX7_yearStep_253 : decode cX7_yearStep 253 = .ok (.iaload, 1) := dk_46 (dk_at dksX7_yearStep_10 18 rfl rfl)
theorem dX7_yearStep_254 : decode cX7_yearStep 254 = .ok (.iastore, 1) := dk_79 (dk_at dksX7_yearStep_10 19 rfl rfl)
theorem dX7_yearStep_255 : decode cX7_yearStep 255 = .ok (.aload_n 0, 1) := dk_42 (dk_at dksX7_yearStep_10 20 rfl rfl)
theorem dX7_yearStep_256 : decode cX7_yearStep 256 = .ok (.getfield 7, 3) := dk_180 0 7 (dk_at dksX7_yearStep_10 21 rfl rfl)
theorem dX7_yearStep_259 : decode cX7_yearStep 259 = .ok (.sipush 1684, 3) := dk_17 6 148 (dk_at dksX7_yearStep_11 0 rfl rfl)
theorem dX7_yearStep_262 : decode cX7_yearStep 262 = .ok (.bipush 6, 2) := dk_16 6 (dk_at dksX7_yearStep_11 3 rfl rfl)
theorem dX7_yearStep_264 : decode cX7_yearStep 264 = .ok (.aload_n 0, 1) := dk_42 (dk_at dksX7_yearStep_11 5 rfl rfl)
theorem dX7_yearStep_265 : decode cX7_yearStep 265 = .ok (.getfield 44, 3) := dk_180 0 44 (dk_at dksX7_yearStep_11 6 rfl rfl)
theorem dX7_yearStep_268 : decode cX7_yearStep 268 = .ok (.aload_n 0, 1) := dk_42 (dk_at dksX7_yearStep_11 9 rfl rfl)
theorem dX7_yearStep_269 : decode cX7_yearStep 269 = .ok (.getfield 241, 3) := dk_180 0 241 (dk_at dksX7_yearStep_11 10 rfl rfl)
theorem dX7_yearStep_272 : decode cX7_yearStep 272 = .ok (.iaload, 1) := dk_46 (dk_at dksX7_yearStep_11 13 rfl rfl)
theorem dX7_yearStep_273 : decode cX7_yearStep 273 = .ok (.imul, 1) := dk_104 (dk_at dksX7_yearStep_11 14 rfl rfl)
theorem dX7_yearStep_274 : decode cX7_yearStep 274 = .ok (.iadd, 1) := dk_96 (dk_at dksX7_yearStep_11 15 rfl rfl)
theorem dX7_yearStep_275 : decode cX7_yearStep 275 = .ok (.iconst 4, 1) := dk_7 (dk_at dksX7_yearStep_11 16 rfl rfl)
theorem dX7_yearStep_276 : decode cX7_yearStep 276 = .ok (.iadd, 1) := dk_96 (dk_at dksX7_yearStep_11 17 rfl rfl)
theorem dX7_yearStep_277 : decode cX7_yearStep 277 = .ok (.iload_n 2, 1) := dk_28 (dk_at dksX7_yearStep_11 18 rfl rfl)
theorem dX7_yearStep_278 : decode cX7_yearStep 278 = .ok (.iastore, 1) := dk_79 (dk_at dksX7_yearStep_11 19 rfl rfl)
theorem dX7_yearStep_279 : decode cX7_yearStep 279 = .ok (.aload_n 0, 1) := dk_42 (dk_at dksX7_yearStep_11 20 rfl rfl)
theorem dX7_yearStep_280 : decode cX7_yearStep 280 = .ok (.bipush 59, 2) := dk_16 59 (dk_at dksX7_yearStep_11 21 rfl rfl)
theorem dX7_yearStep_282 : decode cX7_yearStep 282 = .ok (.invokevirtual 194, 3) := dk_182 0 194 (dk_at dksX7_yearStep_12 0 rfl rfl)
theorem dX7_yearStep_285 : decode cX7_yearStep 285 = .ok (.ireturn, 1) := dk_172 (dk_at dksX7_yearStep_12 3 rfl rfl)
abbrev cX7_yearOrder : ByteArray := prog_16_method_51_code
def yX7_yearOrder : MethodName := ⟨RX7, "yearOrder", "(II)Z"⟩
def dkwX7_yearOrder_3 : List UInt8 := [182, 0, 235, 172, 42, 28, 4, 96, 3, 16, 16, 182, 0, 187, 172, 42, 28, 182, 0, 238, 172, 4, 172]
abbrev dktX7_yearOrder_3 : List UInt8 := dkwX7_yearOrder_3 ++ []
def dkwX7_yearOrder_2 : List UInt8 := [42, 28, 4, 96, 4, 16, 99, 182, 0, 187, 172, 42, 28, 4, 96, 182, 0, 232, 172, 42, 28, 4, 96]
abbrev dktX7_yearOrder_2 : List UInt8 := dkwX7_yearOrder_2 ++ dktX7_yearOrder_3
def dkwX7_yearOrder_1 : List UInt8 := [170, 0, 0, 0, 0, 0, 91, 0, 0, 0, 9, 0, 0, 0, 16, 0, 0, 0, 47, 0, 0, 0, 58, 0, 0, 0, 66, 0, 0, 0, 91, 0, 0, 0, 74, 0, 0, 0, 91, 0, 0, 0, 85, 0, 0, 0, 47]
abbrev dktX7_yearOrder_1 : List UInt8 := dkwX7_yearOrder_1 ++ dktX7_yearOrder_2
def dkwX7_yearOrder_0 : List UInt8 := [27]
abbrev dktX7_yearOrder_0 : List UInt8 := dkwX7_yearOrder_0 ++ dktX7_yearOrder_1
theorem dksX7_yearOrder_0 : cX7_yearOrder.data.toList.drop 0 = dktX7_yearOrder_0 := by decide +kernel
theorem dksX7_yearOrder_1 : cX7_yearOrder.data.toList.drop 1 = dktX7_yearOrder_1 := dk_seg dksX7_yearOrder_0 1 rfl rfl
theorem dksX7_yearOrder_2 : cX7_yearOrder.data.toList.drop 48 = dktX7_yearOrder_2 := dk_seg dksX7_yearOrder_1 47 rfl rfl
theorem dksX7_yearOrder_3 : cX7_yearOrder.data.toList.drop 71 = dktX7_yearOrder_3 := dk_seg dksX7_yearOrder_2 23 rfl rfl
theorem dX7_yearOrder_0 : decode cX7_yearOrder 0 = .ok (.iload_n 1, 1) := dk_27 (dk_at dksX7_yearOrder_0 0 rfl rfl)
theorem dX7_yearOrder_1 : decode cX7_yearOrder 1 = .ok (.tableswitch 91 9 16 #[47, 58, 66, 91, 74, 91, 85, 47], 47) := by decide +kernel
theorem dX7_yearOrder_48 : decode cX7_yearOrder 48 = .ok (.aload_n 0, 1) := dk_42 (dk_at dksX7_yearOrder_2 0 rfl rfl)
theorem dX7_yearOrder_49 : decode cX7_yearOrder 49 = .ok (.iload_n 2, 1) := dk_28 (dk_at dksX7_yearOrder_2 1 rfl rfl)
theorem dX7_yearOrder_50 : decode cX7_yearOrder 50 = .ok (.iconst 1, 1) := dk_4 (dk_at dksX7_yearOrder_2 2 rfl rfl)
theorem dX7_yearOrder_51 : decode cX7_yearOrder 51 = .ok (.iadd, 1) := dk_96 (dk_at dksX7_yearOrder_2 3 rfl rfl)
theorem dX7_yearOrder_52 : decode cX7_yearOrder 52 = .ok (.iconst 1, 1) := dk_4 (dk_at dksX7_yearOrder_2 4 rfl rfl)
theorem dX7_yearOrder_53 : decode cX7_yearOrder 53 = .ok (.bipush 99, 2) := dk_16 99 (dk_at dksX7_yearOrder_2 5 rfl rfl)
theorem dX7_yearOrder_55 : decode cX7_yearOrder 55 = .ok (.invokevirtual 187, 3) := dk_182 0 187 (dk_at dksX7_yearOrder_2 7 rfl rfl)
theorem dX7_yearOrder_58 : decode cX7_yearOrder 58 = .ok (.ireturn, 1) := dk_172 (dk_at dksX7_yearOrder_2 10 rfl rfl)
theorem dX7_yearOrder_59 : decode cX7_yearOrder 59 = .ok (.aload_n 0, 1) := dk_42 (dk_at dksX7_yearOrder_2 11 rfl rfl)
theorem dX7_yearOrder_60 : decode cX7_yearOrder 60 = .ok (.iload_n 2, 1) := dk_28 (dk_at dksX7_yearOrder_2 12 rfl rfl)
theorem dX7_yearOrder_61 : decode cX7_yearOrder 61 = .ok (.iconst 1, 1) := dk_4 (dk_at dksX7_yearOrder_2 13 rfl rfl)
theorem dX7_yearOrder_62 : decode cX7_yearOrder 62 = .ok (.iadd, 1) := dk_96 (dk_at dksX7_yearOrder_2 14 rfl rfl)
theorem dX7_yearOrder_63 : decode cX7_yearOrder 63 = .ok (.invokevirtual 232, 3) := dk_182 0 232 (dk_at dksX7_yearOrder_2 15 rfl rfl)
theorem dX7_yearOrder_66 : decode cX7_yearOrder 66 = .ok (.ireturn, 1) := dk_172 (dk_at dksX7_yearOrder_2 18 rfl rfl)
theorem dX7_yearOrder_67 : decode cX7_yearOrder 67 = .ok (.aload_n 0, 1) := dk_42 (dk_at dksX7_yearOrder_2 19 rfl rfl)
theorem dX7_yearOrder_68 : decode cX7_yearOrder 68 = .ok (.iload_n 2, 1) := dk_28 (dk_at dksX7_yearOrder_2 20 rfl rfl)
theorem dX7_yearOrder_69 : decode cX7_yearOrder 69 = .ok (.iconst 1, 1) := dk_4 (dk_at dksX7_yearOrder_2 21 rfl rfl)
theorem dX7_yearOrder_70 : decode cX7_yearOrder 70 = .ok (.iadd, 1) := dk_96 (dk_at dksX7_yearOrder_2 22 rfl rfl)
theorem dX7_yearOrder_71 : decode cX7_yearOrder 71 = .ok (.invokevirtual 235, 3) := dk_182 0 235 (dk_at dksX7_yearOrder_3 0 rfl rfl)
theorem dX7_yearOrder_74 : decode cX7_yearOrder 74 = .ok (.ireturn, 1) := dk_172 (dk_at dksX7_yearOrder_3 3 rfl rfl)
theorem dX7_yearOrder_75 : decode cX7_yearOrder 75 = .ok (.aload_n 0, 1) := dk_42 (dk_at dksX7_yearOrder_3 4 rfl rfl)
theorem dX7_yearOrder_76 : decode cX7_yearOrder 76 = .ok (.iload_n 2, 1) := dk_28 (dk_at dksX7_yearOrder_3 5 rfl rfl)
theorem dX7_yearOrder_77 : decode cX7_yearOrder 77 = .ok (.iconst 1, 1) := dk_4 (dk_at dksX7_yearOrder_3 6 rfl rfl)
theorem dX7_yearOrder_78 : decode cX7_yearOrder 78 = .ok (.iadd, 1) := dk_96 (dk_at dksX7_yearOrder_3 7 rfl rfl)
theorem dX7_yearOrder_79 : decode cX7_yearOrder 79 = .ok (.iconst 0, 1) := dk_3 (dk_at dksX7_yearOrder_3 8 rfl rfl)
theorem dX7_yearOrder_80 : decode cX7_yearOrder 80 = .ok (.bipush 16, 2) := dk_16 16 (dk_at dksX7_yearOrder_3 9 rfl rfl)
theorem dX7_yearOrder_82 : decode cX7_yearOrder 82 = .ok (.invokevirtual 187, 3) := dk_182 0 187 (dk_at dksX7_yearOrder_3 11 rfl rfl)
theorem dX7_yearOrder_85 : decode cX7_yearOrder 85 = .ok (.ireturn, 1) := dk_172 (dk_at dksX7_yearOrder_3 14 rfl rfl)
theorem dX7_yearOrder_86 : decode cX7_yearOrder 86 = .ok (.aload_n 0, 1) := dk_42 (dk_at dksX7_yearOrder_3 15 rfl rfl)
theorem dX7_yearOrder_87 : decode cX7_yearOrder 87 = .ok (.iload_n 2, 1) := dk_28 (dk_at dksX7_yearOrder_3 16 rfl rfl)
theorem dX7_yearOrder_88 : decode cX7_yearOrder 88 = .ok (.invokevirtual 238, 3) := dk_182 0 238 (dk_at dksX7_yearOrder_3 17 rfl rfl)
theorem dX7_yearOrder_91 : decode cX7_yearOrder 91 = .ok (.ireturn, 1) := dk_172 (dk_at dksX7_yearOrder_3 20 rfl rfl)
theorem dX7_yearOrder_92 : decode cX7_yearOrder 92 = .ok (.iconst 1, 1) := dk_4 (dk_at dksX7_yearOrder_3 21 rfl rfl)
theorem dX7_yearOrder_93 : decode cX7_yearOrder 93 = .ok (.ireturn, 1) := dk_172 (dk_at dksX7_yearOrder_3 22 rfl rfl)
abbrev cX7_placeTo : ByteArray := prog_16_method_49_code
def yX7_placeTo : MethodName := ⟨RX7, "placeTo", "(I)Z"⟩
def dkwX7_placeTo_1 : List UInt8 := [180, 0, 7, 4, 46, 4, 100, 182, 0, 187, 153, 0, 7, 4, 167, 0, 4, 3, 172]
abbrev dktX7_placeTo_1 : List UInt8 := dkwX7_placeTo_1 ++ []
def dkwX7_placeTo_0 : List UInt8 := [42, 27, 3, 42, 180, 0, 7, 3, 46, 4, 100, 182, 0, 187, 153, 0, 26, 42, 27, 4, 96, 3, 42]
abbrev dktX7_placeTo_0 : List UInt8 := dkwX7_placeTo_0 ++ dktX7_placeTo_1
theorem dksX7_placeTo_0 : cX7_placeTo.data.toList.drop 0 = dktX7_placeTo_0 := by decide +kernel
theorem dksX7_placeTo_1 : cX7_placeTo.data.toList.drop 23 = dktX7_placeTo_1 := dk_seg dksX7_placeTo_0 23 rfl rfl
theorem dX7_placeTo_0 : decode cX7_placeTo 0 = .ok (.aload_n 0, 1) := dk_42 (dk_at dksX7_placeTo_0 0 rfl rfl)
theorem dX7_placeTo_1 : decode cX7_placeTo 1 = .ok (.iload_n 1, 1) := dk_27 (dk_at dksX7_placeTo_0 1 rfl rfl)
theorem dX7_placeTo_2 : decode cX7_placeTo 2 = .ok (.iconst 0, 1) := dk_3 (dk_at dksX7_placeTo_0 2 rfl rfl)
theorem dX7_placeTo_3 : decode cX7_placeTo 3 = .ok (.aload_n 0, 1) := dk_42 (dk_at dksX7_placeTo_0 3 rfl rfl)
theorem dX7_placeTo_4 : decode cX7_placeTo 4 = .ok (.getfield 7, 3) := dk_180 0 7 (dk_at dksX7_placeTo_0 4 rfl rfl)
theorem dX7_placeTo_7 : decode cX7_placeTo 7 = .ok (.iconst 0, 1) := dk_3 (dk_at dksX7_placeTo_0 7 rfl rfl)
theorem dX7_placeTo_8 : decode cX7_placeTo 8 = .ok (.iaload, 1) := dk_46 (dk_at dksX7_placeTo_0 8 rfl rfl)
theorem dX7_placeTo_9 : decode cX7_placeTo 9 = .ok (.iconst 1, 1) := dk_4 (dk_at dksX7_placeTo_0 9 rfl rfl)
theorem dX7_placeTo_10 : decode cX7_placeTo 10 = .ok (.isub, 1) := dk_100 (dk_at dksX7_placeTo_0 10 rfl rfl)
theorem dX7_placeTo_11 : decode cX7_placeTo 11 = .ok (.invokevirtual 187, 3) := dk_182 0 187 (dk_at dksX7_placeTo_0 11 rfl rfl)
theorem dX7_placeTo_14 : decode cX7_placeTo 14 = .ok (.ifCond .eq 26, 3) := dk_153 0 26 (dk_at dksX7_placeTo_0 14 rfl rfl)
theorem dX7_placeTo_17 : decode cX7_placeTo 17 = .ok (.aload_n 0, 1) := dk_42 (dk_at dksX7_placeTo_0 17 rfl rfl)
theorem dX7_placeTo_18 : decode cX7_placeTo 18 = .ok (.iload_n 1, 1) := dk_27 (dk_at dksX7_placeTo_0 18 rfl rfl)
theorem dX7_placeTo_19 : decode cX7_placeTo 19 = .ok (.iconst 1, 1) := dk_4 (dk_at dksX7_placeTo_0 19 rfl rfl)
theorem dX7_placeTo_20 : decode cX7_placeTo 20 = .ok (.iadd, 1) := dk_96 (dk_at dksX7_placeTo_0 20 rfl rfl)
theorem dX7_placeTo_21 : decode cX7_placeTo 21 = .ok (.iconst 0, 1) := dk_3 (dk_at dksX7_placeTo_0 21 rfl rfl)
theorem dX7_placeTo_22 : decode cX7_placeTo 22 = .ok (.aload_n 0, 1) := dk_42 (dk_at dksX7_placeTo_0 22 rfl rfl)
theorem dX7_placeTo_23 : decode cX7_placeTo 23 = .ok (.getfield 7, 3) := dk_180 0 7 (dk_at dksX7_placeTo_1 0 rfl rfl)
theorem dX7_placeTo_26 : decode cX7_placeTo 26 = .ok (.iconst 1, 1) := dk_4 (dk_at dksX7_placeTo_1 3 rfl rfl)
theorem dX7_placeTo_27 : decode cX7_placeTo 27 = .ok (.iaload, 1) := dk_46 (dk_at dksX7_placeTo_1 4 rfl rfl)
theorem dX7_placeTo_28 : decode cX7_placeTo 28 = .ok (.iconst 1, 1) := dk_4 (dk_at dksX7_placeTo_1 5 rfl rfl)
theorem dX7_placeTo_29 : decode cX7_placeTo 29 = .ok (.isub, 1) := dk_100 (dk_at dksX7_placeTo_1 6 rfl rfl)
theorem dX7_placeTo_30 : decode cX7_placeTo 30 = .ok (.invokevirtual 187, 3) := dk_182 0 187 (dk_at dksX7_placeTo_1 7 rfl rfl)
theorem dX7_placeTo_33 : decode cX7_placeTo 33 = .ok (.ifCond .eq 7, 3) := dk_153 0 7 (dk_at dksX7_placeTo_1 10 rfl rfl)
theorem dX7_placeTo_36 : decode cX7_placeTo 36 = .ok (.iconst 1, 1) := dk_4 (dk_at dksX7_placeTo_1 13 rfl rfl)
theorem dX7_placeTo_37 : decode cX7_placeTo 37 = .ok (.goto 4, 3) := dk_167 0 4 (dk_at dksX7_placeTo_1 14 rfl rfl)
theorem dX7_placeTo_40 : decode cX7_placeTo 40 = .ok (.iconst 0, 1) := dk_3 (dk_at dksX7_placeTo_1 17 rfl rfl)
theorem dX7_placeTo_41 : decode cX7_placeTo 41 = .ok (.ireturn, 1) := dk_172 (dk_at dksX7_placeTo_1 18 rfl rfl)
abbrev cX7_oldRule : ByteArray := prog_16_method_38_code
def yX7_oldRule : MethodName := ⟨RX7, "oldRule", "(I)Z"⟩
def dkwX7_oldRule_2 : List UInt8 := [172, 42, 182, 0, 157, 4, 172]
abbrev dktX7_oldRule_2 : List UInt8 := dkwX7_oldRule_2 ++ []
def dkwX7_oldRule_1 : List UInt8 := [180, 0, 7, 8, 46, 182, 0, 180, 79, 42, 180, 0, 7, 27, 46, 2, 160, 0, 9, 42, 6, 182, 0, 163]
abbrev dktX7_oldRule_1 : List UInt8 := dkwX7_oldRule_1 ++ dktX7_oldRule_2
def dkwX7_oldRule_0 : List UInt8 := [42, 18, 174, 182, 0, 176, 154, 0, 9, 42, 5, 182, 0, 163, 172, 42, 180, 0, 7, 27, 42, 3, 42]
abbrev dktX7_oldRule_0 : List UInt8 := dkwX7_oldRule_0 ++ dktX7_oldRule_1
theorem dksX7_oldRule_0 : cX7_oldRule.data.toList.drop 0 = dktX7_oldRule_0 := by decide +kernel
theorem dksX7_oldRule_1 : cX7_oldRule.data.toList.drop 23 = dktX7_oldRule_1 := dk_seg dksX7_oldRule_0 23 rfl rfl
theorem dksX7_oldRule_2 : cX7_oldRule.data.toList.drop 47 = dktX7_oldRule_2 := dk_seg dksX7_oldRule_1 24 rfl rfl
theorem dX7_oldRule_0 : decode cX7_oldRule 0 = .ok (.aload_n 0, 1) := dk_42 (dk_at dksX7_oldRule_0 0 rfl rfl)
theorem dX7_oldRule_1 : decode cX7_oldRule 1 = .ok (.ldc 174, 2) := dk_18 174 (dk_at dksX7_oldRule_0 1 rfl rfl)
theorem dX7_oldRule_3 : decode cX7_oldRule 3 = .ok (.invokevirtual 176, 3) := dk_182 0 176 (dk_at dksX7_oldRule_0 3 rfl rfl)
theorem dX7_oldRule_6 : decode cX7_oldRule 6 = .ok (.ifCond .ne 9, 3) := dk_154 0 9 (dk_at dksX7_oldRule_0 6 rfl rfl)
theorem dX7_oldRule_9 : decode cX7_oldRule 9 = .ok (.aload_n 0, 1) := dk_42 (dk_at dksX7_oldRule_0 9 rfl rfl)
theorem dX7_oldRule_10 : decode cX7_oldRule 10 = .ok (.iconst 2, 1) := dk_5 (dk_at dksX7_oldRule_0 10 rfl rfl)
theorem dX7_oldRule_11 : decode cX7_oldRule 11 = .ok (.invokevirtual 163, 3) := dk_182 0 163 (dk_at dksX7_oldRule_0 11 rfl rfl)
theorem dX7_oldRule_14 : decode cX7_oldRule 14 = .ok (.ireturn, 1) := dk_172 (dk_at dksX7_oldRule_0 14 rfl rfl)
theorem dX7_oldRule_15 : decode cX7_oldRule 15 = .ok (.aload_n 0, 1) := dk_42 (dk_at dksX7_oldRule_0 15 rfl rfl)
theorem dX7_oldRule_16 : decode cX7_oldRule 16 = .ok (.getfield 7, 3) := dk_180 0 7 (dk_at dksX7_oldRule_0 16 rfl rfl)
theorem dX7_oldRule_19 : decode cX7_oldRule 19 = .ok (.iload_n 1, 1) := dk_27 (dk_at dksX7_oldRule_0 19 rfl rfl)
theorem dX7_oldRule_20 : decode cX7_oldRule 20 = .ok (.aload_n 0, 1) := dk_42 (dk_at dksX7_oldRule_0 20 rfl rfl)
theorem dX7_oldRule_21 : decode cX7_oldRule 21 = .ok (.iconst 0, 1) := dk_3 (dk_at dksX7_oldRule_0 21 rfl rfl)
theorem dX7_oldRule_22 : decode cX7_oldRule 22 = .ok (.aload_n 0, 1) := dk_42 (dk_at dksX7_oldRule_0 22 rfl rfl)
theorem dX7_oldRule_23 : decode cX7_oldRule 23 = .ok (.getfield 7, 3) := dk_180 0 7 (dk_at dksX7_oldRule_1 0 rfl rfl)
theorem dX7_oldRule_26 : decode cX7_oldRule 26 = .ok (.iconst 5, 1) := dk_8 (dk_at dksX7_oldRule_1 3 rfl rfl)
theorem dX7_oldRule_27 : decode cX7_oldRule 27 = .ok (.iaload, 1) := dk_46 (dk_at dksX7_oldRule_1 4 rfl rfl)
theorem dX7_oldRule_28 : decode cX7_oldRule 28 = .ok (.invokevirtual 180, 3) := dk_182 0 180 (dk_at dksX7_oldRule_1 5 rfl rfl)
theorem dX7_oldRule_31 : decode cX7_oldRule 31 = .ok (.iastore, 1) := dk_79 (dk_at dksX7_oldRule_1 8 rfl rfl)
theorem dX7_oldRule_32 : decode cX7_oldRule 32 = .ok (.aload_n 0, 1) := dk_42 (dk_at dksX7_oldRule_1 9 rfl rfl)
theorem dX7_oldRule_33 : decode cX7_oldRule 33 = .ok (.getfield 7, 3) := dk_180 0 7 (dk_at dksX7_oldRule_1 10 rfl rfl)
theorem dX7_oldRule_36 : decode cX7_oldRule 36 = .ok (.iload_n 1, 1) := dk_27 (dk_at dksX7_oldRule_1 13 rfl rfl)
theorem dX7_oldRule_37 : decode cX7_oldRule 37 = .ok (.iaload, 1) := dk_46 (dk_at dksX7_oldRule_1 14 rfl rfl)
theorem dX7_oldRule_38 : decode cX7_oldRule 38 = .ok (.iconst (-1), 1) := dk_2 (dk_at dksX7_oldRule_1 15 rfl rfl)
theorem dX7_oldRule_39 : decode cX7_oldRule 39 = .ok (.if_icmp .ne 9, 3) := dk_160 0 9 (dk_at dksX7_oldRule_1 16 rfl rfl)
theorem dX7_oldRule_42 : decode cX7_oldRule 42 = .ok (.aload_n 0, 1) := dk_42 (dk_at dksX7_oldRule_1 19 rfl rfl)
theorem dX7_oldRule_43 : decode cX7_oldRule 43 = .ok (.iconst 3, 1) := dk_6 (dk_at dksX7_oldRule_1 20 rfl rfl)
theorem dX7_oldRule_44 : decode cX7_oldRule 44 = .ok (.invokevirtual 163, 3) := dk_182 0 163 (dk_at dksX7_oldRule_1 21 rfl rfl)
theorem dX7_oldRule_47 : decode cX7_oldRule 47 = .ok (.ireturn, 1) := dk_172 (dk_at dksX7_oldRule_2 0 rfl rfl)
theorem dX7_oldRule_48 : decode cX7_oldRule 48 = .ok (.aload_n 0, 1) := dk_42 (dk_at dksX7_oldRule_2 1 rfl rfl)
theorem dX7_oldRule_49 : decode cX7_oldRule 49 = .ok (.invokevirtual 157, 3) := dk_182 0 157 (dk_at dksX7_oldRule_2 2 rfl rfl)
theorem dX7_oldRule_52 : decode cX7_oldRule 52 = .ok (.iconst 1, 1) := dk_4 (dk_at dksX7_oldRule_2 5 rfl rfl)
theorem dX7_oldRule_53 : decode cX7_oldRule 53 = .ok (.ireturn, 1) := dk_172 (dk_at dksX7_oldRule_2 6 rfl rfl)
abbrev cX7_test : ByteArray := prog_16_method_50_code
def yX7_test : MethodName := ⟨RX7, "test", "(I)Z"⟩
def dkwX7_test_4 : List UInt8 := [96, 42, 180, 0, 123, 79, 42, 182, 0, 157, 42, 27, 4, 96, 3, 16, 30, 182, 0, 187, 172]
abbrev dktX7_test_4 : List UInt8 := dkwX7_test_4 ++ []
def dkwX7_test_3 : List UInt8 := [154, 0, 18, 42, 16, 61, 182, 0, 160, 154, 0, 9, 42, 5, 182, 0, 163, 172, 42, 180, 0, 7, 27, 8]
abbrev dktX7_test_3 : List UInt8 := dkwX7_test_3 ++ dktX7_test_4
def dkwX7_test_2 : List UInt8 := [42, 27, 4, 96, 182, 0, 232, 172, 42, 16, 60, 182, 0, 160, 154, 0, 27, 42, 16, 62, 182, 0, 160]
abbrev dktX7_test_2 : List UInt8 := dkwX7_test_2 ++ dktX7_test_3
def dkwX7_test_1 : List UInt8 := [17, 5, 220, 28, 96, 79, 42, 182, 0, 157, 28, 16, 21, 160, 0, 5, 4, 172, 28, 16, 20, 160, 0, 11]
abbrev dktX7_test_1 : List UInt8 := dkwX7_test_1 ++ dktX7_test_2
def dkwX7_test_0 : List UInt8 := [42, 18, 174, 182, 0, 166, 61, 28, 16, 19, 162, 0, 9, 42, 5, 182, 0, 163, 172, 42, 180, 0, 7, 27]
abbrev dktX7_test_0 : List UInt8 := dkwX7_test_0 ++ dktX7_test_1
theorem dksX7_test_0 : cX7_test.data.toList.drop 0 = dktX7_test_0 := by decide +kernel
theorem dksX7_test_1 : cX7_test.data.toList.drop 24 = dktX7_test_1 := dk_seg dksX7_test_0 24 rfl rfl
theorem dksX7_test_2 : cX7_test.data.toList.drop 48 = dktX7_test_2 := dk_seg dksX7_test_1 24 rfl rfl
theorem dksX7_test_3 : cX7_test.data.toList.drop 71 = dktX7_test_3 := dk_seg dksX7_test_2 23 rfl rfl
theorem dksX7_test_4 : cX7_test.data.toList.drop 95 = dktX7_test_4 := dk_seg dksX7_test_3 24 rfl rfl
theorem dX7_test_0 : decode cX7_test 0 = .ok (.aload_n 0, 1) := dk_42 (dk_at dksX7_test_0 0 rfl rfl)
theorem dX7_test_1 : decode cX7_test 1 = .ok (.ldc 174, 2) := dk_18 174 (dk_at dksX7_test_0 1 rfl rfl)
theorem dX7_test_3 : decode cX7_test 3 = .ok (.invokevirtual 166, 3) := dk_182 0 166 (dk_at dksX7_test_0 3 rfl rfl)
theorem dX7_test_6 : decode cX7_test 6 = .ok (.istore_n 2, 1) := dk_61 (dk_at dksX7_test_0 6 rfl rfl)
theorem dX7_test_7 : decode cX7_test 7 = .ok (.iload_n 2, 1) := dk_28 (dk_at dksX7_test_0 7 rfl rfl)
theorem dX7_test_8 : decode cX7_test 8 = .ok (.bipush 19, 2) := dk_16 19 (dk_at dksX7_test_0 8 rfl rfl)
theorem dX7_test_10 : decode cX7_test 10 = .ok (.if_icmp .ge 9, 3) := dk_162 0 9 (dk_at dksX7_test_0 10 rfl rfl)
theorem dX7_test_13 : decode cX7_test 13 = .ok (.aload_n 0, 1) := dk_42 (dk_at dksX7_test_0 13 rfl rfl)
theorem dX7_test_14 : decode cX7_test 14 = .ok (.iconst 2, 1) := dk_5 (dk_at dksX7_test_0 14 rfl rfl)
theorem dX7_test_15 : decode cX7_test 15 = .ok (.invokevirtual 163, 3) := dk_182 0 163 (dk_at dksX7_test_0 15 rfl rfl)
theorem dX7_test_18 : decode cX7_test 18 = .ok (.ireturn, 1) := dk_172 (dk_at dksX7_test_0 18 rfl rfl)
theorem dX7_test_19 : decode cX7_test 19 = .ok (.aload_n 0, 1) := dk_42 (dk_at dksX7_test_0 19 rfl rfl)
theorem dX7_test_20 : decode cX7_test 20 = .ok (.getfield 7, 3) := dk_180 0 7 (dk_at dksX7_test_0 20 rfl rfl)
theorem dX7_test_23 : decode cX7_test 23 = .ok (.iload_n 1, 1) := dk_27 (dk_at dksX7_test_0 23 rfl rfl)
theorem dX7_test_24 : decode cX7_test 24 = .ok (.sipush 1500, 3) := dk_17 5 220 (dk_at dksX7_test_1 0 rfl rfl)
theorem dX7_test_27 : decode cX7_test 27 = .ok (.iload_n 2, 1) := dk_28 (dk_at dksX7_test_1 3 rfl rfl)
theorem dX7_test_28 : decode cX7_test 28 = .ok (.iadd, 1) := dk_96 (dk_at dksX7_test_1 4 rfl rfl)
theorem dX7_test_29 : decode cX7_test 29 = .ok (.iastore, 1) := dk_79 (dk_at dksX7_test_1 5 rfl rfl)
theorem dX7_test_30 : decode cX7_test 30 = .ok (.aload_n 0, 1) := dk_42 (dk_at dksX7_test_1 6 rfl rfl)
theorem dX7_test_31 : decode cX7_test 31 = .ok (.invokevirtual 157, 3) := dk_182 0 157 (dk_at dksX7_test_1 7 rfl rfl)
theorem dX7_test_34 : decode cX7_test 34 = .ok (.iload_n 2, 1) := dk_28 (dk_at dksX7_test_1 10 rfl rfl)
theorem dX7_test_35 : decode cX7_test 35 = .ok (.bipush 21, 2) := dk_16 21 (dk_at dksX7_test_1 11 rfl rfl)
theorem dX7_test_37 : decode cX7_test 37 = .ok (.if_icmp .ne 5, 3) := dk_160 0 5 (dk_at dksX7_test_1 13 rfl rfl)
theorem dX7_test_40 : decode cX7_test 40 = .ok (.iconst 1, 1) := dk_4 (dk_at dksX7_test_1 16 rfl rfl)
theorem dX7_test_41 : decode cX7_test 41 = .ok (.ireturn, 1) := dk_172 (dk_at dksX7_test_1 17 rfl rfl)
theorem dX7_test_42 : decode cX7_test 42 = .ok (.iload_n 2, 1) := dk_28 (dk_at dksX7_test_1 18 rfl rfl)
theorem dX7_test_43 : decode cX7_test 43 = .ok (.bipush 20, 2) := dk_16 20 (dk_at dksX7_test_1 19 rfl rfl)
theorem dX7_test_45 : decode cX7_test 45 = .ok (.if_icmp .ne 11, 3) := dk_160 0 11 (dk_at dksX7_test_1 21 rfl rfl)
theorem dX7_test_48 : decode cX7_test 48 = .ok (.aload_n 0, 1) := dk_42 (dk_at dksX7_test_2 0 rfl rfl)
theorem dX7_test_49 : decode cX7_test 49 = .ok (.iload_n 1, 1) := dk_27 (dk_at dksX7_test_2 1 rfl rfl)
theorem dX7_test_50 : decode cX7_test 50 = .ok (.iconst 1, 1) := dk_4 (dk_at dksX7_test_2 2 rfl rfl)
theorem dX7_test_51 : decode cX7_test 51 = .ok (.iadd, 1) := dk_96 (dk_at dksX7_test_2 3 rfl rfl)
theorem dX7_test_52 : decode cX7_test 52 = .ok (.invokevirtual 232, 3) := dk_182 0 232 (dk_at dksX7_test_2 4 rfl rfl)
theorem dX7_test_55 : decode cX7_test 55 = .ok (.ireturn, 1) := dk_172 (dk_at dksX7_test_2 7 rfl rfl)
theorem dX7_test_56 : decode cX7_test 56 = .ok (.aload_n 0, 1) := dk_42 (dk_at dksX7_test_2 8 rfl rfl)
theorem dX7_test_57 : decode cX7_test 57 = .ok (.bipush 60, 2) := dk_16 60 (dk_at dksX7_test_2 9 rfl rfl)
theorem dX7_test_59 : decode cX7_test 59 = .ok (.invokevirtual 160, 3) := dk_182 0 160 (dk_at dksX7_test_2 11 rfl rfl)
theorem dX7_test_62 : decode cX7_test 62 = .ok (.ifCond .ne 27, 3) := dk_154 0 27 (dk_at dksX7_test_2 14 rfl rfl)
theorem dX7_test_65 : decode cX7_test 65 = .ok (.aload_n 0, 1) := dk_42 (dk_at dksX7_test_2 17 rfl rfl)
theorem dX7_test_66 : decode cX7_test 66 = .ok (.bipush 62, 2) := dk_16 62 (dk_at dksX7_test_2 18 rfl rfl)
theorem dX7_test_68 : decode cX7_test 68 = .ok (.invokevirtual 160, 3) := dk_182 0 160 (dk_at dksX7_test_2 20 rfl rfl)
theorem dX7_test_71 : decode cX7_test 71 = .ok (.ifCond .ne 18, 3) := dk_154 0 18 (dk_at dksX7_test_3 0 rfl rfl)
theorem dX7_test_74 : decode cX7_test 74 = .ok (.aload_n 0, 1) := dk_42 (dk_at dksX7_test_3 3 rfl rfl)
theorem dX7_test_75 : decode cX7_test 75 = .ok (.bipush 61, 2) := dk_16 61 (dk_at dksX7_test_3 4 rfl rfl)
theorem dX7_test_77 : decode cX7_test 77 = .ok (.invokevirtual 160, 3) := dk_182 0 160 (dk_at dksX7_test_3 6 rfl rfl)
theorem dX7_test_80 : decode cX7_test 80 = .ok (.ifCond .ne 9, 3) := dk_154 0 9 (dk_at dksX7_test_3 9 rfl rfl)
theorem dX7_test_83 : decode cX7_test 83 = .ok (.aload_n 0, 1) := dk_42 (dk_at dksX7_test_3 12 rfl rfl)
theorem dX7_test_84 : decode cX7_test 84 = .ok (.iconst 2, 1) := dk_5 (dk_at dksX7_test_3 13 rfl rfl)
theorem dX7_test_85 : decode cX7_test 85 = .ok (.invokevirtual 163, 3) := dk_182 0 163 (dk_at dksX7_test_3 14 rfl rfl)
theorem dX7_test_88 : decode cX7_test 88 = .ok (.ireturn, 1) := dk_172 (dk_at dksX7_test_3 17 rfl rfl)
theorem dX7_test_89 : decode cX7_test 89 = .ok (.aload_n 0, 1) := dk_42 (dk_at dksX7_test_3 18 rfl rfl)
theorem dX7_test_90 : decode cX7_test 90 = .ok (.getfield 7, 3) := dk_180 0 7 (dk_at dksX7_test_3 19 rfl rfl)
theorem dX7_test_93 : decode cX7_test 93 = .ok (.iload_n 1, 1) := dk_27 (dk_at dksX7_test_3 22 rfl rfl)
theorem dX7_test_94 : decode cX7_test 94 = .ok (.iconst 5, 1) := dk_8 (dk_at dksX7_test_3 23 rfl rfl)
theorem dX7_test_95 : decode cX7_test 95 = .ok (.iadd, 1) := dk_96 (dk_at dksX7_test_4 0 rfl rfl)
theorem dX7_test_96 : decode cX7_test 96 = .ok (.aload_n 0, 1) := dk_42 (dk_at dksX7_test_4 1 rfl rfl)
theorem dX7_test_97 : decode cX7_test 97 = .ok (.getfield 123, 3) := dk_180 0 123 (dk_at dksX7_test_4 2 rfl rfl)
theorem dX7_test_100 : decode cX7_test 100 = .ok (.iastore, 1) := dk_79 (dk_at dksX7_test_4 5 rfl rfl)
theorem dX7_test_101 : decode cX7_test 101 = .ok (.aload_n 0, 1) := dk_42 (dk_at dksX7_test_4 6 rfl rfl)
theorem dX7_test_102 : decode cX7_test 102 = .ok (.invokevirtual 157, 3) := dk_182 0 157 (dk_at dksX7_test_4 7 rfl rfl)
theorem dX7_test_105 : decode cX7_test 105 = .ok (.aload_n 0, 1) := dk_42 (dk_at dksX7_test_4 10 rfl rfl)
theorem dX7_test_106 : decode cX7_test 106 = .ok (.iload_n 1, 1) := dk_27 (dk_at dksX7_test_4 11 rfl rfl)
theorem dX7_test_107 : decode cX7_test 107 = .ok (.iconst 1, 1) := dk_4 (dk_at dksX7_test_4 12 rfl rfl)
theorem dX7_test_108 : decode cX7_test 108 = .ok (.iadd, 1) := dk_96 (dk_at dksX7_test_4 13 rfl rfl)
theorem dX7_test_109 : decode cX7_test 109 = .ok (.iconst 0, 1) := dk_3 (dk_at dksX7_test_4 14 rfl rfl)
theorem dX7_test_110 : decode cX7_test 110 = .ok (.bipush 30, 2) := dk_16 30 (dk_at dksX7_test_4 15 rfl rfl)
theorem dX7_test_112 : decode cX7_test 112 = .ok (.invokevirtual 187, 3) := dk_182 0 187 (dk_at dksX7_test_4 17 rfl rfl)
theorem dX7_test_115 : decode cX7_test 115 = .ok (.ireturn, 1) := dk_172 (dk_at dksX7_test_4 20 rfl rfl)
abbrev cX7_told : ByteArray := prog_16_method_66_code
def yX7_told : MethodName := ⟨RX7, "told", "(I)I"⟩
def dkwX7_told_2 : List UInt8 := [180, 0, 7, 27, 46, 184, 0, 226, 167, 0, 9, 42, 180, 0, 7, 27, 46, 182, 0, 85, 172]
abbrev dktX7_told_2 : List UInt8 := dkwX7_told_2 ++ []
def dkwX7_told_1 : List UInt8 := [180, 0, 7, 16, 10, 46, 182, 1, 21, 172, 42, 27, 5, 161, 0, 20, 27, 7, 163, 0, 15, 42]
abbrev dktX7_told_1 : List UInt8 := dkwX7_told_1 ++ dktX7_told_2
def dkwX7_told_0 : List UInt8 := [27, 155, 0, 9, 27, 16, 10, 164, 0, 9, 42, 4, 182, 0, 81, 172, 27, 16, 10, 160, 0, 15, 42, 42]
abbrev dktX7_told_0 : List UInt8 := dkwX7_told_0 ++ dktX7_told_1
theorem dksX7_told_0 : cX7_told.data.toList.drop 0 = dktX7_told_0 := by decide +kernel
theorem dksX7_told_1 : cX7_told.data.toList.drop 24 = dktX7_told_1 := dk_seg dksX7_told_0 24 rfl rfl
theorem dksX7_told_2 : cX7_told.data.toList.drop 46 = dktX7_told_2 := dk_seg dksX7_told_1 22 rfl rfl
theorem dX7_told_0 : decode cX7_told 0 = .ok (.iload_n 1, 1) := dk_27 (dk_at dksX7_told_0 0 rfl rfl)
theorem dX7_told_1 : decode cX7_told 1 = .ok (.ifCond .lt 9, 3) := dk_155 0 9 (dk_at dksX7_told_0 1 rfl rfl)
theorem dX7_told_4 : decode cX7_told 4 = .ok (.iload_n 1, 1) := dk_27 (dk_at dksX7_told_0 4 rfl rfl)
theorem dX7_told_5 : decode cX7_told 5 = .ok (.bipush 10, 2) := dk_16 10 (dk_at dksX7_told_0 5 rfl rfl)
theorem dX7_told_7 : decode cX7_told 7 = .ok (.if_icmp .le 9, 3) := dk_164 0 9 (dk_at dksX7_told_0 7 rfl rfl)
theorem dX7_told_10 : decode cX7_told 10 = .ok (.aload_n 0, 1) := dk_42 (dk_at dksX7_told_0 10 rfl rfl)
theorem dX7_told_11 : decode cX7_told 11 = .ok (.iconst 1, 1) := dk_4 (dk_at dksX7_told_0 11 rfl rfl)
theorem dX7_told_12 : decode cX7_told 12 = .ok (.invokevirtual 81, 3) := dk_182 0 81 (dk_at dksX7_told_0 12 rfl rfl)
theorem dX7_told_15 : decode cX7_told 15 = .ok (.ireturn, 1) := dk_172 (dk_at dksX7_told_0 15 rfl rfl)
theorem dX7_told_16 : decode cX7_told 16 = .ok (.iload_n 1, 1) := dk_27 (dk_at dksX7_told_0 16 rfl rfl)
theorem dX7_told_17 : decode cX7_told 17 = .ok (.bipush 10, 2) := dk_16 10 (dk_at dksX7_told_0 17 rfl rfl)
theorem dX7_told_19 : decode cX7_told 19 = .ok (.if_icmp .ne 15, 3) := dk_160 0 15 (dk_at dksX7_told_0 19 rfl rfl)
theorem dX7_told_22 : decode cX7_told 22 = .ok (.aload_n 0, 1) := dk_42 (dk_at dksX7_told_0 22 rfl rfl)
theorem dX7_told_23 : decode cX7_told 23 = .ok (.aload_n 0, 1) := dk_42 (dk_at dksX7_told_0 23 rfl rfl)
theorem dX7_told_24 : decode cX7_told 24 = .ok (.getfield 7, 3) := dk_180 0 7 (dk_at dksX7_told_1 0 rfl rfl)
theorem dX7_told_27 : decode cX7_told 27 = .ok (.bipush 10, 2) := dk_16 10 (dk_at dksX7_told_1 3 rfl rfl)
theorem dX7_told_29 : decode cX7_told 29 = .ok (.iaload, 1) := dk_46 (dk_at dksX7_told_1 5 rfl rfl)
theorem dX7_told_30 : decode cX7_told 30 = .ok (.invokevirtual 277, 3) := dk_182 1 21 (dk_at dksX7_told_1 6 rfl rfl)
theorem dX7_told_33 : decode cX7_told 33 = .ok (.ireturn, 1) := dk_172 (dk_at dksX7_told_1 9 rfl rfl)
theorem dX7_told_34 : decode cX7_told 34 = .ok (.aload_n 0, 1) := dk_42 (dk_at dksX7_told_1 10 rfl rfl)
theorem dX7_told_35 : decode cX7_told 35 = .ok (.iload_n 1, 1) := dk_27 (dk_at dksX7_told_1 11 rfl rfl)
theorem dX7_told_36 : decode cX7_told 36 = .ok (.iconst 2, 1) := dk_5 (dk_at dksX7_told_1 12 rfl rfl)
theorem dX7_told_37 : decode cX7_told 37 = .ok (.if_icmp .lt 20, 3) := dk_161 0 20 (dk_at dksX7_told_1 13 rfl rfl)
theorem dX7_told_40 : decode cX7_told 40 = .ok (.iload_n 1, 1) := dk_27 (dk_at dksX7_told_1 16 rfl rfl)
theorem dX7_told_41 : decode cX7_told 41 = .ok (.iconst 4, 1) := dk_7 (dk_at dksX7_told_1 17 rfl rfl)
theorem dX7_told_42 : decode cX7_told 42 = .ok (.if_icmp .gt 15, 3) := dk_163 0 15 (dk_at dksX7_told_1 18 rfl rfl)
theorem dX7_told_45 : decode cX7_told 45 = .ok (.aload_n 0, 1) := dk_42 (dk_at dksX7_told_1 21 rfl rfl)
theorem dX7_told_46 : decode cX7_told 46 = .ok (.getfield 7, 3) := dk_180 0 7 (dk_at dksX7_told_2 0 rfl rfl)
theorem dX7_told_49 : decode cX7_told 49 = .ok (.iload_n 1, 1) := dk_27 (dk_at dksX7_told_2 3 rfl rfl)
theorem dX7_told_50 : decode cX7_told 50 = .ok (.iaload, 1) := dk_46 (dk_at dksX7_told_2 4 rfl rfl)
theorem dX7_told_51 : decode cX7_told 51 = .ok (.invokestatic 226, 3) := dk_184 0 226 (dk_at dksX7_told_2 5 rfl rfl)
theorem dX7_told_54 : decode cX7_told 54 = .ok (.goto 9, 3) := dk_167 0 9 (dk_at dksX7_told_2 8 rfl rfl)
theorem dX7_told_57 : decode cX7_told 57 = .ok (.aload_n 0, 1) := dk_42 (dk_at dksX7_told_2 11 rfl rfl)
theorem dX7_told_58 : decode cX7_told 58 = .ok (.getfield 7, 3) := dk_180 0 7 (dk_at dksX7_told_2 12 rfl rfl)
theorem dX7_told_61 : decode cX7_told 61 = .ok (.iload_n 1, 1) := dk_27 (dk_at dksX7_told_2 15 rfl rfl)
theorem dX7_told_62 : decode cX7_told 62 = .ok (.iaload, 1) := dk_46 (dk_at dksX7_told_2 16 rfl rfl)
theorem dX7_told_63 : decode cX7_told 63 = .ok (.invokevirtual 85, 3) := dk_182 0 85 (dk_at dksX7_told_2 17 rfl rfl)
theorem dX7_told_66 : decode cX7_told 66 = .ok (.ireturn, 1) := dk_172 (dk_at dksX7_told_2 20 rfl rfl)
abbrev cX7_orNone : ByteArray := prog_16_method_10_code
def yX7_orNone : MethodName := ⟨RX7, "orNone", "(I)I"⟩
def dkwX7_orNone_0 : List UInt8 := [27, 2, 160, 0, 12, 42, 16, 6, 182, 0, 81, 167, 0, 8, 42, 27, 182, 0, 85, 172]
abbrev dktX7_orNone_0 : List UInt8 := dkwX7_orNone_0 ++ []
theorem dksX7_orNone_0 : cX7_orNone.data.toList.drop 0 = dktX7_orNone_0 := by decide +kernel
theorem dX7_orNone_0 : decode cX7_orNone 0 = .ok (.iload_n 1, 1) := dk_27 (dk_at dksX7_orNone_0 0 rfl rfl)
theorem dX7_orNone_1 : decode cX7_orNone 1 = .ok (.iconst (-1), 1) := dk_2 (dk_at dksX7_orNone_0 1 rfl rfl)
theorem dX7_orNone_2 : decode cX7_orNone 2 = .ok (.if_icmp .ne 12, 3) := dk_160 0 12 (dk_at dksX7_orNone_0 2 rfl rfl)
theorem dX7_orNone_5 : decode cX7_orNone 5 = .ok (.aload_n 0, 1) := dk_42 (dk_at dksX7_orNone_0 5 rfl rfl)
theorem dX7_orNone_6 : decode cX7_orNone 6 = .ok (.bipush 6, 2) := dk_16 6 (dk_at dksX7_orNone_0 6 rfl rfl)
theorem dX7_orNone_8 : decode cX7_orNone 8 = .ok (.invokevirtual 81, 3) := dk_182 0 81 (dk_at dksX7_orNone_0 8 rfl rfl)
theorem dX7_orNone_11 : decode cX7_orNone 11 = .ok (.goto 8, 3) := dk_167 0 8 (dk_at dksX7_orNone_0 11 rfl rfl)
theorem dX7_orNone_14 : decode cX7_orNone 14 = .ok (.aload_n 0, 1) := dk_42 (dk_at dksX7_orNone_0 14 rfl rfl)
theorem dX7_orNone_15 : decode cX7_orNone 15 = .ok (.iload_n 1, 1) := dk_27 (dk_at dksX7_orNone_0 15 rfl rfl)
theorem dX7_orNone_16 : decode cX7_orNone 16 = .ok (.invokevirtual 85, 3) := dk_182 0 85 (dk_at dksX7_orNone_0 16 rfl rfl)
theorem dX7_orNone_19 : decode cX7_orNone 19 = .ok (.ireturn, 1) := dk_172 (dk_at dksX7_orNone_0 19 rfl rfl)
abbrev cX7_picture : ByteArray := prog_16_method_67_code
def yX7_picture : MethodName := ⟨RX7, "picture", "()J"⟩
def dkwX7_picture_0 : List UInt8 := [42, 42, 180, 0, 7, 6, 46, 133, 182, 1, 24, 173]
abbrev dktX7_picture_0 : List UInt8 := dkwX7_picture_0 ++ []
theorem dksX7_picture_0 : cX7_picture.data.toList.drop 0 = dktX7_picture_0 := by decide +kernel
theorem dX7_picture_0 : decode cX7_picture 0 = .ok (.aload_n 0, 1) := dk_42 (dk_at dksX7_picture_0 0 rfl rfl)
theorem dX7_picture_1 : decode cX7_picture 1 = .ok (.aload_n 0, 1) := dk_42 (dk_at dksX7_picture_0 1 rfl rfl)
theorem dX7_picture_2 : decode cX7_picture 2 = .ok (.getfield 7, 3) := dk_180 0 7 (dk_at dksX7_picture_0 2 rfl rfl)
theorem dX7_picture_5 : decode cX7_picture 5 = .ok (.iconst 3, 1) := dk_6 (dk_at dksX7_picture_0 5 rfl rfl)
theorem dX7_picture_6 : decode cX7_picture 6 = .ok (.iaload, 1) := dk_46 (dk_at dksX7_picture_0 6 rfl rfl)
theorem dX7_picture_7 : decode cX7_picture 7 = .ok (.i2l, 1) := dk_133 (dk_at dksX7_picture_0 7 rfl rfl)
theorem dX7_picture_8 : decode cX7_picture 8 = .ok (.invokevirtual 280, 3) := dk_182 1 24 (dk_at dksX7_picture_0 8 rfl rfl)
theorem dX7_picture_11 : decode cX7_picture 11 = .ok (.lreturn, 1) := dk_173 (dk_at dksX7_picture_0 11 rfl rfl)
abbrev cX7_givesLong : ByteArray := prog_16_method_9_code
def yX7_givesLong : MethodName := ⟨RX7, "givesLong", "(J)J"⟩
def dkwX7_givesLong_0 : List UInt8 := [42, 3, 181, 0, 75, 31, 173]
abbrev dktX7_givesLong_0 : List UInt8 := dkwX7_givesLong_0 ++ []
theorem dksX7_givesLong_0 : cX7_givesLong.data.toList.drop 0 = dktX7_givesLong_0 := by decide +kernel
theorem dX7_givesLong_0 : decode cX7_givesLong 0 = .ok (.aload_n 0, 1) := dk_42 (dk_at dksX7_givesLong_0 0 rfl rfl)
theorem dX7_givesLong_1 : decode cX7_givesLong 1 = .ok (.iconst 0, 1) := dk_3 (dk_at dksX7_givesLong_0 1 rfl rfl)
theorem dX7_givesLong_2 : decode cX7_givesLong 2 = .ok (.putfield 75, 3) := dk_181 0 75 (dk_at dksX7_givesLong_0 2 rfl rfl)
theorem dX7_givesLong_5 : decode cX7_givesLong 5 = .ok (.lload_n 1, 1) := dk_31 (dk_at dksX7_givesLong_0 5 rfl rfl)
theorem dX7_givesLong_6 : decode cX7_givesLong 6 = .ok (.lreturn, 1) := dk_173 (dk_at dksX7_givesLong_0 6 rfl rfl)
abbrev cX7_lamp : ByteArray := prog_16_method_68_code
def yX7_lamp : MethodName := ⟨RX7, "lamp", "(III)I"⟩
def dkwX7_lamp_5 : List UInt8 := [7, 46, 21, 6, 126, 154, 0, 7, 3, 167, 0, 4, 4, 182, 0, 85, 172]
abbrev dktX7_lamp_5 : List UInt8 := dkwX7_lamp_5 ++ []
def dkwX7_lamp_4 : List UInt8 := [29, 5, 160, 0, 18, 21, 5, 42, 180, 0, 7, 6, 46, 126, 184, 0, 226, 167, 0, 20, 42, 180, 0, 7]
abbrev dktX7_lamp_4 : List UInt8 := dkwX7_lamp_4 ++ dktX7_lamp_5
def dkwX7_lamp_3 : List UInt8 := [154, 0, 7, 3, 167, 0, 57, 4, 167, 0, 53, 29, 4, 160, 0, 11, 21, 5, 184, 0, 226, 167, 0, 40]
abbrev dktX7_lamp_3 : List UInt8 := dkwX7_lamp_3 ++ dktX7_lamp_4
def dkwX7_lamp_2 : List UInt8 := [54, 5, 42, 27, 28, 182, 1, 0, 54, 6, 42, 29, 154, 0, 23, 42, 180, 0, 7, 6, 46, 21, 6, 126]
abbrev dktX7_lamp_2 : List UInt8 := dkwX7_lamp_2 ++ dktX7_lamp_3
def dkwX7_lamp_1 : List UInt8 := [158, 0, 10, 42, 21, 4, 182, 0, 81, 172, 42, 42, 180, 0, 7, 3, 46, 28, 104, 27, 96, 182, 1, 9]
abbrev dktX7_lamp_1 : List UInt8 := dkwX7_lamp_1 ++ dktX7_lamp_2
def dkwX7_lamp_0 : List UInt8 := [29, 155, 0, 8, 29, 6, 164, 0, 7, 4, 167, 0, 9, 42, 27, 28, 182, 1, 3, 54, 4, 21, 4]
abbrev dktX7_lamp_0 : List UInt8 := dkwX7_lamp_0 ++ dktX7_lamp_1
theorem dksX7_lamp_0 : cX7_lamp.data.toList.drop 0 = dktX7_lamp_0 := by decide +kernel
theorem dksX7_lamp_1 : cX7_lamp.data.toList.drop 23 = dktX7_lamp_1 := dk_seg dksX7_lamp_0 23 rfl rfl
theorem dksX7_lamp_2 : cX7_lamp.data.toList.drop 47 = dktX7_lamp_2 := dk_seg dksX7_lamp_1 24 rfl rfl
theorem dksX7_lamp_3 : cX7_lamp.data.toList.drop 71 = dktX7_lamp_3 := dk_seg dksX7_lamp_2 24 rfl rfl
theorem dksX7_lamp_4 : cX7_lamp.data.toList.drop 95 = dktX7_lamp_4 := dk_seg dksX7_lamp_3 24 rfl rfl
theorem dksX7_lamp_5 : cX7_lamp.data.toList.drop 119 = dktX7_lamp_5 := dk_seg dksX7_lamp_4 24 rfl rfl
theorem dX7_lamp_0 : decode cX7_lamp 0 = .ok (.iload_n 3, 1) := dk_29 (dk_at dksX7_lamp_0 0 rfl rfl)
theorem dX7_lamp_1 : decode cX7_lamp 1 = .ok (.ifCond .lt 8, 3) := dk_155 0 8 (dk_at dksX7_lamp_0 1 rfl rfl)
theorem dX7_lamp_4 : decode cX7_lamp 4 = .ok (.iload_n 3, 1) := dk_29 (dk_at dksX7_lamp_0 4 rfl rfl)
theorem dX7_lamp_5 : decode cX7_lamp 5 = .ok (.iconst 3, 1) := dk_6 (dk_at dksX7_lamp_0 5 rfl rfl)
theorem dX7_lamp_6 : decode cX7_lamp 6 = .ok (.if_icmp .le 7, 3) := dk_164 0 7 (dk_at dksX7_lamp_0 6 rfl rfl)
theorem dX7_lamp_9 : decode cX7_lamp 9 = .ok (.iconst 1, 1) := dk_4 (dk_at dksX7_lamp_0 9 rfl rfl)
theorem dX7_lamp_10 : decode cX7_lamp 10 = .ok (.goto 9, 3) := dk_167 0 9 (dk_at dksX7_lamp_0 10 rfl rfl)
theorem dX7_lamp_13 : decode cX7_lamp 13 = .ok (.aload_n 0, 1) := dk_42 (dk_at dksX7_lamp_0 13 rfl rfl)
theorem dX7_lamp_14 : decode cX7_lamp 14 = .ok (.iload_n 1, 1) := dk_27 (dk_at dksX7_lamp_0 14 rfl rfl)
theorem dX7_lamp_15 : decode cX7_lamp 15 = .ok (.iload_n 2, 1) := dk_28 (dk_at dksX7_lamp_0 15 rfl rfl)
theorem dX7_lamp_16 : decode cX7_lamp 16 = .ok (.invokevirtual 259, 3) := dk_182 1 3 (dk_at dksX7_lamp_0 16 rfl rfl)
theorem dX7_lamp_19 : decode cX7_lamp 19 = .ok (.istore 4, 2) := dk_54 4 (dk_at dksX7_lamp_0 19 rfl rfl)
theorem dX7_lamp_21 : decode cX7_lamp 21 = .ok (.iload 4, 2) := dk_21 4 (dk_at dksX7_lamp_0 21 rfl rfl)
theorem dX7_lamp_23 : decode cX7_lamp 23 = .ok (.ifCond .le 10, 3) := dk_158 0 10 (dk_at dksX7_lamp_1 0 rfl rfl)
theorem dX7_lamp_26 : decode cX7_lamp 26 = .ok (.aload_n 0, 1) := dk_42 (dk_at dksX7_lamp_1 3 rfl rfl)
theorem dX7_lamp_27 : decode cX7_lamp 27 = .ok (.iload 4, 2) := dk_21 4 (dk_at dksX7_lamp_1 4 rfl rfl)
theorem dX7_lamp_29 : decode cX7_lamp 29 = .ok (.invokevirtual 81, 3) := dk_182 0 81 (dk_at dksX7_lamp_1 6 rfl rfl)
theorem dX7_lamp_32 : decode cX7_lamp 32 = .ok (.ireturn, 1) := dk_172 (dk_at dksX7_lamp_1 9 rfl rfl)
theorem dX7_lamp_33 : decode cX7_lamp 33 = .ok (.aload_n 0, 1) := dk_42 (dk_at dksX7_lamp_1 10 rfl rfl)
theorem dX7_lamp_34 : decode cX7_lamp 34 = .ok (.aload_n 0, 1) := dk_42 (dk_at dksX7_lamp_1 11 rfl rfl)
theorem dX7_lamp_35 : decode cX7_lamp 35 = .ok (.getfield 7, 3) := dk_180 0 7 (dk_at dksX7_lamp_1 12 rfl rfl)
theorem dX7_lamp_38 : decode cX7_lamp 38 = .ok (.iconst 0, 1) := dk_3 (dk_at dksX7_lamp_1 15 rfl rfl)
theorem dX7_lamp_39 : decode cX7_lamp 39 = .ok (.iaload, 1) := dk_46 (dk_at dksX7_lamp_1 16 rfl rfl)
theorem dX7_lamp_40 : decode cX7_lamp 40 = .ok (.iload_n 2, 1) := dk_28 (dk_at dksX7_lamp_1 17 rfl rfl)
theorem dX7_lamp_41 : decode cX7_lamp 41 = .ok (.imul, 1) := dk_104 (dk_at dksX7_lamp_1 18 rfl rfl)
theorem dX7_lamp_42 : decode cX7_lamp 42 = .ok (.iload_n 1, 1) := dk_27 (dk_at dksX7_lamp_1 19 rfl rfl)
theorem dX7_lamp_43 : decode cX7_lamp 43 = .ok (.iadd, 1) := dk_96 (dk_at dksX7_lamp_1 20 rfl rfl)
theorem dX7_lamp_44 : decode cX7_lamp 44 = .ok (.invokevirtual 265, 3) := dk_182 1 9 (dk_at dksX7_lamp_1 21 rfl rfl)
theorem dX7_lamp_47 : decode cX7_lamp 47 = .ok (.istore 5, 2) := dk_54 5 (dk_at dksX7_lamp_2 0 rfl rfl)
theorem dX7_lamp_49 : decode cX7_lamp 49 = .ok (.aload_n 0, 1) := dk_42 (dk_at dksX7_lamp_2 2 rfl rfl)
theorem dX7_lamp_50 : decode cX7_lamp 50 = .ok (.iload_n 1, 1) := dk_27 (dk_at dksX7_lamp_2 3 rfl rfl)
theorem dX7_lamp_51 : decode cX7_lamp 51 = .ok (.iload_n 2, 1) := dk_28 (dk_at dksX7_lamp_2 4 rfl rfl)
theorem dX7_lamp_52 : decode cX7_lamp 52 = .ok (.invokevirtual 256, 3) := dk_182 1 0 (dk_at dksX7_lamp_2 5 rfl rfl)
theorem dX7_lamp_55 : decode cX7_lamp 55 = .ok (.istore 6, 2) := dk_54 6 (dk_at dksX7_lamp_2 8 rfl rfl)
theorem dX7_lamp_57 : decode cX7_lamp 57 = .ok (.aload_n 0, 1) := dk_42 (dk_at dksX7_lamp_2 10 rfl rfl)
theorem dX7_lamp_58 : decode cX7_lamp 58 = .ok (.iload_n 3, 1) := dk_29 (dk_at dksX7_lamp_2 11 rfl rfl)
theorem dX7_lamp_59 : decode cX7_lamp 59 = .ok (.ifCond .ne 23, 3) := dk_154 0 23 (dk_at dksX7_lamp_2 12 rfl rfl)
theorem dX7_lamp_62 : decode cX7_lamp 62 = .ok (.aload_n 0, 1) := dk_42 (dk_at dksX7_lamp_2 15 rfl rfl)
theorem dX7_lamp_63 : decode cX7_lamp 63 = .ok (.getfield 7, 3) := dk_180 0 7 (dk_at dksX7_lamp_2 16 rfl rfl)
theorem dX7_lamp_66 : decode cX7_lamp 66 = .ok (.iconst 3, 1) := dk_6 (dk_at dksX7_lamp_2 19 rfl rfl)
theorem dX7_lamp_67 : decode cX7_lamp 67 = .ok (.iaload, 1) := dk_46 (dk_at dksX7_lamp_2 20 rfl rfl)
theorem dX7_lamp_68 : decode cX7_lamp 68 = .ok (.iload 6, 2) := dk_21 6 (dk_at dksX7_lamp_2 21 rfl rfl)
theorem dX7_lamp_70 : decode cX7_lamp 70 = .ok (.iand, 1) := dk_126 (dk_at dksX7_lamp_2 23 rfl rfl)
theorem dX7_lamp_71 : decode cX7_lamp 71 = .ok (.ifCond .ne 7, 3) := dk_154 0 7 (dk_at dksX7_lamp_3 0 rfl rfl)
theorem dX7_lamp_74 : decode cX7_lamp 74 = .ok (.iconst 0, 1) := dk_3 (dk_at dksX7_lamp_3 3 rfl rfl)
theorem dX7_lamp_75 : decode cX7_lamp 75 = .ok (.goto 57, 3) := dk_167 0 57 (dk_at dksX7_lamp_3 4 rfl rfl)
theorem dX7_lamp_78 : decode cX7_lamp 78 = .ok (.iconst 1, 1) := dk_4 (dk_at dksX7_lamp_3 7 rfl rfl)
theorem dX7_lamp_79 : decode cX7_lamp 79 = .ok (.goto 53, 3) := dk_167 0 53 (dk_at dksX7_lamp_3 8 rfl rfl)
theorem dX7_lamp_82 : decode cX7_lamp 82 = .ok (.iload_n 3, 1) := dk_29 (dk_at dksX7_lamp_3 11 rfl rfl)
theorem dX7_lamp_83 : decode cX7_lamp 83 = .ok (.iconst 1, 1) := dk_4 (dk_at dksX7_lamp_3 12 rfl rfl)
theorem dX7_lamp_84 : decode cX7_lamp 84 = .ok (.if_icmp .ne 11, 3) := dk_160 0 11 (dk_at dksX7_lamp_3 13 rfl rfl)
theorem dX7_lamp_87 : decode cX7_lamp 87 = .ok (.iload 5, 2) := dk_21 5 (dk_at dksX7_lamp_3 16 rfl rfl)
theorem dX7_lamp_89 : decode cX7_lamp 89 = .ok (.invokestatic 226, 3) := dk_184 0 226 (dk_at dksX7_lamp_3 18 rfl rfl)
theorem dX7_lamp_92 : decode cX7_lamp 92 = .ok (.goto 40, 3) := dk_167 0 40 (dk_at dksX7_lamp_3 21 rfl rfl)
theorem dX7_lamp_95 : decode cX7_lamp 95 = .ok (.iload_n 3, 1) := dk_29 (dk_at dksX7_lamp_4 0 rfl rfl)
theorem dX7_lamp_96 : decode cX7_lamp 96 = .ok (.iconst 2, 1) := dk_5 (dk_at dksX7_lamp_4 1 rfl rfl)
theorem dX7_lamp_97 : decode cX7_lamp 97 = .ok (.if_icmp .ne 18, 3) := dk_160 0 18 (dk_at dksX7_lamp_4 2 rfl rfl)
theorem dX7_lamp_100 : decode cX7_lamp 100 = .ok (.iload 5, 2) := dk_21 5 (dk_at dksX7_lamp_4 5 rfl rfl)
theorem dX7_lamp_102 : decode cX7_lamp 102 = .ok (.aload_n 0, 1) := dk_42 (dk_at dksX7_lamp_4 7 rfl rfl)
theorem dX7_lamp_103 : decode cX7_lamp 103 = .ok (.getfield 7, 3) := dk_180 0 7 (dk_at dksX7_lamp_4 8 rfl rfl)
theorem dX7_lamp_106 : decode cX7_lamp 106 = .ok (.iconst 3, 1) := dk_6 (dk_at dksX7_lamp_4 11 rfl rfl)
theorem dX7_lamp_107 : decode cX7_lamp 107 = .ok (.iaload, 1) := dk_46 (dk_at dksX7_lamp_4 12 rfl rfl)
theorem dX7_lamp_108 : decode cX7_lamp 108 = .ok (.iand, 1) := dk_126 (dk_at dksX7_lamp_4 13 rfl rfl)
theorem dX7_lamp_109 : decode cX7_lamp 109 = .ok (.invokestatic 226, 3) := dk_184 0 226 (dk_at dksX7_lamp_4 14 rfl rfl)
theorem dX7_lamp_112 : decode cX7_lamp 112 = .ok (.goto 20, 3) := dk_167 0 20 (dk_at dksX7_lamp_4 17 rfl rfl)
theorem dX7_lamp_115 : decode cX7_lamp 115 = .ok (.aload_n 0, 1) := dk_42 (dk_at dksX7_lamp_4 20 rfl rfl)
theorem dX7_lamp_116 : decode cX7_lamp 116 = .ok (.getfield 7, 3) := dk_180 0 7 (dk_at dksX7_lamp_4 21 rfl rfl)
theorem dX7_lamp_119 : decode cX7_lamp 119 = .ok (.iconst 4, 1) := dk_7 (dk_at dksX7_lamp_5 0 rfl rfl)
theorem dX7_lamp_120 : decode cX7_lamp 120 = .ok (.iaload, 1) := dk_46 (dk_at dksX7_lamp_5 1 rfl rfl)
theorem dX7_lamp_121 : decode cX7_lamp 121 = .ok (.iload 6, 2) := dk_21 6 (dk_at dksX7_lamp_5 2 rfl rfl)
theorem dX7_lamp_123 : decode cX7_lamp 123 = .ok (.iand, 1) := dk_126 (dk_at dksX7_lamp_5 4 rfl rfl)
theorem dX7_lamp_124 : decode cX7_lamp 124 = .ok (.ifCond .ne 7, 3) := dk_154 0 7 (dk_at dksX7_lamp_5 5 rfl rfl)
theorem dX7_lamp_127 : decode cX7_lamp 127 = .ok (.iconst 0, 1) := dk_3 (dk_at dksX7_lamp_5 8 rfl rfl)
theorem dX7_lamp_128 : decode cX7_lamp 128 = .ok (.goto 4, 3) := dk_167 0 4 (dk_at dksX7_lamp_5 9 rfl rfl)
theorem dX7_lamp_131 : decode cX7_lamp 131 = .ok (.iconst 1, 1) := dk_4 (dk_at dksX7_lamp_5 12 rfl rfl)
theorem dX7_lamp_132 : decode cX7_lamp 132 = .ok (.invokevirtual 85, 3) := dk_182 0 85 (dk_at dksX7_lamp_5 13 rfl rfl)
theorem dX7_lamp_135 : decode cX7_lamp 135 = .ok (.ireturn, 1) := dk_172 (dk_at dksX7_lamp_5 16 rfl rfl)
abbrev cX7_wrongHouse : ByteArray := prog_16_method_57_code
def yX7_wrongHouse : MethodName := ⟨RX7, "wrongHouse", "(II)I"⟩
def dkwX7_wrongHouse_1 : List UInt8 := [182, 1, 0, 126, 154, 0, 8, 16, 7, 167, 0, 4, 3, 172]
abbrev dktX7_wrongHouse_1 : List UInt8 := dkwX7_wrongHouse_1 ++ []
def dkwX7_wrongHouse_0 : List UInt8 := [42, 27, 28, 182, 0, 253, 154, 0, 7, 4, 167, 0, 25, 42, 180, 0, 7, 5, 46, 42, 27, 28]
abbrev dktX7_wrongHouse_0 : List UInt8 := dkwX7_wrongHouse_0 ++ dktX7_wrongHouse_1
theorem dksX7_wrongHouse_0 : cX7_wrongHouse.data.toList.drop 0 = dktX7_wrongHouse_0 := by decide +kernel
theorem dksX7_wrongHouse_1 : cX7_wrongHouse.data.toList.drop 22 = dktX7_wrongHouse_1 := dk_seg dksX7_wrongHouse_0 22 rfl rfl
theorem dX7_wrongHouse_0 : decode cX7_wrongHouse 0 = .ok (.aload_n 0, 1) := dk_42 (dk_at dksX7_wrongHouse_0 0 rfl rfl)
theorem dX7_wrongHouse_1 : decode cX7_wrongHouse 1 = .ok (.iload_n 1, 1) := dk_27 (dk_at dksX7_wrongHouse_0 1 rfl rfl)
theorem dX7_wrongHouse_2 : decode cX7_wrongHouse 2 = .ok (.iload_n 2, 1) := dk_28 (dk_at dksX7_wrongHouse_0 2 rfl rfl)
theorem dX7_wrongHouse_3 : decode cX7_wrongHouse 3 = .ok (.invokevirtual 253, 3) := dk_182 0 253 (dk_at dksX7_wrongHouse_0 3 rfl rfl)
theorem dX7_wrongHouse_6 : decode cX7_wrongHouse 6 = .ok (.ifCond .ne 7, 3) := dk_154 0 7 (dk_at dksX7_wrongHouse_0 6 rfl rfl)
theorem dX7_wrongHouse_9 : decode cX7_wrongHouse 9 = .ok (.iconst 1, 1) := dk_4 (dk_at dksX7_wrongHouse_0 9 rfl rfl)
theorem dX7_wrongHouse_10 : decode cX7_wrongHouse 10 = .ok (.goto 25, 3) := dk_167 0 25 (dk_at dksX7_wrongHouse_0 10 rfl rfl)
theorem dX7_wrongHouse_13 : decode cX7_wrongHouse 13 = .ok (.aload_n 0, 1) := dk_42 (dk_at dksX7_wrongHouse_0 13 rfl rfl)
theorem dX7_wrongHouse_14 : decode cX7_wrongHouse 14 = .ok (.getfield 7, 3) := dk_180 0 7 (dk_at dksX7_wrongHouse_0 14 rfl rfl)
theorem dX7_wrongHouse_17 : decode cX7_wrongHouse 17 = .ok (.iconst 2, 1) := dk_5 (dk_at dksX7_wrongHouse_0 17 rfl rfl)
theorem dX7_wrongHouse_18 : decode cX7_wrongHouse 18 = .ok (.iaload, 1) := dk_46 (dk_at dksX7_wrongHouse_0 18 rfl rfl)
theorem dX7_wrongHouse_19 : decode cX7_wrongHouse 19 = .ok (.aload_n 0, 1) := dk_42 (dk_at dksX7_wrongHouse_0 19 rfl rfl)
theorem dX7_wrongHouse_20 : decode cX7_wrongHouse 20 = .ok (.iload_n 1, 1) := dk_27 (dk_at dksX7_wrongHouse_0 20 rfl rfl)
theorem dX7_wrongHouse_21 : decode cX7_wrongHouse 21 = .ok (.iload_n 2, 1) := dk_28 (dk_at dksX7_wrongHouse_0 21 rfl rfl)
theorem dX7_wrongHouse_22 : decode cX7_wrongHouse 22 = .ok (.invokevirtual 256, 3) := dk_182 1 0 (dk_at dksX7_wrongHouse_1 0 rfl rfl)
theorem dX7_wrongHouse_25 : decode cX7_wrongHouse 25 = .ok (.iand, 1) := dk_126 (dk_at dksX7_wrongHouse_1 3 rfl rfl)
theorem dX7_wrongHouse_26 : decode cX7_wrongHouse 26 = .ok (.ifCond .ne 8, 3) := dk_154 0 8 (dk_at dksX7_wrongHouse_1 4 rfl rfl)
theorem dX7_wrongHouse_29 : decode cX7_wrongHouse 29 = .ok (.bipush 7, 2) := dk_16 7 (dk_at dksX7_wrongHouse_1 7 rfl rfl)
theorem dX7_wrongHouse_31 : decode cX7_wrongHouse 31 = .ok (.goto 4, 3) := dk_167 0 4 (dk_at dksX7_wrongHouse_1 9 rfl rfl)
theorem dX7_wrongHouse_34 : decode cX7_wrongHouse 34 = .ok (.iconst 0, 1) := dk_3 (dk_at dksX7_wrongHouse_1 12 rfl rfl)
theorem dX7_wrongHouse_35 : decode cX7_wrongHouse 35 = .ok (.ireturn, 1) := dk_172 (dk_at dksX7_wrongHouse_1 13 rfl rfl)
abbrev cX7_isPlace : ByteArray := prog_16_method_55_code
def yX7_isPlace : MethodName := ⟨RX7, "isPlace", "(II)Z"⟩
def dkwX7_isPlace_1 : List UInt8 := [46, 162, 0, 7, 4, 167, 0, 4, 3, 172]
abbrev dktX7_isPlace_1 : List UInt8 := dkwX7_isPlace_1 ++ []
def dkwX7_isPlace_0 : List UInt8 := [27, 155, 0, 31, 27, 42, 180, 0, 7, 3, 46, 162, 0, 21, 28, 155, 0, 17, 28, 42, 180, 0, 7, 4]
abbrev dktX7_isPlace_0 : List UInt8 := dkwX7_isPlace_0 ++ dktX7_isPlace_1
theorem dksX7_isPlace_0 : cX7_isPlace.data.toList.drop 0 = dktX7_isPlace_0 := by decide +kernel
theorem dksX7_isPlace_1 : cX7_isPlace.data.toList.drop 24 = dktX7_isPlace_1 := dk_seg dksX7_isPlace_0 24 rfl rfl
theorem dX7_isPlace_0 : decode cX7_isPlace 0 = .ok (.iload_n 1, 1) := dk_27 (dk_at dksX7_isPlace_0 0 rfl rfl)
theorem dX7_isPlace_1 : decode cX7_isPlace 1 = .ok (.ifCond .lt 31, 3) := dk_155 0 31 (dk_at dksX7_isPlace_0 1 rfl rfl)
theorem dX7_isPlace_4 : decode cX7_isPlace 4 = .ok (.iload_n 1, 1) := dk_27 (dk_at dksX7_isPlace_0 4 rfl rfl)
theorem dX7_isPlace_5 : decode cX7_isPlace 5 = .ok (.aload_n 0, 1) := dk_42 (dk_at dksX7_isPlace_0 5 rfl rfl)
theorem dX7_isPlace_6 : decode cX7_isPlace 6 = .ok (.getfield 7, 3) := dk_180 0 7 (dk_at dksX7_isPlace_0 6 rfl rfl)
theorem dX7_isPlace_9 : decode cX7_isPlace 9 = .ok (.iconst 0, 1) := dk_3 (dk_at dksX7_isPlace_0 9 rfl rfl)
theorem dX7_isPlace_10 : decode cX7_isPlace 10 = .ok (.iaload, 1) := dk_46 (dk_at dksX7_isPlace_0 10 rfl rfl)
theorem dX7_isPlace_11 : decode cX7_isPlace 11 = .ok (.if_icmp .ge 21, 3) := dk_162 0 21 (dk_at dksX7_isPlace_0 11 rfl rfl)
theorem dX7_isPlace_14 : decode cX7_isPlace 14 = .ok (.iload_n 2, 1) := dk_28 (dk_at dksX7_isPlace_0 14 rfl rfl)
theorem dX7_isPlace_15 : decode cX7_isPlace 15 = .ok (.ifCond .lt 17, 3) := dk_155 0 17 (dk_at dksX7_isPlace_0 15 rfl rfl)
theorem dX7_isPlace_18 : decode cX7_isPlace 18 = .ok (.iload_n 2, 1) := dk_28 (dk_at dksX7_isPlace_0 18 rfl rfl)
theorem dX7_isPlace_19 : decode cX7_isPlace 19 = .ok (.aload_n 0, 1) := dk_42 (dk_at dksX7_isPlace_0 19 rfl rfl)
theorem dX7_isPlace_20 : decode cX7_isPlace 20 = .ok (.getfield 7, 3) := dk_180 0 7 (dk_at dksX7_isPlace_0 20 rfl rfl)
theorem dX7_isPlace_23 : decode cX7_isPlace 23 = .ok (.iconst 1, 1) := dk_4 (dk_at dksX7_isPlace_0 23 rfl rfl)
theorem dX7_isPlace_24 : decode cX7_isPlace 24 = .ok (.iaload, 1) := dk_46 (dk_at dksX7_isPlace_1 0 rfl rfl)
theorem dX7_isPlace_25 : decode cX7_isPlace 25 = .ok (.if_icmp .ge 7, 3) := dk_162 0 7 (dk_at dksX7_isPlace_1 1 rfl rfl)
theorem dX7_isPlace_28 : decode cX7_isPlace 28 = .ok (.iconst 1, 1) := dk_4 (dk_at dksX7_isPlace_1 4 rfl rfl)
theorem dX7_isPlace_29 : decode cX7_isPlace 29 = .ok (.goto 4, 3) := dk_167 0 4 (dk_at dksX7_isPlace_1 5 rfl rfl)
theorem dX7_isPlace_32 : decode cX7_isPlace 32 = .ok (.iconst 0, 1) := dk_3 (dk_at dksX7_isPlace_1 8 rfl rfl)
theorem dX7_isPlace_33 : decode cX7_isPlace 33 = .ok (.ireturn, 1) := dk_172 (dk_at dksX7_isPlace_1 9 rfl rfl)
abbrev cX7_bitOf : ByteArray := prog_16_method_56_code
def yX7_bitOf : MethodName := ⟨RX7, "bitOf", "(II)I"⟩
def dkwX7_bitOf_0 : List UInt8 := [4, 42, 180, 0, 7, 3, 46, 28, 104, 27, 96, 120, 172]
abbrev dktX7_bitOf_0 : List UInt8 := dkwX7_bitOf_0 ++ []
theorem dksX7_bitOf_0 : cX7_bitOf.data.toList.drop 0 = dktX7_bitOf_0 := by decide +kernel
theorem dX7_bitOf_0 : decode cX7_bitOf 0 = .ok (.iconst 1, 1) := dk_4 (dk_at dksX7_bitOf_0 0 rfl rfl)
theorem dX7_bitOf_1 : decode cX7_bitOf 1 = .ok (.aload_n 0, 1) := dk_42 (dk_at dksX7_bitOf_0 1 rfl rfl)
theorem dX7_bitOf_2 : decode cX7_bitOf 2 = .ok (.getfield 7, 3) := dk_180 0 7 (dk_at dksX7_bitOf_0 2 rfl rfl)
theorem dX7_bitOf_5 : decode cX7_bitOf 5 = .ok (.iconst 0, 1) := dk_3 (dk_at dksX7_bitOf_0 5 rfl rfl)
theorem dX7_bitOf_6 : decode cX7_bitOf 6 = .ok (.iaload, 1) := dk_46 (dk_at dksX7_bitOf_0 6 rfl rfl)
theorem dX7_bitOf_7 : decode cX7_bitOf 7 = .ok (.iload_n 2, 1) := dk_28 (dk_at dksX7_bitOf_0 7 rfl rfl)
theorem dX7_bitOf_8 : decode cX7_bitOf 8 = .ok (.imul, 1) := dk_104 (dk_at dksX7_bitOf_0 8 rfl rfl)
theorem dX7_bitOf_9 : decode cX7_bitOf 9 = .ok (.iload_n 1, 1) := dk_27 (dk_at dksX7_bitOf_0 9 rfl rfl)
theorem dX7_bitOf_10 : decode cX7_bitOf 10 = .ok (.iadd, 1) := dk_96 (dk_at dksX7_bitOf_0 10 rfl rfl)
theorem dX7_bitOf_11 : decode cX7_bitOf 11 = .ok (.ishl, 1) := dk_120 (dk_at dksX7_bitOf_0 11 rfl rfl)
theorem dX7_bitOf_12 : decode cX7_bitOf 12 = .ok (.ireturn, 1) := dk_172 (dk_at dksX7_bitOf_0 12 rfl rfl)
abbrev cX7_near : ByteArray := prog_16_method_62_code
def yX7_near : MethodName := ⟨RX7, "near", "(I)I"⟩
def dkwX7_near_6 : List UInt8 := [172]
abbrev dktX7_near_6 : List UInt8 := dkwX7_near_6 ++ []
def dkwX7_near_5 : List UInt8 := [160, 0, 15, 21, 4, 4, 27, 28, 100, 4, 96, 120, 128, 54, 4, 21, 4, 42, 180, 0, 7, 5, 46, 126]
abbrev dktX7_near_5 : List UInt8 := dkwX7_near_5 ++ dktX7_near_6
def dkwX7_near_4 : List UInt8 := [162, 0, 16, 21, 4, 4, 27, 4, 96, 120, 128, 54, 4, 167, 0, 26, 42, 180, 0, 7, 16, 9, 46, 4]
abbrev dktX7_near_4 : List UInt8 := dkwX7_near_4 ++ dktX7_near_5
def dkwX7_near_3 : List UInt8 := [16, 9, 46, 4, 160, 0, 15, 21, 4, 4, 27, 28, 96, 4, 100, 120, 128, 54, 4, 29, 4, 96, 28]
abbrev dktX7_near_3 : List UInt8 := dkwX7_near_3 ++ dktX7_near_4
def dkwX7_near_2 : List UInt8 := [54, 4, 29, 158, 0, 16, 21, 4, 4, 27, 4, 100, 120, 128, 54, 4, 167, 0, 26, 42, 180, 0, 7]
abbrev dktX7_near_2 : List UInt8 := dkwX7_near_2 ++ dktX7_near_3
def dkwX7_near_1 : List UInt8 := [100, 120, 128, 54, 4, 27, 28, 96, 42, 182, 1, 6, 162, 0, 13, 21, 4, 4, 27, 28, 96, 120, 128]
abbrev dktX7_near_1 : List UInt8 := dkwX7_near_1 ++ dktX7_near_2
def dkwX7_near_0 : List UInt8 := [42, 180, 0, 7, 3, 46, 61, 27, 28, 112, 62, 3, 54, 4, 27, 28, 161, 0, 13, 21, 4, 4, 27, 28]
abbrev dktX7_near_0 : List UInt8 := dkwX7_near_0 ++ dktX7_near_1
theorem dksX7_near_0 : cX7_near.data.toList.drop 0 = dktX7_near_0 := by decide +kernel
theorem dksX7_near_1 : cX7_near.data.toList.drop 24 = dktX7_near_1 := dk_seg dksX7_near_0 24 rfl rfl
theorem dksX7_near_2 : cX7_near.data.toList.drop 47 = dktX7_near_2 := dk_seg dksX7_near_1 23 rfl rfl
theorem dksX7_near_3 : cX7_near.data.toList.drop 70 = dktX7_near_3 := dk_seg dksX7_near_2 23 rfl rfl
theorem dksX7_near_4 : cX7_near.data.toList.drop 93 = dktX7_near_4 := dk_seg dksX7_near_3 23 rfl rfl
theorem dksX7_near_5 : cX7_near.data.toList.drop 117 = dktX7_near_5 := dk_seg dksX7_near_4 24 rfl rfl
theorem dksX7_near_6 : cX7_near.data.toList.drop 141 = dktX7_near_6 := dk_seg dksX7_near_5 24 rfl rfl
theorem dX7_near_0 : decode cX7_near 0 = .ok (.aload_n 0, 1) := dk_42 (dk_at dksX7_near_0 0 rfl rfl)
theorem dX7_near_1 : decode cX7_near 1 = .ok (.getfield 7, 3) := dk_180 0 7 (dk_at dksX7_near_0 1 rfl rfl)
theorem dX7_near_4 : decode cX7_near 4 = .ok (.iconst 0, 1) := dk_3 (dk_at dksX7_near_0 4 rfl rfl)
theorem dX7_near_5 : decode cX7_near 5 = .ok (.iaload, 1) := dk_46 (dk_at dksX7_near_0 5 rfl rfl)
theorem dX7_near_6 : decode cX7_near 6 = .ok (.istore_n 2, 1) := dk_61 (dk_at dksX7_near_0 6 rfl rfl)
theorem dX7_near_7 : decode cX7_near 7 = .ok (.iload_n 1, 1) := dk_27 (dk_at dksX7_near_0 7 rfl rfl)
theorem dX7_near_8 : decode cX7_near 8 = .ok (.iload_n 2, 1) := dk_28 (dk_at dksX7_near_0 8 rfl rfl)
theorem dX7_near_9 : decode cX7_near 9 = .ok (.irem, 1) := dk_112 (dk_at dksX7_near_0 9 rfl rfl)
theorem dX7_near_10 : decode cX7_near 10 = .ok (.istore_n 3, 1) := dk_62 (dk_at dksX7_near_0 10 rfl rfl)
theorem dX7_near_11 : decode cX7_near 11 = .ok (.iconst 0, 1) := dk_3 (dk_at dksX7_near_0 11 rfl rfl)
theorem dX7_near_12 : decode cX7_near 12 = .ok (.istore 4, 2) := dk_54 4 (dk_at dksX7_near_0 12 rfl rfl)
theorem dX7_near_14 : decode cX7_near 14 = .ok (.iload_n 1, 1) := dk_27 (dk_at dksX7_near_0 14 rfl rfl)
theorem dX7_near_15 : decode cX7_near 15 = .ok (.iload_n 2, 1) := dk_28 (dk_at dksX7_near_0 15 rfl rfl)
theorem dX7_near_16 : decode cX7_near 16 = .ok (.if_icmp .lt 13, 3) := dk_161 0 13 (dk_at dksX7_near_0 16 rfl rfl)
theorem dX7_near_19 : decode cX7_near 19 = .ok (.iload 4, 2) := dk_21 4 (dk_at dksX7_near_0 19 rfl rfl)
theorem dX7_near_21 : decode cX7_near 21 = .ok (.iconst 1, 1) := dk_4 (dk_at dksX7_near_0 21 rfl rfl)
theorem dX7_near_22 : decode cX7_near 22 = .ok (.iload_n 1, 1) := dk_27 (dk_at dksX7_near_0 22 rfl rfl)
theorem dX7_near_23 : decode cX7_near 23 = .ok (.iload_n 2, 1) := dk_28 (dk_at dksX7_near_0 23 rfl rfl)
theorem dX7_near_24 : decode cX7_near 24 = .ok (.isub, 1) := dk_100 (dk_at dksX7_near_1 0 rfl rfl)
theorem dX7_near_25 : decode cX7_near 25 = .ok (.ishl, 1) := dk_120 (dk_at dksX7_near_1 1 rfl rfl)
theorem dX7_near_26 : decode cX7_near 26 = .ok (.ior, 1) := dk_128 (dk_at dksX7_near_1 2 rfl rfl)
theorem dX7_near_27 : decode cX7_near 27 = .ok (.istore 4, 2) := dk_54 4 (dk_at dksX7_near_1 3 rfl rfl)
theorem dX7_near_29 : decode cX7_near 29 = .ok (.iload_n 1, 1) := dk_27 (dk_at dksX7_near_1 5 rfl rfl)
theorem dX7_near_30 : decode cX7_near 30 = .ok (.iload_n 2, 1) := dk_28 (dk_at dksX7_near_1 6 rfl rfl)
theorem dX7_near_31 : decode cX7_near 31 = .ok (.iadd, 1) := dk_96 (dk_at dksX7_near_1 7 rfl rfl)
theorem dX7_near_32 : decode cX7_near 32 = .ok (.aload_n 0, 1) := dk_42 (dk_at dksX7_near_1 8 rfl rfl)
theorem dX7_near_33 : decode cX7_near 33 = .ok (.invokevirtual 262, 3) := dk_182 1 6 (dk_at dksX7_near_1 9 rfl rfl)
theorem dX7_near_36 : decode cX7_near 36 = .ok (.if_icmp .ge 13, 3) := dk_162 0 13 (dk_at dksX7_near_1 12 rfl rfl)
theorem dX7_near_39 : decode cX7_near 39 = .ok (.iload 4, 2) := dk_21 4 (dk_at dksX7_near_1 15 rfl rfl)
theorem dX7_near_41 : decode cX7_near 41 = .ok (.iconst 1, 1) := dk_4 (dk_at dksX7_near_1 17 rfl rfl)
theorem dX7_near_42 : decode cX7_near 42 = .ok (.iload_n 1, 1) := dk_27 (dk_at dksX7_near_1 18 rfl rfl)
theorem dX7_near_43 : decode cX7_near 43 = .ok (.iload_n 2, 1) := dk_28 (dk_at dksX7_near_1 19 rfl rfl)
theorem dX7_near_44 : decode cX7_near 44 = .ok (.iadd, 1) := dk_96 (dk_at dksX7_near_1 20 rfl rfl)
theorem dX7_near_45 : decode cX7_near 45 = .ok (.ishl, 1) := dk_120 (dk_at dksX7_near_1 21 rfl rfl)
theorem dX7_near_46 : decode cX7_near 46 = .ok (.ior, 1) := dk_128 (dk_at dksX7_near_1 22 rfl rfl)
theorem dX7_near_47 : decode cX7_near 47 = .ok (.istore 4, 2) := dk_54 4 (dk_at dksX7_near_2 0 rfl rfl)
theorem dX7_near_49 : decode cX7_near 49 = .ok (.iload_n 3, 1) := dk_29 (dk_at dksX7_near_2 2 rfl rfl)
theorem dX7_near_50 : decode cX7_near 50 = .ok (.ifCond .le 16, 3) := dk_158 0 16 (dk_at dksX7_near_2 3 rfl rfl)
theorem dX7_near_53 : decode cX7_near 53 = .ok (.iload 4, 2) := dk_21 4 (dk_at dksX7_near_2 6 rfl rfl)
theorem dX7_near_55 : decode cX7_near 55 = .ok (.iconst 1, 1) := dk_4 (dk_at dksX7_near_2 8 rfl rfl)
theorem dX7_near_56 : decode cX7_near 56 = .ok (.iload_n 1, 1) := dk_27 (dk_at dksX7_near_2 9 rfl rfl)
theorem dX7_near_57 : decode cX7_near 57 = .ok (.iconst 1, 1) := dk_4 (dk_at dksX7_near_2 10 rfl rfl)
theorem dX7_near_58 : decode cX7_near 58 = .ok (.isub, 1) := dk_100 (dk_at dksX7_near_2 11 rfl rfl)
theorem dX7_near_59 : decode cX7_near 59 = .ok (.ishl, 1) := dk_120 (dk_at dksX7_near_2 12 rfl rfl)
theorem dX7_near_60 : decode cX7_near 60 = .ok (.ior, 1) := dk_128 (dk_at dksX7_near_2 13 rfl rfl)
theorem dX7_near_61 : decode cX7_near 61 = .ok (.istore 4, 2) := dk_54 4 (dk_at dksX7_near_2 14 rfl rfl)
theorem dX7_near_63 : decode cX7_near 63 = .ok (.goto 26, 3) := dk_167 0 26 (dk_at dksX7_near_2 16 rfl rfl)
theorem dX7_near_66 : decode cX7_near 66 = .ok (.aload_n 0, 1) := dk_42 (dk_at dksX7_near_2 19 rfl rfl)
theorem dX7_near_67 : decode cX7_near 67 = .ok (.getfield 7, 3) := dk_180 0 7 (dk_at dksX7_near_2 20 rfl rfl)
theorem dX7_near_70 : decode cX7_near 70 = .ok (.bipush 9, 2) := dk_16 9 (dk_at dksX7_near_3 0 rfl rfl)
theorem dX7_near_72 : decode cX7_near 72 = .ok (.iaload, 1) := dk_46 (dk_at dksX7_near_3 2 rfl rfl)
theorem dX7_near_73 : decode cX7_near 73 = .ok (.iconst 1, 1) := dk_4 (dk_at dksX7_near_3 3 rfl rfl)
theorem dX7_near_74 : decode cX7_near 74 = .ok (.if_icmp .ne 15, 3) := dk_160 0 15 (dk_at dksX7_near_3 4 rfl rfl)
theorem dX7_near_77 : decode cX7_near 77 = .ok (.iload 4, 2) := dk_21 4 (dk_at dksX7_near_3 7 rfl rfl)
theorem dX7_near_79 : decode cX7_near 79 = .ok (.iconst 1, 1) := dk_4 (dk_at dksX7_near_3 9 rfl rfl)
theorem dX7_near_80 : decode cX7_near 80 = .ok (.iload_n 1, 1) := dk_27 (dk_at dksX7_near_3 10 rfl rfl)
theorem dX7_near_81 : decode cX7_near 81 = .ok (.iload_n 2, 1) := dk_28 (dk_at dksX7_near_3 11 rfl rfl)
theorem dX7_near_82 : decode cX7_near 82 = .ok (.iadd, 1) := dk_96 (dk_at dksX7_near_3 12 rfl rfl)
theorem dX7_near_83 : decode cX7_near 83 = .ok (.iconst 1, 1) := dk_4 (dk_at dksX7_near_3 13 rfl rfl)
theorem dX7_near_84 : decode cX7_near 84 = .ok (.isub, 1) := dk_100 (dk_at dksX7_near_3 14 rfl rfl)
theorem dX7_near_85 : decode cX7_near 85 = .ok (.ishl, 1) := dk_120 (dk_at dksX7_near_3 15 rfl rfl)
theorem dX7_near_86 : decode cX7_near 86 = .ok (.ior, 1) := dk_128 (dk_at dksX7_near_3 16 rfl rfl)
theorem dX7_near_87 : decode cX7_near 87 = .ok (.istore 4, 2) := dk_54 4 (dk_at dksX7_near_3 17 rfl rfl)
theorem dX7_near_89 : decode cX7_near 89 = .ok (.iload_n 3, 1) := dk_29 (dk_at dksX7_near_3 19 rfl rfl)
theorem dX7_near_90 : decode cX7_near 90 = .ok (.iconst 1, 1) := dk_4 (dk_at dksX7_near_3 20 rfl rfl)
theorem dX7_near_91 : decode cX7_near 91 = .ok (.iadd, 1) := dk_96 (dk_at dksX7_near_3 21 rfl rfl)
theorem dX7_near_92 : decode cX7_near 92 = .ok (.iload_n 2, 1) := dk_28 (dk_at dksX7_near_3 22 rfl rfl)
theorem dX7_near_93 : decode cX7_near 93 = .ok (.if_icmp .ge 16, 3) := dk_162 0 16 (dk_at dksX7_near_4 0 rfl rfl)
theorem dX7_near_96 : decode cX7_near 96 = .ok (.iload 4, 2) := dk_21 4 (dk_at dksX7_near_4 3 rfl rfl)
theorem dX7_near_98 : decode cX7_near 98 = .ok (.iconst 1, 1) := dk_4 (dk_at dksX7_near_4 5 rfl rfl)
theorem dX7_near_99 : decode cX7_near 99 = .ok (.iload_n 1, 1) := dk_27 (dk_at dksX7_near_4 6 rfl rfl)
theorem dX7_near_100 : decode cX7_near 100 = .ok (.iconst 1, 1) := dk_4 (dk_at dksX7_near_4 7 rfl rfl)
theorem dX7_near_101 : decode cX7_near 101 = .ok (.iadd, 1) := dk_96 (dk_at dksX7_near_4 8 rfl rfl)
theorem dX7_near_102 : decode cX7_near 102 = .ok (.ishl, 1) := dk_120 (dk_at dksX7_near_4 9 rfl rfl)
theorem dX7_near_103 : decode cX7_near 103 = .ok (.ior, 1) := dk_128 (dk_at dksX7_near_4 10 rfl rfl)
theorem dX7_near_104 : decode cX7_near 104 = .ok (.istore 4, 2) := dk_54 4 (dk_at dksX7_near_4 11 rfl rfl)
theorem dX7_near_106 : decode cX7_near 106 = .ok (.goto 26, 3) := dk_167 0 26 (dk_at dksX7_near_4 13 rfl rfl)
theorem dX7_near_109 : decode cX7_near 109 = .ok (.aload_n 0, 1) := dk_42 (dk_at dksX7_near_4 16 rfl rfl)
theorem dX7_near_110 : decode cX7_near 110 = .ok (.getfield 7, 3) := dk_180 0 7 (dk_at dksX7_near_4 17 rfl rfl)
theorem dX7_near_113 : decode cX7_near 113 = .ok (.bipush 9, 2) := dk_16 9 (dk_at dksX7_near_4 20 rfl rfl)
theorem dX7_near_115 : decode cX7_near 115 = .ok (.iaload, 1) := dk_46 (dk_at dksX7_near_4 22 rfl rfl)
theorem dX7_near_116 : decode cX7_near 116 = .ok (.iconst 1, 1) := dk_4 (dk_at dksX7_near_4 23 rfl rfl)
theorem dX7_near_117 : decode cX7_near 117 = .ok (.if_icmp .ne 15, 3) := dk_160 0 15 (dk_at dksX7_near_5 0 rfl rfl)
theorem dX7_near_120 : decode cX7_near 120 = .ok (.iload 4, 2) := dk_21 4 (dk_at dksX7_near_5 3 rfl rfl)
theorem dX7_near_122 : decode cX7_near 122 = .ok (.iconst 1, 1) := dk_4 (dk_at dksX7_near_5 5 rfl rfl)
theorem dX7_near_123 : decode cX7_near 123 = .ok (.iload_n 1, 1) := dk_27 (dk_at dksX7_near_5 6 rfl rfl)
theorem dX7_near_124 : decode cX7_near 124 = .ok (.iload_n 2, 1) := dk_28 (dk_at dksX7_near_5 7 rfl rfl)
theorem dX7_near_125 : decode cX7_near 125 = .ok (.isub, 1) := dk_100 (dk_at dksX7_near_5 8 rfl rfl)
theorem dX7_near_126 : decode cX7_near 126 = .ok (.iconst 1, 1) := dk_4 (dk_at dksX7_near_5 9 rfl rfl)
theorem dX7_near_127 : decode cX7_near 127 = .ok (.iadd, 1) := dk_96 (dk_at dksX7_near_5 10 rfl rfl)
theorem dX7_near_128 : decode cX7_near 128 = .ok (.ishl, 1) := dk_120 (dk_at dksX7_near_5 11 rfl rfl)
theorem dX7_near_129 : decode cX7_near 129 = .ok (.ior, 1) := dk_128 (dk_at dksX7_near_5 12 rfl rfl)
theorem dX7_near_130 : decode cX7_near 130 = .ok (.istore 4, 2) := dk_54 4 (dk_at dksX7_near_5 13 rfl rfl)
theorem dX7_near_132 : decode cX7_near 132 = .ok (.iload 4, 2) := dk_21 4 (dk_at dksX7_near_5 15 rfl rfl)
theorem dX7_near_134 : decode cX7_near 134 = .ok (.aload_n 0, 1) := dk_42 (dk_at dksX7_near_5 17 rfl rfl)
theorem dX7_near_135 : decode cX7_near 135 = .ok (.getfield 7, 3) := dk_180 0 7 (dk_at dksX7_near_5 18 rfl rfl)
theorem dX7_near_138 : decode cX7_near 138 = .ok (.iconst 2, 1) := dk_5 (dk_at dksX7_near_5 21 rfl rfl)
theorem dX7_near_139 : decode cX7_near 139 = .ok (.iaload, 1) := dk_46 (dk_at dksX7_near_5 22 rfl rfl)
theorem dX7_near_140 : decode cX7_near 140 = .ok (.iand, 1) := dk_126 (dk_at dksX7_near_5 23 rfl rfl)
theorem dX7_near_141 : decode cX7_near 141 = .ok (.ireturn, 1) := dk_172 (dk_at dksX7_near_6 0 rfl rfl)
abbrev cX7_places : ByteArray := prog_16_method_59_code
def yX7_places : MethodName := ⟨RX7, "places", "()I"⟩
def dkwX7_places_0 : List UInt8 := [42, 180, 0, 7, 3, 46, 42, 180, 0, 7, 4, 46, 104, 172]
abbrev dktX7_places_0 : List UInt8 := dkwX7_places_0 ++ []
theorem dksX7_places_0 : cX7_places.data.toList.drop 0 = dktX7_places_0 := by decide +kernel
theorem dX7_places_0 : decode cX7_places 0 = .ok (.aload_n 0, 1) := dk_42 (dk_at dksX7_places_0 0 rfl rfl)
theorem dX7_places_1 : decode cX7_places 1 = .ok (.getfield 7, 3) := dk_180 0 7 (dk_at dksX7_places_0 1 rfl rfl)
theorem dX7_places_4 : decode cX7_places 4 = .ok (.iconst 0, 1) := dk_3 (dk_at dksX7_places_0 4 rfl rfl)
theorem dX7_places_5 : decode cX7_places 5 = .ok (.iaload, 1) := dk_46 (dk_at dksX7_places_0 5 rfl rfl)
theorem dX7_places_6 : decode cX7_places 6 = .ok (.aload_n 0, 1) := dk_42 (dk_at dksX7_places_0 6 rfl rfl)
theorem dX7_places_7 : decode cX7_places 7 = .ok (.getfield 7, 3) := dk_180 0 7 (dk_at dksX7_places_0 7 rfl rfl)
theorem dX7_places_10 : decode cX7_places 10 = .ok (.iconst 1, 1) := dk_4 (dk_at dksX7_places_0 10 rfl rfl)
theorem dX7_places_11 : decode cX7_places 11 = .ok (.iaload, 1) := dk_46 (dk_at dksX7_places_0 11 rfl rfl)
theorem dX7_places_12 : decode cX7_places 12 = .ok (.imul, 1) := dk_104 (dk_at dksX7_places_0 12 rfl rfl)
theorem dX7_places_13 : decode cX7_places 13 = .ok (.ireturn, 1) := dk_172 (dk_at dksX7_places_0 13 rfl rfl)
abbrev cX7_rule : ByteArray := prog_16_method_70_code
def yX7_rule : MethodName := ⟨RX7, "rule", "(II)I"⟩
def dkwX7_rule_1 : List UInt8 := [5, 27, 104, 96, 28, 96, 46, 182, 0, 85, 167, 0, 8, 42, 4, 182, 0, 81, 172]
abbrev dktX7_rule_1 : List UInt8 := dkwX7_rule_1 ++ []
def dkwX7_rule_0 : List UInt8 := [42, 27, 182, 1, 28, 153, 0, 32, 28, 155, 0, 28, 28, 4, 163, 0, 23, 42, 42, 180, 0, 7, 16, 12]
abbrev dktX7_rule_0 : List UInt8 := dkwX7_rule_0 ++ dktX7_rule_1
theorem dksX7_rule_0 : cX7_rule.data.toList.drop 0 = dktX7_rule_0 := by decide +kernel
theorem dksX7_rule_1 : cX7_rule.data.toList.drop 24 = dktX7_rule_1 := dk_seg dksX7_rule_0 24 rfl rfl
theorem dX7_rule_0 : decode cX7_rule 0 = .ok (.aload_n 0, 1) := dk_42 (dk_at dksX7_rule_0 0 rfl rfl)
theorem dX7_rule_1 : decode cX7_rule 1 = .ok (.iload_n 1, 1) := dk_27 (dk_at dksX7_rule_0 1 rfl rfl)
theorem dX7_rule_2 : decode cX7_rule 2 = .ok (.invokevirtual 284, 3) := dk_182 1 28 (dk_at dksX7_rule_0 2 rfl rfl)
theorem dX7_rule_5 : decode cX7_rule 5 = .ok (.ifCond .eq 32, 3) := dk_153 0 32 (dk_at dksX7_rule_0 5 rfl rfl)
theorem dX7_rule_8 : decode cX7_rule 8 = .ok (.iload_n 2, 1) := dk_28 (dk_at dksX7_rule_0 8 rfl rfl)
theorem dX7_rule_9 : decode cX7_rule 9 = .ok (.ifCond .lt 28, 3) := dk_155 0 28 (dk_at dksX7_rule_0 9 rfl rfl)
theorem dX7_rule_12 : decode cX7_rule 12 = .ok (.iload_n 2, 1) := dk_28 (dk_at dksX7_rule_0 12 rfl rfl)
theorem dX7_rule_13 : decode cX7_rule 13 = .ok (.iconst 1, 1) := dk_4 (dk_at dksX7_rule_0 13 rfl rfl)
theorem dX7_rule_14 : decode cX7_rule 14 = .ok (.if_icmp .gt 23, 3) := dk_163 0 23 (dk_at dksX7_rule_0 14 rfl rfl)
theorem dX7_rule_17 : decode cX7_rule 17 = .ok (.aload_n 0, 1) := dk_42 (dk_at dksX7_rule_0 17 rfl rfl)
theorem dX7_rule_18 : decode cX7_rule 18 = .ok (.aload_n 0, 1) := dk_42 (dk_at dksX7_rule_0 18 rfl rfl)
theorem dX7_rule_19 : decode cX7_rule 19 = .ok (.getfield 7, 3) := dk_180 0 7 (dk_at dksX7_rule_0 19 rfl rfl)
theorem dX7_rule_22 : decode cX7_rule 22 = .ok (.bipush 12, 2) := dk_16 12 (dk_at dksX7_rule_0 22 rfl rfl)
theorem dX7_rule_24 : decode cX7_rule 24 = .ok (.iconst 2, 1) := dk_5 (dk_at dksX7_rule_1 0 rfl rfl)
theorem dX7_rule_25 : decode cX7_rule 25 = .ok (.iload_n 1, 1) := dk_27 (dk_at dksX7_rule_1 1 rfl rfl)
theorem dX7_rule_26 : decode cX7_rule 26 = .ok (.imul, 1) := dk_104 (dk_at dksX7_rule_1 2 rfl rfl)
theorem dX7_rule_27 : decode cX7_rule 27 = .ok (.iadd, 1) := dk_96 (dk_at dksX7_rule_1 3 rfl rfl)
theorem dX7_rule_28 : decode cX7_rule 28 = .ok (.iload_n 2, 1) := dk_28 (dk_at dksX7_rule_1 4 rfl rfl)
theorem dX7_rule_29 : decode cX7_rule 29 = .ok (.iadd, 1) := dk_96 (dk_at dksX7_rule_1 5 rfl rfl)
theorem dX7_rule_30 : decode cX7_rule 30 = .ok (.iaload, 1) := dk_46 (dk_at dksX7_rule_1 6 rfl rfl)
theorem dX7_rule_31 : decode cX7_rule 31 = .ok (.invokevirtual 85, 3) := dk_182 0 85 (dk_at dksX7_rule_1 7 rfl rfl)
theorem dX7_rule_34 : decode cX7_rule 34 = .ok (.goto 8, 3) := dk_167 0 8 (dk_at dksX7_rule_1 10 rfl rfl)
theorem dX7_rule_37 : decode cX7_rule 37 = .ok (.aload_n 0, 1) := dk_42 (dk_at dksX7_rule_1 13 rfl rfl)
theorem dX7_rule_38 : decode cX7_rule 38 = .ok (.iconst 1, 1) := dk_4 (dk_at dksX7_rule_1 14 rfl rfl)
theorem dX7_rule_39 : decode cX7_rule 39 = .ok (.invokevirtual 81, 3) := dk_182 0 81 (dk_at dksX7_rule_1 15 rfl rfl)
theorem dX7_rule_42 : decode cX7_rule 42 = .ok (.ireturn, 1) := dk_172 (dk_at dksX7_rule_1 18 rfl rfl)
abbrev cX7_isRule : ByteArray := prog_16_method_69_code
def yX7_isRule : MethodName := ⟨RX7, "isRule", "(I)Z"⟩
def dkwX7_isRule_0 : List UInt8 := [27, 155, 0, 17, 27, 42, 180, 0, 7, 8, 46, 162, 0, 7, 4, 167, 0, 4, 3, 172]
abbrev dktX7_isRule_0 : List UInt8 := dkwX7_isRule_0 ++ []
theorem dksX7_isRule_0 : cX7_isRule.data.toList.drop 0 = dktX7_isRule_0 := by decide +kernel
theorem dX7_isRule_0 : decode cX7_isRule 0 = .ok (.iload_n 1, 1) := dk_27 (dk_at dksX7_isRule_0 0 rfl rfl)
theorem dX7_isRule_1 : decode cX7_isRule 1 = .ok (.ifCond .lt 17, 3) := dk_155 0 17 (dk_at dksX7_isRule_0 1 rfl rfl)
theorem dX7_isRule_4 : decode cX7_isRule 4 = .ok (.iload_n 1, 1) := dk_27 (dk_at dksX7_isRule_0 4 rfl rfl)
theorem dX7_isRule_5 : decode cX7_isRule 5 = .ok (.aload_n 0, 1) := dk_42 (dk_at dksX7_isRule_0 5 rfl rfl)
theorem dX7_isRule_6 : decode cX7_isRule 6 = .ok (.getfield 7, 3) := dk_180 0 7 (dk_at dksX7_isRule_0 6 rfl rfl)
theorem dX7_isRule_9 : decode cX7_isRule 9 = .ok (.iconst 5, 1) := dk_8 (dk_at dksX7_isRule_0 9 rfl rfl)
theorem dX7_isRule_10 : decode cX7_isRule 10 = .ok (.iaload, 1) := dk_46 (dk_at dksX7_isRule_0 10 rfl rfl)
theorem dX7_isRule_11 : decode cX7_isRule 11 = .ok (.if_icmp .ge 7, 3) := dk_162 0 7 (dk_at dksX7_isRule_0 11 rfl rfl)
theorem dX7_isRule_14 : decode cX7_isRule 14 = .ok (.iconst 1, 1) := dk_4 (dk_at dksX7_isRule_0 14 rfl rfl)
theorem dX7_isRule_15 : decode cX7_isRule 15 = .ok (.goto 4, 3) := dk_167 0 4 (dk_at dksX7_isRule_0 15 rfl rfl)
theorem dX7_isRule_18 : decode cX7_isRule 18 = .ok (.iconst 0, 1) := dk_3 (dk_at dksX7_isRule_0 18 rfl rfl)
theorem dX7_isRule_19 : decode cX7_isRule 19 = .ok (.ireturn, 1) := dk_172 (dk_at dksX7_isRule_0 19 rfl rfl)
abbrev cX7_citizen : ByteArray := prog_16_method_72_code
def yX7_citizen : MethodName := ⟨RX7, "citizen", "(II)I"⟩
def dkwX7_citizen_1 : List UInt8 := [5, 27, 104, 96, 28, 96, 46, 182, 0, 85, 167, 0, 8, 42, 4, 182, 0, 81, 172]
abbrev dktX7_citizen_1 : List UInt8 := dkwX7_citizen_1 ++ []
def dkwX7_citizen_0 : List UInt8 := [42, 27, 182, 1, 31, 153, 0, 32, 28, 155, 0, 28, 28, 4, 163, 0, 23, 42, 42, 180, 0, 7, 16, 20]
abbrev dktX7_citizen_0 : List UInt8 := dkwX7_citizen_0 ++ dktX7_citizen_1
theorem dksX7_citizen_0 : cX7_citizen.data.toList.drop 0 = dktX7_citizen_0 := by decide +kernel
theorem dksX7_citizen_1 : cX7_citizen.data.toList.drop 24 = dktX7_citizen_1 := dk_seg dksX7_citizen_0 24 rfl rfl
theorem dX7_citizen_0 : decode cX7_citizen 0 = .ok (.aload_n 0, 1) := dk_42 (dk_at dksX7_citizen_0 0 rfl rfl)
theorem dX7_citizen_1 : decode cX7_citizen 1 = .ok (.iload_n 1, 1) := dk_27 (dk_at dksX7_citizen_0 1 rfl rfl)
theorem dX7_citizen_2 : decode cX7_citizen 2 = .ok (.invokevirtual 287, 3) := dk_182 1 31 (dk_at dksX7_citizen_0 2 rfl rfl)
theorem dX7_citizen_5 : decode cX7_citizen 5 = .ok (.ifCond .eq 32, 3) := dk_153 0 32 (dk_at dksX7_citizen_0 5 rfl rfl)
theorem dX7_citizen_8 : decode cX7_citizen 8 = .ok (.iload_n 2, 1) := dk_28 (dk_at dksX7_citizen_0 8 rfl rfl)
theorem dX7_citizen_9 : decode cX7_citizen 9 = .ok (.ifCond .lt 28, 3) := dk_155 0 28 (dk_at dksX7_citizen_0 9 rfl rfl)
theorem dX7_citizen_12 : decode cX7_citizen 12 = .ok (.iload_n 2, 1) := dk_28 (dk_at dksX7_citizen_0 12 rfl rfl)
theorem dX7_citizen_13 : decode cX7_citizen 13 = .ok (.iconst 1, 1) := dk_4 (dk_at dksX7_citizen_0 13 rfl rfl)
theorem dX7_citizen_14 : decode cX7_citizen 14 = .ok (.if_icmp .gt 23, 3) := dk_163 0 23 (dk_at dksX7_citizen_0 14 rfl rfl)
theorem dX7_citizen_17 : decode cX7_citizen 17 = .ok (.aload_n 0, 1) := dk_42 (dk_at dksX7_citizen_0 17 rfl rfl)
theorem dX7_citizen_18 : decode cX7_citizen 18 = .ok (.aload_n 0, 1) := dk_42 (dk_at dksX7_citizen_0 18 rfl rfl)
theorem dX7_citizen_19 : decode cX7_citizen 19 = .ok (.getfield 7, 3) := dk_180 0 7 (dk_at dksX7_citizen_0 19 rfl rfl)
theorem dX7_citizen_22 : decode cX7_citizen 22 = .ok (.bipush 20, 2) := dk_16 20 (dk_at dksX7_citizen_0 22 rfl rfl)
theorem dX7_citizen_24 : decode cX7_citizen 24 = .ok (.iconst 2, 1) := dk_5 (dk_at dksX7_citizen_1 0 rfl rfl)
theorem dX7_citizen_25 : decode cX7_citizen 25 = .ok (.iload_n 1, 1) := dk_27 (dk_at dksX7_citizen_1 1 rfl rfl)
theorem dX7_citizen_26 : decode cX7_citizen 26 = .ok (.imul, 1) := dk_104 (dk_at dksX7_citizen_1 2 rfl rfl)
theorem dX7_citizen_27 : decode cX7_citizen 27 = .ok (.iadd, 1) := dk_96 (dk_at dksX7_citizen_1 3 rfl rfl)
theorem dX7_citizen_28 : decode cX7_citizen 28 = .ok (.iload_n 2, 1) := dk_28 (dk_at dksX7_citizen_1 4 rfl rfl)
theorem dX7_citizen_29 : decode cX7_citizen 29 = .ok (.iadd, 1) := dk_96 (dk_at dksX7_citizen_1 5 rfl rfl)
theorem dX7_citizen_30 : decode cX7_citizen 30 = .ok (.iaload, 1) := dk_46 (dk_at dksX7_citizen_1 6 rfl rfl)
theorem dX7_citizen_31 : decode cX7_citizen 31 = .ok (.invokevirtual 85, 3) := dk_182 0 85 (dk_at dksX7_citizen_1 7 rfl rfl)
theorem dX7_citizen_34 : decode cX7_citizen 34 = .ok (.goto 8, 3) := dk_167 0 8 (dk_at dksX7_citizen_1 10 rfl rfl)
theorem dX7_citizen_37 : decode cX7_citizen 37 = .ok (.aload_n 0, 1) := dk_42 (dk_at dksX7_citizen_1 13 rfl rfl)
theorem dX7_citizen_38 : decode cX7_citizen 38 = .ok (.iconst 1, 1) := dk_4 (dk_at dksX7_citizen_1 14 rfl rfl)
theorem dX7_citizen_39 : decode cX7_citizen 39 = .ok (.invokevirtual 81, 3) := dk_182 0 81 (dk_at dksX7_citizen_1 15 rfl rfl)
theorem dX7_citizen_42 : decode cX7_citizen 42 = .ok (.ireturn, 1) := dk_172 (dk_at dksX7_citizen_1 18 rfl rfl)
abbrev cX7_isCitizen : ByteArray := prog_16_method_71_code
def yX7_isCitizen : MethodName := ⟨RX7, "isCitizen", "(I)Z"⟩
def dkwX7_isCitizen_0 : List UInt8 := [27, 155, 0, 18, 27, 42, 180, 0, 7, 16, 6, 46, 162, 0, 7, 4, 167, 0, 4, 3, 172]
abbrev dktX7_isCitizen_0 : List UInt8 := dkwX7_isCitizen_0 ++ []
theorem dksX7_isCitizen_0 : cX7_isCitizen.data.toList.drop 0 = dktX7_isCitizen_0 := by decide +kernel
theorem dX7_isCitizen_0 : decode cX7_isCitizen 0 = .ok (.iload_n 1, 1) := dk_27 (dk_at dksX7_isCitizen_0 0 rfl rfl)
theorem dX7_isCitizen_1 : decode cX7_isCitizen 1 = .ok (.ifCond .lt 18, 3) := dk_155 0 18 (dk_at dksX7_isCitizen_0 1 rfl rfl)
theorem dX7_isCitizen_4 : decode cX7_isCitizen 4 = .ok (.iload_n 1, 1) := dk_27 (dk_at dksX7_isCitizen_0 4 rfl rfl)
theorem dX7_isCitizen_5 : decode cX7_isCitizen 5 = .ok (.aload_n 0, 1) := dk_42 (dk_at dksX7_isCitizen_0 5 rfl rfl)
theorem dX7_isCitizen_6 : decode cX7_isCitizen 6 = .ok (.getfield 7, 3) := dk_180 0 7 (dk_at dksX7_isCitizen_0 6 rfl rfl)
theorem dX7_isCitizen_9 : decode cX7_isCitizen 9 = .ok (.bipush 6, 2) := dk_16 6 (dk_at dksX7_isCitizen_0 9 rfl rfl)
theorem dX7_isCitizen_11 : decode cX7_isCitizen 11 = .ok (.iaload, 1) := dk_46 (dk_at dksX7_isCitizen_0 11 rfl rfl)
theorem dX7_isCitizen_12 : decode cX7_isCitizen 12 = .ok (.if_icmp .ge 7, 3) := dk_162 0 7 (dk_at dksX7_isCitizen_0 12 rfl rfl)
theorem dX7_isCitizen_15 : decode cX7_isCitizen 15 = .ok (.iconst 1, 1) := dk_4 (dk_at dksX7_isCitizen_0 15 rfl rfl)
theorem dX7_isCitizen_16 : decode cX7_isCitizen 16 = .ok (.goto 4, 3) := dk_167 0 4 (dk_at dksX7_isCitizen_0 16 rfl rfl)
theorem dX7_isCitizen_19 : decode cX7_isCitizen 19 = .ok (.iconst 0, 1) := dk_3 (dk_at dksX7_isCitizen_0 19 rfl rfl)
theorem dX7_isCitizen_20 : decode cX7_isCitizen 20 = .ok (.ireturn, 1) := dk_172 (dk_at dksX7_isCitizen_0 20 rfl rfl)
abbrev cX7_turn : ByteArray := prog_16_method_73_code
def yX7_turn : MethodName := ⟨RX7, "turn", "(II)I"⟩
def dkwX7_turn_2 : List UInt8 := [154, 0, 7, 3, 167, 0, 4, 4, 182, 0, 85, 172]
abbrev dktX7_turn_2 : List UInt8 := dkwX7_turn_2 ++ []
def dkwX7_turn_1 : List UInt8 := [42, 27, 28, 182, 1, 0, 130, 79, 42, 42, 180, 0, 7, 6, 46, 42, 27, 28, 182, 1, 0, 126]
abbrev dktX7_turn_1 : List UInt8 := dkwX7_turn_1 ++ dktX7_turn_2
def dkwX7_turn_0 : List UInt8 := [42, 27, 28, 182, 1, 34, 62, 29, 158, 0, 9, 42, 29, 182, 0, 81, 172, 42, 180, 0, 7, 6, 92, 46]
abbrev dktX7_turn_0 : List UInt8 := dkwX7_turn_0 ++ dktX7_turn_1
theorem dksX7_turn_0 : cX7_turn.data.toList.drop 0 = dktX7_turn_0 := by decide +kernel
theorem dksX7_turn_1 : cX7_turn.data.toList.drop 24 = dktX7_turn_1 := dk_seg dksX7_turn_0 24 rfl rfl
theorem dksX7_turn_2 : cX7_turn.data.toList.drop 46 = dktX7_turn_2 := dk_seg dksX7_turn_1 22 rfl rfl
theorem dX7_turn_0 : decode cX7_turn 0 = .ok (.aload_n 0, 1) := dk_42 (dk_at dksX7_turn_0 0 rfl rfl)
theorem dX7_turn_1 : decode cX7_turn 1 = .ok (.iload_n 1, 1) := dk_27 (dk_at dksX7_turn_0 1 rfl rfl)
theorem dX7_turn_2 : decode cX7_turn 2 = .ok (.iload_n 2, 1) := dk_28 (dk_at dksX7_turn_0 2 rfl rfl)
theorem dX7_turn_3 : decode cX7_turn 3 = .ok (.invokevirtual 290, 3) := dk_182 1 34 (dk_at dksX7_turn_0 3 rfl rfl)
theorem dX7_turn_6 : decode cX7_turn 6 = .ok (.istore_n 3, 1) := dk_62 (dk_at dksX7_turn_0 6 rfl rfl)
theorem dX7_turn_7 : decode cX7_turn 7 = .ok (.iload_n 3, 1) := dk_29 (dk_at dksX7_turn_0 7 rfl rfl)
theorem dX7_turn_8 : decode cX7_turn 8 = .ok (.ifCond .le 9, 3) := dk_158 0 9 (dk_at dksX7_turn_0 8 rfl rfl)
theorem dX7_turn_11 : decode cX7_turn 11 = .ok (.aload_n 0, 1) := dk_42 (dk_at dksX7_turn_0 11 rfl rfl)
theorem dX7_turn_12 : decode cX7_turn 12 = .ok (.iload_n 3, 1) := dk_29 (dk_at dksX7_turn_0 12 rfl rfl)
theorem dX7_turn_13 : decode cX7_turn 13 = .ok (.invokevirtual 81, 3) := dk_182 0 81 (dk_at dksX7_turn_0 13 rfl rfl)
theorem dX7_turn_16 : decode cX7_turn 16 = .ok (.ireturn, 1) := dk_172 (dk_at dksX7_turn_0 16 rfl rfl)
theorem dX7_turn_17 : decode cX7_turn 17 = .ok (.aload_n 0, 1) := dk_42 (dk_at dksX7_turn_0 17 rfl rfl)
theorem dX7_turn_18 : decode cX7_turn 18 = .ok (.getfield 7, 3) := dk_180 0 7 (dk_at dksX7_turn_0 18 rfl rfl)
theorem dX7_turn_21 : decode cX7_turn 21 = .ok (.iconst 3, 1) := dk_6 (dk_at dksX7_turn_0 21 rfl rfl)
theorem dX7_turn_22 : decode cX7_turn 22 = .ok (.dup2, 1) := dk_92 (dk_at dksX7_turn_0 22 rfl rfl)
theorem dX7_turn_23 : decode cX7_turn 23 = .ok (.iaload, 1) := dk_46 (dk_at dksX7_turn_0 23 rfl rfl)
theorem dX7_turn_24 : decode cX7_turn 24 = .ok (.aload_n 0, 1) := dk_42 (dk_at dksX7_turn_1 0 rfl rfl)
theorem dX7_turn_25 : decode cX7_turn 25 = .ok (.iload_n 1, 1) := dk_27 (dk_at dksX7_turn_1 1 rfl rfl)
theorem dX7_turn_26 : decode cX7_turn 26 = .ok (.iload_n 2, 1) := dk_28 (dk_at dksX7_turn_1 2 rfl rfl)
theorem dX7_turn_27 : decode cX7_turn 27 = .ok (.invokevirtual 256, 3) := dk_182 1 0 (dk_at dksX7_turn_1 3 rfl rfl)
theorem dX7_turn_30 : decode cX7_turn 30 = .ok (.ixor, 1) := dk_130 (dk_at dksX7_turn_1 6 rfl rfl)
theorem dX7_turn_31 : decode cX7_turn 31 = .ok (.iastore, 1) := dk_79 (dk_at dksX7_turn_1 7 rfl rfl)
theorem dX7_turn_32 : decode cX7_turn 32 = .ok (.aload_n 0, 1) := dk_42 (dk_at dksX7_turn_1 8 rfl rfl)
theorem dX7_turn_33 : decode cX7_turn 33 = .ok (.aload_n 0, 1) := dk_42 (dk_at dksX7_turn_1 9 rfl rfl)
theorem dX7_turn_34 : decode cX7_turn 34 = .ok (.getfield 7, 3) := dk_180 0 7 (dk_at dksX7_turn_1 10 rfl rfl)
theorem dX7_turn_37 : decode cX7_turn 37 = .ok (.iconst 3, 1) := dk_6 (dk_at dksX7_turn_1 13 rfl rfl)
theorem dX7_turn_38 : decode cX7_turn 38 = .ok (.iaload, 1) := dk_46 (dk_at dksX7_turn_1 14 rfl rfl)
theorem dX7_turn_39 : decode cX7_turn 39 = .ok (.aload_n 0, 1) := dk_42 (dk_at dksX7_turn_1 15 rfl rfl)
theorem dX7_turn_40 : decode cX7_turn 40 = .ok (.iload_n 1, 1) := dk_27 (dk_at dksX7_turn_1 16 rfl rfl)
theorem dX7_turn_41 : decode cX7_turn 41 = .ok (.iload_n 2, 1) := dk_28 (dk_at dksX7_turn_1 17 rfl rfl)
theorem dX7_turn_42 : decode cX7_turn 42 = .ok (.invokevirtual 256, 3) := dk_182 1 0 (dk_at dksX7_turn_1 18 rfl rfl)
theorem dX7_turn_45 : decode cX7_turn 45 = .ok (.iand, 1) := dk_126 (dk_at dksX7_turn_1 21 rfl rfl)
theorem dX7_turn_46 : decode cX7_turn 46 = .ok (.ifCond .ne 7, 3) := dk_154 0 7 (dk_at dksX7_turn_2 0 rfl rfl)
theorem dX7_turn_49 : decode cX7_turn 49 = .ok (.iconst 0, 1) := dk_3 (dk_at dksX7_turn_2 3 rfl rfl)
theorem dX7_turn_50 : decode cX7_turn 50 = .ok (.goto 4, 3) := dk_167 0 4 (dk_at dksX7_turn_2 4 rfl rfl)
theorem dX7_turn_53 : decode cX7_turn 53 = .ok (.iconst 1, 1) := dk_4 (dk_at dksX7_turn_2 7 rfl rfl)
theorem dX7_turn_54 : decode cX7_turn 54 = .ok (.invokevirtual 85, 3) := dk_182 0 85 (dk_at dksX7_turn_2 8 rfl rfl)
theorem dX7_turn_57 : decode cX7_turn 57 = .ok (.ireturn, 1) := dk_172 (dk_at dksX7_turn_2 11 rfl rfl)
abbrev cX7_wrongLamp : ByteArray := prog_16_method_58_code
def yX7_wrongLamp : MethodName := ⟨RX7, "wrongLamp", "(II)I"⟩
def dkwX7_wrongLamp_1 : List UInt8 := [42, 27, 28, 182, 1, 0, 126, 154, 0, 7, 3, 167, 0, 5, 16, 7, 172]
abbrev dktX7_wrongLamp_1 : List UInt8 := dkwX7_wrongLamp_1 ++ []
def dkwX7_wrongLamp_0 : List UInt8 := [42, 27, 28, 182, 1, 3, 158, 0, 12, 42, 27, 28, 182, 1, 3, 167, 0, 25, 42, 180, 0, 7, 7, 46]
abbrev dktX7_wrongLamp_0 : List UInt8 := dkwX7_wrongLamp_0 ++ dktX7_wrongLamp_1
theorem dksX7_wrongLamp_0 : cX7_wrongLamp.data.toList.drop 0 = dktX7_wrongLamp_0 := by decide +kernel
theorem dksX7_wrongLamp_1 : cX7_wrongLamp.data.toList.drop 24 = dktX7_wrongLamp_1 := dk_seg dksX7_wrongLamp_0 24 rfl rfl
theorem dX7_wrongLamp_0 : decode cX7_wrongLamp 0 = .ok (.aload_n 0, 1) := dk_42 (dk_at dksX7_wrongLamp_0 0 rfl rfl)
theorem dX7_wrongLamp_1 : decode cX7_wrongLamp 1 = .ok (.iload_n 1, 1) := dk_27 (dk_at dksX7_wrongLamp_0 1 rfl rfl)
theorem dX7_wrongLamp_2 : decode cX7_wrongLamp 2 = .ok (.iload_n 2, 1) := dk_28 (dk_at dksX7_wrongLamp_0 2 rfl rfl)
theorem dX7_wrongLamp_3 : decode cX7_wrongLamp 3 = .ok (.invokevirtual 259, 3) := dk_182 1 3 (dk_at dksX7_wrongLamp_0 3 rfl rfl)
theorem dX7_wrongLamp_6 : decode cX7_wrongLamp 6 = .ok (.ifCond .le 12, 3) := dk_158 0 12 (dk_at dksX7_wrongLamp_0 6 rfl rfl)
theorem dX7_wrongLamp_9 : decode cX7_wrongLamp 9 = .ok (.aload_n 0, 1) := dk_42 (dk_at dksX7_wrongLamp_0 9 rfl rfl)
theorem dX7_wrongLamp_10 : decode cX7_wrongLamp 10 = .ok (.iload_n 1, 1) := dk_27 (dk_at dksX7_wrongLamp_0 10 rfl rfl)
theorem dX7_wrongLamp_11 : decode cX7_wrongLamp 11 = .ok (.iload_n 2, 1) := dk_28 (dk_at dksX7_wrongLamp_0 11 rfl rfl)
theorem dX7_wrongLamp_12 : decode cX7_wrongLamp 12 = .ok (.invokevirtual 259, 3) := dk_182 1 3 (dk_at dksX7_wrongLamp_0 12 rfl rfl)
theorem dX7_wrongLamp_15 : decode cX7_wrongLamp 15 = .ok (.goto 25, 3) := dk_167 0 25 (dk_at dksX7_wrongLamp_0 15 rfl rfl)
theorem dX7_wrongLamp_18 : decode cX7_wrongLamp 18 = .ok (.aload_n 0, 1) := dk_42 (dk_at dksX7_wrongLamp_0 18 rfl rfl)
theorem dX7_wrongLamp_19 : decode cX7_wrongLamp 19 = .ok (.getfield 7, 3) := dk_180 0 7 (dk_at dksX7_wrongLamp_0 19 rfl rfl)
theorem dX7_wrongLamp_22 : decode cX7_wrongLamp 22 = .ok (.iconst 4, 1) := dk_7 (dk_at dksX7_wrongLamp_0 22 rfl rfl)
theorem dX7_wrongLamp_23 : decode cX7_wrongLamp 23 = .ok (.iaload, 1) := dk_46 (dk_at dksX7_wrongLamp_0 23 rfl rfl)
theorem dX7_wrongLamp_24 : decode cX7_wrongLamp 24 = .ok (.aload_n 0, 1) := dk_42 (dk_at dksX7_wrongLamp_1 0 rfl rfl)
theorem dX7_wrongLamp_25 : decode cX7_wrongLamp 25 = .ok (.iload_n 1, 1) := dk_27 (dk_at dksX7_wrongLamp_1 1 rfl rfl)
theorem dX7_wrongLamp_26 : decode cX7_wrongLamp 26 = .ok (.iload_n 2, 1) := dk_28 (dk_at dksX7_wrongLamp_1 2 rfl rfl)
theorem dX7_wrongLamp_27 : decode cX7_wrongLamp 27 = .ok (.invokevirtual 256, 3) := dk_182 1 0 (dk_at dksX7_wrongLamp_1 3 rfl rfl)
theorem dX7_wrongLamp_30 : decode cX7_wrongLamp 30 = .ok (.iand, 1) := dk_126 (dk_at dksX7_wrongLamp_1 6 rfl rfl)
theorem dX7_wrongLamp_31 : decode cX7_wrongLamp 31 = .ok (.ifCond .ne 7, 3) := dk_154 0 7 (dk_at dksX7_wrongLamp_1 7 rfl rfl)
theorem dX7_wrongLamp_34 : decode cX7_wrongLamp 34 = .ok (.iconst 0, 1) := dk_3 (dk_at dksX7_wrongLamp_1 10 rfl rfl)
theorem dX7_wrongLamp_35 : decode cX7_wrongLamp 35 = .ok (.goto 5, 3) := dk_167 0 5 (dk_at dksX7_wrongLamp_1 11 rfl rfl)
theorem dX7_wrongLamp_38 : decode cX7_wrongLamp 38 = .ok (.bipush 7, 2) := dk_16 7 (dk_at dksX7_wrongLamp_1 14 rfl rfl)
theorem dX7_wrongLamp_40 : decode cX7_wrongLamp 40 = .ok (.ireturn, 1) := dk_172 (dk_at dksX7_wrongLamp_1 16 rfl rfl)
abbrev cX7_paint : ByteArray := prog_16_method_75_code
def yX7_paint : MethodName := ⟨RX7, "paint", "(J)I"⟩
def dkwX7_paint_1 : List UInt8 := [42, 4, 182, 0, 81, 172]
abbrev dktX7_paint_1 : List UInt8 := dkwX7_paint_1 ++ []
def dkwX7_paint_0 : List UInt8 := [31, 9, 20, 1, 37, 184, 1, 39, 153, 0, 16, 42, 42, 31, 136, 182, 1, 43, 182, 0, 85, 167, 0, 8]
abbrev dktX7_paint_0 : List UInt8 := dkwX7_paint_0 ++ dktX7_paint_1
theorem dksX7_paint_0 : cX7_paint.data.toList.drop 0 = dktX7_paint_0 := by decide +kernel
theorem dksX7_paint_1 : cX7_paint.data.toList.drop 24 = dktX7_paint_1 := dk_seg dksX7_paint_0 24 rfl rfl
theorem dX7_paint_0 : decode cX7_paint 0 = .ok (.lload_n 1, 1) := dk_31 (dk_at dksX7_paint_0 0 rfl rfl)
theorem dX7_paint_1 : decode cX7_paint 1 = .ok (.lconst 0, 1) := dk_9 (dk_at dksX7_paint_0 1 rfl rfl)
theorem dX7_paint_2 : decode cX7_paint 2 = .ok (.ldc2_w 293, 3) := dk_20 1 37 (dk_at dksX7_paint_0 2 rfl rfl)
theorem dX7_paint_5 : decode cX7_paint 5 = .ok (.invokestatic 295, 3) := dk_184 1 39 (dk_at dksX7_paint_0 5 rfl rfl)
theorem dX7_paint_8 : decode cX7_paint 8 = .ok (.ifCond .eq 16, 3) := dk_153 0 16 (dk_at dksX7_paint_0 8 rfl rfl)
theorem dX7_paint_11 : decode cX7_paint 11 = .ok (.aload_n 0, 1) := dk_42 (dk_at dksX7_paint_0 11 rfl rfl)
theorem dX7_paint_12 : decode cX7_paint 12 = .ok (.aload_n 0, 1) := dk_42 (dk_at dksX7_paint_0 12 rfl rfl)
theorem dX7_paint_13 : decode cX7_paint 13 = .ok (.lload_n 1, 1) := dk_31 (dk_at dksX7_paint_0 13 rfl rfl)
theorem dX7_paint_14 : decode cX7_paint 14 = .ok (.l2i, 1) := dk_136 (dk_at dksX7_paint_0 14 rfl rfl)
theorem dX7_paint_15 : decode cX7_paint 15 = .ok (.invokevirtual 299, 3) := dk_182 1 43 (dk_at dksX7_paint_0 15 rfl rfl)
theorem dX7_paint_18 : decode cX7_paint 18 = .ok (.invokevirtual 85, 3) := dk_182 0 85 (dk_at dksX7_paint_0 18 rfl rfl)
theorem dX7_paint_21 : decode cX7_paint 21 = .ok (.goto 8, 3) := dk_167 0 8 (dk_at dksX7_paint_0 21 rfl rfl)
theorem dX7_paint_24 : decode cX7_paint 24 = .ok (.aload_n 0, 1) := dk_42 (dk_at dksX7_paint_1 0 rfl rfl)
theorem dX7_paint_25 : decode cX7_paint 25 = .ok (.iconst 1, 1) := dk_4 (dk_at dksX7_paint_1 1 rfl rfl)
theorem dX7_paint_26 : decode cX7_paint 26 = .ok (.invokevirtual 81, 3) := dk_182 0 81 (dk_at dksX7_paint_1 2 rfl rfl)
theorem dX7_paint_29 : decode cX7_paint 29 = .ok (.ireturn, 1) := dk_172 (dk_at dksX7_paint_1 5 rfl rfl)
abbrev cX7_isFrom : ByteArray := prog_16_method_19_code
def yX7_isFrom : MethodName := ⟨RX7, "isFrom", "(JJJ)Z"⟩
def dkwX7_isFrom_0 : List UInt8 := [30, 32, 148, 155, 0, 14, 30, 22, 4, 148, 157, 0, 7, 4, 167, 0, 4, 3, 172]
abbrev dktX7_isFrom_0 : List UInt8 := dkwX7_isFrom_0 ++ []
theorem dksX7_isFrom_0 : cX7_isFrom.data.toList.drop 0 = dktX7_isFrom_0 := by decide +kernel
theorem dX7_isFrom_0 : decode cX7_isFrom 0 = .ok (.lload_n 0, 1) := dk_30 (dk_at dksX7_isFrom_0 0 rfl rfl)
theorem dX7_isFrom_1 : decode cX7_isFrom 1 = .ok (.lload_n 2, 1) := dk_32 (dk_at dksX7_isFrom_0 1 rfl rfl)
theorem dX7_isFrom_2 : decode cX7_isFrom 2 = .ok (.lcmp, 1) := dk_148 (dk_at dksX7_isFrom_0 2 rfl rfl)
theorem dX7_isFrom_3 : decode cX7_isFrom 3 = .ok (.ifCond .lt 14, 3) := dk_155 0 14 (dk_at dksX7_isFrom_0 3 rfl rfl)
theorem dX7_isFrom_6 : decode cX7_isFrom 6 = .ok (.lload_n 0, 1) := dk_30 (dk_at dksX7_isFrom_0 6 rfl rfl)
theorem dX7_isFrom_7 : decode cX7_isFrom 7 = .ok (.lload 4, 2) := dk_22 4 (dk_at dksX7_isFrom_0 7 rfl rfl)
theorem dX7_isFrom_9 : decode cX7_isFrom 9 = .ok (.lcmp, 1) := dk_148 (dk_at dksX7_isFrom_0 9 rfl rfl)
theorem dX7_isFrom_10 : decode cX7_isFrom 10 = .ok (.ifCond .gt 7, 3) := dk_157 0 7 (dk_at dksX7_isFrom_0 10 rfl rfl)
theorem dX7_isFrom_13 : decode cX7_isFrom 13 = .ok (.iconst 1, 1) := dk_4 (dk_at dksX7_isFrom_0 13 rfl rfl)
theorem dX7_isFrom_14 : decode cX7_isFrom 14 = .ok (.goto 4, 3) := dk_167 0 4 (dk_at dksX7_isFrom_0 14 rfl rfl)
theorem dX7_isFrom_17 : decode cX7_isFrom 17 = .ok (.iconst 0, 1) := dk_3 (dk_at dksX7_isFrom_0 17 rfl rfl)
theorem dX7_isFrom_18 : decode cX7_isFrom 18 = .ok (.ireturn, 1) := dk_172 (dk_at dksX7_isFrom_0 18 rfl rfl)
abbrev cX7_paints : ByteArray := prog_16_method_74_code
def yX7_paints : MethodName := ⟨RX7, "paints", "(I)I"⟩
def dkwX7_paints_1 : List UInt8 := [128, 79, 42, 180, 0, 7, 6, 46, 184, 0, 226, 172]
abbrev dktX7_paints_1 : List UInt8 := dkwX7_paints_1 ++ []
def dkwX7_paints_0 : List UInt8 := [42, 180, 0, 7, 6, 42, 180, 0, 7, 6, 46, 42, 180, 0, 7, 7, 46, 126, 27, 42, 182, 1, 12, 126]
abbrev dktX7_paints_0 : List UInt8 := dkwX7_paints_0 ++ dktX7_paints_1
theorem dksX7_paints_0 : cX7_paints.data.toList.drop 0 = dktX7_paints_0 := by decide +kernel
theorem dksX7_paints_1 : cX7_paints.data.toList.drop 24 = dktX7_paints_1 := dk_seg dksX7_paints_0 24 rfl rfl
theorem dX7_paints_0 : decode cX7_paints 0 = .ok (.aload_n 0, 1) := dk_42 (dk_at dksX7_paints_0 0 rfl rfl)
theorem dX7_paints_1 : decode cX7_paints 1 = .ok (.getfield 7, 3) := dk_180 0 7 (dk_at dksX7_paints_0 1 rfl rfl)
theorem dX7_paints_4 : decode cX7_paints 4 = .ok (.iconst 3, 1) := dk_6 (dk_at dksX7_paints_0 4 rfl rfl)
theorem dX7_paints_5 : decode cX7_paints 5 = .ok (.aload_n 0, 1) := dk_42 (dk_at dksX7_paints_0 5 rfl rfl)
theorem dX7_paints_6 : decode cX7_paints 6 = .ok (.getfield 7, 3) := dk_180 0 7 (dk_at dksX7_paints_0 6 rfl rfl)
theorem dX7_paints_9 : decode cX7_paints 9 = .ok (.iconst 3, 1) := dk_6 (dk_at dksX7_paints_0 9 rfl rfl)
theorem dX7_paints_10 : decode cX7_paints 10 = .ok (.iaload, 1) := dk_46 (dk_at dksX7_paints_0 10 rfl rfl)
theorem dX7_paints_11 : decode cX7_paints 11 = .ok (.aload_n 0, 1) := dk_42 (dk_at dksX7_paints_0 11 rfl rfl)
theorem dX7_paints_12 : decode cX7_paints 12 = .ok (.getfield 7, 3) := dk_180 0 7 (dk_at dksX7_paints_0 12 rfl rfl)
theorem dX7_paints_15 : decode cX7_paints 15 = .ok (.iconst 4, 1) := dk_7 (dk_at dksX7_paints_0 15 rfl rfl)
theorem dX7_paints_16 : decode cX7_paints 16 = .ok (.iaload, 1) := dk_46 (dk_at dksX7_paints_0 16 rfl rfl)
theorem dX7_paints_17 : decode cX7_paints 17 = .ok (.iand, 1) := dk_126 (dk_at dksX7_paints_0 17 rfl rfl)
theorem dX7_paints_18 : decode cX7_paints 18 = .ok (.iload_n 1, 1) := dk_27 (dk_at dksX7_paints_0 18 rfl rfl)
theorem dX7_paints_19 : decode cX7_paints 19 = .ok (.aload_n 0, 1) := dk_42 (dk_at dksX7_paints_0 19 rfl rfl)
theorem dX7_paints_20 : decode cX7_paints 20 = .ok (.invokevirtual 268, 3) := dk_182 1 12 (dk_at dksX7_paints_0 20 rfl rfl)
theorem dX7_paints_23 : decode cX7_paints 23 = .ok (.iand, 1) := dk_126 (dk_at dksX7_paints_0 23 rfl rfl)
theorem dX7_paints_24 : decode cX7_paints 24 = .ok (.ior, 1) := dk_128 (dk_at dksX7_paints_1 0 rfl rfl)
theorem dX7_paints_25 : decode cX7_paints 25 = .ok (.iastore, 1) := dk_79 (dk_at dksX7_paints_1 1 rfl rfl)
theorem dX7_paints_26 : decode cX7_paints 26 = .ok (.aload_n 0, 1) := dk_42 (dk_at dksX7_paints_1 2 rfl rfl)
theorem dX7_paints_27 : decode cX7_paints 27 = .ok (.getfield 7, 3) := dk_180 0 7 (dk_at dksX7_paints_1 3 rfl rfl)
theorem dX7_paints_30 : decode cX7_paints 30 = .ok (.iconst 3, 1) := dk_6 (dk_at dksX7_paints_1 6 rfl rfl)
theorem dX7_paints_31 : decode cX7_paints 31 = .ok (.iaload, 1) := dk_46 (dk_at dksX7_paints_1 7 rfl rfl)
theorem dX7_paints_32 : decode cX7_paints 32 = .ok (.invokestatic 226, 3) := dk_184 0 226 (dk_at dksX7_paints_1 8 rfl rfl)
theorem dX7_paints_35 : decode cX7_paints 35 = .ok (.ireturn, 1) := dk_172 (dk_at dksX7_paints_1 11 rfl rfl)
abbrev cX7_free : ByteArray := prog_16_method_60_code
def yX7_free : MethodName := ⟨RX7, "free", "()I"⟩
def dkwX7_free_0 : List UInt8 := [42, 180, 0, 7, 5, 46, 42, 180, 0, 7, 7, 46, 2, 130, 126, 172]
abbrev dktX7_free_0 : List UInt8 := dkwX7_free_0 ++ []
theorem dksX7_free_0 : cX7_free.data.toList.drop 0 = dktX7_free_0 := by decide +kernel
theorem dX7_free_0 : decode cX7_free 0 = .ok (.aload_n 0, 1) := dk_42 (dk_at dksX7_free_0 0 rfl rfl)
theorem dX7_free_1 : decode cX7_free 1 = .ok (.getfield 7, 3) := dk_180 0 7 (dk_at dksX7_free_0 1 rfl rfl)
theorem dX7_free_4 : decode cX7_free 4 = .ok (.iconst 2, 1) := dk_5 (dk_at dksX7_free_0 4 rfl rfl)
theorem dX7_free_5 : decode cX7_free 5 = .ok (.iaload, 1) := dk_46 (dk_at dksX7_free_0 5 rfl rfl)
theorem dX7_free_6 : decode cX7_free 6 = .ok (.aload_n 0, 1) := dk_42 (dk_at dksX7_free_0 6 rfl rfl)
theorem dX7_free_7 : decode cX7_free 7 = .ok (.getfield 7, 3) := dk_180 0 7 (dk_at dksX7_free_0 7 rfl rfl)
theorem dX7_free_10 : decode cX7_free 10 = .ok (.iconst 4, 1) := dk_7 (dk_at dksX7_free_0 10 rfl rfl)
theorem dX7_free_11 : decode cX7_free 11 = .ok (.iaload, 1) := dk_46 (dk_at dksX7_free_0 11 rfl rfl)
theorem dX7_free_12 : decode cX7_free 12 = .ok (.iconst (-1), 1) := dk_2 (dk_at dksX7_free_0 12 rfl rfl)
theorem dX7_free_13 : decode cX7_free 13 = .ok (.ixor, 1) := dk_130 (dk_at dksX7_free_0 13 rfl rfl)
theorem dX7_free_14 : decode cX7_free 14 = .ok (.iand, 1) := dk_126 (dk_at dksX7_free_0 14 rfl rfl)
theorem dX7_free_15 : decode cX7_free 15 = .ok (.ireturn, 1) := dk_172 (dk_at dksX7_free_0 15 rfl rfl)
abbrev cX7_paintRows : ByteArray := prog_16_method_76_code
def yX7_paintRows : MethodName := ⟨RX7, "paintRows", "(I)I"⟩
def dkwX7_paintRows_6 : List UInt8 := [182, 0, 85, 172]
abbrev dktX7_paintRows_6 : List UInt8 := dkwX7_paintRows_6 ++ []
def dkwX7_paintRows_5 : List UInt8 := [180, 0, 7, 3, 46, 29, 104, 120, 128, 61, 132, 3, 1, 167, 255, 181, 42, 42, 28, 182, 1, 43]
abbrev dktX7_paintRows_5 : List UInt8 := dkwX7_paintRows_5 ++ dktX7_paintRows_6
def dkwX7_paintRows_4 : List UInt8 := [180, 0, 27, 16, 60, 27, 104, 29, 96, 47, 136, 4, 42, 180, 0, 7, 3, 46, 120, 4, 100, 126, 42]
abbrev dktX7_paintRows_4 : List UInt8 := dkwX7_paintRows_4 ++ dktX7_paintRows_5
def dkwX7_paintRows_3 : List UInt8 := [27, 104, 29, 96, 47, 9, 20, 1, 46, 184, 1, 39, 154, 0, 9, 42, 8, 182, 0, 81, 172, 28, 42]
abbrev dktX7_paintRows_3 : List UInt8 := dkwX7_paintRows_3 ++ dktX7_paintRows_4
def dkwX7_paintRows_2 : List UInt8 := [182, 0, 81, 172, 3, 61, 3, 62, 29, 42, 180, 0, 7, 4, 46, 162, 0, 71, 42, 180, 0, 27, 16, 60]
abbrev dktX7_paintRows_2 : List UInt8 := dkwX7_paintRows_2 ++ dktX7_paintRows_3
def dkwX7_paintRows_1 : List UInt8 := [5, 182, 0, 81, 172, 42, 180, 0, 24, 27, 46, 42, 180, 0, 7, 4, 46, 162, 0, 9, 42, 6]
abbrev dktX7_paintRows_1 : List UInt8 := dkwX7_paintRows_1 ++ dktX7_paintRows_2
def dkwX7_paintRows_0 : List UInt8 := [27, 184, 0, 92, 154, 0, 9, 42, 4, 182, 0, 81, 172, 42, 180, 0, 24, 27, 46, 2, 160, 0, 9, 42]
abbrev dktX7_paintRows_0 : List UInt8 := dkwX7_paintRows_0 ++ dktX7_paintRows_1
theorem dksX7_paintRows_0 : cX7_paintRows.data.toList.drop 0 = dktX7_paintRows_0 := by decide +kernel
theorem dksX7_paintRows_1 : cX7_paintRows.data.toList.drop 24 = dktX7_paintRows_1 := dk_seg dksX7_paintRows_0 24 rfl rfl
theorem dksX7_paintRows_2 : cX7_paintRows.data.toList.drop 46 = dktX7_paintRows_2 := dk_seg dksX7_paintRows_1 22 rfl rfl
theorem dksX7_paintRows_3 : cX7_paintRows.data.toList.drop 70 = dktX7_paintRows_3 := dk_seg dksX7_paintRows_2 24 rfl rfl
theorem dksX7_paintRows_4 : cX7_paintRows.data.toList.drop 93 = dktX7_paintRows_4 := dk_seg dksX7_paintRows_3 23 rfl rfl
theorem dksX7_paintRows_5 : cX7_paintRows.data.toList.drop 116 = dktX7_paintRows_5 := dk_seg dksX7_paintRows_4 23 rfl rfl
theorem dksX7_paintRows_6 : cX7_paintRows.data.toList.drop 138 = dktX7_paintRows_6 := dk_seg dksX7_paintRows_5 22 rfl rfl
theorem dX7_paintRows_0 : decode cX7_paintRows 0 = .ok (.iload_n 1, 1) := dk_27 (dk_at dksX7_paintRows_0 0 rfl rfl)
theorem dX7_paintRows_1 : decode cX7_paintRows 1 = .ok (.invokestatic 92, 3) := dk_184 0 92 (dk_at dksX7_paintRows_0 1 rfl rfl)
theorem dX7_paintRows_4 : decode cX7_paintRows 4 = .ok (.ifCond .ne 9, 3) := dk_154 0 9 (dk_at dksX7_paintRows_0 4 rfl rfl)
theorem dX7_paintRows_7 : decode cX7_paintRows 7 = .ok (.aload_n 0, 1) := dk_42 (dk_at dksX7_paintRows_0 7 rfl rfl)
theorem dX7_paintRows_8 : decode cX7_paintRows 8 = .ok (.iconst 1, 1) := dk_4 (dk_at dksX7_paintRows_0 8 rfl rfl)
theorem dX7_paintRows_9 : decode cX7_paintRows 9 = .ok (.invokevirtual 81, 3) := dk_182 0 81 (dk_at dksX7_paintRows_0 9 rfl rfl)
theorem dX7_paintRows_12 : decode cX7_paintRows 12 = .ok (.ireturn, 1) := dk_172 (dk_at dksX7_paintRows_0 12 rfl rfl)
theorem dX7_paintRows_13 : decode cX7_paintRows 13 = .ok (.aload_n 0, 1) := dk_42 (dk_at dksX7_paintRows_0 13 rfl rfl)
theorem dX7_paintRows_14 : decode cX7_paintRows 14 = .ok (.getfield 24, 3) := dk_180 0 24 (dk_at dksX7_paintRows_0 14 rfl rfl)
theorem dX7_paintRows_17 : decode cX7_paintRows 17 = .ok (.iload_n 1, 1) := dk_27 (dk_at dksX7_paintRows_0 17 rfl rfl)
theorem dX7_paintRows_18 : decode cX7_paintRows 18 = .ok (.iaload, 1) := dk_46 (dk_at dksX7_paintRows_0 18 rfl rfl)
theorem dX7_paintRows_19 : decode cX7_paintRows 19 = .ok (.iconst (-1), 1) := dk_2 (dk_at dksX7_paintRows_0 19 rfl rfl)
theorem dX7_paintRows_20 : decode cX7_paintRows 20 = .ok (.if_icmp .ne 9, 3) := dk_160 0 9 (dk_at dksX7_paintRows_0 20 rfl rfl)
theorem dX7_paintRows_23 : decode cX7_paintRows 23 = .ok (.aload_n 0, 1) := dk_42 (dk_at dksX7_paintRows_0 23 rfl rfl)
theorem dX7_paintRows_24 : decode cX7_paintRows 24 = .ok (.iconst 2, 1) := dk_5 (dk_at dksX7_paintRows_1 0 rfl rfl)
theorem dX7_paintRows_25 : decode cX7_paintRows 25 = .ok (.invokevirtual 81, 3) := dk_182 0 81 (dk_at dksX7_paintRows_1 1 rfl rfl)
theorem dX7_paintRows_28 : decode cX7_paintRows 28 = .ok (.ireturn, 1) := dk_172 (dk_at dksX7_paintRows_1 4 rfl rfl)
theorem dX7_paintRows_29 : decode cX7_paintRows 29 = .ok (.aload_n 0, 1) := dk_42 (dk_at dksX7_paintRows_1 5 rfl rfl)
theorem dX7_paintRows_30 : decode cX7_paintRows 30 = .ok (.getfield 24, 3) := dk_180 0 24 (dk_at dksX7_paintRows_1 6 rfl rfl)
theorem dX7_paintRows_33 : decode cX7_paintRows 33 = .ok (.iload_n 1, 1) := dk_27 (dk_at dksX7_paintRows_1 9 rfl rfl)
theorem dX7_paintRows_34 : decode cX7_paintRows 34 = .ok (.iaload, 1) := dk_46 (dk_at dksX7_paintRows_1 10 rfl rfl)
theorem dX7_paintRows_35 : decode cX7_paintRows 35 = .ok (.aload_n 0, 1) := dk_42 (dk_at dksX7_paintRows_1 11 rfl rfl)
theorem dX7_paintRows_36 : decode cX7_paintRows 36 = .ok (.getfield 7, 3) := dk_180 0 7 (dk_at dksX7_paintRows_1 12 rfl rfl)
theorem dX7_paintRows_39 : decode cX7_paintRows 39 = .ok (.iconst 1, 1) := dk_4 (dk_at dksX7_paintRows_1 15 rfl rfl)
theorem dX7_paintRows_40 : decode cX7_paintRows 40 = .ok (.iaload, 1) := dk_46 (dk_at dksX7_paintRows_1 16 rfl rfl)
theorem dX7_paintRows_41 : decode cX7_paintRows 41 = .ok (.if_icmp .ge 9, 3) := dk_162 0 9 (dk_at dksX7_paintRows_1 17 rfl rfl)
theorem dX7_paintRows_44 : decode cX7_paintRows 44 = .ok (.aload_n 0, 1) := dk_42 (dk_at dksX7_paintRows_1 20 rfl rfl)
theorem dX7_paintRows_45 : decode cX7_paintRows 45 = .ok (.iconst 3, 1) := dk_6 (dk_at dksX7_paintRows_1 21 rfl rfl)
theorem dX7_paintRows_46 : decode cX7_paintRows 46 = .ok (.invokevirtual 81, 3) := dk_182 0 81 (dk_at dksX7_paintRows_2 0 rfl rfl)
theorem dX7_paintRows_49 : decode cX7_paintRows 49 = .ok (.ireturn, 1) := dk_172 (dk_at dksX7_paintRows_2 3 rfl rfl)
theorem dX7_paintRows_50 : decode cX7_paintRows 50 = .ok (.iconst 0, 1) := dk_3 (dk_at dksX7_paintRows_2 4 rfl rfl)
theorem dX7_paintRows_51 : decode cX7_paintRows 51 = .ok (.istore_n 2, 1) := dk_61 (dk_at dksX7_paintRows_2 5 rfl rfl)
theorem dX7_paintRows_52 : decode cX7_paintRows 52 = .ok (.iconst 0, 1) := dk_3 (dk_at dksX7_paintRows_2 6 rfl rfl)
theorem dX7_paintRows_53 : decode cX7_paintRows 53 = .ok (.istore_n 3, 1) := dk_62 (dk_at dksX7_paintRows_2 7 rfl rfl)
theorem dX7_paintRows_54 : decode cX7_paintRows 54 = .ok (.iload_n 3, 1) := dk_29 (dk_at dksX7_paintRows_2 8 rfl rfl)
theorem dX7_paintRows_55 : decode cX7_paintRows 55 = .ok (.aload_n 0, 1) := dk_42 (dk_at dksX7_paintRows_2 9 rfl rfl)
theorem dX7_paintRows_56 : decode cX7_paintRows 56 = .ok (.getfield 7, 3) := dk_180 0 7 (dk_at dksX7_paintRows_2 10 rfl rfl)
theorem dX7_paintRows_59 : decode cX7_paintRows 59 = .ok (.iconst 1, 1) := dk_4 (dk_at dksX7_paintRows_2 13 rfl rfl)
theorem dX7_paintRows_60 : decode cX7_paintRows 60 = .ok (.iaload, 1) := dk_46 (dk_at dksX7_paintRows_2 14 rfl rfl)
theorem dX7_paintRows_61 : decode cX7_paintRows 61 = .ok (.if_icmp .ge 71, 3) := dk_162 0 71 (dk_at dksX7_paintRows_2 15 rfl rfl)
theorem dX7_paintRows_64 : decode cX7_paintRows 64 = .ok (.aload_n 0, 1) := dk_42 (dk_at dksX7_paintRows_2 18 rfl rfl)
theorem dX7_paintRows_65 : decode cX7_paintRows 65 = .ok (.getfield 27, 3) := dk_180 0 27 (dk_at dksX7_paintRows_2 19 rfl rfl)
theorem dX7_paintRows_68 : decode cX7_paintRows 68 = .ok (.bipush 60, 2) := dk_16 60 (dk_at dksX7_paintRows_2 22 rfl rfl)
theorem dX7_paintRows_70 : decode cX7_paintRows 70 = .ok (.iload_n 1, 1) := dk_27 (dk_at dksX7_paintRows_3 0 rfl rfl)
theorem dX7_paintRows_71 : decode cX7_paintRows 71 = .ok (.imul, 1) := dk_104 (dk_at dksX7_paintRows_3 1 rfl rfl)
theorem dX7_paintRows_72 : decode cX7_paintRows 72 = .ok (.iload_n 3, 1) := dk_29 (dk_at dksX7_paintRows_3 2 rfl rfl)
theorem dX7_paintRows_73 : decode cX7_paintRows 73 = .ok (.iadd, 1) := dk_96 (dk_at dksX7_paintRows_3 3 rfl rfl)
theorem dX7_paintRows_74 : decode cX7_paintRows 74 = .ok (.laload, 1) := dk_47 (dk_at dksX7_paintRows_3 4 rfl rfl)
theorem dX7_paintRows_75 : decode cX7_paintRows 75 = .ok (.lconst 0, 1) := dk_9 (dk_at dksX7_paintRows_3 5 rfl rfl)
theorem dX7_paintRows_76 : decode cX7_paintRows 76 = .ok (.ldc2_w 302, 3) := dk_20 1 46 (dk_at dksX7_paintRows_3 6 rfl rfl)
theorem dX7_paintRows_79 : decode cX7_paintRows 79 = .ok (.invokestatic 295, 3) := dk_184 1 39 (dk_at dksX7_paintRows_3 9 rfl rfl)
theorem dX7_paintRows_82 : decode cX7_paintRows 82 = .ok (.ifCond .ne 9, 3) := dk_154 0 9 (dk_at dksX7_paintRows_3 12 rfl rfl)
theorem dX7_paintRows_85 : decode cX7_paintRows 85 = .ok (.aload_n 0, 1) := dk_42 (dk_at dksX7_paintRows_3 15 rfl rfl)
theorem dX7_paintRows_86 : decode cX7_paintRows 86 = .ok (.iconst 5, 1) := dk_8 (dk_at dksX7_paintRows_3 16 rfl rfl)
theorem dX7_paintRows_87 : decode cX7_paintRows 87 = .ok (.invokevirtual 81, 3) := dk_182 0 81 (dk_at dksX7_paintRows_3 17 rfl rfl)
theorem dX7_paintRows_90 : decode cX7_paintRows 90 = .ok (.ireturn, 1) := dk_172 (dk_at dksX7_paintRows_3 20 rfl rfl)
theorem dX7_paintRows_91 : decode cX7_paintRows 91 = .ok (.iload_n 2, 1) := dk_28 (dk_at dksX7_paintRows_3 21 rfl rfl)
theorem dX7_paintRows_92 : decode cX7_paintRows 92 = .ok (.aload_n 0, 1) := dk_42 (dk_at dksX7_paintRows_3 22 rfl rfl)
theorem dX7_paintRows_93 : decode cX7_paintRows 93 = .ok (.getfield 27, 3) := dk_180 0 27 (dk_at dksX7_paintRows_4 0 rfl rfl)
theorem dX7_paintRows_96 : decode cX7_paintRows 96 = .ok (.bipush 60, 2) := dk_16 60 (dk_at dksX7_paintRows_4 3 rfl rfl)
theorem dX7_paintRows_98 : decode cX7_paintRows 98 = .ok (.iload_n 1, 1) := dk_27 (dk_at dksX7_paintRows_4 5 rfl rfl)
theorem dX7_paintRows_99 : decode cX7_paintRows 99 = .ok (.imul, 1) := dk_104 (dk_at dksX7_paintRows_4 6 rfl rfl)
theorem dX7_paintRows_100 : decode cX7_paintRows 100 = .ok (.iload_n 3, 1) := dk_29 (dk_at dksX7_paintRows_4 7 rfl rfl)
theorem dX7_paintRows_101 : decode cX7_paintRows 101 = .ok (.iadd, 1) := dk_96 (dk_at dksX7_paintRows_4 8 rfl rfl)
theorem dX7_paintRows_102 : decode cX7_paintRows 102 = .ok (.laload, 1) := dk_47 (dk_at dksX7_paintRows_4 9 rfl rfl)
theorem dX7_paintRows_103 : decode cX7_paintRows 103 = .ok (.l2i, 1) := dk_136 (dk_at dksX7_paintRows_4 10 rfl rfl)
theorem dX7_paintRows_104 : decode cX7_paintRows 104 = .ok (.iconst 1, 1) := dk_4 (dk_at dksX7_paintRows_4 11 rfl rfl)
theorem dX7_paintRows_105 : decode cX7_paintRows 105 = .ok (.aload_n 0, 1) := dk_42 (dk_at dksX7_paintRows_4 12 rfl rfl)
theorem dX7_paintRows_106 : decode cX7_paintRows 106 = .ok (.getfield 7, 3) := dk_180 0 7 (dk_at dksX7_paintRows_4 13 rfl rfl)
theorem dX7_paintRows_109 : decode cX7_paintRows 109 = .ok (.iconst 0, 1) := dk_3 (dk_at dksX7_paintRows_4 16 rfl rfl)
theorem dX7_paintRows_110 : decode cX7_paintRows 110 = .ok (.iaload, 1) := dk_46 (dk_at dksX7_paintRows_4 17 rfl rfl)
theorem dX7_paintRows_111 : decode cX7_paintRows 111 = .ok (.ishl, 1) := dk_120 (dk_at dksX7_paintRows_4 18 rfl rfl)
theorem dX7_paintRows_112 : decode cX7_paintRows 112 = .ok (.iconst 1, 1) := dk_4 (dk_at dksX7_paintRows_4 19 rfl rfl)
theorem dX7_paintRows_113 : decode cX7_paintRows 113 = .ok (.isub, 1) := dk_100 (dk_at dksX7_paintRows_4 20 rfl rfl)
theorem dX7_paintRows_114 : decode cX7_paintRows 114 = .ok (.iand, 1) := dk_126 (dk_at dksX7_paintRows_4 21 rfl rfl)
theorem dX7_paintRows_115 : decode cX7_paintRows 115 = .ok (.aload_n 0, 1) := dk_42 (dk_at dksX7_paintRows_4 22 rfl rfl)
theorem dX7_paintRows_116 : decode cX7_paintRows 116 = .ok (.getfield 7, 3) := dk_180 0 7 (dk_at dksX7_paintRows_5 0 rfl rfl)
theorem dX7_paintRows_119 : decode cX7_paintRows 119 = .ok (.iconst 0, 1) := dk_3 (dk_at dksX7_paintRows_5 3 rfl rfl)
theorem dX7_paintRows_120 : decode cX7_paintRows 120 = .ok (.iaload, 1) := dk_46 (dk_at dksX7_paintRows_5 4 rfl rfl)
theorem dX7_paintRows_121 : decode cX7_paintRows 121 = .ok (.iload_n 3, 1) := dk_29 (dk_at dksX7_paintRows_5 5 rfl rfl)
theorem dX7_paintRows_122 : decode cX7_paintRows 122 = .ok (.imul, 1) := dk_104 (dk_at dksX7_paintRows_5 6 rfl rfl)
theorem dX7_paintRows_123 : decode cX7_paintRows 123 = .ok (.ishl, 1) := dk_120 (dk_at dksX7_paintRows_5 7 rfl rfl)
theorem dX7_paintRows_124 : decode cX7_paintRows 124 = .ok (.ior, 1) := dk_128 (dk_at dksX7_paintRows_5 8 rfl rfl)
theorem dX7_paintRows_125 : decode cX7_paintRows 125 = .ok (.istore_n 2, 1) := dk_61 (dk_at dksX7_paintRows_5 9 rfl rfl)
theorem dX7_paintRows_126 : decode cX7_paintRows 126 = .ok (.iinc 3 1, 3) := dk_132 3 1 (dk_at dksX7_paintRows_5 10 rfl rfl)
theorem dX7_paintRows_129 : decode cX7_paintRows 129 = .ok (.goto (-75), 3) := dk_167 255 181 (dk_at dksX7_paintRows_5 13 rfl rfl)
theorem dX7_paintRows_132 : decode cX7_paintRows 132 = .ok (.aload_n 0, 1) := dk_42 (dk_at dksX7_paintRows_5 16 rfl rfl)
theorem dX7_paintRows_133 : decode cX7_paintRows 133 = .ok (.aload_n 0, 1) := dk_42 (dk_at dksX7_paintRows_5 17 rfl rfl)
theorem dX7_paintRows_134 : decode cX7_paintRows 134 = .ok (.iload_n 2, 1) := dk_28 (dk_at dksX7_paintRows_5 18 rfl rfl)
theorem dX7_paintRows_135 : decode cX7_paintRows 135 = .ok (.invokevirtual 299, 3) := dk_182 1 43 (dk_at dksX7_paintRows_5 19 rfl rfl)
theorem dX7_paintRows_138 : decode cX7_paintRows 138 = .ok (.invokevirtual 85, 3) := dk_182 0 85 (dk_at dksX7_paintRows_6 0 rfl rfl)
theorem dX7_paintRows_141 : decode cX7_paintRows 141 = .ok (.ireturn, 1) := dk_172 (dk_at dksX7_paintRows_6 3 rfl rfl)
abbrev cX7_copyRows : ByteArray := prog_16_method_78_code
def yX7_copyRows : MethodName := ⟨RX7, "copyRows", "(I)I"⟩
def dkwX7_copyRows_4 : List UInt8 := [180, 0, 7, 4, 46, 182, 0, 85, 172]
abbrev dktX7_copyRows_4 : List UInt8 := dkwX7_copyRows_4 ++ []
def dkwX7_copyRows_3 : List UInt8 := [28, 96, 42, 42, 180, 0, 7, 6, 46, 28, 182, 1, 48, 133, 80, 132, 2, 1, 167, 255, 220, 42, 42]
abbrev dktX7_copyRows_3 : List UInt8 := dkwX7_copyRows_3 ++ dktX7_copyRows_4
def dkwX7_copyRows_2 : List UInt8 := [182, 0, 81, 172, 3, 61, 28, 42, 180, 0, 7, 4, 46, 162, 0, 32, 42, 180, 0, 27, 16, 60, 27, 104]
abbrev dktX7_copyRows_2 : List UInt8 := dkwX7_copyRows_2 ++ dktX7_copyRows_3
def dkwX7_copyRows_1 : List UInt8 := [5, 182, 0, 81, 172, 42, 180, 0, 24, 27, 46, 42, 180, 0, 7, 4, 46, 162, 0, 9, 42, 6]
abbrev dktX7_copyRows_1 : List UInt8 := dkwX7_copyRows_1 ++ dktX7_copyRows_2
def dkwX7_copyRows_0 : List UInt8 := [27, 184, 0, 92, 154, 0, 9, 42, 4, 182, 0, 81, 172, 42, 180, 0, 24, 27, 46, 2, 160, 0, 9, 42]
abbrev dktX7_copyRows_0 : List UInt8 := dkwX7_copyRows_0 ++ dktX7_copyRows_1
theorem dksX7_copyRows_0 : cX7_copyRows.data.toList.drop 0 = dktX7_copyRows_0 := by decide +kernel
theorem dksX7_copyRows_1 : cX7_copyRows.data.toList.drop 24 = dktX7_copyRows_1 := dk_seg dksX7_copyRows_0 24 rfl rfl
theorem dksX7_copyRows_2 : cX7_copyRows.data.toList.drop 46 = dktX7_copyRows_2 := dk_seg dksX7_copyRows_1 22 rfl rfl
theorem dksX7_copyRows_3 : cX7_copyRows.data.toList.drop 70 = dktX7_copyRows_3 := dk_seg dksX7_copyRows_2 24 rfl rfl
theorem dksX7_copyRows_4 : cX7_copyRows.data.toList.drop 93 = dktX7_copyRows_4 := dk_seg dksX7_copyRows_3 23 rfl rfl
theorem dX7_copyRows_0 : decode cX7_copyRows 0 = .ok (.iload_n 1, 1) := dk_27 (dk_at dksX7_copyRows_0 0 rfl rfl)
theorem dX7_copyRows_1 : decode cX7_copyRows 1 = .ok (.invokestatic 92, 3) := dk_184 0 92 (dk_at dksX7_copyRows_0 1 rfl rfl)
theorem dX7_copyRows_4 : decode cX7_copyRows 4 = .ok (.ifCond .ne 9, 3) := dk_154 0 9 (dk_at dksX7_copyRows_0 4 rfl rfl)
theorem dX7_copyRows_7 : decode cX7_copyRows 7 = .ok (.aload_n 0, 1) := dk_42 (dk_at dksX7_copyRows_0 7 rfl rfl)
theorem dX7_copyRows_8 : decode cX7_copyRows 8 = .ok (.iconst 1, 1) := dk_4 (dk_at dksX7_copyRows_0 8 rfl rfl)
theorem dX7_copyRows_9 : decode cX7_copyRows 9 = .ok (.invokevirtual 81, 3) := dk_182 0 81 (dk_at dksX7_copyRows_0 9 rfl rfl)
theorem dX7_copyRows_12 : decode cX7_copyRows 12 = .ok (.ireturn, 1) := dk_172 (dk_at dksX7_copyRows_0 12 rfl rfl)
theorem dX7_copyRows_13 : decode cX7_copyRows 13 = .ok (.aload_n 0, 1) := dk_42 (dk_at dksX7_copyRows_0 13 rfl rfl)
theorem dX7_copyRows_14 : decode cX7_copyRows 14 = .ok (.getfield 24, 3) := dk_180 0 24 (dk_at dksX7_copyRows_0 14 rfl rfl)
theorem dX7_copyRows_17 : decode cX7_copyRows 17 = .ok (.iload_n 1, 1) := dk_27 (dk_at dksX7_copyRows_0 17 rfl rfl)
theorem dX7_copyRows_18 : decode cX7_copyRows 18 = .ok (.iaload, 1) := dk_46 (dk_at dksX7_copyRows_0 18 rfl rfl)
theorem dX7_copyRows_19 : decode cX7_copyRows 19 = .ok (.iconst (-1), 1) := dk_2 (dk_at dksX7_copyRows_0 19 rfl rfl)
theorem dX7_copyRows_20 : decode cX7_copyRows 20 = .ok (.if_icmp .ne 9, 3) := dk_160 0 9 (dk_at dksX7_copyRows_0 20 rfl rfl)
theorem dX7_copyRows_23 : decode cX7_copyRows 23 = .ok (.aload_n 0, 1) := dk_42 (dk_at dksX7_copyRows_0 23 rfl rfl)
theorem dX7_copyRows_24 : decode cX7_copyRows 24 = .ok (.iconst 2, 1) := dk_5 (dk_at dksX7_copyRows_1 0 rfl rfl)
theorem dX7_copyRows_25 : decode cX7_copyRows 25 = .ok (.invokevirtual 81, 3) := dk_182 0 81 (dk_at dksX7_copyRows_1 1 rfl rfl)
theorem dX7_copyRows_28 : decode cX7_copyRows 28 = .ok (.ireturn, 1) := dk_172 (dk_at dksX7_copyRows_1 4 rfl rfl)
theorem dX7_copyRows_29 : decode cX7_copyRows 29 = .ok (.aload_n 0, 1) := dk_42 (dk_at dksX7_copyRows_1 5 rfl rfl)
theorem dX7_copyRows_30 : decode cX7_copyRows 30 = .ok (.getfield 24, 3) := dk_180 0 24 (dk_at dksX7_copyRows_1 6 rfl rfl)
theorem dX7_copyRows_33 : decode cX7_copyRows 33 = .ok (.iload_n 1, 1) := dk_27 (dk_at dksX7_copyRows_1 9 rfl rfl)
theorem dX7_copyRows_34 : decode cX7_copyRows 34 = .ok (.iaload, 1) := dk_46 (dk_at dksX7_copyRows_1 10 rfl rfl)
theorem dX7_copyRows_35 : decode cX7_copyRows 35 = .ok (.aload_n 0, 1) := dk_42 (dk_at dksX7_copyRows_1 11 rfl rfl)
theorem dX7_copyRows_36 : decode cX7_copyRows 36 = .ok (.getfield 7, 3) := dk_180 0 7 (dk_at dksX7_copyRows_1 12 rfl rfl)
theorem dX7_copyRows_39 : decode cX7_copyRows 39 = .ok (.iconst 1, 1) := dk_4 (dk_at dksX7_copyRows_1 15 rfl rfl)
theorem dX7_copyRows_40 : decode cX7_copyRows 40 = .ok (.iaload, 1) := dk_46 (dk_at dksX7_copyRows_1 16 rfl rfl)
theorem dX7_copyRows_41 : decode cX7_copyRows 41 = .ok (.if_icmp .ge 9, 3) := dk_162 0 9 (dk_at dksX7_copyRows_1 17 rfl rfl)
theorem dX7_copyRows_44 : decode cX7_copyRows 44 = .ok (.aload_n 0, 1) := dk_42 (dk_at dksX7_copyRows_1 20 rfl rfl)
theorem dX7_copyRows_45 : decode cX7_copyRows 45 = .ok (.iconst 3, 1) := dk_6 (dk_at dksX7_copyRows_1 21 rfl rfl)
theorem dX7_copyRows_46 : decode cX7_copyRows 46 = .ok (.invokevirtual 81, 3) := dk_182 0 81 (dk_at dksX7_copyRows_2 0 rfl rfl)
theorem dX7_copyRows_49 : decode cX7_copyRows 49 = .ok (.ireturn, 1) := dk_172 (dk_at dksX7_copyRows_2 3 rfl rfl)
theorem dX7_copyRows_50 : decode cX7_copyRows 50 = .ok (.iconst 0, 1) := dk_3 (dk_at dksX7_copyRows_2 4 rfl rfl)
theorem dX7_copyRows_51 : decode cX7_copyRows 51 = .ok (.istore_n 2, 1) := dk_61 (dk_at dksX7_copyRows_2 5 rfl rfl)
theorem dX7_copyRows_52 : decode cX7_copyRows 52 = .ok (.iload_n 2, 1) := dk_28 (dk_at dksX7_copyRows_2 6 rfl rfl)
theorem dX7_copyRows_53 : decode cX7_copyRows 53 = .ok (.aload_n 0, 1) := dk_42 (dk_at dksX7_copyRows_2 7 rfl rfl)
theorem dX7_copyRows_54 : decode cX7_copyRows 54 = .ok (.getfield 7, 3) := dk_180 0 7 (dk_at dksX7_copyRows_2 8 rfl rfl)
theorem dX7_copyRows_57 : decode cX7_copyRows 57 = .ok (.iconst 1, 1) := dk_4 (dk_at dksX7_copyRows_2 11 rfl rfl)
theorem dX7_copyRows_58 : decode cX7_copyRows 58 = .ok (.iaload, 1) := dk_46 (dk_at dksX7_copyRows_2 12 rfl rfl)
theorem dX7_copyRows_59 : decode cX7_copyRows 59 = .ok (.if_icmp .ge 32, 3) := dk_162 0 32 (dk_at dksX7_copyRows_2 13 rfl rfl)
theorem dX7_copyRows_62 : decode cX7_copyRows 62 = .ok (.aload_n 0, 1) := dk_42 (dk_at dksX7_copyRows_2 16 rfl rfl)
theorem dX7_copyRows_63 : decode cX7_copyRows 63 = .ok (.getfield 27, 3) := dk_180 0 27 (dk_at dksX7_copyRows_2 17 rfl rfl)
theorem dX7_copyRows_66 : decode cX7_copyRows 66 = .ok (.bipush 60, 2) := dk_16 60 (dk_at dksX7_copyRows_2 20 rfl rfl)
theorem dX7_copyRows_68 : decode cX7_copyRows 68 = .ok (.iload_n 1, 1) := dk_27 (dk_at dksX7_copyRows_2 22 rfl rfl)
theorem dX7_copyRows_69 : decode cX7_copyRows 69 = .ok (.imul, 1) := dk_104 (dk_at dksX7_copyRows_2 23 rfl rfl)
theorem dX7_copyRows_70 : decode cX7_copyRows 70 = .ok (.iload_n 2, 1) := dk_28 (dk_at dksX7_copyRows_3 0 rfl rfl)
theorem dX7_copyRows_71 : decode cX7_copyRows 71 = .ok (.iadd, 1) := dk_96 (dk_at dksX7_copyRows_3 1 rfl rfl)
theorem dX7_copyRows_72 : decode cX7_copyRows 72 = .ok (.aload_n 0, 1) := dk_42 (dk_at dksX7_copyRows_3 2 rfl rfl)
theorem dX7_copyRows_73 : decode cX7_copyRows 73 = .ok (.aload_n 0, 1) := dk_42 (dk_at dksX7_copyRows_3 3 rfl rfl)
theorem dX7_copyRows_74 : decode cX7_copyRows 74 = .ok (.getfield 7, 3) := dk_180 0 7 (dk_at dksX7_copyRows_3 4 rfl rfl)
theorem dX7_copyRows_77 : decode cX7_copyRows 77 = .ok (.iconst 3, 1) := dk_6 (dk_at dksX7_copyRows_3 7 rfl rfl)
theorem dX7_copyRows_78 : decode cX7_copyRows 78 = .ok (.iaload, 1) := dk_46 (dk_at dksX7_copyRows_3 8 rfl rfl)
theorem dX7_copyRows_79 : decode cX7_copyRows 79 = .ok (.iload_n 2, 1) := dk_28 (dk_at dksX7_copyRows_3 9 rfl rfl)
theorem dX7_copyRows_80 : decode cX7_copyRows 80 = .ok (.invokevirtual 304, 3) := dk_182 1 48 (dk_at dksX7_copyRows_3 10 rfl rfl)
theorem dX7_copyRows_83 : decode cX7_copyRows 83 = .ok (.i2l, 1) := dk_133 (dk_at dksX7_copyRows_3 13 rfl rfl)
theorem dX7_copyRows_84 : decode cX7_copyRows 84 = .ok (.lastore, 1) := dk_80 (dk_at dksX7_copyRows_3 14 rfl rfl)
theorem dX7_copyRows_85 : decode cX7_copyRows 85 = .ok (.iinc 2 1, 3) := dk_132 2 1 (dk_at dksX7_copyRows_3 15 rfl rfl)
theorem dX7_copyRows_88 : decode cX7_copyRows 88 = .ok (.goto (-36), 3) := dk_167 255 220 (dk_at dksX7_copyRows_3 18 rfl rfl)
theorem dX7_copyRows_91 : decode cX7_copyRows 91 = .ok (.aload_n 0, 1) := dk_42 (dk_at dksX7_copyRows_3 21 rfl rfl)
theorem dX7_copyRows_92 : decode cX7_copyRows 92 = .ok (.aload_n 0, 1) := dk_42 (dk_at dksX7_copyRows_3 22 rfl rfl)
theorem dX7_copyRows_93 : decode cX7_copyRows 93 = .ok (.getfield 7, 3) := dk_180 0 7 (dk_at dksX7_copyRows_4 0 rfl rfl)
theorem dX7_copyRows_96 : decode cX7_copyRows 96 = .ok (.iconst 1, 1) := dk_4 (dk_at dksX7_copyRows_4 3 rfl rfl)
theorem dX7_copyRows_97 : decode cX7_copyRows 97 = .ok (.iaload, 1) := dk_46 (dk_at dksX7_copyRows_4 4 rfl rfl)
theorem dX7_copyRows_98 : decode cX7_copyRows 98 = .ok (.invokevirtual 85, 3) := dk_182 0 85 (dk_at dksX7_copyRows_4 5 rfl rfl)
theorem dX7_copyRows_101 : decode cX7_copyRows 101 = .ok (.ireturn, 1) := dk_172 (dk_at dksX7_copyRows_4 8 rfl rfl)
abbrev cX7_rowOf : ByteArray := prog_16_method_77_code
def yX7_rowOf : MethodName := ⟨RX7, "rowOf", "(II)I"⟩
def dkwX7_rowOf_0 : List UInt8 := [27, 42, 180, 0, 7, 3, 46, 28, 104, 122, 4, 42, 180, 0, 7, 3, 46, 120, 4, 100, 126, 172]
abbrev dktX7_rowOf_0 : List UInt8 := dkwX7_rowOf_0 ++ []
theorem dksX7_rowOf_0 : cX7_rowOf.data.toList.drop 0 = dktX7_rowOf_0 := by decide +kernel
theorem dX7_rowOf_0 : decode cX7_rowOf 0 = .ok (.iload_n 1, 1) := dk_27 (dk_at dksX7_rowOf_0 0 rfl rfl)
theorem dX7_rowOf_1 : decode cX7_rowOf 1 = .ok (.aload_n 0, 1) := dk_42 (dk_at dksX7_rowOf_0 1 rfl rfl)
theorem dX7_rowOf_2 : decode cX7_rowOf 2 = .ok (.getfield 7, 3) := dk_180 0 7 (dk_at dksX7_rowOf_0 2 rfl rfl)
theorem dX7_rowOf_5 : decode cX7_rowOf 5 = .ok (.iconst 0, 1) := dk_3 (dk_at dksX7_rowOf_0 5 rfl rfl)
theorem dX7_rowOf_6 : decode cX7_rowOf 6 = .ok (.iaload, 1) := dk_46 (dk_at dksX7_rowOf_0 6 rfl rfl)
theorem dX7_rowOf_7 : decode cX7_rowOf 7 = .ok (.iload_n 2, 1) := dk_28 (dk_at dksX7_rowOf_0 7 rfl rfl)
theorem dX7_rowOf_8 : decode cX7_rowOf 8 = .ok (.imul, 1) := dk_104 (dk_at dksX7_rowOf_0 8 rfl rfl)
theorem dX7_rowOf_9 : decode cX7_rowOf 9 = .ok (.ishr, 1) := dk_122 (dk_at dksX7_rowOf_0 9 rfl rfl)
theorem dX7_rowOf_10 : decode cX7_rowOf 10 = .ok (.iconst 1, 1) := dk_4 (dk_at dksX7_rowOf_0 10 rfl rfl)
theorem dX7_rowOf_11 : decode cX7_rowOf 11 = .ok (.aload_n 0, 1) := dk_42 (dk_at dksX7_rowOf_0 11 rfl rfl)
theorem dX7_rowOf_12 : decode cX7_rowOf 12 = .ok (.getfield 7, 3) := dk_180 0 7 (dk_at dksX7_rowOf_0 12 rfl rfl)
theorem dX7_rowOf_15 : decode cX7_rowOf 15 = .ok (.iconst 0, 1) := dk_3 (dk_at dksX7_rowOf_0 15 rfl rfl)
theorem dX7_rowOf_16 : decode cX7_rowOf 16 = .ok (.iaload, 1) := dk_46 (dk_at dksX7_rowOf_0 16 rfl rfl)
theorem dX7_rowOf_17 : decode cX7_rowOf 17 = .ok (.ishl, 1) := dk_120 (dk_at dksX7_rowOf_0 17 rfl rfl)
theorem dX7_rowOf_18 : decode cX7_rowOf 18 = .ok (.iconst 1, 1) := dk_4 (dk_at dksX7_rowOf_0 18 rfl rfl)
theorem dX7_rowOf_19 : decode cX7_rowOf 19 = .ok (.isub, 1) := dk_100 (dk_at dksX7_rowOf_0 19 rfl rfl)
theorem dX7_rowOf_20 : decode cX7_rowOf 20 = .ok (.iand, 1) := dk_126 (dk_at dksX7_rowOf_0 20 rfl rfl)
theorem dX7_rowOf_21 : decode cX7_rowOf 21 = .ok (.ireturn, 1) := dk_172 (dk_at dksX7_rowOf_0 21 rfl rfl)
abbrev cX7_mayor : ByteArray := prog_16_method_79_code
def yX7_mayor : MethodName := ⟨RX7, "mayor", "(I)Z"⟩
def dkwX7_mayor_1 : List UInt8 := [182, 0, 88, 172]
abbrev dktX7_mayor_1 : List UInt8 := dkwX7_mayor_1 ++ []
def dkwX7_mayor_0 : List UInt8 := [42, 27, 182, 1, 28, 154, 0, 9, 42, 4, 182, 0, 88, 172, 42, 180, 0, 7, 16, 10, 27, 79, 42, 3]
abbrev dktX7_mayor_0 : List UInt8 := dkwX7_mayor_0 ++ dktX7_mayor_1
theorem dksX7_mayor_0 : cX7_mayor.data.toList.drop 0 = dktX7_mayor_0 := by decide +kernel
theorem dksX7_mayor_1 : cX7_mayor.data.toList.drop 24 = dktX7_mayor_1 := dk_seg dksX7_mayor_0 24 rfl rfl
theorem dX7_mayor_0 : decode cX7_mayor 0 = .ok (.aload_n 0, 1) := dk_42 (dk_at dksX7_mayor_0 0 rfl rfl)
theorem dX7_mayor_1 : decode cX7_mayor 1 = .ok (.iload_n 1, 1) := dk_27 (dk_at dksX7_mayor_0 1 rfl rfl)
theorem dX7_mayor_2 : decode cX7_mayor 2 = .ok (.invokevirtual 284, 3) := dk_182 1 28 (dk_at dksX7_mayor_0 2 rfl rfl)
theorem dX7_mayor_5 : decode cX7_mayor 5 = .ok (.ifCond .ne 9, 3) := dk_154 0 9 (dk_at dksX7_mayor_0 5 rfl rfl)
theorem dX7_mayor_8 : decode cX7_mayor 8 = .ok (.aload_n 0, 1) := dk_42 (dk_at dksX7_mayor_0 8 rfl rfl)
theorem dX7_mayor_9 : decode cX7_mayor 9 = .ok (.iconst 1, 1) := dk_4 (dk_at dksX7_mayor_0 9 rfl rfl)
theorem dX7_mayor_10 : decode cX7_mayor 10 = .ok (.invokevirtual 88, 3) := dk_182 0 88 (dk_at dksX7_mayor_0 10 rfl rfl)
theorem dX7_mayor_13 : decode cX7_mayor 13 = .ok (.ireturn, 1) := dk_172 (dk_at dksX7_mayor_0 13 rfl rfl)
theorem dX7_mayor_14 : decode cX7_mayor 14 = .ok (.aload_n 0, 1) := dk_42 (dk_at dksX7_mayor_0 14 rfl rfl)
theorem dX7_mayor_15 : decode cX7_mayor 15 = .ok (.getfield 7, 3) := dk_180 0 7 (dk_at dksX7_mayor_0 15 rfl rfl)
theorem dX7_mayor_18 : decode cX7_mayor 18 = .ok (.bipush 10, 2) := dk_16 10 (dk_at dksX7_mayor_0 18 rfl rfl)
theorem dX7_mayor_20 : decode cX7_mayor 20 = .ok (.iload_n 1, 1) := dk_27 (dk_at dksX7_mayor_0 20 rfl rfl)
theorem dX7_mayor_21 : decode cX7_mayor 21 = .ok (.iastore, 1) := dk_79 (dk_at dksX7_mayor_0 21 rfl rfl)
theorem dX7_mayor_22 : decode cX7_mayor 22 = .ok (.aload_n 0, 1) := dk_42 (dk_at dksX7_mayor_0 22 rfl rfl)
theorem dX7_mayor_23 : decode cX7_mayor 23 = .ok (.iconst 0, 1) := dk_3 (dk_at dksX7_mayor_0 23 rfl rfl)
theorem dX7_mayor_24 : decode cX7_mayor 24 = .ok (.invokevirtual 88, 3) := dk_182 0 88 (dk_at dksX7_mayor_1 0 rfl rfl)
theorem dX7_mayor_27 : decode cX7_mayor 27 = .ok (.ireturn, 1) := dk_172 (dk_at dksX7_mayor_1 3 rfl rfl)
abbrev cX7_bend : ByteArray := prog_16_method_80_code
def yX7_bend : MethodName := ⟨RX7, "bend", "(III)Z"⟩
def dkwX7_bend_2 : List UInt8 := [96, 28, 79, 42, 180, 0, 7, 16, 12, 5, 27, 104, 96, 4, 96, 29, 79, 42, 3, 182, 0, 88, 172]
abbrev dktX7_bend_2 : List UInt8 := dkwX7_bend_2 ++ []
def dkwX7_bend_1 : List UInt8 := [20, 1, 46, 184, 1, 39, 154, 0, 9, 42, 4, 182, 0, 88, 172, 42, 180, 0, 7, 16, 12, 5, 27, 104]
abbrev dktX7_bend_1 : List UInt8 := dkwX7_bend_1 ++ dktX7_bend_2
def dkwX7_bend_0 : List UInt8 := [42, 27, 182, 1, 28, 153, 0, 27, 28, 133, 9, 20, 1, 46, 184, 1, 39, 153, 0, 15, 29, 133, 9]
abbrev dktX7_bend_0 : List UInt8 := dkwX7_bend_0 ++ dktX7_bend_1
theorem dksX7_bend_0 : cX7_bend.data.toList.drop 0 = dktX7_bend_0 := by decide +kernel
theorem dksX7_bend_1 : cX7_bend.data.toList.drop 23 = dktX7_bend_1 := dk_seg dksX7_bend_0 23 rfl rfl
theorem dksX7_bend_2 : cX7_bend.data.toList.drop 47 = dktX7_bend_2 := dk_seg dksX7_bend_1 24 rfl rfl
theorem dX7_bend_0 : decode cX7_bend 0 = .ok (.aload_n 0, 1) := dk_42 (dk_at dksX7_bend_0 0 rfl rfl)
theorem dX7_bend_1 : decode cX7_bend 1 = .ok (.iload_n 1, 1) := dk_27 (dk_at dksX7_bend_0 1 rfl rfl)
theorem dX7_bend_2 : decode cX7_bend 2 = .ok (.invokevirtual 284, 3) := dk_182 1 28 (dk_at dksX7_bend_0 2 rfl rfl)
theorem dX7_bend_5 : decode cX7_bend 5 = .ok (.ifCond .eq 27, 3) := dk_153 0 27 (dk_at dksX7_bend_0 5 rfl rfl)
theorem dX7_bend_8 : decode cX7_bend 8 = .ok (.iload_n 2, 1) := dk_28 (dk_at dksX7_bend_0 8 rfl rfl)
theorem dX7_bend_9 : decode cX7_bend 9 = .ok (.i2l, 1) := dk_133 (dk_at dksX7_bend_0 9 rfl rfl)
theorem dX7_bend_10 : decode cX7_bend 10 = .ok (.lconst 0, 1) := dk_9 (dk_at dksX7_bend_0 10 rfl rfl)
theorem dX7_bend_11 : decode cX7_bend 11 = .ok (.ldc2_w 302, 3) := dk_20 1 46 (dk_at dksX7_bend_0 11 rfl rfl)
theorem dX7_bend_14 : decode cX7_bend 14 = .ok (.invokestatic 295, 3) := dk_184 1 39 (dk_at dksX7_bend_0 14 rfl rfl)
theorem dX7_bend_17 : decode cX7_bend 17 = .ok (.ifCond .eq 15, 3) := dk_153 0 15 (dk_at dksX7_bend_0 17 rfl rfl)
theorem dX7_bend_20 : decode cX7_bend 20 = .ok (.iload_n 3, 1) := dk_29 (dk_at dksX7_bend_0 20 rfl rfl)
theorem dX7_bend_21 : decode cX7_bend 21 = .ok (.i2l, 1) := dk_133 (dk_at dksX7_bend_0 21 rfl rfl)
theorem dX7_bend_22 : decode cX7_bend 22 = .ok (.lconst 0, 1) := dk_9 (dk_at dksX7_bend_0 22 rfl rfl)
theorem dX7_bend_23 : decode cX7_bend 23 = .ok (.ldc2_w 302, 3) := dk_20 1 46 (dk_at dksX7_bend_1 0 rfl rfl)
theorem dX7_bend_26 : decode cX7_bend 26 = .ok (.invokestatic 295, 3) := dk_184 1 39 (dk_at dksX7_bend_1 3 rfl rfl)
theorem dX7_bend_29 : decode cX7_bend 29 = .ok (.ifCond .ne 9, 3) := dk_154 0 9 (dk_at dksX7_bend_1 6 rfl rfl)
theorem dX7_bend_32 : decode cX7_bend 32 = .ok (.aload_n 0, 1) := dk_42 (dk_at dksX7_bend_1 9 rfl rfl)
theorem dX7_bend_33 : decode cX7_bend 33 = .ok (.iconst 1, 1) := dk_4 (dk_at dksX7_bend_1 10 rfl rfl)
theorem dX7_bend_34 : decode cX7_bend 34 = .ok (.invokevirtual 88, 3) := dk_182 0 88 (dk_at dksX7_bend_1 11 rfl rfl)
theorem dX7_bend_37 : decode cX7_bend 37 = .ok (.ireturn, 1) := dk_172 (dk_at dksX7_bend_1 14 rfl rfl)
theorem dX7_bend_38 : decode cX7_bend 38 = .ok (.aload_n 0, 1) := dk_42 (dk_at dksX7_bend_1 15 rfl rfl)
theorem dX7_bend_39 : decode cX7_bend 39 = .ok (.getfield 7, 3) := dk_180 0 7 (dk_at dksX7_bend_1 16 rfl rfl)
theorem dX7_bend_42 : decode cX7_bend 42 = .ok (.bipush 12, 2) := dk_16 12 (dk_at dksX7_bend_1 19 rfl rfl)
theorem dX7_bend_44 : decode cX7_bend 44 = .ok (.iconst 2, 1) := dk_5 (dk_at dksX7_bend_1 21 rfl rfl)
theorem dX7_bend_45 : decode cX7_bend 45 = .ok (.iload_n 1, 1) := dk_27 (dk_at dksX7_bend_1 22 rfl rfl)
theorem dX7_bend_46 : decode cX7_bend 46 = .ok (.imul, 1) := dk_104 (dk_at dksX7_bend_1 23 rfl rfl)
theorem dX7_bend_47 : decode cX7_bend 47 = .ok (.iadd, 1) := dk_96 (dk_at dksX7_bend_2 0 rfl rfl)
theorem dX7_bend_48 : decode cX7_bend 48 = .ok (.iload_n 2, 1) := dk_28 (dk_at dksX7_bend_2 1 rfl rfl)
theorem dX7_bend_49 : decode cX7_bend 49 = .ok (.iastore, 1) := dk_79 (dk_at dksX7_bend_2 2 rfl rfl)
theorem dX7_bend_50 : decode cX7_bend 50 = .ok (.aload_n 0, 1) := dk_42 (dk_at dksX7_bend_2 3 rfl rfl)
theorem dX7_bend_51 : decode cX7_bend 51 = .ok (.getfield 7, 3) := dk_180 0 7 (dk_at dksX7_bend_2 4 rfl rfl)
theorem dX7_bend_54 : decode cX7_bend 54 = .ok (.bipush 12, 2) := dk_16 12 (dk_at dksX7_bend_2 7 rfl rfl)
theorem dX7_bend_56 : decode cX7_bend 56 = .ok (.iconst 2, 1) := dk_5 (dk_at dksX7_bend_2 9 rfl rfl)
theorem dX7_bend_57 : decode cX7_bend 57 = .ok (.iload_n 1, 1) := dk_27 (dk_at dksX7_bend_2 10 rfl rfl)
theorem dX7_bend_58 : decode cX7_bend 58 = .ok (.imul, 1) := dk_104 (dk_at dksX7_bend_2 11 rfl rfl)
theorem dX7_bend_59 : decode cX7_bend 59 = .ok (.iadd, 1) := dk_96 (dk_at dksX7_bend_2 12 rfl rfl)
theorem dX7_bend_60 : decode cX7_bend 60 = .ok (.iconst 1, 1) := dk_4 (dk_at dksX7_bend_2 13 rfl rfl)
theorem dX7_bend_61 : decode cX7_bend 61 = .ok (.iadd, 1) := dk_96 (dk_at dksX7_bend_2 14 rfl rfl)
theorem dX7_bend_62 : decode cX7_bend 62 = .ok (.iload_n 3, 1) := dk_29 (dk_at dksX7_bend_2 15 rfl rfl)
theorem dX7_bend_63 : decode cX7_bend 63 = .ok (.iastore, 1) := dk_79 (dk_at dksX7_bend_2 16 rfl rfl)
theorem dX7_bend_64 : decode cX7_bend 64 = .ok (.aload_n 0, 1) := dk_42 (dk_at dksX7_bend_2 17 rfl rfl)
theorem dX7_bend_65 : decode cX7_bend 65 = .ok (.iconst 0, 1) := dk_3 (dk_at dksX7_bend_2 18 rfl rfl)
theorem dX7_bend_66 : decode cX7_bend 66 = .ok (.invokevirtual 88, 3) := dk_182 0 88 (dk_at dksX7_bend_2 19 rfl rfl)
theorem dX7_bend_69 : decode cX7_bend 69 = .ok (.ireturn, 1) := dk_172 (dk_at dksX7_bend_2 22 rfl rfl)
abbrev cX7_night : ByteArray := prog_16_method_82_code
def yX7_night : MethodName := ⟨RX7, "night", "(I)I"⟩
def dkwX7_night_2 : List UInt8 := [182, 0, 85, 172]
abbrev dktX7_night_2 : List UInt8 := dkwX7_night_2 ++ []
def dkwX7_night_1 : List UInt8 := [162, 0, 13, 42, 182, 1, 53, 132, 2, 1, 167, 255, 244, 42, 42, 180, 0, 7, 6, 46, 184, 0, 226]
abbrev dktX7_night_1 : List UInt8 := dkwX7_night_1 ++ dktX7_night_2
def dkwX7_night_0 : List UInt8 := [27, 133, 10, 20, 1, 51, 184, 1, 39, 154, 0, 9, 42, 4, 182, 0, 81, 172, 3, 61, 28, 27]
abbrev dktX7_night_0 : List UInt8 := dkwX7_night_0 ++ dktX7_night_1
theorem dksX7_night_0 : cX7_night.data.toList.drop 0 = dktX7_night_0 := by decide +kernel
theorem dksX7_night_1 : cX7_night.data.toList.drop 22 = dktX7_night_1 := dk_seg dksX7_night_0 22 rfl rfl
theorem dksX7_night_2 : cX7_night.data.toList.drop 45 = dktX7_night_2 := dk_seg dksX7_night_1 23 rfl rfl
theorem dX7_night_0 : decode cX7_night 0 = .ok (.iload_n 1, 1) := dk_27 (dk_at dksX7_night_0 0 rfl rfl)
theorem dX7_night_1 : decode cX7_night 1 = .ok (.i2l, 1) := dk_133 (dk_at dksX7_night_0 1 rfl rfl)
theorem dX7_night_2 : decode cX7_night 2 = .ok (.lconst 1, 1) := dk_10 (dk_at dksX7_night_0 2 rfl rfl)
theorem dX7_night_3 : decode cX7_night 3 = .ok (.ldc2_w 307, 3) := dk_20 1 51 (dk_at dksX7_night_0 3 rfl rfl)
theorem dX7_night_6 : decode cX7_night 6 = .ok (.invokestatic 295, 3) := dk_184 1 39 (dk_at dksX7_night_0 6 rfl rfl)
theorem dX7_night_9 : decode cX7_night 9 = .ok (.ifCond .ne 9, 3) := dk_154 0 9 (dk_at dksX7_night_0 9 rfl rfl)
theorem dX7_night_12 : decode cX7_night 12 = .ok (.aload_n 0, 1) := dk_42 (dk_at dksX7_night_0 12 rfl rfl)
theorem dX7_night_13 : decode cX7_night 13 = .ok (.iconst 1, 1) := dk_4 (dk_at dksX7_night_0 13 rfl rfl)
theorem dX7_night_14 : decode cX7_night 14 = .ok (.invokevirtual 81, 3) := dk_182 0 81 (dk_at dksX7_night_0 14 rfl rfl)
theorem dX7_night_17 : decode cX7_night 17 = .ok (.ireturn, 1) := dk_172 (dk_at dksX7_night_0 17 rfl rfl)
theorem dX7_night_18 : decode cX7_night 18 = .ok (.iconst 0, 1) := dk_3 (dk_at dksX7_night_0 18 rfl rfl)
theorem dX7_night_19 : decode cX7_night 19 = .ok (.istore_n 2, 1) := dk_61 (dk_at dksX7_night_0 19 rfl rfl)
theorem dX7_night_20 : decode cX7_night 20 = .ok (.iload_n 2, 1) := dk_28 (dk_at dksX7_night_0 20 rfl rfl)
theorem dX7_night_21 : decode cX7_night 21 = .ok (.iload_n 1, 1) := dk_27 (dk_at dksX7_night_0 21 rfl rfl)
theorem dX7_night_22 : decode cX7_night 22 = .ok (.if_icmp .ge 13, 3) := dk_162 0 13 (dk_at dksX7_night_1 0 rfl rfl)
theorem dX7_night_25 : decode cX7_night 25 = .ok (.aload_n 0, 1) := dk_42 (dk_at dksX7_night_1 3 rfl rfl)
theorem dX7_night_26 : decode cX7_night 26 = .ok (.invokevirtual 309, 3) := dk_182 1 53 (dk_at dksX7_night_1 4 rfl rfl)
theorem dX7_night_29 : decode cX7_night 29 = .ok (.iinc 2 1, 3) := dk_132 2 1 (dk_at dksX7_night_1 7 rfl rfl)
theorem dX7_night_32 : decode cX7_night 32 = .ok (.goto (-12), 3) := dk_167 255 244 (dk_at dksX7_night_1 10 rfl rfl)
theorem dX7_night_35 : decode cX7_night 35 = .ok (.aload_n 0, 1) := dk_42 (dk_at dksX7_night_1 13 rfl rfl)
theorem dX7_night_36 : decode cX7_night 36 = .ok (.aload_n 0, 1) := dk_42 (dk_at dksX7_night_1 14 rfl rfl)
theorem dX7_night_37 : decode cX7_night 37 = .ok (.getfield 7, 3) := dk_180 0 7 (dk_at dksX7_night_1 15 rfl rfl)
theorem dX7_night_40 : decode cX7_night 40 = .ok (.iconst 3, 1) := dk_6 (dk_at dksX7_night_1 18 rfl rfl)
theorem dX7_night_41 : decode cX7_night 41 = .ok (.iaload, 1) := dk_46 (dk_at dksX7_night_1 19 rfl rfl)
theorem dX7_night_42 : decode cX7_night 42 = .ok (.invokestatic 226, 3) := dk_184 0 226 (dk_at dksX7_night_1 20 rfl rfl)
theorem dX7_night_45 : decode cX7_night 45 = .ok (.invokevirtual 85, 3) := dk_182 0 85 (dk_at dksX7_night_2 0 rfl rfl)
theorem dX7_night_48 : decode cX7_night 48 = .ok (.ireturn, 1) := dk_172 (dk_at dksX7_night_2 3 rfl rfl)
abbrev cX7_goes : ByteArray := prog_16_method_81_code
def yX7_goes : MethodName := ⟨RX7, "goes", "()V"⟩
def dkwX7_goes_5 : List UInt8 := [79, 42, 180, 0, 7, 6, 27, 79, 42, 180, 0, 7, 16, 7, 92, 46, 4, 96, 79, 177]
abbrev dktX7_goes_5 : List UInt8 := dkwX7_goes_5 ++ []
def dkwX7_goes_4 : List UInt8 := [132, 2, 1, 167, 255, 184, 42, 180, 0, 7, 16, 8, 92, 46, 42, 180, 0, 7, 6, 46, 184, 0, 226, 96]
abbrev dktX7_goes_4 : List UInt8 := dkwX7_goes_4 ++ dktX7_goes_5
def dkwX7_goes_3 : List UInt8 := [42, 180, 0, 7, 6, 46, 126, 184, 0, 226, 96, 92, 46, 4, 27, 28, 122, 4, 126, 120, 128, 79]
abbrev dktX7_goes_3 : List UInt8 := dkwX7_goes_3 ++ dktX7_goes_4
def dkwX7_goes_2 : List UInt8 := [180, 0, 7, 16, 32, 8, 42, 180, 0, 7, 6, 46, 28, 122, 4, 126, 104, 96, 42, 180, 0, 47, 28, 46]
abbrev dktX7_goes_2 : List UInt8 := dkwX7_goes_2 ++ dktX7_goes_3
def dkwX7_goes_1 : List UInt8 := [28, 42, 182, 1, 6, 162, 0, 70, 42, 182, 1, 12, 28, 122, 4, 126, 154, 0, 6, 167, 0, 50, 42]
abbrev dktX7_goes_1 : List UInt8 := dkwX7_goes_1 ++ dktX7_goes_2
def dkwX7_goes_0 : List UInt8 := [42, 182, 1, 15, 42, 42, 180, 0, 7, 6, 46, 42, 180, 0, 7, 16, 10, 46, 182, 1, 18, 60, 3, 61]
abbrev dktX7_goes_0 : List UInt8 := dkwX7_goes_0 ++ dktX7_goes_1
theorem dksX7_goes_0 : cX7_goes.data.toList.drop 0 = dktX7_goes_0 := by decide +kernel
theorem dksX7_goes_1 : cX7_goes.data.toList.drop 24 = dktX7_goes_1 := dk_seg dksX7_goes_0 24 rfl rfl
theorem dksX7_goes_2 : cX7_goes.data.toList.drop 47 = dktX7_goes_2 := dk_seg dksX7_goes_1 23 rfl rfl
theorem dksX7_goes_3 : cX7_goes.data.toList.drop 71 = dktX7_goes_3 := dk_seg dksX7_goes_2 24 rfl rfl
theorem dksX7_goes_4 : cX7_goes.data.toList.drop 93 = dktX7_goes_4 := dk_seg dksX7_goes_3 22 rfl rfl
theorem dksX7_goes_5 : cX7_goes.data.toList.drop 117 = dktX7_goes_5 := dk_seg dksX7_goes_4 24 rfl rfl
theorem dX7_goes_0 : decode cX7_goes 0 = .ok (.aload_n 0, 1) := dk_42 (dk_at dksX7_goes_0 0 rfl rfl)
theorem dX7_goes_1 : decode cX7_goes 1 = .ok (.invokevirtual 271, 3) := dk_182 1 15 (dk_at dksX7_goes_0 1 rfl rfl)
theorem dX7_goes_4 : decode cX7_goes 4 = .ok (.aload_n 0, 1) := dk_42 (dk_at dksX7_goes_0 4 rfl rfl)
theorem dX7_goes_5 : decode cX7_goes 5 = .ok (.aload_n 0, 1) := dk_42 (dk_at dksX7_goes_0 5 rfl rfl)
theorem dX7_goes_6 : decode cX7_goes 6 = .ok (.getfield 7, 3) := dk_180 0 7 (dk_at dksX7_goes_0 6 rfl rfl)
theorem dX7_goes_9 : decode cX7_goes 9 = .ok (.iconst 3, 1) := dk_6 (dk_at dksX7_goes_0 9 rfl rfl)
theorem dX7_goes_10 : decode cX7_goes 10 = .ok (.iaload, 1) := dk_46 (dk_at dksX7_goes_0 10 rfl rfl)
theorem dX7_goes_11 : decode cX7_goes 11 = .ok (.aload_n 0, 1) := dk_42 (dk_at dksX7_goes_0 11 rfl rfl)
theorem dX7_goes_12 : decode cX7_goes 12 = .ok (.getfield 7, 3) := dk_180 0 7 (dk_at dksX7_goes_0 12 rfl rfl)
theorem dX7_goes_15 : decode cX7_goes 15 = .ok (.bipush 10, 2) := dk_16 10 (dk_at dksX7_goes_0 15 rfl rfl)
theorem dX7_goes_17 : decode cX7_goes 17 = .ok (.iaload, 1) := dk_46 (dk_at dksX7_goes_0 17 rfl rfl)
theorem dX7_goes_18 : decode cX7_goes 18 = .ok (.invokevirtual 274, 3) := dk_182 1 18 (dk_at dksX7_goes_0 18 rfl rfl)
theorem dX7_goes_21 : decode cX7_goes 21 = .ok (.istore_n 1, 1) := dk_60 (dk_at dksX7_goes_0 21 rfl rfl)
theorem dX7_goes_22 : decode cX7_goes 22 = .ok (.iconst 0, 1) := dk_3 (dk_at dksX7_goes_0 22 rfl rfl)
theorem dX7_goes_23 : decode cX7_goes 23 = .ok (.istore_n 2, 1) := dk_61 (dk_at dksX7_goes_0 23 rfl rfl)
theorem dX7_goes_24 : decode cX7_goes 24 = .ok (.iload_n 2, 1) := dk_28 (dk_at dksX7_goes_1 0 rfl rfl)
theorem dX7_goes_25 : decode cX7_goes 25 = .ok (.aload_n 0, 1) := dk_42 (dk_at dksX7_goes_1 1 rfl rfl)
theorem dX7_goes_26 : decode cX7_goes 26 = .ok (.invokevirtual 262, 3) := dk_182 1 6 (dk_at dksX7_goes_1 2 rfl rfl)
theorem dX7_goes_29 : decode cX7_goes 29 = .ok (.if_icmp .ge 70, 3) := dk_162 0 70 (dk_at dksX7_goes_1 5 rfl rfl)
theorem dX7_goes_32 : decode cX7_goes 32 = .ok (.aload_n 0, 1) := dk_42 (dk_at dksX7_goes_1 8 rfl rfl)
theorem dX7_goes_33 : decode cX7_goes 33 = .ok (.invokevirtual 268, 3) := dk_182 1 12 (dk_at dksX7_goes_1 9 rfl rfl)
theorem dX7_goes_36 : decode cX7_goes 36 = .ok (.iload_n 2, 1) := dk_28 (dk_at dksX7_goes_1 12 rfl rfl)
theorem dX7_goes_37 : decode cX7_goes 37 = .ok (.ishr, 1) := dk_122 (dk_at dksX7_goes_1 13 rfl rfl)
theorem dX7_goes_38 : decode cX7_goes 38 = .ok (.iconst 1, 1) := dk_4 (dk_at dksX7_goes_1 14 rfl rfl)
theorem dX7_goes_39 : decode cX7_goes 39 = .ok (.iand, 1) := dk_126 (dk_at dksX7_goes_1 15 rfl rfl)
theorem dX7_goes_40 : decode cX7_goes 40 = .ok (.ifCond .ne 6, 3) := dk_154 0 6 (dk_at dksX7_goes_1 16 rfl rfl)
theorem dX7_goes_43 : decode cX7_goes 43 = .ok (.goto 50, 3) := dk_167 0 50 (dk_at dksX7_goes_1 19 rfl rfl)
theorem dX7_goes_46 : decode cX7_goes 46 = .ok (.aload_n 0, 1) := dk_42 (dk_at dksX7_goes_1 22 rfl rfl)
theorem dX7_goes_47 : decode cX7_goes 47 = .ok (.getfield 7, 3) := dk_180 0 7 (dk_at dksX7_goes_2 0 rfl rfl)
theorem dX7_goes_50 : decode cX7_goes 50 = .ok (.bipush 32, 2) := dk_16 32 (dk_at dksX7_goes_2 3 rfl rfl)
theorem dX7_goes_52 : decode cX7_goes 52 = .ok (.iconst 5, 1) := dk_8 (dk_at dksX7_goes_2 5 rfl rfl)
theorem dX7_goes_53 : decode cX7_goes 53 = .ok (.aload_n 0, 1) := dk_42 (dk_at dksX7_goes_2 6 rfl rfl)
theorem dX7_goes_54 : decode cX7_goes 54 = .ok (.getfield 7, 3) := dk_180 0 7 (dk_at dksX7_goes_2 7 rfl rfl)
theorem dX7_goes_57 : decode cX7_goes 57 = .ok (.iconst 3, 1) := dk_6 (dk_at dksX7_goes_2 10 rfl rfl)
theorem dX7_goes_58 : decode cX7_goes 58 = .ok (.iaload, 1) := dk_46 (dk_at dksX7_goes_2 11 rfl rfl)
theorem dX7_goes_59 : decode cX7_goes 59 = .ok (.iload_n 2, 1) := dk_28 (dk_at dksX7_goes_2 12 rfl rfl)
theorem dX7_goes_60 : decode cX7_goes 60 = .ok (.ishr, 1) := dk_122 (dk_at dksX7_goes_2 13 rfl rfl)
theorem dX7_goes_61 : decode cX7_goes 61 = .ok (.iconst 1, 1) := dk_4 (dk_at dksX7_goes_2 14 rfl rfl)
theorem dX7_goes_62 : decode cX7_goes 62 = .ok (.iand, 1) := dk_126 (dk_at dksX7_goes_2 15 rfl rfl)
theorem dX7_goes_63 : decode cX7_goes 63 = .ok (.imul, 1) := dk_104 (dk_at dksX7_goes_2 16 rfl rfl)
theorem dX7_goes_64 : decode cX7_goes 64 = .ok (.iadd, 1) := dk_96 (dk_at dksX7_goes_2 17 rfl rfl)
theorem dX7_goes_65 : decode cX7_goes 65 = .ok (.aload_n 0, 1) := dk_42 (dk_at dksX7_goes_2 18 rfl rfl)
theorem dX7_goes_66 : decode cX7_goes 66 = .ok (.getfield 47, 3) := dk_180 0 47 (dk_at dksX7_goes_2 19 rfl rfl)
theorem dX7_goes_69 : decode cX7_goes 69 = .ok (.iload_n 2, 1) := dk_28 (dk_at dksX7_goes_2 22 rfl rfl)
theorem dX7_goes_70 : decode cX7_goes 70 = .ok (.iaload, 1) := dk_46 (dk_at dksX7_goes_2 23 rfl rfl)
theorem dX7_goes_71 : decode cX7_goes 71 = .ok (.aload_n 0, 1) := dk_42 (dk_at dksX7_goes_3 0 rfl rfl)
theorem dX7_goes_72 : decode cX7_goes 72 = .ok (.getfield 7, 3) := dk_180 0 7 (dk_at dksX7_goes_3 1 rfl rfl)
theorem dX7_goes_75 : decode cX7_goes 75 = .ok (.iconst 3, 1) := dk_6 (dk_at dksX7_goes_3 4 rfl rfl)
theorem dX7_goes_76 : decode cX7_goes 76 = .ok (.iaload, 1) := dk_46 (dk_at dksX7_goes_3 5 rfl rfl)
theorem dX7_goes_77 : decode cX7_goes 77 = .ok (.iand, 1) := dk_126 (dk_at dksX7_goes_3 6 rfl rfl)
theorem dX7_goes_78 : decode cX7_goes 78 = .ok (.invokestatic 226, 3) := dk_184 0 226 (dk_at dksX7_goes_3 7 rfl rfl)
theorem dX7_goes_81 : decode cX7_goes 81 = .ok (.iadd, 1) := dk_96 (dk_at dksX7_goes_3 10 rfl rfl)
theorem dX7_goes_82 : decode cX7_goes 82 = .ok (.dup2, 1) := dk_92 (dk_at dksX7_goes_3 11 rfl rfl)
theorem dX7_goes_83 : decode cX7_goes 83 = .ok (.iaload, 1) := dk_46 (dk_at dksX7_goes_3 12 rfl rfl)
theorem dX7_goes_84 : decode cX7_goes 84 = .ok (.iconst 1, 1) := dk_4 (dk_at dksX7_goes_3 13 rfl rfl)
theorem dX7_goes_85 : decode cX7_goes 85 = .ok (.iload_n 1, 1) := dk_27 (dk_at dksX7_goes_3 14 rfl rfl)
theorem dX7_goes_86 : decode cX7_goes 86 = .ok (.iload_n 2, 1) := dk_28 (dk_at dksX7_goes_3 15 rfl rfl)
theorem dX7_goes_87 : decode cX7_goes 87 = .ok (.ishr, 1) := dk_122 (dk_at dksX7_goes_3 16 rfl rfl)
theorem dX7_goes_88 : decode cX7_goes 88 = .ok (.iconst 1, 1) := dk_4 (dk_at dksX7_goes_3 17 rfl rfl)
theorem dX7_goes_89 : decode cX7_goes 89 = .ok (.iand, 1) := dk_126 (dk_at dksX7_goes_3 18 rfl rfl)
theorem dX7_goes_90 : decode cX7_goes 90 = .ok (.ishl, 1) := dk_120 (dk_at dksX7_goes_3 19 rfl rfl)
theorem dX7_goes_91 : decode cX7_goes 91 = .ok (.ior, 1) := dk_128 (dk_at dksX7_goes_3 20 rfl rfl)
theorem dX7_goes_92 : decode cX7_goes 92 = .ok (.iastore, 1) := dk_79 (dk_at dksX7_goes_3 21 rfl rfl)
theorem dX7_goes_93 : decode cX7_goes 93 = .ok (.iinc 2 1, 3) := dk_132 2 1 (dk_at dksX7_goes_4 0 rfl rfl)
theorem dX7_goes_96 : decode cX7_goes 96 = .ok (.goto (-72), 3) := dk_167 255 184 (dk_at dksX7_goes_4 3 rfl rfl)
theorem dX7_goes_99 : decode cX7_goes 99 = .ok (.aload_n 0, 1) := dk_42 (dk_at dksX7_goes_4 6 rfl rfl)
theorem dX7_goes_100 : decode cX7_goes 100 = .ok (.getfield 7, 3) := dk_180 0 7 (dk_at dksX7_goes_4 7 rfl rfl)
theorem dX7_goes_103 : decode cX7_goes 103 = .ok (.bipush 8, 2) := dk_16 8 (dk_at dksX7_goes_4 10 rfl rfl)
theorem dX7_goes_105 : decode cX7_goes 105 = .ok (.dup2, 1) := dk_92 (dk_at dksX7_goes_4 12 rfl rfl)
theorem dX7_goes_106 : decode cX7_goes 106 = .ok (.iaload, 1) := dk_46 (dk_at dksX7_goes_4 13 rfl rfl)
theorem dX7_goes_107 : decode cX7_goes 107 = .ok (.aload_n 0, 1) := dk_42 (dk_at dksX7_goes_4 14 rfl rfl)
theorem dX7_goes_108 : decode cX7_goes 108 = .ok (.getfield 7, 3) := dk_180 0 7 (dk_at dksX7_goes_4 15 rfl rfl)
theorem dX7_goes_111 : decode cX7_goes 111 = .ok (.iconst 3, 1) := dk_6 (dk_at dksX7_goes_4 18 rfl rfl)
theorem dX7_goes_112 : decode cX7_goes 112 = .ok (.iaload, 1) := dk_46 (dk_at dksX7_goes_4 19 rfl rfl)
theorem dX7_goes_113 : decode cX7_goes 113 = .ok (.invokestatic 226, 3) := dk_184 0 226 (dk_at dksX7_goes_4 20 rfl rfl)
theorem dX7_goes_116 : decode cX7_goes 116 = .ok (.iadd, 1) := dk_96 (dk_at dksX7_goes_4 23 rfl rfl)
theorem dX7_goes_117 : decode cX7_goes 117 = .ok (.iastore, 1) := dk_79 (dk_at dksX7_goes_5 0 rfl rfl)
theorem dX7_goes_118 : decode cX7_goes 118 = .ok (.aload_n 0, 1) := dk_42 (dk_at dksX7_goes_5 1 rfl rfl)
theorem dX7_goes_119 : decode cX7_goes 119 = .ok (.getfield 7, 3) := dk_180 0 7 (dk_at dksX7_goes_5 2 rfl rfl)
theorem dX7_goes_122 : decode cX7_goes 122 = .ok (.iconst 3, 1) := dk_6 (dk_at dksX7_goes_5 5 rfl rfl)
theorem dX7_goes_123 : decode cX7_goes 123 = .ok (.iload_n 1, 1) := dk_27 (dk_at dksX7_goes_5 6 rfl rfl)
theorem dX7_goes_124 : decode cX7_goes 124 = .ok (.iastore, 1) := dk_79 (dk_at dksX7_goes_5 7 rfl rfl)
theorem dX7_goes_125 : decode cX7_goes 125 = .ok (.aload_n 0, 1) := dk_42 (dk_at dksX7_goes_5 8 rfl rfl)
theorem dX7_goes_126 : decode cX7_goes 126 = .ok (.getfield 7, 3) := dk_180 0 7 (dk_at dksX7_goes_5 9 rfl rfl)
theorem dX7_goes_129 : decode cX7_goes 129 = .ok (.bipush 7, 2) := dk_16 7 (dk_at dksX7_goes_5 12 rfl rfl)
theorem dX7_goes_131 : decode cX7_goes 131 = .ok (.dup2, 1) := dk_92 (dk_at dksX7_goes_5 14 rfl rfl)
theorem dX7_goes_132 : decode cX7_goes 132 = .ok (.iaload, 1) := dk_46 (dk_at dksX7_goes_5 15 rfl rfl)
theorem dX7_goes_133 : decode cX7_goes 133 = .ok (.iconst 1, 1) := dk_4 (dk_at dksX7_goes_5 16 rfl rfl)
theorem dX7_goes_134 : decode cX7_goes 134 = .ok (.iadd, 1) := dk_96 (dk_at dksX7_goes_5 17 rfl rfl)
theorem dX7_goes_135 : decode cX7_goes 135 = .ok (.iastore, 1) := dk_79 (dk_at dksX7_goes_5 18 rfl rfl)
theorem dX7_goes_136 : decode cX7_goes 136 = .ok (.return_, 1) := dk_177 (dk_at dksX7_goes_5 19 rfl rfl)
abbrev cX7_laysNear : ByteArray := prog_16_method_63_code
def yX7_laysNear : MethodName := ⟨RX7, "laysNear", "()V"⟩
def dkwX7_laysNear_1 : List UInt8 := [167, 255, 234, 177]
abbrev dktX7_laysNear_1 : List UInt8 := dkwX7_laysNear_1 ++ []
def dkwX7_laysNear_0 : List UInt8 := [3, 60, 27, 42, 182, 1, 6, 162, 0, 20, 42, 180, 0, 47, 27, 42, 27, 182, 1, 9, 79, 132, 1, 1]
abbrev dktX7_laysNear_0 : List UInt8 := dkwX7_laysNear_0 ++ dktX7_laysNear_1
theorem dksX7_laysNear_0 : cX7_laysNear.data.toList.drop 0 = dktX7_laysNear_0 := by decide +kernel
theorem dksX7_laysNear_1 : cX7_laysNear.data.toList.drop 24 = dktX7_laysNear_1 := dk_seg dksX7_laysNear_0 24 rfl rfl
theorem dX7_laysNear_0 : decode cX7_laysNear 0 = .ok (.iconst 0, 1) := dk_3 (dk_at dksX7_laysNear_0 0 rfl rfl)
theorem dX7_laysNear_1 : decode cX7_laysNear 1 = .ok (.istore_n 1, 1) := dk_60 (dk_at dksX7_laysNear_0 1 rfl rfl)
theorem dX7_laysNear_2 : decode cX7_laysNear 2 = .ok (.iload_n 1, 1) := dk_27 (dk_at dksX7_laysNear_0 2 rfl rfl)
theorem dX7_laysNear_3 : decode cX7_laysNear 3 = .ok (.aload_n 0, 1) := dk_42 (dk_at dksX7_laysNear_0 3 rfl rfl)
theorem dX7_laysNear_4 : decode cX7_laysNear 4 = .ok (.invokevirtual 262, 3) := dk_182 1 6 (dk_at dksX7_laysNear_0 4 rfl rfl)
theorem dX7_laysNear_7 : decode cX7_laysNear 7 = .ok (.if_icmp .ge 20, 3) := dk_162 0 20 (dk_at dksX7_laysNear_0 7 rfl rfl)
theorem dX7_laysNear_10 : decode cX7_laysNear 10 = .ok (.aload_n 0, 1) := dk_42 (dk_at dksX7_laysNear_0 10 rfl rfl)
theorem dX7_laysNear_11 : decode cX7_laysNear 11 = .ok (.getfield 47, 3) := dk_180 0 47 (dk_at dksX7_laysNear_0 11 rfl rfl)
theorem dX7_laysNear_14 : decode cX7_laysNear 14 = .ok (.iload_n 1, 1) := dk_27 (dk_at dksX7_laysNear_0 14 rfl rfl)
theorem dX7_laysNear_15 : decode cX7_laysNear 15 = .ok (.aload_n 0, 1) := dk_42 (dk_at dksX7_laysNear_0 15 rfl rfl)
theorem dX7_laysNear_16 : decode cX7_laysNear 16 = .ok (.iload_n 1, 1) := dk_27 (dk_at dksX7_laysNear_0 16 rfl rfl)
theorem dX7_laysNear_17 : decode cX7_laysNear 17 = .ok (.invokevirtual 265, 3) := dk_182 1 9 (dk_at dksX7_laysNear_0 17 rfl rfl)
theorem dX7_laysNear_20 : decode cX7_laysNear 20 = .ok (.iastore, 1) := dk_79 (dk_at dksX7_laysNear_0 20 rfl rfl)
theorem dX7_laysNear_21 : decode cX7_laysNear 21 = .ok (.iinc 1 1, 3) := dk_132 1 1 (dk_at dksX7_laysNear_0 21 rfl rfl)
theorem dX7_laysNear_24 : decode cX7_laysNear 24 = .ok (.goto (-22), 3) := dk_167 255 234 (dk_at dksX7_laysNear_1 0 rfl rfl)
theorem dX7_laysNear_27 : decode cX7_laysNear 27 = .ok (.return_, 1) := dk_177 (dk_at dksX7_laysNear_1 3 rfl rfl)
abbrev cX7_becomes : ByteArray := prog_16_method_64_code
def yX7_becomes : MethodName := ⟨RX7, "becomes", "(II)I"⟩
def dkwX7_becomes_4 : List UInt8 := [62, 132, 5, 1, 167, 255, 188, 29, 172]
abbrev dktX7_becomes_4 : List UInt8 := dkwX7_becomes_4 ++ []
def dkwX7_becomes_3 : List UInt8 := [54, 6, 29, 21, 6, 42, 180, 0, 47, 21, 5, 46, 27, 126, 184, 0, 226, 122, 4, 126, 21, 5, 120, 128]
abbrev dktX7_becomes_3 : List UInt8 := dkwX7_becomes_3 ++ dktX7_becomes_4
def dkwX7_becomes_2 : List UInt8 := [154, 0, 6, 167, 0, 46, 42, 180, 0, 7, 16, 12, 5, 28, 104, 96, 27, 21, 5, 122, 4, 126, 96, 46]
abbrev dktX7_becomes_2 : List UInt8 := dkwX7_becomes_2 ++ dktX7_becomes_3
def dkwX7_becomes_1 : List UInt8 := [182, 1, 12, 54, 4, 3, 54, 5, 21, 5, 42, 182, 1, 6, 162, 0, 65, 21, 4, 21, 5, 122, 4, 126]
abbrev dktX7_becomes_1 : List UInt8 := dkwX7_becomes_1 ++ dktX7_becomes_2
def dkwX7_becomes_0 : List UInt8 := [42, 180, 0, 7, 6, 46, 42, 180, 0, 7, 7, 46, 126, 62, 28, 2, 160, 0, 5, 29, 172, 42]
abbrev dktX7_becomes_0 : List UInt8 := dkwX7_becomes_0 ++ dktX7_becomes_1
theorem dksX7_becomes_0 : cX7_becomes.data.toList.drop 0 = dktX7_becomes_0 := by decide +kernel
theorem dksX7_becomes_1 : cX7_becomes.data.toList.drop 22 = dktX7_becomes_1 := dk_seg dksX7_becomes_0 22 rfl rfl
theorem dksX7_becomes_2 : cX7_becomes.data.toList.drop 46 = dktX7_becomes_2 := dk_seg dksX7_becomes_1 24 rfl rfl
theorem dksX7_becomes_3 : cX7_becomes.data.toList.drop 70 = dktX7_becomes_3 := dk_seg dksX7_becomes_2 24 rfl rfl
theorem dksX7_becomes_4 : cX7_becomes.data.toList.drop 94 = dktX7_becomes_4 := dk_seg dksX7_becomes_3 24 rfl rfl
theorem dX7_becomes_0 : decode cX7_becomes 0 = .ok (.aload_n 0, 1) := dk_42 (dk_at dksX7_becomes_0 0 rfl rfl)
theorem dX7_becomes_1 : decode cX7_becomes 1 = .ok (.getfield 7, 3) := dk_180 0 7 (dk_at dksX7_becomes_0 1 rfl rfl)
theorem dX7_becomes_4 : decode cX7_becomes 4 = .ok (.iconst 3, 1) := dk_6 (dk_at dksX7_becomes_0 4 rfl rfl)
theorem dX7_becomes_5 : decode cX7_becomes 5 = .ok (.iaload, 1) := dk_46 (dk_at dksX7_becomes_0 5 rfl rfl)
theorem dX7_becomes_6 : decode cX7_becomes 6 = .ok (.aload_n 0, 1) := dk_42 (dk_at dksX7_becomes_0 6 rfl rfl)
theorem dX7_becomes_7 : decode cX7_becomes 7 = .ok (.getfield 7, 3) := dk_180 0 7 (dk_at dksX7_becomes_0 7 rfl rfl)
theorem dX7_becomes_10 : decode cX7_becomes 10 = .ok (.iconst 4, 1) := dk_7 (dk_at dksX7_becomes_0 10 rfl rfl)
theorem dX7_becomes_11 : decode cX7_becomes 11 = .ok (.iaload, 1) := dk_46 (dk_at dksX7_becomes_0 11 rfl rfl)
theorem dX7_becomes_12 : decode cX7_becomes 12 = .ok (.iand, 1) := dk_126 (dk_at dksX7_becomes_0 12 rfl rfl)
theorem dX7_becomes_13 : decode cX7_becomes 13 = .ok (.istore_n 3, 1) := dk_62 (dk_at dksX7_becomes_0 13 rfl rfl)
theorem dX7_becomes_14 : decode cX7_becomes 14 = .ok (.iload_n 2, 1) := dk_28 (dk_at dksX7_becomes_0 14 rfl rfl)
theorem dX7_becomes_15 : decode cX7_becomes 15 = .ok (.iconst (-1), 1) := dk_2 (dk_at dksX7_becomes_0 15 rfl rfl)
theorem dX7_becomes_16 : decode cX7_becomes 16 = .ok (.if_icmp .ne 5, 3) := dk_160 0 5 (dk_at dksX7_becomes_0 16 rfl rfl)
theorem dX7_becomes_19 : decode cX7_becomes 19 = .ok (.iload_n 3, 1) := dk_29 (dk_at dksX7_becomes_0 19 rfl rfl)
theorem dX7_becomes_20 : decode cX7_becomes 20 = .ok (.ireturn, 1) := dk_172 (dk_at dksX7_becomes_0 20 rfl rfl)
theorem dX7_becomes_21 : decode cX7_becomes 21 = .ok (.aload_n 0, 1) := dk_42 (dk_at dksX7_becomes_0 21 rfl rfl)
theorem dX7_becomes_22 : decode cX7_becomes 22 = .ok (.invokevirtual 268, 3) := dk_182 1 12 (dk_at dksX7_becomes_1 0 rfl rfl)
theorem dX7_becomes_25 : decode cX7_becomes 25 = .ok (.istore 4, 2) := dk_54 4 (dk_at dksX7_becomes_1 3 rfl rfl)
theorem dX7_becomes_27 : decode cX7_becomes 27 = .ok (.iconst 0, 1) := dk_3 (dk_at dksX7_becomes_1 5 rfl rfl)
theorem dX7_becomes_28 : decode cX7_becomes 28 = .ok (.istore 5, 2) := dk_54 5 (dk_at dksX7_becomes_1 6 rfl rfl)
theorem dX7_becomes_30 : decode cX7_becomes 30 = .ok (.iload 5, 2) := dk_21 5 (dk_at dksX7_becomes_1 8 rfl rfl)
theorem dX7_becomes_32 : decode cX7_becomes 32 = .ok (.aload_n 0, 1) := dk_42 (dk_at dksX7_becomes_1 10 rfl rfl)
theorem dX7_becomes_33 : decode cX7_becomes 33 = .ok (.invokevirtual 262, 3) := dk_182 1 6 (dk_at dksX7_becomes_1 11 rfl rfl)
theorem dX7_becomes_36 : decode cX7_becomes 36 = .ok (.if_icmp .ge 65, 3) := dk_162 0 65 (dk_at dksX7_becomes_1 14 rfl rfl)
theorem dX7_becomes_39 : decode cX7_becomes 39 = .ok (.iload 4, 2) := dk_21 4 (dk_at dksX7_becomes_1 17 rfl rfl)
theorem dX7_becomes_41 : decode cX7_becomes 41 = .ok (.iload 5, 2) := dk_21 5 (dk_at dksX7_becomes_1 19 rfl rfl)
theorem dX7_becomes_43 : decode cX7_becomes 43 = .ok (.ishr, 1) := dk_122 (dk_at dksX7_becomes_1 21 rfl rfl)
theorem dX7_becomes_44 : decode cX7_becomes 44 = .ok (.iconst 1, 1) := dk_4 (dk_at dksX7_becomes_1 22 rfl rfl)
theorem dX7_becomes_45 : decode cX7_becomes 45 = .ok (.iand, 1) := dk_126 (dk_at dksX7_becomes_1 23 rfl rfl)
theorem dX7_becomes_46 : decode cX7_becomes 46 = .ok (.ifCond .ne 6, 3) := dk_154 0 6 (dk_at dksX7_becomes_2 0 rfl rfl)
theorem dX7_becomes_49 : decode cX7_becomes 49 = .ok (.goto 46, 3) := dk_167 0 46 (dk_at dksX7_becomes_2 3 rfl rfl)
theorem dX7_becomes_52 : decode cX7_becomes 52 = .ok (.aload_n 0, 1) := dk_42 (dk_at dksX7_becomes_2 6 rfl rfl)
theorem dX7_becomes_53 : decode cX7_becomes 53 = .ok (.getfield 7, 3) := dk_180 0 7 (dk_at dksX7_becomes_2 7 rfl rfl)
theorem dX7_becomes_56 : decode cX7_becomes 56 = .ok (.bipush 12, 2) := dk_16 12 (dk_at dksX7_becomes_2 10 rfl rfl)
theorem dX7_becomes_58 : decode cX7_becomes 58 = .ok (.iconst 2, 1) := dk_5 (dk_at dksX7_becomes_2 12 rfl rfl)
theorem dX7_becomes_59 : decode cX7_becomes 59 = .ok (.iload_n 2, 1) := dk_28 (dk_at dksX7_becomes_2 13 rfl rfl)
theorem dX7_becomes_60 : decode cX7_becomes 60 = .ok (.imul, 1) := dk_104 (dk_at dksX7_becomes_2 14 rfl rfl)
theorem dX7_becomes_61 : decode cX7_becomes 61 = .ok (.iadd, 1) := dk_96 (dk_at dksX7_becomes_2 15 rfl rfl)
theorem dX7_becomes_62 : decode cX7_becomes 62 = .ok (.iload_n 1, 1) := dk_27 (dk_at dksX7_becomes_2 16 rfl rfl)
theorem dX7_becomes_63 : decode cX7_becomes 63 = .ok (.iload 5, 2) := dk_21 5 (dk_at dksX7_becomes_2 17 rfl rfl)
theorem dX7_becomes_65 : decode cX7_becomes 65 = .ok (.ishr, 1) := dk_122 (dk_at dksX7_becomes_2 19 rfl rfl)
theorem dX7_becomes_66 : decode cX7_becomes 66 = .ok (.iconst 1, 1) := dk_4 (dk_at dksX7_becomes_2 20 rfl rfl)
theorem dX7_becomes_67 : decode cX7_becomes 67 = .ok (.iand, 1) := dk_126 (dk_at dksX7_becomes_2 21 rfl rfl)
theorem dX7_becomes_68 : decode cX7_becomes 68 = .ok (.iadd, 1) := dk_96 (dk_at dksX7_becomes_2 22 rfl rfl)
theorem dX7_becomes_69 : decode cX7_becomes 69 = .ok (.iaload, 1) := dk_46 (dk_at dksX7_becomes_2 23 rfl rfl)
theorem dX7_becomes_70 : decode cX7_becomes 70 = .ok (.istore 6, 2) := dk_54 6 (dk_at dksX7_becomes_3 0 rfl rfl)
theorem dX7_becomes_72 : decode cX7_becomes 72 = .ok (.iload_n 3, 1) := dk_29 (dk_at dksX7_becomes_3 2 rfl rfl)
theorem dX7_becomes_73 : decode cX7_becomes 73 = .ok (.iload 6, 2) := dk_21 6 (dk_at dksX7_becomes_3 3 rfl rfl)
theorem dX7_becomes_75 : decode cX7_becomes 75 = .ok (.aload_n 0, 1) := dk_42 (dk_at dksX7_becomes_3 5 rfl rfl)
theorem dX7_becomes_76 : decode cX7_becomes 76 = .ok (.getfield 47, 3) := dk_180 0 47 (dk_at dksX7_becomes_3 6 rfl rfl)
theorem dX7_becomes_79 : decode cX7_becomes 79 = .ok (.iload 5, 2) := dk_21 5 (dk_at dksX7_becomes_3 9 rfl rfl)
theorem dX7_becomes_81 : decode cX7_becomes 81 = .ok (.iaload, 1) := dk_46 (dk_at dksX7_becomes_3 11 rfl rfl)
theorem dX7_becomes_82 : decode cX7_becomes 82 = .ok (.iload_n 1, 1) := dk_27 (dk_at dksX7_becomes_3 12 rfl rfl)
theorem dX7_becomes_83 : decode cX7_becomes 83 = .ok (.iand, 1) := dk_126 (dk_at dksX7_becomes_3 13 rfl rfl)
theorem dX7_becomes_84 : decode cX7_becomes 84 = .ok (.invokestatic 226, 3) := dk_184 0 226 (dk_at dksX7_becomes_3 14 rfl rfl)
theorem dX7_becomes_87 : decode cX7_becomes 87 = .ok (.ishr, 1) := dk_122 (dk_at dksX7_becomes_3 17 rfl rfl)
theorem dX7_becomes_88 : decode cX7_becomes 88 = .ok (.iconst 1, 1) := dk_4 (dk_at dksX7_becomes_3 18 rfl rfl)
theorem dX7_becomes_89 : decode cX7_becomes 89 = .ok (.iand, 1) := dk_126 (dk_at dksX7_becomes_3 19 rfl rfl)
theorem dX7_becomes_90 : decode cX7_becomes 90 = .ok (.iload 5, 2) := dk_21 5 (dk_at dksX7_becomes_3 20 rfl rfl)
theorem dX7_becomes_92 : decode cX7_becomes 92 = .ok (.ishl, 1) := dk_120 (dk_at dksX7_becomes_3 22 rfl rfl)
theorem dX7_becomes_93 : decode cX7_becomes 93 = .ok (.ior, 1) := dk_128 (dk_at dksX7_becomes_3 23 rfl rfl)
theorem dX7_becomes_94 : decode cX7_becomes 94 = .ok (.istore_n 3, 1) := dk_62 (dk_at dksX7_becomes_4 0 rfl rfl)
theorem dX7_becomes_95 : decode cX7_becomes 95 = .ok (.iinc 5 1, 3) := dk_132 5 1 (dk_at dksX7_becomes_4 1 rfl rfl)
theorem dX7_becomes_98 : decode cX7_becomes 98 = .ok (.goto (-68), 3) := dk_167 255 188 (dk_at dksX7_becomes_4 4 rfl rfl)
theorem dX7_becomes_101 : decode cX7_becomes 101 = .ok (.iload_n 3, 1) := dk_29 (dk_at dksX7_becomes_4 7 rfl rfl)
theorem dX7_becomes_102 : decode cX7_becomes 102 = .ok (.ireturn, 1) := dk_172 (dk_at dksX7_becomes_4 8 rfl rfl)
abbrev cX7_ahead : ByteArray := prog_16_method_83_code
def yX7_ahead : MethodName := ⟨RX7, "ahead", "(I)J"⟩
def dkwX7_ahead_1 : List UInt8 := [133, 182, 1, 24, 167, 0, 9, 42, 4, 182, 0, 81, 133, 173]
abbrev dktX7_ahead_1 : List UInt8 := dkwX7_ahead_1 ++ []
def dkwX7_ahead_0 : List UInt8 := [27, 133, 9, 20, 1, 51, 184, 1, 39, 153, 0, 22, 42, 42, 42, 180, 0, 7, 6, 46, 27, 182, 1, 56]
abbrev dktX7_ahead_0 : List UInt8 := dkwX7_ahead_0 ++ dktX7_ahead_1
theorem dksX7_ahead_0 : cX7_ahead.data.toList.drop 0 = dktX7_ahead_0 := by decide +kernel
theorem dksX7_ahead_1 : cX7_ahead.data.toList.drop 24 = dktX7_ahead_1 := dk_seg dksX7_ahead_0 24 rfl rfl
theorem dX7_ahead_0 : decode cX7_ahead 0 = .ok (.iload_n 1, 1) := dk_27 (dk_at dksX7_ahead_0 0 rfl rfl)
theorem dX7_ahead_1 : decode cX7_ahead 1 = .ok (.i2l, 1) := dk_133 (dk_at dksX7_ahead_0 1 rfl rfl)
theorem dX7_ahead_2 : decode cX7_ahead 2 = .ok (.lconst 0, 1) := dk_9 (dk_at dksX7_ahead_0 2 rfl rfl)
theorem dX7_ahead_3 : decode cX7_ahead 3 = .ok (.ldc2_w 307, 3) := dk_20 1 51 (dk_at dksX7_ahead_0 3 rfl rfl)
theorem dX7_ahead_6 : decode cX7_ahead 6 = .ok (.invokestatic 295, 3) := dk_184 1 39 (dk_at dksX7_ahead_0 6 rfl rfl)
theorem dX7_ahead_9 : decode cX7_ahead 9 = .ok (.ifCond .eq 22, 3) := dk_153 0 22 (dk_at dksX7_ahead_0 9 rfl rfl)
theorem dX7_ahead_12 : decode cX7_ahead 12 = .ok (.aload_n 0, 1) := dk_42 (dk_at dksX7_ahead_0 12 rfl rfl)
theorem dX7_ahead_13 : decode cX7_ahead 13 = .ok (.aload_n 0, 1) := dk_42 (dk_at dksX7_ahead_0 13 rfl rfl)
theorem dX7_ahead_14 : decode cX7_ahead 14 = .ok (.aload_n 0, 1) := dk_42 (dk_at dksX7_ahead_0 14 rfl rfl)
theorem dX7_ahead_15 : decode cX7_ahead 15 = .ok (.getfield 7, 3) := dk_180 0 7 (dk_at dksX7_ahead_0 15 rfl rfl)
theorem dX7_ahead_18 : decode cX7_ahead 18 = .ok (.iconst 3, 1) := dk_6 (dk_at dksX7_ahead_0 18 rfl rfl)
theorem dX7_ahead_19 : decode cX7_ahead 19 = .ok (.iaload, 1) := dk_46 (dk_at dksX7_ahead_0 19 rfl rfl)
theorem dX7_ahead_20 : decode cX7_ahead 20 = .ok (.iload_n 1, 1) := dk_27 (dk_at dksX7_ahead_0 20 rfl rfl)
theorem dX7_ahead_21 : decode cX7_ahead 21 = .ok (.invokevirtual 312, 3) := dk_182 1 56 (dk_at dksX7_ahead_0 21 rfl rfl)
theorem dX7_ahead_24 : decode cX7_ahead 24 = .ok (.i2l, 1) := dk_133 (dk_at dksX7_ahead_1 0 rfl rfl)
theorem dX7_ahead_25 : decode cX7_ahead 25 = .ok (.invokevirtual 280, 3) := dk_182 1 24 (dk_at dksX7_ahead_1 1 rfl rfl)
theorem dX7_ahead_28 : decode cX7_ahead 28 = .ok (.goto 9, 3) := dk_167 0 9 (dk_at dksX7_ahead_1 4 rfl rfl)
theorem dX7_ahead_31 : decode cX7_ahead 31 = .ok (.aload_n 0, 1) := dk_42 (dk_at dksX7_ahead_1 7 rfl rfl)
theorem dX7_ahead_32 : decode cX7_ahead 32 = .ok (.iconst 1, 1) := dk_4 (dk_at dksX7_ahead_1 8 rfl rfl)
theorem dX7_ahead_33 : decode cX7_ahead 33 = .ok (.invokevirtual 81, 3) := dk_182 0 81 (dk_at dksX7_ahead_1 9 rfl rfl)
theorem dX7_ahead_36 : decode cX7_ahead 36 = .ok (.i2l, 1) := dk_133 (dk_at dksX7_ahead_1 12 rfl rfl)
theorem dX7_ahead_37 : decode cX7_ahead 37 = .ok (.lreturn, 1) := dk_173 (dk_at dksX7_ahead_1 13 rfl rfl)
abbrev cX7_after : ByteArray := prog_16_method_65_code
def yX7_after : MethodName := ⟨RX7, "after", "(II)I"⟩
def dkwX7_after_1 : List UInt8 := [182, 1, 18, 62, 132, 4, 1, 167, 255, 234, 29, 172]
abbrev dktX7_after_1 : List UInt8 := dkwX7_after_1 ++ []
def dkwX7_after_0 : List UInt8 := [42, 182, 1, 15, 27, 62, 3, 54, 4, 21, 4, 28, 162, 0, 22, 42, 29, 42, 180, 0, 7, 16, 10, 46]
abbrev dktX7_after_0 : List UInt8 := dkwX7_after_0 ++ dktX7_after_1
theorem dksX7_after_0 : cX7_after.data.toList.drop 0 = dktX7_after_0 := by decide +kernel
theorem dksX7_after_1 : cX7_after.data.toList.drop 24 = dktX7_after_1 := dk_seg dksX7_after_0 24 rfl rfl
theorem dX7_after_0 : decode cX7_after 0 = .ok (.aload_n 0, 1) := dk_42 (dk_at dksX7_after_0 0 rfl rfl)
theorem dX7_after_1 : decode cX7_after 1 = .ok (.invokevirtual 271, 3) := dk_182 1 15 (dk_at dksX7_after_0 1 rfl rfl)
theorem dX7_after_4 : decode cX7_after 4 = .ok (.iload_n 1, 1) := dk_27 (dk_at dksX7_after_0 4 rfl rfl)
theorem dX7_after_5 : decode cX7_after 5 = .ok (.istore_n 3, 1) := dk_62 (dk_at dksX7_after_0 5 rfl rfl)
theorem dX7_after_6 : decode cX7_after 6 = .ok (.iconst 0, 1) := dk_3 (dk_at dksX7_after_0 6 rfl rfl)
theorem dX7_after_7 : decode cX7_after 7 = .ok (.istore 4, 2) := dk_54 4 (dk_at dksX7_after_0 7 rfl rfl)
theorem dX7_after_9 : decode cX7_after 9 = .ok (.iload 4, 2) := dk_21 4 (dk_at dksX7_after_0 9 rfl rfl)
theorem dX7_after_11 : decode cX7_after 11 = .ok (.iload_n 2, 1) := dk_28 (dk_at dksX7_after_0 11 rfl rfl)
theorem dX7_after_12 : decode cX7_after 12 = .ok (.if_icmp .ge 22, 3) := dk_162 0 22 (dk_at dksX7_after_0 12 rfl rfl)
theorem dX7_after_15 : decode cX7_after 15 = .ok (.aload_n 0, 1) := dk_42 (dk_at dksX7_after_0 15 rfl rfl)
theorem dX7_after_16 : decode cX7_after 16 = .ok (.iload_n 3, 1) := dk_29 (dk_at dksX7_after_0 16 rfl rfl)
theorem dX7_after_17 : decode cX7_after 17 = .ok (.aload_n 0, 1) := dk_42 (dk_at dksX7_after_0 17 rfl rfl)
theorem dX7_after_18 : decode cX7_after 18 = .ok (.getfield 7, 3) := dk_180 0 7 (dk_at dksX7_after_0 18 rfl rfl)
theorem dX7_after_21 : decode cX7_after 21 = .ok (.bipush 10, 2) := dk_16 10 (dk_at dksX7_after_0 21 rfl rfl)
theorem dX7_after_23 : decode cX7_after 23 = .ok (.iaload, 1) := dk_46 (dk_at dksX7_after_0 23 rfl rfl)
theorem dX7_after_24 : decode cX7_after 24 = .ok (.invokevirtual 274, 3) := dk_182 1 18 (dk_at dksX7_after_1 0 rfl rfl)
theorem dX7_after_27 : decode cX7_after 27 = .ok (.istore_n 3, 1) := dk_62 (dk_at dksX7_after_1 3 rfl rfl)
theorem dX7_after_28 : decode cX7_after 28 = .ok (.iinc 4 1, 3) := dk_132 4 1 (dk_at dksX7_after_1 4 rfl rfl)
theorem dX7_after_31 : decode cX7_after 31 = .ok (.goto (-22), 3) := dk_167 255 234 (dk_at dksX7_after_1 7 rfl rfl)
theorem dX7_after_34 : decode cX7_after 34 = .ok (.iload_n 3, 1) := dk_29 (dk_at dksX7_after_1 10 rfl rfl)
theorem dX7_after_35 : decode cX7_after 35 = .ok (.ireturn, 1) := dk_172 (dk_at dksX7_after_1 11 rfl rfl)
abbrev cX7_again : ByteArray := prog_16_method_85_code
def yX7_again : MethodName := ⟨RX7, "again", "(I)I"⟩
def dkwX7_again_2 : List UInt8 := [182, 0, 81, 172]
abbrev dktX7_again_2 : List UInt8 := dkwX7_again_2 ++ []
def dkwX7_again_1 : List UInt8 := [154, 0, 10, 42, 180, 1, 59, 167, 0, 7, 42, 180, 1, 62, 182, 0, 85, 167, 0, 9, 42, 16, 7]
abbrev dktX7_again_1 : List UInt8 := dkwX7_again_1 ++ dktX7_again_2
def dkwX7_again_0 : List UInt8 := [27, 155, 0, 8, 27, 4, 164, 0, 9, 42, 4, 182, 0, 81, 172, 42, 182, 1, 65, 153, 0, 25, 42, 27]
abbrev dktX7_again_0 : List UInt8 := dkwX7_again_0 ++ dktX7_again_1
theorem dksX7_again_0 : cX7_again.data.toList.drop 0 = dktX7_again_0 := by decide +kernel
theorem dksX7_again_1 : cX7_again.data.toList.drop 24 = dktX7_again_1 := dk_seg dksX7_again_0 24 rfl rfl
theorem dksX7_again_2 : cX7_again.data.toList.drop 47 = dktX7_again_2 := dk_seg dksX7_again_1 23 rfl rfl
theorem dX7_again_0 : decode cX7_again 0 = .ok (.iload_n 1, 1) := dk_27 (dk_at dksX7_again_0 0 rfl rfl)
theorem dX7_again_1 : decode cX7_again 1 = .ok (.ifCond .lt 8, 3) := dk_155 0 8 (dk_at dksX7_again_0 1 rfl rfl)
theorem dX7_again_4 : decode cX7_again 4 = .ok (.iload_n 1, 1) := dk_27 (dk_at dksX7_again_0 4 rfl rfl)
theorem dX7_again_5 : decode cX7_again 5 = .ok (.iconst 1, 1) := dk_4 (dk_at dksX7_again_0 5 rfl rfl)
theorem dX7_again_6 : decode cX7_again 6 = .ok (.if_icmp .le 9, 3) := dk_164 0 9 (dk_at dksX7_again_0 6 rfl rfl)
theorem dX7_again_9 : decode cX7_again 9 = .ok (.aload_n 0, 1) := dk_42 (dk_at dksX7_again_0 9 rfl rfl)
theorem dX7_again_10 : decode cX7_again 10 = .ok (.iconst 1, 1) := dk_4 (dk_at dksX7_again_0 10 rfl rfl)
theorem dX7_again_11 : decode cX7_again 11 = .ok (.invokevirtual 81, 3) := dk_182 0 81 (dk_at dksX7_again_0 11 rfl rfl)
theorem dX7_again_14 : decode cX7_again 14 = .ok (.ireturn, 1) := dk_172 (dk_at dksX7_again_0 14 rfl rfl)
theorem dX7_again_15 : decode cX7_again 15 = .ok (.aload_n 0, 1) := dk_42 (dk_at dksX7_again_0 15 rfl rfl)
theorem dX7_again_16 : decode cX7_again 16 = .ok (.invokevirtual 321, 3) := dk_182 1 65 (dk_at dksX7_again_0 16 rfl rfl)
theorem dX7_again_19 : decode cX7_again 19 = .ok (.ifCond .eq 25, 3) := dk_153 0 25 (dk_at dksX7_again_0 19 rfl rfl)
theorem dX7_again_22 : decode cX7_again 22 = .ok (.aload_n 0, 1) := dk_42 (dk_at dksX7_again_0 22 rfl rfl)
theorem dX7_again_23 : decode cX7_again 23 = .ok (.iload_n 1, 1) := dk_27 (dk_at dksX7_again_0 23 rfl rfl)
theorem dX7_again_24 : decode cX7_again 24 = .ok (.ifCond .ne 10, 3) := dk_154 0 10 (dk_at dksX7_again_1 0 rfl rfl)
theorem dX7_again_27 : decode cX7_again 27 = .ok (.aload_n 0, 1) := dk_42 (dk_at dksX7_again_1 3 rfl rfl)
theorem dX7_again_28 : decode cX7_again 28 = .ok (.getfield 315, 3) := dk_180 1 59 (dk_at dksX7_again_1 4 rfl rfl)
theorem dX7_again_31 : decode cX7_again 31 = .ok (.goto 7, 3) := dk_167 0 7 (dk_at dksX7_again_1 7 rfl rfl)
theorem dX7_again_34 : decode cX7_again 34 = .ok (.aload_n 0, 1) := dk_42 (dk_at dksX7_again_1 10 rfl rfl)
theorem dX7_again_35 : decode cX7_again 35 = .ok (.getfield 318, 3) := dk_180 1 62 (dk_at dksX7_again_1 11 rfl rfl)
theorem dX7_again_38 : decode cX7_again 38 = .ok (.invokevirtual 85, 3) := dk_182 0 85 (dk_at dksX7_again_1 14 rfl rfl)
theorem dX7_again_41 : decode cX7_again 41 = .ok (.goto 9, 3) := dk_167 0 9 (dk_at dksX7_again_1 17 rfl rfl)
theorem dX7_again_44 : decode cX7_again 44 = .ok (.aload_n 0, 1) := dk_42 (dk_at dksX7_again_1 20 rfl rfl)
theorem dX7_again_45 : decode cX7_again 45 = .ok (.bipush 7, 2) := dk_16 7 (dk_at dksX7_again_1 21 rfl rfl)
theorem dX7_again_47 : decode cX7_again 47 = .ok (.invokevirtual 81, 3) := dk_182 0 81 (dk_at dksX7_again_2 0 rfl rfl)
theorem dX7_again_50 : decode cX7_again 50 = .ok (.ireturn, 1) := dk_172 (dk_at dksX7_again_2 3 rfl rfl)
abbrev cX7_comesAgain : ByteArray := prog_16_method_84_code
def yX7_comesAgain : MethodName := ⟨RX7, "comesAgain", "()Z"⟩
def dkwX7_comesAgain_4 : List UInt8 := [167, 255, 216, 132, 1, 1, 167, 255, 176, 3, 172]
abbrev dktX7_comesAgain_4 : List UInt8 := dkwX7_comesAgain_4 ++ []
def dkwX7_comesAgain_3 : List UInt8 := [159, 0, 6, 167, 0, 17, 42, 28, 181, 1, 59, 42, 27, 28, 100, 181, 1, 62, 4, 172, 132, 2, 1]
abbrev dktX7_comesAgain_3 : List UInt8 := dkwX7_comesAgain_3 ++ dktX7_comesAgain_4
def dkwX7_comesAgain_2 : List UInt8 := [182, 1, 18, 79, 3, 61, 28, 27, 162, 0, 41, 42, 180, 0, 50, 28, 46, 42, 180, 0, 50, 27, 46]
abbrev dktX7_comesAgain_2 : List UInt8 := dkwX7_comesAgain_2 ++ dktX7_comesAgain_3
def dkwX7_comesAgain_1 : List UInt8 := [163, 0, 79, 42, 180, 0, 50, 27, 42, 42, 180, 0, 50, 27, 4, 100, 46, 42, 180, 0, 7, 16, 10, 46]
abbrev dktX7_comesAgain_1 : List UInt8 := dkwX7_comesAgain_1 ++ dktX7_comesAgain_2
def dkwX7_comesAgain_0 : List UInt8 := [42, 182, 1, 15, 42, 180, 0, 50, 3, 42, 180, 0, 7, 6, 46, 79, 4, 60, 27, 17, 7, 208]
abbrev dktX7_comesAgain_0 : List UInt8 := dkwX7_comesAgain_0 ++ dktX7_comesAgain_1
theorem dksX7_comesAgain_0 : cX7_comesAgain.data.toList.drop 0 = dktX7_comesAgain_0 := by decide +kernel
theorem dksX7_comesAgain_1 : cX7_comesAgain.data.toList.drop 22 = dktX7_comesAgain_1 := dk_seg dksX7_comesAgain_0 22 rfl rfl
theorem dksX7_comesAgain_2 : cX7_comesAgain.data.toList.drop 46 = dktX7_comesAgain_2 := dk_seg dksX7_comesAgain_1 24 rfl rfl
theorem dksX7_comesAgain_3 : cX7_comesAgain.data.toList.drop 69 = dktX7_comesAgain_3 := dk_seg dksX7_comesAgain_2 23 rfl rfl
theorem dksX7_comesAgain_4 : cX7_comesAgain.data.toList.drop 92 = dktX7_comesAgain_4 := dk_seg dksX7_comesAgain_3 23 rfl rfl
theorem dX7_comesAgain_0 : decode cX7_comesAgain 0 = .ok (.aload_n 0, 1) := dk_42 (dk_at dksX7_comesAgain_0 0 rfl rfl)
theorem dX7_comesAgain_1 : decode cX7_comesAgain 1 = .ok (.invokevirtual 271, 3) := dk_182 1 15 (dk_at dksX7_comesAgain_0 1 rfl rfl)
theorem dX7_comesAgain_4 : decode cX7_comesAgain 4 = .ok (.aload_n 0, 1) := dk_42 (dk_at dksX7_comesAgain_0 4 rfl rfl)
theorem dX7_comesAgain_5 : decode cX7_comesAgain 5 = .ok (.getfield 50, 3) := dk_180 0 50 (dk_at dksX7_comesAgain_0 5 rfl rfl)
theorem dX7_comesAgain_8 : decode cX7_comesAgain 8 = .ok (.iconst 0, 1) := dk_3 (dk_at dksX7_comesAgain_0 8 rfl rfl)
theorem dX7_comesAgain_9 : decode cX7_comesAgain 9 = .ok (.aload_n 0, 1) := dk_42 (dk_at dksX7_comesAgain_0 9 rfl rfl)
theorem dX7_comesAgain_10 : decode cX7_comesAgain 10 = .ok (.getfield 7, 3) := dk_180 0 7 (dk_at dksX7_comesAgain_0 10 rfl rfl)
theorem dX7_comesAgain_13 : decode cX7_comesAgain 13 = .ok (.iconst 3, 1) := dk_6 (dk_at dksX7_comesAgain_0 13 rfl rfl)
theorem dX7_comesAgain_14 : decode cX7_comesAgain 14 = .ok (.iaload, 1) := dk_46 (dk_at dksX7_comesAgain_0 14 rfl rfl)
theorem dX7_comesAgain_15 : decode cX7_comesAgain 15 = .ok (.iastore, 1) := dk_79 (dk_at dksX7_comesAgain_0 15 rfl rfl)
theorem dX7_comesAgain_16 : decode cX7_comesAgain 16 = .ok (.iconst 1, 1) := dk_4 (dk_at dksX7_comesAgain_0 16 rfl rfl)
theorem dX7_comesAgain_17 : decode cX7_comesAgain 17 = .ok (.istore_n 1, 1) := dk_60 (dk_at dksX7_comesAgain_0 17 rfl rfl)
theorem dX7_comesAgain_18 : decode cX7_comesAgain 18 = .ok (.iload_n 1, 1) := dk_27 (dk_at dksX7_comesAgain_0 18 rfl rfl)
theorem dX7_comesAgain_19 : decode cX7_comesAgain 19 = .ok (.sipush 2000, 3) := dk_17 7 208 (dk_at dksX7_comesAgain_0 19 rfl rfl)
theorem dX7_comesAgain_22 : decode cX7_comesAgain 22 = .ok (.if_icmp .gt 79, 3) := dk_163 0 79 (dk_at dksX7_comesAgain_1 0 rfl rfl)
theorem dX7_comesAgain_25 : decode cX7_comesAgain 25 = .ok (.aload_n 0, 1) := dk_42 (dk_at dksX7_comesAgain_1 3 rfl rfl)
theorem dX7_comesAgain_26 : decode cX7_comesAgain 26 = .ok (.getfield 50, 3) := dk_180 0 50 (dk_at dksX7_comesAgain_1 4 rfl rfl)
theorem dX7_comesAgain_29 : decode cX7_comesAgain 29 = .ok (.iload_n 1, 1) := dk_27 (dk_at dksX7_comesAgain_1 7 rfl rfl)
theorem dX7_comesAgain_30 : decode cX7_comesAgain 30 = .ok (.aload_n 0, 1) := dk_42 (dk_at dksX7_comesAgain_1 8 rfl rfl)
theorem dX7_comesAgain_31 : decode cX7_comesAgain 31 = .ok (.aload_n 0, 1) := dk_42 (dk_at dksX7_comesAgain_1 9 rfl rfl)
theorem dX7_comesAgain_32 : decode cX7_comesAgain 32 = .ok (.getfield 50, 3) := dk_180 0 50 (dk_at dksX7_comesAgain_1 10 rfl rfl)
theorem dX7_comesAgain_35 : decode cX7_comesAgain 35 = .ok (.iload_n 1, 1) := dk_27 (dk_at dksX7_comesAgain_1 13 rfl rfl)
theorem dX7_comesAgain_36 : decode cX7_comesAgain 36 = .ok (.iconst 1, 1) := dk_4 (dk_at dksX7_comesAgain_1 14 rfl rfl)
theorem dX7_comesAgain_37 : decode cX7_comesAgain 37 = .ok (.isub, 1) := dk_100 (dk_at dksX7_comesAgain_1 15 rfl rfl)
theorem dX7_comesAgain_38 : decode cX7_comesAgain 38 = .ok (.iaload, 1) := dk_46 (dk_at dksX7_comesAgain_1 16 rfl rfl)
theorem dX7_comesAgain_39 : decode cX7_comesAgain 39 = .ok (.aload_n 0, 1) := dk_42 (dk_at dksX7_comesAgain_1 17 rfl rfl)
theorem dX7_comesAgain_40 : decode cX7_comesAgain 40 = .ok (.getfield 7, 3) := dk_180 0 7 (dk_at dksX7_comesAgain_1 18 rfl rfl)
theorem dX7_comesAgain_43 : decode cX7_comesAgain 43 = .ok (.bipush 10, 2) := dk_16 10 (dk_at dksX7_comesAgain_1 21 rfl rfl)
theorem dX7_comesAgain_45 : decode cX7_comesAgain 45 = .ok (.iaload, 1) := dk_46 (dk_at dksX7_comesAgain_1 23 rfl rfl)
theorem dX7_comesAgain_46 : decode cX7_comesAgain 46 = .ok (.invokevirtual 274, 3) := dk_182 1 18 (dk_at dksX7_comesAgain_2 0 rfl rfl)
theorem dX7_comesAgain_49 : decode cX7_comesAgain 49 = .ok (.iastore, 1) := dk_79 (dk_at dksX7_comesAgain_2 3 rfl rfl)
theorem dX7_comesAgain_50 : decode cX7_comesAgain 50 = .ok (.iconst 0, 1) := dk_3 (dk_at dksX7_comesAgain_2 4 rfl rfl)
theorem dX7_comesAgain_51 : decode cX7_comesAgain 51 = .ok (.istore_n 2, 1) := dk_61 (dk_at dksX7_comesAgain_2 5 rfl rfl)
theorem dX7_comesAgain_52 : decode cX7_comesAgain 52 = .ok (.iload_n 2, 1) := dk_28 (dk_at dksX7_comesAgain_2 6 rfl rfl)
theorem dX7_comesAgain_53 : decode cX7_comesAgain 53 = .ok (.iload_n 1, 1) := dk_27 (dk_at dksX7_comesAgain_2 7 rfl rfl)
theorem dX7_comesAgain_54 : decode cX7_comesAgain 54 = .ok (.if_icmp .ge 41, 3) := dk_162 0 41 (dk_at dksX7_comesAgain_2 8 rfl rfl)
theorem dX7_comesAgain_57 : decode cX7_comesAgain 57 = .ok (.aload_n 0, 1) := dk_42 (dk_at dksX7_comesAgain_2 11 rfl rfl)
theorem dX7_comesAgain_58 : decode cX7_comesAgain 58 = .ok (.getfield 50, 3) := dk_180 0 50 (dk_at dksX7_comesAgain_2 12 rfl rfl)
theorem dX7_comesAgain_61 : decode cX7_comesAgain 61 = .ok (.iload_n 2, 1) := dk_28 (dk_at dksX7_comesAgain_2 15 rfl rfl)
theorem dX7_comesAgain_62 : decode cX7_comesAgain 62 = .ok (.iaload, 1) := dk_46 (dk_at dksX7_comesAgain_2 16 rfl rfl)
theorem dX7_comesAgain_63 : decode cX7_comesAgain 63 = .ok (.aload_n 0, 1) := dk_42 (dk_at dksX7_comesAgain_2 17 rfl rfl)
theorem dX7_comesAgain_64 : decode cX7_comesAgain 64 = .ok (.getfield 50, 3) := dk_180 0 50 (dk_at dksX7_comesAgain_2 18 rfl rfl)
theorem dX7_comesAgain_67 : decode cX7_comesAgain 67 = .ok (.iload_n 1, 1) := dk_27 (dk_at dksX7_comesAgain_2 21 rfl rfl)
theorem dX7_comesAgain_68 : decode cX7_comesAgain 68 = .ok (.iaload, 1) := dk_46 (dk_at dksX7_comesAgain_2 22 rfl rfl)
theorem dX7_comesAgain_69 : decode cX7_comesAgain 69 = .ok (.if_icmp .eq 6, 3) := dk_159 0 6 (dk_at dksX7_comesAgain_3 0 rfl rfl)
theorem dX7_comesAgain_72 : decode cX7_comesAgain 72 = .ok (.goto 17, 3) := dk_167 0 17 (dk_at dksX7_comesAgain_3 3 rfl rfl)
theorem dX7_comesAgain_75 : decode cX7_comesAgain 75 = .ok (.aload_n 0, 1) := dk_42 (dk_at dksX7_comesAgain_3 6 rfl rfl)
theorem dX7_comesAgain_76 : decode cX7_comesAgain 76 = .ok (.iload_n 2, 1) := dk_28 (dk_at dksX7_comesAgain_3 7 rfl rfl)
theorem dX7_comesAgain_77 : decode cX7_comesAgain 77 = .ok (.putfield 315, 3) := dk_181 1 59 (dk_at dksX7_comesAgain_3 8 rfl rfl)
theorem dX7_comesAgain_80 : decode cX7_comesAgain 80 = .ok (.aload_n 0, 1) := dk_42 (dk_at dksX7_comesAgain_3 11 rfl rfl)
theorem dX7_comesAgain_81 : decode cX7_comesAgain 81 = .ok (.iload_n 1, 1) := dk_27 (dk_at dksX7_comesAgain_3 12 rfl rfl)
theorem dX7_comesAgain_82 : decode cX7_comesAgain 82 = .ok (.iload_n 2, 1) := dk_28 (dk_at dksX7_comesAgain_3 13 rfl rfl)
theorem dX7_comesAgain_83 : decode cX7_comesAgain 83 = .ok (.isub, 1) := dk_100 (dk_at dksX7_comesAgain_3 14 rfl rfl)
theorem dX7_comesAgain_84 : decode cX7_comesAgain 84 = .ok (.putfield 318, 3) := dk_181 1 62 (dk_at dksX7_comesAgain_3 15 rfl rfl)
theorem dX7_comesAgain_87 : decode cX7_comesAgain 87 = .ok (.iconst 1, 1) := dk_4 (dk_at dksX7_comesAgain_3 18 rfl rfl)
theorem dX7_comesAgain_88 : decode cX7_comesAgain 88 = .ok (.ireturn, 1) := dk_172 (dk_at dksX7_comesAgain_3 19 rfl rfl)
theorem dX7_comesAgain_89 : decode cX7_comesAgain 89 = .ok (.iinc 2 1, 3) := dk_132 2 1 (dk_at dksX7_comesAgain_3 20 rfl rfl)
theorem dX7_comesAgain_92 : decode cX7_comesAgain 92 = .ok (.goto (-40), 3) := dk_167 255 216 (dk_at dksX7_comesAgain_4 0 rfl rfl)
theorem dX7_comesAgain_95 : decode cX7_comesAgain 95 = .ok (.iinc 1 1, 3) := dk_132 1 1 (dk_at dksX7_comesAgain_4 3 rfl rfl)
theorem dX7_comesAgain_98 : decode cX7_comesAgain 98 = .ok (.goto (-80), 3) := dk_167 255 176 (dk_at dksX7_comesAgain_4 6 rfl rfl)
theorem dX7_comesAgain_101 : decode cX7_comesAgain 101 = .ok (.iconst 0, 1) := dk_3 (dk_at dksX7_comesAgain_4 9 rfl rfl)
theorem dX7_comesAgain_102 : decode cX7_comesAgain 102 = .ok (.ireturn, 1) := dk_172 (dk_at dksX7_comesAgain_4 10 rfl rfl)
abbrev cX7_far : ByteArray := prog_16_method_86_code
def yX7_far : MethodName := ⟨RX7, "far", "(I)J"⟩
def dkwX7_far_3 : List UInt8 := [182, 1, 24, 173]
abbrev dktX7_far_3 : List UInt8 := dkwX7_far_3 ++ []
def dkwX7_far_2 : List UInt8 := [27, 167, 0, 19, 42, 180, 1, 59, 27, 42, 180, 1, 59, 100, 42, 180, 1, 62, 112, 96, 46, 133]
abbrev dktX7_far_2 : List UInt8 := dkwX7_far_2 ++ dktX7_far_3
def dkwX7_far_1 : List UInt8 := [154, 0, 11, 42, 16, 7, 182, 0, 81, 133, 173, 42, 42, 180, 0, 50, 27, 42, 180, 1, 59, 162, 0, 7]
abbrev dktX7_far_1 : List UInt8 := dkwX7_far_1 ++ dktX7_far_2
def dkwX7_far_0 : List UInt8 := [27, 133, 9, 20, 1, 68, 184, 1, 39, 154, 0, 10, 42, 4, 182, 0, 81, 133, 173, 42, 182, 1, 65]
abbrev dktX7_far_0 : List UInt8 := dkwX7_far_0 ++ dktX7_far_1
theorem dksX7_far_0 : cX7_far.data.toList.drop 0 = dktX7_far_0 := by decide +kernel
theorem dksX7_far_1 : cX7_far.data.toList.drop 23 = dktX7_far_1 := dk_seg dksX7_far_0 23 rfl rfl
theorem dksX7_far_2 : cX7_far.data.toList.drop 47 = dktX7_far_2 := dk_seg dksX7_far_1 24 rfl rfl
theorem dksX7_far_3 : cX7_far.data.toList.drop 69 = dktX7_far_3 := dk_seg dksX7_far_2 22 rfl rfl
theorem dX7_far_0 : decode cX7_far 0 = .ok (.iload_n 1, 1) := dk_27 (dk_at dksX7_far_0 0 rfl rfl)
theorem dX7_far_1 : decode cX7_far 1 = .ok (.i2l, 1) := dk_133 (dk_at dksX7_far_0 1 rfl rfl)
theorem dX7_far_2 : decode cX7_far 2 = .ok (.lconst 0, 1) := dk_9 (dk_at dksX7_far_0 2 rfl rfl)
theorem dX7_far_3 : decode cX7_far 3 = .ok (.ldc2_w 324, 3) := dk_20 1 68 (dk_at dksX7_far_0 3 rfl rfl)
theorem dX7_far_6 : decode cX7_far 6 = .ok (.invokestatic 295, 3) := dk_184 1 39 (dk_at dksX7_far_0 6 rfl rfl)
theorem dX7_far_9 : decode cX7_far 9 = .ok (.ifCond .ne 10, 3) := dk_154 0 10 (dk_at dksX7_far_0 9 rfl rfl)
theorem dX7_far_12 : decode cX7_far 12 = .ok (.aload_n 0, 1) := dk_42 (dk_at dksX7_far_0 12 rfl rfl)
theorem dX7_far_13 : decode cX7_far 13 = .ok (.iconst 1, 1) := dk_4 (dk_at dksX7_far_0 13 rfl rfl)
theorem dX7_far_14 : decode cX7_far 14 = .ok (.invokevirtual 81, 3) := dk_182 0 81 (dk_at dksX7_far_0 14 rfl rfl)
theorem dX7_far_17 : decode cX7_far 17 = .ok (.i2l, 1) := dk_133 (dk_at dksX7_far_0 17 rfl rfl)
theorem dX7_far_18 : decode cX7_far 18 = .ok (.lreturn, 1) := dk_173 (dk_at dksX7_far_0 18 rfl rfl)
theorem dX7_far_19 : decode cX7_far 19 = .ok (.aload_n 0, 1) := dk_42 (dk_at dksX7_far_0 19 rfl rfl)
theorem dX7_far_20 : decode cX7_far 20 = .ok (.invokevirtual 321, 3) := dk_182 1 65 (dk_at dksX7_far_0 20 rfl rfl)
theorem dX7_far_23 : decode cX7_far 23 = .ok (.ifCond .ne 11, 3) := dk_154 0 11 (dk_at dksX7_far_1 0 rfl rfl)
theorem dX7_far_26 : decode cX7_far 26 = .ok (.aload_n 0, 1) := dk_42 (dk_at dksX7_far_1 3 rfl rfl)
theorem dX7_far_27 : decode cX7_far 27 = .ok (.bipush 7, 2) := dk_16 7 (dk_at dksX7_far_1 4 rfl rfl)
theorem dX7_far_29 : decode cX7_far 29 = .ok (.invokevirtual 81, 3) := dk_182 0 81 (dk_at dksX7_far_1 6 rfl rfl)
theorem dX7_far_32 : decode cX7_far 32 = .ok (.i2l, 1) := dk_133 (dk_at dksX7_far_1 9 rfl rfl)
theorem dX7_far_33 : decode cX7_far 33 = .ok (.lreturn, 1) := dk_173 (dk_at dksX7_far_1 10 rfl rfl)
theorem dX7_far_34 : decode cX7_far 34 = .ok (.aload_n 0, 1) := dk_42 (dk_at dksX7_far_1 11 rfl rfl)
theorem dX7_far_35 : decode cX7_far 35 = .ok (.aload_n 0, 1) := dk_42 (dk_at dksX7_far_1 12 rfl rfl)
theorem dX7_far_36 : decode cX7_far 36 = .ok (.getfield 50, 3) := dk_180 0 50 (dk_at dksX7_far_1 13 rfl rfl)
theorem dX7_far_39 : decode cX7_far 39 = .ok (.iload_n 1, 1) := dk_27 (dk_at dksX7_far_1 16 rfl rfl)
theorem dX7_far_40 : decode cX7_far 40 = .ok (.aload_n 0, 1) := dk_42 (dk_at dksX7_far_1 17 rfl rfl)
theorem dX7_far_41 : decode cX7_far 41 = .ok (.getfield 315, 3) := dk_180 1 59 (dk_at dksX7_far_1 18 rfl rfl)
theorem dX7_far_44 : decode cX7_far 44 = .ok (.if_icmp .ge 7, 3) := dk_162 0 7 (dk_at dksX7_far_1 21 rfl rfl)
theorem dX7_far_47 : decode cX7_far 47 = .ok (.iload_n 1, 1) := dk_27 (dk_at dksX7_far_2 0 rfl rfl)
theorem dX7_far_48 : decode cX7_far 48 = .ok (.goto 19, 3) := dk_167 0 19 (dk_at dksX7_far_2 1 rfl rfl)
theorem dX7_far_51 : decode cX7_far 51 = .ok (.aload_n 0, 1) := dk_42 (dk_at dksX7_far_2 4 rfl rfl)
theorem dX7_far_52 : decode cX7_far 52 = .ok (.getfield 315, 3) := dk_180 1 59 (dk_at dksX7_far_2 5 rfl rfl)
theorem dX7_far_55 : decode cX7_far 55 = .ok (.iload_n 1, 1) := dk_27 (dk_at dksX7_far_2 8 rfl rfl)
theorem dX7_far_56 : decode cX7_far 56 = .ok (.aload_n 0, 1) := dk_42 (dk_at dksX7_far_2 9 rfl rfl)
theorem dX7_far_57 : decode cX7_far 57 = .ok (.getfield 315, 3) := dk_180 1 59 (dk_at dksX7_far_2 10 rfl rfl)
theorem dX7_far_60 : decode cX7_far 60 = .ok (.isub, 1) := dk_100 (dk_at dksX7_far_2 13 rfl rfl)
theorem dX7_far_61 : decode cX7_far 61 = .ok (.aload_n 0, 1) := dk_42 (dk_at dksX7_far_2 14 rfl rfl)
theorem dX7_far_62 : decode cX7_far 62 = .ok (.getfield 318, 3) := dk_180 1 62 (dk_at dksX7_far_2 15 rfl rfl)
theorem dX7_far_65 : decode cX7_far 65 = .ok (.irem, 1) := dk_112 (dk_at dksX7_far_2 18 rfl rfl)
theorem dX7_far_66 : decode cX7_far 66 = .ok (.iadd, 1) := dk_96 (dk_at dksX7_far_2 19 rfl rfl)
theorem dX7_far_67 : decode cX7_far 67 = .ok (.iaload, 1) := dk_46 (dk_at dksX7_far_2 20 rfl rfl)
theorem dX7_far_68 : decode cX7_far 68 = .ok (.i2l, 1) := dk_133 (dk_at dksX7_far_2 21 rfl rfl)
theorem dX7_far_69 : decode cX7_far 69 = .ok (.invokevirtual 280, 3) := dk_182 1 24 (dk_at dksX7_far_3 0 rfl rfl)
theorem dX7_far_72 : decode cX7_far 72 = .ok (.lreturn, 1) := dk_173 (dk_at dksX7_far_3 3 rfl rfl)
abbrev cX7_walks : ByteArray := prog_16_method_88_code
def yX7_walks : MethodName := ⟨RX7, "walks", "(I)I"⟩
def dkwX7_walks_6 : List UInt8 := [167, 255, 159, 42, 16, 6, 182, 0, 81, 172]
abbrev dktX7_walks_6 : List UInt8 := dkwX7_walks_6 ++ []
def dkwX7_walks_5 : List UInt8 := [167, 0, 5, 21, 4, 182, 0, 85, 172, 132, 5, 1, 167, 255, 204, 132, 4, 1, 167, 255, 188, 132, 3, 1]
abbrev dktX7_walks_5 : List UInt8 := dkwX7_walks_5 ++ dktX7_walks_6
def dkwX7_walks_4 : List UInt8 := [182, 1, 70, 28, 160, 0, 28, 42, 27, 154, 0, 7, 29, 167, 0, 15, 27, 4, 160, 0, 8, 21, 5]
abbrev dktX7_walks_4 : List UInt8 := dkwX7_walks_4 ++ dktX7_walks_5
def dkwX7_walks_3 : List UInt8 := [163, 0, 68, 16, 252, 54, 5, 21, 5, 7, 163, 0, 52, 42, 42, 180, 0, 7, 6, 46, 21, 5, 21, 4]
abbrev dktX7_walks_3 : List UInt8 := dkwX7_walks_3 ++ dktX7_walks_4
def dkwX7_walks_2 : List UInt8 := [163, 0, 97, 42, 28, 42, 180, 0, 7, 16, 10, 46, 182, 1, 18, 61, 16, 251, 54, 4, 21, 4, 8]
abbrev dktX7_walks_2 : List UInt8 := dkwX7_walks_2 ++ dktX7_walks_3
def dkwX7_walks_1 : List UInt8 := [42, 16, 6, 182, 0, 81, 172, 42, 182, 1, 15, 42, 180, 0, 7, 6, 46, 61, 4, 62, 29, 16, 60]
abbrev dktX7_walks_1 : List UInt8 := dkwX7_walks_1 ++ dktX7_walks_2
def dkwX7_walks_0 : List UInt8 := [27, 155, 0, 8, 27, 5, 164, 0, 9, 42, 4, 182, 0, 81, 172, 42, 180, 0, 7, 6, 46, 154, 0, 10]
abbrev dktX7_walks_0 : List UInt8 := dkwX7_walks_0 ++ dktX7_walks_1
theorem dksX7_walks_0 : cX7_walks.data.toList.drop 0 = dktX7_walks_0 := by decide +kernel
theorem dksX7_walks_1 : cX7_walks.data.toList.drop 24 = dktX7_walks_1 := dk_seg dksX7_walks_0 24 rfl rfl
theorem dksX7_walks_2 : cX7_walks.data.toList.drop 47 = dktX7_walks_2 := dk_seg dksX7_walks_1 23 rfl rfl
theorem dksX7_walks_3 : cX7_walks.data.toList.drop 70 = dktX7_walks_3 := dk_seg dksX7_walks_2 23 rfl rfl
theorem dksX7_walks_4 : cX7_walks.data.toList.drop 94 = dktX7_walks_4 := dk_seg dksX7_walks_3 24 rfl rfl
theorem dksX7_walks_5 : cX7_walks.data.toList.drop 117 = dktX7_walks_5 := dk_seg dksX7_walks_4 23 rfl rfl
theorem dksX7_walks_6 : cX7_walks.data.toList.drop 141 = dktX7_walks_6 := dk_seg dksX7_walks_5 24 rfl rfl
theorem dX7_walks_0 : decode cX7_walks 0 = .ok (.iload_n 1, 1) := dk_27 (dk_at dksX7_walks_0 0 rfl rfl)
theorem dX7_walks_1 : decode cX7_walks 1 = .ok (.ifCond .lt 8, 3) := dk_155 0 8 (dk_at dksX7_walks_0 1 rfl rfl)
theorem dX7_walks_4 : decode cX7_walks 4 = .ok (.iload_n 1, 1) := dk_27 (dk_at dksX7_walks_0 4 rfl rfl)
theorem dX7_walks_5 : decode cX7_walks 5 = .ok (.iconst 2, 1) := dk_5 (dk_at dksX7_walks_0 5 rfl rfl)
theorem dX7_walks_6 : decode cX7_walks 6 = .ok (.if_icmp .le 9, 3) := dk_164 0 9 (dk_at dksX7_walks_0 6 rfl rfl)
theorem dX7_walks_9 : decode cX7_walks 9 = .ok (.aload_n 0, 1) := dk_42 (dk_at dksX7_walks_0 9 rfl rfl)
theorem dX7_walks_10 : decode cX7_walks 10 = .ok (.iconst 1, 1) := dk_4 (dk_at dksX7_walks_0 10 rfl rfl)
theorem dX7_walks_11 : decode cX7_walks 11 = .ok (.invokevirtual 81, 3) := dk_182 0 81 (dk_at dksX7_walks_0 11 rfl rfl)
theorem dX7_walks_14 : decode cX7_walks 14 = .ok (.ireturn, 1) := dk_172 (dk_at dksX7_walks_0 14 rfl rfl)
theorem dX7_walks_15 : decode cX7_walks 15 = .ok (.aload_n 0, 1) := dk_42 (dk_at dksX7_walks_0 15 rfl rfl)
theorem dX7_walks_16 : decode cX7_walks 16 = .ok (.getfield 7, 3) := dk_180 0 7 (dk_at dksX7_walks_0 16 rfl rfl)
theorem dX7_walks_19 : decode cX7_walks 19 = .ok (.iconst 3, 1) := dk_6 (dk_at dksX7_walks_0 19 rfl rfl)
theorem dX7_walks_20 : decode cX7_walks 20 = .ok (.iaload, 1) := dk_46 (dk_at dksX7_walks_0 20 rfl rfl)
theorem dX7_walks_21 : decode cX7_walks 21 = .ok (.ifCond .ne 10, 3) := dk_154 0 10 (dk_at dksX7_walks_0 21 rfl rfl)
theorem dX7_walks_24 : decode cX7_walks 24 = .ok (.aload_n 0, 1) := dk_42 (dk_at dksX7_walks_1 0 rfl rfl)
theorem dX7_walks_25 : decode cX7_walks 25 = .ok (.bipush 6, 2) := dk_16 6 (dk_at dksX7_walks_1 1 rfl rfl)
theorem dX7_walks_27 : decode cX7_walks 27 = .ok (.invokevirtual 81, 3) := dk_182 0 81 (dk_at dksX7_walks_1 3 rfl rfl)
theorem dX7_walks_30 : decode cX7_walks 30 = .ok (.ireturn, 1) := dk_172 (dk_at dksX7_walks_1 6 rfl rfl)
theorem dX7_walks_31 : decode cX7_walks 31 = .ok (.aload_n 0, 1) := dk_42 (dk_at dksX7_walks_1 7 rfl rfl)
theorem dX7_walks_32 : decode cX7_walks 32 = .ok (.invokevirtual 271, 3) := dk_182 1 15 (dk_at dksX7_walks_1 8 rfl rfl)
theorem dX7_walks_35 : decode cX7_walks 35 = .ok (.aload_n 0, 1) := dk_42 (dk_at dksX7_walks_1 11 rfl rfl)
theorem dX7_walks_36 : decode cX7_walks 36 = .ok (.getfield 7, 3) := dk_180 0 7 (dk_at dksX7_walks_1 12 rfl rfl)
theorem dX7_walks_39 : decode cX7_walks 39 = .ok (.iconst 3, 1) := dk_6 (dk_at dksX7_walks_1 15 rfl rfl)
theorem dX7_walks_40 : decode cX7_walks 40 = .ok (.iaload, 1) := dk_46 (dk_at dksX7_walks_1 16 rfl rfl)
theorem dX7_walks_41 : decode cX7_walks 41 = .ok (.istore_n 2, 1) := dk_61 (dk_at dksX7_walks_1 17 rfl rfl)
theorem dX7_walks_42 : decode cX7_walks 42 = .ok (.iconst 1, 1) := dk_4 (dk_at dksX7_walks_1 18 rfl rfl)
theorem dX7_walks_43 : decode cX7_walks 43 = .ok (.istore_n 3, 1) := dk_62 (dk_at dksX7_walks_1 19 rfl rfl)
theorem dX7_walks_44 : decode cX7_walks 44 = .ok (.iload_n 3, 1) := dk_29 (dk_at dksX7_walks_1 20 rfl rfl)
theorem dX7_walks_45 : decode cX7_walks 45 = .ok (.bipush 60, 2) := dk_16 60 (dk_at dksX7_walks_1 21 rfl rfl)
theorem dX7_walks_47 : decode cX7_walks 47 = .ok (.if_icmp .gt 97, 3) := dk_163 0 97 (dk_at dksX7_walks_2 0 rfl rfl)
theorem dX7_walks_50 : decode cX7_walks 50 = .ok (.aload_n 0, 1) := dk_42 (dk_at dksX7_walks_2 3 rfl rfl)
theorem dX7_walks_51 : decode cX7_walks 51 = .ok (.iload_n 2, 1) := dk_28 (dk_at dksX7_walks_2 4 rfl rfl)
theorem dX7_walks_52 : decode cX7_walks 52 = .ok (.aload_n 0, 1) := dk_42 (dk_at dksX7_walks_2 5 rfl rfl)
theorem dX7_walks_53 : decode cX7_walks 53 = .ok (.getfield 7, 3) := dk_180 0 7 (dk_at dksX7_walks_2 6 rfl rfl)
theorem dX7_walks_56 : decode cX7_walks 56 = .ok (.bipush 10, 2) := dk_16 10 (dk_at dksX7_walks_2 9 rfl rfl)
theorem dX7_walks_58 : decode cX7_walks 58 = .ok (.iaload, 1) := dk_46 (dk_at dksX7_walks_2 11 rfl rfl)
theorem dX7_walks_59 : decode cX7_walks 59 = .ok (.invokevirtual 274, 3) := dk_182 1 18 (dk_at dksX7_walks_2 12 rfl rfl)
theorem dX7_walks_62 : decode cX7_walks 62 = .ok (.istore_n 2, 1) := dk_61 (dk_at dksX7_walks_2 15 rfl rfl)
theorem dX7_walks_63 : decode cX7_walks 63 = .ok (.bipush (-5), 2) := dk_16 251 (dk_at dksX7_walks_2 16 rfl rfl)
theorem dX7_walks_65 : decode cX7_walks 65 = .ok (.istore 4, 2) := dk_54 4 (dk_at dksX7_walks_2 18 rfl rfl)
theorem dX7_walks_67 : decode cX7_walks 67 = .ok (.iload 4, 2) := dk_21 4 (dk_at dksX7_walks_2 20 rfl rfl)
theorem dX7_walks_69 : decode cX7_walks 69 = .ok (.iconst 5, 1) := dk_8 (dk_at dksX7_walks_2 22 rfl rfl)
theorem dX7_walks_70 : decode cX7_walks 70 = .ok (.if_icmp .gt 68, 3) := dk_163 0 68 (dk_at dksX7_walks_3 0 rfl rfl)
theorem dX7_walks_73 : decode cX7_walks 73 = .ok (.bipush (-4), 2) := dk_16 252 (dk_at dksX7_walks_3 3 rfl rfl)
theorem dX7_walks_75 : decode cX7_walks 75 = .ok (.istore 5, 2) := dk_54 5 (dk_at dksX7_walks_3 5 rfl rfl)
theorem dX7_walks_77 : decode cX7_walks 77 = .ok (.iload 5, 2) := dk_21 5 (dk_at dksX7_walks_3 7 rfl rfl)
theorem dX7_walks_79 : decode cX7_walks 79 = .ok (.iconst 4, 1) := dk_7 (dk_at dksX7_walks_3 9 rfl rfl)
theorem dX7_walks_80 : decode cX7_walks 80 = .ok (.if_icmp .gt 52, 3) := dk_163 0 52 (dk_at dksX7_walks_3 10 rfl rfl)
theorem dX7_walks_83 : decode cX7_walks 83 = .ok (.aload_n 0, 1) := dk_42 (dk_at dksX7_walks_3 13 rfl rfl)
theorem dX7_walks_84 : decode cX7_walks 84 = .ok (.aload_n 0, 1) := dk_42 (dk_at dksX7_walks_3 14 rfl rfl)
theorem dX7_walks_85 : decode cX7_walks 85 = .ok (.getfield 7, 3) := dk_180 0 7 (dk_at dksX7_walks_3 15 rfl rfl)
theorem dX7_walks_88 : decode cX7_walks 88 = .ok (.iconst 3, 1) := dk_6 (dk_at dksX7_walks_3 18 rfl rfl)
theorem dX7_walks_89 : decode cX7_walks 89 = .ok (.iaload, 1) := dk_46 (dk_at dksX7_walks_3 19 rfl rfl)
theorem dX7_walks_90 : decode cX7_walks 90 = .ok (.iload 5, 2) := dk_21 5 (dk_at dksX7_walks_3 20 rfl rfl)
theorem dX7_walks_92 : decode cX7_walks 92 = .ok (.iload 4, 2) := dk_21 4 (dk_at dksX7_walks_3 22 rfl rfl)
theorem dX7_walks_94 : decode cX7_walks 94 = .ok (.invokevirtual 326, 3) := dk_182 1 70 (dk_at dksX7_walks_4 0 rfl rfl)
theorem dX7_walks_97 : decode cX7_walks 97 = .ok (.iload_n 2, 1) := dk_28 (dk_at dksX7_walks_4 3 rfl rfl)
theorem dX7_walks_98 : decode cX7_walks 98 = .ok (.if_icmp .ne 28, 3) := dk_160 0 28 (dk_at dksX7_walks_4 4 rfl rfl)
theorem dX7_walks_101 : decode cX7_walks 101 = .ok (.aload_n 0, 1) := dk_42 (dk_at dksX7_walks_4 7 rfl rfl)
theorem dX7_walks_102 : decode cX7_walks 102 = .ok (.iload_n 1, 1) := dk_27 (dk_at dksX7_walks_4 8 rfl rfl)
theorem dX7_walks_103 : decode cX7_walks 103 = .ok (.ifCond .ne 7, 3) := dk_154 0 7 (dk_at dksX7_walks_4 9 rfl rfl)
theorem dX7_walks_106 : decode cX7_walks 106 = .ok (.iload_n 3, 1) := dk_29 (dk_at dksX7_walks_4 12 rfl rfl)
theorem dX7_walks_107 : decode cX7_walks 107 = .ok (.goto 15, 3) := dk_167 0 15 (dk_at dksX7_walks_4 13 rfl rfl)
theorem dX7_walks_110 : decode cX7_walks 110 = .ok (.iload_n 1, 1) := dk_27 (dk_at dksX7_walks_4 16 rfl rfl)
theorem dX7_walks_111 : decode cX7_walks 111 = .ok (.iconst 1, 1) := dk_4 (dk_at dksX7_walks_4 17 rfl rfl)
theorem dX7_walks_112 : decode cX7_walks 112 = .ok (.if_icmp .ne 8, 3) := dk_160 0 8 (dk_at dksX7_walks_4 18 rfl rfl)
theorem dX7_walks_115 : decode cX7_walks 115 = .ok (.iload 5, 2) := dk_21 5 (dk_at dksX7_walks_4 21 rfl rfl)
theorem dX7_walks_117 : decode cX7_walks 117 = .ok (.goto 5, 3) := dk_167 0 5 (dk_at dksX7_walks_5 0 rfl rfl)
theorem dX7_walks_120 : decode cX7_walks 120 = .ok (.iload 4, 2) := dk_21 4 (dk_at dksX7_walks_5 3 rfl rfl)
theorem dX7_walks_122 : decode cX7_walks 122 = .ok (.invokevirtual 85, 3) := dk_182 0 85 (dk_at dksX7_walks_5 5 rfl rfl)
theorem dX7_walks_125 : decode cX7_walks 125 = .ok (.ireturn, 1) := dk_172 (dk_at dksX7_walks_5 8 rfl rfl)
theorem dX7_walks_126 : decode cX7_walks 126 = .ok (.iinc 5 1, 3) := dk_132 5 1 (dk_at dksX7_walks_5 9 rfl rfl)
theorem dX7_walks_129 : decode cX7_walks 129 = .ok (.goto (-52), 3) := dk_167 255 204 (dk_at dksX7_walks_5 12 rfl rfl)
theorem dX7_walks_132 : decode cX7_walks 132 = .ok (.iinc 4 1, 3) := dk_132 4 1 (dk_at dksX7_walks_5 15 rfl rfl)
theorem dX7_walks_135 : decode cX7_walks 135 = .ok (.goto (-68), 3) := dk_167 255 188 (dk_at dksX7_walks_5 18 rfl rfl)
theorem dX7_walks_138 : decode cX7_walks 138 = .ok (.iinc 3 1, 3) := dk_132 3 1 (dk_at dksX7_walks_5 21 rfl rfl)
theorem dX7_walks_141 : decode cX7_walks 141 = .ok (.goto (-97), 3) := dk_167 255 159 (dk_at dksX7_walks_6 0 rfl rfl)
theorem dX7_walks_144 : decode cX7_walks 144 = .ok (.aload_n 0, 1) := dk_42 (dk_at dksX7_walks_6 3 rfl rfl)
theorem dX7_walks_145 : decode cX7_walks 145 = .ok (.bipush 6, 2) := dk_16 6 (dk_at dksX7_walks_6 4 rfl rfl)
theorem dX7_walks_147 : decode cX7_walks 147 = .ok (.invokevirtual 81, 3) := dk_182 0 81 (dk_at dksX7_walks_6 6 rfl rfl)
theorem dX7_walks_150 : decode cX7_walks 150 = .ok (.ireturn, 1) := dk_172 (dk_at dksX7_walks_6 9 rfl rfl)
abbrev cX7_moved : ByteArray := prog_16_method_87_code
def yX7_moved : MethodName := ⟨RX7, "moved", "(III)I"⟩
def dkwX7_moved_3 : List UInt8 := [21, 7, 182, 1, 0, 128, 54, 4, 132, 5, 1, 167, 255, 180, 21, 4, 172]
abbrev dktX7_moved_3 : List UInt8 := dkwX7_moved_3 ++ []
def dkwX7_moved_2 : List UInt8 := [108, 29, 96, 54, 7, 42, 21, 6, 21, 7, 182, 0, 253, 154, 0, 5, 2, 172, 21, 4, 42, 21, 6]
abbrev dktX7_moved_2 : List UInt8 := dkwX7_moved_2 ++ dktX7_moved_3
def dkwX7_moved_1 : List UInt8 := [167, 0, 55, 21, 5, 42, 180, 0, 7, 3, 46, 112, 28, 96, 54, 6, 21, 5, 42, 180, 0, 7, 3, 46]
abbrev dktX7_moved_1 : List UInt8 := dkwX7_moved_1 ++ dktX7_moved_2
def dkwX7_moved_0 : List UInt8 := [3, 54, 4, 3, 54, 5, 21, 5, 42, 182, 1, 6, 162, 0, 73, 27, 21, 5, 122, 4, 126, 154, 0, 6]
abbrev dktX7_moved_0 : List UInt8 := dkwX7_moved_0 ++ dktX7_moved_1
theorem dksX7_moved_0 : cX7_moved.data.toList.drop 0 = dktX7_moved_0 := by decide +kernel
theorem dksX7_moved_1 : cX7_moved.data.toList.drop 24 = dktX7_moved_1 := dk_seg dksX7_moved_0 24 rfl rfl
theorem dksX7_moved_2 : cX7_moved.data.toList.drop 48 = dktX7_moved_2 := dk_seg dksX7_moved_1 24 rfl rfl
theorem dksX7_moved_3 : cX7_moved.data.toList.drop 71 = dktX7_moved_3 := dk_seg dksX7_moved_2 23 rfl rfl
theorem dX7_moved_0 : decode cX7_moved 0 = .ok (.iconst 0, 1) := dk_3 (dk_at dksX7_moved_0 0 rfl rfl)
theorem dX7_moved_1 : decode cX7_moved 1 = .ok (.istore 4, 2) := dk_54 4 (dk_at dksX7_moved_0 1 rfl rfl)
theorem dX7_moved_3 : decode cX7_moved 3 = .ok (.iconst 0, 1) := dk_3 (dk_at dksX7_moved_0 3 rfl rfl)
theorem dX7_moved_4 : decode cX7_moved 4 = .ok (.istore 5, 2) := dk_54 5 (dk_at dksX7_moved_0 4 rfl rfl)
theorem dX7_moved_6 : decode cX7_moved 6 = .ok (.iload 5, 2) := dk_21 5 (dk_at dksX7_moved_0 6 rfl rfl)
theorem dX7_moved_8 : decode cX7_moved 8 = .ok (.aload_n 0, 1) := dk_42 (dk_at dksX7_moved_0 8 rfl rfl)
theorem dX7_moved_9 : decode cX7_moved 9 = .ok (.invokevirtual 262, 3) := dk_182 1 6 (dk_at dksX7_moved_0 9 rfl rfl)
theorem dX7_moved_12 : decode cX7_moved 12 = .ok (.if_icmp .ge 73, 3) := dk_162 0 73 (dk_at dksX7_moved_0 12 rfl rfl)
theorem dX7_moved_15 : decode cX7_moved 15 = .ok (.iload_n 1, 1) := dk_27 (dk_at dksX7_moved_0 15 rfl rfl)
theorem dX7_moved_16 : decode cX7_moved 16 = .ok (.iload 5, 2) := dk_21 5 (dk_at dksX7_moved_0 16 rfl rfl)
theorem dX7_moved_18 : decode cX7_moved 18 = .ok (.ishr, 1) := dk_122 (dk_at dksX7_moved_0 18 rfl rfl)
theorem dX7_moved_19 : decode cX7_moved 19 = .ok (.iconst 1, 1) := dk_4 (dk_at dksX7_moved_0 19 rfl rfl)
theorem dX7_moved_20 : decode cX7_moved 20 = .ok (.iand, 1) := dk_126 (dk_at dksX7_moved_0 20 rfl rfl)
theorem dX7_moved_21 : decode cX7_moved 21 = .ok (.ifCond .ne 6, 3) := dk_154 0 6 (dk_at dksX7_moved_0 21 rfl rfl)
theorem dX7_moved_24 : decode cX7_moved 24 = .ok (.goto 55, 3) := dk_167 0 55 (dk_at dksX7_moved_1 0 rfl rfl)
theorem dX7_moved_27 : decode cX7_moved 27 = .ok (.iload 5, 2) := dk_21 5 (dk_at dksX7_moved_1 3 rfl rfl)
theorem dX7_moved_29 : decode cX7_moved 29 = .ok (.aload_n 0, 1) := dk_42 (dk_at dksX7_moved_1 5 rfl rfl)
theorem dX7_moved_30 : decode cX7_moved 30 = .ok (.getfield 7, 3) := dk_180 0 7 (dk_at dksX7_moved_1 6 rfl rfl)
theorem dX7_moved_33 : decode cX7_moved 33 = .ok (.iconst 0, 1) := dk_3 (dk_at dksX7_moved_1 9 rfl rfl)
theorem dX7_moved_34 : decode cX7_moved 34 = .ok (.iaload, 1) := dk_46 (dk_at dksX7_moved_1 10 rfl rfl)
theorem dX7_moved_35 : decode cX7_moved 35 = .ok (.irem, 1) := dk_112 (dk_at dksX7_moved_1 11 rfl rfl)
theorem dX7_moved_36 : decode cX7_moved 36 = .ok (.iload_n 2, 1) := dk_28 (dk_at dksX7_moved_1 12 rfl rfl)
theorem dX7_moved_37 : decode cX7_moved 37 = .ok (.iadd, 1) := dk_96 (dk_at dksX7_moved_1 13 rfl rfl)
theorem dX7_moved_38 : decode cX7_moved 38 = .ok (.istore 6, 2) := dk_54 6 (dk_at dksX7_moved_1 14 rfl rfl)
theorem dX7_moved_40 : decode cX7_moved 40 = .ok (.iload 5, 2) := dk_21 5 (dk_at dksX7_moved_1 16 rfl rfl)
theorem dX7_moved_42 : decode cX7_moved 42 = .ok (.aload_n 0, 1) := dk_42 (dk_at dksX7_moved_1 18 rfl rfl)
theorem dX7_moved_43 : decode cX7_moved 43 = .ok (.getfield 7, 3) := dk_180 0 7 (dk_at dksX7_moved_1 19 rfl rfl)
theorem dX7_moved_46 : decode cX7_moved 46 = .ok (.iconst 0, 1) := dk_3 (dk_at dksX7_moved_1 22 rfl rfl)
theorem dX7_moved_47 : decode cX7_moved 47 = .ok (.iaload, 1) := dk_46 (dk_at dksX7_moved_1 23 rfl rfl)
theorem dX7_moved_48 : decode cX7_moved 48 = .ok (.idiv, 1) := dk_108 (dk_at dksX7_moved_2 0 rfl rfl)
theorem dX7_moved_49 : decode cX7_moved 49 = .ok (.iload_n 3, 1) := dk_29 (dk_at dksX7_moved_2 1 rfl rfl)
theorem dX7_moved_50 : decode cX7_moved 50 = .ok (.iadd, 1) := dk_96 (dk_at dksX7_moved_2 2 rfl rfl)
theorem dX7_moved_51 : decode cX7_moved 51 = .ok (.istore 7, 2) := dk_54 7 (dk_at dksX7_moved_2 3 rfl rfl)
theorem dX7_moved_53 : decode cX7_moved 53 = .ok (.aload_n 0, 1) := dk_42 (dk_at dksX7_moved_2 5 rfl rfl)
theorem dX7_moved_54 : decode cX7_moved 54 = .ok (.iload 6, 2) := dk_21 6 (dk_at dksX7_moved_2 6 rfl rfl)
theorem dX7_moved_56 : decode cX7_moved 56 = .ok (.iload 7, 2) := dk_21 7 (dk_at dksX7_moved_2 8 rfl rfl)
theorem dX7_moved_58 : decode cX7_moved 58 = .ok (.invokevirtual 253, 3) := dk_182 0 253 (dk_at dksX7_moved_2 10 rfl rfl)
theorem dX7_moved_61 : decode cX7_moved 61 = .ok (.ifCond .ne 5, 3) := dk_154 0 5 (dk_at dksX7_moved_2 13 rfl rfl)
theorem dX7_moved_64 : decode cX7_moved 64 = .ok (.iconst (-1), 1) := dk_2 (dk_at dksX7_moved_2 16 rfl rfl)
theorem dX7_moved_65 : decode cX7_moved 65 = .ok (.ireturn, 1) := dk_172 (dk_at dksX7_moved_2 17 rfl rfl)
theorem dX7_moved_66 : decode cX7_moved 66 = .ok (.iload 4, 2) := dk_21 4 (dk_at dksX7_moved_2 18 rfl rfl)
theorem dX7_moved_68 : decode cX7_moved 68 = .ok (.aload_n 0, 1) := dk_42 (dk_at dksX7_moved_2 20 rfl rfl)
theorem dX7_moved_69 : decode cX7_moved 69 = .ok (.iload 6, 2) := dk_21 6 (dk_at dksX7_moved_2 21 rfl rfl)
theorem dX7_moved_71 : decode cX7_moved 71 = .ok (.iload 7, 2) := dk_21 7 (dk_at dksX7_moved_3 0 rfl rfl)
theorem dX7_moved_73 : decode cX7_moved 73 = .ok (.invokevirtual 256, 3) := dk_182 1 0 (dk_at dksX7_moved_3 2 rfl rfl)
theorem dX7_moved_76 : decode cX7_moved 76 = .ok (.ior, 1) := dk_128 (dk_at dksX7_moved_3 5 rfl rfl)
theorem dX7_moved_77 : decode cX7_moved 77 = .ok (.istore 4, 2) := dk_54 4 (dk_at dksX7_moved_3 6 rfl rfl)
theorem dX7_moved_79 : decode cX7_moved 79 = .ok (.iinc 5 1, 3) := dk_132 5 1 (dk_at dksX7_moved_3 8 rfl rfl)
theorem dX7_moved_82 : decode cX7_moved 82 = .ok (.goto (-76), 3) := dk_167 255 180 (dk_at dksX7_moved_3 11 rfl rfl)
theorem dX7_moved_85 : decode cX7_moved 85 = .ok (.iload 4, 2) := dk_21 4 (dk_at dksX7_moved_3 14 rfl rfl)
theorem dX7_moved_87 : decode cX7_moved 87 = .ok (.ireturn, 1) := dk_172 (dk_at dksX7_moved_3 16 rfl rfl)
abbrev cX7_still : ByteArray := prog_16_method_90_code
def yX7_still : MethodName := ⟨RX7, "still", "()I"⟩
def dkwX7_still_0 : List UInt8 := [42, 42, 182, 1, 74, 153, 0, 7, 4, 167, 0, 4, 3, 182, 0, 85, 172]
abbrev dktX7_still_0 : List UInt8 := dkwX7_still_0 ++ []
theorem dksX7_still_0 : cX7_still.data.toList.drop 0 = dktX7_still_0 := by decide +kernel
theorem dX7_still_0 : decode cX7_still 0 = .ok (.aload_n 0, 1) := dk_42 (dk_at dksX7_still_0 0 rfl rfl)
theorem dX7_still_1 : decode cX7_still 1 = .ok (.aload_n 0, 1) := dk_42 (dk_at dksX7_still_0 1 rfl rfl)
theorem dX7_still_2 : decode cX7_still 2 = .ok (.invokevirtual 330, 3) := dk_182 1 74 (dk_at dksX7_still_0 2 rfl rfl)
theorem dX7_still_5 : decode cX7_still 5 = .ok (.ifCond .eq 7, 3) := dk_153 0 7 (dk_at dksX7_still_0 5 rfl rfl)
theorem dX7_still_8 : decode cX7_still 8 = .ok (.iconst 1, 1) := dk_4 (dk_at dksX7_still_0 8 rfl rfl)
theorem dX7_still_9 : decode cX7_still 9 = .ok (.goto 4, 3) := dk_167 0 4 (dk_at dksX7_still_0 9 rfl rfl)
theorem dX7_still_12 : decode cX7_still 12 = .ok (.iconst 0, 1) := dk_3 (dk_at dksX7_still_0 12 rfl rfl)
theorem dX7_still_13 : decode cX7_still 13 = .ok (.invokevirtual 85, 3) := dk_182 0 85 (dk_at dksX7_still_0 13 rfl rfl)
theorem dX7_still_16 : decode cX7_still 16 = .ok (.ireturn, 1) := dk_172 (dk_at dksX7_still_0 16 rfl rfl)
abbrev cX7_isStill : ByteArray := prog_16_method_89_code
def yX7_isStill : MethodName := ⟨RX7, "isStill", "()Z"⟩
def dkwX7_isStill_1 : List UInt8 := [3, 172]
abbrev dktX7_isStill_1 : List UInt8 := dkwX7_isStill_1 ++ []
def dkwX7_isStill_0 : List UInt8 := [42, 42, 180, 0, 7, 6, 46, 4, 182, 1, 56, 42, 180, 0, 7, 6, 46, 160, 0, 7, 4, 167, 0, 4]
abbrev dktX7_isStill_0 : List UInt8 := dkwX7_isStill_0 ++ dktX7_isStill_1
theorem dksX7_isStill_0 : cX7_isStill.data.toList.drop 0 = dktX7_isStill_0 := by decide +kernel
theorem dksX7_isStill_1 : cX7_isStill.data.toList.drop 24 = dktX7_isStill_1 := dk_seg dksX7_isStill_0 24 rfl rfl
theorem dX7_isStill_0 : decode cX7_isStill 0 = .ok (.aload_n 0, 1) := dk_42 (dk_at dksX7_isStill_0 0 rfl rfl)
theorem dX7_isStill_1 : decode cX7_isStill 1 = .ok (.aload_n 0, 1) := dk_42 (dk_at dksX7_isStill_0 1 rfl rfl)
theorem dX7_isStill_2 : decode cX7_isStill 2 = .ok (.getfield 7, 3) := dk_180 0 7 (dk_at dksX7_isStill_0 2 rfl rfl)
theorem dX7_isStill_5 : decode cX7_isStill 5 = .ok (.iconst 3, 1) := dk_6 (dk_at dksX7_isStill_0 5 rfl rfl)
theorem dX7_isStill_6 : decode cX7_isStill 6 = .ok (.iaload, 1) := dk_46 (dk_at dksX7_isStill_0 6 rfl rfl)
theorem dX7_isStill_7 : decode cX7_isStill 7 = .ok (.iconst 1, 1) := dk_4 (dk_at dksX7_isStill_0 7 rfl rfl)
theorem dX7_isStill_8 : decode cX7_isStill 8 = .ok (.invokevirtual 312, 3) := dk_182 1 56 (dk_at dksX7_isStill_0 8 rfl rfl)
theorem dX7_isStill_11 : decode cX7_isStill 11 = .ok (.aload_n 0, 1) := dk_42 (dk_at dksX7_isStill_0 11 rfl rfl)
theorem dX7_isStill_12 : decode cX7_isStill 12 = .ok (.getfield 7, 3) := dk_180 0 7 (dk_at dksX7_isStill_0 12 rfl rfl)
theorem dX7_isStill_15 : decode cX7_isStill 15 = .ok (.iconst 3, 1) := dk_6 (dk_at dksX7_isStill_0 15 rfl rfl)
theorem dX7_isStill_16 : decode cX7_isStill 16 = .ok (.iaload, 1) := dk_46 (dk_at dksX7_isStill_0 16 rfl rfl)
theorem dX7_isStill_17 : decode cX7_isStill 17 = .ok (.if_icmp .ne 7, 3) := dk_160 0 7 (dk_at dksX7_isStill_0 17 rfl rfl)
theorem dX7_isStill_20 : decode cX7_isStill 20 = .ok (.iconst 1, 1) := dk_4 (dk_at dksX7_isStill_0 20 rfl rfl)
theorem dX7_isStill_21 : decode cX7_isStill 21 = .ok (.goto 4, 3) := dk_167 0 4 (dk_at dksX7_isStill_0 21 rfl rfl)
theorem dX7_isStill_24 : decode cX7_isStill 24 = .ok (.iconst 0, 1) := dk_3 (dk_at dksX7_isStill_1 0 rfl rfl)
theorem dX7_isStill_25 : decode cX7_isStill 25 = .ok (.ireturn, 1) := dk_172 (dk_at dksX7_isStill_1 1 rfl rfl)
abbrev cX7_next : ByteArray := prog_16_method_91_code
def yX7_next : MethodName := ⟨RX7, "next", "(I)I"⟩
def dkwX7_next_3 : List UInt8 := [184, 0, 226, 182, 0, 85, 172]
abbrev dktX7_next_3 : List UInt8 := dkwX7_next_3 ++ []
def dkwX7_next_2 : List UInt8 := [160, 0, 16, 42, 180, 0, 7, 6, 46, 28, 2, 130, 126, 167, 0, 11, 42, 180, 0, 7, 6, 46, 28, 126]
abbrev dktX7_next_2 : List UInt8 := dkwX7_next_2 ++ dktX7_next_3
def dkwX7_next_1 : List UInt8 := [182, 1, 56, 61, 42, 27, 154, 0, 16, 28, 42, 180, 0, 7, 6, 46, 2, 130, 126, 167, 0, 29, 27, 4]
abbrev dktX7_next_1 : List UInt8 := dkwX7_next_1 ++ dktX7_next_2
def dkwX7_next_0 : List UInt8 := [27, 155, 0, 8, 27, 5, 164, 0, 9, 42, 4, 182, 0, 81, 172, 42, 42, 180, 0, 7, 6, 46, 4]
abbrev dktX7_next_0 : List UInt8 := dkwX7_next_0 ++ dktX7_next_1
theorem dksX7_next_0 : cX7_next.data.toList.drop 0 = dktX7_next_0 := by decide +kernel
theorem dksX7_next_1 : cX7_next.data.toList.drop 23 = dktX7_next_1 := dk_seg dksX7_next_0 23 rfl rfl
theorem dksX7_next_2 : cX7_next.data.toList.drop 47 = dktX7_next_2 := dk_seg dksX7_next_1 24 rfl rfl
theorem dksX7_next_3 : cX7_next.data.toList.drop 71 = dktX7_next_3 := dk_seg dksX7_next_2 24 rfl rfl
theorem dX7_next_0 : decode cX7_next 0 = .ok (.iload_n 1, 1) := dk_27 (dk_at dksX7_next_0 0 rfl rfl)
theorem dX7_next_1 : decode cX7_next 1 = .ok (.ifCond .lt 8, 3) := dk_155 0 8 (dk_at dksX7_next_0 1 rfl rfl)
theorem dX7_next_4 : decode cX7_next 4 = .ok (.iload_n 1, 1) := dk_27 (dk_at dksX7_next_0 4 rfl rfl)
theorem dX7_next_5 : decode cX7_next 5 = .ok (.iconst 2, 1) := dk_5 (dk_at dksX7_next_0 5 rfl rfl)
theorem dX7_next_6 : decode cX7_next 6 = .ok (.if_icmp .le 9, 3) := dk_164 0 9 (dk_at dksX7_next_0 6 rfl rfl)
theorem dX7_next_9 : decode cX7_next 9 = .ok (.aload_n 0, 1) := dk_42 (dk_at dksX7_next_0 9 rfl rfl)
theorem dX7_next_10 : decode cX7_next 10 = .ok (.iconst 1, 1) := dk_4 (dk_at dksX7_next_0 10 rfl rfl)
theorem dX7_next_11 : decode cX7_next 11 = .ok (.invokevirtual 81, 3) := dk_182 0 81 (dk_at dksX7_next_0 11 rfl rfl)
theorem dX7_next_14 : decode cX7_next 14 = .ok (.ireturn, 1) := dk_172 (dk_at dksX7_next_0 14 rfl rfl)
theorem dX7_next_15 : decode cX7_next 15 = .ok (.aload_n 0, 1) := dk_42 (dk_at dksX7_next_0 15 rfl rfl)
theorem dX7_next_16 : decode cX7_next 16 = .ok (.aload_n 0, 1) := dk_42 (dk_at dksX7_next_0 16 rfl rfl)
theorem dX7_next_17 : decode cX7_next 17 = .ok (.getfield 7, 3) := dk_180 0 7 (dk_at dksX7_next_0 17 rfl rfl)
theorem dX7_next_20 : decode cX7_next 20 = .ok (.iconst 3, 1) := dk_6 (dk_at dksX7_next_0 20 rfl rfl)
theorem dX7_next_21 : decode cX7_next 21 = .ok (.iaload, 1) := dk_46 (dk_at dksX7_next_0 21 rfl rfl)
theorem dX7_next_22 : decode cX7_next 22 = .ok (.iconst 1, 1) := dk_4 (dk_at dksX7_next_0 22 rfl rfl)
theorem dX7_next_23 : decode cX7_next 23 = .ok (.invokevirtual 312, 3) := dk_182 1 56 (dk_at dksX7_next_1 0 rfl rfl)
theorem dX7_next_26 : decode cX7_next 26 = .ok (.istore_n 2, 1) := dk_61 (dk_at dksX7_next_1 3 rfl rfl)
theorem dX7_next_27 : decode cX7_next 27 = .ok (.aload_n 0, 1) := dk_42 (dk_at dksX7_next_1 4 rfl rfl)
theorem dX7_next_28 : decode cX7_next 28 = .ok (.iload_n 1, 1) := dk_27 (dk_at dksX7_next_1 5 rfl rfl)
theorem dX7_next_29 : decode cX7_next 29 = .ok (.ifCond .ne 16, 3) := dk_154 0 16 (dk_at dksX7_next_1 6 rfl rfl)
theorem dX7_next_32 : decode cX7_next 32 = .ok (.iload_n 2, 1) := dk_28 (dk_at dksX7_next_1 9 rfl rfl)
theorem dX7_next_33 : decode cX7_next 33 = .ok (.aload_n 0, 1) := dk_42 (dk_at dksX7_next_1 10 rfl rfl)
theorem dX7_next_34 : decode cX7_next 34 = .ok (.getfield 7, 3) := dk_180 0 7 (dk_at dksX7_next_1 11 rfl rfl)
theorem dX7_next_37 : decode cX7_next 37 = .ok (.iconst 3, 1) := dk_6 (dk_at dksX7_next_1 14 rfl rfl)
theorem dX7_next_38 : decode cX7_next 38 = .ok (.iaload, 1) := dk_46 (dk_at dksX7_next_1 15 rfl rfl)
theorem dX7_next_39 : decode cX7_next 39 = .ok (.iconst (-1), 1) := dk_2 (dk_at dksX7_next_1 16 rfl rfl)
theorem dX7_next_40 : decode cX7_next 40 = .ok (.ixor, 1) := dk_130 (dk_at dksX7_next_1 17 rfl rfl)
theorem dX7_next_41 : decode cX7_next 41 = .ok (.iand, 1) := dk_126 (dk_at dksX7_next_1 18 rfl rfl)
theorem dX7_next_42 : decode cX7_next 42 = .ok (.goto 29, 3) := dk_167 0 29 (dk_at dksX7_next_1 19 rfl rfl)
theorem dX7_next_45 : decode cX7_next 45 = .ok (.iload_n 1, 1) := dk_27 (dk_at dksX7_next_1 22 rfl rfl)
theorem dX7_next_46 : decode cX7_next 46 = .ok (.iconst 1, 1) := dk_4 (dk_at dksX7_next_1 23 rfl rfl)
theorem dX7_next_47 : decode cX7_next 47 = .ok (.if_icmp .ne 16, 3) := dk_160 0 16 (dk_at dksX7_next_2 0 rfl rfl)
theorem dX7_next_50 : decode cX7_next 50 = .ok (.aload_n 0, 1) := dk_42 (dk_at dksX7_next_2 3 rfl rfl)
theorem dX7_next_51 : decode cX7_next 51 = .ok (.getfield 7, 3) := dk_180 0 7 (dk_at dksX7_next_2 4 rfl rfl)
theorem dX7_next_54 : decode cX7_next 54 = .ok (.iconst 3, 1) := dk_6 (dk_at dksX7_next_2 7 rfl rfl)
theorem dX7_next_55 : decode cX7_next 55 = .ok (.iaload, 1) := dk_46 (dk_at dksX7_next_2 8 rfl rfl)
theorem dX7_next_56 : decode cX7_next 56 = .ok (.iload_n 2, 1) := dk_28 (dk_at dksX7_next_2 9 rfl rfl)
theorem dX7_next_57 : decode cX7_next 57 = .ok (.iconst (-1), 1) := dk_2 (dk_at dksX7_next_2 10 rfl rfl)
theorem dX7_next_58 : decode cX7_next 58 = .ok (.ixor, 1) := dk_130 (dk_at dksX7_next_2 11 rfl rfl)
theorem dX7_next_59 : decode cX7_next 59 = .ok (.iand, 1) := dk_126 (dk_at dksX7_next_2 12 rfl rfl)
theorem dX7_next_60 : decode cX7_next 60 = .ok (.goto 11, 3) := dk_167 0 11 (dk_at dksX7_next_2 13 rfl rfl)
theorem dX7_next_63 : decode cX7_next 63 = .ok (.aload_n 0, 1) := dk_42 (dk_at dksX7_next_2 16 rfl rfl)
theorem dX7_next_64 : decode cX7_next 64 = .ok (.getfield 7, 3) := dk_180 0 7 (dk_at dksX7_next_2 17 rfl rfl)
theorem dX7_next_67 : decode cX7_next 67 = .ok (.iconst 3, 1) := dk_6 (dk_at dksX7_next_2 20 rfl rfl)
theorem dX7_next_68 : decode cX7_next 68 = .ok (.iaload, 1) := dk_46 (dk_at dksX7_next_2 21 rfl rfl)
theorem dX7_next_69 : decode cX7_next 69 = .ok (.iload_n 2, 1) := dk_28 (dk_at dksX7_next_2 22 rfl rfl)
theorem dX7_next_70 : decode cX7_next 70 = .ok (.iand, 1) := dk_126 (dk_at dksX7_next_2 23 rfl rfl)
theorem dX7_next_71 : decode cX7_next 71 = .ok (.invokestatic 226, 3) := dk_184 0 226 (dk_at dksX7_next_3 0 rfl rfl)
theorem dX7_next_74 : decode cX7_next 74 = .ok (.invokevirtual 85, 3) := dk_182 0 85 (dk_at dksX7_next_3 3 rfl rfl)
theorem dX7_next_77 : decode cX7_next 77 = .ok (.ireturn, 1) := dk_172 (dk_at dksX7_next_3 6 rfl rfl)
abbrev cX7_oil : ByteArray := prog_16_method_92_code
def yX7_oil : MethodName := ⟨RX7, "oil", "(I)I"⟩
def dkwX7_oil_3 : List UInt8 := [132, 4, 1, 167, 255, 217, 42, 21, 4, 182, 0, 85, 172]
abbrev dktX7_oil_3 : List UInt8 := dkwX7_oil_3 ++ []
def dkwX7_oil_2 : List UInt8 := [163, 0, 29, 29, 28, 184, 0, 226, 100, 62, 42, 28, 42, 180, 0, 7, 16, 10, 46, 182, 1, 18, 61]
abbrev dktX7_oil_2 : List UInt8 := dkwX7_oil_2 ++ dktX7_oil_3
def dkwX7_oil_1 : List UInt8 := [180, 0, 7, 6, 46, 61, 27, 62, 3, 54, 4, 21, 4, 17, 3, 231, 162, 0, 37, 28, 184, 0, 226, 29]
abbrev dktX7_oil_1 : List UInt8 := dkwX7_oil_1 ++ dktX7_oil_2
def dkwX7_oil_0 : List UInt8 := [27, 133, 9, 20, 1, 77, 184, 1, 39, 154, 0, 9, 42, 4, 182, 0, 81, 172, 42, 182, 1, 15, 42]
abbrev dktX7_oil_0 : List UInt8 := dkwX7_oil_0 ++ dktX7_oil_1
theorem dksX7_oil_0 : cX7_oil.data.toList.drop 0 = dktX7_oil_0 := by decide +kernel
theorem dksX7_oil_1 : cX7_oil.data.toList.drop 23 = dktX7_oil_1 := dk_seg dksX7_oil_0 23 rfl rfl
theorem dksX7_oil_2 : cX7_oil.data.toList.drop 47 = dktX7_oil_2 := dk_seg dksX7_oil_1 24 rfl rfl
theorem dksX7_oil_3 : cX7_oil.data.toList.drop 70 = dktX7_oil_3 := dk_seg dksX7_oil_2 23 rfl rfl
theorem dX7_oil_0 : decode cX7_oil 0 = .ok (.iload_n 1, 1) := dk_27 (dk_at dksX7_oil_0 0 rfl rfl)
theorem dX7_oil_1 : decode cX7_oil 1 = .ok (.i2l, 1) := dk_133 (dk_at dksX7_oil_0 1 rfl rfl)
theorem dX7_oil_2 : decode cX7_oil 2 = .ok (.lconst 0, 1) := dk_9 (dk_at dksX7_oil_0 2 rfl rfl)
theorem dX7_oil_3 : decode cX7_oil 3 = .ok (.ldc2_w 333, 3) := dk_20 1 77 (dk_at dksX7_oil_0 3 rfl rfl)
theorem dX7_oil_6 : decode cX7_oil 6 = .ok (.invokestatic 295, 3) := dk_184 1 39 (dk_at dksX7_oil_0 6 rfl rfl)
theorem dX7_oil_9 : decode cX7_oil 9 = .ok (.ifCond .ne 9, 3) := dk_154 0 9 (dk_at dksX7_oil_0 9 rfl rfl)
theorem dX7_oil_12 : decode cX7_oil 12 = .ok (.aload_n 0, 1) := dk_42 (dk_at dksX7_oil_0 12 rfl rfl)
theorem dX7_oil_13 : decode cX7_oil 13 = .ok (.iconst 1, 1) := dk_4 (dk_at dksX7_oil_0 13 rfl rfl)
theorem dX7_oil_14 : decode cX7_oil 14 = .ok (.invokevirtual 81, 3) := dk_182 0 81 (dk_at dksX7_oil_0 14 rfl rfl)
theorem dX7_oil_17 : decode cX7_oil 17 = .ok (.ireturn, 1) := dk_172 (dk_at dksX7_oil_0 17 rfl rfl)
theorem dX7_oil_18 : decode cX7_oil 18 = .ok (.aload_n 0, 1) := dk_42 (dk_at dksX7_oil_0 18 rfl rfl)
theorem dX7_oil_19 : decode cX7_oil 19 = .ok (.invokevirtual 271, 3) := dk_182 1 15 (dk_at dksX7_oil_0 19 rfl rfl)
theorem dX7_oil_22 : decode cX7_oil 22 = .ok (.aload_n 0, 1) := dk_42 (dk_at dksX7_oil_0 22 rfl rfl)
theorem dX7_oil_23 : decode cX7_oil 23 = .ok (.getfield 7, 3) := dk_180 0 7 (dk_at dksX7_oil_1 0 rfl rfl)
theorem dX7_oil_26 : decode cX7_oil 26 = .ok (.iconst 3, 1) := dk_6 (dk_at dksX7_oil_1 3 rfl rfl)
theorem dX7_oil_27 : decode cX7_oil 27 = .ok (.iaload, 1) := dk_46 (dk_at dksX7_oil_1 4 rfl rfl)
theorem dX7_oil_28 : decode cX7_oil 28 = .ok (.istore_n 2, 1) := dk_61 (dk_at dksX7_oil_1 5 rfl rfl)
theorem dX7_oil_29 : decode cX7_oil 29 = .ok (.iload_n 1, 1) := dk_27 (dk_at dksX7_oil_1 6 rfl rfl)
theorem dX7_oil_30 : decode cX7_oil 30 = .ok (.istore_n 3, 1) := dk_62 (dk_at dksX7_oil_1 7 rfl rfl)
theorem dX7_oil_31 : decode cX7_oil 31 = .ok (.iconst 0, 1) := dk_3 (dk_at dksX7_oil_1 8 rfl rfl)
theorem dX7_oil_32 : decode cX7_oil 32 = .ok (.istore 4, 2) := dk_54 4 (dk_at dksX7_oil_1 9 rfl rfl)
theorem dX7_oil_34 : decode cX7_oil 34 = .ok (.iload 4, 2) := dk_21 4 (dk_at dksX7_oil_1 11 rfl rfl)
theorem dX7_oil_36 : decode cX7_oil 36 = .ok (.sipush 999, 3) := dk_17 3 231 (dk_at dksX7_oil_1 13 rfl rfl)
theorem dX7_oil_39 : decode cX7_oil 39 = .ok (.if_icmp .ge 37, 3) := dk_162 0 37 (dk_at dksX7_oil_1 16 rfl rfl)
theorem dX7_oil_42 : decode cX7_oil 42 = .ok (.iload_n 2, 1) := dk_28 (dk_at dksX7_oil_1 19 rfl rfl)
theorem dX7_oil_43 : decode cX7_oil 43 = .ok (.invokestatic 226, 3) := dk_184 0 226 (dk_at dksX7_oil_1 20 rfl rfl)
theorem dX7_oil_46 : decode cX7_oil 46 = .ok (.iload_n 3, 1) := dk_29 (dk_at dksX7_oil_1 23 rfl rfl)
theorem dX7_oil_47 : decode cX7_oil 47 = .ok (.if_icmp .gt 29, 3) := dk_163 0 29 (dk_at dksX7_oil_2 0 rfl rfl)
theorem dX7_oil_50 : decode cX7_oil 50 = .ok (.iload_n 3, 1) := dk_29 (dk_at dksX7_oil_2 3 rfl rfl)
theorem dX7_oil_51 : decode cX7_oil 51 = .ok (.iload_n 2, 1) := dk_28 (dk_at dksX7_oil_2 4 rfl rfl)
theorem dX7_oil_52 : decode cX7_oil 52 = .ok (.invokestatic 226, 3) := dk_184 0 226 (dk_at dksX7_oil_2 5 rfl rfl)
theorem dX7_oil_55 : decode cX7_oil 55 = .ok (.isub, 1) := dk_100 (dk_at dksX7_oil_2 8 rfl rfl)
theorem dX7_oil_56 : decode cX7_oil 56 = .ok (.istore_n 3, 1) := dk_62 (dk_at dksX7_oil_2 9 rfl rfl)
theorem dX7_oil_57 : decode cX7_oil 57 = .ok (.aload_n 0, 1) := dk_42 (dk_at dksX7_oil_2 10 rfl rfl)
theorem dX7_oil_58 : decode cX7_oil 58 = .ok (.iload_n 2, 1) := dk_28 (dk_at dksX7_oil_2 11 rfl rfl)
theorem dX7_oil_59 : decode cX7_oil 59 = .ok (.aload_n 0, 1) := dk_42 (dk_at dksX7_oil_2 12 rfl rfl)
theorem dX7_oil_60 : decode cX7_oil 60 = .ok (.getfield 7, 3) := dk_180 0 7 (dk_at dksX7_oil_2 13 rfl rfl)
theorem dX7_oil_63 : decode cX7_oil 63 = .ok (.bipush 10, 2) := dk_16 10 (dk_at dksX7_oil_2 16 rfl rfl)
theorem dX7_oil_65 : decode cX7_oil 65 = .ok (.iaload, 1) := dk_46 (dk_at dksX7_oil_2 18 rfl rfl)
theorem dX7_oil_66 : decode cX7_oil 66 = .ok (.invokevirtual 274, 3) := dk_182 1 18 (dk_at dksX7_oil_2 19 rfl rfl)
theorem dX7_oil_69 : decode cX7_oil 69 = .ok (.istore_n 2, 1) := dk_61 (dk_at dksX7_oil_2 22 rfl rfl)
theorem dX7_oil_70 : decode cX7_oil 70 = .ok (.iinc 4 1, 3) := dk_132 4 1 (dk_at dksX7_oil_3 0 rfl rfl)
theorem dX7_oil_73 : decode cX7_oil 73 = .ok (.goto (-39), 3) := dk_167 255 217 (dk_at dksX7_oil_3 3 rfl rfl)
theorem dX7_oil_76 : decode cX7_oil 76 = .ok (.aload_n 0, 1) := dk_42 (dk_at dksX7_oil_3 6 rfl rfl)
theorem dX7_oil_77 : decode cX7_oil 77 = .ok (.iload 4, 2) := dk_21 4 (dk_at dksX7_oil_3 7 rfl rfl)
theorem dX7_oil_79 : decode cX7_oil 79 = .ok (.invokevirtual 85, 3) := dk_182 0 85 (dk_at dksX7_oil_3 9 rfl rfl)
theorem dX7_oil_82 : decode cX7_oil 82 = .ok (.ireturn, 1) := dk_172 (dk_at dksX7_oil_3 12 rfl rfl)
abbrev cX7_brightest : ByteArray := prog_16_method_93_code
def yX7_brightest : MethodName := ⟨RX7, "brightest", "(I)I"⟩
def dkwX7_brightest_3 : List UInt8 := [167, 255, 225, 42, 29, 182, 0, 85, 172]
abbrev dktX7_brightest_3 : List UInt8 := dkwX7_brightest_3 ++ []
def dkwX7_brightest_2 : List UInt8 := [180, 0, 7, 16, 10, 46, 182, 1, 18, 61, 29, 28, 184, 0, 226, 184, 1, 79, 62, 132, 4, 1]
abbrev dktX7_brightest_2 : List UInt8 := dkwX7_brightest_2 ++ dktX7_brightest_3
def dkwX7_brightest_1 : List UInt8 := [180, 0, 7, 6, 46, 61, 28, 184, 0, 226, 62, 3, 54, 4, 21, 4, 27, 162, 0, 31, 42, 28, 42]
abbrev dktX7_brightest_1 : List UInt8 := dkwX7_brightest_1 ++ dktX7_brightest_2
def dkwX7_brightest_0 : List UInt8 := [27, 133, 9, 20, 1, 51, 184, 1, 39, 154, 0, 9, 42, 4, 182, 0, 81, 172, 42, 182, 1, 15, 42]
abbrev dktX7_brightest_0 : List UInt8 := dkwX7_brightest_0 ++ dktX7_brightest_1
theorem dksX7_brightest_0 : cX7_brightest.data.toList.drop 0 = dktX7_brightest_0 := by decide +kernel
theorem dksX7_brightest_1 : cX7_brightest.data.toList.drop 23 = dktX7_brightest_1 := dk_seg dksX7_brightest_0 23 rfl rfl
theorem dksX7_brightest_2 : cX7_brightest.data.toList.drop 46 = dktX7_brightest_2 := dk_seg dksX7_brightest_1 23 rfl rfl
theorem dksX7_brightest_3 : cX7_brightest.data.toList.drop 68 = dktX7_brightest_3 := dk_seg dksX7_brightest_2 22 rfl rfl
theorem dX7_brightest_0 : decode cX7_brightest 0 = .ok (.iload_n 1, 1) := dk_27 (dk_at dksX7_brightest_0 0 rfl rfl)
theorem dX7_brightest_1 : decode cX7_brightest 1 = .ok (.i2l, 1) := dk_133 (dk_at dksX7_brightest_0 1 rfl rfl)
theorem dX7_brightest_2 : decode cX7_brightest 2 = .ok (.lconst 0, 1) := dk_9 (dk_at dksX7_brightest_0 2 rfl rfl)
theorem dX7_brightest_3 : decode cX7_brightest 3 = .ok (.ldc2_w 307, 3) := dk_20 1 51 (dk_at dksX7_brightest_0 3 rfl rfl)
theorem dX7_brightest_6 : decode cX7_brightest 6 = .ok (.invokestatic 295, 3) := dk_184 1 39 (dk_at dksX7_brightest_0 6 rfl rfl)
theorem dX7_brightest_9 : decode cX7_brightest 9 = .ok (.ifCond .ne 9, 3) := dk_154 0 9 (dk_at dksX7_brightest_0 9 rfl rfl)
theorem dX7_brightest_12 : decode cX7_brightest 12 = .ok (.aload_n 0, 1) := dk_42 (dk_at dksX7_brightest_0 12 rfl rfl)
theorem dX7_brightest_13 : decode cX7_brightest 13 = .ok (.iconst 1, 1) := dk_4 (dk_at dksX7_brightest_0 13 rfl rfl)
theorem dX7_brightest_14 : decode cX7_brightest 14 = .ok (.invokevirtual 81, 3) := dk_182 0 81 (dk_at dksX7_brightest_0 14 rfl rfl)
theorem dX7_brightest_17 : decode cX7_brightest 17 = .ok (.ireturn, 1) := dk_172 (dk_at dksX7_brightest_0 17 rfl rfl)
theorem dX7_brightest_18 : decode cX7_brightest 18 = .ok (.aload_n 0, 1) := dk_42 (dk_at dksX7_brightest_0 18 rfl rfl)
theorem dX7_brightest_19 : decode cX7_brightest 19 = .ok (.invokevirtual 271, 3) := dk_182 1 15 (dk_at dksX7_brightest_0 19 rfl rfl)
theorem dX7_brightest_22 : decode cX7_brightest 22 = .ok (.aload_n 0, 1) := dk_42 (dk_at dksX7_brightest_0 22 rfl rfl)
theorem dX7_brightest_23 : decode cX7_brightest 23 = .ok (.getfield 7, 3) := dk_180 0 7 (dk_at dksX7_brightest_1 0 rfl rfl)
theorem dX7_brightest_26 : decode cX7_brightest 26 = .ok (.iconst 3, 1) := dk_6 (dk_at dksX7_brightest_1 3 rfl rfl)
theorem dX7_brightest_27 : decode cX7_brightest 27 = .ok (.iaload, 1) := dk_46 (dk_at dksX7_brightest_1 4 rfl rfl)
theorem dX7_brightest_28 : decode cX7_brightest 28 = .ok (.istore_n 2, 1) := dk_61 (dk_at dksX7_brightest_1 5 rfl rfl)
theorem dX7_brightest_29 : decode cX7_brightest 29 = .ok (.iload_n 2, 1) := dk_28 (dk_at dksX7_brightest_1 6 rfl rfl)
theorem dX7_brightest_30 : decode cX7_brightest 30 = .ok (.invokestatic 226, 3) := dk_184 0 226 (dk_at dksX7_brightest_1 7 rfl rfl)
theorem dX7_brightest_33 : decode cX7_brightest 33 = .ok (.istore_n 3, 1) := dk_62 (dk_at dksX7_brightest_1 10 rfl rfl)
theorem dX7_brightest_34 : decode cX7_brightest 34 = .ok (.iconst 0, 1) := dk_3 (dk_at dksX7_brightest_1 11 rfl rfl)
theorem dX7_brightest_35 : decode cX7_brightest 35 = .ok (.istore 4, 2) := dk_54 4 (dk_at dksX7_brightest_1 12 rfl rfl)
theorem dX7_brightest_37 : decode cX7_brightest 37 = .ok (.iload 4, 2) := dk_21 4 (dk_at dksX7_brightest_1 14 rfl rfl)
theorem dX7_brightest_39 : decode cX7_brightest 39 = .ok (.iload_n 1, 1) := dk_27 (dk_at dksX7_brightest_1 16 rfl rfl)
theorem dX7_brightest_40 : decode cX7_brightest 40 = .ok (.if_icmp .ge 31, 3) := dk_162 0 31 (dk_at dksX7_brightest_1 17 rfl rfl)
theorem dX7_brightest_43 : decode cX7_brightest 43 = .ok (.aload_n 0, 1) := dk_42 (dk_at dksX7_brightest_1 20 rfl rfl)
theorem dX7_brightest_44 : decode cX7_brightest 44 = .ok (.iload_n 2, 1) := dk_28 (dk_at dksX7_brightest_1 21 rfl rfl)
theorem dX7_brightest_45 : decode cX7_brightest 45 = .ok (.aload_n 0, 1) := dk_42 (dk_at dksX7_brightest_1 22 rfl rfl)
theorem dX7_brightest_46 : decode cX7_brightest 46 = .ok (.getfield 7, 3) := dk_180 0 7 (dk_at dksX7_brightest_2 0 rfl rfl)
theorem dX7_brightest_49 : decode cX7_brightest 49 = .ok (.bipush 10, 2) := dk_16 10 (dk_at dksX7_brightest_2 3 rfl rfl)
theorem dX7_brightest_51 : decode cX7_brightest 51 = .ok (.iaload, 1) := dk_46 (dk_at dksX7_brightest_2 5 rfl rfl)
theorem dX7_brightest_52 : decode cX7_brightest 52 = .ok (.invokevirtual 274, 3) := dk_182 1 18 (dk_at dksX7_brightest_2 6 rfl rfl)
theorem dX7_brightest_55 : decode cX7_brightest 55 = .ok (.istore_n 2, 1) := dk_61 (dk_at dksX7_brightest_2 9 rfl rfl)
theorem dX7_brightest_56 : decode cX7_brightest 56 = .ok (.iload_n 3, 1) := dk_29 (dk_at dksX7_brightest_2 10 rfl rfl)
theorem dX7_brightest_57 : decode cX7_brightest 57 = .ok (.iload_n 2, 1) := dk_28 (dk_at dksX7_brightest_2 11 rfl rfl)
theorem dX7_brightest_58 : decode cX7_brightest 58 = .ok (.invokestatic 226, 3) := dk_184 0 226 (dk_at dksX7_brightest_2 12 rfl rfl)
theorem dX7_brightest_61 : decode cX7_brightest 61 = .ok (.invokestatic 335, 3) := dk_184 1 79 (dk_at dksX7_brightest_2 15 rfl rfl)
theorem dX7_brightest_64 : decode cX7_brightest 64 = .ok (.istore_n 3, 1) := dk_62 (dk_at dksX7_brightest_2 18 rfl rfl)
theorem dX7_brightest_65 : decode cX7_brightest 65 = .ok (.iinc 4 1, 3) := dk_132 4 1 (dk_at dksX7_brightest_2 19 rfl rfl)
theorem dX7_brightest_68 : decode cX7_brightest 68 = .ok (.goto (-31), 3) := dk_167 255 225 (dk_at dksX7_brightest_3 0 rfl rfl)
theorem dX7_brightest_71 : decode cX7_brightest 71 = .ok (.aload_n 0, 1) := dk_42 (dk_at dksX7_brightest_3 3 rfl rfl)
theorem dX7_brightest_72 : decode cX7_brightest 72 = .ok (.iload_n 3, 1) := dk_29 (dk_at dksX7_brightest_3 4 rfl rfl)
theorem dX7_brightest_73 : decode cX7_brightest 73 = .ok (.invokevirtual 85, 3) := dk_182 0 85 (dk_at dksX7_brightest_3 5 rfl rfl)
theorem dX7_brightest_76 : decode cX7_brightest 76 = .ok (.ireturn, 1) := dk_172 (dk_at dksX7_brightest_3 8 rfl rfl)
abbrev cX7_ancestors : ByteArray := prog_16_method_100_code
def yX7_ancestors : MethodName := ⟨RX7, "ancestors", "()J"⟩
def dkwX7_ancestors_0 : List UInt8 := [42, 42, 3, 182, 1, 97, 182, 1, 24, 173]
abbrev dktX7_ancestors_0 : List UInt8 := dkwX7_ancestors_0 ++ []
theorem dksX7_ancestors_0 : cX7_ancestors.data.toList.drop 0 = dktX7_ancestors_0 := by decide +kernel
theorem dX7_ancestors_0 : decode cX7_ancestors 0 = .ok (.aload_n 0, 1) := dk_42 (dk_at dksX7_ancestors_0 0 rfl rfl)
theorem dX7_ancestors_1 : decode cX7_ancestors 1 = .ok (.aload_n 0, 1) := dk_42 (dk_at dksX7_ancestors_0 1 rfl rfl)
theorem dX7_ancestors_2 : decode cX7_ancestors 2 = .ok (.iconst 0, 1) := dk_3 (dk_at dksX7_ancestors_0 2 rfl rfl)
theorem dX7_ancestors_3 : decode cX7_ancestors 3 = .ok (.invokevirtual 353, 3) := dk_182 1 97 (dk_at dksX7_ancestors_0 3 rfl rfl)
theorem dX7_ancestors_6 : decode cX7_ancestors 6 = .ok (.invokevirtual 280, 3) := dk_182 1 24 (dk_at dksX7_ancestors_0 6 rfl rfl)
theorem dX7_ancestors_9 : decode cX7_ancestors 9 = .ok (.lreturn, 1) := dk_173 (dk_at dksX7_ancestors_0 9 rfl rfl)
abbrev cX7_reckons : ByteArray := prog_16_method_97_code
def yX7_reckons : MethodName := ⟨RX7, "reckons", "(Z)J"⟩
def dkwX7_reckons_17 : List UInt8 := [167, 0, 4, 9, 97, 66, 132, 6, 1, 167, 255, 188, 132, 5, 1, 167, 255, 173, 33, 173]
abbrev dktX7_reckons_17 : List UInt8 := dkwX7_reckons_17 ++ []
def dkwX7_reckons_16 : List UInt8 := [4, 100, 27, 182, 1, 89, 153, 0, 19, 42, 180, 0, 53, 16, 32, 21, 5, 104, 21, 6, 96, 47]
abbrev dktX7_reckons_16 : List UInt8 := dkwX7_reckons_16 ++ dktX7_reckons_17
def dkwX7_reckons_15 : List UInt8 := [21, 5, 104, 21, 6, 96, 47, 9, 148, 158, 0, 40, 42, 21, 5, 21, 6, 3, 42, 180, 0, 7, 4, 46]
abbrev dktX7_reckons_15 : List UInt8 := dkwX7_reckons_15 ++ dktX7_reckons_16
def dkwX7_reckons_14 : List UInt8 := [54, 5, 21, 5, 28, 162, 0, 83, 3, 54, 6, 21, 6, 28, 162, 0, 68, 33, 42, 180, 0, 53, 16, 32]
abbrev dktX7_reckons_14 : List UInt8 := dkwX7_reckons_14 ++ dktX7_reckons_15
def dkwX7_reckons_13 : List UInt8 := [158, 0, 7, 4, 167, 0, 4, 3, 79, 132, 4, 1, 167, 255, 201, 132, 3, 1, 167, 255, 35, 9, 66, 3]
abbrev dktX7_reckons_13 : List UInt8 := dkwX7_reckons_13 ++ dktX7_reckons_14
def dkwX7_reckons_12 : List UInt8 := [80, 42, 180, 0, 59, 17, 4, 0, 29, 104, 21, 4, 96, 42, 180, 0, 53, 21, 4, 47, 9, 148]
abbrev dktX7_reckons_12 : List UInt8 := dkwX7_reckons_12 ++ dktX7_reckons_13
def dkwX7_reckons_11 : List UInt8 := [3, 54, 4, 21, 4, 17, 4, 0, 162, 0, 53, 42, 180, 0, 53, 21, 4, 42, 180, 0, 56, 21, 4, 47]
abbrev dktX7_reckons_11 : List UInt8 := dkwX7_reckons_11 ++ dktX7_reckons_12
def dkwX7_reckons_10 : List UInt8 := [21, 5, 96, 47, 97, 80, 132, 6, 1, 167, 255, 191, 132, 5, 1, 167, 255, 155, 132, 4, 1, 167, 255, 140]
abbrev dktX7_reckons_10 : List UInt8 := dkwX7_reckons_10 ++ dktX7_reckons_11
def dkwX7_reckons_9 : List UInt8 := [42, 180, 0, 56, 16, 32, 21, 5, 104, 21, 6, 96, 92, 47, 42, 180, 0, 53, 16, 32, 21, 4, 104]
abbrev dktX7_reckons_9 : List UInt8 := dkwX7_reckons_9 ++ dktX7_reckons_10
def dkwX7_reckons_8 : List UInt8 := [29, 182, 1, 86, 153, 0, 49, 42, 21, 4, 21, 5, 21, 6, 29, 4, 100, 27, 182, 1, 89, 153, 0, 32]
abbrev dktX7_reckons_8 : List UInt8 := dkwX7_reckons_8 ++ dktX7_reckons_9
def dkwX7_reckons_7 : List UInt8 := [21, 5, 96, 47, 9, 148, 154, 0, 6, 167, 0, 74, 3, 54, 6, 21, 6, 28, 162, 0, 65, 42, 21, 6]
abbrev dktX7_reckons_7 : List UInt8 := dkwX7_reckons_7 ++ dktX7_reckons_8
def dkwX7_reckons_6 : List UInt8 := [21, 4, 28, 162, 0, 116, 3, 54, 5, 21, 5, 28, 162, 0, 101, 42, 180, 0, 53, 16, 32, 21, 4, 104]
abbrev dktX7_reckons_6 : List UInt8 := dkwX7_reckons_6 ++ dktX7_reckons_7
def dkwX7_reckons_5 : List UInt8 := [17, 4, 0, 162, 0, 17, 42, 180, 0, 56, 21, 4, 9, 80, 132, 4, 1, 167, 255, 237, 3, 54, 4]
abbrev dktX7_reckons_5 : List UInt8 := dkwX7_reckons_5 ++ dktX7_reckons_6
def dkwX7_reckons_4 : List UInt8 := [79, 132, 3, 1, 167, 255, 224, 4, 62, 29, 42, 180, 0, 7, 4, 46, 162, 0, 217, 3, 54, 4, 21, 4]
abbrev dktX7_reckons_4 : List UInt8 := dkwX7_reckons_4 ++ dktX7_reckons_5
def dkwX7_reckons_3 : List UInt8 := [162, 0, 31, 42, 180, 0, 59, 29, 42, 180, 0, 53, 29, 47, 9, 148, 158, 0, 7, 4, 167, 0, 4, 3]
abbrev dktX7_reckons_3 : List UInt8 := dkwX7_reckons_3 ++ dktX7_reckons_4
def dkwX7_reckons_2 : List UInt8 := [182, 1, 86, 153, 0, 7, 10, 167, 0, 4, 9, 80, 132, 3, 1, 167, 255, 228, 3, 62, 29, 17, 4, 0]
abbrev dktX7_reckons_2 : List UInt8 := dkwX7_reckons_2 ++ dktX7_reckons_3
def dkwX7_reckons_1 : List UInt8 := [80, 132, 3, 1, 167, 255, 239, 3, 62, 29, 28, 162, 0, 29, 42, 180, 0, 53, 29, 42, 29, 3]
abbrev dktX7_reckons_1 : List UInt8 := dkwX7_reckons_1 ++ dktX7_reckons_2
def dkwX7_reckons_0 : List UInt8 := [4, 42, 180, 0, 7, 3, 46, 120, 61, 3, 62, 29, 17, 4, 0, 162, 0, 16, 42, 180, 0, 53, 29, 9]
abbrev dktX7_reckons_0 : List UInt8 := dkwX7_reckons_0 ++ dktX7_reckons_1
theorem dksX7_reckons_0 : cX7_reckons.data.toList.drop 0 = dktX7_reckons_0 := by decide +kernel
theorem dksX7_reckons_1 : cX7_reckons.data.toList.drop 24 = dktX7_reckons_1 := dk_seg dksX7_reckons_0 24 rfl rfl
theorem dksX7_reckons_2 : cX7_reckons.data.toList.drop 46 = dktX7_reckons_2 := dk_seg dksX7_reckons_1 22 rfl rfl
theorem dksX7_reckons_3 : cX7_reckons.data.toList.drop 70 = dktX7_reckons_3 := dk_seg dksX7_reckons_2 24 rfl rfl
theorem dksX7_reckons_4 : cX7_reckons.data.toList.drop 94 = dktX7_reckons_4 := dk_seg dksX7_reckons_3 24 rfl rfl
theorem dksX7_reckons_5 : cX7_reckons.data.toList.drop 118 = dktX7_reckons_5 := dk_seg dksX7_reckons_4 24 rfl rfl
theorem dksX7_reckons_6 : cX7_reckons.data.toList.drop 141 = dktX7_reckons_6 := dk_seg dksX7_reckons_5 23 rfl rfl
theorem dksX7_reckons_7 : cX7_reckons.data.toList.drop 165 = dktX7_reckons_7 := dk_seg dksX7_reckons_6 24 rfl rfl
theorem dksX7_reckons_8 : cX7_reckons.data.toList.drop 189 = dktX7_reckons_8 := dk_seg dksX7_reckons_7 24 rfl rfl
theorem dksX7_reckons_9 : cX7_reckons.data.toList.drop 213 = dktX7_reckons_9 := dk_seg dksX7_reckons_8 24 rfl rfl
theorem dksX7_reckons_10 : cX7_reckons.data.toList.drop 236 = dktX7_reckons_10 := dk_seg dksX7_reckons_9 23 rfl rfl
theorem dksX7_reckons_11 : cX7_reckons.data.toList.drop 260 = dktX7_reckons_11 := dk_seg dksX7_reckons_10 24 rfl rfl
theorem dksX7_reckons_12 : cX7_reckons.data.toList.drop 284 = dktX7_reckons_12 := dk_seg dksX7_reckons_11 24 rfl rfl
theorem dksX7_reckons_13 : cX7_reckons.data.toList.drop 306 = dktX7_reckons_13 := dk_seg dksX7_reckons_12 22 rfl rfl
theorem dksX7_reckons_14 : cX7_reckons.data.toList.drop 330 = dktX7_reckons_14 := dk_seg dksX7_reckons_13 24 rfl rfl
theorem dksX7_reckons_15 : cX7_reckons.data.toList.drop 354 = dktX7_reckons_15 := dk_seg dksX7_reckons_14 24 rfl rfl
theorem dksX7_reckons_16 : cX7_reckons.data.toList.drop 378 = dktX7_reckons_16 := dk_seg dksX7_reckons_15 24 rfl rfl
theorem dksX7_reckons_17 : cX7_reckons.data.toList.drop 400 = dktX7_reckons_17 := dk_seg dksX7_reckons_16 22 rfl rfl
theorem dX7_reckons_0 : decode cX7_reckons 0 = .ok (.iconst 1, 1) := dk_4 (dk_at dksX7_reckons_0 0 rfl rfl)
theorem dX7_reckons_1 : decode cX7_reckons 1 = .ok (.aload_n 0, 1) := dk_42 (dk_at dksX7_reckons_0 1 rfl rfl)
theorem dX7_reckons_2 : decode cX7_reckons 2 = .ok (.getfield 7, 3) := dk_180 0 7 (dk_at dksX7_reckons_0 2 rfl rfl)
theorem dX7_reckons_5 : decode cX7_reckons 5 = .ok (.iconst 0, 1) := dk_3 (dk_at dksX7_reckons_0 5 rfl rfl)
theorem dX7_reckons_6 : decode cX7_reckons 6 = .ok (.iaload, 1) := dk_46 (dk_at dksX7_reckons_0 6 rfl rfl)
theorem dX7_reckons_7 : decode cX7_reckons 7 = .ok (.ishl, 1) := dk_120 (dk_at dksX7_reckons_0 7 rfl rfl)
theorem dX7_reckons_8 : decode cX7_reckons 8 = .ok (.istore_n 2, 1) := dk_61 (dk_at dksX7_reckons_0 8 rfl rfl)
theorem dX7_reckons_9 : decode cX7_reckons 9 = .ok (.iconst 0, 1) := dk_3 (dk_at dksX7_reckons_0 9 rfl rfl)
theorem dX7_reckons_10 : decode cX7_reckons 10 = .ok (.istore_n 3, 1) := dk_62 (dk_at dksX7_reckons_0 10 rfl rfl)
theorem dX7_reckons_11 : decode cX7_reckons 11 = .ok (.iload_n 3, 1) := dk_29 (dk_at dksX7_reckons_0 11 rfl rfl)
theorem dX7_reckons_12 : decode cX7_reckons 12 = .ok (.sipush 1024, 3) := dk_17 4 0 (dk_at dksX7_reckons_0 12 rfl rfl)
theorem dX7_reckons_15 : decode cX7_reckons 15 = .ok (.if_icmp .ge 16, 3) := dk_162 0 16 (dk_at dksX7_reckons_0 15 rfl rfl)
theorem dX7_reckons_18 : decode cX7_reckons 18 = .ok (.aload_n 0, 1) := dk_42 (dk_at dksX7_reckons_0 18 rfl rfl)
theorem dX7_reckons_19 : decode cX7_reckons 19 = .ok (.getfield 53, 3) := dk_180 0 53 (dk_at dksX7_reckons_0 19 rfl rfl)
theorem dX7_reckons_22 : decode cX7_reckons 22 = .ok (.iload_n 3, 1) := dk_29 (dk_at dksX7_reckons_0 22 rfl rfl)
theorem dX7_reckons_23 : decode cX7_reckons 23 = .ok (.lconst 0, 1) := dk_9 (dk_at dksX7_reckons_0 23 rfl rfl)
theorem dX7_reckons_24 : decode cX7_reckons 24 = .ok (.lastore, 1) := dk_80 (dk_at dksX7_reckons_1 0 rfl rfl)
theorem dX7_reckons_25 : decode cX7_reckons 25 = .ok (.iinc 3 1, 3) := dk_132 3 1 (dk_at dksX7_reckons_1 1 rfl rfl)
theorem dX7_reckons_28 : decode cX7_reckons 28 = .ok (.goto (-17), 3) := dk_167 255 239 (dk_at dksX7_reckons_1 4 rfl rfl)
theorem dX7_reckons_31 : decode cX7_reckons 31 = .ok (.iconst 0, 1) := dk_3 (dk_at dksX7_reckons_1 7 rfl rfl)
theorem dX7_reckons_32 : decode cX7_reckons 32 = .ok (.istore_n 3, 1) := dk_62 (dk_at dksX7_reckons_1 8 rfl rfl)
theorem dX7_reckons_33 : decode cX7_reckons 33 = .ok (.iload_n 3, 1) := dk_29 (dk_at dksX7_reckons_1 9 rfl rfl)
theorem dX7_reckons_34 : decode cX7_reckons 34 = .ok (.iload_n 2, 1) := dk_28 (dk_at dksX7_reckons_1 10 rfl rfl)
theorem dX7_reckons_35 : decode cX7_reckons 35 = .ok (.if_icmp .ge 29, 3) := dk_162 0 29 (dk_at dksX7_reckons_1 11 rfl rfl)
theorem dX7_reckons_38 : decode cX7_reckons 38 = .ok (.aload_n 0, 1) := dk_42 (dk_at dksX7_reckons_1 14 rfl rfl)
theorem dX7_reckons_39 : decode cX7_reckons 39 = .ok (.getfield 53, 3) := dk_180 0 53 (dk_at dksX7_reckons_1 15 rfl rfl)
theorem dX7_reckons_42 : decode cX7_reckons 42 = .ok (.iload_n 3, 1) := dk_29 (dk_at dksX7_reckons_1 18 rfl rfl)
theorem dX7_reckons_43 : decode cX7_reckons 43 = .ok (.aload_n 0, 1) := dk_42 (dk_at dksX7_reckons_1 19 rfl rfl)
theorem dX7_reckons_44 : decode cX7_reckons 44 = .ok (.iload_n 3, 1) := dk_29 (dk_at dksX7_reckons_1 20 rfl rfl)
theorem dX7_reckons_45 : decode cX7_reckons 45 = .ok (.iconst 0, 1) := dk_3 (dk_at dksX7_reckons_1 21 rfl rfl)
theorem dX7_reckons_46 : decode cX7_reckons 46 = .ok (.invokevirtual 342, 3) := dk_182 1 86 (dk_at dksX7_reckons_2 0 rfl rfl)
theorem dX7_reckons_49 : decode cX7_reckons 49 = .ok (.ifCond .eq 7, 3) := dk_153 0 7 (dk_at dksX7_reckons_2 3 rfl rfl)
theorem dX7_reckons_52 : decode cX7_reckons 52 = .ok (.lconst 1, 1) := dk_10 (dk_at dksX7_reckons_2 6 rfl rfl)
theorem dX7_reckons_53 : decode cX7_reckons 53 = .ok (.goto 4, 3) := dk_167 0 4 (dk_at dksX7_reckons_2 7 rfl rfl)
theorem dX7_reckons_56 : decode cX7_reckons 56 = .ok (.lconst 0, 1) := dk_9 (dk_at dksX7_reckons_2 10 rfl rfl)
theorem dX7_reckons_57 : decode cX7_reckons 57 = .ok (.lastore, 1) := dk_80 (dk_at dksX7_reckons_2 11 rfl rfl)
theorem dX7_reckons_58 : decode cX7_reckons 58 = .ok (.iinc 3 1, 3) := dk_132 3 1 (dk_at dksX7_reckons_2 12 rfl rfl)
theorem dX7_reckons_61 : decode cX7_reckons 61 = .ok (.goto (-28), 3) := dk_167 255 228 (dk_at dksX7_reckons_2 15 rfl rfl)
theorem dX7_reckons_64 : decode cX7_reckons 64 = .ok (.iconst 0, 1) := dk_3 (dk_at dksX7_reckons_2 18 rfl rfl)
theorem dX7_reckons_65 : decode cX7_reckons 65 = .ok (.istore_n 3, 1) := dk_62 (dk_at dksX7_reckons_2 19 rfl rfl)
theorem dX7_reckons_66 : decode cX7_reckons 66 = .ok (.iload_n 3, 1) := dk_29 (dk_at dksX7_reckons_2 20 rfl rfl)
theorem dX7_reckons_67 : decode cX7_reckons 67 = .ok (.sipush 1024, 3) := dk_17 4 0 (dk_at dksX7_reckons_2 21 rfl rfl)
theorem dX7_reckons_70 : decode cX7_reckons 70 = .ok (.if_icmp .ge 31, 3) := dk_162 0 31 (dk_at dksX7_reckons_3 0 rfl rfl)
theorem dX7_reckons_73 : decode cX7_reckons 73 = .ok (.aload_n 0, 1) := dk_42 (dk_at dksX7_reckons_3 3 rfl rfl)
theorem dX7_reckons_74 : decode cX7_reckons 74 = .ok (.getfield 59, 3) := dk_180 0 59 (dk_at dksX7_reckons_3 4 rfl rfl)
theorem dX7_reckons_77 : decode cX7_reckons 77 = .ok (.iload_n 3, 1) := dk_29 (dk_at dksX7_reckons_3 7 rfl rfl)
theorem dX7_reckons_78 : decode cX7_reckons 78 = .ok (.aload_n 0, 1) := dk_42 (dk_at dksX7_reckons_3 8 rfl rfl)
theorem dX7_reckons_79 : decode cX7_reckons 79 = .ok (.getfield 53, 3) := dk_180 0 53 (dk_at dksX7_reckons_3 9 rfl rfl)
theorem dX7_reckons_82 : decode cX7_reckons 82 = .ok (.iload_n 3, 1) := dk_29 (dk_at dksX7_reckons_3 12 rfl rfl)
theorem dX7_reckons_83 : decode cX7_reckons 83 = .ok (.laload, 1) := dk_47 (dk_at dksX7_reckons_3 13 rfl rfl)
theorem dX7_reckons_84 : decode cX7_reckons 84 = .ok (.lconst 0, 1) := dk_9 (dk_at dksX7_reckons_3 14 rfl rfl)
theorem dX7_reckons_85 : decode cX7_reckons 85 = .ok (.lcmp, 1) := dk_148 (dk_at dksX7_reckons_3 15 rfl rfl)
theorem dX7_reckons_86 : decode cX7_reckons 86 = .ok (.ifCond .le 7, 3) := dk_158 0 7 (dk_at dksX7_reckons_3 16 rfl rfl)
theorem dX7_reckons_89 : decode cX7_reckons 89 = .ok (.iconst 1, 1) := dk_4 (dk_at dksX7_reckons_3 19 rfl rfl)
theorem dX7_reckons_90 : decode cX7_reckons 90 = .ok (.goto 4, 3) := dk_167 0 4 (dk_at dksX7_reckons_3 20 rfl rfl)
theorem dX7_reckons_93 : decode cX7_reckons 93 = .ok (.iconst 0, 1) := dk_3 (dk_at dksX7_reckons_3 23 rfl rfl)
theorem dX7_reckons_94 : decode cX7_reckons 94 = .ok (.iastore, 1) := dk_79 (dk_at dksX7_reckons_4 0 rfl rfl)
theorem dX7_reckons_95 : decode cX7_reckons 95 = .ok (.iinc 3 1, 3) := dk_132 3 1 (dk_at dksX7_reckons_4 1 rfl rfl)
theorem dX7_reckons_98 : decode cX7_reckons 98 = .ok (.goto (-32), 3) := dk_167 255 224 (dk_at dksX7_reckons_4 4 rfl rfl)
theorem dX7_reckons_101 : decode cX7_reckons 101 = .ok (.iconst 1, 1) := dk_4 (dk_at dksX7_reckons_4 7 rfl rfl)
theorem dX7_reckons_102 : decode cX7_reckons 102 = .ok (.istore_n 3, 1) := dk_62 (dk_at dksX7_reckons_4 8 rfl rfl)
theorem dX7_reckons_103 : decode cX7_reckons 103 = .ok (.iload_n 3, 1) := dk_29 (dk_at dksX7_reckons_4 9 rfl rfl)
theorem dX7_reckons_104 : decode cX7_reckons 104 = .ok (.aload_n 0, 1) := dk_42 (dk_at dksX7_reckons_4 10 rfl rfl)
theorem dX7_reckons_105 : decode cX7_reckons 105 = .ok (.getfield 7, 3) := dk_180 0 7 (dk_at dksX7_reckons_4 11 rfl rfl)
theorem dX7_reckons_108 : decode cX7_reckons 108 = .ok (.iconst 1, 1) := dk_4 (dk_at dksX7_reckons_4 14 rfl rfl)
theorem dX7_reckons_109 : decode cX7_reckons 109 = .ok (.iaload, 1) := dk_46 (dk_at dksX7_reckons_4 15 rfl rfl)
theorem dX7_reckons_110 : decode cX7_reckons 110 = .ok (.if_icmp .ge 217, 3) := dk_162 0 217 (dk_at dksX7_reckons_4 16 rfl rfl)
theorem dX7_reckons_113 : decode cX7_reckons 113 = .ok (.iconst 0, 1) := dk_3 (dk_at dksX7_reckons_4 19 rfl rfl)
theorem dX7_reckons_114 : decode cX7_reckons 114 = .ok (.istore 4, 2) := dk_54 4 (dk_at dksX7_reckons_4 20 rfl rfl)
theorem dX7_reckons_116 : decode cX7_reckons 116 = .ok (.iload 4, 2) := dk_21 4 (dk_at dksX7_reckons_4 22 rfl rfl)
theorem dX7_reckons_118 : decode cX7_reckons 118 = .ok (.sipush 1024, 3) := dk_17 4 0 (dk_at dksX7_reckons_5 0 rfl rfl)
theorem dX7_reckons_121 : decode cX7_reckons 121 = .ok (.if_icmp .ge 17, 3) := dk_162 0 17 (dk_at dksX7_reckons_5 3 rfl rfl)
theorem dX7_reckons_124 : decode cX7_reckons 124 = .ok (.aload_n 0, 1) := dk_42 (dk_at dksX7_reckons_5 6 rfl rfl)
theorem dX7_reckons_125 : decode cX7_reckons 125 = .ok (.getfield 56, 3) := dk_180 0 56 (dk_at dksX7_reckons_5 7 rfl rfl)
theorem dX7_reckons_128 : decode cX7_reckons 128 = .ok (.iload 4, 2) := dk_21 4 (dk_at dksX7_reckons_5 10 rfl rfl)
theorem dX7_reckons_130 : decode cX7_reckons 130 = .ok (.lconst 0, 1) := dk_9 (dk_at dksX7_reckons_5 12 rfl rfl)
theorem dX7_reckons_131 : decode cX7_reckons 131 = .ok (.lastore, 1) := dk_80 (dk_at dksX7_reckons_5 13 rfl rfl)
theorem dX7_reckons_132 : decode cX7_reckons 132 = .ok (.iinc 4 1, 3) := dk_132 4 1 (dk_at dksX7_reckons_5 14 rfl rfl)
theorem dX7_reckons_135 : decode cX7_reckons 135 = .ok (.goto (-19), 3) := dk_167 255 237 (dk_at dksX7_reckons_5 17 rfl rfl)
theorem dX7_reckons_138 : decode cX7_reckons 138 = .ok (.iconst 0, 1) := dk_3 (dk_at dksX7_reckons_5 20 rfl rfl)
theorem dX7_reckons_139 : decode cX7_reckons 139 = .ok (.istore 4, 2) := dk_54 4 (dk_at dksX7_reckons_5 21 rfl rfl)
theorem dX7_reckons_141 : decode cX7_reckons 141 = .ok (.iload 4, 2) := dk_21 4 (dk_at dksX7_reckons_6 0 rfl rfl)
theorem dX7_reckons_143 : decode cX7_reckons 143 = .ok (.iload_n 2, 1) := dk_28 (dk_at dksX7_reckons_6 2 rfl rfl)
theorem dX7_reckons_144 : decode cX7_reckons 144 = .ok (.if_icmp .ge 116, 3) := dk_162 0 116 (dk_at dksX7_reckons_6 3 rfl rfl)
theorem dX7_reckons_147 : decode cX7_reckons 147 = .ok (.iconst 0, 1) := dk_3 (dk_at dksX7_reckons_6 6 rfl rfl)
theorem dX7_reckons_148 : decode cX7_reckons 148 = .ok (.istore 5, 2) := dk_54 5 (dk_at dksX7_reckons_6 7 rfl rfl)
theorem dX7_reckons_150 : decode cX7_reckons 150 = .ok (.iload 5, 2) := dk_21 5 (dk_at dksX7_reckons_6 9 rfl rfl)
theorem dX7_reckons_152 : decode cX7_reckons 152 = .ok (.iload_n 2, 1) := dk_28 (dk_at dksX7_reckons_6 11 rfl rfl)
theorem dX7_reckons_153 : decode cX7_reckons 153 = .ok (.if_icmp .ge 101, 3) := dk_162 0 101 (dk_at dksX7_reckons_6 12 rfl rfl)
theorem dX7_reckons_156 : decode cX7_reckons 156 = .ok (.aload_n 0, 1) := dk_42 (dk_at dksX7_reckons_6 15 rfl rfl)
theorem dX7_reckons_157 : decode cX7_reckons 157 = .ok (.getfield 53, 3) := dk_180 0 53 (dk_at dksX7_reckons_6 16 rfl rfl)
theorem dX7_reckons_160 : decode cX7_reckons 160 = .ok (.bipush 32, 2) := dk_16 32 (dk_at dksX7_reckons_6 19 rfl rfl)
theorem dX7_reckons_162 : decode cX7_reckons 162 = .ok (.iload 4, 2) := dk_21 4 (dk_at dksX7_reckons_6 21 rfl rfl)
theorem dX7_reckons_164 : decode cX7_reckons 164 = .ok (.imul, 1) := dk_104 (dk_at dksX7_reckons_6 23 rfl rfl)
theorem dX7_reckons_165 : decode cX7_reckons 165 = .ok (.iload 5, 2) := dk_21 5 (dk_at dksX7_reckons_7 0 rfl rfl)
theorem dX7_reckons_167 : decode cX7_reckons 167 = .ok (.iadd, 1) := dk_96 (dk_at dksX7_reckons_7 2 rfl rfl)
theorem dX7_reckons_168 : decode cX7_reckons 168 = .ok (.laload, 1) := dk_47 (dk_at dksX7_reckons_7 3 rfl rfl)
theorem dX7_reckons_169 : decode cX7_reckons 169 = .ok (.lconst 0, 1) := dk_9 (dk_at dksX7_reckons_7 4 rfl rfl)
theorem dX7_reckons_170 : decode cX7_reckons 170 = .ok (.lcmp, 1) := dk_148 (dk_at dksX7_reckons_7 5 rfl rfl)
theorem dX7_reckons_171 : decode cX7_reckons 171 = .ok (.ifCond .ne 6, 3) := dk_154 0 6 (dk_at dksX7_reckons_7 6 rfl rfl)
theorem dX7_reckons_174 : decode cX7_reckons 174 = .ok (.goto 74, 3) := dk_167 0 74 (dk_at dksX7_reckons_7 9 rfl rfl)
theorem dX7_reckons_177 : decode cX7_reckons 177 = .ok (.iconst 0, 1) := dk_3 (dk_at dksX7_reckons_7 12 rfl rfl)
theorem dX7_reckons_178 : decode cX7_reckons 178 = .ok (.istore 6, 2) := dk_54 6 (dk_at dksX7_reckons_7 13 rfl rfl)
theorem dX7_reckons_180 : decode cX7_reckons 180 = .ok (.iload 6, 2) := dk_21 6 (dk_at dksX7_reckons_7 15 rfl rfl)
theorem dX7_reckons_182 : decode cX7_reckons 182 = .ok (.iload_n 2, 1) := dk_28 (dk_at dksX7_reckons_7 17 rfl rfl)
theorem dX7_reckons_183 : decode cX7_reckons 183 = .ok (.if_icmp .ge 65, 3) := dk_162 0 65 (dk_at dksX7_reckons_7 18 rfl rfl)
theorem dX7_reckons_186 : decode cX7_reckons 186 = .ok (.aload_n 0, 1) := dk_42 (dk_at dksX7_reckons_7 21 rfl rfl)
theorem dX7_reckons_187 : decode cX7_reckons 187 = .ok (.iload 6, 2) := dk_21 6 (dk_at dksX7_reckons_7 22 rfl rfl)
theorem dX7_reckons_189 : decode cX7_reckons 189 = .ok (.iload_n 3, 1) := dk_29 (dk_at dksX7_reckons_8 0 rfl rfl)
theorem dX7_reckons_190 : decode cX7_reckons 190 = .ok (.invokevirtual 342, 3) := dk_182 1 86 (dk_at dksX7_reckons_8 1 rfl rfl)
theorem dX7_reckons_193 : decode cX7_reckons 193 = .ok (.ifCond .eq 49, 3) := dk_153 0 49 (dk_at dksX7_reckons_8 4 rfl rfl)
theorem dX7_reckons_196 : decode cX7_reckons 196 = .ok (.aload_n 0, 1) := dk_42 (dk_at dksX7_reckons_8 7 rfl rfl)
theorem dX7_reckons_197 : decode cX7_reckons 197 = .ok (.iload 4, 2) := dk_21 4 (dk_at dksX7_reckons_8 8 rfl rfl)
theorem dX7_reckons_199 : decode cX7_reckons 199 = .ok (.iload 5, 2) := dk_21 5 (dk_at dksX7_reckons_8 10 rfl rfl)
theorem dX7_reckons_201 : decode cX7_reckons 201 = .ok (.iload 6, 2) := dk_21 6 (dk_at dksX7_reckons_8 12 rfl rfl)
theorem dX7_reckons_203 : decode cX7_reckons 203 = .ok (.iload_n 3, 1) := dk_29 (dk_at dksX7_reckons_8 14 rfl rfl)
theorem dX7_reckons_204 : decode cX7_reckons 204 = .ok (.iconst 1, 1) := dk_4 (dk_at dksX7_reckons_8 15 rfl rfl)
theorem dX7_reckons_205 : decode cX7_reckons 205 = .ok (.isub, 1) := dk_100 (dk_at dksX7_reckons_8 16 rfl rfl)
theorem dX7_reckons_206 : decode cX7_reckons 206 = .ok (.iload_n 1, 1) := dk_27 (dk_at dksX7_reckons_8 17 rfl rfl)
theorem dX7_reckons_207 : decode cX7_reckons 207 = .ok (.invokevirtual 345, 3) := dk_182 1 89 (dk_at dksX7_reckons_8 18 rfl rfl)
theorem dX7_reckons_210 : decode cX7_reckons 210 = .ok (.ifCond .eq 32, 3) := dk_153 0 32 (dk_at dksX7_reckons_8 21 rfl rfl)
theorem dX7_reckons_213 : decode cX7_reckons 213 = .ok (.aload_n 0, 1) := dk_42 (dk_at dksX7_reckons_9 0 rfl rfl)
theorem dX7_reckons_214 : decode cX7_reckons 214 = .ok (.getfield 56, 3) := dk_180 0 56 (dk_at dksX7_reckons_9 1 rfl rfl)
theorem dX7_reckons_217 : decode cX7_reckons 217 = .ok (.bipush 32, 2) := dk_16 32 (dk_at dksX7_reckons_9 4 rfl rfl)
theorem dX7_reckons_219 : decode cX7_reckons 219 = .ok (.iload 5, 2) := dk_21 5 (dk_at dksX7_reckons_9 6 rfl rfl)
theorem dX7_reckons_221 : decode cX7_reckons 221 = .ok (.imul, 1) := dk_104 (dk_at dksX7_reckons_9 8 rfl rfl)
theorem dX7_reckons_222 : decode cX7_reckons 222 = .ok (.iload 6, 2) := dk_21 6 (dk_at dksX7_reckons_9 9 rfl rfl)
theorem dX7_reckons_224 : decode cX7_reckons 224 = .ok (.iadd, 1) := dk_96 (dk_at dksX7_reckons_9 11 rfl rfl)
theorem dX7_reckons_225 : decode cX7_reckons 225 = .ok (.dup2, 1) := dk_92 (dk_at dksX7_reckons_9 12 rfl rfl)
theorem dX7_reckons_226 : decode cX7_reckons 226 = .ok (.laload, 1) := dk_47 (dk_at dksX7_reckons_9 13 rfl rfl)
theorem dX7_reckons_227 : decode cX7_reckons 227 = .ok (.aload_n 0, 1) := dk_42 (dk_at dksX7_reckons_9 14 rfl rfl)
theorem dX7_reckons_228 : decode cX7_reckons 228 = .ok (.getfield 53, 3) := dk_180 0 53 (dk_at dksX7_reckons_9 15 rfl rfl)
theorem dX7_reckons_231 : decode cX7_reckons 231 = .ok (.bipush 32, 2) := dk_16 32 (dk_at dksX7_reckons_9 18 rfl rfl)
theorem dX7_reckons_233 : decode cX7_reckons 233 = .ok (.iload 4, 2) := dk_21 4 (dk_at dksX7_reckons_9 20 rfl rfl)
theorem dX7_reckons_235 : decode cX7_reckons 235 = .ok (.imul, 1) := dk_104 (dk_at dksX7_reckons_9 22 rfl rfl)
theorem dX7_reckons_236 : decode cX7_reckons 236 = .ok (.iload 5, 2) := dk_21 5 (dk_at dksX7_reckons_10 0 rfl rfl)
theorem dX7_reckons_238 : decode cX7_reckons 238 = .ok (.iadd, 1) := dk_96 (dk_at dksX7_reckons_10 2 rfl rfl)
theorem dX7_reckons_239 : decode cX7_reckons 239 = .ok (.laload, 1) := dk_47 (dk_at dksX7_reckons_10 3 rfl rfl)
theorem dX7_reckons_240 : decode cX7_reckons 240 = .ok (.ladd, 1) := dk_97 (dk_at dksX7_reckons_10 4 rfl rfl)
theorem dX7_reckons_241 : decode cX7_reckons 241 = .ok (.lastore, 1) := dk_80 (dk_at dksX7_reckons_10 5 rfl rfl)
theorem dX7_reckons_242 : decode cX7_reckons 242 = .ok (.iinc 6 1, 3) := dk_132 6 1 (dk_at dksX7_reckons_10 6 rfl rfl)
theorem dX7_reckons_245 : decode cX7_reckons 245 = .ok (.goto (-65), 3) := dk_167 255 191 (dk_at dksX7_reckons_10 9 rfl rfl)
theorem dX7_reckons_248 : decode cX7_reckons 248 = .ok (.iinc 5 1, 3) := dk_132 5 1 (dk_at dksX7_reckons_10 12 rfl rfl)
theorem dX7_reckons_251 : decode cX7_reckons 251 = .ok (.goto (-101), 3) := dk_167 255 155 (dk_at dksX7_reckons_10 15 rfl rfl)
theorem dX7_reckons_254 : decode cX7_reckons 254 = .ok (.iinc 4 1, 3) := dk_132 4 1 (dk_at dksX7_reckons_10 18 rfl rfl)
theorem dX7_reckons_257 : decode cX7_reckons 257 = .ok (.goto (-116), 3) := dk_167 255 140 (dk_at dksX7_reckons_10 21 rfl rfl)
theorem dX7_reckons_260 : decode cX7_reckons 260 = .ok (.iconst 0, 1) := dk_3 (dk_at dksX7_reckons_11 0 rfl rfl)
theorem dX7_reckons_261 : decode cX7_reckons 261 = .ok (.istore 4, 2) := dk_54 4 (dk_at dksX7_reckons_11 1 rfl rfl)
theorem dX7_reckons_263 : decode cX7_reckons 263 = .ok (.iload 4, 2) := dk_21 4 (dk_at dksX7_reckons_11 3 rfl rfl)
theorem dX7_reckons_265 : decode cX7_reckons 265 = .ok (.sipush 1024, 3) := dk_17 4 0 (dk_at dksX7_reckons_11 5 rfl rfl)
theorem dX7_reckons_268 : decode cX7_reckons 268 = .ok (.if_icmp .ge 53, 3) := dk_162 0 53 (dk_at dksX7_reckons_11 8 rfl rfl)
theorem dX7_reckons_271 : decode cX7_reckons 271 = .ok (.aload_n 0, 1) := dk_42 (dk_at dksX7_reckons_11 11 rfl rfl)
theorem dX7_reckons_272 : decode cX7_reckons 272 = .ok (.getfield 53, 3) := dk_180 0 53 (dk_at dksX7_reckons_11 12 rfl rfl)
theorem dX7_reckons_275 : decode cX7_reckons 275 = .ok (.iload 4, 2) := dk_21 4 (dk_at dksX7_reckons_11 15 rfl rfl)
theorem dX7_reckons_277 : decode cX7_reckons 277 = .ok (.aload_n 0, 1) := dk_42 (dk_at dksX7_reckons_11 17 rfl rfl)
theorem dX7_reckons_278 : decode cX7_reckons 278 = .ok (.getfield 56, 3) := dk_180 0 56 (dk_at dksX7_reckons_11 18 rfl rfl)
theorem dX7_reckons_281 : decode cX7_reckons 281 = .ok (.iload 4, 2) := dk_21 4 (dk_at dksX7_reckons_11 21 rfl rfl)
theorem dX7_reckons_283 : decode cX7_reckons 283 = .ok (.laload, 1) := dk_47 (dk_at dksX7_reckons_11 23 rfl rfl)
theorem dX7_reckons_284 : decode cX7_reckons 284 = .ok (.lastore, 1) := dk_80 (dk_at dksX7_reckons_12 0 rfl rfl)
theorem dX7_reckons_285 : decode cX7_reckons 285 = .ok (.aload_n 0, 1) := dk_42 (dk_at dksX7_reckons_12 1 rfl rfl)
theorem dX7_reckons_286 : decode cX7_reckons 286 = .ok (.getfield 59, 3) := dk_180 0 59 (dk_at dksX7_reckons_12 2 rfl rfl)
theorem dX7_reckons_289 : decode cX7_reckons 289 = .ok (.sipush 1024, 3) := dk_17 4 0 (dk_at dksX7_reckons_12 5 rfl rfl)
theorem dX7_reckons_292 : decode cX7_reckons 292 = .ok (.iload_n 3, 1) := dk_29 (dk_at dksX7_reckons_12 8 rfl rfl)
theorem dX7_reckons_293 : decode cX7_reckons 293 = .ok (.imul, 1) := dk_104 (dk_at dksX7_reckons_12 9 rfl rfl)
theorem dX7_reckons_294 : decode cX7_reckons 294 = .ok (.iload 4, 2) := dk_21 4 (dk_at dksX7_reckons_12 10 rfl rfl)
theorem dX7_reckons_296 : decode cX7_reckons 296 = .ok (.iadd, 1) := dk_96 (dk_at dksX7_reckons_12 12 rfl rfl)
theorem dX7_reckons_297 : decode cX7_reckons 297 = .ok (.aload_n 0, 1) := dk_42 (dk_at dksX7_reckons_12 13 rfl rfl)
theorem dX7_reckons_298 : decode cX7_reckons 298 = .ok (.getfield 53, 3) := dk_180 0 53 (dk_at dksX7_reckons_12 14 rfl rfl)
theorem dX7_reckons_301 : decode cX7_reckons 301 = .ok (.iload 4, 2) := dk_21 4 (dk_at dksX7_reckons_12 17 rfl rfl)
theorem dX7_reckons_303 : decode cX7_reckons 303 = .ok (.laload, 1) := dk_47 (dk_at dksX7_reckons_12 19 rfl rfl)
theorem dX7_reckons_304 : decode cX7_reckons 304 = .ok (.lconst 0, 1) := dk_9 (dk_at dksX7_reckons_12 20 rfl rfl)
theorem dX7_reckons_305 : decode cX7_reckons 305 = .ok (.lcmp, 1) := dk_148 (dk_at dksX7_reckons_12 21 rfl rfl)
theorem dX7_reckons_306 : decode cX7_reckons 306 = .ok (.ifCond .le 7, 3) := dk_158 0 7 (dk_at dksX7_reckons_13 0 rfl rfl)
theorem dX7_reckons_309 : decode cX7_reckons 309 = .ok (.iconst 1, 1) := dk_4 (dk_at dksX7_reckons_13 3 rfl rfl)
theorem dX7_reckons_310 : decode cX7_reckons 310 = .ok (.goto 4, 3) := dk_167 0 4 (dk_at dksX7_reckons_13 4 rfl rfl)
theorem dX7_reckons_313 : decode cX7_reckons 313 = .ok (.iconst 0, 1) := dk_3 (dk_at dksX7_reckons_13 7 rfl rfl)
theorem dX7_reckons_314 : decode cX7_reckons 314 = .ok (.iastore, 1) := dk_79 (dk_at dksX7_reckons_13 8 rfl rfl)
theorem dX7_reckons_315 : decode cX7_reckons 315 = .ok (.iinc 4 1, 3) := dk_132 4 1 (dk_at dksX7_reckons_13 9 rfl rfl)
theorem dX7_reckons_318 : decode cX7_reckons 318 = .ok (.goto (-55), 3) := dk_167 255 201 (dk_at dksX7_reckons_13 12 rfl rfl)
theorem dX7_reckons_321 : decode cX7_reckons 321 = .ok (.iinc 3 1, 3) := dk_132 3 1 (dk_at dksX7_reckons_13 15 rfl rfl)
theorem dX7_reckons_324 : decode cX7_reckons 324 = .ok (.goto (-221), 3) := dk_167 255 35 (dk_at dksX7_reckons_13 18 rfl rfl)
theorem dX7_reckons_327 : decode cX7_reckons 327 = .ok (.lconst 0, 1) := dk_9 (dk_at dksX7_reckons_13 21 rfl rfl)
theorem dX7_reckons_328 : decode cX7_reckons 328 = .ok (.lstore_n 3, 1) := dk_66 (dk_at dksX7_reckons_13 22 rfl rfl)
theorem dX7_reckons_329 : decode cX7_reckons 329 = .ok (.iconst 0, 1) := dk_3 (dk_at dksX7_reckons_13 23 rfl rfl)
theorem dX7_reckons_330 : decode cX7_reckons 330 = .ok (.istore 5, 2) := dk_54 5 (dk_at dksX7_reckons_14 0 rfl rfl)
theorem dX7_reckons_332 : decode cX7_reckons 332 = .ok (.iload 5, 2) := dk_21 5 (dk_at dksX7_reckons_14 2 rfl rfl)
theorem dX7_reckons_334 : decode cX7_reckons 334 = .ok (.iload_n 2, 1) := dk_28 (dk_at dksX7_reckons_14 4 rfl rfl)
theorem dX7_reckons_335 : decode cX7_reckons 335 = .ok (.if_icmp .ge 83, 3) := dk_162 0 83 (dk_at dksX7_reckons_14 5 rfl rfl)
theorem dX7_reckons_338 : decode cX7_reckons 338 = .ok (.iconst 0, 1) := dk_3 (dk_at dksX7_reckons_14 8 rfl rfl)
theorem dX7_reckons_339 : decode cX7_reckons 339 = .ok (.istore 6, 2) := dk_54 6 (dk_at dksX7_reckons_14 9 rfl rfl)
theorem dX7_reckons_341 : decode cX7_reckons 341 = .ok (.iload 6, 2) := dk_21 6 (dk_at dksX7_reckons_14 11 rfl rfl)
theorem dX7_reckons_343 : decode cX7_reckons 343 = .ok (.iload_n 2, 1) := dk_28 (dk_at dksX7_reckons_14 13 rfl rfl)
theorem dX7_reckons_344 : decode cX7_reckons 344 = .ok (.if_icmp .ge 68, 3) := dk_162 0 68 (dk_at dksX7_reckons_14 14 rfl rfl)
theorem dX7_reckons_347 : decode cX7_reckons 347 = .ok (.lload_n 3, 1) := dk_33 (dk_at dksX7_reckons_14 17 rfl rfl)
theorem dX7_reckons_348 : decode cX7_reckons 348 = .ok (.aload_n 0, 1) := dk_42 (dk_at dksX7_reckons_14 18 rfl rfl)
theorem dX7_reckons_349 : decode cX7_reckons 349 = .ok (.getfield 53, 3) := dk_180 0 53 (dk_at dksX7_reckons_14 19 rfl rfl)
theorem dX7_reckons_352 : decode cX7_reckons 352 = .ok (.bipush 32, 2) := dk_16 32 (dk_at dksX7_reckons_14 22 rfl rfl)
theorem dX7_reckons_354 : decode cX7_reckons 354 = .ok (.iload 5, 2) := dk_21 5 (dk_at dksX7_reckons_15 0 rfl rfl)
theorem dX7_reckons_356 : decode cX7_reckons 356 = .ok (.imul, 1) := dk_104 (dk_at dksX7_reckons_15 2 rfl rfl)
theorem dX7_reckons_357 : decode cX7_reckons 357 = .ok (.iload 6, 2) := dk_21 6 (dk_at dksX7_reckons_15 3 rfl rfl)
theorem dX7_reckons_359 : decode cX7_reckons 359 = .ok (.iadd, 1) := dk_96 (dk_at dksX7_reckons_15 5 rfl rfl)
theorem dX7_reckons_360 : decode cX7_reckons 360 = .ok (.laload, 1) := dk_47 (dk_at dksX7_reckons_15 6 rfl rfl)
theorem dX7_reckons_361 : decode cX7_reckons 361 = .ok (.lconst 0, 1) := dk_9 (dk_at dksX7_reckons_15 7 rfl rfl)
theorem dX7_reckons_362 : decode cX7_reckons 362 = .ok (.lcmp, 1) := dk_148 (dk_at dksX7_reckons_15 8 rfl rfl)
theorem dX7_reckons_363 : decode cX7_reckons 363 = .ok (.ifCond .le 40, 3) := dk_158 0 40 (dk_at dksX7_reckons_15 9 rfl rfl)
theorem dX7_reckons_366 : decode cX7_reckons 366 = .ok (.aload_n 0, 1) := dk_42 (dk_at dksX7_reckons_15 12 rfl rfl)
theorem dX7_reckons_367 : decode cX7_reckons 367 = .ok (.iload 5, 2) := dk_21 5 (dk_at dksX7_reckons_15 13 rfl rfl)
theorem dX7_reckons_369 : decode cX7_reckons 369 = .ok (.iload 6, 2) := dk_21 6 (dk_at dksX7_reckons_15 15 rfl rfl)
theorem dX7_reckons_371 : decode cX7_reckons 371 = .ok (.iconst 0, 1) := dk_3 (dk_at dksX7_reckons_15 17 rfl rfl)
theorem dX7_reckons_372 : decode cX7_reckons 372 = .ok (.aload_n 0, 1) := dk_42 (dk_at dksX7_reckons_15 18 rfl rfl)
theorem dX7_reckons_373 : decode cX7_reckons 373 = .ok (.getfield 7, 3) := dk_180 0 7 (dk_at dksX7_reckons_15 19 rfl rfl)
theorem dX7_reckons_376 : decode cX7_reckons 376 = .ok (.iconst 1, 1) := dk_4 (dk_at dksX7_reckons_15 22 rfl rfl)
theorem dX7_reckons_377 : decode cX7_reckons 377 = .ok (.iaload, 1) := dk_46 (dk_at dksX7_reckons_15 23 rfl rfl)
theorem dX7_reckons_378 : decode cX7_reckons 378 = .ok (.iconst 1, 1) := dk_4 (dk_at dksX7_reckons_16 0 rfl rfl)
theorem dX7_reckons_379 : decode cX7_reckons 379 = .ok (.isub, 1) := dk_100 (dk_at dksX7_reckons_16 1 rfl rfl)
theorem dX7_reckons_380 : decode cX7_reckons 380 = .ok (.iload_n 1, 1) := dk_27 (dk_at dksX7_reckons_16 2 rfl rfl)
theorem dX7_reckons_381 : decode cX7_reckons 381 = .ok (.invokevirtual 345, 3) := dk_182 1 89 (dk_at dksX7_reckons_16 3 rfl rfl)
theorem dX7_reckons_384 : decode cX7_reckons 384 = .ok (.ifCond .eq 19, 3) := dk_153 0 19 (dk_at dksX7_reckons_16 6 rfl rfl)
theorem dX7_reckons_387 : decode cX7_reckons 387 = .ok (.aload_n 0, 1) := dk_42 (dk_at dksX7_reckons_16 9 rfl rfl)
theorem dX7_reckons_388 : decode cX7_reckons 388 = .ok (.getfield 53, 3) := dk_180 0 53 (dk_at dksX7_reckons_16 10 rfl rfl)
theorem dX7_reckons_391 : decode cX7_reckons 391 = .ok (.bipush 32, 2) := dk_16 32 (dk_at dksX7_reckons_16 13 rfl rfl)
theorem dX7_reckons_393 : decode cX7_reckons 393 = .ok (.iload 5, 2) := dk_21 5 (dk_at dksX7_reckons_16 15 rfl rfl)
theorem dX7_reckons_395 : decode cX7_reckons 395 = .ok (.imul, 1) := dk_104 (dk_at dksX7_reckons_16 17 rfl rfl)
theorem dX7_reckons_396 : decode cX7_reckons 396 = .ok (.iload 6, 2) := dk_21 6 (dk_at dksX7_reckons_16 18 rfl rfl)
theorem dX7_reckons_398 : decode cX7_reckons 398 = .ok (.iadd, 1) := dk_96 (dk_at dksX7_reckons_16 20 rfl rfl)
theorem dX7_reckons_399 : decode cX7_reckons 399 = .ok (.laload, 1) := dk_47 (dk_at dksX7_reckons_16 21 rfl rfl)
theorem dX7_reckons_400 : decode cX7_reckons 400 = .ok (.goto 4, 3) := dk_167 0 4 (dk_at dksX7_reckons_17 0 rfl rfl)
theorem dX7_reckons_403 : decode cX7_reckons 403 = .ok (.lconst 0, 1) := dk_9 (dk_at dksX7_reckons_17 3 rfl rfl)
theorem dX7_reckons_404 : decode cX7_reckons 404 = .ok (.ladd, 1) := dk_97 (dk_at dksX7_reckons_17 4 rfl rfl)
theorem dX7_reckons_405 : decode cX7_reckons 405 = .ok (.lstore_n 3, 1) := dk_66 (dk_at dksX7_reckons_17 5 rfl rfl)
theorem dX7_reckons_406 : decode cX7_reckons 406 = .ok (.iinc 6 1, 3) := dk_132 6 1 (dk_at dksX7_reckons_17 6 rfl rfl)
theorem dX7_reckons_409 : decode cX7_reckons 409 = .ok (.goto (-68), 3) := dk_167 255 188 (dk_at dksX7_reckons_17 9 rfl rfl)
theorem dX7_reckons_412 : decode cX7_reckons 412 = .ok (.iinc 5 1, 3) := dk_132 5 1 (dk_at dksX7_reckons_17 12 rfl rfl)
theorem dX7_reckons_415 : decode cX7_reckons 415 = .ok (.goto (-83), 3) := dk_167 255 173 (dk_at dksX7_reckons_17 15 rfl rfl)
theorem dX7_reckons_418 : decode cX7_reckons 418 = .ok (.lload_n 3, 1) := dk_33 (dk_at dksX7_reckons_17 18 rfl rfl)
theorem dX7_reckons_419 : decode cX7_reckons 419 = .ok (.lreturn, 1) := dk_173 (dk_at dksX7_reckons_17 19 rfl rfl)
abbrev cX7_fitsRow : ByteArray := prog_16_method_94_code
def yX7_fitsRow : MethodName := ⟨RX7, "fitsRow", "(II)Z"⟩
def dkwX7_fitsRow_2 : List UInt8 := [182, 1, 48, 21, 4, 126, 160, 0, 7, 4, 167, 0, 4, 3, 172]
abbrev dktX7_fitsRow_2 : List UInt8 := dkwX7_fitsRow_2 ++ []
def dkwX7_fitsRow_1 : List UInt8 := [54, 4, 27, 29, 2, 130, 126, 154, 0, 28, 27, 21, 4, 126, 42, 42, 180, 0, 7, 6, 46, 28]
abbrev dktX7_fitsRow_1 : List UInt8 := dkwX7_fitsRow_1 ++ dktX7_fitsRow_2
def dkwX7_fitsRow_0 : List UInt8 := [42, 42, 180, 0, 7, 5, 46, 28, 182, 1, 48, 62, 42, 42, 180, 0, 7, 7, 46, 28, 182, 1, 48]
abbrev dktX7_fitsRow_0 : List UInt8 := dkwX7_fitsRow_0 ++ dktX7_fitsRow_1
theorem dksX7_fitsRow_0 : cX7_fitsRow.data.toList.drop 0 = dktX7_fitsRow_0 := by decide +kernel
theorem dksX7_fitsRow_1 : cX7_fitsRow.data.toList.drop 23 = dktX7_fitsRow_1 := dk_seg dksX7_fitsRow_0 23 rfl rfl
theorem dksX7_fitsRow_2 : cX7_fitsRow.data.toList.drop 45 = dktX7_fitsRow_2 := dk_seg dksX7_fitsRow_1 22 rfl rfl
theorem dX7_fitsRow_0 : decode cX7_fitsRow 0 = .ok (.aload_n 0, 1) := dk_42 (dk_at dksX7_fitsRow_0 0 rfl rfl)
theorem dX7_fitsRow_1 : decode cX7_fitsRow 1 = .ok (.aload_n 0, 1) := dk_42 (dk_at dksX7_fitsRow_0 1 rfl rfl)
theorem dX7_fitsRow_2 : decode cX7_fitsRow 2 = .ok (.getfield 7, 3) := dk_180 0 7 (dk_at dksX7_fitsRow_0 2 rfl rfl)
theorem dX7_fitsRow_5 : decode cX7_fitsRow 5 = .ok (.iconst 2, 1) := dk_5 (dk_at dksX7_fitsRow_0 5 rfl rfl)
theorem dX7_fitsRow_6 : decode cX7_fitsRow 6 = .ok (.iaload, 1) := dk_46 (dk_at dksX7_fitsRow_0 6 rfl rfl)
theorem dX7_fitsRow_7 : decode cX7_fitsRow 7 = .ok (.iload_n 2, 1) := dk_28 (dk_at dksX7_fitsRow_0 7 rfl rfl)
theorem dX7_fitsRow_8 : decode cX7_fitsRow 8 = .ok (.invokevirtual 304, 3) := dk_182 1 48 (dk_at dksX7_fitsRow_0 8 rfl rfl)
theorem dX7_fitsRow_11 : decode cX7_fitsRow 11 = .ok (.istore_n 3, 1) := dk_62 (dk_at dksX7_fitsRow_0 11 rfl rfl)
theorem dX7_fitsRow_12 : decode cX7_fitsRow 12 = .ok (.aload_n 0, 1) := dk_42 (dk_at dksX7_fitsRow_0 12 rfl rfl)
theorem dX7_fitsRow_13 : decode cX7_fitsRow 13 = .ok (.aload_n 0, 1) := dk_42 (dk_at dksX7_fitsRow_0 13 rfl rfl)
theorem dX7_fitsRow_14 : decode cX7_fitsRow 14 = .ok (.getfield 7, 3) := dk_180 0 7 (dk_at dksX7_fitsRow_0 14 rfl rfl)
theorem dX7_fitsRow_17 : decode cX7_fitsRow 17 = .ok (.iconst 4, 1) := dk_7 (dk_at dksX7_fitsRow_0 17 rfl rfl)
theorem dX7_fitsRow_18 : decode cX7_fitsRow 18 = .ok (.iaload, 1) := dk_46 (dk_at dksX7_fitsRow_0 18 rfl rfl)
theorem dX7_fitsRow_19 : decode cX7_fitsRow 19 = .ok (.iload_n 2, 1) := dk_28 (dk_at dksX7_fitsRow_0 19 rfl rfl)
theorem dX7_fitsRow_20 : decode cX7_fitsRow 20 = .ok (.invokevirtual 304, 3) := dk_182 1 48 (dk_at dksX7_fitsRow_0 20 rfl rfl)
theorem dX7_fitsRow_23 : decode cX7_fitsRow 23 = .ok (.istore 4, 2) := dk_54 4 (dk_at dksX7_fitsRow_1 0 rfl rfl)
theorem dX7_fitsRow_25 : decode cX7_fitsRow 25 = .ok (.iload_n 1, 1) := dk_27 (dk_at dksX7_fitsRow_1 2 rfl rfl)
theorem dX7_fitsRow_26 : decode cX7_fitsRow 26 = .ok (.iload_n 3, 1) := dk_29 (dk_at dksX7_fitsRow_1 3 rfl rfl)
theorem dX7_fitsRow_27 : decode cX7_fitsRow 27 = .ok (.iconst (-1), 1) := dk_2 (dk_at dksX7_fitsRow_1 4 rfl rfl)
theorem dX7_fitsRow_28 : decode cX7_fitsRow 28 = .ok (.ixor, 1) := dk_130 (dk_at dksX7_fitsRow_1 5 rfl rfl)
theorem dX7_fitsRow_29 : decode cX7_fitsRow 29 = .ok (.iand, 1) := dk_126 (dk_at dksX7_fitsRow_1 6 rfl rfl)
theorem dX7_fitsRow_30 : decode cX7_fitsRow 30 = .ok (.ifCond .ne 28, 3) := dk_154 0 28 (dk_at dksX7_fitsRow_1 7 rfl rfl)
theorem dX7_fitsRow_33 : decode cX7_fitsRow 33 = .ok (.iload_n 1, 1) := dk_27 (dk_at dksX7_fitsRow_1 10 rfl rfl)
theorem dX7_fitsRow_34 : decode cX7_fitsRow 34 = .ok (.iload 4, 2) := dk_21 4 (dk_at dksX7_fitsRow_1 11 rfl rfl)
theorem dX7_fitsRow_36 : decode cX7_fitsRow 36 = .ok (.iand, 1) := dk_126 (dk_at dksX7_fitsRow_1 13 rfl rfl)
theorem dX7_fitsRow_37 : decode cX7_fitsRow 37 = .ok (.aload_n 0, 1) := dk_42 (dk_at dksX7_fitsRow_1 14 rfl rfl)
theorem dX7_fitsRow_38 : decode cX7_fitsRow 38 = .ok (.aload_n 0, 1) := dk_42 (dk_at dksX7_fitsRow_1 15 rfl rfl)
theorem dX7_fitsRow_39 : decode cX7_fitsRow 39 = .ok (.getfield 7, 3) := dk_180 0 7 (dk_at dksX7_fitsRow_1 16 rfl rfl)
theorem dX7_fitsRow_42 : decode cX7_fitsRow 42 = .ok (.iconst 3, 1) := dk_6 (dk_at dksX7_fitsRow_1 19 rfl rfl)
theorem dX7_fitsRow_43 : decode cX7_fitsRow 43 = .ok (.iaload, 1) := dk_46 (dk_at dksX7_fitsRow_1 20 rfl rfl)
theorem dX7_fitsRow_44 : decode cX7_fitsRow 44 = .ok (.iload_n 2, 1) := dk_28 (dk_at dksX7_fitsRow_1 21 rfl rfl)
theorem dX7_fitsRow_45 : decode cX7_fitsRow 45 = .ok (.invokevirtual 304, 3) := dk_182 1 48 (dk_at dksX7_fitsRow_2 0 rfl rfl)
theorem dX7_fitsRow_48 : decode cX7_fitsRow 48 = .ok (.iload 4, 2) := dk_21 4 (dk_at dksX7_fitsRow_2 3 rfl rfl)
theorem dX7_fitsRow_50 : decode cX7_fitsRow 50 = .ok (.iand, 1) := dk_126 (dk_at dksX7_fitsRow_2 5 rfl rfl)
theorem dX7_fitsRow_51 : decode cX7_fitsRow 51 = .ok (.if_icmp .ne 7, 3) := dk_160 0 7 (dk_at dksX7_fitsRow_2 6 rfl rfl)
theorem dX7_fitsRow_54 : decode cX7_fitsRow 54 = .ok (.iconst 1, 1) := dk_4 (dk_at dksX7_fitsRow_2 9 rfl rfl)
theorem dX7_fitsRow_55 : decode cX7_fitsRow 55 = .ok (.goto 4, 3) := dk_167 0 4 (dk_at dksX7_fitsRow_2 10 rfl rfl)
theorem dX7_fitsRow_58 : decode cX7_fitsRow 58 = .ok (.iconst 0, 1) := dk_3 (dk_at dksX7_fitsRow_2 13 rfl rfl)
theorem dX7_fitsRow_59 : decode cX7_fitsRow 59 = .ok (.ireturn, 1) := dk_172 (dk_at dksX7_fitsRow_2 14 rfl rfl)
abbrev cX7_isGood : ByteArray := prog_16_method_96_code
def yX7_isGood : MethodName := ⟨RX7, "isGood", "(IIIIZ)Z"⟩
def dkwX7_isGood_1 : List UInt8 := [46, 21, 4, 182, 1, 48, 160, 0, 7, 4, 167, 0, 4, 3, 172]
abbrev dktX7_isGood_1 : List UInt8 := dkwX7_isGood_1 ++ []
def dkwX7_isGood_0 : List UInt8 := [42, 27, 28, 29, 21, 4, 182, 1, 82, 21, 5, 153, 0, 7, 28, 167, 0, 15, 42, 42, 180, 0, 7, 6]
abbrev dktX7_isGood_0 : List UInt8 := dkwX7_isGood_0 ++ dktX7_isGood_1
theorem dksX7_isGood_0 : cX7_isGood.data.toList.drop 0 = dktX7_isGood_0 := by decide +kernel
theorem dksX7_isGood_1 : cX7_isGood.data.toList.drop 24 = dktX7_isGood_1 := dk_seg dksX7_isGood_0 24 rfl rfl
theorem dX7_isGood_0 : decode cX7_isGood 0 = .ok (.aload_n 0, 1) := dk_42 (dk_at dksX7_isGood_0 0 rfl rfl)
theorem dX7_isGood_1 : decode cX7_isGood 1 = .ok (.iload_n 1, 1) := dk_27 (dk_at dksX7_isGood_0 1 rfl rfl)
theorem dX7_isGood_2 : decode cX7_isGood 2 = .ok (.iload_n 2, 1) := dk_28 (dk_at dksX7_isGood_0 2 rfl rfl)
theorem dX7_isGood_3 : decode cX7_isGood 3 = .ok (.iload_n 3, 1) := dk_29 (dk_at dksX7_isGood_0 3 rfl rfl)
theorem dX7_isGood_4 : decode cX7_isGood 4 = .ok (.iload 4, 2) := dk_21 4 (dk_at dksX7_isGood_0 4 rfl rfl)
theorem dX7_isGood_6 : decode cX7_isGood 6 = .ok (.invokevirtual 338, 3) := dk_182 1 82 (dk_at dksX7_isGood_0 6 rfl rfl)
theorem dX7_isGood_9 : decode cX7_isGood 9 = .ok (.iload 5, 2) := dk_21 5 (dk_at dksX7_isGood_0 9 rfl rfl)
theorem dX7_isGood_11 : decode cX7_isGood 11 = .ok (.ifCond .eq 7, 3) := dk_153 0 7 (dk_at dksX7_isGood_0 11 rfl rfl)
theorem dX7_isGood_14 : decode cX7_isGood 14 = .ok (.iload_n 2, 1) := dk_28 (dk_at dksX7_isGood_0 14 rfl rfl)
theorem dX7_isGood_15 : decode cX7_isGood 15 = .ok (.goto 15, 3) := dk_167 0 15 (dk_at dksX7_isGood_0 15 rfl rfl)
theorem dX7_isGood_18 : decode cX7_isGood 18 = .ok (.aload_n 0, 1) := dk_42 (dk_at dksX7_isGood_0 18 rfl rfl)
theorem dX7_isGood_19 : decode cX7_isGood 19 = .ok (.aload_n 0, 1) := dk_42 (dk_at dksX7_isGood_0 19 rfl rfl)
theorem dX7_isGood_20 : decode cX7_isGood 20 = .ok (.getfield 7, 3) := dk_180 0 7 (dk_at dksX7_isGood_0 20 rfl rfl)
theorem dX7_isGood_23 : decode cX7_isGood 23 = .ok (.iconst 3, 1) := dk_6 (dk_at dksX7_isGood_0 23 rfl rfl)
theorem dX7_isGood_24 : decode cX7_isGood 24 = .ok (.iaload, 1) := dk_46 (dk_at dksX7_isGood_1 0 rfl rfl)
theorem dX7_isGood_25 : decode cX7_isGood 25 = .ok (.iload 4, 2) := dk_21 4 (dk_at dksX7_isGood_1 1 rfl rfl)
theorem dX7_isGood_27 : decode cX7_isGood 27 = .ok (.invokevirtual 304, 3) := dk_182 1 48 (dk_at dksX7_isGood_1 3 rfl rfl)
theorem dX7_isGood_30 : decode cX7_isGood 30 = .ok (.if_icmp .ne 7, 3) := dk_160 0 7 (dk_at dksX7_isGood_1 6 rfl rfl)
theorem dX7_isGood_33 : decode cX7_isGood 33 = .ok (.iconst 1, 1) := dk_4 (dk_at dksX7_isGood_1 9 rfl rfl)
theorem dX7_isGood_34 : decode cX7_isGood 34 = .ok (.goto 4, 3) := dk_167 0 4 (dk_at dksX7_isGood_1 10 rfl rfl)
theorem dX7_isGood_37 : decode cX7_isGood 37 = .ok (.iconst 0, 1) := dk_3 (dk_at dksX7_isGood_1 13 rfl rfl)
theorem dX7_isGood_38 : decode cX7_isGood 38 = .ok (.ireturn, 1) := dk_172 (dk_at dksX7_isGood_1 14 rfl rfl)
abbrev cX7_rowBecomes : ByteArray := prog_16_method_95_code
def yX7_rowBecomes : MethodName := ⟨RX7, "rowBecomes", "(IIII)I"⟩
def dkwX7_rowBecomes_10 : List UInt8 := [167, 255, 76, 21, 8, 172]
abbrev dktX7_rowBecomes_10 : List UInt8 := dkwX7_rowBecomes_10 ++ []
def dkwX7_rowBecomes_9 : List UInt8 := [28, 21, 9, 122, 4, 126, 96, 46, 21, 10, 122, 4, 126, 21, 9, 120, 128, 54, 8, 132, 9, 1]
abbrev dktX7_rowBecomes_9 : List UInt8 := dkwX7_rowBecomes_9 ++ dktX7_rowBecomes_10
def dkwX7_rowBecomes_8 : List UInt8 := [28, 4, 126, 96, 54, 10, 21, 8, 42, 180, 0, 7, 16, 12, 5, 42, 180, 0, 7, 16, 10, 46, 104, 96]
abbrev dktX7_rowBecomes_8 : List UInt8 := dkwX7_rowBecomes_8 ++ dktX7_rowBecomes_9
def dkwX7_rowBecomes_7 : List UInt8 := [4, 96, 122, 4, 126, 96, 54, 10, 167, 0, 22, 42, 180, 0, 7, 16, 9, 46, 4, 160, 0, 11, 21, 10]
abbrev dktX7_rowBecomes_7 : List UInt8 := dkwX7_rowBecomes_7 ++ dktX7_rowBecomes_8
def dkwX7_rowBecomes_6 : List UInt8 := [21, 5, 4, 100, 122, 4, 126, 96, 54, 10, 21, 9, 4, 96, 21, 5, 162, 0, 19, 21, 10, 28, 21, 9]
abbrev dktX7_rowBecomes_6 : List UInt8 := dkwX7_rowBecomes_6 ++ dktX7_rowBecomes_7
def dkwX7_rowBecomes_5 : List UInt8 := [122, 4, 126, 96, 54, 10, 167, 0, 27, 42, 180, 0, 7, 16, 9, 46, 4, 160, 0, 16, 21, 10, 28]
abbrev dktX7_rowBecomes_5 : List UInt8 := dkwX7_rowBecomes_5 ++ dktX7_rowBecomes_6
def dkwX7_rowBecomes_4 : List UInt8 := [122, 4, 126, 29, 21, 9, 122, 4, 126, 96, 54, 10, 21, 9, 158, 0, 19, 21, 10, 28, 21, 9, 4, 100]
abbrev dktX7_rowBecomes_4 : List UInt8 := dkwX7_rowBecomes_4 ++ dktX7_rowBecomes_5
def dkwX7_rowBecomes_3 : List UInt8 := [159, 0, 168, 21, 7, 21, 6, 2, 130, 126, 4, 21, 9, 120, 126, 154, 0, 6, 167, 0, 144, 27, 21, 9]
abbrev dktX7_rowBecomes_3 : List UInt8 := dkwX7_rowBecomes_3 ++ dktX7_rowBecomes_4
def dkwX7_rowBecomes_2 : List UInt8 := [21, 6, 126, 54, 8, 3, 54, 9, 21, 9, 21, 5, 162, 0, 179, 42, 180, 0, 7, 16, 10, 46, 2]
abbrev dktX7_rowBecomes_2 : List UInt8 := dkwX7_rowBecomes_2 ++ dktX7_rowBecomes_3
def dkwX7_rowBecomes_1 : List UInt8 := [180, 0, 7, 5, 46, 21, 4, 182, 1, 48, 54, 7, 42, 42, 180, 0, 7, 6, 46, 21, 4, 182, 1, 48]
abbrev dktX7_rowBecomes_1 : List UInt8 := dkwX7_rowBecomes_1 ++ dktX7_rowBecomes_2
def dkwX7_rowBecomes_0 : List UInt8 := [42, 180, 0, 7, 3, 46, 54, 5, 42, 42, 180, 0, 7, 7, 46, 21, 4, 182, 1, 48, 54, 6, 42, 42]
abbrev dktX7_rowBecomes_0 : List UInt8 := dkwX7_rowBecomes_0 ++ dktX7_rowBecomes_1
theorem dksX7_rowBecomes_0 : cX7_rowBecomes.data.toList.drop 0 = dktX7_rowBecomes_0 := by decide +kernel
theorem dksX7_rowBecomes_1 : cX7_rowBecomes.data.toList.drop 24 = dktX7_rowBecomes_1 := dk_seg dksX7_rowBecomes_0 24 rfl rfl
theorem dksX7_rowBecomes_2 : cX7_rowBecomes.data.toList.drop 48 = dktX7_rowBecomes_2 := dk_seg dksX7_rowBecomes_1 24 rfl rfl
theorem dksX7_rowBecomes_3 : cX7_rowBecomes.data.toList.drop 71 = dktX7_rowBecomes_3 := dk_seg dksX7_rowBecomes_2 23 rfl rfl
theorem dksX7_rowBecomes_4 : cX7_rowBecomes.data.toList.drop 95 = dktX7_rowBecomes_4 := dk_seg dksX7_rowBecomes_3 24 rfl rfl
theorem dksX7_rowBecomes_5 : cX7_rowBecomes.data.toList.drop 119 = dktX7_rowBecomes_5 := dk_seg dksX7_rowBecomes_4 24 rfl rfl
theorem dksX7_rowBecomes_6 : cX7_rowBecomes.data.toList.drop 142 = dktX7_rowBecomes_6 := dk_seg dksX7_rowBecomes_5 23 rfl rfl
theorem dksX7_rowBecomes_7 : cX7_rowBecomes.data.toList.drop 166 = dktX7_rowBecomes_7 := dk_seg dksX7_rowBecomes_6 24 rfl rfl
theorem dksX7_rowBecomes_8 : cX7_rowBecomes.data.toList.drop 190 = dktX7_rowBecomes_8 := dk_seg dksX7_rowBecomes_7 24 rfl rfl
theorem dksX7_rowBecomes_9 : cX7_rowBecomes.data.toList.drop 214 = dktX7_rowBecomes_9 := dk_seg dksX7_rowBecomes_8 24 rfl rfl
theorem dksX7_rowBecomes_10 : cX7_rowBecomes.data.toList.drop 236 = dktX7_rowBecomes_10 := dk_seg dksX7_rowBecomes_9 22 rfl rfl
theorem dX7_rowBecomes_0 : decode cX7_rowBecomes 0 = .ok (.aload_n 0, 1) := dk_42 (dk_at dksX7_rowBecomes_0 0 rfl rfl)
theorem dX7_rowBecomes_1 : decode cX7_rowBecomes 1 = .ok (.getfield 7, 3) := dk_180 0 7 (dk_at dksX7_rowBecomes_0 1 rfl rfl)
theorem dX7_rowBecomes_4 : decode cX7_rowBecomes 4 = .ok (.iconst 0, 1) := dk_3 (dk_at dksX7_rowBecomes_0 4 rfl rfl)
theorem dX7_rowBecomes_5 : decode cX7_rowBecomes 5 = .ok (.iaload, 1) := dk_46 (dk_at dksX7_rowBecomes_0 5 rfl rfl)
theorem dX7_rowBecomes_6 : decode cX7_rowBecomes 6 = .ok (.istore 5, 2) := dk_54 5 (dk_at dksX7_rowBecomes_0 6 rfl rfl)
theorem dX7_rowBecomes_8 : decode cX7_rowBecomes 8 = .ok (.aload_n 0, 1) := dk_42 (dk_at dksX7_rowBecomes_0 8 rfl rfl)
theorem dX7_rowBecomes_9 : decode cX7_rowBecomes 9 = .ok (.aload_n 0, 1) := dk_42 (dk_at dksX7_rowBecomes_0 9 rfl rfl)
theorem dX7_rowBecomes_10 : decode cX7_rowBecomes 10 = .ok (.getfield 7, 3) := dk_180 0 7 (dk_at dksX7_rowBecomes_0 10 rfl rfl)
theorem dX7_rowBecomes_13 : decode cX7_rowBecomes 13 = .ok (.iconst 4, 1) := dk_7 (dk_at dksX7_rowBecomes_0 13 rfl rfl)
theorem dX7_rowBecomes_14 : decode cX7_rowBecomes 14 = .ok (.iaload, 1) := dk_46 (dk_at dksX7_rowBecomes_0 14 rfl rfl)
theorem dX7_rowBecomes_15 : decode cX7_rowBecomes 15 = .ok (.iload 4, 2) := dk_21 4 (dk_at dksX7_rowBecomes_0 15 rfl rfl)
theorem dX7_rowBecomes_17 : decode cX7_rowBecomes 17 = .ok (.invokevirtual 304, 3) := dk_182 1 48 (dk_at dksX7_rowBecomes_0 17 rfl rfl)
theorem dX7_rowBecomes_20 : decode cX7_rowBecomes 20 = .ok (.istore 6, 2) := dk_54 6 (dk_at dksX7_rowBecomes_0 20 rfl rfl)
theorem dX7_rowBecomes_22 : decode cX7_rowBecomes 22 = .ok (.aload_n 0, 1) := dk_42 (dk_at dksX7_rowBecomes_0 22 rfl rfl)
theorem dX7_rowBecomes_23 : decode cX7_rowBecomes 23 = .ok (.aload_n 0, 1) := dk_42 (dk_at dksX7_rowBecomes_0 23 rfl rfl)
theorem dX7_rowBecomes_24 : decode cX7_rowBecomes 24 = .ok (.getfield 7, 3) := dk_180 0 7 (dk_at dksX7_rowBecomes_1 0 rfl rfl)
theorem dX7_rowBecomes_27 : decode cX7_rowBecomes 27 = .ok (.iconst 2, 1) := dk_5 (dk_at dksX7_rowBecomes_1 3 rfl rfl)
theorem dX7_rowBecomes_28 : decode cX7_rowBecomes 28 = .ok (.iaload, 1) := dk_46 (dk_at dksX7_rowBecomes_1 4 rfl rfl)
theorem dX7_rowBecomes_29 : decode cX7_rowBecomes 29 = .ok (.iload 4, 2) := dk_21 4 (dk_at dksX7_rowBecomes_1 5 rfl rfl)
theorem dX7_rowBecomes_31 : decode cX7_rowBecomes 31 = .ok (.invokevirtual 304, 3) := dk_182 1 48 (dk_at dksX7_rowBecomes_1 7 rfl rfl)
theorem dX7_rowBecomes_34 : decode cX7_rowBecomes 34 = .ok (.istore 7, 2) := dk_54 7 (dk_at dksX7_rowBecomes_1 10 rfl rfl)
theorem dX7_rowBecomes_36 : decode cX7_rowBecomes 36 = .ok (.aload_n 0, 1) := dk_42 (dk_at dksX7_rowBecomes_1 12 rfl rfl)
theorem dX7_rowBecomes_37 : decode cX7_rowBecomes 37 = .ok (.aload_n 0, 1) := dk_42 (dk_at dksX7_rowBecomes_1 13 rfl rfl)
theorem dX7_rowBecomes_38 : decode cX7_rowBecomes 38 = .ok (.getfield 7, 3) := dk_180 0 7 (dk_at dksX7_rowBecomes_1 14 rfl rfl)
theorem dX7_rowBecomes_41 : decode cX7_rowBecomes 41 = .ok (.iconst 3, 1) := dk_6 (dk_at dksX7_rowBecomes_1 17 rfl rfl)
theorem dX7_rowBecomes_42 : decode cX7_rowBecomes 42 = .ok (.iaload, 1) := dk_46 (dk_at dksX7_rowBecomes_1 18 rfl rfl)
theorem dX7_rowBecomes_43 : decode cX7_rowBecomes 43 = .ok (.iload 4, 2) := dk_21 4 (dk_at dksX7_rowBecomes_1 19 rfl rfl)
theorem dX7_rowBecomes_45 : decode cX7_rowBecomes 45 = .ok (.invokevirtual 304, 3) := dk_182 1 48 (dk_at dksX7_rowBecomes_1 21 rfl rfl)
theorem dX7_rowBecomes_48 : decode cX7_rowBecomes 48 = .ok (.iload 6, 2) := dk_21 6 (dk_at dksX7_rowBecomes_2 0 rfl rfl)
theorem dX7_rowBecomes_50 : decode cX7_rowBecomes 50 = .ok (.iand, 1) := dk_126 (dk_at dksX7_rowBecomes_2 2 rfl rfl)
theorem dX7_rowBecomes_51 : decode cX7_rowBecomes 51 = .ok (.istore 8, 2) := dk_54 8 (dk_at dksX7_rowBecomes_2 3 rfl rfl)
theorem dX7_rowBecomes_53 : decode cX7_rowBecomes 53 = .ok (.iconst 0, 1) := dk_3 (dk_at dksX7_rowBecomes_2 5 rfl rfl)
theorem dX7_rowBecomes_54 : decode cX7_rowBecomes 54 = .ok (.istore 9, 2) := dk_54 9 (dk_at dksX7_rowBecomes_2 6 rfl rfl)
theorem dX7_rowBecomes_56 : decode cX7_rowBecomes 56 = .ok (.iload 9, 2) := dk_21 9 (dk_at dksX7_rowBecomes_2 8 rfl rfl)
theorem dX7_rowBecomes_58 : decode cX7_rowBecomes 58 = .ok (.iload 5, 2) := dk_21 5 (dk_at dksX7_rowBecomes_2 10 rfl rfl)
theorem dX7_rowBecomes_60 : decode cX7_rowBecomes 60 = .ok (.if_icmp .ge 179, 3) := dk_162 0 179 (dk_at dksX7_rowBecomes_2 12 rfl rfl)
theorem dX7_rowBecomes_63 : decode cX7_rowBecomes 63 = .ok (.aload_n 0, 1) := dk_42 (dk_at dksX7_rowBecomes_2 15 rfl rfl)
theorem dX7_rowBecomes_64 : decode cX7_rowBecomes 64 = .ok (.getfield 7, 3) := dk_180 0 7 (dk_at dksX7_rowBecomes_2 16 rfl rfl)
theorem dX7_rowBecomes_67 : decode cX7_rowBecomes 67 = .ok (.bipush 10, 2) := dk_16 10 (dk_at dksX7_rowBecomes_2 19 rfl rfl)
theorem dX7_rowBecomes_69 : decode cX7_rowBecomes 69 = .ok (.iaload, 1) := dk_46 (dk_at dksX7_rowBecomes_2 21 rfl rfl)
theorem dX7_rowBecomes_70 : decode cX7_rowBecomes 70 = .ok (.iconst (-1), 1) := dk_2 (dk_at dksX7_rowBecomes_2 22 rfl rfl)
theorem dX7_rowBecomes_71 : decode cX7_rowBecomes 71 = .ok (.if_icmp .eq 168, 3) := dk_159 0 168 (dk_at dksX7_rowBecomes_3 0 rfl rfl)
theorem dX7_rowBecomes_74 : decode cX7_rowBecomes 74 = .ok (.iload 7, 2) := dk_21 7 (dk_at dksX7_rowBecomes_3 3 rfl rfl)
theorem dX7_rowBecomes_76 : decode cX7_rowBecomes 76 = .ok (.iload 6, 2) := dk_21 6 (dk_at dksX7_rowBecomes_3 5 rfl rfl)
theorem dX7_rowBecomes_78 : decode cX7_rowBecomes 78 = .ok (.iconst (-1), 1) := dk_2 (dk_at dksX7_rowBecomes_3 7 rfl rfl)
theorem dX7_rowBecomes_79 : decode cX7_rowBecomes 79 = .ok (.ixor, 1) := dk_130 (dk_at dksX7_rowBecomes_3 8 rfl rfl)
theorem dX7_rowBecomes_80 : decode cX7_rowBecomes 80 = .ok (.iand, 1) := dk_126 (dk_at dksX7_rowBecomes_3 9 rfl rfl)
theorem dX7_rowBecomes_81 : decode cX7_rowBecomes 81 = .ok (.iconst 1, 1) := dk_4 (dk_at dksX7_rowBecomes_3 10 rfl rfl)
theorem dX7_rowBecomes_82 : decode cX7_rowBecomes 82 = .ok (.iload 9, 2) := dk_21 9 (dk_at dksX7_rowBecomes_3 11 rfl rfl)
theorem dX7_rowBecomes_84 : decode cX7_rowBecomes 84 = .ok (.ishl, 1) := dk_120 (dk_at dksX7_rowBecomes_3 13 rfl rfl)
theorem dX7_rowBecomes_85 : decode cX7_rowBecomes 85 = .ok (.iand, 1) := dk_126 (dk_at dksX7_rowBecomes_3 14 rfl rfl)
theorem dX7_rowBecomes_86 : decode cX7_rowBecomes 86 = .ok (.ifCond .ne 6, 3) := dk_154 0 6 (dk_at dksX7_rowBecomes_3 15 rfl rfl)
theorem dX7_rowBecomes_89 : decode cX7_rowBecomes 89 = .ok (.goto 144, 3) := dk_167 0 144 (dk_at dksX7_rowBecomes_3 18 rfl rfl)
theorem dX7_rowBecomes_92 : decode cX7_rowBecomes 92 = .ok (.iload_n 1, 1) := dk_27 (dk_at dksX7_rowBecomes_3 21 rfl rfl)
theorem dX7_rowBecomes_93 : decode cX7_rowBecomes 93 = .ok (.iload 9, 2) := dk_21 9 (dk_at dksX7_rowBecomes_3 22 rfl rfl)
theorem dX7_rowBecomes_95 : decode cX7_rowBecomes 95 = .ok (.ishr, 1) := dk_122 (dk_at dksX7_rowBecomes_4 0 rfl rfl)
theorem dX7_rowBecomes_96 : decode cX7_rowBecomes 96 = .ok (.iconst 1, 1) := dk_4 (dk_at dksX7_rowBecomes_4 1 rfl rfl)
theorem dX7_rowBecomes_97 : decode cX7_rowBecomes 97 = .ok (.iand, 1) := dk_126 (dk_at dksX7_rowBecomes_4 2 rfl rfl)
theorem dX7_rowBecomes_98 : decode cX7_rowBecomes 98 = .ok (.iload_n 3, 1) := dk_29 (dk_at dksX7_rowBecomes_4 3 rfl rfl)
theorem dX7_rowBecomes_99 : decode cX7_rowBecomes 99 = .ok (.iload 9, 2) := dk_21 9 (dk_at dksX7_rowBecomes_4 4 rfl rfl)
theorem dX7_rowBecomes_101 : decode cX7_rowBecomes 101 = .ok (.ishr, 1) := dk_122 (dk_at dksX7_rowBecomes_4 6 rfl rfl)
theorem dX7_rowBecomes_102 : decode cX7_rowBecomes 102 = .ok (.iconst 1, 1) := dk_4 (dk_at dksX7_rowBecomes_4 7 rfl rfl)
theorem dX7_rowBecomes_103 : decode cX7_rowBecomes 103 = .ok (.iand, 1) := dk_126 (dk_at dksX7_rowBecomes_4 8 rfl rfl)
theorem dX7_rowBecomes_104 : decode cX7_rowBecomes 104 = .ok (.iadd, 1) := dk_96 (dk_at dksX7_rowBecomes_4 9 rfl rfl)
theorem dX7_rowBecomes_105 : decode cX7_rowBecomes 105 = .ok (.istore 10, 2) := dk_54 10 (dk_at dksX7_rowBecomes_4 10 rfl rfl)
theorem dX7_rowBecomes_107 : decode cX7_rowBecomes 107 = .ok (.iload 9, 2) := dk_21 9 (dk_at dksX7_rowBecomes_4 12 rfl rfl)
theorem dX7_rowBecomes_109 : decode cX7_rowBecomes 109 = .ok (.ifCond .le 19, 3) := dk_158 0 19 (dk_at dksX7_rowBecomes_4 14 rfl rfl)
theorem dX7_rowBecomes_112 : decode cX7_rowBecomes 112 = .ok (.iload 10, 2) := dk_21 10 (dk_at dksX7_rowBecomes_4 17 rfl rfl)
theorem dX7_rowBecomes_114 : decode cX7_rowBecomes 114 = .ok (.iload_n 2, 1) := dk_28 (dk_at dksX7_rowBecomes_4 19 rfl rfl)
theorem dX7_rowBecomes_115 : decode cX7_rowBecomes 115 = .ok (.iload 9, 2) := dk_21 9 (dk_at dksX7_rowBecomes_4 20 rfl rfl)
theorem dX7_rowBecomes_117 : decode cX7_rowBecomes 117 = .ok (.iconst 1, 1) := dk_4 (dk_at dksX7_rowBecomes_4 22 rfl rfl)
theorem dX7_rowBecomes_118 : decode cX7_rowBecomes 118 = .ok (.isub, 1) := dk_100 (dk_at dksX7_rowBecomes_4 23 rfl rfl)
theorem dX7_rowBecomes_119 : decode cX7_rowBecomes 119 = .ok (.ishr, 1) := dk_122 (dk_at dksX7_rowBecomes_5 0 rfl rfl)
theorem dX7_rowBecomes_120 : decode cX7_rowBecomes 120 = .ok (.iconst 1, 1) := dk_4 (dk_at dksX7_rowBecomes_5 1 rfl rfl)
theorem dX7_rowBecomes_121 : decode cX7_rowBecomes 121 = .ok (.iand, 1) := dk_126 (dk_at dksX7_rowBecomes_5 2 rfl rfl)
theorem dX7_rowBecomes_122 : decode cX7_rowBecomes 122 = .ok (.iadd, 1) := dk_96 (dk_at dksX7_rowBecomes_5 3 rfl rfl)
theorem dX7_rowBecomes_123 : decode cX7_rowBecomes 123 = .ok (.istore 10, 2) := dk_54 10 (dk_at dksX7_rowBecomes_5 4 rfl rfl)
theorem dX7_rowBecomes_125 : decode cX7_rowBecomes 125 = .ok (.goto 27, 3) := dk_167 0 27 (dk_at dksX7_rowBecomes_5 6 rfl rfl)
theorem dX7_rowBecomes_128 : decode cX7_rowBecomes 128 = .ok (.aload_n 0, 1) := dk_42 (dk_at dksX7_rowBecomes_5 9 rfl rfl)
theorem dX7_rowBecomes_129 : decode cX7_rowBecomes 129 = .ok (.getfield 7, 3) := dk_180 0 7 (dk_at dksX7_rowBecomes_5 10 rfl rfl)
theorem dX7_rowBecomes_132 : decode cX7_rowBecomes 132 = .ok (.bipush 9, 2) := dk_16 9 (dk_at dksX7_rowBecomes_5 13 rfl rfl)
theorem dX7_rowBecomes_134 : decode cX7_rowBecomes 134 = .ok (.iaload, 1) := dk_46 (dk_at dksX7_rowBecomes_5 15 rfl rfl)
theorem dX7_rowBecomes_135 : decode cX7_rowBecomes 135 = .ok (.iconst 1, 1) := dk_4 (dk_at dksX7_rowBecomes_5 16 rfl rfl)
theorem dX7_rowBecomes_136 : decode cX7_rowBecomes 136 = .ok (.if_icmp .ne 16, 3) := dk_160 0 16 (dk_at dksX7_rowBecomes_5 17 rfl rfl)
theorem dX7_rowBecomes_139 : decode cX7_rowBecomes 139 = .ok (.iload 10, 2) := dk_21 10 (dk_at dksX7_rowBecomes_5 20 rfl rfl)
theorem dX7_rowBecomes_141 : decode cX7_rowBecomes 141 = .ok (.iload_n 2, 1) := dk_28 (dk_at dksX7_rowBecomes_5 22 rfl rfl)
theorem dX7_rowBecomes_142 : decode cX7_rowBecomes 142 = .ok (.iload 5, 2) := dk_21 5 (dk_at dksX7_rowBecomes_6 0 rfl rfl)
theorem dX7_rowBecomes_144 : decode cX7_rowBecomes 144 = .ok (.iconst 1, 1) := dk_4 (dk_at dksX7_rowBecomes_6 2 rfl rfl)
theorem dX7_rowBecomes_145 : decode cX7_rowBecomes 145 = .ok (.isub, 1) := dk_100 (dk_at dksX7_rowBecomes_6 3 rfl rfl)
theorem dX7_rowBecomes_146 : decode cX7_rowBecomes 146 = .ok (.ishr, 1) := dk_122 (dk_at dksX7_rowBecomes_6 4 rfl rfl)
theorem dX7_rowBecomes_147 : decode cX7_rowBecomes 147 = .ok (.iconst 1, 1) := dk_4 (dk_at dksX7_rowBecomes_6 5 rfl rfl)
theorem dX7_rowBecomes_148 : decode cX7_rowBecomes 148 = .ok (.iand, 1) := dk_126 (dk_at dksX7_rowBecomes_6 6 rfl rfl)
theorem dX7_rowBecomes_149 : decode cX7_rowBecomes 149 = .ok (.iadd, 1) := dk_96 (dk_at dksX7_rowBecomes_6 7 rfl rfl)
theorem dX7_rowBecomes_150 : decode cX7_rowBecomes 150 = .ok (.istore 10, 2) := dk_54 10 (dk_at dksX7_rowBecomes_6 8 rfl rfl)
theorem dX7_rowBecomes_152 : decode cX7_rowBecomes 152 = .ok (.iload 9, 2) := dk_21 9 (dk_at dksX7_rowBecomes_6 10 rfl rfl)
theorem dX7_rowBecomes_154 : decode cX7_rowBecomes 154 = .ok (.iconst 1, 1) := dk_4 (dk_at dksX7_rowBecomes_6 12 rfl rfl)
theorem dX7_rowBecomes_155 : decode cX7_rowBecomes 155 = .ok (.iadd, 1) := dk_96 (dk_at dksX7_rowBecomes_6 13 rfl rfl)
theorem dX7_rowBecomes_156 : decode cX7_rowBecomes 156 = .ok (.iload 5, 2) := dk_21 5 (dk_at dksX7_rowBecomes_6 14 rfl rfl)
theorem dX7_rowBecomes_158 : decode cX7_rowBecomes 158 = .ok (.if_icmp .ge 19, 3) := dk_162 0 19 (dk_at dksX7_rowBecomes_6 16 rfl rfl)
theorem dX7_rowBecomes_161 : decode cX7_rowBecomes 161 = .ok (.iload 10, 2) := dk_21 10 (dk_at dksX7_rowBecomes_6 19 rfl rfl)
theorem dX7_rowBecomes_163 : decode cX7_rowBecomes 163 = .ok (.iload_n 2, 1) := dk_28 (dk_at dksX7_rowBecomes_6 21 rfl rfl)
theorem dX7_rowBecomes_164 : decode cX7_rowBecomes 164 = .ok (.iload 9, 2) := dk_21 9 (dk_at dksX7_rowBecomes_6 22 rfl rfl)
theorem dX7_rowBecomes_166 : decode cX7_rowBecomes 166 = .ok (.iconst 1, 1) := dk_4 (dk_at dksX7_rowBecomes_7 0 rfl rfl)
theorem dX7_rowBecomes_167 : decode cX7_rowBecomes 167 = .ok (.iadd, 1) := dk_96 (dk_at dksX7_rowBecomes_7 1 rfl rfl)
theorem dX7_rowBecomes_168 : decode cX7_rowBecomes 168 = .ok (.ishr, 1) := dk_122 (dk_at dksX7_rowBecomes_7 2 rfl rfl)
theorem dX7_rowBecomes_169 : decode cX7_rowBecomes 169 = .ok (.iconst 1, 1) := dk_4 (dk_at dksX7_rowBecomes_7 3 rfl rfl)
theorem dX7_rowBecomes_170 : decode cX7_rowBecomes 170 = .ok (.iand, 1) := dk_126 (dk_at dksX7_rowBecomes_7 4 rfl rfl)
theorem dX7_rowBecomes_171 : decode cX7_rowBecomes 171 = .ok (.iadd, 1) := dk_96 (dk_at dksX7_rowBecomes_7 5 rfl rfl)
theorem dX7_rowBecomes_172 : decode cX7_rowBecomes 172 = .ok (.istore 10, 2) := dk_54 10 (dk_at dksX7_rowBecomes_7 6 rfl rfl)
theorem dX7_rowBecomes_174 : decode cX7_rowBecomes 174 = .ok (.goto 22, 3) := dk_167 0 22 (dk_at dksX7_rowBecomes_7 8 rfl rfl)
theorem dX7_rowBecomes_177 : decode cX7_rowBecomes 177 = .ok (.aload_n 0, 1) := dk_42 (dk_at dksX7_rowBecomes_7 11 rfl rfl)
theorem dX7_rowBecomes_178 : decode cX7_rowBecomes 178 = .ok (.getfield 7, 3) := dk_180 0 7 (dk_at dksX7_rowBecomes_7 12 rfl rfl)
theorem dX7_rowBecomes_181 : decode cX7_rowBecomes 181 = .ok (.bipush 9, 2) := dk_16 9 (dk_at dksX7_rowBecomes_7 15 rfl rfl)
theorem dX7_rowBecomes_183 : decode cX7_rowBecomes 183 = .ok (.iaload, 1) := dk_46 (dk_at dksX7_rowBecomes_7 17 rfl rfl)
theorem dX7_rowBecomes_184 : decode cX7_rowBecomes 184 = .ok (.iconst 1, 1) := dk_4 (dk_at dksX7_rowBecomes_7 18 rfl rfl)
theorem dX7_rowBecomes_185 : decode cX7_rowBecomes 185 = .ok (.if_icmp .ne 11, 3) := dk_160 0 11 (dk_at dksX7_rowBecomes_7 19 rfl rfl)
theorem dX7_rowBecomes_188 : decode cX7_rowBecomes 188 = .ok (.iload 10, 2) := dk_21 10 (dk_at dksX7_rowBecomes_7 22 rfl rfl)
theorem dX7_rowBecomes_190 : decode cX7_rowBecomes 190 = .ok (.iload_n 2, 1) := dk_28 (dk_at dksX7_rowBecomes_8 0 rfl rfl)
theorem dX7_rowBecomes_191 : decode cX7_rowBecomes 191 = .ok (.iconst 1, 1) := dk_4 (dk_at dksX7_rowBecomes_8 1 rfl rfl)
theorem dX7_rowBecomes_192 : decode cX7_rowBecomes 192 = .ok (.iand, 1) := dk_126 (dk_at dksX7_rowBecomes_8 2 rfl rfl)
theorem dX7_rowBecomes_193 : decode cX7_rowBecomes 193 = .ok (.iadd, 1) := dk_96 (dk_at dksX7_rowBecomes_8 3 rfl rfl)
theorem dX7_rowBecomes_194 : decode cX7_rowBecomes 194 = .ok (.istore 10, 2) := dk_54 10 (dk_at dksX7_rowBecomes_8 4 rfl rfl)
theorem dX7_rowBecomes_196 : decode cX7_rowBecomes 196 = .ok (.iload 8, 2) := dk_21 8 (dk_at dksX7_rowBecomes_8 6 rfl rfl)
theorem dX7_rowBecomes_198 : decode cX7_rowBecomes 198 = .ok (.aload_n 0, 1) := dk_42 (dk_at dksX7_rowBecomes_8 8 rfl rfl)
theorem dX7_rowBecomes_199 : decode cX7_rowBecomes 199 = .ok (.getfield 7, 3) := dk_180 0 7 (dk_at dksX7_rowBecomes_8 9 rfl rfl)
theorem dX7_rowBecomes_202 : decode cX7_rowBecomes 202 = .ok (.bipush 12, 2) := dk_16 12 (dk_at dksX7_rowBecomes_8 12 rfl rfl)
theorem dX7_rowBecomes_204 : decode cX7_rowBecomes 204 = .ok (.iconst 2, 1) := dk_5 (dk_at dksX7_rowBecomes_8 14 rfl rfl)
theorem dX7_rowBecomes_205 : decode cX7_rowBecomes 205 = .ok (.aload_n 0, 1) := dk_42 (dk_at dksX7_rowBecomes_8 15 rfl rfl)
theorem dX7_rowBecomes_206 : decode cX7_rowBecomes 206 = .ok (.getfield 7, 3) := dk_180 0 7 (dk_at dksX7_rowBecomes_8 16 rfl rfl)
theorem dX7_rowBecomes_209 : decode cX7_rowBecomes 209 = .ok (.bipush 10, 2) := dk_16 10 (dk_at dksX7_rowBecomes_8 19 rfl rfl)
theorem dX7_rowBecomes_211 : decode cX7_rowBecomes 211 = .ok (.iaload, 1) := dk_46 (dk_at dksX7_rowBecomes_8 21 rfl rfl)
theorem dX7_rowBecomes_212 : decode cX7_rowBecomes 212 = .ok (.imul, 1) := dk_104 (dk_at dksX7_rowBecomes_8 22 rfl rfl)
theorem dX7_rowBecomes_213 : decode cX7_rowBecomes 213 = .ok (.iadd, 1) := dk_96 (dk_at dksX7_rowBecomes_8 23 rfl rfl)
theorem dX7_rowBecomes_214 : decode cX7_rowBecomes 214 = .ok (.iload_n 2, 1) := dk_28 (dk_at dksX7_rowBecomes_9 0 rfl rfl)
theorem dX7_rowBecomes_215 : decode cX7_rowBecomes 215 = .ok (.iload 9, 2) := dk_21 9 (dk_at dksX7_rowBecomes_9 1 rfl rfl)
theorem dX7_rowBecomes_217 : decode cX7_rowBecomes 217 = .ok (.ishr, 1) := dk_122 (dk_at dksX7_rowBecomes_9 3 rfl rfl)
theorem dX7_rowBecomes_218 : decode cX7_rowBecomes 218 = .ok (.iconst 1, 1) := dk_4 (dk_at dksX7_rowBecomes_9 4 rfl rfl)
theorem dX7_rowBecomes_219 : decode cX7_rowBecomes 219 = .ok (.iand, 1) := dk_126 (dk_at dksX7_rowBecomes_9 5 rfl rfl)
theorem dX7_rowBecomes_220 : decode cX7_rowBecomes 220 = .ok (.iadd, 1) := dk_96 (dk_at dksX7_rowBecomes_9 6 rfl rfl)
theorem dX7_rowBecomes_221 : decode cX7_rowBecomes 221 = .ok (.iaload, 1) := dk_46 (dk_at dksX7_rowBecomes_9 7 rfl rfl)
theorem dX7_rowBecomes_222 : decode cX7_rowBecomes 222 = .ok (.iload 10, 2) := dk_21 10 (dk_at dksX7_rowBecomes_9 8 rfl rfl)
theorem dX7_rowBecomes_224 : decode cX7_rowBecomes 224 = .ok (.ishr, 1) := dk_122 (dk_at dksX7_rowBecomes_9 10 rfl rfl)
theorem dX7_rowBecomes_225 : decode cX7_rowBecomes 225 = .ok (.iconst 1, 1) := dk_4 (dk_at dksX7_rowBecomes_9 11 rfl rfl)
theorem dX7_rowBecomes_226 : decode cX7_rowBecomes 226 = .ok (.iand, 1) := dk_126 (dk_at dksX7_rowBecomes_9 12 rfl rfl)
theorem dX7_rowBecomes_227 : decode cX7_rowBecomes 227 = .ok (.iload 9, 2) := dk_21 9 (dk_at dksX7_rowBecomes_9 13 rfl rfl)
theorem dX7_rowBecomes_229 : decode cX7_rowBecomes 229 = .ok (.ishl, 1) := dk_120 (dk_at dksX7_rowBecomes_9 15 rfl rfl)
theorem dX7_rowBecomes_230 : decode cX7_rowBecomes 230 = .ok (.ior, 1) := dk_128 (dk_at dksX7_rowBecomes_9 16 rfl rfl)
theorem dX7_rowBecomes_231 : decode cX7_rowBecomes 231 = .ok (.istore 8, 2) := dk_54 8 (dk_at dksX7_rowBecomes_9 17 rfl rfl)
theorem dX7_rowBecomes_233 : decode cX7_rowBecomes 233 = .ok (.iinc 9 1, 3) := dk_132 9 1 (dk_at dksX7_rowBecomes_9 19 rfl rfl)
theorem dX7_rowBecomes_236 : decode cX7_rowBecomes 236 = .ok (.goto (-180), 3) := dk_167 255 76 (dk_at dksX7_rowBecomes_10 0 rfl rfl)
theorem dX7_rowBecomes_239 : decode cX7_rowBecomes 239 = .ok (.iload 8, 2) := dk_21 8 (dk_at dksX7_rowBecomes_10 3 rfl rfl)
theorem dX7_rowBecomes_241 : decode cX7_rowBecomes 241 = .ok (.ireturn, 1) := dk_172 (dk_at dksX7_rowBecomes_10 5 rfl rfl)
abbrev cX7_ancestor : ByteArray := prog_16_method_101_code
def yX7_ancestor : MethodName := ⟨RX7, "ancestor", "()J"⟩
def dkwX7_ancestor_1 : List UInt8 := [182, 1, 101, 182, 1, 24, 173]
abbrev dktX7_ancestor_1 : List UInt8 := dkwX7_ancestor_1 ++ []
def dkwX7_ancestor_0 : List UInt8 := [42, 3, 182, 1, 97, 9, 148, 154, 0, 13, 42, 16, 6, 182, 0, 81, 133, 167, 0, 12, 42, 42, 3]
abbrev dktX7_ancestor_0 : List UInt8 := dkwX7_ancestor_0 ++ dktX7_ancestor_1
theorem dksX7_ancestor_0 : cX7_ancestor.data.toList.drop 0 = dktX7_ancestor_0 := by decide +kernel
theorem dksX7_ancestor_1 : cX7_ancestor.data.toList.drop 23 = dktX7_ancestor_1 := dk_seg dksX7_ancestor_0 23 rfl rfl
theorem dX7_ancestor_0 : decode cX7_ancestor 0 = .ok (.aload_n 0, 1) := dk_42 (dk_at dksX7_ancestor_0 0 rfl rfl)
theorem dX7_ancestor_1 : decode cX7_ancestor 1 = .ok (.iconst 0, 1) := dk_3 (dk_at dksX7_ancestor_0 1 rfl rfl)
theorem dX7_ancestor_2 : decode cX7_ancestor 2 = .ok (.invokevirtual 353, 3) := dk_182 1 97 (dk_at dksX7_ancestor_0 2 rfl rfl)
theorem dX7_ancestor_5 : decode cX7_ancestor 5 = .ok (.lconst 0, 1) := dk_9 (dk_at dksX7_ancestor_0 5 rfl rfl)
theorem dX7_ancestor_6 : decode cX7_ancestor 6 = .ok (.lcmp, 1) := dk_148 (dk_at dksX7_ancestor_0 6 rfl rfl)
theorem dX7_ancestor_7 : decode cX7_ancestor 7 = .ok (.ifCond .ne 13, 3) := dk_154 0 13 (dk_at dksX7_ancestor_0 7 rfl rfl)
theorem dX7_ancestor_10 : decode cX7_ancestor 10 = .ok (.aload_n 0, 1) := dk_42 (dk_at dksX7_ancestor_0 10 rfl rfl)
theorem dX7_ancestor_11 : decode cX7_ancestor 11 = .ok (.bipush 6, 2) := dk_16 6 (dk_at dksX7_ancestor_0 11 rfl rfl)
theorem dX7_ancestor_13 : decode cX7_ancestor 13 = .ok (.invokevirtual 81, 3) := dk_182 0 81 (dk_at dksX7_ancestor_0 13 rfl rfl)
theorem dX7_ancestor_16 : decode cX7_ancestor 16 = .ok (.i2l, 1) := dk_133 (dk_at dksX7_ancestor_0 16 rfl rfl)
theorem dX7_ancestor_17 : decode cX7_ancestor 17 = .ok (.goto 12, 3) := dk_167 0 12 (dk_at dksX7_ancestor_0 17 rfl rfl)
theorem dX7_ancestor_20 : decode cX7_ancestor 20 = .ok (.aload_n 0, 1) := dk_42 (dk_at dksX7_ancestor_0 20 rfl rfl)
theorem dX7_ancestor_21 : decode cX7_ancestor 21 = .ok (.aload_n 0, 1) := dk_42 (dk_at dksX7_ancestor_0 21 rfl rfl)
theorem dX7_ancestor_22 : decode cX7_ancestor 22 = .ok (.iconst 0, 1) := dk_3 (dk_at dksX7_ancestor_0 22 rfl rfl)
theorem dX7_ancestor_23 : decode cX7_ancestor 23 = .ok (.invokevirtual 357, 3) := dk_182 1 101 (dk_at dksX7_ancestor_1 0 rfl rfl)
theorem dX7_ancestor_26 : decode cX7_ancestor 26 = .ok (.invokevirtual 280, 3) := dk_182 1 24 (dk_at dksX7_ancestor_1 3 rfl rfl)
theorem dX7_ancestor_29 : decode cX7_ancestor 29 = .ok (.lreturn, 1) := dk_173 (dk_at dksX7_ancestor_1 6 rfl rfl)
abbrev cX7_least : ByteArray := prog_16_method_98_code
def yX7_least : MethodName := ⟨RX7, "least", "(Z)J"⟩
def dkwX7_least_4 : List UInt8 := [54, 6, 42, 21, 4, 29, 28, 27, 182, 1, 93, 54, 5, 167, 255, 215, 21, 6, 133, 173]
abbrev dktX7_least_4 : List UInt8 := dkwX7_least_4 ++ []
def dkwX7_least_3 : List UInt8 := [132, 2, 255, 21, 4, 62, 21, 5, 54, 4, 21, 6, 21, 4, 42, 180, 0, 7, 3, 46, 28, 104, 120, 128]
abbrev dktX7_least_3 : List UInt8 := dkwX7_least_3 ++ dktX7_least_4
def dkwX7_least_2 : List UInt8 := [54, 4, 167, 255, 223, 21, 4, 42, 180, 0, 7, 3, 46, 28, 104, 120, 54, 6, 28, 158, 0, 43]
abbrev dktX7_least_2 : List UInt8 := dkwX7_least_2 ++ dktX7_least_3
def dkwX7_least_1 : List UInt8 := [21, 4, 29, 28, 27, 182, 1, 93, 54, 5, 21, 4, 21, 5, 2, 160, 0, 7, 4, 167, 0, 4, 3, 96]
abbrev dktX7_least_1 : List UInt8 := dkwX7_least_1 ++ dktX7_least_2
def dkwX7_least_0 : List UInt8 := [42, 180, 0, 7, 4, 46, 4, 100, 61, 3, 62, 3, 54, 4, 2, 54, 5, 21, 5, 2, 160, 0, 33, 42]
abbrev dktX7_least_0 : List UInt8 := dkwX7_least_0 ++ dktX7_least_1
theorem dksX7_least_0 : cX7_least.data.toList.drop 0 = dktX7_least_0 := by decide +kernel
theorem dksX7_least_1 : cX7_least.data.toList.drop 24 = dktX7_least_1 := dk_seg dksX7_least_0 24 rfl rfl
theorem dksX7_least_2 : cX7_least.data.toList.drop 48 = dktX7_least_2 := dk_seg dksX7_least_1 24 rfl rfl
theorem dksX7_least_3 : cX7_least.data.toList.drop 70 = dktX7_least_3 := dk_seg dksX7_least_2 22 rfl rfl
theorem dksX7_least_4 : cX7_least.data.toList.drop 94 = dktX7_least_4 := dk_seg dksX7_least_3 24 rfl rfl
theorem dX7_least_0 : decode cX7_least 0 = .ok (.aload_n 0, 1) := dk_42 (dk_at dksX7_least_0 0 rfl rfl)
theorem dX7_least_1 : decode cX7_least 1 = .ok (.getfield 7, 3) := dk_180 0 7 (dk_at dksX7_least_0 1 rfl rfl)
theorem dX7_least_4 : decode cX7_least 4 = .ok (.iconst 1, 1) := dk_4 (dk_at dksX7_least_0 4 rfl rfl)
theorem dX7_least_5 : decode cX7_least 5 = .ok (.iaload, 1) := dk_46 (dk_at dksX7_least_0 5 rfl rfl)
theorem dX7_least_6 : decode cX7_least 6 = .ok (.iconst 1, 1) := dk_4 (dk_at dksX7_least_0 6 rfl rfl)
theorem dX7_least_7 : decode cX7_least 7 = .ok (.isub, 1) := dk_100 (dk_at dksX7_least_0 7 rfl rfl)
theorem dX7_least_8 : decode cX7_least 8 = .ok (.istore_n 2, 1) := dk_61 (dk_at dksX7_least_0 8 rfl rfl)
theorem dX7_least_9 : decode cX7_least 9 = .ok (.iconst 0, 1) := dk_3 (dk_at dksX7_least_0 9 rfl rfl)
theorem dX7_least_10 : decode cX7_least 10 = .ok (.istore_n 3, 1) := dk_62 (dk_at dksX7_least_0 10 rfl rfl)
theorem dX7_least_11 : decode cX7_least 11 = .ok (.iconst 0, 1) := dk_3 (dk_at dksX7_least_0 11 rfl rfl)
theorem dX7_least_12 : decode cX7_least 12 = .ok (.istore 4, 2) := dk_54 4 (dk_at dksX7_least_0 12 rfl rfl)
theorem dX7_least_14 : decode cX7_least 14 = .ok (.iconst (-1), 1) := dk_2 (dk_at dksX7_least_0 14 rfl rfl)
theorem dX7_least_15 : decode cX7_least 15 = .ok (.istore 5, 2) := dk_54 5 (dk_at dksX7_least_0 15 rfl rfl)
theorem dX7_least_17 : decode cX7_least 17 = .ok (.iload 5, 2) := dk_21 5 (dk_at dksX7_least_0 17 rfl rfl)
theorem dX7_least_19 : decode cX7_least 19 = .ok (.iconst (-1), 1) := dk_2 (dk_at dksX7_least_0 19 rfl rfl)
theorem dX7_least_20 : decode cX7_least 20 = .ok (.if_icmp .ne 33, 3) := dk_160 0 33 (dk_at dksX7_least_0 20 rfl rfl)
theorem dX7_least_23 : decode cX7_least 23 = .ok (.aload_n 0, 1) := dk_42 (dk_at dksX7_least_0 23 rfl rfl)
theorem dX7_least_24 : decode cX7_least 24 = .ok (.iload 4, 2) := dk_21 4 (dk_at dksX7_least_1 0 rfl rfl)
theorem dX7_least_26 : decode cX7_least 26 = .ok (.iload_n 3, 1) := dk_29 (dk_at dksX7_least_1 2 rfl rfl)
theorem dX7_least_27 : decode cX7_least 27 = .ok (.iload_n 2, 1) := dk_28 (dk_at dksX7_least_1 3 rfl rfl)
theorem dX7_least_28 : decode cX7_least 28 = .ok (.iload_n 1, 1) := dk_27 (dk_at dksX7_least_1 4 rfl rfl)
theorem dX7_least_29 : decode cX7_least 29 = .ok (.invokevirtual 349, 3) := dk_182 1 93 (dk_at dksX7_least_1 5 rfl rfl)
theorem dX7_least_32 : decode cX7_least 32 = .ok (.istore 5, 2) := dk_54 5 (dk_at dksX7_least_1 8 rfl rfl)
theorem dX7_least_34 : decode cX7_least 34 = .ok (.iload 4, 2) := dk_21 4 (dk_at dksX7_least_1 10 rfl rfl)
theorem dX7_least_36 : decode cX7_least 36 = .ok (.iload 5, 2) := dk_21 5 (dk_at dksX7_least_1 12 rfl rfl)
theorem dX7_least_38 : decode cX7_least 38 = .ok (.iconst (-1), 1) := dk_2 (dk_at dksX7_least_1 14 rfl rfl)
theorem dX7_least_39 : decode cX7_least 39 = .ok (.if_icmp .ne 7, 3) := dk_160 0 7 (dk_at dksX7_least_1 15 rfl rfl)
theorem dX7_least_42 : decode cX7_least 42 = .ok (.iconst 1, 1) := dk_4 (dk_at dksX7_least_1 18 rfl rfl)
theorem dX7_least_43 : decode cX7_least 43 = .ok (.goto 4, 3) := dk_167 0 4 (dk_at dksX7_least_1 19 rfl rfl)
theorem dX7_least_46 : decode cX7_least 46 = .ok (.iconst 0, 1) := dk_3 (dk_at dksX7_least_1 22 rfl rfl)
theorem dX7_least_47 : decode cX7_least 47 = .ok (.iadd, 1) := dk_96 (dk_at dksX7_least_1 23 rfl rfl)
theorem dX7_least_48 : decode cX7_least 48 = .ok (.istore 4, 2) := dk_54 4 (dk_at dksX7_least_2 0 rfl rfl)
theorem dX7_least_50 : decode cX7_least 50 = .ok (.goto (-33), 3) := dk_167 255 223 (dk_at dksX7_least_2 2 rfl rfl)
theorem dX7_least_53 : decode cX7_least 53 = .ok (.iload 4, 2) := dk_21 4 (dk_at dksX7_least_2 5 rfl rfl)
theorem dX7_least_55 : decode cX7_least 55 = .ok (.aload_n 0, 1) := dk_42 (dk_at dksX7_least_2 7 rfl rfl)
theorem dX7_least_56 : decode cX7_least 56 = .ok (.getfield 7, 3) := dk_180 0 7 (dk_at dksX7_least_2 8 rfl rfl)
theorem dX7_least_59 : decode cX7_least 59 = .ok (.iconst 0, 1) := dk_3 (dk_at dksX7_least_2 11 rfl rfl)
theorem dX7_least_60 : decode cX7_least 60 = .ok (.iaload, 1) := dk_46 (dk_at dksX7_least_2 12 rfl rfl)
theorem dX7_least_61 : decode cX7_least 61 = .ok (.iload_n 2, 1) := dk_28 (dk_at dksX7_least_2 13 rfl rfl)
theorem dX7_least_62 : decode cX7_least 62 = .ok (.imul, 1) := dk_104 (dk_at dksX7_least_2 14 rfl rfl)
theorem dX7_least_63 : decode cX7_least 63 = .ok (.ishl, 1) := dk_120 (dk_at dksX7_least_2 15 rfl rfl)
theorem dX7_least_64 : decode cX7_least 64 = .ok (.istore 6, 2) := dk_54 6 (dk_at dksX7_least_2 16 rfl rfl)
theorem dX7_least_66 : decode cX7_least 66 = .ok (.iload_n 2, 1) := dk_28 (dk_at dksX7_least_2 18 rfl rfl)
theorem dX7_least_67 : decode cX7_least 67 = .ok (.ifCond .le 43, 3) := dk_158 0 43 (dk_at dksX7_least_2 19 rfl rfl)
theorem dX7_least_70 : decode cX7_least 70 = .ok (.iinc 2 (-1), 3) := dk_132 2 255 (dk_at dksX7_least_3 0 rfl rfl)
theorem dX7_least_73 : decode cX7_least 73 = .ok (.iload 4, 2) := dk_21 4 (dk_at dksX7_least_3 3 rfl rfl)
theorem dX7_least_75 : decode cX7_least 75 = .ok (.istore_n 3, 1) := dk_62 (dk_at dksX7_least_3 5 rfl rfl)
theorem dX7_least_76 : decode cX7_least 76 = .ok (.iload 5, 2) := dk_21 5 (dk_at dksX7_least_3 6 rfl rfl)
theorem dX7_least_78 : decode cX7_least 78 = .ok (.istore 4, 2) := dk_54 4 (dk_at dksX7_least_3 8 rfl rfl)
theorem dX7_least_80 : decode cX7_least 80 = .ok (.iload 6, 2) := dk_21 6 (dk_at dksX7_least_3 10 rfl rfl)
theorem dX7_least_82 : decode cX7_least 82 = .ok (.iload 4, 2) := dk_21 4 (dk_at dksX7_least_3 12 rfl rfl)
theorem dX7_least_84 : decode cX7_least 84 = .ok (.aload_n 0, 1) := dk_42 (dk_at dksX7_least_3 14 rfl rfl)
theorem dX7_least_85 : decode cX7_least 85 = .ok (.getfield 7, 3) := dk_180 0 7 (dk_at dksX7_least_3 15 rfl rfl)
theorem dX7_least_88 : decode cX7_least 88 = .ok (.iconst 0, 1) := dk_3 (dk_at dksX7_least_3 18 rfl rfl)
theorem dX7_least_89 : decode cX7_least 89 = .ok (.iaload, 1) := dk_46 (dk_at dksX7_least_3 19 rfl rfl)
theorem dX7_least_90 : decode cX7_least 90 = .ok (.iload_n 2, 1) := dk_28 (dk_at dksX7_least_3 20 rfl rfl)
theorem dX7_least_91 : decode cX7_least 91 = .ok (.imul, 1) := dk_104 (dk_at dksX7_least_3 21 rfl rfl)
theorem dX7_least_92 : decode cX7_least 92 = .ok (.ishl, 1) := dk_120 (dk_at dksX7_least_3 22 rfl rfl)
theorem dX7_least_93 : decode cX7_least 93 = .ok (.ior, 1) := dk_128 (dk_at dksX7_least_3 23 rfl rfl)
theorem dX7_least_94 : decode cX7_least 94 = .ok (.istore 6, 2) := dk_54 6 (dk_at dksX7_least_4 0 rfl rfl)
theorem dX7_least_96 : decode cX7_least 96 = .ok (.aload_n 0, 1) := dk_42 (dk_at dksX7_least_4 2 rfl rfl)
theorem dX7_least_97 : decode cX7_least 97 = .ok (.iload 4, 2) := dk_21 4 (dk_at dksX7_least_4 3 rfl rfl)
theorem dX7_least_99 : decode cX7_least 99 = .ok (.iload_n 3, 1) := dk_29 (dk_at dksX7_least_4 5 rfl rfl)
theorem dX7_least_100 : decode cX7_least 100 = .ok (.iload_n 2, 1) := dk_28 (dk_at dksX7_least_4 6 rfl rfl)
theorem dX7_least_101 : decode cX7_least 101 = .ok (.iload_n 1, 1) := dk_27 (dk_at dksX7_least_4 7 rfl rfl)
theorem dX7_least_102 : decode cX7_least 102 = .ok (.invokevirtual 349, 3) := dk_182 1 93 (dk_at dksX7_least_4 8 rfl rfl)
theorem dX7_least_105 : decode cX7_least 105 = .ok (.istore 5, 2) := dk_54 5 (dk_at dksX7_least_4 11 rfl rfl)
theorem dX7_least_107 : decode cX7_least 107 = .ok (.goto (-41), 3) := dk_167 255 215 (dk_at dksX7_least_4 13 rfl rfl)
theorem dX7_least_110 : decode cX7_least 110 = .ok (.iload 6, 2) := dk_21 6 (dk_at dksX7_least_4 16 rfl rfl)
theorem dX7_least_112 : decode cX7_least 112 = .ok (.i2l, 1) := dk_133 (dk_at dksX7_least_4 18 rfl rfl)
theorem dX7_least_113 : decode cX7_least 113 = .ok (.lreturn, 1) := dk_173 (dk_at dksX7_least_4 19 rfl rfl)
abbrev cX7_aboveOf : ByteArray := prog_16_method_99_code
def yX7_aboveOf : MethodName := ⟨RX7, "aboveOf", "(IIIZ)I"⟩
def dkwX7_aboveOf_2 : List UInt8 := [21, 5, 27, 28, 29, 21, 4, 182, 1, 89, 153, 0, 6, 21, 5, 172, 132, 5, 1, 167, 255, 193, 2, 172]
abbrev dktX7_aboveOf_2 : List UInt8 := dkwX7_aboveOf_2 ++ []
def dkwX7_aboveOf_1 : List UInt8 := [42, 180, 0, 59, 17, 4, 0, 29, 104, 16, 32, 21, 5, 104, 96, 27, 96, 46, 4, 160, 0, 20, 42]
abbrev dktX7_aboveOf_1 : List UInt8 := dkwX7_aboveOf_1 ++ dktX7_aboveOf_2
def dkwX7_aboveOf_0 : List UInt8 := [3, 54, 5, 21, 5, 29, 154, 0, 7, 4, 167, 0, 11, 4, 42, 180, 0, 7, 3, 46, 120, 162, 0, 48]
abbrev dktX7_aboveOf_0 : List UInt8 := dkwX7_aboveOf_0 ++ dktX7_aboveOf_1
theorem dksX7_aboveOf_0 : cX7_aboveOf.data.toList.drop 0 = dktX7_aboveOf_0 := by decide +kernel
theorem dksX7_aboveOf_1 : cX7_aboveOf.data.toList.drop 24 = dktX7_aboveOf_1 := dk_seg dksX7_aboveOf_0 24 rfl rfl
theorem dksX7_aboveOf_2 : cX7_aboveOf.data.toList.drop 47 = dktX7_aboveOf_2 := dk_seg dksX7_aboveOf_1 23 rfl rfl
theorem dX7_aboveOf_0 : decode cX7_aboveOf 0 = .ok (.iconst 0, 1) := dk_3 (dk_at dksX7_aboveOf_0 0 rfl rfl)
theorem dX7_aboveOf_1 : decode cX7_aboveOf 1 = .ok (.istore 5, 2) := dk_54 5 (dk_at dksX7_aboveOf_0 1 rfl rfl)
theorem dX7_aboveOf_3 : decode cX7_aboveOf 3 = .ok (.iload 5, 2) := dk_21 5 (dk_at dksX7_aboveOf_0 3 rfl rfl)
theorem dX7_aboveOf_5 : decode cX7_aboveOf 5 = .ok (.iload_n 3, 1) := dk_29 (dk_at dksX7_aboveOf_0 5 rfl rfl)
theorem dX7_aboveOf_6 : decode cX7_aboveOf 6 = .ok (.ifCond .ne 7, 3) := dk_154 0 7 (dk_at dksX7_aboveOf_0 6 rfl rfl)
theorem dX7_aboveOf_9 : decode cX7_aboveOf 9 = .ok (.iconst 1, 1) := dk_4 (dk_at dksX7_aboveOf_0 9 rfl rfl)
theorem dX7_aboveOf_10 : decode cX7_aboveOf 10 = .ok (.goto 11, 3) := dk_167 0 11 (dk_at dksX7_aboveOf_0 10 rfl rfl)
theorem dX7_aboveOf_13 : decode cX7_aboveOf 13 = .ok (.iconst 1, 1) := dk_4 (dk_at dksX7_aboveOf_0 13 rfl rfl)
theorem dX7_aboveOf_14 : decode cX7_aboveOf 14 = .ok (.aload_n 0, 1) := dk_42 (dk_at dksX7_aboveOf_0 14 rfl rfl)
theorem dX7_aboveOf_15 : decode cX7_aboveOf 15 = .ok (.getfield 7, 3) := dk_180 0 7 (dk_at dksX7_aboveOf_0 15 rfl rfl)
theorem dX7_aboveOf_18 : decode cX7_aboveOf 18 = .ok (.iconst 0, 1) := dk_3 (dk_at dksX7_aboveOf_0 18 rfl rfl)
theorem dX7_aboveOf_19 : decode cX7_aboveOf 19 = .ok (.iaload, 1) := dk_46 (dk_at dksX7_aboveOf_0 19 rfl rfl)
theorem dX7_aboveOf_20 : decode cX7_aboveOf 20 = .ok (.ishl, 1) := dk_120 (dk_at dksX7_aboveOf_0 20 rfl rfl)
theorem dX7_aboveOf_21 : decode cX7_aboveOf 21 = .ok (.if_icmp .ge 48, 3) := dk_162 0 48 (dk_at dksX7_aboveOf_0 21 rfl rfl)
theorem dX7_aboveOf_24 : decode cX7_aboveOf 24 = .ok (.aload_n 0, 1) := dk_42 (dk_at dksX7_aboveOf_1 0 rfl rfl)
theorem dX7_aboveOf_25 : decode cX7_aboveOf 25 = .ok (.getfield 59, 3) := dk_180 0 59 (dk_at dksX7_aboveOf_1 1 rfl rfl)
theorem dX7_aboveOf_28 : decode cX7_aboveOf 28 = .ok (.sipush 1024, 3) := dk_17 4 0 (dk_at dksX7_aboveOf_1 4 rfl rfl)
theorem dX7_aboveOf_31 : decode cX7_aboveOf 31 = .ok (.iload_n 3, 1) := dk_29 (dk_at dksX7_aboveOf_1 7 rfl rfl)
theorem dX7_aboveOf_32 : decode cX7_aboveOf 32 = .ok (.imul, 1) := dk_104 (dk_at dksX7_aboveOf_1 8 rfl rfl)
theorem dX7_aboveOf_33 : decode cX7_aboveOf 33 = .ok (.bipush 32, 2) := dk_16 32 (dk_at dksX7_aboveOf_1 9 rfl rfl)
theorem dX7_aboveOf_35 : decode cX7_aboveOf 35 = .ok (.iload 5, 2) := dk_21 5 (dk_at dksX7_aboveOf_1 11 rfl rfl)
theorem dX7_aboveOf_37 : decode cX7_aboveOf 37 = .ok (.imul, 1) := dk_104 (dk_at dksX7_aboveOf_1 13 rfl rfl)
theorem dX7_aboveOf_38 : decode cX7_aboveOf 38 = .ok (.iadd, 1) := dk_96 (dk_at dksX7_aboveOf_1 14 rfl rfl)
theorem dX7_aboveOf_39 : decode cX7_aboveOf 39 = .ok (.iload_n 1, 1) := dk_27 (dk_at dksX7_aboveOf_1 15 rfl rfl)
theorem dX7_aboveOf_40 : decode cX7_aboveOf 40 = .ok (.iadd, 1) := dk_96 (dk_at dksX7_aboveOf_1 16 rfl rfl)
theorem dX7_aboveOf_41 : decode cX7_aboveOf 41 = .ok (.iaload, 1) := dk_46 (dk_at dksX7_aboveOf_1 17 rfl rfl)
theorem dX7_aboveOf_42 : decode cX7_aboveOf 42 = .ok (.iconst 1, 1) := dk_4 (dk_at dksX7_aboveOf_1 18 rfl rfl)
theorem dX7_aboveOf_43 : decode cX7_aboveOf 43 = .ok (.if_icmp .ne 20, 3) := dk_160 0 20 (dk_at dksX7_aboveOf_1 19 rfl rfl)
theorem dX7_aboveOf_46 : decode cX7_aboveOf 46 = .ok (.aload_n 0, 1) := dk_42 (dk_at dksX7_aboveOf_1 22 rfl rfl)
theorem dX7_aboveOf_47 : decode cX7_aboveOf 47 = .ok (.iload 5, 2) := dk_21 5 (dk_at dksX7_aboveOf_2 0 rfl rfl)
theorem dX7_aboveOf_49 : decode cX7_aboveOf 49 = .ok (.iload_n 1, 1) := dk_27 (dk_at dksX7_aboveOf_2 2 rfl rfl)
theorem dX7_aboveOf_50 : decode cX7_aboveOf 50 = .ok (.iload_n 2, 1) := dk_28 (dk_at dksX7_aboveOf_2 3 rfl rfl)
theorem dX7_aboveOf_51 : decode cX7_aboveOf 51 = .ok (.iload_n 3, 1) := dk_29 (dk_at dksX7_aboveOf_2 4 rfl rfl)
theorem dX7_aboveOf_52 : decode cX7_aboveOf 52 = .ok (.iload 4, 2) := dk_21 4 (dk_at dksX7_aboveOf_2 5 rfl rfl)
theorem dX7_aboveOf_54 : decode cX7_aboveOf 54 = .ok (.invokevirtual 345, 3) := dk_182 1 89 (dk_at dksX7_aboveOf_2 7 rfl rfl)
theorem dX7_aboveOf_57 : decode cX7_aboveOf 57 = .ok (.ifCond .eq 6, 3) := dk_153 0 6 (dk_at dksX7_aboveOf_2 10 rfl rfl)
theorem dX7_aboveOf_60 : decode cX7_aboveOf 60 = .ok (.iload 5, 2) := dk_21 5 (dk_at dksX7_aboveOf_2 13 rfl rfl)
theorem dX7_aboveOf_62 : decode cX7_aboveOf 62 = .ok (.ireturn, 1) := dk_172 (dk_at dksX7_aboveOf_2 15 rfl rfl)
theorem dX7_aboveOf_63 : decode cX7_aboveOf 63 = .ok (.iinc 5 1, 3) := dk_132 5 1 (dk_at dksX7_aboveOf_2 16 rfl rfl)
theorem dX7_aboveOf_66 : decode cX7_aboveOf 66 = .ok (.goto (-63), 3) := dk_167 255 193 (dk_at dksX7_aboveOf_2 19 rfl rfl)
theorem dX7_aboveOf_69 : decode cX7_aboveOf 69 = .ok (.iconst (-1), 1) := dk_2 (dk_at dksX7_aboveOf_2 22 rfl rfl)
theorem dX7_aboveOf_70 : decode cX7_aboveOf 70 = .ok (.ireturn, 1) := dk_172 (dk_at dksX7_aboveOf_2 23 rfl rfl)
abbrev cX7_stills : ByteArray := prog_16_method_102_code
def yX7_stills : MethodName := ⟨RX7, "stills", "()J"⟩
def dkwX7_stills_0 : List UInt8 := [42, 42, 4, 182, 1, 97, 182, 1, 24, 173]
abbrev dktX7_stills_0 : List UInt8 := dkwX7_stills_0 ++ []
theorem dksX7_stills_0 : cX7_stills.data.toList.drop 0 = dktX7_stills_0 := by decide +kernel
theorem dX7_stills_0 : decode cX7_stills 0 = .ok (.aload_n 0, 1) := dk_42 (dk_at dksX7_stills_0 0 rfl rfl)
theorem dX7_stills_1 : decode cX7_stills 1 = .ok (.aload_n 0, 1) := dk_42 (dk_at dksX7_stills_0 1 rfl rfl)
theorem dX7_stills_2 : decode cX7_stills 2 = .ok (.iconst 1, 1) := dk_4 (dk_at dksX7_stills_0 2 rfl rfl)
theorem dX7_stills_3 : decode cX7_stills 3 = .ok (.invokevirtual 353, 3) := dk_182 1 97 (dk_at dksX7_stills_0 3 rfl rfl)
theorem dX7_stills_6 : decode cX7_stills 6 = .ok (.invokevirtual 280, 3) := dk_182 1 24 (dk_at dksX7_stills_0 6 rfl rfl)
theorem dX7_stills_9 : decode cX7_stills 9 = .ok (.lreturn, 1) := dk_173 (dk_at dksX7_stills_0 9 rfl rfl)
abbrev cX7_firstStill : ByteArray := prog_16_method_103_code
def yX7_firstStill : MethodName := ⟨RX7, "firstStill", "()J"⟩
def dkwX7_firstStill_1 : List UInt8 := [182, 1, 101, 182, 1, 24, 173]
abbrev dktX7_firstStill_1 : List UInt8 := dkwX7_firstStill_1 ++ []
def dkwX7_firstStill_0 : List UInt8 := [42, 4, 182, 1, 97, 9, 148, 154, 0, 13, 42, 16, 6, 182, 0, 81, 133, 167, 0, 12, 42, 42, 4]
abbrev dktX7_firstStill_0 : List UInt8 := dkwX7_firstStill_0 ++ dktX7_firstStill_1
theorem dksX7_firstStill_0 : cX7_firstStill.data.toList.drop 0 = dktX7_firstStill_0 := by decide +kernel
theorem dksX7_firstStill_1 : cX7_firstStill.data.toList.drop 23 = dktX7_firstStill_1 := dk_seg dksX7_firstStill_0 23 rfl rfl
theorem dX7_firstStill_0 : decode cX7_firstStill 0 = .ok (.aload_n 0, 1) := dk_42 (dk_at dksX7_firstStill_0 0 rfl rfl)
theorem dX7_firstStill_1 : decode cX7_firstStill 1 = .ok (.iconst 1, 1) := dk_4 (dk_at dksX7_firstStill_0 1 rfl rfl)
theorem dX7_firstStill_2 : decode cX7_firstStill 2 = .ok (.invokevirtual 353, 3) := dk_182 1 97 (dk_at dksX7_firstStill_0 2 rfl rfl)
theorem dX7_firstStill_5 : decode cX7_firstStill 5 = .ok (.lconst 0, 1) := dk_9 (dk_at dksX7_firstStill_0 5 rfl rfl)
theorem dX7_firstStill_6 : decode cX7_firstStill 6 = .ok (.lcmp, 1) := dk_148 (dk_at dksX7_firstStill_0 6 rfl rfl)
theorem dX7_firstStill_7 : decode cX7_firstStill 7 = .ok (.ifCond .ne 13, 3) := dk_154 0 13 (dk_at dksX7_firstStill_0 7 rfl rfl)
theorem dX7_firstStill_10 : decode cX7_firstStill 10 = .ok (.aload_n 0, 1) := dk_42 (dk_at dksX7_firstStill_0 10 rfl rfl)
theorem dX7_firstStill_11 : decode cX7_firstStill 11 = .ok (.bipush 6, 2) := dk_16 6 (dk_at dksX7_firstStill_0 11 rfl rfl)
theorem dX7_firstStill_13 : decode cX7_firstStill 13 = .ok (.invokevirtual 81, 3) := dk_182 0 81 (dk_at dksX7_firstStill_0 13 rfl rfl)
theorem dX7_firstStill_16 : decode cX7_firstStill 16 = .ok (.i2l, 1) := dk_133 (dk_at dksX7_firstStill_0 16 rfl rfl)
theorem dX7_firstStill_17 : decode cX7_firstStill 17 = .ok (.goto 12, 3) := dk_167 0 12 (dk_at dksX7_firstStill_0 17 rfl rfl)
theorem dX7_firstStill_20 : decode cX7_firstStill 20 = .ok (.aload_n 0, 1) := dk_42 (dk_at dksX7_firstStill_0 20 rfl rfl)
theorem dX7_firstStill_21 : decode cX7_firstStill 21 = .ok (.aload_n 0, 1) := dk_42 (dk_at dksX7_firstStill_0 21 rfl rfl)
theorem dX7_firstStill_22 : decode cX7_firstStill 22 = .ok (.iconst 1, 1) := dk_4 (dk_at dksX7_firstStill_0 22 rfl rfl)
theorem dX7_firstStill_23 : decode cX7_firstStill 23 = .ok (.invokevirtual 357, 3) := dk_182 1 101 (dk_at dksX7_firstStill_1 0 rfl rfl)
theorem dX7_firstStill_26 : decode cX7_firstStill 26 = .ok (.invokevirtual 280, 3) := dk_182 1 24 (dk_at dksX7_firstStill_1 3 rfl rfl)
theorem dX7_firstStill_29 : decode cX7_firstStill 29 = .ok (.lreturn, 1) := dk_173 (dk_at dksX7_firstStill_1 6 rfl rfl)
abbrev cX7_pictures : ByteArray := prog_16_method_104_code
def yX7_pictures : MethodName := ⟨RX7, "pictures", "()J"⟩
def dkwX7_pictures_0 : List UInt8 := [42, 10, 42, 182, 1, 12, 184, 0, 226, 121, 182, 1, 24, 173]
abbrev dktX7_pictures_0 : List UInt8 := dkwX7_pictures_0 ++ []
theorem dksX7_pictures_0 : cX7_pictures.data.toList.drop 0 = dktX7_pictures_0 := by decide +kernel
theorem dX7_pictures_0 : decode cX7_pictures 0 = .ok (.aload_n 0, 1) := dk_42 (dk_at dksX7_pictures_0 0 rfl rfl)
theorem dX7_pictures_1 : decode cX7_pictures 1 = .ok (.lconst 1, 1) := dk_10 (dk_at dksX7_pictures_0 1 rfl rfl)
theorem dX7_pictures_2 : decode cX7_pictures 2 = .ok (.aload_n 0, 1) := dk_42 (dk_at dksX7_pictures_0 2 rfl rfl)
theorem dX7_pictures_3 : decode cX7_pictures 3 = .ok (.invokevirtual 268, 3) := dk_182 1 12 (dk_at dksX7_pictures_0 3 rfl rfl)
theorem dX7_pictures_6 : decode cX7_pictures 6 = .ok (.invokestatic 226, 3) := dk_184 0 226 (dk_at dksX7_pictures_0 6 rfl rfl)
theorem dX7_pictures_9 : decode cX7_pictures 9 = .ok (.lshl, 1) := dk_121 (dk_at dksX7_pictures_0 9 rfl rfl)
theorem dX7_pictures_10 : decode cX7_pictures 10 = .ok (.invokevirtual 280, 3) := dk_182 1 24 (dk_at dksX7_pictures_0 10 rfl rfl)
theorem dX7_pictures_13 : decode cX7_pictures 13 = .ok (.lreturn, 1) := dk_173 (dk_at dksX7_pictures_0 13 rfl rfl)
abbrev cX7_signal : ByteArray := prog_16_method_106_code
def yX7_signal : MethodName := ⟨RX7, "signal", "(IIII)I"⟩
def dkwX7_signal_11 : List UInt8 := [182, 0, 85, 172]
abbrev dktX7_signal_11 : List UInt8 := dkwX7_signal_11 ++ []
def dkwX7_signal_10 : List UInt8 := [182, 0, 81, 167, 0, 23, 42, 21, 4, 154, 0, 10, 42, 180, 1, 107, 167, 0, 7, 42, 180, 1, 104]
abbrev dktX7_signal_10 : List UInt8 := dkwX7_signal_10 ++ dktX7_signal_11
def dkwX7_signal_9 : List UInt8 := [132, 9, 1, 167, 255, 160, 132, 8, 1, 167, 255, 114, 42, 180, 1, 104, 2, 160, 0, 12, 42, 16, 6]
abbrev dktX7_signal_9 : List UInt8 := dkwX7_signal_9 ++ dktX7_signal_10
def dkwX7_signal_8 : List UInt8 := [120, 4, 21, 9, 120, 128, 4, 21, 10, 120, 128, 6, 21, 6, 29, 182, 1, 112, 132, 10, 1, 167, 255, 211]
abbrev dktX7_signal_8 : List UInt8 := dkwX7_signal_8 ++ dktX7_signal_9
def dkwX7_signal_7 : List UInt8 := [21, 10, 42, 182, 1, 6, 162, 0, 42, 21, 7, 21, 10, 122, 4, 126, 4, 160, 0, 25, 42, 4, 21, 8]
abbrev dktX7_signal_7 : List UInt8 := dkwX7_signal_7 ++ dktX7_signal_8
def dkwX7_signal_6 : List UInt8 := [42, 4, 21, 8, 120, 4, 21, 9, 120, 128, 5, 21, 6, 29, 182, 1, 112, 21, 9, 4, 96, 54, 10]
abbrev dktX7_signal_6 : List UInt8 := dkwX7_signal_6 ++ dktX7_signal_7
def dkwX7_signal_5 : List UInt8 := [54, 9, 21, 9, 42, 182, 1, 6, 162, 0, 93, 21, 7, 21, 9, 122, 4, 126, 154, 0, 6, 167, 0, 74]
abbrev dktX7_signal_5 : List UInt8 := dkwX7_signal_5 ++ dktX7_signal_6
def dkwX7_signal_4 : List UInt8 := [4, 126, 154, 0, 6, 167, 0, 120, 42, 4, 21, 8, 120, 4, 21, 6, 29, 182, 1, 112, 21, 8, 4, 96]
abbrev dktX7_signal_4 : List UInt8 := dkwX7_signal_4 ++ dktX7_signal_5
def dkwX7_signal_3 : List UInt8 := [3, 21, 6, 29, 182, 1, 112, 3, 54, 8, 21, 8, 42, 182, 1, 6, 162, 0, 139, 21, 7, 21, 8, 122]
abbrev dktX7_signal_3 : List UInt8 := dkwX7_signal_3 ++ dktX7_signal_4
def dkwX7_signal_2 : List UInt8 := [182, 1, 15, 42, 27, 28, 182, 1, 0, 54, 6, 42, 182, 1, 12, 54, 7, 42, 2, 181, 1, 104, 42, 3]
abbrev dktX7_signal_2 : List UInt8 := dkwX7_signal_2 ++ dktX7_signal_3
def dkwX7_signal_1 : List UInt8 := [167, 0, 9, 42, 27, 28, 182, 1, 3, 54, 5, 21, 5, 158, 0, 10, 42, 21, 5, 182, 0, 81, 172, 42]
abbrev dktX7_signal_1 : List UInt8 := dkwX7_signal_1 ++ dktX7_signal_2
def dkwX7_signal_0 : List UInt8 := [29, 133, 9, 20, 1, 110, 184, 1, 39, 153, 0, 14, 21, 4, 155, 0, 9, 21, 4, 4, 164, 0, 7, 4]
abbrev dktX7_signal_0 : List UInt8 := dkwX7_signal_0 ++ dktX7_signal_1
theorem dksX7_signal_0 : cX7_signal.data.toList.drop 0 = dktX7_signal_0 := by decide +kernel
theorem dksX7_signal_1 : cX7_signal.data.toList.drop 24 = dktX7_signal_1 := dk_seg dksX7_signal_0 24 rfl rfl
theorem dksX7_signal_2 : cX7_signal.data.toList.drop 48 = dktX7_signal_2 := dk_seg dksX7_signal_1 24 rfl rfl
theorem dksX7_signal_3 : cX7_signal.data.toList.drop 72 = dktX7_signal_3 := dk_seg dksX7_signal_2 24 rfl rfl
theorem dksX7_signal_4 : cX7_signal.data.toList.drop 96 = dktX7_signal_4 := dk_seg dksX7_signal_3 24 rfl rfl
theorem dksX7_signal_5 : cX7_signal.data.toList.drop 120 = dktX7_signal_5 := dk_seg dksX7_signal_4 24 rfl rfl
theorem dksX7_signal_6 : cX7_signal.data.toList.drop 144 = dktX7_signal_6 := dk_seg dksX7_signal_5 24 rfl rfl
theorem dksX7_signal_7 : cX7_signal.data.toList.drop 167 = dktX7_signal_7 := dk_seg dksX7_signal_6 23 rfl rfl
theorem dksX7_signal_8 : cX7_signal.data.toList.drop 191 = dktX7_signal_8 := dk_seg dksX7_signal_7 24 rfl rfl
theorem dksX7_signal_9 : cX7_signal.data.toList.drop 215 = dktX7_signal_9 := dk_seg dksX7_signal_8 24 rfl rfl
theorem dksX7_signal_10 : cX7_signal.data.toList.drop 238 = dktX7_signal_10 := dk_seg dksX7_signal_9 23 rfl rfl
theorem dksX7_signal_11 : cX7_signal.data.toList.drop 261 = dktX7_signal_11 := dk_seg dksX7_signal_10 23 rfl rfl
theorem dX7_signal_0 : decode cX7_signal 0 = .ok (.iload_n 3, 1) := dk_29 (dk_at dksX7_signal_0 0 rfl rfl)
theorem dX7_signal_1 : decode cX7_signal 1 = .ok (.i2l, 1) := dk_133 (dk_at dksX7_signal_0 1 rfl rfl)
theorem dX7_signal_2 : decode cX7_signal 2 = .ok (.lconst 0, 1) := dk_9 (dk_at dksX7_signal_0 2 rfl rfl)
theorem dX7_signal_3 : decode cX7_signal 3 = .ok (.ldc2_w 366, 3) := dk_20 1 110 (dk_at dksX7_signal_0 3 rfl rfl)
theorem dX7_signal_6 : decode cX7_signal 6 = .ok (.invokestatic 295, 3) := dk_184 1 39 (dk_at dksX7_signal_0 6 rfl rfl)
theorem dX7_signal_9 : decode cX7_signal 9 = .ok (.ifCond .eq 14, 3) := dk_153 0 14 (dk_at dksX7_signal_0 9 rfl rfl)
theorem dX7_signal_12 : decode cX7_signal 12 = .ok (.iload 4, 2) := dk_21 4 (dk_at dksX7_signal_0 12 rfl rfl)
theorem dX7_signal_14 : decode cX7_signal 14 = .ok (.ifCond .lt 9, 3) := dk_155 0 9 (dk_at dksX7_signal_0 14 rfl rfl)
theorem dX7_signal_17 : decode cX7_signal 17 = .ok (.iload 4, 2) := dk_21 4 (dk_at dksX7_signal_0 17 rfl rfl)
theorem dX7_signal_19 : decode cX7_signal 19 = .ok (.iconst 1, 1) := dk_4 (dk_at dksX7_signal_0 19 rfl rfl)
theorem dX7_signal_20 : decode cX7_signal 20 = .ok (.if_icmp .le 7, 3) := dk_164 0 7 (dk_at dksX7_signal_0 20 rfl rfl)
theorem dX7_signal_23 : decode cX7_signal 23 = .ok (.iconst 1, 1) := dk_4 (dk_at dksX7_signal_0 23 rfl rfl)
theorem dX7_signal_24 : decode cX7_signal 24 = .ok (.goto 9, 3) := dk_167 0 9 (dk_at dksX7_signal_1 0 rfl rfl)
theorem dX7_signal_27 : decode cX7_signal 27 = .ok (.aload_n 0, 1) := dk_42 (dk_at dksX7_signal_1 3 rfl rfl)
theorem dX7_signal_28 : decode cX7_signal 28 = .ok (.iload_n 1, 1) := dk_27 (dk_at dksX7_signal_1 4 rfl rfl)
theorem dX7_signal_29 : decode cX7_signal 29 = .ok (.iload_n 2, 1) := dk_28 (dk_at dksX7_signal_1 5 rfl rfl)
theorem dX7_signal_30 : decode cX7_signal 30 = .ok (.invokevirtual 259, 3) := dk_182 1 3 (dk_at dksX7_signal_1 6 rfl rfl)
theorem dX7_signal_33 : decode cX7_signal 33 = .ok (.istore 5, 2) := dk_54 5 (dk_at dksX7_signal_1 9 rfl rfl)
theorem dX7_signal_35 : decode cX7_signal 35 = .ok (.iload 5, 2) := dk_21 5 (dk_at dksX7_signal_1 11 rfl rfl)
theorem dX7_signal_37 : decode cX7_signal 37 = .ok (.ifCond .le 10, 3) := dk_158 0 10 (dk_at dksX7_signal_1 13 rfl rfl)
theorem dX7_signal_40 : decode cX7_signal 40 = .ok (.aload_n 0, 1) := dk_42 (dk_at dksX7_signal_1 16 rfl rfl)
theorem dX7_signal_41 : decode cX7_signal 41 = .ok (.iload 5, 2) := dk_21 5 (dk_at dksX7_signal_1 17 rfl rfl)
theorem dX7_signal_43 : decode cX7_signal 43 = .ok (.invokevirtual 81, 3) := dk_182 0 81 (dk_at dksX7_signal_1 19 rfl rfl)
theorem dX7_signal_46 : decode cX7_signal 46 = .ok (.ireturn, 1) := dk_172 (dk_at dksX7_signal_1 22 rfl rfl)
theorem dX7_signal_47 : decode cX7_signal 47 = .ok (.aload_n 0, 1) := dk_42 (dk_at dksX7_signal_1 23 rfl rfl)
theorem dX7_signal_48 : decode cX7_signal 48 = .ok (.invokevirtual 271, 3) := dk_182 1 15 (dk_at dksX7_signal_2 0 rfl rfl)
theorem dX7_signal_51 : decode cX7_signal 51 = .ok (.aload_n 0, 1) := dk_42 (dk_at dksX7_signal_2 3 rfl rfl)
theorem dX7_signal_52 : decode cX7_signal 52 = .ok (.iload_n 1, 1) := dk_27 (dk_at dksX7_signal_2 4 rfl rfl)
theorem dX7_signal_53 : decode cX7_signal 53 = .ok (.iload_n 2, 1) := dk_28 (dk_at dksX7_signal_2 5 rfl rfl)
theorem dX7_signal_54 : decode cX7_signal 54 = .ok (.invokevirtual 256, 3) := dk_182 1 0 (dk_at dksX7_signal_2 6 rfl rfl)
theorem dX7_signal_57 : decode cX7_signal 57 = .ok (.istore 6, 2) := dk_54 6 (dk_at dksX7_signal_2 9 rfl rfl)
theorem dX7_signal_59 : decode cX7_signal 59 = .ok (.aload_n 0, 1) := dk_42 (dk_at dksX7_signal_2 11 rfl rfl)
theorem dX7_signal_60 : decode cX7_signal 60 = .ok (.invokevirtual 268, 3) := dk_182 1 12 (dk_at dksX7_signal_2 12 rfl rfl)
theorem dX7_signal_63 : decode cX7_signal 63 = .ok (.istore 7, 2) := dk_54 7 (dk_at dksX7_signal_2 15 rfl rfl)
theorem dX7_signal_65 : decode cX7_signal 65 = .ok (.aload_n 0, 1) := dk_42 (dk_at dksX7_signal_2 17 rfl rfl)
theorem dX7_signal_66 : decode cX7_signal 66 = .ok (.iconst (-1), 1) := dk_2 (dk_at dksX7_signal_2 18 rfl rfl)
theorem dX7_signal_67 : decode cX7_signal 67 = .ok (.putfield 360, 3) := dk_181 1 104 (dk_at dksX7_signal_2 19 rfl rfl)
theorem dX7_signal_70 : decode cX7_signal 70 = .ok (.aload_n 0, 1) := dk_42 (dk_at dksX7_signal_2 22 rfl rfl)
theorem dX7_signal_71 : decode cX7_signal 71 = .ok (.iconst 0, 1) := dk_3 (dk_at dksX7_signal_2 23 rfl rfl)
theorem dX7_signal_72 : decode cX7_signal 72 = .ok (.iconst 0, 1) := dk_3 (dk_at dksX7_signal_3 0 rfl rfl)
theorem dX7_signal_73 : decode cX7_signal 73 = .ok (.iload 6, 2) := dk_21 6 (dk_at dksX7_signal_3 1 rfl rfl)
theorem dX7_signal_75 : decode cX7_signal 75 = .ok (.iload_n 3, 1) := dk_29 (dk_at dksX7_signal_3 3 rfl rfl)
theorem dX7_signal_76 : decode cX7_signal 76 = .ok (.invokevirtual 368, 3) := dk_182 1 112 (dk_at dksX7_signal_3 4 rfl rfl)
theorem dX7_signal_79 : decode cX7_signal 79 = .ok (.iconst 0, 1) := dk_3 (dk_at dksX7_signal_3 7 rfl rfl)
theorem dX7_signal_80 : decode cX7_signal 80 = .ok (.istore 8, 2) := dk_54 8 (dk_at dksX7_signal_3 8 rfl rfl)
theorem dX7_signal_82 : decode cX7_signal 82 = .ok (.iload 8, 2) := dk_21 8 (dk_at dksX7_signal_3 10 rfl rfl)
theorem dX7_signal_84 : decode cX7_signal 84 = .ok (.aload_n 0, 1) := dk_42 (dk_at dksX7_signal_3 12 rfl rfl)
theorem dX7_signal_85 : decode cX7_signal 85 = .ok (.invokevirtual 262, 3) := dk_182 1 6 (dk_at dksX7_signal_3 13 rfl rfl)
theorem dX7_signal_88 : decode cX7_signal 88 = .ok (.if_icmp .ge 139, 3) := dk_162 0 139 (dk_at dksX7_signal_3 16 rfl rfl)
theorem dX7_signal_91 : decode cX7_signal 91 = .ok (.iload 7, 2) := dk_21 7 (dk_at dksX7_signal_3 19 rfl rfl)
theorem dX7_signal_93 : decode cX7_signal 93 = .ok (.iload 8, 2) := dk_21 8 (dk_at dksX7_signal_3 21 rfl rfl)
theorem dX7_signal_95 : decode cX7_signal 95 = .ok (.ishr, 1) := dk_122 (dk_at dksX7_signal_3 23 rfl rfl)
theorem dX7_signal_96 : decode cX7_signal 96 = .ok (.iconst 1, 1) := dk_4 (dk_at dksX7_signal_4 0 rfl rfl)
theorem dX7_signal_97 : decode cX7_signal 97 = .ok (.iand, 1) := dk_126 (dk_at dksX7_signal_4 1 rfl rfl)
theorem dX7_signal_98 : decode cX7_signal 98 = .ok (.ifCond .ne 6, 3) := dk_154 0 6 (dk_at dksX7_signal_4 2 rfl rfl)
theorem dX7_signal_101 : decode cX7_signal 101 = .ok (.goto 120, 3) := dk_167 0 120 (dk_at dksX7_signal_4 5 rfl rfl)
theorem dX7_signal_104 : decode cX7_signal 104 = .ok (.aload_n 0, 1) := dk_42 (dk_at dksX7_signal_4 8 rfl rfl)
theorem dX7_signal_105 : decode cX7_signal 105 = .ok (.iconst 1, 1) := dk_4 (dk_at dksX7_signal_4 9 rfl rfl)
theorem dX7_signal_106 : decode cX7_signal 106 = .ok (.iload 8, 2) := dk_21 8 (dk_at dksX7_signal_4 10 rfl rfl)
theorem dX7_signal_108 : decode cX7_signal 108 = .ok (.ishl, 1) := dk_120 (dk_at dksX7_signal_4 12 rfl rfl)
theorem dX7_signal_109 : decode cX7_signal 109 = .ok (.iconst 1, 1) := dk_4 (dk_at dksX7_signal_4 13 rfl rfl)
theorem dX7_signal_110 : decode cX7_signal 110 = .ok (.iload 6, 2) := dk_21 6 (dk_at dksX7_signal_4 14 rfl rfl)
theorem dX7_signal_112 : decode cX7_signal 112 = .ok (.iload_n 3, 1) := dk_29 (dk_at dksX7_signal_4 16 rfl rfl)
theorem dX7_signal_113 : decode cX7_signal 113 = .ok (.invokevirtual 368, 3) := dk_182 1 112 (dk_at dksX7_signal_4 17 rfl rfl)
theorem dX7_signal_116 : decode cX7_signal 116 = .ok (.iload 8, 2) := dk_21 8 (dk_at dksX7_signal_4 20 rfl rfl)
theorem dX7_signal_118 : decode cX7_signal 118 = .ok (.iconst 1, 1) := dk_4 (dk_at dksX7_signal_4 22 rfl rfl)
theorem dX7_signal_119 : decode cX7_signal 119 = .ok (.iadd, 1) := dk_96 (dk_at dksX7_signal_4 23 rfl rfl)
theorem dX7_signal_120 : decode cX7_signal 120 = .ok (.istore 9, 2) := dk_54 9 (dk_at dksX7_signal_5 0 rfl rfl)
theorem dX7_signal_122 : decode cX7_signal 122 = .ok (.iload 9, 2) := dk_21 9 (dk_at dksX7_signal_5 2 rfl rfl)
theorem dX7_signal_124 : decode cX7_signal 124 = .ok (.aload_n 0, 1) := dk_42 (dk_at dksX7_signal_5 4 rfl rfl)
theorem dX7_signal_125 : decode cX7_signal 125 = .ok (.invokevirtual 262, 3) := dk_182 1 6 (dk_at dksX7_signal_5 5 rfl rfl)
theorem dX7_signal_128 : decode cX7_signal 128 = .ok (.if_icmp .ge 93, 3) := dk_162 0 93 (dk_at dksX7_signal_5 8 rfl rfl)
theorem dX7_signal_131 : decode cX7_signal 131 = .ok (.iload 7, 2) := dk_21 7 (dk_at dksX7_signal_5 11 rfl rfl)
theorem dX7_signal_133 : decode cX7_signal 133 = .ok (.iload 9, 2) := dk_21 9 (dk_at dksX7_signal_5 13 rfl rfl)
theorem dX7_signal_135 : decode cX7_signal 135 = .ok (.ishr, 1) := dk_122 (dk_at dksX7_signal_5 15 rfl rfl)
theorem dX7_signal_136 : decode cX7_signal 136 = .ok (.iconst 1, 1) := dk_4 (dk_at dksX7_signal_5 16 rfl rfl)
theorem dX7_signal_137 : decode cX7_signal 137 = .ok (.iand, 1) := dk_126 (dk_at dksX7_signal_5 17 rfl rfl)
theorem dX7_signal_138 : decode cX7_signal 138 = .ok (.ifCond .ne 6, 3) := dk_154 0 6 (dk_at dksX7_signal_5 18 rfl rfl)
theorem dX7_signal_141 : decode cX7_signal 141 = .ok (.goto 74, 3) := dk_167 0 74 (dk_at dksX7_signal_5 21 rfl rfl)
theorem dX7_signal_144 : decode cX7_signal 144 = .ok (.aload_n 0, 1) := dk_42 (dk_at dksX7_signal_6 0 rfl rfl)
theorem dX7_signal_145 : decode cX7_signal 145 = .ok (.iconst 1, 1) := dk_4 (dk_at dksX7_signal_6 1 rfl rfl)
theorem dX7_signal_146 : decode cX7_signal 146 = .ok (.iload 8, 2) := dk_21 8 (dk_at dksX7_signal_6 2 rfl rfl)
theorem dX7_signal_148 : decode cX7_signal 148 = .ok (.ishl, 1) := dk_120 (dk_at dksX7_signal_6 4 rfl rfl)
theorem dX7_signal_149 : decode cX7_signal 149 = .ok (.iconst 1, 1) := dk_4 (dk_at dksX7_signal_6 5 rfl rfl)
theorem dX7_signal_150 : decode cX7_signal 150 = .ok (.iload 9, 2) := dk_21 9 (dk_at dksX7_signal_6 6 rfl rfl)
theorem dX7_signal_152 : decode cX7_signal 152 = .ok (.ishl, 1) := dk_120 (dk_at dksX7_signal_6 8 rfl rfl)
theorem dX7_signal_153 : decode cX7_signal 153 = .ok (.ior, 1) := dk_128 (dk_at dksX7_signal_6 9 rfl rfl)
theorem dX7_signal_154 : decode cX7_signal 154 = .ok (.iconst 2, 1) := dk_5 (dk_at dksX7_signal_6 10 rfl rfl)
theorem dX7_signal_155 : decode cX7_signal 155 = .ok (.iload 6, 2) := dk_21 6 (dk_at dksX7_signal_6 11 rfl rfl)
theorem dX7_signal_157 : decode cX7_signal 157 = .ok (.iload_n 3, 1) := dk_29 (dk_at dksX7_signal_6 13 rfl rfl)
theorem dX7_signal_158 : decode cX7_signal 158 = .ok (.invokevirtual 368, 3) := dk_182 1 112 (dk_at dksX7_signal_6 14 rfl rfl)
theorem dX7_signal_161 : decode cX7_signal 161 = .ok (.iload 9, 2) := dk_21 9 (dk_at dksX7_signal_6 17 rfl rfl)
theorem dX7_signal_163 : decode cX7_signal 163 = .ok (.iconst 1, 1) := dk_4 (dk_at dksX7_signal_6 19 rfl rfl)
theorem dX7_signal_164 : decode cX7_signal 164 = .ok (.iadd, 1) := dk_96 (dk_at dksX7_signal_6 20 rfl rfl)
theorem dX7_signal_165 : decode cX7_signal 165 = .ok (.istore 10, 2) := dk_54 10 (dk_at dksX7_signal_6 21 rfl rfl)
theorem dX7_signal_167 : decode cX7_signal 167 = .ok (.iload 10, 2) := dk_21 10 (dk_at dksX7_signal_7 0 rfl rfl)
theorem dX7_signal_169 : decode cX7_signal 169 = .ok (.aload_n 0, 1) := dk_42 (dk_at dksX7_signal_7 2 rfl rfl)
theorem dX7_signal_170 : decode cX7_signal 170 = .ok (.invokevirtual 262, 3) := dk_182 1 6 (dk_at dksX7_signal_7 3 rfl rfl)
theorem dX7_signal_173 : decode cX7_signal 173 = .ok (.if_icmp .ge 42, 3) := dk_162 0 42 (dk_at dksX7_signal_7 6 rfl rfl)
theorem dX7_signal_176 : decode cX7_signal 176 = .ok (.iload 7, 2) := dk_21 7 (dk_at dksX7_signal_7 9 rfl rfl)
theorem dX7_signal_178 : decode cX7_signal 178 = .ok (.iload 10, 2) := dk_21 10 (dk_at dksX7_signal_7 11 rfl rfl)
theorem dX7_signal_180 : decode cX7_signal 180 = .ok (.ishr, 1) := dk_122 (dk_at dksX7_signal_7 13 rfl rfl)
theorem dX7_signal_181 : decode cX7_signal 181 = .ok (.iconst 1, 1) := dk_4 (dk_at dksX7_signal_7 14 rfl rfl)
theorem dX7_signal_182 : decode cX7_signal 182 = .ok (.iand, 1) := dk_126 (dk_at dksX7_signal_7 15 rfl rfl)
theorem dX7_signal_183 : decode cX7_signal 183 = .ok (.iconst 1, 1) := dk_4 (dk_at dksX7_signal_7 16 rfl rfl)
theorem dX7_signal_184 : decode cX7_signal 184 = .ok (.if_icmp .ne 25, 3) := dk_160 0 25 (dk_at dksX7_signal_7 17 rfl rfl)
theorem dX7_signal_187 : decode cX7_signal 187 = .ok (.aload_n 0, 1) := dk_42 (dk_at dksX7_signal_7 20 rfl rfl)
theorem dX7_signal_188 : decode cX7_signal 188 = .ok (.iconst 1, 1) := dk_4 (dk_at dksX7_signal_7 21 rfl rfl)
theorem dX7_signal_189 : decode cX7_signal 189 = .ok (.iload 8, 2) := dk_21 8 (dk_at dksX7_signal_7 22 rfl rfl)
theorem dX7_signal_191 : decode cX7_signal 191 = .ok (.ishl, 1) := dk_120 (dk_at dksX7_signal_8 0 rfl rfl)
theorem dX7_signal_192 : decode cX7_signal 192 = .ok (.iconst 1, 1) := dk_4 (dk_at dksX7_signal_8 1 rfl rfl)
theorem dX7_signal_193 : decode cX7_signal 193 = .ok (.iload 9, 2) := dk_21 9 (dk_at dksX7_signal_8 2 rfl rfl)
theorem dX7_signal_195 : decode cX7_signal 195 = .ok (.ishl, 1) := dk_120 (dk_at dksX7_signal_8 4 rfl rfl)
theorem dX7_signal_196 : decode cX7_signal 196 = .ok (.ior, 1) := dk_128 (dk_at dksX7_signal_8 5 rfl rfl)
theorem dX7_signal_197 : decode cX7_signal 197 = .ok (.iconst 1, 1) := dk_4 (dk_at dksX7_signal_8 6 rfl rfl)
theorem dX7_signal_198 : decode cX7_signal 198 = .ok (.iload 10, 2) := dk_21 10 (dk_at dksX7_signal_8 7 rfl rfl)
theorem dX7_signal_200 : decode cX7_signal 200 = .ok (.ishl, 1) := dk_120 (dk_at dksX7_signal_8 9 rfl rfl)
theorem dX7_signal_201 : decode cX7_signal 201 = .ok (.ior, 1) := dk_128 (dk_at dksX7_signal_8 10 rfl rfl)
theorem dX7_signal_202 : decode cX7_signal 202 = .ok (.iconst 3, 1) := dk_6 (dk_at dksX7_signal_8 11 rfl rfl)
theorem dX7_signal_203 : decode cX7_signal 203 = .ok (.iload 6, 2) := dk_21 6 (dk_at dksX7_signal_8 12 rfl rfl)
theorem dX7_signal_205 : decode cX7_signal 205 = .ok (.iload_n 3, 1) := dk_29 (dk_at dksX7_signal_8 14 rfl rfl)
theorem dX7_signal_206 : decode cX7_signal 206 = .ok (.invokevirtual 368, 3) := dk_182 1 112 (dk_at dksX7_signal_8 15 rfl rfl)
theorem dX7_signal_209 : decode cX7_signal 209 = .ok (.iinc 10 1, 3) := dk_132 10 1 (dk_at dksX7_signal_8 18 rfl rfl)
theorem dX7_signal_212 : decode cX7_signal 212 = .ok (.goto (-45), 3) := dk_167 255 211 (dk_at dksX7_signal_8 21 rfl rfl)
theorem dX7_signal_215 : decode cX7_signal 215 = .ok (.iinc 9 1, 3) := dk_132 9 1 (dk_at dksX7_signal_9 0 rfl rfl)
theorem dX7_signal_218 : decode cX7_signal 218 = .ok (.goto (-96), 3) := dk_167 255 160 (dk_at dksX7_signal_9 3 rfl rfl)
theorem dX7_signal_221 : decode cX7_signal 221 = .ok (.iinc 8 1, 3) := dk_132 8 1 (dk_at dksX7_signal_9 6 rfl rfl)
theorem dX7_signal_224 : decode cX7_signal 224 = .ok (.goto (-142), 3) := dk_167 255 114 (dk_at dksX7_signal_9 9 rfl rfl)
theorem dX7_signal_227 : decode cX7_signal 227 = .ok (.aload_n 0, 1) := dk_42 (dk_at dksX7_signal_9 12 rfl rfl)
theorem dX7_signal_228 : decode cX7_signal 228 = .ok (.getfield 360, 3) := dk_180 1 104 (dk_at dksX7_signal_9 13 rfl rfl)
theorem dX7_signal_231 : decode cX7_signal 231 = .ok (.iconst (-1), 1) := dk_2 (dk_at dksX7_signal_9 16 rfl rfl)
theorem dX7_signal_232 : decode cX7_signal 232 = .ok (.if_icmp .ne 12, 3) := dk_160 0 12 (dk_at dksX7_signal_9 17 rfl rfl)
theorem dX7_signal_235 : decode cX7_signal 235 = .ok (.aload_n 0, 1) := dk_42 (dk_at dksX7_signal_9 20 rfl rfl)
theorem dX7_signal_236 : decode cX7_signal 236 = .ok (.bipush 6, 2) := dk_16 6 (dk_at dksX7_signal_9 21 rfl rfl)
theorem dX7_signal_238 : decode cX7_signal 238 = .ok (.invokevirtual 81, 3) := dk_182 0 81 (dk_at dksX7_signal_10 0 rfl rfl)
theorem dX7_signal_241 : decode cX7_signal 241 = .ok (.goto 23, 3) := dk_167 0 23 (dk_at dksX7_signal_10 3 rfl rfl)
theorem dX7_signal_244 : decode cX7_signal 244 = .ok (.aload_n 0, 1) := dk_42 (dk_at dksX7_signal_10 6 rfl rfl)
theorem dX7_signal_245 : decode cX7_signal 245 = .ok (.iload 4, 2) := dk_21 4 (dk_at dksX7_signal_10 7 rfl rfl)
theorem dX7_signal_247 : decode cX7_signal 247 = .ok (.ifCond .ne 10, 3) := dk_154 0 10 (dk_at dksX7_signal_10 9 rfl rfl)
theorem dX7_signal_250 : decode cX7_signal 250 = .ok (.aload_n 0, 1) := dk_42 (dk_at dksX7_signal_10 12 rfl rfl)
theorem dX7_signal_251 : decode cX7_signal 251 = .ok (.getfield 363, 3) := dk_180 1 107 (dk_at dksX7_signal_10 13 rfl rfl)
theorem dX7_signal_254 : decode cX7_signal 254 = .ok (.goto 7, 3) := dk_167 0 7 (dk_at dksX7_signal_10 16 rfl rfl)
theorem dX7_signal_257 : decode cX7_signal 257 = .ok (.aload_n 0, 1) := dk_42 (dk_at dksX7_signal_10 19 rfl rfl)
theorem dX7_signal_258 : decode cX7_signal 258 = .ok (.getfield 360, 3) := dk_180 1 104 (dk_at dksX7_signal_10 20 rfl rfl)
theorem dX7_signal_261 : decode cX7_signal 261 = .ok (.invokevirtual 85, 3) := dk_182 0 85 (dk_at dksX7_signal_11 0 rfl rfl)
theorem dX7_signal_264 : decode cX7_signal 264 = .ok (.ireturn, 1) := dk_172 (dk_at dksX7_signal_11 3 rfl rfl)
abbrev cX7_tries : ByteArray := prog_16_method_105_code
def yX7_tries : MethodName := ⟨RX7, "tries", "(IIII)V"⟩
def dkwX7_tries_3 : List UInt8 := [167, 255, 231, 21, 5, 29, 126, 154, 0, 4, 177, 42, 27, 181, 1, 104, 42, 28, 181, 1, 107, 177]
abbrev dktX7_tries_3 : List UInt8 := dkwX7_tries_3 ++ []
def dkwX7_tries_2 : List UInt8 := [21, 4, 162, 0, 24, 42, 21, 5, 42, 180, 0, 7, 16, 10, 46, 182, 1, 18, 54, 5, 132, 6, 1]
abbrev dktX7_tries_2 : List UInt8 := dkwX7_tries_2 ++ dktX7_tries_3
def dkwX7_tries_1 : List UInt8 := [27, 42, 180, 1, 104, 161, 0, 4, 177, 42, 180, 0, 7, 6, 46, 27, 130, 54, 5, 3, 54, 6, 21, 6]
abbrev dktX7_tries_1 : List UInt8 := dkwX7_tries_1 ++ dktX7_tries_2
def dkwX7_tries_0 : List UInt8 := [42, 180, 1, 104, 2, 159, 0, 28, 28, 42, 180, 1, 107, 163, 0, 19, 28, 42, 180, 1, 107, 160, 0, 12]
abbrev dktX7_tries_0 : List UInt8 := dkwX7_tries_0 ++ dktX7_tries_1
theorem dksX7_tries_0 : cX7_tries.data.toList.drop 0 = dktX7_tries_0 := by decide +kernel
theorem dksX7_tries_1 : cX7_tries.data.toList.drop 24 = dktX7_tries_1 := dk_seg dksX7_tries_0 24 rfl rfl
theorem dksX7_tries_2 : cX7_tries.data.toList.drop 48 = dktX7_tries_2 := dk_seg dksX7_tries_1 24 rfl rfl
theorem dksX7_tries_3 : cX7_tries.data.toList.drop 71 = dktX7_tries_3 := dk_seg dksX7_tries_2 23 rfl rfl
theorem dX7_tries_0 : decode cX7_tries 0 = .ok (.aload_n 0, 1) := dk_42 (dk_at dksX7_tries_0 0 rfl rfl)
theorem dX7_tries_1 : decode cX7_tries 1 = .ok (.getfield 360, 3) := dk_180 1 104 (dk_at dksX7_tries_0 1 rfl rfl)
theorem dX7_tries_4 : decode cX7_tries 4 = .ok (.iconst (-1), 1) := dk_2 (dk_at dksX7_tries_0 4 rfl rfl)
theorem dX7_tries_5 : decode cX7_tries 5 = .ok (.if_icmp .eq 28, 3) := dk_159 0 28 (dk_at dksX7_tries_0 5 rfl rfl)
theorem dX7_tries_8 : decode cX7_tries 8 = .ok (.iload_n 2, 1) := dk_28 (dk_at dksX7_tries_0 8 rfl rfl)
theorem dX7_tries_9 : decode cX7_tries 9 = .ok (.aload_n 0, 1) := dk_42 (dk_at dksX7_tries_0 9 rfl rfl)
theorem dX7_tries_10 : decode cX7_tries 10 = .ok (.getfield 363, 3) := dk_180 1 107 (dk_at dksX7_tries_0 10 rfl rfl)
theorem dX7_tries_13 : decode cX7_tries 13 = .ok (.if_icmp .gt 19, 3) := dk_163 0 19 (dk_at dksX7_tries_0 13 rfl rfl)
theorem dX7_tries_16 : decode cX7_tries 16 = .ok (.iload_n 2, 1) := dk_28 (dk_at dksX7_tries_0 16 rfl rfl)
theorem dX7_tries_17 : decode cX7_tries 17 = .ok (.aload_n 0, 1) := dk_42 (dk_at dksX7_tries_0 17 rfl rfl)
theorem dX7_tries_18 : decode cX7_tries 18 = .ok (.getfield 363, 3) := dk_180 1 107 (dk_at dksX7_tries_0 18 rfl rfl)
theorem dX7_tries_21 : decode cX7_tries 21 = .ok (.if_icmp .ne 12, 3) := dk_160 0 12 (dk_at dksX7_tries_0 21 rfl rfl)
theorem dX7_tries_24 : decode cX7_tries 24 = .ok (.iload_n 1, 1) := dk_27 (dk_at dksX7_tries_1 0 rfl rfl)
theorem dX7_tries_25 : decode cX7_tries 25 = .ok (.aload_n 0, 1) := dk_42 (dk_at dksX7_tries_1 1 rfl rfl)
theorem dX7_tries_26 : decode cX7_tries 26 = .ok (.getfield 360, 3) := dk_180 1 104 (dk_at dksX7_tries_1 2 rfl rfl)
theorem dX7_tries_29 : decode cX7_tries 29 = .ok (.if_icmp .lt 4, 3) := dk_161 0 4 (dk_at dksX7_tries_1 5 rfl rfl)
theorem dX7_tries_32 : decode cX7_tries 32 = .ok (.return_, 1) := dk_177 (dk_at dksX7_tries_1 8 rfl rfl)
theorem dX7_tries_33 : decode cX7_tries 33 = .ok (.aload_n 0, 1) := dk_42 (dk_at dksX7_tries_1 9 rfl rfl)
theorem dX7_tries_34 : decode cX7_tries 34 = .ok (.getfield 7, 3) := dk_180 0 7 (dk_at dksX7_tries_1 10 rfl rfl)
theorem dX7_tries_37 : decode cX7_tries 37 = .ok (.iconst 3, 1) := dk_6 (dk_at dksX7_tries_1 13 rfl rfl)
theorem dX7_tries_38 : decode cX7_tries 38 = .ok (.iaload, 1) := dk_46 (dk_at dksX7_tries_1 14 rfl rfl)
theorem dX7_tries_39 : decode cX7_tries 39 = .ok (.iload_n 1, 1) := dk_27 (dk_at dksX7_tries_1 15 rfl rfl)
theorem dX7_tries_40 : decode cX7_tries 40 = .ok (.ixor, 1) := dk_130 (dk_at dksX7_tries_1 16 rfl rfl)
theorem dX7_tries_41 : decode cX7_tries 41 = .ok (.istore 5, 2) := dk_54 5 (dk_at dksX7_tries_1 17 rfl rfl)
theorem dX7_tries_43 : decode cX7_tries 43 = .ok (.iconst 0, 1) := dk_3 (dk_at dksX7_tries_1 19 rfl rfl)
theorem dX7_tries_44 : decode cX7_tries 44 = .ok (.istore 6, 2) := dk_54 6 (dk_at dksX7_tries_1 20 rfl rfl)
theorem dX7_tries_46 : decode cX7_tries 46 = .ok (.iload 6, 2) := dk_21 6 (dk_at dksX7_tries_1 22 rfl rfl)
theorem dX7_tries_48 : decode cX7_tries 48 = .ok (.iload 4, 2) := dk_21 4 (dk_at dksX7_tries_2 0 rfl rfl)
theorem dX7_tries_50 : decode cX7_tries 50 = .ok (.if_icmp .ge 24, 3) := dk_162 0 24 (dk_at dksX7_tries_2 2 rfl rfl)
theorem dX7_tries_53 : decode cX7_tries 53 = .ok (.aload_n 0, 1) := dk_42 (dk_at dksX7_tries_2 5 rfl rfl)
theorem dX7_tries_54 : decode cX7_tries 54 = .ok (.iload 5, 2) := dk_21 5 (dk_at dksX7_tries_2 6 rfl rfl)
theorem dX7_tries_56 : decode cX7_tries 56 = .ok (.aload_n 0, 1) := dk_42 (dk_at dksX7_tries_2 8 rfl rfl)
theorem dX7_tries_57 : decode cX7_tries 57 = .ok (.getfield 7, 3) := dk_180 0 7 (dk_at dksX7_tries_2 9 rfl rfl)
theorem dX7_tries_60 : decode cX7_tries 60 = .ok (.bipush 10, 2) := dk_16 10 (dk_at dksX7_tries_2 12 rfl rfl)
theorem dX7_tries_62 : decode cX7_tries 62 = .ok (.iaload, 1) := dk_46 (dk_at dksX7_tries_2 14 rfl rfl)
theorem dX7_tries_63 : decode cX7_tries 63 = .ok (.invokevirtual 274, 3) := dk_182 1 18 (dk_at dksX7_tries_2 15 rfl rfl)
theorem dX7_tries_66 : decode cX7_tries 66 = .ok (.istore 5, 2) := dk_54 5 (dk_at dksX7_tries_2 18 rfl rfl)
theorem dX7_tries_68 : decode cX7_tries 68 = .ok (.iinc 6 1, 3) := dk_132 6 1 (dk_at dksX7_tries_2 20 rfl rfl)
theorem dX7_tries_71 : decode cX7_tries 71 = .ok (.goto (-25), 3) := dk_167 255 231 (dk_at dksX7_tries_3 0 rfl rfl)
theorem dX7_tries_74 : decode cX7_tries 74 = .ok (.iload 5, 2) := dk_21 5 (dk_at dksX7_tries_3 3 rfl rfl)
theorem dX7_tries_76 : decode cX7_tries 76 = .ok (.iload_n 3, 1) := dk_29 (dk_at dksX7_tries_3 5 rfl rfl)
theorem dX7_tries_77 : decode cX7_tries 77 = .ok (.iand, 1) := dk_126 (dk_at dksX7_tries_3 6 rfl rfl)
theorem dX7_tries_78 : decode cX7_tries 78 = .ok (.ifCond .ne 4, 3) := dk_154 0 4 (dk_at dksX7_tries_3 7 rfl rfl)
theorem dX7_tries_81 : decode cX7_tries 81 = .ok (.return_, 1) := dk_177 (dk_at dksX7_tries_3 10 rfl rfl)
theorem dX7_tries_82 : decode cX7_tries 82 = .ok (.aload_n 0, 1) := dk_42 (dk_at dksX7_tries_3 11 rfl rfl)
theorem dX7_tries_83 : decode cX7_tries 83 = .ok (.iload_n 1, 1) := dk_27 (dk_at dksX7_tries_3 12 rfl rfl)
theorem dX7_tries_84 : decode cX7_tries 84 = .ok (.putfield 360, 3) := dk_181 1 104 (dk_at dksX7_tries_3 13 rfl rfl)
theorem dX7_tries_87 : decode cX7_tries 87 = .ok (.aload_n 0, 1) := dk_42 (dk_at dksX7_tries_3 16 rfl rfl)
theorem dX7_tries_88 : decode cX7_tries 88 = .ok (.iload_n 2, 1) := dk_28 (dk_at dksX7_tries_3 17 rfl rfl)
theorem dX7_tries_89 : decode cX7_tries 89 = .ok (.putfield 363, 3) := dk_181 1 107 (dk_at dksX7_tries_3 18 rfl rfl)
theorem dX7_tries_92 : decode cX7_tries 92 = .ok (.return_, 1) := dk_177 (dk_at dksX7_tries_3 21 rfl rfl)
abbrev cX7_spoils : ByteArray := prog_16_method_108_code
def yX7_spoils : MethodName := ⟨RX7, "spoils", "(III)I"⟩
def dkwX7_spoils_2 : List UInt8 := [182, 1, 116, 182, 0, 85, 172]
abbrev dktX7_spoils_2 : List UInt8 := dkwX7_spoils_2 ++ []
def dkwX7_spoils_1 : List UInt8 := [21, 4, 158, 0, 12, 42, 21, 4, 182, 0, 81, 167, 0, 18, 42, 42, 42, 27, 28, 182, 1, 0, 29]
abbrev dktX7_spoils_1 : List UInt8 := dkwX7_spoils_1 ++ dktX7_spoils_2
def dkwX7_spoils_0 : List UInt8 := [29, 133, 9, 20, 1, 110, 184, 1, 39, 154, 0, 7, 4, 167, 0, 9, 42, 27, 28, 182, 1, 34, 54, 4]
abbrev dktX7_spoils_0 : List UInt8 := dkwX7_spoils_0 ++ dktX7_spoils_1
theorem dksX7_spoils_0 : cX7_spoils.data.toList.drop 0 = dktX7_spoils_0 := by decide +kernel
theorem dksX7_spoils_1 : cX7_spoils.data.toList.drop 24 = dktX7_spoils_1 := dk_seg dksX7_spoils_0 24 rfl rfl
theorem dksX7_spoils_2 : cX7_spoils.data.toList.drop 47 = dktX7_spoils_2 := dk_seg dksX7_spoils_1 23 rfl rfl
theorem dX7_spoils_0 : decode cX7_spoils 0 = .ok (.iload_n 3, 1) := dk_29 (dk_at dksX7_spoils_0 0 rfl rfl)
theorem dX7_spoils_1 : decode cX7_spoils 1 = .ok (.i2l, 1) := dk_133 (dk_at dksX7_spoils_0 1 rfl rfl)
theorem dX7_spoils_2 : decode cX7_spoils 2 = .ok (.lconst 0, 1) := dk_9 (dk_at dksX7_spoils_0 2 rfl rfl)
theorem dX7_spoils_3 : decode cX7_spoils 3 = .ok (.ldc2_w 366, 3) := dk_20 1 110 (dk_at dksX7_spoils_0 3 rfl rfl)
theorem dX7_spoils_6 : decode cX7_spoils 6 = .ok (.invokestatic 295, 3) := dk_184 1 39 (dk_at dksX7_spoils_0 6 rfl rfl)
theorem dX7_spoils_9 : decode cX7_spoils 9 = .ok (.ifCond .ne 7, 3) := dk_154 0 7 (dk_at dksX7_spoils_0 9 rfl rfl)
theorem dX7_spoils_12 : decode cX7_spoils 12 = .ok (.iconst 1, 1) := dk_4 (dk_at dksX7_spoils_0 12 rfl rfl)
theorem dX7_spoils_13 : decode cX7_spoils 13 = .ok (.goto 9, 3) := dk_167 0 9 (dk_at dksX7_spoils_0 13 rfl rfl)
theorem dX7_spoils_16 : decode cX7_spoils 16 = .ok (.aload_n 0, 1) := dk_42 (dk_at dksX7_spoils_0 16 rfl rfl)
theorem dX7_spoils_17 : decode cX7_spoils 17 = .ok (.iload_n 1, 1) := dk_27 (dk_at dksX7_spoils_0 17 rfl rfl)
theorem dX7_spoils_18 : decode cX7_spoils 18 = .ok (.iload_n 2, 1) := dk_28 (dk_at dksX7_spoils_0 18 rfl rfl)
theorem dX7_spoils_19 : decode cX7_spoils 19 = .ok (.invokevirtual 290, 3) := dk_182 1 34 (dk_at dksX7_spoils_0 19 rfl rfl)
theorem dX7_spoils_22 : decode cX7_spoils 22 = .ok (.istore 4, 2) := dk_54 4 (dk_at dksX7_spoils_0 22 rfl rfl)
theorem dX7_spoils_24 : decode cX7_spoils 24 = .ok (.iload 4, 2) := dk_21 4 (dk_at dksX7_spoils_1 0 rfl rfl)
theorem dX7_spoils_26 : decode cX7_spoils 26 = .ok (.ifCond .le 12, 3) := dk_158 0 12 (dk_at dksX7_spoils_1 2 rfl rfl)
theorem dX7_spoils_29 : decode cX7_spoils 29 = .ok (.aload_n 0, 1) := dk_42 (dk_at dksX7_spoils_1 5 rfl rfl)
theorem dX7_spoils_30 : decode cX7_spoils 30 = .ok (.iload 4, 2) := dk_21 4 (dk_at dksX7_spoils_1 6 rfl rfl)
theorem dX7_spoils_32 : decode cX7_spoils 32 = .ok (.invokevirtual 81, 3) := dk_182 0 81 (dk_at dksX7_spoils_1 8 rfl rfl)
theorem dX7_spoils_35 : decode cX7_spoils 35 = .ok (.goto 18, 3) := dk_167 0 18 (dk_at dksX7_spoils_1 11 rfl rfl)
theorem dX7_spoils_38 : decode cX7_spoils 38 = .ok (.aload_n 0, 1) := dk_42 (dk_at dksX7_spoils_1 14 rfl rfl)
theorem dX7_spoils_39 : decode cX7_spoils 39 = .ok (.aload_n 0, 1) := dk_42 (dk_at dksX7_spoils_1 15 rfl rfl)
theorem dX7_spoils_40 : decode cX7_spoils 40 = .ok (.aload_n 0, 1) := dk_42 (dk_at dksX7_spoils_1 16 rfl rfl)
theorem dX7_spoils_41 : decode cX7_spoils 41 = .ok (.iload_n 1, 1) := dk_27 (dk_at dksX7_spoils_1 17 rfl rfl)
theorem dX7_spoils_42 : decode cX7_spoils 42 = .ok (.iload_n 2, 1) := dk_28 (dk_at dksX7_spoils_1 18 rfl rfl)
theorem dX7_spoils_43 : decode cX7_spoils 43 = .ok (.invokevirtual 256, 3) := dk_182 1 0 (dk_at dksX7_spoils_1 19 rfl rfl)
theorem dX7_spoils_46 : decode cX7_spoils 46 = .ok (.iload_n 3, 1) := dk_29 (dk_at dksX7_spoils_1 22 rfl rfl)
theorem dX7_spoils_47 : decode cX7_spoils 47 = .ok (.invokevirtual 372, 3) := dk_182 1 116 (dk_at dksX7_spoils_2 0 rfl rfl)
theorem dX7_spoils_50 : decode cX7_spoils 50 = .ok (.invokevirtual 85, 3) := dk_182 0 85 (dk_at dksX7_spoils_2 3 rfl rfl)
theorem dX7_spoils_53 : decode cX7_spoils 53 = .ok (.ireturn, 1) := dk_172 (dk_at dksX7_spoils_2 6 rfl rfl)
abbrev cX7_spoilsBy : ByteArray := prog_16_method_107_code
def yX7_spoilsBy : MethodName := ⟨RX7, "spoilsBy", "(II)I"⟩
def dkwX7_spoilsBy_1 : List UInt8 := [130, 184, 0, 226, 172]
abbrev dktX7_spoilsBy_1 : List UInt8 := dkwX7_spoilsBy_1 ++ []
def dkwX7_spoilsBy_0 : List UInt8 := [42, 42, 180, 0, 7, 6, 46, 28, 182, 1, 56, 42, 42, 180, 0, 7, 6, 46, 27, 130, 28, 182, 1, 56]
abbrev dktX7_spoilsBy_0 : List UInt8 := dkwX7_spoilsBy_0 ++ dktX7_spoilsBy_1
theorem dksX7_spoilsBy_0 : cX7_spoilsBy.data.toList.drop 0 = dktX7_spoilsBy_0 := by decide +kernel
theorem dksX7_spoilsBy_1 : cX7_spoilsBy.data.toList.drop 24 = dktX7_spoilsBy_1 := dk_seg dksX7_spoilsBy_0 24 rfl rfl
theorem dX7_spoilsBy_0 : decode cX7_spoilsBy 0 = .ok (.aload_n 0, 1) := dk_42 (dk_at dksX7_spoilsBy_0 0 rfl rfl)
theorem dX7_spoilsBy_1 : decode cX7_spoilsBy 1 = .ok (.aload_n 0, 1) := dk_42 (dk_at dksX7_spoilsBy_0 1 rfl rfl)
theorem dX7_spoilsBy_2 : decode cX7_spoilsBy 2 = .ok (.getfield 7, 3) := dk_180 0 7 (dk_at dksX7_spoilsBy_0 2 rfl rfl)
theorem dX7_spoilsBy_5 : decode cX7_spoilsBy 5 = .ok (.iconst 3, 1) := dk_6 (dk_at dksX7_spoilsBy_0 5 rfl rfl)
theorem dX7_spoilsBy_6 : decode cX7_spoilsBy 6 = .ok (.iaload, 1) := dk_46 (dk_at dksX7_spoilsBy_0 6 rfl rfl)
theorem dX7_spoilsBy_7 : decode cX7_spoilsBy 7 = .ok (.iload_n 2, 1) := dk_28 (dk_at dksX7_spoilsBy_0 7 rfl rfl)
theorem dX7_spoilsBy_8 : decode cX7_spoilsBy 8 = .ok (.invokevirtual 312, 3) := dk_182 1 56 (dk_at dksX7_spoilsBy_0 8 rfl rfl)
theorem dX7_spoilsBy_11 : decode cX7_spoilsBy 11 = .ok (.aload_n 0, 1) := dk_42 (dk_at dksX7_spoilsBy_0 11 rfl rfl)
theorem dX7_spoilsBy_12 : decode cX7_spoilsBy 12 = .ok (.aload_n 0, 1) := dk_42 (dk_at dksX7_spoilsBy_0 12 rfl rfl)
theorem dX7_spoilsBy_13 : decode cX7_spoilsBy 13 = .ok (.getfield 7, 3) := dk_180 0 7 (dk_at dksX7_spoilsBy_0 13 rfl rfl)
theorem dX7_spoilsBy_16 : decode cX7_spoilsBy 16 = .ok (.iconst 3, 1) := dk_6 (dk_at dksX7_spoilsBy_0 16 rfl rfl)
theorem dX7_spoilsBy_17 : decode cX7_spoilsBy 17 = .ok (.iaload, 1) := dk_46 (dk_at dksX7_spoilsBy_0 17 rfl rfl)
theorem dX7_spoilsBy_18 : decode cX7_spoilsBy 18 = .ok (.iload_n 1, 1) := dk_27 (dk_at dksX7_spoilsBy_0 18 rfl rfl)
theorem dX7_spoilsBy_19 : decode cX7_spoilsBy 19 = .ok (.ixor, 1) := dk_130 (dk_at dksX7_spoilsBy_0 19 rfl rfl)
theorem dX7_spoilsBy_20 : decode cX7_spoilsBy 20 = .ok (.iload_n 2, 1) := dk_28 (dk_at dksX7_spoilsBy_0 20 rfl rfl)
theorem dX7_spoilsBy_21 : decode cX7_spoilsBy 21 = .ok (.invokevirtual 312, 3) := dk_182 1 56 (dk_at dksX7_spoilsBy_0 21 rfl rfl)
theorem dX7_spoilsBy_24 : decode cX7_spoilsBy 24 = .ok (.ixor, 1) := dk_130 (dk_at dksX7_spoilsBy_1 0 rfl rfl)
theorem dX7_spoilsBy_25 : decode cX7_spoilsBy 25 = .ok (.invokestatic 226, 3) := dk_184 0 226 (dk_at dksX7_spoilsBy_1 1 rfl rfl)
theorem dX7_spoilsBy_28 : decode cX7_spoilsBy 28 = .ok (.ireturn, 1) := dk_172 (dk_at dksX7_spoilsBy_1 4 rfl rfl)
abbrev cX7_worst : ByteArray := prog_16_method_109_code
def yX7_worst : MethodName := ⟨RX7, "worst", "(II)I"⟩
def dkwX7_worst_4 : List UInt8 := [167, 255, 201, 42, 28, 154, 0, 7, 29, 167, 0, 5, 21, 4, 182, 1, 21, 172]
abbrev dktX7_worst_4 : List UInt8 := dkwX7_worst_4 ++ []
def dkwX7_worst_3 : List UInt8 := [54, 6, 21, 6, 21, 4, 163, 0, 6, 167, 0, 10, 21, 6, 54, 4, 21, 5, 62, 132, 5, 1]
abbrev dktX7_worst_3 : List UInt8 := dkwX7_worst_3 ++ dktX7_worst_4
def dkwX7_worst_2 : List UInt8 := [182, 1, 12, 21, 5, 122, 4, 126, 154, 0, 6, 167, 0, 31, 42, 4, 21, 5, 120, 27, 182, 1, 116]
abbrev dktX7_worst_2 : List UInt8 := dkwX7_worst_2 ++ dktX7_worst_3
def dkwX7_worst_1 : List UInt8 := [182, 0, 81, 172, 2, 62, 2, 54, 4, 3, 54, 5, 21, 5, 42, 182, 1, 6, 162, 0, 52, 42]
abbrev dktX7_worst_1 : List UInt8 := dkwX7_worst_1 ++ dktX7_worst_2
def dkwX7_worst_0 : List UInt8 := [27, 133, 9, 20, 1, 110, 184, 1, 39, 153, 0, 12, 28, 155, 0, 8, 28, 4, 164, 0, 9, 42, 4]
abbrev dktX7_worst_0 : List UInt8 := dkwX7_worst_0 ++ dktX7_worst_1
theorem dksX7_worst_0 : cX7_worst.data.toList.drop 0 = dktX7_worst_0 := by decide +kernel
theorem dksX7_worst_1 : cX7_worst.data.toList.drop 23 = dktX7_worst_1 := dk_seg dksX7_worst_0 23 rfl rfl
theorem dksX7_worst_2 : cX7_worst.data.toList.drop 45 = dktX7_worst_2 := dk_seg dksX7_worst_1 22 rfl rfl
theorem dksX7_worst_3 : cX7_worst.data.toList.drop 68 = dktX7_worst_3 := dk_seg dksX7_worst_2 23 rfl rfl
theorem dksX7_worst_4 : cX7_worst.data.toList.drop 90 = dktX7_worst_4 := dk_seg dksX7_worst_3 22 rfl rfl
theorem dX7_worst_0 : decode cX7_worst 0 = .ok (.iload_n 1, 1) := dk_27 (dk_at dksX7_worst_0 0 rfl rfl)
theorem dX7_worst_1 : decode cX7_worst 1 = .ok (.i2l, 1) := dk_133 (dk_at dksX7_worst_0 1 rfl rfl)
theorem dX7_worst_2 : decode cX7_worst 2 = .ok (.lconst 0, 1) := dk_9 (dk_at dksX7_worst_0 2 rfl rfl)
theorem dX7_worst_3 : decode cX7_worst 3 = .ok (.ldc2_w 366, 3) := dk_20 1 110 (dk_at dksX7_worst_0 3 rfl rfl)
theorem dX7_worst_6 : decode cX7_worst 6 = .ok (.invokestatic 295, 3) := dk_184 1 39 (dk_at dksX7_worst_0 6 rfl rfl)
theorem dX7_worst_9 : decode cX7_worst 9 = .ok (.ifCond .eq 12, 3) := dk_153 0 12 (dk_at dksX7_worst_0 9 rfl rfl)
theorem dX7_worst_12 : decode cX7_worst 12 = .ok (.iload_n 2, 1) := dk_28 (dk_at dksX7_worst_0 12 rfl rfl)
theorem dX7_worst_13 : decode cX7_worst 13 = .ok (.ifCond .lt 8, 3) := dk_155 0 8 (dk_at dksX7_worst_0 13 rfl rfl)
theorem dX7_worst_16 : decode cX7_worst 16 = .ok (.iload_n 2, 1) := dk_28 (dk_at dksX7_worst_0 16 rfl rfl)
theorem dX7_worst_17 : decode cX7_worst 17 = .ok (.iconst 1, 1) := dk_4 (dk_at dksX7_worst_0 17 rfl rfl)
theorem dX7_worst_18 : decode cX7_worst 18 = .ok (.if_icmp .le 9, 3) := dk_164 0 9 (dk_at dksX7_worst_0 18 rfl rfl)
theorem dX7_worst_21 : decode cX7_worst 21 = .ok (.aload_n 0, 1) := dk_42 (dk_at dksX7_worst_0 21 rfl rfl)
theorem dX7_worst_22 : decode cX7_worst 22 = .ok (.iconst 1, 1) := dk_4 (dk_at dksX7_worst_0 22 rfl rfl)
theorem dX7_worst_23 : decode cX7_worst 23 = .ok (.invokevirtual 81, 3) := dk_182 0 81 (dk_at dksX7_worst_1 0 rfl rfl)
theorem dX7_worst_26 : decode cX7_worst 26 = .ok (.ireturn, 1) := dk_172 (dk_at dksX7_worst_1 3 rfl rfl)
theorem dX7_worst_27 : decode cX7_worst 27 = .ok (.iconst (-1), 1) := dk_2 (dk_at dksX7_worst_1 4 rfl rfl)
theorem dX7_worst_28 : decode cX7_worst 28 = .ok (.istore_n 3, 1) := dk_62 (dk_at dksX7_worst_1 5 rfl rfl)
theorem dX7_worst_29 : decode cX7_worst 29 = .ok (.iconst (-1), 1) := dk_2 (dk_at dksX7_worst_1 6 rfl rfl)
theorem dX7_worst_30 : decode cX7_worst 30 = .ok (.istore 4, 2) := dk_54 4 (dk_at dksX7_worst_1 7 rfl rfl)
theorem dX7_worst_32 : decode cX7_worst 32 = .ok (.iconst 0, 1) := dk_3 (dk_at dksX7_worst_1 9 rfl rfl)
theorem dX7_worst_33 : decode cX7_worst 33 = .ok (.istore 5, 2) := dk_54 5 (dk_at dksX7_worst_1 10 rfl rfl)
theorem dX7_worst_35 : decode cX7_worst 35 = .ok (.iload 5, 2) := dk_21 5 (dk_at dksX7_worst_1 12 rfl rfl)
theorem dX7_worst_37 : decode cX7_worst 37 = .ok (.aload_n 0, 1) := dk_42 (dk_at dksX7_worst_1 14 rfl rfl)
theorem dX7_worst_38 : decode cX7_worst 38 = .ok (.invokevirtual 262, 3) := dk_182 1 6 (dk_at dksX7_worst_1 15 rfl rfl)
theorem dX7_worst_41 : decode cX7_worst 41 = .ok (.if_icmp .ge 52, 3) := dk_162 0 52 (dk_at dksX7_worst_1 18 rfl rfl)
theorem dX7_worst_44 : decode cX7_worst 44 = .ok (.aload_n 0, 1) := dk_42 (dk_at dksX7_worst_1 21 rfl rfl)
theorem dX7_worst_45 : decode cX7_worst 45 = .ok (.invokevirtual 268, 3) := dk_182 1 12 (dk_at dksX7_worst_2 0 rfl rfl)
theorem dX7_worst_48 : decode cX7_worst 48 = .ok (.iload 5, 2) := dk_21 5 (dk_at dksX7_worst_2 3 rfl rfl)
theorem dX7_worst_50 : decode cX7_worst 50 = .ok (.ishr, 1) := dk_122 (dk_at dksX7_worst_2 5 rfl rfl)
theorem dX7_worst_51 : decode cX7_worst 51 = .ok (.iconst 1, 1) := dk_4 (dk_at dksX7_worst_2 6 rfl rfl)
theorem dX7_worst_52 : decode cX7_worst 52 = .ok (.iand, 1) := dk_126 (dk_at dksX7_worst_2 7 rfl rfl)
theorem dX7_worst_53 : decode cX7_worst 53 = .ok (.ifCond .ne 6, 3) := dk_154 0 6 (dk_at dksX7_worst_2 8 rfl rfl)
theorem dX7_worst_56 : decode cX7_worst 56 = .ok (.goto 31, 3) := dk_167 0 31 (dk_at dksX7_worst_2 11 rfl rfl)
theorem dX7_worst_59 : decode cX7_worst 59 = .ok (.aload_n 0, 1) := dk_42 (dk_at dksX7_worst_2 14 rfl rfl)
theorem dX7_worst_60 : decode cX7_worst 60 = .ok (.iconst 1, 1) := dk_4 (dk_at dksX7_worst_2 15 rfl rfl)
theorem dX7_worst_61 : decode cX7_worst 61 = .ok (.iload 5, 2) := dk_21 5 (dk_at dksX7_worst_2 16 rfl rfl)
theorem dX7_worst_63 : decode cX7_worst 63 = .ok (.ishl, 1) := dk_120 (dk_at dksX7_worst_2 18 rfl rfl)
theorem dX7_worst_64 : decode cX7_worst 64 = .ok (.iload_n 1, 1) := dk_27 (dk_at dksX7_worst_2 19 rfl rfl)
theorem dX7_worst_65 : decode cX7_worst 65 = .ok (.invokevirtual 372, 3) := dk_182 1 116 (dk_at dksX7_worst_2 20 rfl rfl)
theorem dX7_worst_68 : decode cX7_worst 68 = .ok (.istore 6, 2) := dk_54 6 (dk_at dksX7_worst_3 0 rfl rfl)
theorem dX7_worst_70 : decode cX7_worst 70 = .ok (.iload 6, 2) := dk_21 6 (dk_at dksX7_worst_3 2 rfl rfl)
theorem dX7_worst_72 : decode cX7_worst 72 = .ok (.iload 4, 2) := dk_21 4 (dk_at dksX7_worst_3 4 rfl rfl)
theorem dX7_worst_74 : decode cX7_worst 74 = .ok (.if_icmp .gt 6, 3) := dk_163 0 6 (dk_at dksX7_worst_3 6 rfl rfl)
theorem dX7_worst_77 : decode cX7_worst 77 = .ok (.goto 10, 3) := dk_167 0 10 (dk_at dksX7_worst_3 9 rfl rfl)
theorem dX7_worst_80 : decode cX7_worst 80 = .ok (.iload 6, 2) := dk_21 6 (dk_at dksX7_worst_3 12 rfl rfl)
theorem dX7_worst_82 : decode cX7_worst 82 = .ok (.istore 4, 2) := dk_54 4 (dk_at dksX7_worst_3 14 rfl rfl)
theorem dX7_worst_84 : decode cX7_worst 84 = .ok (.iload 5, 2) := dk_21 5 (dk_at dksX7_worst_3 16 rfl rfl)
theorem dX7_worst_86 : decode cX7_worst 86 = .ok (.istore_n 3, 1) := dk_62 (dk_at dksX7_worst_3 18 rfl rfl)
theorem dX7_worst_87 : decode cX7_worst 87 = .ok (.iinc 5 1, 3) := dk_132 5 1 (dk_at dksX7_worst_3 19 rfl rfl)
theorem dX7_worst_90 : decode cX7_worst 90 = .ok (.goto (-55), 3) := dk_167 255 201 (dk_at dksX7_worst_4 0 rfl rfl)
theorem dX7_worst_93 : decode cX7_worst 93 = .ok (.aload_n 0, 1) := dk_42 (dk_at dksX7_worst_4 3 rfl rfl)
theorem dX7_worst_94 : decode cX7_worst 94 = .ok (.iload_n 2, 1) := dk_28 (dk_at dksX7_worst_4 4 rfl rfl)
theorem dX7_worst_95 : decode cX7_worst 95 = .ok (.ifCond .ne 7, 3) := dk_154 0 7 (dk_at dksX7_worst_4 5 rfl rfl)
theorem dX7_worst_98 : decode cX7_worst 98 = .ok (.iload_n 3, 1) := dk_29 (dk_at dksX7_worst_4 8 rfl rfl)
theorem dX7_worst_99 : decode cX7_worst 99 = .ok (.goto 5, 3) := dk_167 0 5 (dk_at dksX7_worst_4 9 rfl rfl)
theorem dX7_worst_102 : decode cX7_worst 102 = .ok (.iload 4, 2) := dk_21 4 (dk_at dksX7_worst_4 12 rfl rfl)
theorem dX7_worst_104 : decode cX7_worst 104 = .ok (.invokevirtual 277, 3) := dk_182 1 21 (dk_at dksX7_worst_4 14 rfl rfl)
theorem dX7_worst_107 : decode cX7_worst 107 = .ok (.ireturn, 1) := dk_172 (dk_at dksX7_worst_4 17 rfl rfl)
abbrev cX7_mend : ByteArray := prog_16_method_110_code
def yX7_mend : MethodName := ⟨RX7, "mend", "(JI)I"⟩
def dkwX7_mend_10 : List UInt8 := [132, 9, 1, 167, 255, 102, 42, 29, 154, 0, 8, 21, 7, 167, 0, 5, 21, 6, 182, 0, 85, 172]
abbrev dktX7_mend_10 : List UInt8 := dkwX7_mend_10 ++ []
def dkwX7_mend_9 : List UInt8 := [167, 0, 18, 21, 12, 54, 7, 21, 11, 184, 0, 226, 54, 8, 21, 11, 54, 6, 132, 10, 1, 167, 255, 121]
abbrev dktX7_mend_9 : List UInt8 := dkwX7_mend_9 ++ dktX7_mend_10
def dkwX7_mend_8 : List UInt8 := [160, 0, 14, 21, 11, 21, 6, 162, 0, 7, 4, 167, 0, 4, 3, 54, 13, 21, 13, 154, 0, 6]
abbrev dktX7_mend_8 : List UInt8 := dkwX7_mend_8 ++ dktX7_mend_9
def dkwX7_mend_7 : List UInt8 := [21, 7, 160, 0, 34, 21, 11, 184, 0, 226, 21, 8, 161, 0, 20, 21, 11, 184, 0, 226, 21, 8]
abbrev dktX7_mend_7 : List UInt8 := dkwX7_mend_7 ++ dktX7_mend_8
def dkwX7_mend_6 : List UInt8 := [16, 10, 46, 182, 1, 18, 21, 4, 130, 184, 0, 226, 54, 12, 21, 12, 21, 7, 161, 0, 37, 21, 12]
abbrev dktX7_mend_6 : List UInt8 := dkwX7_mend_6 ++ dktX7_mend_7
def dkwX7_mend_5 : List UInt8 := [2, 130, 126, 153, 0, 6, 167, 0, 102, 42, 42, 180, 0, 7, 6, 46, 21, 11, 130, 42, 180, 0, 7]
abbrev dktX7_mend_5 : List UInt8 := dkwX7_mend_5 ++ dktX7_mend_6
def dkwX7_mend_4 : List UInt8 := [21, 10, 42, 182, 1, 6, 162, 0, 132, 4, 21, 9, 120, 4, 21, 10, 120, 128, 54, 11, 21, 11, 21, 5]
abbrev dktX7_mend_4 : List UInt8 := dkwX7_mend_4 ++ dktX7_mend_5
def dkwX7_mend_3 : List UInt8 := [184, 0, 226, 54, 7, 3, 54, 8, 3, 54, 9, 21, 9, 42, 182, 1, 6, 162, 0, 151, 21, 9, 54, 10]
abbrev dktX7_mend_3 : List UInt8 := dkwX7_mend_3 ++ dktX7_mend_4
def dkwX7_mend_2 : List UInt8 := [54, 6, 42, 42, 180, 0, 7, 6, 46, 42, 180, 0, 7, 16, 10, 46, 182, 1, 18, 21, 4, 130]
abbrev dktX7_mend_2 : List UInt8 := dkwX7_mend_2 ++ dktX7_mend_3
def dkwX7_mend_1 : List UInt8 := [182, 0, 81, 172, 42, 182, 1, 15, 31, 136, 42, 182, 1, 119, 126, 54, 4, 42, 182, 1, 12, 54, 5, 3]
abbrev dktX7_mend_1 : List UInt8 := dkwX7_mend_1 ++ dktX7_mend_2
def dkwX7_mend_0 : List UInt8 := [31, 9, 20, 1, 37, 184, 1, 39, 153, 0, 12, 29, 155, 0, 8, 29, 4, 164, 0, 9, 42, 4]
abbrev dktX7_mend_0 : List UInt8 := dkwX7_mend_0 ++ dktX7_mend_1
theorem dksX7_mend_0 : cX7_mend.data.toList.drop 0 = dktX7_mend_0 := by decide +kernel
theorem dksX7_mend_1 : cX7_mend.data.toList.drop 22 = dktX7_mend_1 := dk_seg dksX7_mend_0 22 rfl rfl
theorem dksX7_mend_2 : cX7_mend.data.toList.drop 46 = dktX7_mend_2 := dk_seg dksX7_mend_1 24 rfl rfl
theorem dksX7_mend_3 : cX7_mend.data.toList.drop 68 = dktX7_mend_3 := dk_seg dksX7_mend_2 22 rfl rfl
theorem dksX7_mend_4 : cX7_mend.data.toList.drop 92 = dktX7_mend_4 := dk_seg dksX7_mend_3 24 rfl rfl
theorem dksX7_mend_5 : cX7_mend.data.toList.drop 116 = dktX7_mend_5 := dk_seg dksX7_mend_4 24 rfl rfl
theorem dksX7_mend_6 : cX7_mend.data.toList.drop 139 = dktX7_mend_6 := dk_seg dksX7_mend_5 23 rfl rfl
theorem dksX7_mend_7 : cX7_mend.data.toList.drop 162 = dktX7_mend_7 := dk_seg dksX7_mend_6 23 rfl rfl
theorem dksX7_mend_8 : cX7_mend.data.toList.drop 184 = dktX7_mend_8 := dk_seg dksX7_mend_7 22 rfl rfl
theorem dksX7_mend_9 : cX7_mend.data.toList.drop 206 = dktX7_mend_9 := dk_seg dksX7_mend_8 22 rfl rfl
theorem dksX7_mend_10 : cX7_mend.data.toList.drop 230 = dktX7_mend_10 := dk_seg dksX7_mend_9 24 rfl rfl
theorem dX7_mend_0 : decode cX7_mend 0 = .ok (.lload_n 1, 1) := dk_31 (dk_at dksX7_mend_0 0 rfl rfl)
theorem dX7_mend_1 : decode cX7_mend 1 = .ok (.lconst 0, 1) := dk_9 (dk_at dksX7_mend_0 1 rfl rfl)
theorem dX7_mend_2 : decode cX7_mend 2 = .ok (.ldc2_w 293, 3) := dk_20 1 37 (dk_at dksX7_mend_0 2 rfl rfl)
theorem dX7_mend_5 : decode cX7_mend 5 = .ok (.invokestatic 295, 3) := dk_184 1 39 (dk_at dksX7_mend_0 5 rfl rfl)
theorem dX7_mend_8 : decode cX7_mend 8 = .ok (.ifCond .eq 12, 3) := dk_153 0 12 (dk_at dksX7_mend_0 8 rfl rfl)
theorem dX7_mend_11 : decode cX7_mend 11 = .ok (.iload_n 3, 1) := dk_29 (dk_at dksX7_mend_0 11 rfl rfl)
theorem dX7_mend_12 : decode cX7_mend 12 = .ok (.ifCond .lt 8, 3) := dk_155 0 8 (dk_at dksX7_mend_0 12 rfl rfl)
theorem dX7_mend_15 : decode cX7_mend 15 = .ok (.iload_n 3, 1) := dk_29 (dk_at dksX7_mend_0 15 rfl rfl)
theorem dX7_mend_16 : decode cX7_mend 16 = .ok (.iconst 1, 1) := dk_4 (dk_at dksX7_mend_0 16 rfl rfl)
theorem dX7_mend_17 : decode cX7_mend 17 = .ok (.if_icmp .le 9, 3) := dk_164 0 9 (dk_at dksX7_mend_0 17 rfl rfl)
theorem dX7_mend_20 : decode cX7_mend 20 = .ok (.aload_n 0, 1) := dk_42 (dk_at dksX7_mend_0 20 rfl rfl)
theorem dX7_mend_21 : decode cX7_mend 21 = .ok (.iconst 1, 1) := dk_4 (dk_at dksX7_mend_0 21 rfl rfl)
theorem dX7_mend_22 : decode cX7_mend 22 = .ok (.invokevirtual 81, 3) := dk_182 0 81 (dk_at dksX7_mend_1 0 rfl rfl)
theorem dX7_mend_25 : decode cX7_mend 25 = .ok (.ireturn, 1) := dk_172 (dk_at dksX7_mend_1 3 rfl rfl)
theorem dX7_mend_26 : decode cX7_mend 26 = .ok (.aload_n 0, 1) := dk_42 (dk_at dksX7_mend_1 4 rfl rfl)
theorem dX7_mend_27 : decode cX7_mend 27 = .ok (.invokevirtual 271, 3) := dk_182 1 15 (dk_at dksX7_mend_1 5 rfl rfl)
theorem dX7_mend_30 : decode cX7_mend 30 = .ok (.lload_n 1, 1) := dk_31 (dk_at dksX7_mend_1 8 rfl rfl)
theorem dX7_mend_31 : decode cX7_mend 31 = .ok (.l2i, 1) := dk_136 (dk_at dksX7_mend_1 9 rfl rfl)
theorem dX7_mend_32 : decode cX7_mend 32 = .ok (.aload_n 0, 1) := dk_42 (dk_at dksX7_mend_1 10 rfl rfl)
theorem dX7_mend_33 : decode cX7_mend 33 = .ok (.invokevirtual 375, 3) := dk_182 1 119 (dk_at dksX7_mend_1 11 rfl rfl)
theorem dX7_mend_36 : decode cX7_mend 36 = .ok (.iand, 1) := dk_126 (dk_at dksX7_mend_1 14 rfl rfl)
theorem dX7_mend_37 : decode cX7_mend 37 = .ok (.istore 4, 2) := dk_54 4 (dk_at dksX7_mend_1 15 rfl rfl)
theorem dX7_mend_39 : decode cX7_mend 39 = .ok (.aload_n 0, 1) := dk_42 (dk_at dksX7_mend_1 17 rfl rfl)
theorem dX7_mend_40 : decode cX7_mend 40 = .ok (.invokevirtual 268, 3) := dk_182 1 12 (dk_at dksX7_mend_1 18 rfl rfl)
theorem dX7_mend_43 : decode cX7_mend 43 = .ok (.istore 5, 2) := dk_54 5 (dk_at dksX7_mend_1 21 rfl rfl)
theorem dX7_mend_45 : decode cX7_mend 45 = .ok (.iconst 0, 1) := dk_3 (dk_at dksX7_mend_1 23 rfl rfl)
theorem dX7_mend_46 : decode cX7_mend 46 = .ok (.istore 6, 2) := dk_54 6 (dk_at dksX7_mend_2 0 rfl rfl)
theorem dX7_mend_48 : decode cX7_mend 48 = .ok (.aload_n 0, 1) := dk_42 (dk_at dksX7_mend_2 2 rfl rfl)
theorem dX7_mend_49 : decode cX7_mend 49 = .ok (.aload_n 0, 1) := dk_42 (dk_at dksX7_mend_2 3 rfl rfl)
theorem dX7_mend_50 : decode cX7_mend 50 = .ok (.getfield 7, 3) := dk_180 0 7 (dk_at dksX7_mend_2 4 rfl rfl)
theorem dX7_mend_53 : decode cX7_mend 53 = .ok (.iconst 3, 1) := dk_6 (dk_at dksX7_mend_2 7 rfl rfl)
theorem dX7_mend_54 : decode cX7_mend 54 = .ok (.iaload, 1) := dk_46 (dk_at dksX7_mend_2 8 rfl rfl)
theorem dX7_mend_55 : decode cX7_mend 55 = .ok (.aload_n 0, 1) := dk_42 (dk_at dksX7_mend_2 9 rfl rfl)
theorem dX7_mend_56 : decode cX7_mend 56 = .ok (.getfield 7, 3) := dk_180 0 7 (dk_at dksX7_mend_2 10 rfl rfl)
theorem dX7_mend_59 : decode cX7_mend 59 = .ok (.bipush 10, 2) := dk_16 10 (dk_at dksX7_mend_2 13 rfl rfl)
theorem dX7_mend_61 : decode cX7_mend 61 = .ok (.iaload, 1) := dk_46 (dk_at dksX7_mend_2 15 rfl rfl)
theorem dX7_mend_62 : decode cX7_mend 62 = .ok (.invokevirtual 274, 3) := dk_182 1 18 (dk_at dksX7_mend_2 16 rfl rfl)
theorem dX7_mend_65 : decode cX7_mend 65 = .ok (.iload 4, 2) := dk_21 4 (dk_at dksX7_mend_2 19 rfl rfl)
theorem dX7_mend_67 : decode cX7_mend 67 = .ok (.ixor, 1) := dk_130 (dk_at dksX7_mend_2 21 rfl rfl)
theorem dX7_mend_68 : decode cX7_mend 68 = .ok (.invokestatic 226, 3) := dk_184 0 226 (dk_at dksX7_mend_3 0 rfl rfl)
theorem dX7_mend_71 : decode cX7_mend 71 = .ok (.istore 7, 2) := dk_54 7 (dk_at dksX7_mend_3 3 rfl rfl)
theorem dX7_mend_73 : decode cX7_mend 73 = .ok (.iconst 0, 1) := dk_3 (dk_at dksX7_mend_3 5 rfl rfl)
theorem dX7_mend_74 : decode cX7_mend 74 = .ok (.istore 8, 2) := dk_54 8 (dk_at dksX7_mend_3 6 rfl rfl)
theorem dX7_mend_76 : decode cX7_mend 76 = .ok (.iconst 0, 1) := dk_3 (dk_at dksX7_mend_3 8 rfl rfl)
theorem dX7_mend_77 : decode cX7_mend 77 = .ok (.istore 9, 2) := dk_54 9 (dk_at dksX7_mend_3 9 rfl rfl)
theorem dX7_mend_79 : decode cX7_mend 79 = .ok (.iload 9, 2) := dk_21 9 (dk_at dksX7_mend_3 11 rfl rfl)
theorem dX7_mend_81 : decode cX7_mend 81 = .ok (.aload_n 0, 1) := dk_42 (dk_at dksX7_mend_3 13 rfl rfl)
theorem dX7_mend_82 : decode cX7_mend 82 = .ok (.invokevirtual 262, 3) := dk_182 1 6 (dk_at dksX7_mend_3 14 rfl rfl)
theorem dX7_mend_85 : decode cX7_mend 85 = .ok (.if_icmp .ge 151, 3) := dk_162 0 151 (dk_at dksX7_mend_3 17 rfl rfl)
theorem dX7_mend_88 : decode cX7_mend 88 = .ok (.iload 9, 2) := dk_21 9 (dk_at dksX7_mend_3 20 rfl rfl)
theorem dX7_mend_90 : decode cX7_mend 90 = .ok (.istore 10, 2) := dk_54 10 (dk_at dksX7_mend_3 22 rfl rfl)
theorem dX7_mend_92 : decode cX7_mend 92 = .ok (.iload 10, 2) := dk_21 10 (dk_at dksX7_mend_4 0 rfl rfl)
theorem dX7_mend_94 : decode cX7_mend 94 = .ok (.aload_n 0, 1) := dk_42 (dk_at dksX7_mend_4 2 rfl rfl)
theorem dX7_mend_95 : decode cX7_mend 95 = .ok (.invokevirtual 262, 3) := dk_182 1 6 (dk_at dksX7_mend_4 3 rfl rfl)
theorem dX7_mend_98 : decode cX7_mend 98 = .ok (.if_icmp .ge 132, 3) := dk_162 0 132 (dk_at dksX7_mend_4 6 rfl rfl)
theorem dX7_mend_101 : decode cX7_mend 101 = .ok (.iconst 1, 1) := dk_4 (dk_at dksX7_mend_4 9 rfl rfl)
theorem dX7_mend_102 : decode cX7_mend 102 = .ok (.iload 9, 2) := dk_21 9 (dk_at dksX7_mend_4 10 rfl rfl)
theorem dX7_mend_104 : decode cX7_mend 104 = .ok (.ishl, 1) := dk_120 (dk_at dksX7_mend_4 12 rfl rfl)
theorem dX7_mend_105 : decode cX7_mend 105 = .ok (.iconst 1, 1) := dk_4 (dk_at dksX7_mend_4 13 rfl rfl)
theorem dX7_mend_106 : decode cX7_mend 106 = .ok (.iload 10, 2) := dk_21 10 (dk_at dksX7_mend_4 14 rfl rfl)
theorem dX7_mend_108 : decode cX7_mend 108 = .ok (.ishl, 1) := dk_120 (dk_at dksX7_mend_4 16 rfl rfl)
theorem dX7_mend_109 : decode cX7_mend 109 = .ok (.ior, 1) := dk_128 (dk_at dksX7_mend_4 17 rfl rfl)
theorem dX7_mend_110 : decode cX7_mend 110 = .ok (.istore 11, 2) := dk_54 11 (dk_at dksX7_mend_4 18 rfl rfl)
theorem dX7_mend_112 : decode cX7_mend 112 = .ok (.iload 11, 2) := dk_21 11 (dk_at dksX7_mend_4 20 rfl rfl)
theorem dX7_mend_114 : decode cX7_mend 114 = .ok (.iload 5, 2) := dk_21 5 (dk_at dksX7_mend_4 22 rfl rfl)
theorem dX7_mend_116 : decode cX7_mend 116 = .ok (.iconst (-1), 1) := dk_2 (dk_at dksX7_mend_5 0 rfl rfl)
theorem dX7_mend_117 : decode cX7_mend 117 = .ok (.ixor, 1) := dk_130 (dk_at dksX7_mend_5 1 rfl rfl)
theorem dX7_mend_118 : decode cX7_mend 118 = .ok (.iand, 1) := dk_126 (dk_at dksX7_mend_5 2 rfl rfl)
theorem dX7_mend_119 : decode cX7_mend 119 = .ok (.ifCond .eq 6, 3) := dk_153 0 6 (dk_at dksX7_mend_5 3 rfl rfl)
theorem dX7_mend_122 : decode cX7_mend 122 = .ok (.goto 102, 3) := dk_167 0 102 (dk_at dksX7_mend_5 6 rfl rfl)
theorem dX7_mend_125 : decode cX7_mend 125 = .ok (.aload_n 0, 1) := dk_42 (dk_at dksX7_mend_5 9 rfl rfl)
theorem dX7_mend_126 : decode cX7_mend 126 = .ok (.aload_n 0, 1) := dk_42 (dk_at dksX7_mend_5 10 rfl rfl)
theorem dX7_mend_127 : decode cX7_mend 127 = .ok (.getfield 7, 3) := dk_180 0 7 (dk_at dksX7_mend_5 11 rfl rfl)
theorem dX7_mend_130 : decode cX7_mend 130 = .ok (.iconst 3, 1) := dk_6 (dk_at dksX7_mend_5 14 rfl rfl)
theorem dX7_mend_131 : decode cX7_mend 131 = .ok (.iaload, 1) := dk_46 (dk_at dksX7_mend_5 15 rfl rfl)
theorem dX7_mend_132 : decode cX7_mend 132 = .ok (.iload 11, 2) := dk_21 11 (dk_at dksX7_mend_5 16 rfl rfl)
theorem dX7_mend_134 : decode cX7_mend 134 = .ok (.ixor, 1) := dk_130 (dk_at dksX7_mend_5 18 rfl rfl)
theorem dX7_mend_135 : decode cX7_mend 135 = .ok (.aload_n 0, 1) := dk_42 (dk_at dksX7_mend_5 19 rfl rfl)
theorem dX7_mend_136 : decode cX7_mend 136 = .ok (.getfield 7, 3) := dk_180 0 7 (dk_at dksX7_mend_5 20 rfl rfl)
theorem dX7_mend_139 : decode cX7_mend 139 = .ok (.bipush 10, 2) := dk_16 10 (dk_at dksX7_mend_6 0 rfl rfl)
theorem dX7_mend_141 : decode cX7_mend 141 = .ok (.iaload, 1) := dk_46 (dk_at dksX7_mend_6 2 rfl rfl)
theorem dX7_mend_142 : decode cX7_mend 142 = .ok (.invokevirtual 274, 3) := dk_182 1 18 (dk_at dksX7_mend_6 3 rfl rfl)
theorem dX7_mend_145 : decode cX7_mend 145 = .ok (.iload 4, 2) := dk_21 4 (dk_at dksX7_mend_6 6 rfl rfl)
theorem dX7_mend_147 : decode cX7_mend 147 = .ok (.ixor, 1) := dk_130 (dk_at dksX7_mend_6 8 rfl rfl)
theorem dX7_mend_148 : decode cX7_mend 148 = .ok (.invokestatic 226, 3) := dk_184 0 226 (dk_at dksX7_mend_6 9 rfl rfl)
theorem dX7_mend_151 : decode cX7_mend 151 = .ok (.istore 12, 2) := dk_54 12 (dk_at dksX7_mend_6 12 rfl rfl)
theorem dX7_mend_153 : decode cX7_mend 153 = .ok (.iload 12, 2) := dk_21 12 (dk_at dksX7_mend_6 14 rfl rfl)
theorem dX7_mend_155 : decode cX7_mend 155 = .ok (.iload 7, 2) := dk_21 7 (dk_at dksX7_mend_6 16 rfl rfl)
theorem dX7_mend_157 : decode cX7_mend 157 = .ok (.if_icmp .lt 37, 3) := dk_161 0 37 (dk_at dksX7_mend_6 18 rfl rfl)
theorem dX7_mend_160 : decode cX7_mend 160 = .ok (.iload 12, 2) := dk_21 12 (dk_at dksX7_mend_6 21 rfl rfl)
theorem dX7_mend_162 : decode cX7_mend 162 = .ok (.iload 7, 2) := dk_21 7 (dk_at dksX7_mend_7 0 rfl rfl)
theorem dX7_mend_164 : decode cX7_mend 164 = .ok (.if_icmp .ne 34, 3) := dk_160 0 34 (dk_at dksX7_mend_7 2 rfl rfl)
theorem dX7_mend_167 : decode cX7_mend 167 = .ok (.iload 11, 2) := dk_21 11 (dk_at dksX7_mend_7 5 rfl rfl)
theorem dX7_mend_169 : decode cX7_mend 169 = .ok (.invokestatic 226, 3) := dk_184 0 226 (dk_at dksX7_mend_7 7 rfl rfl)
theorem dX7_mend_172 : decode cX7_mend 172 = .ok (.iload 8, 2) := dk_21 8 (dk_at dksX7_mend_7 10 rfl rfl)
theorem dX7_mend_174 : decode cX7_mend 174 = .ok (.if_icmp .lt 20, 3) := dk_161 0 20 (dk_at dksX7_mend_7 12 rfl rfl)
theorem dX7_mend_177 : decode cX7_mend 177 = .ok (.iload 11, 2) := dk_21 11 (dk_at dksX7_mend_7 15 rfl rfl)
theorem dX7_mend_179 : decode cX7_mend 179 = .ok (.invokestatic 226, 3) := dk_184 0 226 (dk_at dksX7_mend_7 17 rfl rfl)
theorem dX7_mend_182 : decode cX7_mend 182 = .ok (.iload 8, 2) := dk_21 8 (dk_at dksX7_mend_7 20 rfl rfl)
theorem dX7_mend_184 : decode cX7_mend 184 = .ok (.if_icmp .ne 14, 3) := dk_160 0 14 (dk_at dksX7_mend_8 0 rfl rfl)
theorem dX7_mend_187 : decode cX7_mend 187 = .ok (.iload 11, 2) := dk_21 11 (dk_at dksX7_mend_8 3 rfl rfl)
theorem dX7_mend_189 : decode cX7_mend 189 = .ok (.iload 6, 2) := dk_21 6 (dk_at dksX7_mend_8 5 rfl rfl)
theorem dX7_mend_191 : decode cX7_mend 191 = .ok (.if_icmp .ge 7, 3) := dk_162 0 7 (dk_at dksX7_mend_8 7 rfl rfl)
theorem dX7_mend_194 : decode cX7_mend 194 = .ok (.iconst 1, 1) := dk_4 (dk_at dksX7_mend_8 10 rfl rfl)
theorem dX7_mend_195 : decode cX7_mend 195 = .ok (.goto 4, 3) := dk_167 0 4 (dk_at dksX7_mend_8 11 rfl rfl)
theorem dX7_mend_198 : decode cX7_mend 198 = .ok (.iconst 0, 1) := dk_3 (dk_at dksX7_mend_8 14 rfl rfl)
theorem dX7_mend_199 : decode cX7_mend 199 = .ok (.istore 13, 2) := dk_54 13 (dk_at dksX7_mend_8 15 rfl rfl)
theorem dX7_mend_201 : decode cX7_mend 201 = .ok (.iload 13, 2) := dk_21 13 (dk_at dksX7_mend_8 17 rfl rfl)
theorem dX7_mend_203 : decode cX7_mend 203 = .ok (.ifCond .ne 6, 3) := dk_154 0 6 (dk_at dksX7_mend_8 19 rfl rfl)
theorem dX7_mend_206 : decode cX7_mend 206 = .ok (.goto 18, 3) := dk_167 0 18 (dk_at dksX7_mend_9 0 rfl rfl)
theorem dX7_mend_209 : decode cX7_mend 209 = .ok (.iload 12, 2) := dk_21 12 (dk_at dksX7_mend_9 3 rfl rfl)
theorem dX7_mend_211 : decode cX7_mend 211 = .ok (.istore 7, 2) := dk_54 7 (dk_at dksX7_mend_9 5 rfl rfl)
theorem dX7_mend_213 : decode cX7_mend 213 = .ok (.iload 11, 2) := dk_21 11 (dk_at dksX7_mend_9 7 rfl rfl)
theorem dX7_mend_215 : decode cX7_mend 215 = .ok (.invokestatic 226, 3) := dk_184 0 226 (dk_at dksX7_mend_9 9 rfl rfl)
theorem dX7_mend_218 : decode cX7_mend 218 = .ok (.istore 8, 2) := dk_54 8 (dk_at dksX7_mend_9 12 rfl rfl)
theorem dX7_mend_220 : decode cX7_mend 220 = .ok (.iload 11, 2) := dk_21 11 (dk_at dksX7_mend_9 14 rfl rfl)
theorem dX7_mend_222 : decode cX7_mend 222 = .ok (.istore 6, 2) := dk_54 6 (dk_at dksX7_mend_9 16 rfl rfl)
theorem dX7_mend_224 : decode cX7_mend 224 = .ok (.iinc 10 1, 3) := dk_132 10 1 (dk_at dksX7_mend_9 18 rfl rfl)
theorem dX7_mend_227 : decode cX7_mend 227 = .ok (.goto (-135), 3) := dk_167 255 121 (dk_at dksX7_mend_9 21 rfl rfl)
theorem dX7_mend_230 : decode cX7_mend 230 = .ok (.iinc 9 1, 3) := dk_132 9 1 (dk_at dksX7_mend_10 0 rfl rfl)
theorem dX7_mend_233 : decode cX7_mend 233 = .ok (.goto (-154), 3) := dk_167 255 102 (dk_at dksX7_mend_10 3 rfl rfl)
theorem dX7_mend_236 : decode cX7_mend 236 = .ok (.aload_n 0, 1) := dk_42 (dk_at dksX7_mend_10 6 rfl rfl)
theorem dX7_mend_237 : decode cX7_mend 237 = .ok (.iload_n 3, 1) := dk_29 (dk_at dksX7_mend_10 7 rfl rfl)
theorem dX7_mend_238 : decode cX7_mend 238 = .ok (.ifCond .ne 8, 3) := dk_154 0 8 (dk_at dksX7_mend_10 8 rfl rfl)
theorem dX7_mend_241 : decode cX7_mend 241 = .ok (.iload 7, 2) := dk_21 7 (dk_at dksX7_mend_10 11 rfl rfl)
theorem dX7_mend_243 : decode cX7_mend 243 = .ok (.goto 5, 3) := dk_167 0 5 (dk_at dksX7_mend_10 13 rfl rfl)
theorem dX7_mend_246 : decode cX7_mend 246 = .ok (.iload 6, 2) := dk_21 6 (dk_at dksX7_mend_10 16 rfl rfl)
theorem dX7_mend_248 : decode cX7_mend 248 = .ok (.invokevirtual 85, 3) := dk_182 0 85 (dk_at dksX7_mend_10 18 rfl rfl)
theorem dX7_mend_251 : decode cX7_mend 251 = .ok (.ireturn, 1) := dk_172 (dk_at dksX7_mend_10 21 rfl rfl)
abbrev cX7_whole : ByteArray := prog_16_method_61_code
def yX7_whole : MethodName := ⟨RX7, "whole", "()I"⟩
def dkwX7_whole_0 : List UInt8 := [4, 42, 182, 1, 6, 120, 4, 100, 172]
abbrev dktX7_whole_0 : List UInt8 := dkwX7_whole_0 ++ []
theorem dksX7_whole_0 : cX7_whole.data.toList.drop 0 = dktX7_whole_0 := by decide +kernel
theorem dX7_whole_0 : decode cX7_whole 0 = .ok (.iconst 1, 1) := dk_4 (dk_at dksX7_whole_0 0 rfl rfl)
theorem dX7_whole_1 : decode cX7_whole 1 = .ok (.aload_n 0, 1) := dk_42 (dk_at dksX7_whole_0 1 rfl rfl)
theorem dX7_whole_2 : decode cX7_whole 2 = .ok (.invokevirtual 262, 3) := dk_182 1 6 (dk_at dksX7_whole_0 2 rfl rfl)
theorem dX7_whole_5 : decode cX7_whole 5 = .ok (.ishl, 1) := dk_120 (dk_at dksX7_whole_0 5 rfl rfl)
theorem dX7_whole_6 : decode cX7_whole 6 = .ok (.iconst 1, 1) := dk_4 (dk_at dksX7_whole_0 6 rfl rfl)
theorem dX7_whole_7 : decode cX7_whole 7 = .ok (.isub, 1) := dk_100 (dk_at dksX7_whole_0 7 rfl rfl)
theorem dX7_whole_8 : decode cX7_whole 8 = .ok (.ireturn, 1) := dk_172 (dk_at dksX7_whole_0 8 rfl rfl)
abbrev cX7_unlike : ByteArray := prog_16_method_111_code
def yX7_unlike : MethodName := ⟨RX7, "unlike", "(J)I"⟩
def dkwX7_unlike_1 : List UInt8 := [182, 1, 119, 126, 184, 0, 226, 182, 0, 85, 167, 0, 8, 42, 4, 182, 0, 81, 172]
abbrev dktX7_unlike_1 : List UInt8 := dkwX7_unlike_1 ++ []
def dkwX7_unlike_0 : List UInt8 := [31, 9, 20, 1, 37, 184, 1, 39, 153, 0, 27, 42, 42, 180, 0, 7, 6, 46, 31, 136, 130, 42]
abbrev dktX7_unlike_0 : List UInt8 := dkwX7_unlike_0 ++ dktX7_unlike_1
theorem dksX7_unlike_0 : cX7_unlike.data.toList.drop 0 = dktX7_unlike_0 := by decide +kernel
theorem dksX7_unlike_1 : cX7_unlike.data.toList.drop 22 = dktX7_unlike_1 := dk_seg dksX7_unlike_0 22 rfl rfl
theorem dX7_unlike_0 : decode cX7_unlike 0 = .ok (.lload_n 1, 1) := dk_31 (dk_at dksX7_unlike_0 0 rfl rfl)
theorem dX7_unlike_1 : decode cX7_unlike 1 = .ok (.lconst 0, 1) := dk_9 (dk_at dksX7_unlike_0 1 rfl rfl)
theorem dX7_unlike_2 : decode cX7_unlike 2 = .ok (.ldc2_w 293, 3) := dk_20 1 37 (dk_at dksX7_unlike_0 2 rfl rfl)
theorem dX7_unlike_5 : decode cX7_unlike 5 = .ok (.invokestatic 295, 3) := dk_184 1 39 (dk_at dksX7_unlike_0 5 rfl rfl)
theorem dX7_unlike_8 : decode cX7_unlike 8 = .ok (.ifCond .eq 27, 3) := dk_153 0 27 (dk_at dksX7_unlike_0 8 rfl rfl)
theorem dX7_unlike_11 : decode cX7_unlike 11 = .ok (.aload_n 0, 1) := dk_42 (dk_at dksX7_unlike_0 11 rfl rfl)
theorem dX7_unlike_12 : decode cX7_unlike 12 = .ok (.aload_n 0, 1) := dk_42 (dk_at dksX7_unlike_0 12 rfl rfl)
theorem dX7_unlike_13 : decode cX7_unlike 13 = .ok (.getfield 7, 3) := dk_180 0 7 (dk_at dksX7_unlike_0 13 rfl rfl)
theorem dX7_unlike_16 : decode cX7_unlike 16 = .ok (.iconst 3, 1) := dk_6 (dk_at dksX7_unlike_0 16 rfl rfl)
theorem dX7_unlike_17 : decode cX7_unlike 17 = .ok (.iaload, 1) := dk_46 (dk_at dksX7_unlike_0 17 rfl rfl)
theorem dX7_unlike_18 : decode cX7_unlike 18 = .ok (.lload_n 1, 1) := dk_31 (dk_at dksX7_unlike_0 18 rfl rfl)
theorem dX7_unlike_19 : decode cX7_unlike 19 = .ok (.l2i, 1) := dk_136 (dk_at dksX7_unlike_0 19 rfl rfl)
theorem dX7_unlike_20 : decode cX7_unlike 20 = .ok (.ixor, 1) := dk_130 (dk_at dksX7_unlike_0 20 rfl rfl)
theorem dX7_unlike_21 : decode cX7_unlike 21 = .ok (.aload_n 0, 1) := dk_42 (dk_at dksX7_unlike_0 21 rfl rfl)
theorem dX7_unlike_22 : decode cX7_unlike 22 = .ok (.invokevirtual 375, 3) := dk_182 1 119 (dk_at dksX7_unlike_1 0 rfl rfl)
theorem dX7_unlike_25 : decode cX7_unlike 25 = .ok (.iand, 1) := dk_126 (dk_at dksX7_unlike_1 3 rfl rfl)
theorem dX7_unlike_26 : decode cX7_unlike 26 = .ok (.invokestatic 226, 3) := dk_184 0 226 (dk_at dksX7_unlike_1 4 rfl rfl)
theorem dX7_unlike_29 : decode cX7_unlike 29 = .ok (.invokevirtual 85, 3) := dk_182 0 85 (dk_at dksX7_unlike_1 7 rfl rfl)
theorem dX7_unlike_32 : decode cX7_unlike 32 = .ok (.goto 8, 3) := dk_167 0 8 (dk_at dksX7_unlike_1 10 rfl rfl)
theorem dX7_unlike_35 : decode cX7_unlike 35 = .ok (.aload_n 0, 1) := dk_42 (dk_at dksX7_unlike_1 13 rfl rfl)
theorem dX7_unlike_36 : decode cX7_unlike 36 = .ok (.iconst 1, 1) := dk_4 (dk_at dksX7_unlike_1 14 rfl rfl)
theorem dX7_unlike_37 : decode cX7_unlike 37 = .ok (.invokevirtual 81, 3) := dk_182 0 81 (dk_at dksX7_unlike_1 15 rfl rfl)
theorem dX7_unlike_40 : decode cX7_unlike 40 = .ok (.ireturn, 1) := dk_172 (dk_at dksX7_unlike_1 18 rfl rfl)
abbrev cX7_seen : ByteArray := prog_16_method_112_code
def yX7_seen : MethodName := ⟨RX7, "seen", "(II)I"⟩
def dkwX7_seen_1 : List UInt8 := [180, 0, 7, 16, 32, 8, 27, 104, 96, 28, 96, 46, 182, 0, 85, 167, 0, 8, 42, 4, 182, 0, 81, 172]
abbrev dktX7_seen_1 : List UInt8 := dkwX7_seen_1 ++ []
def dkwX7_seen_0 : List UInt8 := [27, 133, 9, 10, 184, 1, 39, 153, 0, 35, 28, 133, 9, 20, 1, 122, 184, 1, 39, 153, 0, 23, 42, 42]
abbrev dktX7_seen_0 : List UInt8 := dkwX7_seen_0 ++ dktX7_seen_1
theorem dksX7_seen_0 : cX7_seen.data.toList.drop 0 = dktX7_seen_0 := by decide +kernel
theorem dksX7_seen_1 : cX7_seen.data.toList.drop 24 = dktX7_seen_1 := dk_seg dksX7_seen_0 24 rfl rfl
theorem dX7_seen_0 : decode cX7_seen 0 = .ok (.iload_n 1, 1) := dk_27 (dk_at dksX7_seen_0 0 rfl rfl)
theorem dX7_seen_1 : decode cX7_seen 1 = .ok (.i2l, 1) := dk_133 (dk_at dksX7_seen_0 1 rfl rfl)
theorem dX7_seen_2 : decode cX7_seen 2 = .ok (.lconst 0, 1) := dk_9 (dk_at dksX7_seen_0 2 rfl rfl)
theorem dX7_seen_3 : decode cX7_seen 3 = .ok (.lconst 1, 1) := dk_10 (dk_at dksX7_seen_0 3 rfl rfl)
theorem dX7_seen_4 : decode cX7_seen 4 = .ok (.invokestatic 295, 3) := dk_184 1 39 (dk_at dksX7_seen_0 4 rfl rfl)
theorem dX7_seen_7 : decode cX7_seen 7 = .ok (.ifCond .eq 35, 3) := dk_153 0 35 (dk_at dksX7_seen_0 7 rfl rfl)
theorem dX7_seen_10 : decode cX7_seen 10 = .ok (.iload_n 2, 1) := dk_28 (dk_at dksX7_seen_0 10 rfl rfl)
theorem dX7_seen_11 : decode cX7_seen 11 = .ok (.i2l, 1) := dk_133 (dk_at dksX7_seen_0 11 rfl rfl)
theorem dX7_seen_12 : decode cX7_seen 12 = .ok (.lconst 0, 1) := dk_9 (dk_at dksX7_seen_0 12 rfl rfl)
theorem dX7_seen_13 : decode cX7_seen 13 = .ok (.ldc2_w 378, 3) := dk_20 1 122 (dk_at dksX7_seen_0 13 rfl rfl)
theorem dX7_seen_16 : decode cX7_seen 16 = .ok (.invokestatic 295, 3) := dk_184 1 39 (dk_at dksX7_seen_0 16 rfl rfl)
theorem dX7_seen_19 : decode cX7_seen 19 = .ok (.ifCond .eq 23, 3) := dk_153 0 23 (dk_at dksX7_seen_0 19 rfl rfl)
theorem dX7_seen_22 : decode cX7_seen 22 = .ok (.aload_n 0, 1) := dk_42 (dk_at dksX7_seen_0 22 rfl rfl)
theorem dX7_seen_23 : decode cX7_seen 23 = .ok (.aload_n 0, 1) := dk_42 (dk_at dksX7_seen_0 23 rfl rfl)
theorem dX7_seen_24 : decode cX7_seen 24 = .ok (.getfield 7, 3) := dk_180 0 7 (dk_at dksX7_seen_1 0 rfl rfl)
theorem dX7_seen_27 : decode cX7_seen 27 = .ok (.bipush 32, 2) := dk_16 32 (dk_at dksX7_seen_1 3 rfl rfl)
theorem dX7_seen_29 : decode cX7_seen 29 = .ok (.iconst 5, 1) := dk_8 (dk_at dksX7_seen_1 5 rfl rfl)
theorem dX7_seen_30 : decode cX7_seen 30 = .ok (.iload_n 1, 1) := dk_27 (dk_at dksX7_seen_1 6 rfl rfl)
theorem dX7_seen_31 : decode cX7_seen 31 = .ok (.imul, 1) := dk_104 (dk_at dksX7_seen_1 7 rfl rfl)
theorem dX7_seen_32 : decode cX7_seen 32 = .ok (.iadd, 1) := dk_96 (dk_at dksX7_seen_1 8 rfl rfl)
theorem dX7_seen_33 : decode cX7_seen 33 = .ok (.iload_n 2, 1) := dk_28 (dk_at dksX7_seen_1 9 rfl rfl)
theorem dX7_seen_34 : decode cX7_seen 34 = .ok (.iadd, 1) := dk_96 (dk_at dksX7_seen_1 10 rfl rfl)
theorem dX7_seen_35 : decode cX7_seen 35 = .ok (.iaload, 1) := dk_46 (dk_at dksX7_seen_1 11 rfl rfl)
theorem dX7_seen_36 : decode cX7_seen 36 = .ok (.invokevirtual 85, 3) := dk_182 0 85 (dk_at dksX7_seen_1 12 rfl rfl)
theorem dX7_seen_39 : decode cX7_seen 39 = .ok (.goto 8, 3) := dk_167 0 8 (dk_at dksX7_seen_1 15 rfl rfl)
theorem dX7_seen_42 : decode cX7_seen 42 = .ok (.aload_n 0, 1) := dk_42 (dk_at dksX7_seen_1 18 rfl rfl)
theorem dX7_seen_43 : decode cX7_seen 43 = .ok (.iconst 1, 1) := dk_4 (dk_at dksX7_seen_1 19 rfl rfl)
theorem dX7_seen_44 : decode cX7_seen 44 = .ok (.invokevirtual 81, 3) := dk_182 0 81 (dk_at dksX7_seen_1 20 rfl rfl)
theorem dX7_seen_47 : decode cX7_seen 47 = .ok (.ireturn, 1) := dk_172 (dk_at dksX7_seen_1 23 rfl rfl)
abbrev cX7_rulesLeft : ByteArray := prog_16_method_113_code
def yX7_rulesLeft : MethodName := ⟨RX7, "rulesLeft", "()I"⟩
def dkwX7_rulesLeft_2 : List UInt8 := [132, 2, 1, 167, 255, 210, 42, 27, 182, 0, 85, 172]
abbrev dktX7_rulesLeft_2 : List UInt8 := dkwX7_rulesLeft_2 ++ []
def dkwX7_rulesLeft_1 : List UInt8 := [167, 0, 21, 42, 180, 0, 7, 16, 32, 28, 96, 46, 6, 160, 0, 7, 3, 167, 0, 4, 4, 104, 60]
abbrev dktX7_rulesLeft_1 : List UInt8 := dkwX7_rulesLeft_1 ++ dktX7_rulesLeft_2
def dkwX7_rulesLeft_0 : List UInt8 := [4, 60, 3, 61, 28, 16, 10, 162, 0, 46, 27, 42, 180, 0, 7, 16, 32, 28, 96, 46, 154, 0, 7, 5]
abbrev dktX7_rulesLeft_0 : List UInt8 := dkwX7_rulesLeft_0 ++ dktX7_rulesLeft_1
theorem dksX7_rulesLeft_0 : cX7_rulesLeft.data.toList.drop 0 = dktX7_rulesLeft_0 := by decide +kernel
theorem dksX7_rulesLeft_1 : cX7_rulesLeft.data.toList.drop 24 = dktX7_rulesLeft_1 := dk_seg dksX7_rulesLeft_0 24 rfl rfl
theorem dksX7_rulesLeft_2 : cX7_rulesLeft.data.toList.drop 47 = dktX7_rulesLeft_2 := dk_seg dksX7_rulesLeft_1 23 rfl rfl
theorem dX7_rulesLeft_0 : decode cX7_rulesLeft 0 = .ok (.iconst 1, 1) := dk_4 (dk_at dksX7_rulesLeft_0 0 rfl rfl)
theorem dX7_rulesLeft_1 : decode cX7_rulesLeft 1 = .ok (.istore_n 1, 1) := dk_60 (dk_at dksX7_rulesLeft_0 1 rfl rfl)
theorem dX7_rulesLeft_2 : decode cX7_rulesLeft 2 = .ok (.iconst 0, 1) := dk_3 (dk_at dksX7_rulesLeft_0 2 rfl rfl)
theorem dX7_rulesLeft_3 : decode cX7_rulesLeft 3 = .ok (.istore_n 2, 1) := dk_61 (dk_at dksX7_rulesLeft_0 3 rfl rfl)
theorem dX7_rulesLeft_4 : decode cX7_rulesLeft 4 = .ok (.iload_n 2, 1) := dk_28 (dk_at dksX7_rulesLeft_0 4 rfl rfl)
theorem dX7_rulesLeft_5 : decode cX7_rulesLeft 5 = .ok (.bipush 10, 2) := dk_16 10 (dk_at dksX7_rulesLeft_0 5 rfl rfl)
theorem dX7_rulesLeft_7 : decode cX7_rulesLeft 7 = .ok (.if_icmp .ge 46, 3) := dk_162 0 46 (dk_at dksX7_rulesLeft_0 7 rfl rfl)
theorem dX7_rulesLeft_10 : decode cX7_rulesLeft 10 = .ok (.iload_n 1, 1) := dk_27 (dk_at dksX7_rulesLeft_0 10 rfl rfl)
theorem dX7_rulesLeft_11 : decode cX7_rulesLeft 11 = .ok (.aload_n 0, 1) := dk_42 (dk_at dksX7_rulesLeft_0 11 rfl rfl)
theorem dX7_rulesLeft_12 : decode cX7_rulesLeft 12 = .ok (.getfield 7, 3) := dk_180 0 7 (dk_at dksX7_rulesLeft_0 12 rfl rfl)
theorem dX7_rulesLeft_15 : decode cX7_rulesLeft 15 = .ok (.bipush 32, 2) := dk_16 32 (dk_at dksX7_rulesLeft_0 15 rfl rfl)
theorem dX7_rulesLeft_17 : decode cX7_rulesLeft 17 = .ok (.iload_n 2, 1) := dk_28 (dk_at dksX7_rulesLeft_0 17 rfl rfl)
theorem dX7_rulesLeft_18 : decode cX7_rulesLeft 18 = .ok (.iadd, 1) := dk_96 (dk_at dksX7_rulesLeft_0 18 rfl rfl)
theorem dX7_rulesLeft_19 : decode cX7_rulesLeft 19 = .ok (.iaload, 1) := dk_46 (dk_at dksX7_rulesLeft_0 19 rfl rfl)
theorem dX7_rulesLeft_20 : decode cX7_rulesLeft 20 = .ok (.ifCond .ne 7, 3) := dk_154 0 7 (dk_at dksX7_rulesLeft_0 20 rfl rfl)
theorem dX7_rulesLeft_23 : decode cX7_rulesLeft 23 = .ok (.iconst 2, 1) := dk_5 (dk_at dksX7_rulesLeft_0 23 rfl rfl)
theorem dX7_rulesLeft_24 : decode cX7_rulesLeft 24 = .ok (.goto 21, 3) := dk_167 0 21 (dk_at dksX7_rulesLeft_1 0 rfl rfl)
theorem dX7_rulesLeft_27 : decode cX7_rulesLeft 27 = .ok (.aload_n 0, 1) := dk_42 (dk_at dksX7_rulesLeft_1 3 rfl rfl)
theorem dX7_rulesLeft_28 : decode cX7_rulesLeft 28 = .ok (.getfield 7, 3) := dk_180 0 7 (dk_at dksX7_rulesLeft_1 4 rfl rfl)
theorem dX7_rulesLeft_31 : decode cX7_rulesLeft 31 = .ok (.bipush 32, 2) := dk_16 32 (dk_at dksX7_rulesLeft_1 7 rfl rfl)
theorem dX7_rulesLeft_33 : decode cX7_rulesLeft 33 = .ok (.iload_n 2, 1) := dk_28 (dk_at dksX7_rulesLeft_1 9 rfl rfl)
theorem dX7_rulesLeft_34 : decode cX7_rulesLeft 34 = .ok (.iadd, 1) := dk_96 (dk_at dksX7_rulesLeft_1 10 rfl rfl)
theorem dX7_rulesLeft_35 : decode cX7_rulesLeft 35 = .ok (.iaload, 1) := dk_46 (dk_at dksX7_rulesLeft_1 11 rfl rfl)
theorem dX7_rulesLeft_36 : decode cX7_rulesLeft 36 = .ok (.iconst 3, 1) := dk_6 (dk_at dksX7_rulesLeft_1 12 rfl rfl)
theorem dX7_rulesLeft_37 : decode cX7_rulesLeft 37 = .ok (.if_icmp .ne 7, 3) := dk_160 0 7 (dk_at dksX7_rulesLeft_1 13 rfl rfl)
theorem dX7_rulesLeft_40 : decode cX7_rulesLeft 40 = .ok (.iconst 0, 1) := dk_3 (dk_at dksX7_rulesLeft_1 16 rfl rfl)
theorem dX7_rulesLeft_41 : decode cX7_rulesLeft 41 = .ok (.goto 4, 3) := dk_167 0 4 (dk_at dksX7_rulesLeft_1 17 rfl rfl)
theorem dX7_rulesLeft_44 : decode cX7_rulesLeft 44 = .ok (.iconst 1, 1) := dk_4 (dk_at dksX7_rulesLeft_1 20 rfl rfl)
theorem dX7_rulesLeft_45 : decode cX7_rulesLeft 45 = .ok (.imul, 1) := dk_104 (dk_at dksX7_rulesLeft_1 21 rfl rfl)
theorem dX7_rulesLeft_46 : decode cX7_rulesLeft 46 = .ok (.istore_n 1, 1) := dk_60 (dk_at dksX7_rulesLeft_1 22 rfl rfl)
theorem dX7_rulesLeft_47 : decode cX7_rulesLeft 47 = .ok (.iinc 2 1, 3) := dk_132 2 1 (dk_at dksX7_rulesLeft_2 0 rfl rfl)
theorem dX7_rulesLeft_50 : decode cX7_rulesLeft 50 = .ok (.goto (-46), 3) := dk_167 255 210 (dk_at dksX7_rulesLeft_2 3 rfl rfl)
theorem dX7_rulesLeft_53 : decode cX7_rulesLeft 53 = .ok (.aload_n 0, 1) := dk_42 (dk_at dksX7_rulesLeft_2 6 rfl rfl)
theorem dX7_rulesLeft_54 : decode cX7_rulesLeft 54 = .ok (.iload_n 1, 1) := dk_27 (dk_at dksX7_rulesLeft_2 7 rfl rfl)
theorem dX7_rulesLeft_55 : decode cX7_rulesLeft 55 = .ok (.invokevirtual 85, 3) := dk_182 0 85 (dk_at dksX7_rulesLeft_2 8 rfl rfl)
theorem dX7_rulesLeft_58 : decode cX7_rulesLeft 58 = .ok (.ireturn, 1) := dk_172 (dk_at dksX7_rulesLeft_2 11 rfl rfl)
abbrev cX7_fits : ByteArray := prog_16_method_114_code
def yX7_fits : MethodName := ⟨RX7, "fits", "()I"⟩
def dkwX7_fits_4 : List UInt8 := [167, 0, 4, 3, 128, 60, 132, 2, 1, 167, 255, 156, 42, 27, 182, 0, 85, 172]
abbrev dktX7_fits_4 : List UInt8 := dkwX7_fits_4 ++ []
def dkwX7_fits_3 : List UInt8 := [126, 154, 0, 7, 4, 167, 0, 4, 3, 62, 132, 4, 1, 167, 255, 191, 27, 29, 153, 0, 9, 4, 28, 120]
abbrev dktX7_fits_3 : List UInt8 := dkwX7_fits_3 ++ dktX7_fits_4
def dkwX7_fits_2 : List UInt8 := [4, 126, 54, 5, 29, 153, 0, 27, 42, 180, 0, 7, 16, 32, 21, 4, 96, 46, 4, 21, 5, 120, 2, 130]
abbrev dktX7_fits_2 : List UInt8 := dkwX7_fits_2 ++ dktX7_fits_3
def dkwX7_fits_1 : List UInt8 := [162, 0, 64, 42, 180, 0, 7, 16, 12, 5, 28, 104, 96, 21, 4, 8, 108, 96, 46, 21, 4, 8, 112, 122]
abbrev dktX7_fits_1 : List UInt8 := dkwX7_fits_1 ++ dktX7_fits_2
def dkwX7_fits_0 : List UInt8 := [3, 60, 3, 61, 28, 42, 180, 0, 7, 8, 46, 162, 0, 96, 4, 62, 3, 54, 4, 21, 4, 16, 10]
abbrev dktX7_fits_0 : List UInt8 := dkwX7_fits_0 ++ dktX7_fits_1
theorem dksX7_fits_0 : cX7_fits.data.toList.drop 0 = dktX7_fits_0 := by decide +kernel
theorem dksX7_fits_1 : cX7_fits.data.toList.drop 23 = dktX7_fits_1 := dk_seg dksX7_fits_0 23 rfl rfl
theorem dksX7_fits_2 : cX7_fits.data.toList.drop 47 = dktX7_fits_2 := dk_seg dksX7_fits_1 24 rfl rfl
theorem dksX7_fits_3 : cX7_fits.data.toList.drop 71 = dktX7_fits_3 := dk_seg dksX7_fits_2 24 rfl rfl
theorem dksX7_fits_4 : cX7_fits.data.toList.drop 95 = dktX7_fits_4 := dk_seg dksX7_fits_3 24 rfl rfl
theorem dX7_fits_0 : decode cX7_fits 0 = .ok (.iconst 0, 1) := dk_3 (dk_at dksX7_fits_0 0 rfl rfl)
theorem dX7_fits_1 : decode cX7_fits 1 = .ok (.istore_n 1, 1) := dk_60 (dk_at dksX7_fits_0 1 rfl rfl)
theorem dX7_fits_2 : decode cX7_fits 2 = .ok (.iconst 0, 1) := dk_3 (dk_at dksX7_fits_0 2 rfl rfl)
theorem dX7_fits_3 : decode cX7_fits 3 = .ok (.istore_n 2, 1) := dk_61 (dk_at dksX7_fits_0 3 rfl rfl)
theorem dX7_fits_4 : decode cX7_fits 4 = .ok (.iload_n 2, 1) := dk_28 (dk_at dksX7_fits_0 4 rfl rfl)
theorem dX7_fits_5 : decode cX7_fits 5 = .ok (.aload_n 0, 1) := dk_42 (dk_at dksX7_fits_0 5 rfl rfl)
theorem dX7_fits_6 : decode cX7_fits 6 = .ok (.getfield 7, 3) := dk_180 0 7 (dk_at dksX7_fits_0 6 rfl rfl)
theorem dX7_fits_9 : decode cX7_fits 9 = .ok (.iconst 5, 1) := dk_8 (dk_at dksX7_fits_0 9 rfl rfl)
theorem dX7_fits_10 : decode cX7_fits 10 = .ok (.iaload, 1) := dk_46 (dk_at dksX7_fits_0 10 rfl rfl)
theorem dX7_fits_11 : decode cX7_fits 11 = .ok (.if_icmp .ge 96, 3) := dk_162 0 96 (dk_at dksX7_fits_0 11 rfl rfl)
theorem dX7_fits_14 : decode cX7_fits 14 = .ok (.iconst 1, 1) := dk_4 (dk_at dksX7_fits_0 14 rfl rfl)
theorem dX7_fits_15 : decode cX7_fits 15 = .ok (.istore_n 3, 1) := dk_62 (dk_at dksX7_fits_0 15 rfl rfl)
theorem dX7_fits_16 : decode cX7_fits 16 = .ok (.iconst 0, 1) := dk_3 (dk_at dksX7_fits_0 16 rfl rfl)
theorem dX7_fits_17 : decode cX7_fits 17 = .ok (.istore 4, 2) := dk_54 4 (dk_at dksX7_fits_0 17 rfl rfl)
theorem dX7_fits_19 : decode cX7_fits 19 = .ok (.iload 4, 2) := dk_21 4 (dk_at dksX7_fits_0 19 rfl rfl)
theorem dX7_fits_21 : decode cX7_fits 21 = .ok (.bipush 10, 2) := dk_16 10 (dk_at dksX7_fits_0 21 rfl rfl)
theorem dX7_fits_23 : decode cX7_fits 23 = .ok (.if_icmp .ge 64, 3) := dk_162 0 64 (dk_at dksX7_fits_1 0 rfl rfl)
theorem dX7_fits_26 : decode cX7_fits 26 = .ok (.aload_n 0, 1) := dk_42 (dk_at dksX7_fits_1 3 rfl rfl)
theorem dX7_fits_27 : decode cX7_fits 27 = .ok (.getfield 7, 3) := dk_180 0 7 (dk_at dksX7_fits_1 4 rfl rfl)
theorem dX7_fits_30 : decode cX7_fits 30 = .ok (.bipush 12, 2) := dk_16 12 (dk_at dksX7_fits_1 7 rfl rfl)
theorem dX7_fits_32 : decode cX7_fits 32 = .ok (.iconst 2, 1) := dk_5 (dk_at dksX7_fits_1 9 rfl rfl)
theorem dX7_fits_33 : decode cX7_fits 33 = .ok (.iload_n 2, 1) := dk_28 (dk_at dksX7_fits_1 10 rfl rfl)
theorem dX7_fits_34 : decode cX7_fits 34 = .ok (.imul, 1) := dk_104 (dk_at dksX7_fits_1 11 rfl rfl)
theorem dX7_fits_35 : decode cX7_fits 35 = .ok (.iadd, 1) := dk_96 (dk_at dksX7_fits_1 12 rfl rfl)
theorem dX7_fits_36 : decode cX7_fits 36 = .ok (.iload 4, 2) := dk_21 4 (dk_at dksX7_fits_1 13 rfl rfl)
theorem dX7_fits_38 : decode cX7_fits 38 = .ok (.iconst 5, 1) := dk_8 (dk_at dksX7_fits_1 15 rfl rfl)
theorem dX7_fits_39 : decode cX7_fits 39 = .ok (.idiv, 1) := dk_108 (dk_at dksX7_fits_1 16 rfl rfl)
theorem dX7_fits_40 : decode cX7_fits 40 = .ok (.iadd, 1) := dk_96 (dk_at dksX7_fits_1 17 rfl rfl)
theorem dX7_fits_41 : decode cX7_fits 41 = .ok (.iaload, 1) := dk_46 (dk_at dksX7_fits_1 18 rfl rfl)
theorem dX7_fits_42 : decode cX7_fits 42 = .ok (.iload 4, 2) := dk_21 4 (dk_at dksX7_fits_1 19 rfl rfl)
theorem dX7_fits_44 : decode cX7_fits 44 = .ok (.iconst 5, 1) := dk_8 (dk_at dksX7_fits_1 21 rfl rfl)
theorem dX7_fits_45 : decode cX7_fits 45 = .ok (.irem, 1) := dk_112 (dk_at dksX7_fits_1 22 rfl rfl)
theorem dX7_fits_46 : decode cX7_fits 46 = .ok (.ishr, 1) := dk_122 (dk_at dksX7_fits_1 23 rfl rfl)
theorem dX7_fits_47 : decode cX7_fits 47 = .ok (.iconst 1, 1) := dk_4 (dk_at dksX7_fits_2 0 rfl rfl)
theorem dX7_fits_48 : decode cX7_fits 48 = .ok (.iand, 1) := dk_126 (dk_at dksX7_fits_2 1 rfl rfl)
theorem dX7_fits_49 : decode cX7_fits 49 = .ok (.istore 5, 2) := dk_54 5 (dk_at dksX7_fits_2 2 rfl rfl)
theorem dX7_fits_51 : decode cX7_fits 51 = .ok (.iload_n 3, 1) := dk_29 (dk_at dksX7_fits_2 4 rfl rfl)
theorem dX7_fits_52 : decode cX7_fits 52 = .ok (.ifCond .eq 27, 3) := dk_153 0 27 (dk_at dksX7_fits_2 5 rfl rfl)
theorem dX7_fits_55 : decode cX7_fits 55 = .ok (.aload_n 0, 1) := dk_42 (dk_at dksX7_fits_2 8 rfl rfl)
theorem dX7_fits_56 : decode cX7_fits 56 = .ok (.getfield 7, 3) := dk_180 0 7 (dk_at dksX7_fits_2 9 rfl rfl)
theorem dX7_fits_59 : decode cX7_fits 59 = .ok (.bipush 32, 2) := dk_16 32 (dk_at dksX7_fits_2 12 rfl rfl)
theorem dX7_fits_61 : decode cX7_fits 61 = .ok (.iload 4, 2) := dk_21 4 (dk_at dksX7_fits_2 14 rfl rfl)
theorem dX7_fits_63 : decode cX7_fits 63 = .ok (.iadd, 1) := dk_96 (dk_at dksX7_fits_2 16 rfl rfl)
theorem dX7_fits_64 : decode cX7_fits 64 = .ok (.iaload, 1) := dk_46 (dk_at dksX7_fits_2 17 rfl rfl)
theorem dX7_fits_65 : decode cX7_fits 65 = .ok (.iconst 1, 1) := dk_4 (dk_at dksX7_fits_2 18 rfl rfl)
theorem dX7_fits_66 : decode cX7_fits 66 = .ok (.iload 5, 2) := dk_21 5 (dk_at dksX7_fits_2 19 rfl rfl)
theorem dX7_fits_68 : decode cX7_fits 68 = .ok (.ishl, 1) := dk_120 (dk_at dksX7_fits_2 21 rfl rfl)
theorem dX7_fits_69 : decode cX7_fits 69 = .ok (.iconst (-1), 1) := dk_2 (dk_at dksX7_fits_2 22 rfl rfl)
theorem dX7_fits_70 : decode cX7_fits 70 = .ok (.ixor, 1) := dk_130 (dk_at dksX7_fits_2 23 rfl rfl)
theorem dX7_fits_71 : decode cX7_fits 71 = .ok (.iand, 1) := dk_126 (dk_at dksX7_fits_3 0 rfl rfl)
theorem dX7_fits_72 : decode cX7_fits 72 = .ok (.ifCond .ne 7, 3) := dk_154 0 7 (dk_at dksX7_fits_3 1 rfl rfl)
theorem dX7_fits_75 : decode cX7_fits 75 = .ok (.iconst 1, 1) := dk_4 (dk_at dksX7_fits_3 4 rfl rfl)
theorem dX7_fits_76 : decode cX7_fits 76 = .ok (.goto 4, 3) := dk_167 0 4 (dk_at dksX7_fits_3 5 rfl rfl)
theorem dX7_fits_79 : decode cX7_fits 79 = .ok (.iconst 0, 1) := dk_3 (dk_at dksX7_fits_3 8 rfl rfl)
theorem dX7_fits_80 : decode cX7_fits 80 = .ok (.istore_n 3, 1) := dk_62 (dk_at dksX7_fits_3 9 rfl rfl)
theorem dX7_fits_81 : decode cX7_fits 81 = .ok (.iinc 4 1, 3) := dk_132 4 1 (dk_at dksX7_fits_3 10 rfl rfl)
theorem dX7_fits_84 : decode cX7_fits 84 = .ok (.goto (-65), 3) := dk_167 255 191 (dk_at dksX7_fits_3 13 rfl rfl)
theorem dX7_fits_87 : decode cX7_fits 87 = .ok (.iload_n 1, 1) := dk_27 (dk_at dksX7_fits_3 16 rfl rfl)
theorem dX7_fits_88 : decode cX7_fits 88 = .ok (.iload_n 3, 1) := dk_29 (dk_at dksX7_fits_3 17 rfl rfl)
theorem dX7_fits_89 : decode cX7_fits 89 = .ok (.ifCond .eq 9, 3) := dk_153 0 9 (dk_at dksX7_fits_3 18 rfl rfl)
theorem dX7_fits_92 : decode cX7_fits 92 = .ok (.iconst 1, 1) := dk_4 (dk_at dksX7_fits_3 21 rfl rfl)
theorem dX7_fits_93 : decode cX7_fits 93 = .ok (.iload_n 2, 1) := dk_28 (dk_at dksX7_fits_3 22 rfl rfl)
theorem dX7_fits_94 : decode cX7_fits 94 = .ok (.ishl, 1) := dk_120 (dk_at dksX7_fits_3 23 rfl rfl)
theorem dX7_fits_95 : decode cX7_fits 95 = .ok (.goto 4, 3) := dk_167 0 4 (dk_at dksX7_fits_4 0 rfl rfl)
theorem dX7_fits_98 : decode cX7_fits 98 = .ok (.iconst 0, 1) := dk_3 (dk_at dksX7_fits_4 3 rfl rfl)
theorem dX7_fits_99 : decode cX7_fits 99 = .ok (.ior, 1) := dk_128 (dk_at dksX7_fits_4 4 rfl rfl)
theorem dX7_fits_100 : decode cX7_fits 100 = .ok (.istore_n 1, 1) := dk_60 (dk_at dksX7_fits_4 5 rfl rfl)
theorem dX7_fits_101 : decode cX7_fits 101 = .ok (.iinc 2 1, 3) := dk_132 2 1 (dk_at dksX7_fits_4 6 rfl rfl)
theorem dX7_fits_104 : decode cX7_fits 104 = .ok (.goto (-100), 3) := dk_167 255 156 (dk_at dksX7_fits_4 9 rfl rfl)
theorem dX7_fits_107 : decode cX7_fits 107 = .ok (.aload_n 0, 1) := dk_42 (dk_at dksX7_fits_4 12 rfl rfl)
theorem dX7_fits_108 : decode cX7_fits 108 = .ok (.iload_n 1, 1) := dk_27 (dk_at dksX7_fits_4 13 rfl rfl)
theorem dX7_fits_109 : decode cX7_fits 109 = .ok (.invokevirtual 85, 3) := dk_182 0 85 (dk_at dksX7_fits_4 14 rfl rfl)
theorem dX7_fits_112 : decode cX7_fits 112 = .ok (.ireturn, 1) := dk_172 (dk_at dksX7_fits_4 17 rfl rfl)
abbrev cX7_forget : ByteArray := prog_16_method_115_code
def yX7_forget : MethodName := ⟨RX7, "forget", "()I"⟩
def dkwX7_forget_2 : List UInt8 := [182, 0, 85, 172]
abbrev dktX7_forget_2 : List UInt8 := dkwX7_forget_2 ++ []
def dkwX7_forget_1 : List UInt8 := [167, 0, 4, 4, 96, 60, 42, 180, 0, 7, 16, 32, 28, 96, 3, 79, 132, 2, 1, 167, 255, 217, 42, 27]
abbrev dktX7_forget_1 : List UInt8 := dkwX7_forget_1 ++ dktX7_forget_2
def dkwX7_forget_0 : List UInt8 := [3, 60, 3, 61, 28, 16, 10, 162, 0, 39, 27, 42, 180, 0, 7, 16, 32, 28, 96, 46, 154, 0, 7, 3]
abbrev dktX7_forget_0 : List UInt8 := dkwX7_forget_0 ++ dktX7_forget_1
theorem dksX7_forget_0 : cX7_forget.data.toList.drop 0 = dktX7_forget_0 := by decide +kernel
theorem dksX7_forget_1 : cX7_forget.data.toList.drop 24 = dktX7_forget_1 := dk_seg dksX7_forget_0 24 rfl rfl
theorem dksX7_forget_2 : cX7_forget.data.toList.drop 48 = dktX7_forget_2 := dk_seg dksX7_forget_1 24 rfl rfl
theorem dX7_forget_0 : decode cX7_forget 0 = .ok (.iconst 0, 1) := dk_3 (dk_at dksX7_forget_0 0 rfl rfl)
theorem dX7_forget_1 : decode cX7_forget 1 = .ok (.istore_n 1, 1) := dk_60 (dk_at dksX7_forget_0 1 rfl rfl)
theorem dX7_forget_2 : decode cX7_forget 2 = .ok (.iconst 0, 1) := dk_3 (dk_at dksX7_forget_0 2 rfl rfl)
theorem dX7_forget_3 : decode cX7_forget 3 = .ok (.istore_n 2, 1) := dk_61 (dk_at dksX7_forget_0 3 rfl rfl)
theorem dX7_forget_4 : decode cX7_forget 4 = .ok (.iload_n 2, 1) := dk_28 (dk_at dksX7_forget_0 4 rfl rfl)
theorem dX7_forget_5 : decode cX7_forget 5 = .ok (.bipush 10, 2) := dk_16 10 (dk_at dksX7_forget_0 5 rfl rfl)
theorem dX7_forget_7 : decode cX7_forget 7 = .ok (.if_icmp .ge 39, 3) := dk_162 0 39 (dk_at dksX7_forget_0 7 rfl rfl)
theorem dX7_forget_10 : decode cX7_forget 10 = .ok (.iload_n 1, 1) := dk_27 (dk_at dksX7_forget_0 10 rfl rfl)
theorem dX7_forget_11 : decode cX7_forget 11 = .ok (.aload_n 0, 1) := dk_42 (dk_at dksX7_forget_0 11 rfl rfl)
theorem dX7_forget_12 : decode cX7_forget 12 = .ok (.getfield 7, 3) := dk_180 0 7 (dk_at dksX7_forget_0 12 rfl rfl)
theorem dX7_forget_15 : decode cX7_forget 15 = .ok (.bipush 32, 2) := dk_16 32 (dk_at dksX7_forget_0 15 rfl rfl)
theorem dX7_forget_17 : decode cX7_forget 17 = .ok (.iload_n 2, 1) := dk_28 (dk_at dksX7_forget_0 17 rfl rfl)
theorem dX7_forget_18 : decode cX7_forget 18 = .ok (.iadd, 1) := dk_96 (dk_at dksX7_forget_0 18 rfl rfl)
theorem dX7_forget_19 : decode cX7_forget 19 = .ok (.iaload, 1) := dk_46 (dk_at dksX7_forget_0 19 rfl rfl)
theorem dX7_forget_20 : decode cX7_forget 20 = .ok (.ifCond .ne 7, 3) := dk_154 0 7 (dk_at dksX7_forget_0 20 rfl rfl)
theorem dX7_forget_23 : decode cX7_forget 23 = .ok (.iconst 0, 1) := dk_3 (dk_at dksX7_forget_0 23 rfl rfl)
theorem dX7_forget_24 : decode cX7_forget 24 = .ok (.goto 4, 3) := dk_167 0 4 (dk_at dksX7_forget_1 0 rfl rfl)
theorem dX7_forget_27 : decode cX7_forget 27 = .ok (.iconst 1, 1) := dk_4 (dk_at dksX7_forget_1 3 rfl rfl)
theorem dX7_forget_28 : decode cX7_forget 28 = .ok (.iadd, 1) := dk_96 (dk_at dksX7_forget_1 4 rfl rfl)
theorem dX7_forget_29 : decode cX7_forget 29 = .ok (.istore_n 1, 1) := dk_60 (dk_at dksX7_forget_1 5 rfl rfl)
theorem dX7_forget_30 : decode cX7_forget 30 = .ok (.aload_n 0, 1) := dk_42 (dk_at dksX7_forget_1 6 rfl rfl)
theorem dX7_forget_31 : decode cX7_forget 31 = .ok (.getfield 7, 3) := dk_180 0 7 (dk_at dksX7_forget_1 7 rfl rfl)
theorem dX7_forget_34 : decode cX7_forget 34 = .ok (.bipush 32, 2) := dk_16 32 (dk_at dksX7_forget_1 10 rfl rfl)
theorem dX7_forget_36 : decode cX7_forget 36 = .ok (.iload_n 2, 1) := dk_28 (dk_at dksX7_forget_1 12 rfl rfl)
theorem dX7_forget_37 : decode cX7_forget 37 = .ok (.iadd, 1) := dk_96 (dk_at dksX7_forget_1 13 rfl rfl)
theorem dX7_forget_38 : decode cX7_forget 38 = .ok (.iconst 0, 1) := dk_3 (dk_at dksX7_forget_1 14 rfl rfl)
theorem dX7_forget_39 : decode cX7_forget 39 = .ok (.iastore, 1) := dk_79 (dk_at dksX7_forget_1 15 rfl rfl)
theorem dX7_forget_40 : decode cX7_forget 40 = .ok (.iinc 2 1, 3) := dk_132 2 1 (dk_at dksX7_forget_1 16 rfl rfl)
theorem dX7_forget_43 : decode cX7_forget 43 = .ok (.goto (-39), 3) := dk_167 255 217 (dk_at dksX7_forget_1 19 rfl rfl)
theorem dX7_forget_46 : decode cX7_forget 46 = .ok (.aload_n 0, 1) := dk_42 (dk_at dksX7_forget_1 22 rfl rfl)
theorem dX7_forget_47 : decode cX7_forget 47 = .ok (.iload_n 1, 1) := dk_27 (dk_at dksX7_forget_1 23 rfl rfl)
theorem dX7_forget_48 : decode cX7_forget 48 = .ok (.invokevirtual 85, 3) := dk_182 0 85 (dk_at dksX7_forget_2 0 rfl rfl)
theorem dX7_forget_51 : decode cX7_forget 51 = .ok (.ireturn, 1) := dk_172 (dk_at dksX7_forget_2 3 rfl rfl)
abbrev cX7_shows : ByteArray := prog_16_method_116_code
def yX7_shows : MethodName := ⟨RX7, "shows", "()I"⟩
def dkwX7_shows_4 : List UInt8 := [182, 0, 85, 172]
abbrev dktX7_shows_4 : List UInt8 := dkwX7_shows_4 ++ []
def dkwX7_shows_3 : List UInt8 := [154, 0, 9, 4, 29, 120, 167, 0, 4, 3, 128, 60, 132, 2, 1, 167, 255, 179, 42, 27, 184, 0, 226]
abbrev dktX7_shows_3 : List UInt8 := dkwX7_shows_3 ++ dktX7_shows_4
def dkwX7_shows_2 : List UInt8 := [42, 180, 0, 7, 6, 46, 126, 184, 0, 226, 96, 62, 27, 42, 180, 0, 7, 16, 32, 29, 96, 46]
abbrev dktX7_shows_2 : List UInt8 := dkwX7_shows_2 ++ dktX7_shows_3
def dkwX7_shows_1 : List UInt8 := [154, 0, 6, 167, 0, 55, 8, 42, 180, 0, 7, 6, 46, 28, 122, 4, 126, 104, 42, 180, 0, 47, 28, 46]
abbrev dktX7_shows_1 : List UInt8 := dkwX7_shows_1 ++ dktX7_shows_2
def dkwX7_shows_0 : List UInt8 := [42, 182, 1, 15, 3, 60, 3, 61, 28, 42, 182, 1, 6, 162, 0, 75, 42, 182, 1, 12, 28, 122, 4, 126]
abbrev dktX7_shows_0 : List UInt8 := dkwX7_shows_0 ++ dktX7_shows_1
theorem dksX7_shows_0 : cX7_shows.data.toList.drop 0 = dktX7_shows_0 := by decide +kernel
theorem dksX7_shows_1 : cX7_shows.data.toList.drop 24 = dktX7_shows_1 := dk_seg dksX7_shows_0 24 rfl rfl
theorem dksX7_shows_2 : cX7_shows.data.toList.drop 48 = dktX7_shows_2 := dk_seg dksX7_shows_1 24 rfl rfl
theorem dksX7_shows_3 : cX7_shows.data.toList.drop 70 = dktX7_shows_3 := dk_seg dksX7_shows_2 22 rfl rfl
theorem dksX7_shows_4 : cX7_shows.data.toList.drop 93 = dktX7_shows_4 := dk_seg dksX7_shows_3 23 rfl rfl
theorem dX7_shows_0 : decode cX7_shows 0 = .ok (.aload_n 0, 1) := dk_42 (dk_at dksX7_shows_0 0 rfl rfl)
theorem dX7_shows_1 : decode cX7_shows 1 = .ok (.invokevirtual 271, 3) := dk_182 1 15 (dk_at dksX7_shows_0 1 rfl rfl)
theorem dX7_shows_4 : decode cX7_shows 4 = .ok (.iconst 0, 1) := dk_3 (dk_at dksX7_shows_0 4 rfl rfl)
theorem dX7_shows_5 : decode cX7_shows 5 = .ok (.istore_n 1, 1) := dk_60 (dk_at dksX7_shows_0 5 rfl rfl)
theorem dX7_shows_6 : decode cX7_shows 6 = .ok (.iconst 0, 1) := dk_3 (dk_at dksX7_shows_0 6 rfl rfl)
theorem dX7_shows_7 : decode cX7_shows 7 = .ok (.istore_n 2, 1) := dk_61 (dk_at dksX7_shows_0 7 rfl rfl)
theorem dX7_shows_8 : decode cX7_shows 8 = .ok (.iload_n 2, 1) := dk_28 (dk_at dksX7_shows_0 8 rfl rfl)
theorem dX7_shows_9 : decode cX7_shows 9 = .ok (.aload_n 0, 1) := dk_42 (dk_at dksX7_shows_0 9 rfl rfl)
theorem dX7_shows_10 : decode cX7_shows 10 = .ok (.invokevirtual 262, 3) := dk_182 1 6 (dk_at dksX7_shows_0 10 rfl rfl)
theorem dX7_shows_13 : decode cX7_shows 13 = .ok (.if_icmp .ge 75, 3) := dk_162 0 75 (dk_at dksX7_shows_0 13 rfl rfl)
theorem dX7_shows_16 : decode cX7_shows 16 = .ok (.aload_n 0, 1) := dk_42 (dk_at dksX7_shows_0 16 rfl rfl)
theorem dX7_shows_17 : decode cX7_shows 17 = .ok (.invokevirtual 268, 3) := dk_182 1 12 (dk_at dksX7_shows_0 17 rfl rfl)
theorem dX7_shows_20 : decode cX7_shows 20 = .ok (.iload_n 2, 1) := dk_28 (dk_at dksX7_shows_0 20 rfl rfl)
theorem dX7_shows_21 : decode cX7_shows 21 = .ok (.ishr, 1) := dk_122 (dk_at dksX7_shows_0 21 rfl rfl)
theorem dX7_shows_22 : decode cX7_shows 22 = .ok (.iconst 1, 1) := dk_4 (dk_at dksX7_shows_0 22 rfl rfl)
theorem dX7_shows_23 : decode cX7_shows 23 = .ok (.iand, 1) := dk_126 (dk_at dksX7_shows_0 23 rfl rfl)
theorem dX7_shows_24 : decode cX7_shows 24 = .ok (.ifCond .ne 6, 3) := dk_154 0 6 (dk_at dksX7_shows_1 0 rfl rfl)
theorem dX7_shows_27 : decode cX7_shows 27 = .ok (.goto 55, 3) := dk_167 0 55 (dk_at dksX7_shows_1 3 rfl rfl)
theorem dX7_shows_30 : decode cX7_shows 30 = .ok (.iconst 5, 1) := dk_8 (dk_at dksX7_shows_1 6 rfl rfl)
theorem dX7_shows_31 : decode cX7_shows 31 = .ok (.aload_n 0, 1) := dk_42 (dk_at dksX7_shows_1 7 rfl rfl)
theorem dX7_shows_32 : decode cX7_shows 32 = .ok (.getfield 7, 3) := dk_180 0 7 (dk_at dksX7_shows_1 8 rfl rfl)
theorem dX7_shows_35 : decode cX7_shows 35 = .ok (.iconst 3, 1) := dk_6 (dk_at dksX7_shows_1 11 rfl rfl)
theorem dX7_shows_36 : decode cX7_shows 36 = .ok (.iaload, 1) := dk_46 (dk_at dksX7_shows_1 12 rfl rfl)
theorem dX7_shows_37 : decode cX7_shows 37 = .ok (.iload_n 2, 1) := dk_28 (dk_at dksX7_shows_1 13 rfl rfl)
theorem dX7_shows_38 : decode cX7_shows 38 = .ok (.ishr, 1) := dk_122 (dk_at dksX7_shows_1 14 rfl rfl)
theorem dX7_shows_39 : decode cX7_shows 39 = .ok (.iconst 1, 1) := dk_4 (dk_at dksX7_shows_1 15 rfl rfl)
theorem dX7_shows_40 : decode cX7_shows 40 = .ok (.iand, 1) := dk_126 (dk_at dksX7_shows_1 16 rfl rfl)
theorem dX7_shows_41 : decode cX7_shows 41 = .ok (.imul, 1) := dk_104 (dk_at dksX7_shows_1 17 rfl rfl)
theorem dX7_shows_42 : decode cX7_shows 42 = .ok (.aload_n 0, 1) := dk_42 (dk_at dksX7_shows_1 18 rfl rfl)
theorem dX7_shows_43 : decode cX7_shows 43 = .ok (.getfield 47, 3) := dk_180 0 47 (dk_at dksX7_shows_1 19 rfl rfl)
theorem dX7_shows_46 : decode cX7_shows 46 = .ok (.iload_n 2, 1) := dk_28 (dk_at dksX7_shows_1 22 rfl rfl)
theorem dX7_shows_47 : decode cX7_shows 47 = .ok (.iaload, 1) := dk_46 (dk_at dksX7_shows_1 23 rfl rfl)
theorem dX7_shows_48 : decode cX7_shows 48 = .ok (.aload_n 0, 1) := dk_42 (dk_at dksX7_shows_2 0 rfl rfl)
theorem dX7_shows_49 : decode cX7_shows 49 = .ok (.getfield 7, 3) := dk_180 0 7 (dk_at dksX7_shows_2 1 rfl rfl)
theorem dX7_shows_52 : decode cX7_shows 52 = .ok (.iconst 3, 1) := dk_6 (dk_at dksX7_shows_2 4 rfl rfl)
theorem dX7_shows_53 : decode cX7_shows 53 = .ok (.iaload, 1) := dk_46 (dk_at dksX7_shows_2 5 rfl rfl)
theorem dX7_shows_54 : decode cX7_shows 54 = .ok (.iand, 1) := dk_126 (dk_at dksX7_shows_2 6 rfl rfl)
theorem dX7_shows_55 : decode cX7_shows 55 = .ok (.invokestatic 226, 3) := dk_184 0 226 (dk_at dksX7_shows_2 7 rfl rfl)
theorem dX7_shows_58 : decode cX7_shows 58 = .ok (.iadd, 1) := dk_96 (dk_at dksX7_shows_2 10 rfl rfl)
theorem dX7_shows_59 : decode cX7_shows 59 = .ok (.istore_n 3, 1) := dk_62 (dk_at dksX7_shows_2 11 rfl rfl)
theorem dX7_shows_60 : decode cX7_shows 60 = .ok (.iload_n 1, 1) := dk_27 (dk_at dksX7_shows_2 12 rfl rfl)
theorem dX7_shows_61 : decode cX7_shows 61 = .ok (.aload_n 0, 1) := dk_42 (dk_at dksX7_shows_2 13 rfl rfl)
theorem dX7_shows_62 : decode cX7_shows 62 = .ok (.getfield 7, 3) := dk_180 0 7 (dk_at dksX7_shows_2 14 rfl rfl)
theorem dX7_shows_65 : decode cX7_shows 65 = .ok (.bipush 32, 2) := dk_16 32 (dk_at dksX7_shows_2 17 rfl rfl)
theorem dX7_shows_67 : decode cX7_shows 67 = .ok (.iload_n 3, 1) := dk_29 (dk_at dksX7_shows_2 19 rfl rfl)
theorem dX7_shows_68 : decode cX7_shows 68 = .ok (.iadd, 1) := dk_96 (dk_at dksX7_shows_2 20 rfl rfl)
theorem dX7_shows_69 : decode cX7_shows 69 = .ok (.iaload, 1) := dk_46 (dk_at dksX7_shows_2 21 rfl rfl)
theorem dX7_shows_70 : decode cX7_shows 70 = .ok (.ifCond .ne 9, 3) := dk_154 0 9 (dk_at dksX7_shows_3 0 rfl rfl)
theorem dX7_shows_73 : decode cX7_shows 73 = .ok (.iconst 1, 1) := dk_4 (dk_at dksX7_shows_3 3 rfl rfl)
theorem dX7_shows_74 : decode cX7_shows 74 = .ok (.iload_n 3, 1) := dk_29 (dk_at dksX7_shows_3 4 rfl rfl)
theorem dX7_shows_75 : decode cX7_shows 75 = .ok (.ishl, 1) := dk_120 (dk_at dksX7_shows_3 5 rfl rfl)
theorem dX7_shows_76 : decode cX7_shows 76 = .ok (.goto 4, 3) := dk_167 0 4 (dk_at dksX7_shows_3 6 rfl rfl)
theorem dX7_shows_79 : decode cX7_shows 79 = .ok (.iconst 0, 1) := dk_3 (dk_at dksX7_shows_3 9 rfl rfl)
theorem dX7_shows_80 : decode cX7_shows 80 = .ok (.ior, 1) := dk_128 (dk_at dksX7_shows_3 10 rfl rfl)
theorem dX7_shows_81 : decode cX7_shows 81 = .ok (.istore_n 1, 1) := dk_60 (dk_at dksX7_shows_3 11 rfl rfl)
theorem dX7_shows_82 : decode cX7_shows 82 = .ok (.iinc 2 1, 3) := dk_132 2 1 (dk_at dksX7_shows_3 12 rfl rfl)
theorem dX7_shows_85 : decode cX7_shows 85 = .ok (.goto (-77), 3) := dk_167 255 179 (dk_at dksX7_shows_3 15 rfl rfl)
theorem dX7_shows_88 : decode cX7_shows 88 = .ok (.aload_n 0, 1) := dk_42 (dk_at dksX7_shows_3 18 rfl rfl)
theorem dX7_shows_89 : decode cX7_shows 89 = .ok (.iload_n 1, 1) := dk_27 (dk_at dksX7_shows_3 19 rfl rfl)
theorem dX7_shows_90 : decode cX7_shows 90 = .ok (.invokestatic 226, 3) := dk_184 0 226 (dk_at dksX7_shows_3 20 rfl rfl)
theorem dX7_shows_93 : decode cX7_shows 93 = .ok (.invokevirtual 85, 3) := dk_182 0 85 (dk_at dksX7_shows_4 0 rfl rfl)
theorem dX7_shows_96 : decode cX7_shows 96 = .ok (.ireturn, 1) := dk_172 (dk_at dksX7_shows_4 3 rfl rfl)
abbrev cX7_vote : ByteArray := prog_16_method_119_code
def yX7_vote : MethodName := ⟨RX7, "vote", "(I)I"⟩
def dkwX7_vote_1 : List UInt8 := [182, 0, 81, 172]
abbrev dktX7_vote_1 : List UInt8 := dkwX7_vote_1 ++ []
def dkwX7_vote_0 : List UInt8 := [42, 27, 182, 1, 31, 153, 0, 15, 42, 42, 27, 182, 1, 127, 182, 1, 21, 167, 0, 8, 42, 4]
abbrev dktX7_vote_0 : List UInt8 := dkwX7_vote_0 ++ dktX7_vote_1
theorem dksX7_vote_0 : cX7_vote.data.toList.drop 0 = dktX7_vote_0 := by decide +kernel
theorem dksX7_vote_1 : cX7_vote.data.toList.drop 22 = dktX7_vote_1 := dk_seg dksX7_vote_0 22 rfl rfl
theorem dX7_vote_0 : decode cX7_vote 0 = .ok (.aload_n 0, 1) := dk_42 (dk_at dksX7_vote_0 0 rfl rfl)
theorem dX7_vote_1 : decode cX7_vote 1 = .ok (.iload_n 1, 1) := dk_27 (dk_at dksX7_vote_0 1 rfl rfl)
theorem dX7_vote_2 : decode cX7_vote 2 = .ok (.invokevirtual 287, 3) := dk_182 1 31 (dk_at dksX7_vote_0 2 rfl rfl)
theorem dX7_vote_5 : decode cX7_vote 5 = .ok (.ifCond .eq 15, 3) := dk_153 0 15 (dk_at dksX7_vote_0 5 rfl rfl)
theorem dX7_vote_8 : decode cX7_vote 8 = .ok (.aload_n 0, 1) := dk_42 (dk_at dksX7_vote_0 8 rfl rfl)
theorem dX7_vote_9 : decode cX7_vote 9 = .ok (.aload_n 0, 1) := dk_42 (dk_at dksX7_vote_0 9 rfl rfl)
theorem dX7_vote_10 : decode cX7_vote 10 = .ok (.iload_n 1, 1) := dk_27 (dk_at dksX7_vote_0 10 rfl rfl)
theorem dX7_vote_11 : decode cX7_vote 11 = .ok (.invokevirtual 383, 3) := dk_182 1 127 (dk_at dksX7_vote_0 11 rfl rfl)
theorem dX7_vote_14 : decode cX7_vote 14 = .ok (.invokevirtual 277, 3) := dk_182 1 21 (dk_at dksX7_vote_0 14 rfl rfl)
theorem dX7_vote_17 : decode cX7_vote 17 = .ok (.goto 8, 3) := dk_167 0 8 (dk_at dksX7_vote_0 17 rfl rfl)
theorem dX7_vote_20 : decode cX7_vote 20 = .ok (.aload_n 0, 1) := dk_42 (dk_at dksX7_vote_0 20 rfl rfl)
theorem dX7_vote_21 : decode cX7_vote 21 = .ok (.iconst 1, 1) := dk_4 (dk_at dksX7_vote_0 21 rfl rfl)
theorem dX7_vote_22 : decode cX7_vote 22 = .ok (.invokevirtual 81, 3) := dk_182 0 81 (dk_at dksX7_vote_1 0 rfl rfl)
theorem dX7_vote_25 : decode cX7_vote 25 = .ok (.ireturn, 1) := dk_172 (dk_at dksX7_vote_1 3 rfl rfl)
abbrev cX7_voteOf : ByteArray := prog_16_method_118_code
def yX7_voteOf : MethodName := ⟨RX7, "voteOf", "(I)I"⟩
def dkwX7_voteOf_3 : List UInt8 := [28, 172]
abbrev dktX7_voteOf_3 : List UInt8 := dkwX7_voteOf_3 ++ []
def dkwX7_voteOf_2 : List UInt8 := [159, 0, 12, 21, 5, 29, 161, 0, 6, 167, 0, 9, 21, 4, 61, 21, 5, 62, 132, 4, 1, 167, 255, 200]
abbrev dktX7_voteOf_2 : List UInt8 := dkwX7_voteOf_2 ++ dktX7_voteOf_3
def dkwX7_voteOf_1 : List UInt8 := [42, 42, 180, 0, 7, 6, 46, 21, 4, 182, 1, 18, 184, 0, 226, 182, 1, 124, 54, 5, 28, 2]
abbrev dktX7_voteOf_1 : List UInt8 := dkwX7_voteOf_1 ++ dktX7_voteOf_2
def dkwX7_voteOf_0 : List UInt8 := [42, 182, 1, 15, 2, 61, 3, 62, 3, 54, 4, 21, 4, 42, 180, 0, 7, 8, 46, 162, 0, 51, 42, 27]
abbrev dktX7_voteOf_0 : List UInt8 := dkwX7_voteOf_0 ++ dktX7_voteOf_1
theorem dksX7_voteOf_0 : cX7_voteOf.data.toList.drop 0 = dktX7_voteOf_0 := by decide +kernel
theorem dksX7_voteOf_1 : cX7_voteOf.data.toList.drop 24 = dktX7_voteOf_1 := dk_seg dksX7_voteOf_0 24 rfl rfl
theorem dksX7_voteOf_2 : cX7_voteOf.data.toList.drop 46 = dktX7_voteOf_2 := dk_seg dksX7_voteOf_1 22 rfl rfl
theorem dksX7_voteOf_3 : cX7_voteOf.data.toList.drop 70 = dktX7_voteOf_3 := dk_seg dksX7_voteOf_2 24 rfl rfl
theorem dX7_voteOf_0 : decode cX7_voteOf 0 = .ok (.aload_n 0, 1) := dk_42 (dk_at dksX7_voteOf_0 0 rfl rfl)
theorem dX7_voteOf_1 : decode cX7_voteOf 1 = .ok (.invokevirtual 271, 3) := dk_182 1 15 (dk_at dksX7_voteOf_0 1 rfl rfl)
theorem dX7_voteOf_4 : decode cX7_voteOf 4 = .ok (.iconst (-1), 1) := dk_2 (dk_at dksX7_voteOf_0 4 rfl rfl)
theorem dX7_voteOf_5 : decode cX7_voteOf 5 = .ok (.istore_n 2, 1) := dk_61 (dk_at dksX7_voteOf_0 5 rfl rfl)
theorem dX7_voteOf_6 : decode cX7_voteOf 6 = .ok (.iconst 0, 1) := dk_3 (dk_at dksX7_voteOf_0 6 rfl rfl)
theorem dX7_voteOf_7 : decode cX7_voteOf 7 = .ok (.istore_n 3, 1) := dk_62 (dk_at dksX7_voteOf_0 7 rfl rfl)
theorem dX7_voteOf_8 : decode cX7_voteOf 8 = .ok (.iconst 0, 1) := dk_3 (dk_at dksX7_voteOf_0 8 rfl rfl)
theorem dX7_voteOf_9 : decode cX7_voteOf 9 = .ok (.istore 4, 2) := dk_54 4 (dk_at dksX7_voteOf_0 9 rfl rfl)
theorem dX7_voteOf_11 : decode cX7_voteOf 11 = .ok (.iload 4, 2) := dk_21 4 (dk_at dksX7_voteOf_0 11 rfl rfl)
theorem dX7_voteOf_13 : decode cX7_voteOf 13 = .ok (.aload_n 0, 1) := dk_42 (dk_at dksX7_voteOf_0 13 rfl rfl)
theorem dX7_voteOf_14 : decode cX7_voteOf 14 = .ok (.getfield 7, 3) := dk_180 0 7 (dk_at dksX7_voteOf_0 14 rfl rfl)
theorem dX7_voteOf_17 : decode cX7_voteOf 17 = .ok (.iconst 5, 1) := dk_8 (dk_at dksX7_voteOf_0 17 rfl rfl)
theorem dX7_voteOf_18 : decode cX7_voteOf 18 = .ok (.iaload, 1) := dk_46 (dk_at dksX7_voteOf_0 18 rfl rfl)
theorem dX7_voteOf_19 : decode cX7_voteOf 19 = .ok (.if_icmp .ge 51, 3) := dk_162 0 51 (dk_at dksX7_voteOf_0 19 rfl rfl)
theorem dX7_voteOf_22 : decode cX7_voteOf 22 = .ok (.aload_n 0, 1) := dk_42 (dk_at dksX7_voteOf_0 22 rfl rfl)
theorem dX7_voteOf_23 : decode cX7_voteOf 23 = .ok (.iload_n 1, 1) := dk_27 (dk_at dksX7_voteOf_0 23 rfl rfl)
theorem dX7_voteOf_24 : decode cX7_voteOf 24 = .ok (.aload_n 0, 1) := dk_42 (dk_at dksX7_voteOf_1 0 rfl rfl)
theorem dX7_voteOf_25 : decode cX7_voteOf 25 = .ok (.aload_n 0, 1) := dk_42 (dk_at dksX7_voteOf_1 1 rfl rfl)
theorem dX7_voteOf_26 : decode cX7_voteOf 26 = .ok (.getfield 7, 3) := dk_180 0 7 (dk_at dksX7_voteOf_1 2 rfl rfl)
theorem dX7_voteOf_29 : decode cX7_voteOf 29 = .ok (.iconst 3, 1) := dk_6 (dk_at dksX7_voteOf_1 5 rfl rfl)
theorem dX7_voteOf_30 : decode cX7_voteOf 30 = .ok (.iaload, 1) := dk_46 (dk_at dksX7_voteOf_1 6 rfl rfl)
theorem dX7_voteOf_31 : decode cX7_voteOf 31 = .ok (.iload 4, 2) := dk_21 4 (dk_at dksX7_voteOf_1 7 rfl rfl)
theorem dX7_voteOf_33 : decode cX7_voteOf 33 = .ok (.invokevirtual 274, 3) := dk_182 1 18 (dk_at dksX7_voteOf_1 9 rfl rfl)
theorem dX7_voteOf_36 : decode cX7_voteOf 36 = .ok (.invokestatic 226, 3) := dk_184 0 226 (dk_at dksX7_voteOf_1 12 rfl rfl)
theorem dX7_voteOf_39 : decode cX7_voteOf 39 = .ok (.invokevirtual 380, 3) := dk_182 1 124 (dk_at dksX7_voteOf_1 15 rfl rfl)
theorem dX7_voteOf_42 : decode cX7_voteOf 42 = .ok (.istore 5, 2) := dk_54 5 (dk_at dksX7_voteOf_1 18 rfl rfl)
theorem dX7_voteOf_44 : decode cX7_voteOf 44 = .ok (.iload_n 2, 1) := dk_28 (dk_at dksX7_voteOf_1 20 rfl rfl)
theorem dX7_voteOf_45 : decode cX7_voteOf 45 = .ok (.iconst (-1), 1) := dk_2 (dk_at dksX7_voteOf_1 21 rfl rfl)
theorem dX7_voteOf_46 : decode cX7_voteOf 46 = .ok (.if_icmp .eq 12, 3) := dk_159 0 12 (dk_at dksX7_voteOf_2 0 rfl rfl)
theorem dX7_voteOf_49 : decode cX7_voteOf 49 = .ok (.iload 5, 2) := dk_21 5 (dk_at dksX7_voteOf_2 3 rfl rfl)
theorem dX7_voteOf_51 : decode cX7_voteOf 51 = .ok (.iload_n 3, 1) := dk_29 (dk_at dksX7_voteOf_2 5 rfl rfl)
theorem dX7_voteOf_52 : decode cX7_voteOf 52 = .ok (.if_icmp .lt 6, 3) := dk_161 0 6 (dk_at dksX7_voteOf_2 6 rfl rfl)
theorem dX7_voteOf_55 : decode cX7_voteOf 55 = .ok (.goto 9, 3) := dk_167 0 9 (dk_at dksX7_voteOf_2 9 rfl rfl)
theorem dX7_voteOf_58 : decode cX7_voteOf 58 = .ok (.iload 4, 2) := dk_21 4 (dk_at dksX7_voteOf_2 12 rfl rfl)
theorem dX7_voteOf_60 : decode cX7_voteOf 60 = .ok (.istore_n 2, 1) := dk_61 (dk_at dksX7_voteOf_2 14 rfl rfl)
theorem dX7_voteOf_61 : decode cX7_voteOf 61 = .ok (.iload 5, 2) := dk_21 5 (dk_at dksX7_voteOf_2 15 rfl rfl)
theorem dX7_voteOf_63 : decode cX7_voteOf 63 = .ok (.istore_n 3, 1) := dk_62 (dk_at dksX7_voteOf_2 17 rfl rfl)
theorem dX7_voteOf_64 : decode cX7_voteOf 64 = .ok (.iinc 4 1, 3) := dk_132 4 1 (dk_at dksX7_voteOf_2 18 rfl rfl)
theorem dX7_voteOf_67 : decode cX7_voteOf 67 = .ok (.goto (-56), 3) := dk_167 255 200 (dk_at dksX7_voteOf_2 21 rfl rfl)
theorem dX7_voteOf_70 : decode cX7_voteOf 70 = .ok (.iload_n 2, 1) := dk_28 (dk_at dksX7_voteOf_3 0 rfl rfl)
theorem dX7_voteOf_71 : decode cX7_voteOf 71 = .ok (.ireturn, 1) := dk_172 (dk_at dksX7_voteOf_3 1 rfl rfl)
abbrev cX7_dislikes : ByteArray := prog_16_method_117_code
def yX7_dislikes : MethodName := ⟨RX7, "dislikes", "(II)I"⟩
def dkwX7_dislikes_2 : List UInt8 := [46, 100, 167, 0, 4, 3, 172]
abbrev dktX7_dislikes_2 : List UInt8 := dkwX7_dislikes_2 ++ []
def dkwX7_dislikes_1 : List UInt8 := [100, 167, 0, 29, 28, 42, 180, 0, 7, 29, 4, 96, 46, 164, 0, 16, 28, 42, 180, 0, 7, 29, 4, 96]
abbrev dktX7_dislikes_1 : List UInt8 := dkwX7_dislikes_1 ++ dktX7_dislikes_2
def dkwX7_dislikes_0 : List UInt8 := [16, 20, 5, 27, 104, 96, 62, 28, 42, 180, 0, 7, 29, 46, 162, 0, 14, 42, 180, 0, 7, 29, 46, 28]
abbrev dktX7_dislikes_0 : List UInt8 := dkwX7_dislikes_0 ++ dktX7_dislikes_1
theorem dksX7_dislikes_0 : cX7_dislikes.data.toList.drop 0 = dktX7_dislikes_0 := by decide +kernel
theorem dksX7_dislikes_1 : cX7_dislikes.data.toList.drop 24 = dktX7_dislikes_1 := dk_seg dksX7_dislikes_0 24 rfl rfl
theorem dksX7_dislikes_2 : cX7_dislikes.data.toList.drop 48 = dktX7_dislikes_2 := dk_seg dksX7_dislikes_1 24 rfl rfl
theorem dX7_dislikes_0 : decode cX7_dislikes 0 = .ok (.bipush 20, 2) := dk_16 20 (dk_at dksX7_dislikes_0 0 rfl rfl)
theorem dX7_dislikes_2 : decode cX7_dislikes 2 = .ok (.iconst 2, 1) := dk_5 (dk_at dksX7_dislikes_0 2 rfl rfl)
theorem dX7_dislikes_3 : decode cX7_dislikes 3 = .ok (.iload_n 1, 1) := dk_27 (dk_at dksX7_dislikes_0 3 rfl rfl)
theorem dX7_dislikes_4 : decode cX7_dislikes 4 = .ok (.imul, 1) := dk_104 (dk_at dksX7_dislikes_0 4 rfl rfl)
theorem dX7_dislikes_5 : decode cX7_dislikes 5 = .ok (.iadd, 1) := dk_96 (dk_at dksX7_dislikes_0 5 rfl rfl)
theorem dX7_dislikes_6 : decode cX7_dislikes 6 = .ok (.istore_n 3, 1) := dk_62 (dk_at dksX7_dislikes_0 6 rfl rfl)
theorem dX7_dislikes_7 : decode cX7_dislikes 7 = .ok (.iload_n 2, 1) := dk_28 (dk_at dksX7_dislikes_0 7 rfl rfl)
theorem dX7_dislikes_8 : decode cX7_dislikes 8 = .ok (.aload_n 0, 1) := dk_42 (dk_at dksX7_dislikes_0 8 rfl rfl)
theorem dX7_dislikes_9 : decode cX7_dislikes 9 = .ok (.getfield 7, 3) := dk_180 0 7 (dk_at dksX7_dislikes_0 9 rfl rfl)
theorem dX7_dislikes_12 : decode cX7_dislikes 12 = .ok (.iload_n 3, 1) := dk_29 (dk_at dksX7_dislikes_0 12 rfl rfl)
theorem dX7_dislikes_13 : decode cX7_dislikes 13 = .ok (.iaload, 1) := dk_46 (dk_at dksX7_dislikes_0 13 rfl rfl)
theorem dX7_dislikes_14 : decode cX7_dislikes 14 = .ok (.if_icmp .ge 14, 3) := dk_162 0 14 (dk_at dksX7_dislikes_0 14 rfl rfl)
theorem dX7_dislikes_17 : decode cX7_dislikes 17 = .ok (.aload_n 0, 1) := dk_42 (dk_at dksX7_dislikes_0 17 rfl rfl)
theorem dX7_dislikes_18 : decode cX7_dislikes 18 = .ok (.getfield 7, 3) := dk_180 0 7 (dk_at dksX7_dislikes_0 18 rfl rfl)
theorem dX7_dislikes_21 : decode cX7_dislikes 21 = .ok (.iload_n 3, 1) := dk_29 (dk_at dksX7_dislikes_0 21 rfl rfl)
theorem dX7_dislikes_22 : decode cX7_dislikes 22 = .ok (.iaload, 1) := dk_46 (dk_at dksX7_dislikes_0 22 rfl rfl)
theorem dX7_dislikes_23 : decode cX7_dislikes 23 = .ok (.iload_n 2, 1) := dk_28 (dk_at dksX7_dislikes_0 23 rfl rfl)
theorem dX7_dislikes_24 : decode cX7_dislikes 24 = .ok (.isub, 1) := dk_100 (dk_at dksX7_dislikes_1 0 rfl rfl)
theorem dX7_dislikes_25 : decode cX7_dislikes 25 = .ok (.goto 29, 3) := dk_167 0 29 (dk_at dksX7_dislikes_1 1 rfl rfl)
theorem dX7_dislikes_28 : decode cX7_dislikes 28 = .ok (.iload_n 2, 1) := dk_28 (dk_at dksX7_dislikes_1 4 rfl rfl)
theorem dX7_dislikes_29 : decode cX7_dislikes 29 = .ok (.aload_n 0, 1) := dk_42 (dk_at dksX7_dislikes_1 5 rfl rfl)
theorem dX7_dislikes_30 : decode cX7_dislikes 30 = .ok (.getfield 7, 3) := dk_180 0 7 (dk_at dksX7_dislikes_1 6 rfl rfl)
theorem dX7_dislikes_33 : decode cX7_dislikes 33 = .ok (.iload_n 3, 1) := dk_29 (dk_at dksX7_dislikes_1 9 rfl rfl)
theorem dX7_dislikes_34 : decode cX7_dislikes 34 = .ok (.iconst 1, 1) := dk_4 (dk_at dksX7_dislikes_1 10 rfl rfl)
theorem dX7_dislikes_35 : decode cX7_dislikes 35 = .ok (.iadd, 1) := dk_96 (dk_at dksX7_dislikes_1 11 rfl rfl)
theorem dX7_dislikes_36 : decode cX7_dislikes 36 = .ok (.iaload, 1) := dk_46 (dk_at dksX7_dislikes_1 12 rfl rfl)
theorem dX7_dislikes_37 : decode cX7_dislikes 37 = .ok (.if_icmp .le 16, 3) := dk_164 0 16 (dk_at dksX7_dislikes_1 13 rfl rfl)
theorem dX7_dislikes_40 : decode cX7_dislikes 40 = .ok (.iload_n 2, 1) := dk_28 (dk_at dksX7_dislikes_1 16 rfl rfl)
theorem dX7_dislikes_41 : decode cX7_dislikes 41 = .ok (.aload_n 0, 1) := dk_42 (dk_at dksX7_dislikes_1 17 rfl rfl)
theorem dX7_dislikes_42 : decode cX7_dislikes 42 = .ok (.getfield 7, 3) := dk_180 0 7 (dk_at dksX7_dislikes_1 18 rfl rfl)
theorem dX7_dislikes_45 : decode cX7_dislikes 45 = .ok (.iload_n 3, 1) := dk_29 (dk_at dksX7_dislikes_1 21 rfl rfl)
theorem dX7_dislikes_46 : decode cX7_dislikes 46 = .ok (.iconst 1, 1) := dk_4 (dk_at dksX7_dislikes_1 22 rfl rfl)
theorem dX7_dislikes_47 : decode cX7_dislikes 47 = .ok (.iadd, 1) := dk_96 (dk_at dksX7_dislikes_1 23 rfl rfl)
theorem dX7_dislikes_48 : decode cX7_dislikes 48 = .ok (.iaload, 1) := dk_46 (dk_at dksX7_dislikes_2 0 rfl rfl)
theorem dX7_dislikes_49 : decode cX7_dislikes 49 = .ok (.isub, 1) := dk_100 (dk_at dksX7_dislikes_2 1 rfl rfl)
theorem dX7_dislikes_50 : decode cX7_dislikes 50 = .ok (.goto 4, 3) := dk_167 0 4 (dk_at dksX7_dislikes_2 2 rfl rfl)
theorem dX7_dislikes_53 : decode cX7_dislikes 53 = .ok (.iconst 0, 1) := dk_3 (dk_at dksX7_dislikes_2 5 rfl rfl)
theorem dX7_dislikes_54 : decode cX7_dislikes 54 = .ok (.ireturn, 1) := dk_172 (dk_at dksX7_dislikes_2 6 rfl rfl)
abbrev cX7_votes : ByteArray := prog_16_method_121_code
def yX7_votes : MethodName := ⟨RX7, "votes", "(I)I"⟩
def dkwX7_votes_1 : List UInt8 := [182, 0, 81, 172]
abbrev dktX7_votes_1 : List UInt8 := dkwX7_votes_1 ++ []
def dkwX7_votes_0 : List UInt8 := [42, 27, 182, 1, 28, 153, 0, 15, 42, 42, 27, 182, 1, 130, 182, 0, 85, 167, 0, 8, 42, 4]
abbrev dktX7_votes_0 : List UInt8 := dkwX7_votes_0 ++ dktX7_votes_1
theorem dksX7_votes_0 : cX7_votes.data.toList.drop 0 = dktX7_votes_0 := by decide +kernel
theorem dksX7_votes_1 : cX7_votes.data.toList.drop 22 = dktX7_votes_1 := dk_seg dksX7_votes_0 22 rfl rfl
theorem dX7_votes_0 : decode cX7_votes 0 = .ok (.aload_n 0, 1) := dk_42 (dk_at dksX7_votes_0 0 rfl rfl)
theorem dX7_votes_1 : decode cX7_votes 1 = .ok (.iload_n 1, 1) := dk_27 (dk_at dksX7_votes_0 1 rfl rfl)
theorem dX7_votes_2 : decode cX7_votes 2 = .ok (.invokevirtual 284, 3) := dk_182 1 28 (dk_at dksX7_votes_0 2 rfl rfl)
theorem dX7_votes_5 : decode cX7_votes 5 = .ok (.ifCond .eq 15, 3) := dk_153 0 15 (dk_at dksX7_votes_0 5 rfl rfl)
theorem dX7_votes_8 : decode cX7_votes 8 = .ok (.aload_n 0, 1) := dk_42 (dk_at dksX7_votes_0 8 rfl rfl)
theorem dX7_votes_9 : decode cX7_votes 9 = .ok (.aload_n 0, 1) := dk_42 (dk_at dksX7_votes_0 9 rfl rfl)
theorem dX7_votes_10 : decode cX7_votes 10 = .ok (.iload_n 1, 1) := dk_27 (dk_at dksX7_votes_0 10 rfl rfl)
theorem dX7_votes_11 : decode cX7_votes 11 = .ok (.invokevirtual 386, 3) := dk_182 1 130 (dk_at dksX7_votes_0 11 rfl rfl)
theorem dX7_votes_14 : decode cX7_votes 14 = .ok (.invokevirtual 85, 3) := dk_182 0 85 (dk_at dksX7_votes_0 14 rfl rfl)
theorem dX7_votes_17 : decode cX7_votes 17 = .ok (.goto 8, 3) := dk_167 0 8 (dk_at dksX7_votes_0 17 rfl rfl)
theorem dX7_votes_20 : decode cX7_votes 20 = .ok (.aload_n 0, 1) := dk_42 (dk_at dksX7_votes_0 20 rfl rfl)
theorem dX7_votes_21 : decode cX7_votes 21 = .ok (.iconst 1, 1) := dk_4 (dk_at dksX7_votes_0 21 rfl rfl)
theorem dX7_votes_22 : decode cX7_votes 22 = .ok (.invokevirtual 81, 3) := dk_182 0 81 (dk_at dksX7_votes_1 0 rfl rfl)
theorem dX7_votes_25 : decode cX7_votes 25 = .ok (.ireturn, 1) := dk_172 (dk_at dksX7_votes_1 3 rfl rfl)
abbrev cX7_votesFor : ByteArray := prog_16_method_120_code
def yX7_votesFor : MethodName := ⟨RX7, "votesFor", "(I)I"⟩
def dkwX7_votesFor_1 : List UInt8 := [160, 0, 7, 4, 167, 0, 4, 3, 96, 61, 132, 3, 1, 167, 255, 225, 28, 172]
abbrev dktX7_votesFor_1 : List UInt8 := dkwX7_votesFor_1 ++ []
def dkwX7_votesFor_0 : List UInt8 := [3, 61, 3, 62, 29, 42, 180, 0, 7, 16, 6, 46, 162, 0, 26, 28, 42, 29, 182, 1, 127, 27]
abbrev dktX7_votesFor_0 : List UInt8 := dkwX7_votesFor_0 ++ dktX7_votesFor_1
theorem dksX7_votesFor_0 : cX7_votesFor.data.toList.drop 0 = dktX7_votesFor_0 := by decide +kernel
theorem dksX7_votesFor_1 : cX7_votesFor.data.toList.drop 22 = dktX7_votesFor_1 := dk_seg dksX7_votesFor_0 22 rfl rfl
theorem dX7_votesFor_0 : decode cX7_votesFor 0 = .ok (.iconst 0, 1) := dk_3 (dk_at dksX7_votesFor_0 0 rfl rfl)
theorem dX7_votesFor_1 : decode cX7_votesFor 1 = .ok (.istore_n 2, 1) := dk_61 (dk_at dksX7_votesFor_0 1 rfl rfl)
theorem dX7_votesFor_2 : decode cX7_votesFor 2 = .ok (.iconst 0, 1) := dk_3 (dk_at dksX7_votesFor_0 2 rfl rfl)
theorem dX7_votesFor_3 : decode cX7_votesFor 3 = .ok (.istore_n 3, 1) := dk_62 (dk_at dksX7_votesFor_0 3 rfl rfl)
theorem dX7_votesFor_4 : decode cX7_votesFor 4 = .ok (.iload_n 3, 1) := dk_29 (dk_at dksX7_votesFor_0 4 rfl rfl)
theorem dX7_votesFor_5 : decode cX7_votesFor 5 = .ok (.aload_n 0, 1) := dk_42 (dk_at dksX7_votesFor_0 5 rfl rfl)
theorem dX7_votesFor_6 : decode cX7_votesFor 6 = .ok (.getfield 7, 3) := dk_180 0 7 (dk_at dksX7_votesFor_0 6 rfl rfl)
theorem dX7_votesFor_9 : decode cX7_votesFor 9 = .ok (.bipush 6, 2) := dk_16 6 (dk_at dksX7_votesFor_0 9 rfl rfl)
theorem dX7_votesFor_11 : decode cX7_votesFor 11 = .ok (.iaload, 1) := dk_46 (dk_at dksX7_votesFor_0 11 rfl rfl)
theorem dX7_votesFor_12 : decode cX7_votesFor 12 = .ok (.if_icmp .ge 26, 3) := dk_162 0 26 (dk_at dksX7_votesFor_0 12 rfl rfl)
theorem dX7_votesFor_15 : decode cX7_votesFor 15 = .ok (.iload_n 2, 1) := dk_28 (dk_at dksX7_votesFor_0 15 rfl rfl)
theorem dX7_votesFor_16 : decode cX7_votesFor 16 = .ok (.aload_n 0, 1) := dk_42 (dk_at dksX7_votesFor_0 16 rfl rfl)
theorem dX7_votesFor_17 : decode cX7_votesFor 17 = .ok (.iload_n 3, 1) := dk_29 (dk_at dksX7_votesFor_0 17 rfl rfl)
theorem dX7_votesFor_18 : decode cX7_votesFor 18 = .ok (.invokevirtual 383, 3) := dk_182 1 127 (dk_at dksX7_votesFor_0 18 rfl rfl)
theorem dX7_votesFor_21 : decode cX7_votesFor 21 = .ok (.iload_n 1, 1) := dk_27 (dk_at dksX7_votesFor_0 21 rfl rfl)
theorem dX7_votesFor_22 : decode cX7_votesFor 22 = .ok (.if_icmp .ne 7, 3) := dk_160 0 7 (dk_at dksX7_votesFor_1 0 rfl rfl)
theorem dX7_votesFor_25 : decode cX7_votesFor 25 = .ok (.iconst 1, 1) := dk_4 (dk_at dksX7_votesFor_1 3 rfl rfl)
theorem dX7_votesFor_26 : decode cX7_votesFor 26 = .ok (.goto 4, 3) := dk_167 0 4 (dk_at dksX7_votesFor_1 4 rfl rfl)
theorem dX7_votesFor_29 : decode cX7_votesFor 29 = .ok (.iconst 0, 1) := dk_3 (dk_at dksX7_votesFor_1 7 rfl rfl)
theorem dX7_votesFor_30 : decode cX7_votesFor 30 = .ok (.iadd, 1) := dk_96 (dk_at dksX7_votesFor_1 8 rfl rfl)
theorem dX7_votesFor_31 : decode cX7_votesFor 31 = .ok (.istore_n 2, 1) := dk_61 (dk_at dksX7_votesFor_1 9 rfl rfl)
theorem dX7_votesFor_32 : decode cX7_votesFor 32 = .ok (.iinc 3 1, 3) := dk_132 3 1 (dk_at dksX7_votesFor_1 10 rfl rfl)
theorem dX7_votesFor_35 : decode cX7_votesFor 35 = .ok (.goto (-31), 3) := dk_167 255 225 (dk_at dksX7_votesFor_1 13 rfl rfl)
theorem dX7_votesFor_38 : decode cX7_votesFor 38 = .ok (.iload_n 2, 1) := dk_28 (dk_at dksX7_votesFor_1 16 rfl rfl)
theorem dX7_votesFor_39 : decode cX7_votesFor 39 = .ok (.ireturn, 1) := dk_172 (dk_at dksX7_votesFor_1 17 rfl rfl)
abbrev cX7_elect : ByteArray := prog_16_method_123_code
def yX7_elect : MethodName := ⟨RX7, "elect", "()I"⟩
def dkwX7_elect_1 : List UInt8 := [182, 0, 81, 172]
abbrev dktX7_elect_1 : List UInt8 := dkwX7_elect_1 ++ []
def dkwX7_elect_0 : List UInt8 := [42, 182, 1, 133, 153, 0, 17, 42, 42, 180, 0, 7, 16, 10, 46, 182, 0, 85, 167, 0, 9, 42, 16, 6]
abbrev dktX7_elect_0 : List UInt8 := dkwX7_elect_0 ++ dktX7_elect_1
theorem dksX7_elect_0 : cX7_elect.data.toList.drop 0 = dktX7_elect_0 := by decide +kernel
theorem dksX7_elect_1 : cX7_elect.data.toList.drop 24 = dktX7_elect_1 := dk_seg dksX7_elect_0 24 rfl rfl
theorem dX7_elect_0 : decode cX7_elect 0 = .ok (.aload_n 0, 1) := dk_42 (dk_at dksX7_elect_0 0 rfl rfl)
theorem dX7_elect_1 : decode cX7_elect 1 = .ok (.invokevirtual 389, 3) := dk_182 1 133 (dk_at dksX7_elect_0 1 rfl rfl)
theorem dX7_elect_4 : decode cX7_elect 4 = .ok (.ifCond .eq 17, 3) := dk_153 0 17 (dk_at dksX7_elect_0 4 rfl rfl)
theorem dX7_elect_7 : decode cX7_elect 7 = .ok (.aload_n 0, 1) := dk_42 (dk_at dksX7_elect_0 7 rfl rfl)
theorem dX7_elect_8 : decode cX7_elect 8 = .ok (.aload_n 0, 1) := dk_42 (dk_at dksX7_elect_0 8 rfl rfl)
theorem dX7_elect_9 : decode cX7_elect 9 = .ok (.getfield 7, 3) := dk_180 0 7 (dk_at dksX7_elect_0 9 rfl rfl)
theorem dX7_elect_12 : decode cX7_elect 12 = .ok (.bipush 10, 2) := dk_16 10 (dk_at dksX7_elect_0 12 rfl rfl)
theorem dX7_elect_14 : decode cX7_elect 14 = .ok (.iaload, 1) := dk_46 (dk_at dksX7_elect_0 14 rfl rfl)
theorem dX7_elect_15 : decode cX7_elect 15 = .ok (.invokevirtual 85, 3) := dk_182 0 85 (dk_at dksX7_elect_0 15 rfl rfl)
theorem dX7_elect_18 : decode cX7_elect 18 = .ok (.goto 9, 3) := dk_167 0 9 (dk_at dksX7_elect_0 18 rfl rfl)
theorem dX7_elect_21 : decode cX7_elect 21 = .ok (.aload_n 0, 1) := dk_42 (dk_at dksX7_elect_0 21 rfl rfl)
theorem dX7_elect_22 : decode cX7_elect 22 = .ok (.bipush 6, 2) := dk_16 6 (dk_at dksX7_elect_0 22 rfl rfl)
theorem dX7_elect_24 : decode cX7_elect 24 = .ok (.invokevirtual 81, 3) := dk_182 0 81 (dk_at dksX7_elect_1 0 rfl rfl)
theorem dX7_elect_27 : decode cX7_elect 27 = .ok (.ireturn, 1) := dk_172 (dk_at dksX7_elect_1 3 rfl rfl)
abbrev cX7_elects : ByteArray := prog_16_method_122_code
def yX7_elects : MethodName := ⟨RX7, "elects", "()Z"⟩
def dkwX7_elects_2 : List UInt8 := [28, 60, 132, 2, 1, 167, 255, 228, 42, 180, 0, 7, 16, 10, 27, 79, 4, 172]
abbrev dktX7_elects_2 : List UInt8 := dkwX7_elects_2 ++ []
def dkwX7_elects_1 : List UInt8 := [61, 28, 42, 180, 0, 7, 8, 46, 162, 0, 24, 42, 28, 182, 1, 130, 42, 27, 182, 1, 130, 164, 0, 5]
abbrev dktX7_elects_1 : List UInt8 := dkwX7_elects_1 ++ dktX7_elects_2
def dkwX7_elects_0 : List UInt8 := [42, 180, 0, 7, 8, 46, 153, 0, 13, 42, 180, 0, 7, 16, 6, 46, 154, 0, 5, 3, 172, 3, 60, 4]
abbrev dktX7_elects_0 : List UInt8 := dkwX7_elects_0 ++ dktX7_elects_1
theorem dksX7_elects_0 : cX7_elects.data.toList.drop 0 = dktX7_elects_0 := by decide +kernel
theorem dksX7_elects_1 : cX7_elects.data.toList.drop 24 = dktX7_elects_1 := dk_seg dksX7_elects_0 24 rfl rfl
theorem dksX7_elects_2 : cX7_elects.data.toList.drop 48 = dktX7_elects_2 := dk_seg dksX7_elects_1 24 rfl rfl
theorem dX7_elects_0 : decode cX7_elects 0 = .ok (.aload_n 0, 1) := dk_42 (dk_at dksX7_elects_0 0 rfl rfl)
theorem dX7_elects_1 : decode cX7_elects 1 = .ok (.getfield 7, 3) := dk_180 0 7 (dk_at dksX7_elects_0 1 rfl rfl)
theorem dX7_elects_4 : decode cX7_elects 4 = .ok (.iconst 5, 1) := dk_8 (dk_at dksX7_elects_0 4 rfl rfl)
theorem dX7_elects_5 : decode cX7_elects 5 = .ok (.iaload, 1) := dk_46 (dk_at dksX7_elects_0 5 rfl rfl)
theorem dX7_elects_6 : decode cX7_elects 6 = .ok (.ifCond .eq 13, 3) := dk_153 0 13 (dk_at dksX7_elects_0 6 rfl rfl)
theorem dX7_elects_9 : decode cX7_elects 9 = .ok (.aload_n 0, 1) := dk_42 (dk_at dksX7_elects_0 9 rfl rfl)
theorem dX7_elects_10 : decode cX7_elects 10 = .ok (.getfield 7, 3) := dk_180 0 7 (dk_at dksX7_elects_0 10 rfl rfl)
theorem dX7_elects_13 : decode cX7_elects 13 = .ok (.bipush 6, 2) := dk_16 6 (dk_at dksX7_elects_0 13 rfl rfl)
theorem dX7_elects_15 : decode cX7_elects 15 = .ok (.iaload, 1) := dk_46 (dk_at dksX7_elects_0 15 rfl rfl)
theorem dX7_elects_16 : decode cX7_elects 16 = .ok (.ifCond .ne 5, 3) := dk_154 0 5 (dk_at dksX7_elects_0 16 rfl rfl)
theorem dX7_elects_19 : decode cX7_elects 19 = .ok (.iconst 0, 1) := dk_3 (dk_at dksX7_elects_0 19 rfl rfl)
theorem dX7_elects_20 : decode cX7_elects 20 = .ok (.ireturn, 1) := dk_172 (dk_at dksX7_elects_0 20 rfl rfl)
theorem dX7_elects_21 : decode cX7_elects 21 = .ok (.iconst 0, 1) := dk_3 (dk_at dksX7_elects_0 21 rfl rfl)
theorem dX7_elects_22 : decode cX7_elects 22 = .ok (.istore_n 1, 1) := dk_60 (dk_at dksX7_elects_0 22 rfl rfl)
theorem dX7_elects_23 : decode cX7_elects 23 = .ok (.iconst 1, 1) := dk_4 (dk_at dksX7_elects_0 23 rfl rfl)
theorem dX7_elects_24 : decode cX7_elects 24 = .ok (.istore_n 2, 1) := dk_61 (dk_at dksX7_elects_1 0 rfl rfl)
theorem dX7_elects_25 : decode cX7_elects 25 = .ok (.iload_n 2, 1) := dk_28 (dk_at dksX7_elects_1 1 rfl rfl)
theorem dX7_elects_26 : decode cX7_elects 26 = .ok (.aload_n 0, 1) := dk_42 (dk_at dksX7_elects_1 2 rfl rfl)
theorem dX7_elects_27 : decode cX7_elects 27 = .ok (.getfield 7, 3) := dk_180 0 7 (dk_at dksX7_elects_1 3 rfl rfl)
theorem dX7_elects_30 : decode cX7_elects 30 = .ok (.iconst 5, 1) := dk_8 (dk_at dksX7_elects_1 6 rfl rfl)
theorem dX7_elects_31 : decode cX7_elects 31 = .ok (.iaload, 1) := dk_46 (dk_at dksX7_elects_1 7 rfl rfl)
theorem dX7_elects_32 : decode cX7_elects 32 = .ok (.if_icmp .ge 24, 3) := dk_162 0 24 (dk_at dksX7_elects_1 8 rfl rfl)
theorem dX7_elects_35 : decode cX7_elects 35 = .ok (.aload_n 0, 1) := dk_42 (dk_at dksX7_elects_1 11 rfl rfl)
theorem dX7_elects_36 : decode cX7_elects 36 = .ok (.iload_n 2, 1) := dk_28 (dk_at dksX7_elects_1 12 rfl rfl)
theorem dX7_elects_37 : decode cX7_elects 37 = .ok (.invokevirtual 386, 3) := dk_182 1 130 (dk_at dksX7_elects_1 13 rfl rfl)
theorem dX7_elects_40 : decode cX7_elects 40 = .ok (.aload_n 0, 1) := dk_42 (dk_at dksX7_elects_1 16 rfl rfl)
theorem dX7_elects_41 : decode cX7_elects 41 = .ok (.iload_n 1, 1) := dk_27 (dk_at dksX7_elects_1 17 rfl rfl)
theorem dX7_elects_42 : decode cX7_elects 42 = .ok (.invokevirtual 386, 3) := dk_182 1 130 (dk_at dksX7_elects_1 18 rfl rfl)
theorem dX7_elects_45 : decode cX7_elects 45 = .ok (.if_icmp .le 5, 3) := dk_164 0 5 (dk_at dksX7_elects_1 21 rfl rfl)
theorem dX7_elects_48 : decode cX7_elects 48 = .ok (.iload_n 2, 1) := dk_28 (dk_at dksX7_elects_2 0 rfl rfl)
theorem dX7_elects_49 : decode cX7_elects 49 = .ok (.istore_n 1, 1) := dk_60 (dk_at dksX7_elects_2 1 rfl rfl)
theorem dX7_elects_50 : decode cX7_elects 50 = .ok (.iinc 2 1, 3) := dk_132 2 1 (dk_at dksX7_elects_2 2 rfl rfl)
theorem dX7_elects_53 : decode cX7_elects 53 = .ok (.goto (-28), 3) := dk_167 255 228 (dk_at dksX7_elects_2 5 rfl rfl)
theorem dX7_elects_56 : decode cX7_elects 56 = .ok (.aload_n 0, 1) := dk_42 (dk_at dksX7_elects_2 8 rfl rfl)
theorem dX7_elects_57 : decode cX7_elects 57 = .ok (.getfield 7, 3) := dk_180 0 7 (dk_at dksX7_elects_2 9 rfl rfl)
theorem dX7_elects_60 : decode cX7_elects 60 = .ok (.bipush 10, 2) := dk_16 10 (dk_at dksX7_elects_2 12 rfl rfl)
theorem dX7_elects_62 : decode cX7_elects 62 = .ok (.iload_n 1, 1) := dk_27 (dk_at dksX7_elects_2 14 rfl rfl)
theorem dX7_elects_63 : decode cX7_elects 63 = .ok (.iastore, 1) := dk_79 (dk_at dksX7_elects_2 15 rfl rfl)
theorem dX7_elects_64 : decode cX7_elects 64 = .ok (.iconst 1, 1) := dk_4 (dk_at dksX7_elects_2 16 rfl rfl)
theorem dX7_elects_65 : decode cX7_elects 65 = .ok (.ireturn, 1) := dk_172 (dk_at dksX7_elects_2 17 rfl rfl)
abbrev cX7_reads : ByteArray := prog_16_method_124_code
def yX7_reads : MethodName := ⟨RX7, "reads", "(II)I"⟩
def dkwX7_reads_4 : List UInt8 := [27, 96, 122, 4, 126, 21, 4, 120, 128, 62, 132, 4, 1, 167, 255, 216, 42, 29, 182, 0, 85, 172]
abbrev dktX7_reads_4 : List UInt8 := dkwX7_reads_4 ++ []
def dkwX7_reads_3 : List UInt8 := [180, 0, 7, 4, 46, 162, 0, 35, 29, 42, 180, 0, 7, 6, 46, 42, 180, 0, 7, 3, 46, 21, 4, 104]
abbrev dktX7_reads_3 : List UInt8 := dkwX7_reads_3 ++ dktX7_reads_4
def dkwX7_reads_2 : List UInt8 := [42, 180, 0, 7, 6, 46, 27, 182, 1, 48, 182, 0, 85, 172, 3, 62, 3, 54, 4, 21, 4, 42]
abbrev dktX7_reads_2 : List UInt8 := dkwX7_reads_2 ++ dktX7_reads_3
def dkwX7_reads_1 : List UInt8 := [167, 0, 9, 42, 180, 0, 7, 3, 46, 161, 0, 9, 42, 4, 182, 0, 81, 172, 28, 154, 0, 19, 42, 42]
abbrev dktX7_reads_1 : List UInt8 := dkwX7_reads_1 ++ dktX7_reads_2
def dkwX7_reads_0 : List UInt8 := [28, 155, 0, 35, 28, 4, 163, 0, 30, 27, 155, 0, 26, 27, 28, 154, 0, 12, 42, 180, 0, 7, 4, 46]
abbrev dktX7_reads_0 : List UInt8 := dkwX7_reads_0 ++ dktX7_reads_1
theorem dksX7_reads_0 : cX7_reads.data.toList.drop 0 = dktX7_reads_0 := by decide +kernel
theorem dksX7_reads_1 : cX7_reads.data.toList.drop 24 = dktX7_reads_1 := dk_seg dksX7_reads_0 24 rfl rfl
theorem dksX7_reads_2 : cX7_reads.data.toList.drop 48 = dktX7_reads_2 := dk_seg dksX7_reads_1 24 rfl rfl
theorem dksX7_reads_3 : cX7_reads.data.toList.drop 70 = dktX7_reads_3 := dk_seg dksX7_reads_2 22 rfl rfl
theorem dksX7_reads_4 : cX7_reads.data.toList.drop 94 = dktX7_reads_4 := dk_seg dksX7_reads_3 24 rfl rfl
theorem dX7_reads_0 : decode cX7_reads 0 = .ok (.iload_n 2, 1) := dk_28 (dk_at dksX7_reads_0 0 rfl rfl)
theorem dX7_reads_1 : decode cX7_reads 1 = .ok (.ifCond .lt 35, 3) := dk_155 0 35 (dk_at dksX7_reads_0 1 rfl rfl)
theorem dX7_reads_4 : decode cX7_reads 4 = .ok (.iload_n 2, 1) := dk_28 (dk_at dksX7_reads_0 4 rfl rfl)
theorem dX7_reads_5 : decode cX7_reads 5 = .ok (.iconst 1, 1) := dk_4 (dk_at dksX7_reads_0 5 rfl rfl)
theorem dX7_reads_6 : decode cX7_reads 6 = .ok (.if_icmp .gt 30, 3) := dk_163 0 30 (dk_at dksX7_reads_0 6 rfl rfl)
theorem dX7_reads_9 : decode cX7_reads 9 = .ok (.iload_n 1, 1) := dk_27 (dk_at dksX7_reads_0 9 rfl rfl)
theorem dX7_reads_10 : decode cX7_reads 10 = .ok (.ifCond .lt 26, 3) := dk_155 0 26 (dk_at dksX7_reads_0 10 rfl rfl)
theorem dX7_reads_13 : decode cX7_reads 13 = .ok (.iload_n 1, 1) := dk_27 (dk_at dksX7_reads_0 13 rfl rfl)
theorem dX7_reads_14 : decode cX7_reads 14 = .ok (.iload_n 2, 1) := dk_28 (dk_at dksX7_reads_0 14 rfl rfl)
theorem dX7_reads_15 : decode cX7_reads 15 = .ok (.ifCond .ne 12, 3) := dk_154 0 12 (dk_at dksX7_reads_0 15 rfl rfl)
theorem dX7_reads_18 : decode cX7_reads 18 = .ok (.aload_n 0, 1) := dk_42 (dk_at dksX7_reads_0 18 rfl rfl)
theorem dX7_reads_19 : decode cX7_reads 19 = .ok (.getfield 7, 3) := dk_180 0 7 (dk_at dksX7_reads_0 19 rfl rfl)
theorem dX7_reads_22 : decode cX7_reads 22 = .ok (.iconst 1, 1) := dk_4 (dk_at dksX7_reads_0 22 rfl rfl)
theorem dX7_reads_23 : decode cX7_reads 23 = .ok (.iaload, 1) := dk_46 (dk_at dksX7_reads_0 23 rfl rfl)
theorem dX7_reads_24 : decode cX7_reads 24 = .ok (.goto 9, 3) := dk_167 0 9 (dk_at dksX7_reads_1 0 rfl rfl)
theorem dX7_reads_27 : decode cX7_reads 27 = .ok (.aload_n 0, 1) := dk_42 (dk_at dksX7_reads_1 3 rfl rfl)
theorem dX7_reads_28 : decode cX7_reads 28 = .ok (.getfield 7, 3) := dk_180 0 7 (dk_at dksX7_reads_1 4 rfl rfl)
theorem dX7_reads_31 : decode cX7_reads 31 = .ok (.iconst 0, 1) := dk_3 (dk_at dksX7_reads_1 7 rfl rfl)
theorem dX7_reads_32 : decode cX7_reads 32 = .ok (.iaload, 1) := dk_46 (dk_at dksX7_reads_1 8 rfl rfl)
theorem dX7_reads_33 : decode cX7_reads 33 = .ok (.if_icmp .lt 9, 3) := dk_161 0 9 (dk_at dksX7_reads_1 9 rfl rfl)
theorem dX7_reads_36 : decode cX7_reads 36 = .ok (.aload_n 0, 1) := dk_42 (dk_at dksX7_reads_1 12 rfl rfl)
theorem dX7_reads_37 : decode cX7_reads 37 = .ok (.iconst 1, 1) := dk_4 (dk_at dksX7_reads_1 13 rfl rfl)
theorem dX7_reads_38 : decode cX7_reads 38 = .ok (.invokevirtual 81, 3) := dk_182 0 81 (dk_at dksX7_reads_1 14 rfl rfl)
theorem dX7_reads_41 : decode cX7_reads 41 = .ok (.ireturn, 1) := dk_172 (dk_at dksX7_reads_1 17 rfl rfl)
theorem dX7_reads_42 : decode cX7_reads 42 = .ok (.iload_n 2, 1) := dk_28 (dk_at dksX7_reads_1 18 rfl rfl)
theorem dX7_reads_43 : decode cX7_reads 43 = .ok (.ifCond .ne 19, 3) := dk_154 0 19 (dk_at dksX7_reads_1 19 rfl rfl)
theorem dX7_reads_46 : decode cX7_reads 46 = .ok (.aload_n 0, 1) := dk_42 (dk_at dksX7_reads_1 22 rfl rfl)
theorem dX7_reads_47 : decode cX7_reads 47 = .ok (.aload_n 0, 1) := dk_42 (dk_at dksX7_reads_1 23 rfl rfl)
theorem dX7_reads_48 : decode cX7_reads 48 = .ok (.aload_n 0, 1) := dk_42 (dk_at dksX7_reads_2 0 rfl rfl)
theorem dX7_reads_49 : decode cX7_reads 49 = .ok (.getfield 7, 3) := dk_180 0 7 (dk_at dksX7_reads_2 1 rfl rfl)
theorem dX7_reads_52 : decode cX7_reads 52 = .ok (.iconst 3, 1) := dk_6 (dk_at dksX7_reads_2 4 rfl rfl)
theorem dX7_reads_53 : decode cX7_reads 53 = .ok (.iaload, 1) := dk_46 (dk_at dksX7_reads_2 5 rfl rfl)
theorem dX7_reads_54 : decode cX7_reads 54 = .ok (.iload_n 1, 1) := dk_27 (dk_at dksX7_reads_2 6 rfl rfl)
theorem dX7_reads_55 : decode cX7_reads 55 = .ok (.invokevirtual 304, 3) := dk_182 1 48 (dk_at dksX7_reads_2 7 rfl rfl)
theorem dX7_reads_58 : decode cX7_reads 58 = .ok (.invokevirtual 85, 3) := dk_182 0 85 (dk_at dksX7_reads_2 10 rfl rfl)
theorem dX7_reads_61 : decode cX7_reads 61 = .ok (.ireturn, 1) := dk_172 (dk_at dksX7_reads_2 13 rfl rfl)
theorem dX7_reads_62 : decode cX7_reads 62 = .ok (.iconst 0, 1) := dk_3 (dk_at dksX7_reads_2 14 rfl rfl)
theorem dX7_reads_63 : decode cX7_reads 63 = .ok (.istore_n 3, 1) := dk_62 (dk_at dksX7_reads_2 15 rfl rfl)
theorem dX7_reads_64 : decode cX7_reads 64 = .ok (.iconst 0, 1) := dk_3 (dk_at dksX7_reads_2 16 rfl rfl)
theorem dX7_reads_65 : decode cX7_reads 65 = .ok (.istore 4, 2) := dk_54 4 (dk_at dksX7_reads_2 17 rfl rfl)
theorem dX7_reads_67 : decode cX7_reads 67 = .ok (.iload 4, 2) := dk_21 4 (dk_at dksX7_reads_2 19 rfl rfl)
theorem dX7_reads_69 : decode cX7_reads 69 = .ok (.aload_n 0, 1) := dk_42 (dk_at dksX7_reads_2 21 rfl rfl)
theorem dX7_reads_70 : decode cX7_reads 70 = .ok (.getfield 7, 3) := dk_180 0 7 (dk_at dksX7_reads_3 0 rfl rfl)
theorem dX7_reads_73 : decode cX7_reads 73 = .ok (.iconst 1, 1) := dk_4 (dk_at dksX7_reads_3 3 rfl rfl)
theorem dX7_reads_74 : decode cX7_reads 74 = .ok (.iaload, 1) := dk_46 (dk_at dksX7_reads_3 4 rfl rfl)
theorem dX7_reads_75 : decode cX7_reads 75 = .ok (.if_icmp .ge 35, 3) := dk_162 0 35 (dk_at dksX7_reads_3 5 rfl rfl)
theorem dX7_reads_78 : decode cX7_reads 78 = .ok (.iload_n 3, 1) := dk_29 (dk_at dksX7_reads_3 8 rfl rfl)
theorem dX7_reads_79 : decode cX7_reads 79 = .ok (.aload_n 0, 1) := dk_42 (dk_at dksX7_reads_3 9 rfl rfl)
theorem dX7_reads_80 : decode cX7_reads 80 = .ok (.getfield 7, 3) := dk_180 0 7 (dk_at dksX7_reads_3 10 rfl rfl)
theorem dX7_reads_83 : decode cX7_reads 83 = .ok (.iconst 3, 1) := dk_6 (dk_at dksX7_reads_3 13 rfl rfl)
theorem dX7_reads_84 : decode cX7_reads 84 = .ok (.iaload, 1) := dk_46 (dk_at dksX7_reads_3 14 rfl rfl)
theorem dX7_reads_85 : decode cX7_reads 85 = .ok (.aload_n 0, 1) := dk_42 (dk_at dksX7_reads_3 15 rfl rfl)
theorem dX7_reads_86 : decode cX7_reads 86 = .ok (.getfield 7, 3) := dk_180 0 7 (dk_at dksX7_reads_3 16 rfl rfl)
theorem dX7_reads_89 : decode cX7_reads 89 = .ok (.iconst 0, 1) := dk_3 (dk_at dksX7_reads_3 19 rfl rfl)
theorem dX7_reads_90 : decode cX7_reads 90 = .ok (.iaload, 1) := dk_46 (dk_at dksX7_reads_3 20 rfl rfl)
theorem dX7_reads_91 : decode cX7_reads 91 = .ok (.iload 4, 2) := dk_21 4 (dk_at dksX7_reads_3 21 rfl rfl)
theorem dX7_reads_93 : decode cX7_reads 93 = .ok (.imul, 1) := dk_104 (dk_at dksX7_reads_3 23 rfl rfl)
theorem dX7_reads_94 : decode cX7_reads 94 = .ok (.iload_n 1, 1) := dk_27 (dk_at dksX7_reads_4 0 rfl rfl)
theorem dX7_reads_95 : decode cX7_reads 95 = .ok (.iadd, 1) := dk_96 (dk_at dksX7_reads_4 1 rfl rfl)
theorem dX7_reads_96 : decode cX7_reads 96 = .ok (.ishr, 1) := dk_122 (dk_at dksX7_reads_4 2 rfl rfl)
theorem dX7_reads_97 : decode cX7_reads 97 = .ok (.iconst 1, 1) := dk_4 (dk_at dksX7_reads_4 3 rfl rfl)
theorem dX7_reads_98 : decode cX7_reads 98 = .ok (.iand, 1) := dk_126 (dk_at dksX7_reads_4 4 rfl rfl)
theorem dX7_reads_99 : decode cX7_reads 99 = .ok (.iload 4, 2) := dk_21 4 (dk_at dksX7_reads_4 5 rfl rfl)
theorem dX7_reads_101 : decode cX7_reads 101 = .ok (.ishl, 1) := dk_120 (dk_at dksX7_reads_4 7 rfl rfl)
theorem dX7_reads_102 : decode cX7_reads 102 = .ok (.ior, 1) := dk_128 (dk_at dksX7_reads_4 8 rfl rfl)
theorem dX7_reads_103 : decode cX7_reads 103 = .ok (.istore_n 3, 1) := dk_62 (dk_at dksX7_reads_4 9 rfl rfl)
theorem dX7_reads_104 : decode cX7_reads 104 = .ok (.iinc 4 1, 3) := dk_132 4 1 (dk_at dksX7_reads_4 10 rfl rfl)
theorem dX7_reads_107 : decode cX7_reads 107 = .ok (.goto (-40), 3) := dk_167 255 216 (dk_at dksX7_reads_4 13 rfl rfl)
theorem dX7_reads_110 : decode cX7_reads 110 = .ok (.aload_n 0, 1) := dk_42 (dk_at dksX7_reads_4 16 rfl rfl)
theorem dX7_reads_111 : decode cX7_reads 111 = .ok (.iload_n 3, 1) := dk_29 (dk_at dksX7_reads_4 17 rfl rfl)
theorem dX7_reads_112 : decode cX7_reads 112 = .ok (.invokevirtual 85, 3) := dk_182 0 85 (dk_at dksX7_reads_4 18 rfl rfl)
theorem dX7_reads_115 : decode cX7_reads 115 = .ok (.ireturn, 1) := dk_172 (dk_at dksX7_reads_4 21 rfl rfl)
abbrev cX7_mirror : ByteArray := prog_16_method_125_code
def yX7_mirror : MethodName := ⟨RX7, "mirror", "()I"⟩
def dkwX7_mirror_4 : List UInt8 := [167, 0, 4, 3, 182, 0, 85, 172]
abbrev dktX7_mirror_4 : List UInt8 := dkwX7_mirror_4 ++ []
def dkwX7_mirror_3 : List UInt8 := [167, 0, 4, 3, 60, 132, 4, 1, 167, 255, 208, 132, 2, 1, 167, 255, 177, 42, 27, 153, 0, 7, 4]
abbrev dktX7_mirror_3 : List UInt8 := dkwX7_mirror_3 ++ dktX7_mirror_4
def dkwX7_mirror_2 : List UInt8 := [21, 4, 122, 4, 126, 29, 42, 180, 0, 7, 3, 46, 4, 100, 21, 4, 100, 122, 4, 126, 160, 0, 7, 4]
abbrev dktX7_mirror_2 : List UInt8 := dkwX7_mirror_2 ++ dktX7_mirror_3
def dkwX7_mirror_1 : List UInt8 := [182, 1, 48, 62, 3, 54, 4, 21, 4, 42, 180, 0, 7, 3, 46, 162, 0, 43, 27, 153, 0, 31, 29]
abbrev dktX7_mirror_1 : List UInt8 := dkwX7_mirror_1 ++ dktX7_mirror_2
def dkwX7_mirror_0 : List UInt8 := [4, 60, 3, 61, 28, 42, 180, 0, 7, 4, 46, 162, 0, 75, 42, 42, 180, 0, 7, 6, 46, 28]
abbrev dktX7_mirror_0 : List UInt8 := dkwX7_mirror_0 ++ dktX7_mirror_1
theorem dksX7_mirror_0 : cX7_mirror.data.toList.drop 0 = dktX7_mirror_0 := by decide +kernel
theorem dksX7_mirror_1 : cX7_mirror.data.toList.drop 22 = dktX7_mirror_1 := dk_seg dksX7_mirror_0 22 rfl rfl
theorem dksX7_mirror_2 : cX7_mirror.data.toList.drop 45 = dktX7_mirror_2 := dk_seg dksX7_mirror_1 23 rfl rfl
theorem dksX7_mirror_3 : cX7_mirror.data.toList.drop 69 = dktX7_mirror_3 := dk_seg dksX7_mirror_2 24 rfl rfl
theorem dksX7_mirror_4 : cX7_mirror.data.toList.drop 92 = dktX7_mirror_4 := dk_seg dksX7_mirror_3 23 rfl rfl
theorem dX7_mirror_0 : decode cX7_mirror 0 = .ok (.iconst 1, 1) := dk_4 (dk_at dksX7_mirror_0 0 rfl rfl)
theorem dX7_mirror_1 : decode cX7_mirror 1 = .ok (.istore_n 1, 1) := dk_60 (dk_at dksX7_mirror_0 1 rfl rfl)
theorem dX7_mirror_2 : decode cX7_mirror 2 = .ok (.iconst 0, 1) := dk_3 (dk_at dksX7_mirror_0 2 rfl rfl)
theorem dX7_mirror_3 : decode cX7_mirror 3 = .ok (.istore_n 2, 1) := dk_61 (dk_at dksX7_mirror_0 3 rfl rfl)
theorem dX7_mirror_4 : decode cX7_mirror 4 = .ok (.iload_n 2, 1) := dk_28 (dk_at dksX7_mirror_0 4 rfl rfl)
theorem dX7_mirror_5 : decode cX7_mirror 5 = .ok (.aload_n 0, 1) := dk_42 (dk_at dksX7_mirror_0 5 rfl rfl)
theorem dX7_mirror_6 : decode cX7_mirror 6 = .ok (.getfield 7, 3) := dk_180 0 7 (dk_at dksX7_mirror_0 6 rfl rfl)
theorem dX7_mirror_9 : decode cX7_mirror 9 = .ok (.iconst 1, 1) := dk_4 (dk_at dksX7_mirror_0 9 rfl rfl)
theorem dX7_mirror_10 : decode cX7_mirror 10 = .ok (.iaload, 1) := dk_46 (dk_at dksX7_mirror_0 10 rfl rfl)
theorem dX7_mirror_11 : decode cX7_mirror 11 = .ok (.if_icmp .ge 75, 3) := dk_162 0 75 (dk_at dksX7_mirror_0 11 rfl rfl)
theorem dX7_mirror_14 : decode cX7_mirror 14 = .ok (.aload_n 0, 1) := dk_42 (dk_at dksX7_mirror_0 14 rfl rfl)
theorem dX7_mirror_15 : decode cX7_mirror 15 = .ok (.aload_n 0, 1) := dk_42 (dk_at dksX7_mirror_0 15 rfl rfl)
theorem dX7_mirror_16 : decode cX7_mirror 16 = .ok (.getfield 7, 3) := dk_180 0 7 (dk_at dksX7_mirror_0 16 rfl rfl)
theorem dX7_mirror_19 : decode cX7_mirror 19 = .ok (.iconst 3, 1) := dk_6 (dk_at dksX7_mirror_0 19 rfl rfl)
theorem dX7_mirror_20 : decode cX7_mirror 20 = .ok (.iaload, 1) := dk_46 (dk_at dksX7_mirror_0 20 rfl rfl)
theorem dX7_mirror_21 : decode cX7_mirror 21 = .ok (.iload_n 2, 1) := dk_28 (dk_at dksX7_mirror_0 21 rfl rfl)
theorem dX7_mirror_22 : decode cX7_mirror 22 = .ok (.invokevirtual 304, 3) := dk_182 1 48 (dk_at dksX7_mirror_1 0 rfl rfl)
theorem dX7_mirror_25 : decode cX7_mirror 25 = .ok (.istore_n 3, 1) := dk_62 (dk_at dksX7_mirror_1 3 rfl rfl)
theorem dX7_mirror_26 : decode cX7_mirror 26 = .ok (.iconst 0, 1) := dk_3 (dk_at dksX7_mirror_1 4 rfl rfl)
theorem dX7_mirror_27 : decode cX7_mirror 27 = .ok (.istore 4, 2) := dk_54 4 (dk_at dksX7_mirror_1 5 rfl rfl)
theorem dX7_mirror_29 : decode cX7_mirror 29 = .ok (.iload 4, 2) := dk_21 4 (dk_at dksX7_mirror_1 7 rfl rfl)
theorem dX7_mirror_31 : decode cX7_mirror 31 = .ok (.aload_n 0, 1) := dk_42 (dk_at dksX7_mirror_1 9 rfl rfl)
theorem dX7_mirror_32 : decode cX7_mirror 32 = .ok (.getfield 7, 3) := dk_180 0 7 (dk_at dksX7_mirror_1 10 rfl rfl)
theorem dX7_mirror_35 : decode cX7_mirror 35 = .ok (.iconst 0, 1) := dk_3 (dk_at dksX7_mirror_1 13 rfl rfl)
theorem dX7_mirror_36 : decode cX7_mirror 36 = .ok (.iaload, 1) := dk_46 (dk_at dksX7_mirror_1 14 rfl rfl)
theorem dX7_mirror_37 : decode cX7_mirror 37 = .ok (.if_icmp .ge 43, 3) := dk_162 0 43 (dk_at dksX7_mirror_1 15 rfl rfl)
theorem dX7_mirror_40 : decode cX7_mirror 40 = .ok (.iload_n 1, 1) := dk_27 (dk_at dksX7_mirror_1 18 rfl rfl)
theorem dX7_mirror_41 : decode cX7_mirror 41 = .ok (.ifCond .eq 31, 3) := dk_153 0 31 (dk_at dksX7_mirror_1 19 rfl rfl)
theorem dX7_mirror_44 : decode cX7_mirror 44 = .ok (.iload_n 3, 1) := dk_29 (dk_at dksX7_mirror_1 22 rfl rfl)
theorem dX7_mirror_45 : decode cX7_mirror 45 = .ok (.iload 4, 2) := dk_21 4 (dk_at dksX7_mirror_2 0 rfl rfl)
theorem dX7_mirror_47 : decode cX7_mirror 47 = .ok (.ishr, 1) := dk_122 (dk_at dksX7_mirror_2 2 rfl rfl)
theorem dX7_mirror_48 : decode cX7_mirror 48 = .ok (.iconst 1, 1) := dk_4 (dk_at dksX7_mirror_2 3 rfl rfl)
theorem dX7_mirror_49 : decode cX7_mirror 49 = .ok (.iand, 1) := dk_126 (dk_at dksX7_mirror_2 4 rfl rfl)
theorem dX7_mirror_50 : decode cX7_mirror 50 = .ok (.iload_n 3, 1) := dk_29 (dk_at dksX7_mirror_2 5 rfl rfl)
theorem dX7_mirror_51 : decode cX7_mirror 51 = .ok (.aload_n 0, 1) := dk_42 (dk_at dksX7_mirror_2 6 rfl rfl)
theorem dX7_mirror_52 : decode cX7_mirror 52 = .ok (.getfield 7, 3) := dk_180 0 7 (dk_at dksX7_mirror_2 7 rfl rfl)
theorem dX7_mirror_55 : decode cX7_mirror 55 = .ok (.iconst 0, 1) := dk_3 (dk_at dksX7_mirror_2 10 rfl rfl)
theorem dX7_mirror_56 : decode cX7_mirror 56 = .ok (.iaload, 1) := dk_46 (dk_at dksX7_mirror_2 11 rfl rfl)
theorem dX7_mirror_57 : decode cX7_mirror 57 = .ok (.iconst 1, 1) := dk_4 (dk_at dksX7_mirror_2 12 rfl rfl)
theorem dX7_mirror_58 : decode cX7_mirror 58 = .ok (.isub, 1) := dk_100 (dk_at dksX7_mirror_2 13 rfl rfl)
theorem dX7_mirror_59 : decode cX7_mirror 59 = .ok (.iload 4, 2) := dk_21 4 (dk_at dksX7_mirror_2 14 rfl rfl)
theorem dX7_mirror_61 : decode cX7_mirror 61 = .ok (.isub, 1) := dk_100 (dk_at dksX7_mirror_2 16 rfl rfl)
theorem dX7_mirror_62 : decode cX7_mirror 62 = .ok (.ishr, 1) := dk_122 (dk_at dksX7_mirror_2 17 rfl rfl)
theorem dX7_mirror_63 : decode cX7_mirror 63 = .ok (.iconst 1, 1) := dk_4 (dk_at dksX7_mirror_2 18 rfl rfl)
theorem dX7_mirror_64 : decode cX7_mirror 64 = .ok (.iand, 1) := dk_126 (dk_at dksX7_mirror_2 19 rfl rfl)
theorem dX7_mirror_65 : decode cX7_mirror 65 = .ok (.if_icmp .ne 7, 3) := dk_160 0 7 (dk_at dksX7_mirror_2 20 rfl rfl)
theorem dX7_mirror_68 : decode cX7_mirror 68 = .ok (.iconst 1, 1) := dk_4 (dk_at dksX7_mirror_2 23 rfl rfl)
theorem dX7_mirror_69 : decode cX7_mirror 69 = .ok (.goto 4, 3) := dk_167 0 4 (dk_at dksX7_mirror_3 0 rfl rfl)
theorem dX7_mirror_72 : decode cX7_mirror 72 = .ok (.iconst 0, 1) := dk_3 (dk_at dksX7_mirror_3 3 rfl rfl)
theorem dX7_mirror_73 : decode cX7_mirror 73 = .ok (.istore_n 1, 1) := dk_60 (dk_at dksX7_mirror_3 4 rfl rfl)
theorem dX7_mirror_74 : decode cX7_mirror 74 = .ok (.iinc 4 1, 3) := dk_132 4 1 (dk_at dksX7_mirror_3 5 rfl rfl)
theorem dX7_mirror_77 : decode cX7_mirror 77 = .ok (.goto (-48), 3) := dk_167 255 208 (dk_at dksX7_mirror_3 8 rfl rfl)
theorem dX7_mirror_80 : decode cX7_mirror 80 = .ok (.iinc 2 1, 3) := dk_132 2 1 (dk_at dksX7_mirror_3 11 rfl rfl)
theorem dX7_mirror_83 : decode cX7_mirror 83 = .ok (.goto (-79), 3) := dk_167 255 177 (dk_at dksX7_mirror_3 14 rfl rfl)
theorem dX7_mirror_86 : decode cX7_mirror 86 = .ok (.aload_n 0, 1) := dk_42 (dk_at dksX7_mirror_3 17 rfl rfl)
theorem dX7_mirror_87 : decode cX7_mirror 87 = .ok (.iload_n 1, 1) := dk_27 (dk_at dksX7_mirror_3 18 rfl rfl)
theorem dX7_mirror_88 : decode cX7_mirror 88 = .ok (.ifCond .eq 7, 3) := dk_153 0 7 (dk_at dksX7_mirror_3 19 rfl rfl)
theorem dX7_mirror_91 : decode cX7_mirror 91 = .ok (.iconst 1, 1) := dk_4 (dk_at dksX7_mirror_3 22 rfl rfl)
theorem dX7_mirror_92 : decode cX7_mirror 92 = .ok (.goto 4, 3) := dk_167 0 4 (dk_at dksX7_mirror_4 0 rfl rfl)
theorem dX7_mirror_95 : decode cX7_mirror 95 = .ok (.iconst 0, 1) := dk_3 (dk_at dksX7_mirror_4 3 rfl rfl)
theorem dX7_mirror_96 : decode cX7_mirror 96 = .ok (.invokevirtual 85, 3) := dk_182 0 85 (dk_at dksX7_mirror_4 4 rfl rfl)
theorem dX7_mirror_99 : decode cX7_mirror 99 = .ok (.ireturn, 1) := dk_172 (dk_at dksX7_mirror_4 7 rfl rfl)
abbrev cX7_heaps : ByteArray := prog_16_method_127_code
def yX7_heaps : MethodName := ⟨RX7, "heaps", "(I)I"⟩
def dkwX7_heaps_4 : List UInt8 := [167, 0, 4, 29, 182, 0, 85, 172]
abbrev dktX7_heaps_4 : List UInt8 := dkwX7_heaps_4 ++ []
def dkwX7_heaps_3 : List UInt8 := [154, 0, 7, 4, 167, 0, 4, 3, 96, 61, 132, 4, 1, 167, 255, 201, 42, 27, 154, 0, 7, 28]
abbrev dktX7_heaps_3 : List UInt8 := dkwX7_heaps_3 ++ dktX7_heaps_4
def dkwX7_heaps_2 : List UInt8 := [184, 0, 226, 184, 1, 79, 62, 28, 21, 5, 153, 0, 19, 21, 5, 4, 21, 4, 120, 4, 100, 126]
abbrev dktX7_heaps_2 : List UInt8 := dkwX7_heaps_2 ++ dktX7_heaps_3
def dkwX7_heaps_1 : List UInt8 := [54, 4, 21, 4, 42, 182, 1, 6, 162, 0, 52, 42, 21, 4, 182, 1, 136, 54, 5, 29, 21, 5]
abbrev dktX7_heaps_1 : List UInt8 := dkwX7_heaps_1 ++ dktX7_heaps_2
def dkwX7_heaps_0 : List UInt8 := [27, 155, 0, 8, 27, 4, 164, 0, 9, 42, 4, 182, 0, 81, 172, 42, 182, 1, 15, 3, 61, 3, 62, 3]
abbrev dktX7_heaps_0 : List UInt8 := dkwX7_heaps_0 ++ dktX7_heaps_1
theorem dksX7_heaps_0 : cX7_heaps.data.toList.drop 0 = dktX7_heaps_0 := by decide +kernel
theorem dksX7_heaps_1 : cX7_heaps.data.toList.drop 24 = dktX7_heaps_1 := dk_seg dksX7_heaps_0 24 rfl rfl
theorem dksX7_heaps_2 : cX7_heaps.data.toList.drop 46 = dktX7_heaps_2 := dk_seg dksX7_heaps_1 22 rfl rfl
theorem dksX7_heaps_3 : cX7_heaps.data.toList.drop 68 = dktX7_heaps_3 := dk_seg dksX7_heaps_2 22 rfl rfl
theorem dksX7_heaps_4 : cX7_heaps.data.toList.drop 90 = dktX7_heaps_4 := dk_seg dksX7_heaps_3 22 rfl rfl
theorem dX7_heaps_0 : decode cX7_heaps 0 = .ok (.iload_n 1, 1) := dk_27 (dk_at dksX7_heaps_0 0 rfl rfl)
theorem dX7_heaps_1 : decode cX7_heaps 1 = .ok (.ifCond .lt 8, 3) := dk_155 0 8 (dk_at dksX7_heaps_0 1 rfl rfl)
theorem dX7_heaps_4 : decode cX7_heaps 4 = .ok (.iload_n 1, 1) := dk_27 (dk_at dksX7_heaps_0 4 rfl rfl)
theorem dX7_heaps_5 : decode cX7_heaps 5 = .ok (.iconst 1, 1) := dk_4 (dk_at dksX7_heaps_0 5 rfl rfl)
theorem dX7_heaps_6 : decode cX7_heaps 6 = .ok (.if_icmp .le 9, 3) := dk_164 0 9 (dk_at dksX7_heaps_0 6 rfl rfl)
theorem dX7_heaps_9 : decode cX7_heaps 9 = .ok (.aload_n 0, 1) := dk_42 (dk_at dksX7_heaps_0 9 rfl rfl)
theorem dX7_heaps_10 : decode cX7_heaps 10 = .ok (.iconst 1, 1) := dk_4 (dk_at dksX7_heaps_0 10 rfl rfl)
theorem dX7_heaps_11 : decode cX7_heaps 11 = .ok (.invokevirtual 81, 3) := dk_182 0 81 (dk_at dksX7_heaps_0 11 rfl rfl)
theorem dX7_heaps_14 : decode cX7_heaps 14 = .ok (.ireturn, 1) := dk_172 (dk_at dksX7_heaps_0 14 rfl rfl)
theorem dX7_heaps_15 : decode cX7_heaps 15 = .ok (.aload_n 0, 1) := dk_42 (dk_at dksX7_heaps_0 15 rfl rfl)
theorem dX7_heaps_16 : decode cX7_heaps 16 = .ok (.invokevirtual 271, 3) := dk_182 1 15 (dk_at dksX7_heaps_0 16 rfl rfl)
theorem dX7_heaps_19 : decode cX7_heaps 19 = .ok (.iconst 0, 1) := dk_3 (dk_at dksX7_heaps_0 19 rfl rfl)
theorem dX7_heaps_20 : decode cX7_heaps 20 = .ok (.istore_n 2, 1) := dk_61 (dk_at dksX7_heaps_0 20 rfl rfl)
theorem dX7_heaps_21 : decode cX7_heaps 21 = .ok (.iconst 0, 1) := dk_3 (dk_at dksX7_heaps_0 21 rfl rfl)
theorem dX7_heaps_22 : decode cX7_heaps 22 = .ok (.istore_n 3, 1) := dk_62 (dk_at dksX7_heaps_0 22 rfl rfl)
theorem dX7_heaps_23 : decode cX7_heaps 23 = .ok (.iconst 0, 1) := dk_3 (dk_at dksX7_heaps_0 23 rfl rfl)
theorem dX7_heaps_24 : decode cX7_heaps 24 = .ok (.istore 4, 2) := dk_54 4 (dk_at dksX7_heaps_1 0 rfl rfl)
theorem dX7_heaps_26 : decode cX7_heaps 26 = .ok (.iload 4, 2) := dk_21 4 (dk_at dksX7_heaps_1 2 rfl rfl)
theorem dX7_heaps_28 : decode cX7_heaps 28 = .ok (.aload_n 0, 1) := dk_42 (dk_at dksX7_heaps_1 4 rfl rfl)
theorem dX7_heaps_29 : decode cX7_heaps 29 = .ok (.invokevirtual 262, 3) := dk_182 1 6 (dk_at dksX7_heaps_1 5 rfl rfl)
theorem dX7_heaps_32 : decode cX7_heaps 32 = .ok (.if_icmp .ge 52, 3) := dk_162 0 52 (dk_at dksX7_heaps_1 8 rfl rfl)
theorem dX7_heaps_35 : decode cX7_heaps 35 = .ok (.aload_n 0, 1) := dk_42 (dk_at dksX7_heaps_1 11 rfl rfl)
theorem dX7_heaps_36 : decode cX7_heaps 36 = .ok (.iload 4, 2) := dk_21 4 (dk_at dksX7_heaps_1 12 rfl rfl)
theorem dX7_heaps_38 : decode cX7_heaps 38 = .ok (.invokevirtual 392, 3) := dk_182 1 136 (dk_at dksX7_heaps_1 14 rfl rfl)
theorem dX7_heaps_41 : decode cX7_heaps 41 = .ok (.istore 5, 2) := dk_54 5 (dk_at dksX7_heaps_1 17 rfl rfl)
theorem dX7_heaps_43 : decode cX7_heaps 43 = .ok (.iload_n 3, 1) := dk_29 (dk_at dksX7_heaps_1 19 rfl rfl)
theorem dX7_heaps_44 : decode cX7_heaps 44 = .ok (.iload 5, 2) := dk_21 5 (dk_at dksX7_heaps_1 20 rfl rfl)
theorem dX7_heaps_46 : decode cX7_heaps 46 = .ok (.invokestatic 226, 3) := dk_184 0 226 (dk_at dksX7_heaps_2 0 rfl rfl)
theorem dX7_heaps_49 : decode cX7_heaps 49 = .ok (.invokestatic 335, 3) := dk_184 1 79 (dk_at dksX7_heaps_2 3 rfl rfl)
theorem dX7_heaps_52 : decode cX7_heaps 52 = .ok (.istore_n 3, 1) := dk_62 (dk_at dksX7_heaps_2 6 rfl rfl)
theorem dX7_heaps_53 : decode cX7_heaps 53 = .ok (.iload_n 2, 1) := dk_28 (dk_at dksX7_heaps_2 7 rfl rfl)
theorem dX7_heaps_54 : decode cX7_heaps 54 = .ok (.iload 5, 2) := dk_21 5 (dk_at dksX7_heaps_2 8 rfl rfl)
theorem dX7_heaps_56 : decode cX7_heaps 56 = .ok (.ifCond .eq 19, 3) := dk_153 0 19 (dk_at dksX7_heaps_2 10 rfl rfl)
theorem dX7_heaps_59 : decode cX7_heaps 59 = .ok (.iload 5, 2) := dk_21 5 (dk_at dksX7_heaps_2 13 rfl rfl)
theorem dX7_heaps_61 : decode cX7_heaps 61 = .ok (.iconst 1, 1) := dk_4 (dk_at dksX7_heaps_2 15 rfl rfl)
theorem dX7_heaps_62 : decode cX7_heaps 62 = .ok (.iload 4, 2) := dk_21 4 (dk_at dksX7_heaps_2 16 rfl rfl)
theorem dX7_heaps_64 : decode cX7_heaps 64 = .ok (.ishl, 1) := dk_120 (dk_at dksX7_heaps_2 18 rfl rfl)
theorem dX7_heaps_65 : decode cX7_heaps 65 = .ok (.iconst 1, 1) := dk_4 (dk_at dksX7_heaps_2 19 rfl rfl)
theorem dX7_heaps_66 : decode cX7_heaps 66 = .ok (.isub, 1) := dk_100 (dk_at dksX7_heaps_2 20 rfl rfl)
theorem dX7_heaps_67 : decode cX7_heaps 67 = .ok (.iand, 1) := dk_126 (dk_at dksX7_heaps_2 21 rfl rfl)
theorem dX7_heaps_68 : decode cX7_heaps 68 = .ok (.ifCond .ne 7, 3) := dk_154 0 7 (dk_at dksX7_heaps_3 0 rfl rfl)
theorem dX7_heaps_71 : decode cX7_heaps 71 = .ok (.iconst 1, 1) := dk_4 (dk_at dksX7_heaps_3 3 rfl rfl)
theorem dX7_heaps_72 : decode cX7_heaps 72 = .ok (.goto 4, 3) := dk_167 0 4 (dk_at dksX7_heaps_3 4 rfl rfl)
theorem dX7_heaps_75 : decode cX7_heaps 75 = .ok (.iconst 0, 1) := dk_3 (dk_at dksX7_heaps_3 7 rfl rfl)
theorem dX7_heaps_76 : decode cX7_heaps 76 = .ok (.iadd, 1) := dk_96 (dk_at dksX7_heaps_3 8 rfl rfl)
theorem dX7_heaps_77 : decode cX7_heaps 77 = .ok (.istore_n 2, 1) := dk_61 (dk_at dksX7_heaps_3 9 rfl rfl)
theorem dX7_heaps_78 : decode cX7_heaps 78 = .ok (.iinc 4 1, 3) := dk_132 4 1 (dk_at dksX7_heaps_3 10 rfl rfl)
theorem dX7_heaps_81 : decode cX7_heaps 81 = .ok (.goto (-55), 3) := dk_167 255 201 (dk_at dksX7_heaps_3 13 rfl rfl)
theorem dX7_heaps_84 : decode cX7_heaps 84 = .ok (.aload_n 0, 1) := dk_42 (dk_at dksX7_heaps_3 16 rfl rfl)
theorem dX7_heaps_85 : decode cX7_heaps 85 = .ok (.iload_n 1, 1) := dk_27 (dk_at dksX7_heaps_3 17 rfl rfl)
theorem dX7_heaps_86 : decode cX7_heaps 86 = .ok (.ifCond .ne 7, 3) := dk_154 0 7 (dk_at dksX7_heaps_3 18 rfl rfl)
theorem dX7_heaps_89 : decode cX7_heaps 89 = .ok (.iload_n 2, 1) := dk_28 (dk_at dksX7_heaps_3 21 rfl rfl)
theorem dX7_heaps_90 : decode cX7_heaps 90 = .ok (.goto 4, 3) := dk_167 0 4 (dk_at dksX7_heaps_4 0 rfl rfl)
theorem dX7_heaps_93 : decode cX7_heaps 93 = .ok (.iload_n 3, 1) := dk_29 (dk_at dksX7_heaps_4 3 rfl rfl)
theorem dX7_heaps_94 : decode cX7_heaps 94 = .ok (.invokevirtual 85, 3) := dk_182 0 85 (dk_at dksX7_heaps_4 4 rfl rfl)
theorem dX7_heaps_97 : decode cX7_heaps 97 = .ok (.ireturn, 1) := dk_172 (dk_at dksX7_heaps_4 7 rfl rfl)
abbrev cX7_heapOf : ByteArray := prog_16_method_126_code
def yX7_heapOf : MethodName := ⟨RX7, "heapOf", "(I)I"⟩
def dkwX7_heapOf_2 : List UInt8 := [21, 4, 46, 42, 180, 0, 7, 6, 46, 126, 128, 61, 132, 4, 1, 167, 255, 217, 167, 255, 204, 28, 172]
abbrev dktX7_heapOf_2 : List UInt8 := dkwX7_heapOf_2 ++ []
def dkwX7_heapOf_1 : List UInt8 := [21, 4, 42, 182, 1, 6, 162, 0, 36, 28, 21, 4, 122, 4, 126, 4, 160, 0, 20, 28, 42, 180, 0, 47]
abbrev dktX7_heapOf_1 : List UInt8 := dkwX7_heapOf_1 ++ dktX7_heapOf_2
def dkwX7_heapOf_0 : List UInt8 := [42, 180, 0, 7, 6, 46, 4, 27, 120, 126, 61, 3, 62, 28, 29, 159, 0, 53, 28, 62, 3, 54, 4]
abbrev dktX7_heapOf_0 : List UInt8 := dkwX7_heapOf_0 ++ dktX7_heapOf_1
theorem dksX7_heapOf_0 : cX7_heapOf.data.toList.drop 0 = dktX7_heapOf_0 := by decide +kernel
theorem dksX7_heapOf_1 : cX7_heapOf.data.toList.drop 23 = dktX7_heapOf_1 := dk_seg dksX7_heapOf_0 23 rfl rfl
theorem dksX7_heapOf_2 : cX7_heapOf.data.toList.drop 47 = dktX7_heapOf_2 := dk_seg dksX7_heapOf_1 24 rfl rfl
theorem dX7_heapOf_0 : decode cX7_heapOf 0 = .ok (.aload_n 0, 1) := dk_42 (dk_at dksX7_heapOf_0 0 rfl rfl)
theorem dX7_heapOf_1 : decode cX7_heapOf 1 = .ok (.getfield 7, 3) := dk_180 0 7 (dk_at dksX7_heapOf_0 1 rfl rfl)
theorem dX7_heapOf_4 : decode cX7_heapOf 4 = .ok (.iconst 3, 1) := dk_6 (dk_at dksX7_heapOf_0 4 rfl rfl)
theorem dX7_heapOf_5 : decode cX7_heapOf 5 = .ok (.iaload, 1) := dk_46 (dk_at dksX7_heapOf_0 5 rfl rfl)
theorem dX7_heapOf_6 : decode cX7_heapOf 6 = .ok (.iconst 1, 1) := dk_4 (dk_at dksX7_heapOf_0 6 rfl rfl)
theorem dX7_heapOf_7 : decode cX7_heapOf 7 = .ok (.iload_n 1, 1) := dk_27 (dk_at dksX7_heapOf_0 7 rfl rfl)
theorem dX7_heapOf_8 : decode cX7_heapOf 8 = .ok (.ishl, 1) := dk_120 (dk_at dksX7_heapOf_0 8 rfl rfl)
theorem dX7_heapOf_9 : decode cX7_heapOf 9 = .ok (.iand, 1) := dk_126 (dk_at dksX7_heapOf_0 9 rfl rfl)
theorem dX7_heapOf_10 : decode cX7_heapOf 10 = .ok (.istore_n 2, 1) := dk_61 (dk_at dksX7_heapOf_0 10 rfl rfl)
theorem dX7_heapOf_11 : decode cX7_heapOf 11 = .ok (.iconst 0, 1) := dk_3 (dk_at dksX7_heapOf_0 11 rfl rfl)
theorem dX7_heapOf_12 : decode cX7_heapOf 12 = .ok (.istore_n 3, 1) := dk_62 (dk_at dksX7_heapOf_0 12 rfl rfl)
theorem dX7_heapOf_13 : decode cX7_heapOf 13 = .ok (.iload_n 2, 1) := dk_28 (dk_at dksX7_heapOf_0 13 rfl rfl)
theorem dX7_heapOf_14 : decode cX7_heapOf 14 = .ok (.iload_n 3, 1) := dk_29 (dk_at dksX7_heapOf_0 14 rfl rfl)
theorem dX7_heapOf_15 : decode cX7_heapOf 15 = .ok (.if_icmp .eq 53, 3) := dk_159 0 53 (dk_at dksX7_heapOf_0 15 rfl rfl)
theorem dX7_heapOf_18 : decode cX7_heapOf 18 = .ok (.iload_n 2, 1) := dk_28 (dk_at dksX7_heapOf_0 18 rfl rfl)
theorem dX7_heapOf_19 : decode cX7_heapOf 19 = .ok (.istore_n 3, 1) := dk_62 (dk_at dksX7_heapOf_0 19 rfl rfl)
theorem dX7_heapOf_20 : decode cX7_heapOf 20 = .ok (.iconst 0, 1) := dk_3 (dk_at dksX7_heapOf_0 20 rfl rfl)
theorem dX7_heapOf_21 : decode cX7_heapOf 21 = .ok (.istore 4, 2) := dk_54 4 (dk_at dksX7_heapOf_0 21 rfl rfl)
theorem dX7_heapOf_23 : decode cX7_heapOf 23 = .ok (.iload 4, 2) := dk_21 4 (dk_at dksX7_heapOf_1 0 rfl rfl)
theorem dX7_heapOf_25 : decode cX7_heapOf 25 = .ok (.aload_n 0, 1) := dk_42 (dk_at dksX7_heapOf_1 2 rfl rfl)
theorem dX7_heapOf_26 : decode cX7_heapOf 26 = .ok (.invokevirtual 262, 3) := dk_182 1 6 (dk_at dksX7_heapOf_1 3 rfl rfl)
theorem dX7_heapOf_29 : decode cX7_heapOf 29 = .ok (.if_icmp .ge 36, 3) := dk_162 0 36 (dk_at dksX7_heapOf_1 6 rfl rfl)
theorem dX7_heapOf_32 : decode cX7_heapOf 32 = .ok (.iload_n 2, 1) := dk_28 (dk_at dksX7_heapOf_1 9 rfl rfl)
theorem dX7_heapOf_33 : decode cX7_heapOf 33 = .ok (.iload 4, 2) := dk_21 4 (dk_at dksX7_heapOf_1 10 rfl rfl)
theorem dX7_heapOf_35 : decode cX7_heapOf 35 = .ok (.ishr, 1) := dk_122 (dk_at dksX7_heapOf_1 12 rfl rfl)
theorem dX7_heapOf_36 : decode cX7_heapOf 36 = .ok (.iconst 1, 1) := dk_4 (dk_at dksX7_heapOf_1 13 rfl rfl)
theorem dX7_heapOf_37 : decode cX7_heapOf 37 = .ok (.iand, 1) := dk_126 (dk_at dksX7_heapOf_1 14 rfl rfl)
theorem dX7_heapOf_38 : decode cX7_heapOf 38 = .ok (.iconst 1, 1) := dk_4 (dk_at dksX7_heapOf_1 15 rfl rfl)
theorem dX7_heapOf_39 : decode cX7_heapOf 39 = .ok (.if_icmp .ne 20, 3) := dk_160 0 20 (dk_at dksX7_heapOf_1 16 rfl rfl)
theorem dX7_heapOf_42 : decode cX7_heapOf 42 = .ok (.iload_n 2, 1) := dk_28 (dk_at dksX7_heapOf_1 19 rfl rfl)
theorem dX7_heapOf_43 : decode cX7_heapOf 43 = .ok (.aload_n 0, 1) := dk_42 (dk_at dksX7_heapOf_1 20 rfl rfl)
theorem dX7_heapOf_44 : decode cX7_heapOf 44 = .ok (.getfield 47, 3) := dk_180 0 47 (dk_at dksX7_heapOf_1 21 rfl rfl)
theorem dX7_heapOf_47 : decode cX7_heapOf 47 = .ok (.iload 4, 2) := dk_21 4 (dk_at dksX7_heapOf_2 0 rfl rfl)
theorem dX7_heapOf_49 : decode cX7_heapOf 49 = .ok (.iaload, 1) := dk_46 (dk_at dksX7_heapOf_2 2 rfl rfl)
theorem dX7_heapOf_50 : decode cX7_heapOf 50 = .ok (.aload_n 0, 1) := dk_42 (dk_at dksX7_heapOf_2 3 rfl rfl)
theorem dX7_heapOf_51 : decode cX7_heapOf 51 = .ok (.getfield 7, 3) := dk_180 0 7 (dk_at dksX7_heapOf_2 4 rfl rfl)
theorem dX7_heapOf_54 : decode cX7_heapOf 54 = .ok (.iconst 3, 1) := dk_6 (dk_at dksX7_heapOf_2 7 rfl rfl)
theorem dX7_heapOf_55 : decode cX7_heapOf 55 = .ok (.iaload, 1) := dk_46 (dk_at dksX7_heapOf_2 8 rfl rfl)
theorem dX7_heapOf_56 : decode cX7_heapOf 56 = .ok (.iand, 1) := dk_126 (dk_at dksX7_heapOf_2 9 rfl rfl)
theorem dX7_heapOf_57 : decode cX7_heapOf 57 = .ok (.ior, 1) := dk_128 (dk_at dksX7_heapOf_2 10 rfl rfl)
theorem dX7_heapOf_58 : decode cX7_heapOf 58 = .ok (.istore_n 2, 1) := dk_61 (dk_at dksX7_heapOf_2 11 rfl rfl)
theorem dX7_heapOf_59 : decode cX7_heapOf 59 = .ok (.iinc 4 1, 3) := dk_132 4 1 (dk_at dksX7_heapOf_2 12 rfl rfl)
theorem dX7_heapOf_62 : decode cX7_heapOf 62 = .ok (.goto (-39), 3) := dk_167 255 217 (dk_at dksX7_heapOf_2 15 rfl rfl)
theorem dX7_heapOf_65 : decode cX7_heapOf 65 = .ok (.goto (-52), 3) := dk_167 255 204 (dk_at dksX7_heapOf_2 18 rfl rfl)
theorem dX7_heapOf_68 : decode cX7_heapOf 68 = .ok (.iload_n 2, 1) := dk_28 (dk_at dksX7_heapOf_2 21 rfl rfl)
theorem dX7_heapOf_69 : decode cX7_heapOf 69 = .ok (.ireturn, 1) := dk_172 (dk_at dksX7_heapOf_2 22 rfl rfl)
abbrev cX7_heap : ByteArray := prog_16_method_128_code
def yX7_heap : MethodName := ⟨RX7, "heap", "(II)I"⟩
def dkwX7_heap_1 : List UInt8 := [180, 0, 7, 3, 46, 28, 104, 27, 96, 182, 1, 136, 184, 0, 226, 182, 0, 85, 172]
abbrev dktX7_heap_1 : List UInt8 := dkwX7_heap_1 ++ []
def dkwX7_heap_0 : List UInt8 := [42, 27, 28, 182, 1, 3, 62, 29, 158, 0, 9, 42, 29, 182, 0, 81, 172, 42, 182, 1, 15, 42, 42, 42]
abbrev dktX7_heap_0 : List UInt8 := dkwX7_heap_0 ++ dktX7_heap_1
theorem dksX7_heap_0 : cX7_heap.data.toList.drop 0 = dktX7_heap_0 := by decide +kernel
theorem dksX7_heap_1 : cX7_heap.data.toList.drop 24 = dktX7_heap_1 := dk_seg dksX7_heap_0 24 rfl rfl
theorem dX7_heap_0 : decode cX7_heap 0 = .ok (.aload_n 0, 1) := dk_42 (dk_at dksX7_heap_0 0 rfl rfl)
theorem dX7_heap_1 : decode cX7_heap 1 = .ok (.iload_n 1, 1) := dk_27 (dk_at dksX7_heap_0 1 rfl rfl)
theorem dX7_heap_2 : decode cX7_heap 2 = .ok (.iload_n 2, 1) := dk_28 (dk_at dksX7_heap_0 2 rfl rfl)
theorem dX7_heap_3 : decode cX7_heap 3 = .ok (.invokevirtual 259, 3) := dk_182 1 3 (dk_at dksX7_heap_0 3 rfl rfl)
theorem dX7_heap_6 : decode cX7_heap 6 = .ok (.istore_n 3, 1) := dk_62 (dk_at dksX7_heap_0 6 rfl rfl)
theorem dX7_heap_7 : decode cX7_heap 7 = .ok (.iload_n 3, 1) := dk_29 (dk_at dksX7_heap_0 7 rfl rfl)
theorem dX7_heap_8 : decode cX7_heap 8 = .ok (.ifCond .le 9, 3) := dk_158 0 9 (dk_at dksX7_heap_0 8 rfl rfl)
theorem dX7_heap_11 : decode cX7_heap 11 = .ok (.aload_n 0, 1) := dk_42 (dk_at dksX7_heap_0 11 rfl rfl)
theorem dX7_heap_12 : decode cX7_heap 12 = .ok (.iload_n 3, 1) := dk_29 (dk_at dksX7_heap_0 12 rfl rfl)
theorem dX7_heap_13 : decode cX7_heap 13 = .ok (.invokevirtual 81, 3) := dk_182 0 81 (dk_at dksX7_heap_0 13 rfl rfl)
theorem dX7_heap_16 : decode cX7_heap 16 = .ok (.ireturn, 1) := dk_172 (dk_at dksX7_heap_0 16 rfl rfl)
theorem dX7_heap_17 : decode cX7_heap 17 = .ok (.aload_n 0, 1) := dk_42 (dk_at dksX7_heap_0 17 rfl rfl)
theorem dX7_heap_18 : decode cX7_heap 18 = .ok (.invokevirtual 271, 3) := dk_182 1 15 (dk_at dksX7_heap_0 18 rfl rfl)
theorem dX7_heap_21 : decode cX7_heap 21 = .ok (.aload_n 0, 1) := dk_42 (dk_at dksX7_heap_0 21 rfl rfl)
theorem dX7_heap_22 : decode cX7_heap 22 = .ok (.aload_n 0, 1) := dk_42 (dk_at dksX7_heap_0 22 rfl rfl)
theorem dX7_heap_23 : decode cX7_heap 23 = .ok (.aload_n 0, 1) := dk_42 (dk_at dksX7_heap_0 23 rfl rfl)
theorem dX7_heap_24 : decode cX7_heap 24 = .ok (.getfield 7, 3) := dk_180 0 7 (dk_at dksX7_heap_1 0 rfl rfl)
theorem dX7_heap_27 : decode cX7_heap 27 = .ok (.iconst 0, 1) := dk_3 (dk_at dksX7_heap_1 3 rfl rfl)
theorem dX7_heap_28 : decode cX7_heap 28 = .ok (.iaload, 1) := dk_46 (dk_at dksX7_heap_1 4 rfl rfl)
theorem dX7_heap_29 : decode cX7_heap 29 = .ok (.iload_n 2, 1) := dk_28 (dk_at dksX7_heap_1 5 rfl rfl)
theorem dX7_heap_30 : decode cX7_heap 30 = .ok (.imul, 1) := dk_104 (dk_at dksX7_heap_1 6 rfl rfl)
theorem dX7_heap_31 : decode cX7_heap 31 = .ok (.iload_n 1, 1) := dk_27 (dk_at dksX7_heap_1 7 rfl rfl)
theorem dX7_heap_32 : decode cX7_heap 32 = .ok (.iadd, 1) := dk_96 (dk_at dksX7_heap_1 8 rfl rfl)
theorem dX7_heap_33 : decode cX7_heap 33 = .ok (.invokevirtual 392, 3) := dk_182 1 136 (dk_at dksX7_heap_1 9 rfl rfl)
theorem dX7_heap_36 : decode cX7_heap 36 = .ok (.invokestatic 226, 3) := dk_184 0 226 (dk_at dksX7_heap_1 12 rfl rfl)
theorem dX7_heap_39 : decode cX7_heap 39 = .ok (.invokevirtual 85, 3) := dk_182 0 85 (dk_at dksX7_heap_1 15 rfl rfl)
theorem dX7_heap_42 : decode cX7_heap 42 = .ok (.ireturn, 1) := dk_172 (dk_at dksX7_heap_1 18 rfl rfl)
abbrev cX7_company : ByteArray := prog_16_method_129_code
def yX7_company : MethodName := ⟨RX7, "company", "()Z"⟩
def dkwX7_company_3 : List UInt8 := [167, 255, 208, 42, 27, 133, 42, 180, 0, 7, 6, 46, 184, 0, 226, 133, 182, 1, 139, 172]
abbrev dktX7_company_3 : List UInt8 := dkwX7_company_3 ++ []
def dkwX7_company_2 : List UInt8 := [180, 0, 47, 28, 46, 42, 180, 0, 7, 6, 46, 126, 184, 0, 226, 167, 0, 4, 3, 96, 60, 132, 2, 1]
abbrev dktX7_company_2 : List UInt8 := dkwX7_company_2 ++ dktX7_company_3
def dkwX7_company_1 : List UInt8 := [28, 42, 182, 1, 6, 162, 0, 46, 27, 42, 180, 0, 7, 6, 46, 28, 122, 4, 126, 4, 160, 0, 22, 42]
abbrev dktX7_company_1 : List UInt8 := dkwX7_company_1 ++ dktX7_company_2
def dkwX7_company_0 : List UInt8 := [42, 180, 0, 7, 6, 46, 154, 0, 10, 42, 16, 6, 182, 0, 88, 172, 42, 182, 1, 15, 3, 60, 3, 61]
abbrev dktX7_company_0 : List UInt8 := dkwX7_company_0 ++ dktX7_company_1
theorem dksX7_company_0 : cX7_company.data.toList.drop 0 = dktX7_company_0 := by decide +kernel
theorem dksX7_company_1 : cX7_company.data.toList.drop 24 = dktX7_company_1 := dk_seg dksX7_company_0 24 rfl rfl
theorem dksX7_company_2 : cX7_company.data.toList.drop 48 = dktX7_company_2 := dk_seg dksX7_company_1 24 rfl rfl
theorem dksX7_company_3 : cX7_company.data.toList.drop 72 = dktX7_company_3 := dk_seg dksX7_company_2 24 rfl rfl
theorem dX7_company_0 : decode cX7_company 0 = .ok (.aload_n 0, 1) := dk_42 (dk_at dksX7_company_0 0 rfl rfl)
theorem dX7_company_1 : decode cX7_company 1 = .ok (.getfield 7, 3) := dk_180 0 7 (dk_at dksX7_company_0 1 rfl rfl)
theorem dX7_company_4 : decode cX7_company 4 = .ok (.iconst 3, 1) := dk_6 (dk_at dksX7_company_0 4 rfl rfl)
theorem dX7_company_5 : decode cX7_company 5 = .ok (.iaload, 1) := dk_46 (dk_at dksX7_company_0 5 rfl rfl)
theorem dX7_company_6 : decode cX7_company 6 = .ok (.ifCond .ne 10, 3) := dk_154 0 10 (dk_at dksX7_company_0 6 rfl rfl)
theorem dX7_company_9 : decode cX7_company 9 = .ok (.aload_n 0, 1) := dk_42 (dk_at dksX7_company_0 9 rfl rfl)
theorem dX7_company_10 : decode cX7_company 10 = .ok (.bipush 6, 2) := dk_16 6 (dk_at dksX7_company_0 10 rfl rfl)
theorem dX7_company_12 : decode cX7_company 12 = .ok (.invokevirtual 88, 3) := dk_182 0 88 (dk_at dksX7_company_0 12 rfl rfl)
theorem dX7_company_15 : decode cX7_company 15 = .ok (.ireturn, 1) := dk_172 (dk_at dksX7_company_0 15 rfl rfl)
theorem dX7_company_16 : decode cX7_company 16 = .ok (.aload_n 0, 1) := dk_42 (dk_at dksX7_company_0 16 rfl rfl)
theorem dX7_company_17 : decode cX7_company 17 = .ok (.invokevirtual 271, 3) := dk_182 1 15 (dk_at dksX7_company_0 17 rfl rfl)
theorem dX7_company_20 : decode cX7_company 20 = .ok (.iconst 0, 1) := dk_3 (dk_at dksX7_company_0 20 rfl rfl)
theorem dX7_company_21 : decode cX7_company 21 = .ok (.istore_n 1, 1) := dk_60 (dk_at dksX7_company_0 21 rfl rfl)
theorem dX7_company_22 : decode cX7_company 22 = .ok (.iconst 0, 1) := dk_3 (dk_at dksX7_company_0 22 rfl rfl)
theorem dX7_company_23 : decode cX7_company 23 = .ok (.istore_n 2, 1) := dk_61 (dk_at dksX7_company_0 23 rfl rfl)
theorem dX7_company_24 : decode cX7_company 24 = .ok (.iload_n 2, 1) := dk_28 (dk_at dksX7_company_1 0 rfl rfl)
theorem dX7_company_25 : decode cX7_company 25 = .ok (.aload_n 0, 1) := dk_42 (dk_at dksX7_company_1 1 rfl rfl)
theorem dX7_company_26 : decode cX7_company 26 = .ok (.invokevirtual 262, 3) := dk_182 1 6 (dk_at dksX7_company_1 2 rfl rfl)
theorem dX7_company_29 : decode cX7_company 29 = .ok (.if_icmp .ge 46, 3) := dk_162 0 46 (dk_at dksX7_company_1 5 rfl rfl)
theorem dX7_company_32 : decode cX7_company 32 = .ok (.iload_n 1, 1) := dk_27 (dk_at dksX7_company_1 8 rfl rfl)
theorem dX7_company_33 : decode cX7_company 33 = .ok (.aload_n 0, 1) := dk_42 (dk_at dksX7_company_1 9 rfl rfl)
theorem dX7_company_34 : decode cX7_company 34 = .ok (.getfield 7, 3) := dk_180 0 7 (dk_at dksX7_company_1 10 rfl rfl)
theorem dX7_company_37 : decode cX7_company 37 = .ok (.iconst 3, 1) := dk_6 (dk_at dksX7_company_1 13 rfl rfl)
theorem dX7_company_38 : decode cX7_company 38 = .ok (.iaload, 1) := dk_46 (dk_at dksX7_company_1 14 rfl rfl)
theorem dX7_company_39 : decode cX7_company 39 = .ok (.iload_n 2, 1) := dk_28 (dk_at dksX7_company_1 15 rfl rfl)
theorem dX7_company_40 : decode cX7_company 40 = .ok (.ishr, 1) := dk_122 (dk_at dksX7_company_1 16 rfl rfl)
theorem dX7_company_41 : decode cX7_company 41 = .ok (.iconst 1, 1) := dk_4 (dk_at dksX7_company_1 17 rfl rfl)
theorem dX7_company_42 : decode cX7_company 42 = .ok (.iand, 1) := dk_126 (dk_at dksX7_company_1 18 rfl rfl)
theorem dX7_company_43 : decode cX7_company 43 = .ok (.iconst 1, 1) := dk_4 (dk_at dksX7_company_1 19 rfl rfl)
theorem dX7_company_44 : decode cX7_company 44 = .ok (.if_icmp .ne 22, 3) := dk_160 0 22 (dk_at dksX7_company_1 20 rfl rfl)
theorem dX7_company_47 : decode cX7_company 47 = .ok (.aload_n 0, 1) := dk_42 (dk_at dksX7_company_1 23 rfl rfl)
theorem dX7_company_48 : decode cX7_company 48 = .ok (.getfield 47, 3) := dk_180 0 47 (dk_at dksX7_company_2 0 rfl rfl)
theorem dX7_company_51 : decode cX7_company 51 = .ok (.iload_n 2, 1) := dk_28 (dk_at dksX7_company_2 3 rfl rfl)
theorem dX7_company_52 : decode cX7_company 52 = .ok (.iaload, 1) := dk_46 (dk_at dksX7_company_2 4 rfl rfl)
theorem dX7_company_53 : decode cX7_company 53 = .ok (.aload_n 0, 1) := dk_42 (dk_at dksX7_company_2 5 rfl rfl)
theorem dX7_company_54 : decode cX7_company 54 = .ok (.getfield 7, 3) := dk_180 0 7 (dk_at dksX7_company_2 6 rfl rfl)
theorem dX7_company_57 : decode cX7_company 57 = .ok (.iconst 3, 1) := dk_6 (dk_at dksX7_company_2 9 rfl rfl)
theorem dX7_company_58 : decode cX7_company 58 = .ok (.iaload, 1) := dk_46 (dk_at dksX7_company_2 10 rfl rfl)
theorem dX7_company_59 : decode cX7_company 59 = .ok (.iand, 1) := dk_126 (dk_at dksX7_company_2 11 rfl rfl)
theorem dX7_company_60 : decode cX7_company 60 = .ok (.invokestatic 226, 3) := dk_184 0 226 (dk_at dksX7_company_2 12 rfl rfl)
theorem dX7_company_63 : decode cX7_company 63 = .ok (.goto 4, 3) := dk_167 0 4 (dk_at dksX7_company_2 15 rfl rfl)
theorem dX7_company_66 : decode cX7_company 66 = .ok (.iconst 0, 1) := dk_3 (dk_at dksX7_company_2 18 rfl rfl)
theorem dX7_company_67 : decode cX7_company 67 = .ok (.iadd, 1) := dk_96 (dk_at dksX7_company_2 19 rfl rfl)
theorem dX7_company_68 : decode cX7_company 68 = .ok (.istore_n 1, 1) := dk_60 (dk_at dksX7_company_2 20 rfl rfl)
theorem dX7_company_69 : decode cX7_company 69 = .ok (.iinc 2 1, 3) := dk_132 2 1 (dk_at dksX7_company_2 21 rfl rfl)
theorem dX7_company_72 : decode cX7_company 72 = .ok (.goto (-48), 3) := dk_167 255 208 (dk_at dksX7_company_3 0 rfl rfl)
theorem dX7_company_75 : decode cX7_company 75 = .ok (.aload_n 0, 1) := dk_42 (dk_at dksX7_company_3 3 rfl rfl)
theorem dX7_company_76 : decode cX7_company 76 = .ok (.iload_n 1, 1) := dk_27 (dk_at dksX7_company_3 4 rfl rfl)
theorem dX7_company_77 : decode cX7_company 77 = .ok (.i2l, 1) := dk_133 (dk_at dksX7_company_3 5 rfl rfl)
theorem dX7_company_78 : decode cX7_company 78 = .ok (.aload_n 0, 1) := dk_42 (dk_at dksX7_company_3 6 rfl rfl)
theorem dX7_company_79 : decode cX7_company 79 = .ok (.getfield 7, 3) := dk_180 0 7 (dk_at dksX7_company_3 7 rfl rfl)
theorem dX7_company_82 : decode cX7_company 82 = .ok (.iconst 3, 1) := dk_6 (dk_at dksX7_company_3 10 rfl rfl)
theorem dX7_company_83 : decode cX7_company 83 = .ok (.iaload, 1) := dk_46 (dk_at dksX7_company_3 11 rfl rfl)
theorem dX7_company_84 : decode cX7_company 84 = .ok (.invokestatic 226, 3) := dk_184 0 226 (dk_at dksX7_company_3 12 rfl rfl)
theorem dX7_company_87 : decode cX7_company 87 = .ok (.i2l, 1) := dk_133 (dk_at dksX7_company_3 15 rfl rfl)
theorem dX7_company_88 : decode cX7_company 88 = .ok (.invokevirtual 395, 3) := dk_182 1 139 (dk_at dksX7_company_3 16 rfl rfl)
theorem dX7_company_91 : decode cX7_company 91 = .ok (.ireturn, 1) := dk_172 (dk_at dksX7_company_3 19 rfl rfl)
abbrev cX7_tellsBy : ByteArray := prog_16_method_11_code
def yX7_tellsBy : MethodName := ⟨RX7, "tellsBy", "(JJ)Z"⟩
def dkwX7_tellsBy_2 : List UInt8 := [3, 182, 0, 88, 172]
abbrev dktX7_tellsBy_2 : List UInt8 := dkwX7_tellsBy_2 ++ []
def dkwX7_tellsBy_1 : List UInt8 := [22, 9, 55, 7, 167, 255, 234, 42, 31, 22, 5, 109, 181, 0, 78, 42, 33, 22, 5, 109, 181, 0, 17, 42]
abbrev dktX7_tellsBy_1 : List UInt8 := dkwX7_tellsBy_1 ++ dktX7_tellsBy_2
def dkwX7_tellsBy_0 : List UInt8 := [31, 55, 5, 33, 55, 7, 22, 7, 9, 148, 153, 0, 21, 22, 5, 22, 7, 113, 55, 9, 22, 7, 55, 5]
abbrev dktX7_tellsBy_0 : List UInt8 := dkwX7_tellsBy_0 ++ dktX7_tellsBy_1
theorem dksX7_tellsBy_0 : cX7_tellsBy.data.toList.drop 0 = dktX7_tellsBy_0 := by decide +kernel
theorem dksX7_tellsBy_1 : cX7_tellsBy.data.toList.drop 24 = dktX7_tellsBy_1 := dk_seg dksX7_tellsBy_0 24 rfl rfl
theorem dksX7_tellsBy_2 : cX7_tellsBy.data.toList.drop 48 = dktX7_tellsBy_2 := dk_seg dksX7_tellsBy_1 24 rfl rfl
theorem dX7_tellsBy_0 : decode cX7_tellsBy 0 = .ok (.lload_n 1, 1) := dk_31 (dk_at dksX7_tellsBy_0 0 rfl rfl)
theorem dX7_tellsBy_1 : decode cX7_tellsBy 1 = .ok (.lstore 5, 2) := dk_55 5 (dk_at dksX7_tellsBy_0 1 rfl rfl)
theorem dX7_tellsBy_3 : decode cX7_tellsBy 3 = .ok (.lload_n 3, 1) := dk_33 (dk_at dksX7_tellsBy_0 3 rfl rfl)
theorem dX7_tellsBy_4 : decode cX7_tellsBy 4 = .ok (.lstore 7, 2) := dk_55 7 (dk_at dksX7_tellsBy_0 4 rfl rfl)
theorem dX7_tellsBy_6 : decode cX7_tellsBy 6 = .ok (.lload 7, 2) := dk_22 7 (dk_at dksX7_tellsBy_0 6 rfl rfl)
theorem dX7_tellsBy_8 : decode cX7_tellsBy 8 = .ok (.lconst 0, 1) := dk_9 (dk_at dksX7_tellsBy_0 8 rfl rfl)
theorem dX7_tellsBy_9 : decode cX7_tellsBy 9 = .ok (.lcmp, 1) := dk_148 (dk_at dksX7_tellsBy_0 9 rfl rfl)
theorem dX7_tellsBy_10 : decode cX7_tellsBy 10 = .ok (.ifCond .eq 21, 3) := dk_153 0 21 (dk_at dksX7_tellsBy_0 10 rfl rfl)
theorem dX7_tellsBy_13 : decode cX7_tellsBy 13 = .ok (.lload 5, 2) := dk_22 5 (dk_at dksX7_tellsBy_0 13 rfl rfl)
theorem dX7_tellsBy_15 : decode cX7_tellsBy 15 = .ok (.lload 7, 2) := dk_22 7 (dk_at dksX7_tellsBy_0 15 rfl rfl)
theorem dX7_tellsBy_17 : decode cX7_tellsBy 17 = .ok (.lrem, 1) := dk_113 (dk_at dksX7_tellsBy_0 17 rfl rfl)
theorem dX7_tellsBy_18 : decode cX7_tellsBy 18 = .ok (.lstore 9, 2) := dk_55 9 (dk_at dksX7_tellsBy_0 18 rfl rfl)
theorem dX7_tellsBy_20 : decode cX7_tellsBy 20 = .ok (.lload 7, 2) := dk_22 7 (dk_at dksX7_tellsBy_0 20 rfl rfl)
theorem dX7_tellsBy_22 : decode cX7_tellsBy 22 = .ok (.lstore 5, 2) := dk_55 5 (dk_at dksX7_tellsBy_0 22 rfl rfl)
theorem dX7_tellsBy_24 : decode cX7_tellsBy 24 = .ok (.lload 9, 2) := dk_22 9 (dk_at dksX7_tellsBy_1 0 rfl rfl)
theorem dX7_tellsBy_26 : decode cX7_tellsBy 26 = .ok (.lstore 7, 2) := dk_55 7 (dk_at dksX7_tellsBy_1 2 rfl rfl)
theorem dX7_tellsBy_28 : decode cX7_tellsBy 28 = .ok (.goto (-22), 3) := dk_167 255 234 (dk_at dksX7_tellsBy_1 4 rfl rfl)
theorem dX7_tellsBy_31 : decode cX7_tellsBy 31 = .ok (.aload_n 0, 1) := dk_42 (dk_at dksX7_tellsBy_1 7 rfl rfl)
theorem dX7_tellsBy_32 : decode cX7_tellsBy 32 = .ok (.lload_n 1, 1) := dk_31 (dk_at dksX7_tellsBy_1 8 rfl rfl)
theorem dX7_tellsBy_33 : decode cX7_tellsBy 33 = .ok (.lload 5, 2) := dk_22 5 (dk_at dksX7_tellsBy_1 9 rfl rfl)
theorem dX7_tellsBy_35 : decode cX7_tellsBy 35 = .ok (.ldiv, 1) := dk_109 (dk_at dksX7_tellsBy_1 11 rfl rfl)
theorem dX7_tellsBy_36 : decode cX7_tellsBy 36 = .ok (.putfield 78, 3) := dk_181 0 78 (dk_at dksX7_tellsBy_1 12 rfl rfl)
theorem dX7_tellsBy_39 : decode cX7_tellsBy 39 = .ok (.aload_n 0, 1) := dk_42 (dk_at dksX7_tellsBy_1 15 rfl rfl)
theorem dX7_tellsBy_40 : decode cX7_tellsBy 40 = .ok (.lload_n 3, 1) := dk_33 (dk_at dksX7_tellsBy_1 16 rfl rfl)
theorem dX7_tellsBy_41 : decode cX7_tellsBy 41 = .ok (.lload 5, 2) := dk_22 5 (dk_at dksX7_tellsBy_1 17 rfl rfl)
theorem dX7_tellsBy_43 : decode cX7_tellsBy 43 = .ok (.ldiv, 1) := dk_109 (dk_at dksX7_tellsBy_1 19 rfl rfl)
theorem dX7_tellsBy_44 : decode cX7_tellsBy 44 = .ok (.putfield 17, 3) := dk_181 0 17 (dk_at dksX7_tellsBy_1 20 rfl rfl)
theorem dX7_tellsBy_47 : decode cX7_tellsBy 47 = .ok (.aload_n 0, 1) := dk_42 (dk_at dksX7_tellsBy_1 23 rfl rfl)
theorem dX7_tellsBy_48 : decode cX7_tellsBy 48 = .ok (.iconst 0, 1) := dk_3 (dk_at dksX7_tellsBy_2 0 rfl rfl)
theorem dX7_tellsBy_49 : decode cX7_tellsBy 49 = .ok (.invokevirtual 88, 3) := dk_182 0 88 (dk_at dksX7_tellsBy_2 1 rfl rfl)
theorem dX7_tellsBy_52 : decode cX7_tellsBy 52 = .ok (.ireturn, 1) := dk_172 (dk_at dksX7_tellsBy_2 4 rfl rfl)
abbrev cX7_live : ByteArray := prog_16_method_137_code
def yX7_live : MethodName := ⟨RX7, "live", "(I)I"⟩
def dkwX7_live_3 : List UInt8 := [42, 180, 1, 156, 182, 0, 85, 172]
abbrev dktX7_live_3 : List UInt8 := dkwX7_live_3 ++ []
def dkwX7_live_2 : List UInt8 := [42, 180, 0, 68, 28, 42, 180, 0, 65, 28, 46, 79, 132, 2, 1, 167, 255, 236, 42, 4, 181, 1, 171, 42]
abbrev dktX7_live_2 : List UInt8 := dkwX7_live_2 ++ dktX7_live_3
def dkwX7_live_1 : List UInt8 := [46, 2, 160, 0, 10, 42, 16, 6, 182, 0, 81, 172, 42, 27, 182, 1, 168, 3, 61, 28, 8, 162, 0, 21]
abbrev dktX7_live_1 : List UInt8 := dkwX7_live_1 ++ dktX7_live_2
def dkwX7_live_0 : List UInt8 := [27, 133, 9, 20, 1, 77, 184, 1, 39, 154, 0, 9, 42, 4, 182, 0, 81, 172, 42, 180, 0, 7, 16, 11]
abbrev dktX7_live_0 : List UInt8 := dkwX7_live_0 ++ dktX7_live_1
theorem dksX7_live_0 : cX7_live.data.toList.drop 0 = dktX7_live_0 := by decide +kernel
theorem dksX7_live_1 : cX7_live.data.toList.drop 24 = dktX7_live_1 := dk_seg dksX7_live_0 24 rfl rfl
theorem dksX7_live_2 : cX7_live.data.toList.drop 48 = dktX7_live_2 := dk_seg dksX7_live_1 24 rfl rfl
theorem dksX7_live_3 : cX7_live.data.toList.drop 72 = dktX7_live_3 := dk_seg dksX7_live_2 24 rfl rfl
theorem dX7_live_0 : decode cX7_live 0 = .ok (.iload_n 1, 1) := dk_27 (dk_at dksX7_live_0 0 rfl rfl)
theorem dX7_live_1 : decode cX7_live 1 = .ok (.i2l, 1) := dk_133 (dk_at dksX7_live_0 1 rfl rfl)
theorem dX7_live_2 : decode cX7_live 2 = .ok (.lconst 0, 1) := dk_9 (dk_at dksX7_live_0 2 rfl rfl)
theorem dX7_live_3 : decode cX7_live 3 = .ok (.ldc2_w 333, 3) := dk_20 1 77 (dk_at dksX7_live_0 3 rfl rfl)
theorem dX7_live_6 : decode cX7_live 6 = .ok (.invokestatic 295, 3) := dk_184 1 39 (dk_at dksX7_live_0 6 rfl rfl)
theorem dX7_live_9 : decode cX7_live 9 = .ok (.ifCond .ne 9, 3) := dk_154 0 9 (dk_at dksX7_live_0 9 rfl rfl)
theorem dX7_live_12 : decode cX7_live 12 = .ok (.aload_n 0, 1) := dk_42 (dk_at dksX7_live_0 12 rfl rfl)
theorem dX7_live_13 : decode cX7_live 13 = .ok (.iconst 1, 1) := dk_4 (dk_at dksX7_live_0 13 rfl rfl)
theorem dX7_live_14 : decode cX7_live 14 = .ok (.invokevirtual 81, 3) := dk_182 0 81 (dk_at dksX7_live_0 14 rfl rfl)
theorem dX7_live_17 : decode cX7_live 17 = .ok (.ireturn, 1) := dk_172 (dk_at dksX7_live_0 17 rfl rfl)
theorem dX7_live_18 : decode cX7_live 18 = .ok (.aload_n 0, 1) := dk_42 (dk_at dksX7_live_0 18 rfl rfl)
theorem dX7_live_19 : decode cX7_live 19 = .ok (.getfield 7, 3) := dk_180 0 7 (dk_at dksX7_live_0 19 rfl rfl)
theorem dX7_live_22 : decode cX7_live 22 = .ok (.bipush 11, 2) := dk_16 11 (dk_at dksX7_live_0 22 rfl rfl)
theorem dX7_live_24 : decode cX7_live 24 = .ok (.iaload, 1) := dk_46 (dk_at dksX7_live_1 0 rfl rfl)
theorem dX7_live_25 : decode cX7_live 25 = .ok (.iconst (-1), 1) := dk_2 (dk_at dksX7_live_1 1 rfl rfl)
theorem dX7_live_26 : decode cX7_live 26 = .ok (.if_icmp .ne 10, 3) := dk_160 0 10 (dk_at dksX7_live_1 2 rfl rfl)
theorem dX7_live_29 : decode cX7_live 29 = .ok (.aload_n 0, 1) := dk_42 (dk_at dksX7_live_1 5 rfl rfl)
theorem dX7_live_30 : decode cX7_live 30 = .ok (.bipush 6, 2) := dk_16 6 (dk_at dksX7_live_1 6 rfl rfl)
theorem dX7_live_32 : decode cX7_live 32 = .ok (.invokevirtual 81, 3) := dk_182 0 81 (dk_at dksX7_live_1 8 rfl rfl)
theorem dX7_live_35 : decode cX7_live 35 = .ok (.ireturn, 1) := dk_172 (dk_at dksX7_live_1 11 rfl rfl)
theorem dX7_live_36 : decode cX7_live 36 = .ok (.aload_n 0, 1) := dk_42 (dk_at dksX7_live_1 12 rfl rfl)
theorem dX7_live_37 : decode cX7_live 37 = .ok (.iload_n 1, 1) := dk_27 (dk_at dksX7_live_1 13 rfl rfl)
theorem dX7_live_38 : decode cX7_live 38 = .ok (.invokevirtual 424, 3) := dk_182 1 168 (dk_at dksX7_live_1 14 rfl rfl)
theorem dX7_live_41 : decode cX7_live 41 = .ok (.iconst 0, 1) := dk_3 (dk_at dksX7_live_1 17 rfl rfl)
theorem dX7_live_42 : decode cX7_live 42 = .ok (.istore_n 2, 1) := dk_61 (dk_at dksX7_live_1 18 rfl rfl)
theorem dX7_live_43 : decode cX7_live 43 = .ok (.iload_n 2, 1) := dk_28 (dk_at dksX7_live_1 19 rfl rfl)
theorem dX7_live_44 : decode cX7_live 44 = .ok (.iconst 5, 1) := dk_8 (dk_at dksX7_live_1 20 rfl rfl)
theorem dX7_live_45 : decode cX7_live 45 = .ok (.if_icmp .ge 21, 3) := dk_162 0 21 (dk_at dksX7_live_1 21 rfl rfl)
theorem dX7_live_48 : decode cX7_live 48 = .ok (.aload_n 0, 1) := dk_42 (dk_at dksX7_live_2 0 rfl rfl)
theorem dX7_live_49 : decode cX7_live 49 = .ok (.getfield 68, 3) := dk_180 0 68 (dk_at dksX7_live_2 1 rfl rfl)
theorem dX7_live_52 : decode cX7_live 52 = .ok (.iload_n 2, 1) := dk_28 (dk_at dksX7_live_2 4 rfl rfl)
theorem dX7_live_53 : decode cX7_live 53 = .ok (.aload_n 0, 1) := dk_42 (dk_at dksX7_live_2 5 rfl rfl)
theorem dX7_live_54 : decode cX7_live 54 = .ok (.getfield 65, 3) := dk_180 0 65 (dk_at dksX7_live_2 6 rfl rfl)
theorem dX7_live_57 : decode cX7_live 57 = .ok (.iload_n 2, 1) := dk_28 (dk_at dksX7_live_2 9 rfl rfl)
theorem dX7_live_58 : decode cX7_live 58 = .ok (.iaload, 1) := dk_46 (dk_at dksX7_live_2 10 rfl rfl)
theorem dX7_live_59 : decode cX7_live 59 = .ok (.iastore, 1) := dk_79 (dk_at dksX7_live_2 11 rfl rfl)
theorem dX7_live_60 : decode cX7_live 60 = .ok (.iinc 2 1, 3) := dk_132 2 1 (dk_at dksX7_live_2 12 rfl rfl)
theorem dX7_live_63 : decode cX7_live 63 = .ok (.goto (-20), 3) := dk_167 255 236 (dk_at dksX7_live_2 15 rfl rfl)
theorem dX7_live_66 : decode cX7_live 66 = .ok (.aload_n 0, 1) := dk_42 (dk_at dksX7_live_2 18 rfl rfl)
theorem dX7_live_67 : decode cX7_live 67 = .ok (.iconst 1, 1) := dk_4 (dk_at dksX7_live_2 19 rfl rfl)
theorem dX7_live_68 : decode cX7_live 68 = .ok (.putfield 427, 3) := dk_181 1 171 (dk_at dksX7_live_2 20 rfl rfl)
theorem dX7_live_71 : decode cX7_live 71 = .ok (.aload_n 0, 1) := dk_42 (dk_at dksX7_live_2 23 rfl rfl)
theorem dX7_live_72 : decode cX7_live 72 = .ok (.aload_n 0, 1) := dk_42 (dk_at dksX7_live_3 0 rfl rfl)
theorem dX7_live_73 : decode cX7_live 73 = .ok (.getfield 412, 3) := dk_180 1 156 (dk_at dksX7_live_3 1 rfl rfl)
theorem dX7_live_76 : decode cX7_live 76 = .ok (.invokevirtual 85, 3) := dk_182 0 85 (dk_at dksX7_live_3 4 rfl rfl)
theorem dX7_live_79 : decode cX7_live 79 = .ok (.ireturn, 1) := dk_172 (dk_at dksX7_live_3 7 rfl rfl)
abbrev cX7_lives : ByteArray := prog_16_method_136_code
def yX7_lives : MethodName := ⟨RX7, "lives", "(I)V"⟩
def dkwX7_lives_7 : List UInt8 := [7, 96, 46, 4, 96, 167, 0, 6, 28, 4, 96, 182, 1, 165, 61, 167, 255, 107, 177]
abbrev dktX7_lives_7 : List UInt8 := dkwX7_lives_7 ++ []
def dkwX7_lives_6 : List UInt8 := [180, 0, 7, 29, 46, 17, 5, 220, 161, 0, 24, 42, 29, 182, 1, 162, 154, 0, 16, 42, 180, 0, 7, 29]
abbrev dktX7_lives_6 : List UInt8 := dkwX7_lives_6 ++ dktX7_lives_7
def dkwX7_lives_5 : List UInt8 := [16, 16, 160, 0, 19, 42, 180, 0, 62, 28, 42, 180, 0, 7, 29, 4, 96, 46, 4, 100, 79, 42, 42]
abbrev dktX7_lives_5 : List UInt8 := dkwX7_lives_5 ++ dktX7_lives_6
def dkwX7_lives_4 : List UInt8 := [3, 92, 46, 42, 29, 182, 1, 159, 153, 0, 7, 3, 167, 0, 4, 4, 96, 79, 42, 180, 0, 7, 29, 46]
abbrev dktX7_lives_4 : List UInt8 := dkwX7_lives_4 ++ dktX7_lives_5
def dkwX7_lives_3 : List UInt8 := [180, 1, 156, 4, 96, 181, 1, 156, 42, 180, 0, 7, 29, 46, 16, 18, 160, 0, 4, 177, 42, 180, 0, 65]
abbrev dktX7_lives_3 : List UInt8 := dkwX7_lives_3 ++ dktX7_lives_4
def dkwX7_lives_2 : List UInt8 := [17, 1, 44, 160, 0, 11, 42, 180, 0, 65, 7, 4, 79, 177, 16, 44, 16, 6, 28, 104, 96, 62, 42, 89]
abbrev dktX7_lives_2 : List UInt8 := dkwX7_lives_2 ++ dktX7_lives_3
def dkwX7_lives_1 : List UInt8 := [132, 2, 1, 167, 255, 241, 3, 61, 28, 42, 180, 0, 7, 16, 11, 46, 162, 0, 144, 42, 180, 1, 156]
abbrev dktX7_lives_1 : List UInt8 := dkwX7_lives_1 ++ dktX7_lives_2
def dkwX7_lives_0 : List UInt8 := [42, 27, 181, 1, 143, 42, 3, 181, 1, 156, 3, 61, 28, 8, 162, 0, 16, 42, 180, 0, 65, 28, 3, 79]
abbrev dktX7_lives_0 : List UInt8 := dkwX7_lives_0 ++ dktX7_lives_1
theorem dksX7_lives_0 : cX7_lives.data.toList.drop 0 = dktX7_lives_0 := by decide +kernel
theorem dksX7_lives_1 : cX7_lives.data.toList.drop 24 = dktX7_lives_1 := dk_seg dksX7_lives_0 24 rfl rfl
theorem dksX7_lives_2 : cX7_lives.data.toList.drop 47 = dktX7_lives_2 := dk_seg dksX7_lives_1 23 rfl rfl
theorem dksX7_lives_3 : cX7_lives.data.toList.drop 71 = dktX7_lives_3 := dk_seg dksX7_lives_2 24 rfl rfl
theorem dksX7_lives_4 : cX7_lives.data.toList.drop 95 = dktX7_lives_4 := dk_seg dksX7_lives_3 24 rfl rfl
theorem dksX7_lives_5 : cX7_lives.data.toList.drop 119 = dktX7_lives_5 := dk_seg dksX7_lives_4 24 rfl rfl
theorem dksX7_lives_6 : cX7_lives.data.toList.drop 142 = dktX7_lives_6 := dk_seg dksX7_lives_5 23 rfl rfl
theorem dksX7_lives_7 : cX7_lives.data.toList.drop 166 = dktX7_lives_7 := dk_seg dksX7_lives_6 24 rfl rfl
theorem dX7_lives_0 : decode cX7_lives 0 = .ok (.aload_n 0, 1) := dk_42 (dk_at dksX7_lives_0 0 rfl rfl)
theorem dX7_lives_1 : decode cX7_lives 1 = .ok (.iload_n 1, 1) := dk_27 (dk_at dksX7_lives_0 1 rfl rfl)
theorem dX7_lives_2 : decode cX7_lives 2 = .ok (.putfield 399, 3) := dk_181 1 143 (dk_at dksX7_lives_0 2 rfl rfl)
theorem dX7_lives_5 : decode cX7_lives 5 = .ok (.aload_n 0, 1) := dk_42 (dk_at dksX7_lives_0 5 rfl rfl)
theorem dX7_lives_6 : decode cX7_lives 6 = .ok (.iconst 0, 1) := dk_3 (dk_at dksX7_lives_0 6 rfl rfl)
theorem dX7_lives_7 : decode cX7_lives 7 = .ok (.putfield 412, 3) := dk_181 1 156 (dk_at dksX7_lives_0 7 rfl rfl)
theorem dX7_lives_10 : decode cX7_lives 10 = .ok (.iconst 0, 1) := dk_3 (dk_at dksX7_lives_0 10 rfl rfl)
theorem dX7_lives_11 : decode cX7_lives 11 = .ok (.istore_n 2, 1) := dk_61 (dk_at dksX7_lives_0 11 rfl rfl)
theorem dX7_lives_12 : decode cX7_lives 12 = .ok (.iload_n 2, 1) := dk_28 (dk_at dksX7_lives_0 12 rfl rfl)
theorem dX7_lives_13 : decode cX7_lives 13 = .ok (.iconst 5, 1) := dk_8 (dk_at dksX7_lives_0 13 rfl rfl)
theorem dX7_lives_14 : decode cX7_lives 14 = .ok (.if_icmp .ge 16, 3) := dk_162 0 16 (dk_at dksX7_lives_0 14 rfl rfl)
theorem dX7_lives_17 : decode cX7_lives 17 = .ok (.aload_n 0, 1) := dk_42 (dk_at dksX7_lives_0 17 rfl rfl)
theorem dX7_lives_18 : decode cX7_lives 18 = .ok (.getfield 65, 3) := dk_180 0 65 (dk_at dksX7_lives_0 18 rfl rfl)
theorem dX7_lives_21 : decode cX7_lives 21 = .ok (.iload_n 2, 1) := dk_28 (dk_at dksX7_lives_0 21 rfl rfl)
theorem dX7_lives_22 : decode cX7_lives 22 = .ok (.iconst 0, 1) := dk_3 (dk_at dksX7_lives_0 22 rfl rfl)
theorem dX7_lives_23 : decode cX7_lives 23 = .ok (.iastore, 1) := dk_79 (dk_at dksX7_lives_0 23 rfl rfl)
theorem dX7_lives_24 : decode cX7_lives 24 = .ok (.iinc 2 1, 3) := dk_132 2 1 (dk_at dksX7_lives_1 0 rfl rfl)
theorem dX7_lives_27 : decode cX7_lives 27 = .ok (.goto (-15), 3) := dk_167 255 241 (dk_at dksX7_lives_1 3 rfl rfl)
theorem dX7_lives_30 : decode cX7_lives 30 = .ok (.iconst 0, 1) := dk_3 (dk_at dksX7_lives_1 6 rfl rfl)
theorem dX7_lives_31 : decode cX7_lives 31 = .ok (.istore_n 2, 1) := dk_61 (dk_at dksX7_lives_1 7 rfl rfl)
theorem dX7_lives_32 : decode cX7_lives 32 = .ok (.iload_n 2, 1) := dk_28 (dk_at dksX7_lives_1 8 rfl rfl)
theorem dX7_lives_33 : decode cX7_lives 33 = .ok (.aload_n 0, 1) := dk_42 (dk_at dksX7_lives_1 9 rfl rfl)
theorem dX7_lives_34 : decode cX7_lives 34 = .ok (.getfield 7, 3) := dk_180 0 7 (dk_at dksX7_lives_1 10 rfl rfl)
theorem dX7_lives_37 : decode cX7_lives 37 = .ok (.bipush 11, 2) := dk_16 11 (dk_at dksX7_lives_1 13 rfl rfl)
theorem dX7_lives_39 : decode cX7_lives 39 = .ok (.iaload, 1) := dk_46 (dk_at dksX7_lives_1 15 rfl rfl)
theorem dX7_lives_40 : decode cX7_lives 40 = .ok (.if_icmp .ge 144, 3) := dk_162 0 144 (dk_at dksX7_lives_1 16 rfl rfl)
theorem dX7_lives_43 : decode cX7_lives 43 = .ok (.aload_n 0, 1) := dk_42 (dk_at dksX7_lives_1 19 rfl rfl)
theorem dX7_lives_44 : decode cX7_lives 44 = .ok (.getfield 412, 3) := dk_180 1 156 (dk_at dksX7_lives_1 20 rfl rfl)
theorem dX7_lives_47 : decode cX7_lives 47 = .ok (.sipush 300, 3) := dk_17 1 44 (dk_at dksX7_lives_2 0 rfl rfl)
theorem dX7_lives_50 : decode cX7_lives 50 = .ok (.if_icmp .ne 11, 3) := dk_160 0 11 (dk_at dksX7_lives_2 3 rfl rfl)
theorem dX7_lives_53 : decode cX7_lives 53 = .ok (.aload_n 0, 1) := dk_42 (dk_at dksX7_lives_2 6 rfl rfl)
theorem dX7_lives_54 : decode cX7_lives 54 = .ok (.getfield 65, 3) := dk_180 0 65 (dk_at dksX7_lives_2 7 rfl rfl)
theorem dX7_lives_57 : decode cX7_lives 57 = .ok (.iconst 4, 1) := dk_7 (dk_at dksX7_lives_2 10 rfl rfl)
theorem dX7_lives_58 : decode cX7_lives 58 = .ok (.iconst 1, 1) := dk_4 (dk_at dksX7_lives_2 11 rfl rfl)
theorem dX7_lives_59 : decode cX7_lives 59 = .ok (.iastore, 1) := dk_79 (dk_at dksX7_lives_2 12 rfl rfl)
theorem dX7_lives_60 : decode cX7_lives 60 = .ok (.return_, 1) := dk_177 (dk_at dksX7_lives_2 13 rfl rfl)
theorem dX7_lives_61 : decode cX7_lives 61 = .ok (.bipush 44, 2) := dk_16 44 (dk_at dksX7_lives_2 14 rfl rfl)
theorem dX7_lives_63 : decode cX7_lives 63 = .ok (.bipush 6, 2) := dk_16 6 (dk_at dksX7_lives_2 16 rfl rfl)
theorem dX7_lives_65 : decode cX7_lives 65 = .ok (.iload_n 2, 1) := dk_28 (dk_at dksX7_lives_2 18 rfl rfl)
theorem dX7_lives_66 : decode cX7_lives 66 = .ok (.imul, 1) := dk_104 (dk_at dksX7_lives_2 19 rfl rfl)
theorem dX7_lives_67 : decode cX7_lives 67 = .ok (.iadd, 1) := dk_96 (dk_at dksX7_lives_2 20 rfl rfl)
theorem dX7_lives_68 : decode cX7_lives 68 = .ok (.istore_n 3, 1) := dk_62 (dk_at dksX7_lives_2 21 rfl rfl)
theorem dX7_lives_69 : decode cX7_lives 69 = .ok (.aload_n 0, 1) := dk_42 (dk_at dksX7_lives_2 22 rfl rfl)
theorem dX7_lives_70 : decode cX7_lives 70 = .ok (.dup, 1) := dk_89 (dk_at dksX7_lives_2 23 rfl rfl)
theorem dX7_lives_71 : decode cX7_lives 71 = .ok (.getfield 412, 3) := dk_180 1 156 (dk_at dksX7_lives_3 0 rfl rfl)
theorem dX7_lives_74 : decode cX7_lives 74 = .ok (.iconst 1, 1) := dk_4 (dk_at dksX7_lives_3 3 rfl rfl)
theorem dX7_lives_75 : decode cX7_lives 75 = .ok (.iadd, 1) := dk_96 (dk_at dksX7_lives_3 4 rfl rfl)
theorem dX7_lives_76 : decode cX7_lives 76 = .ok (.putfield 412, 3) := dk_181 1 156 (dk_at dksX7_lives_3 5 rfl rfl)
theorem dX7_lives_79 : decode cX7_lives 79 = .ok (.aload_n 0, 1) := dk_42 (dk_at dksX7_lives_3 8 rfl rfl)
theorem dX7_lives_80 : decode cX7_lives 80 = .ok (.getfield 7, 3) := dk_180 0 7 (dk_at dksX7_lives_3 9 rfl rfl)
theorem dX7_lives_83 : decode cX7_lives 83 = .ok (.iload_n 3, 1) := dk_29 (dk_at dksX7_lives_3 12 rfl rfl)
theorem dX7_lives_84 : decode cX7_lives 84 = .ok (.iaload, 1) := dk_46 (dk_at dksX7_lives_3 13 rfl rfl)
theorem dX7_lives_85 : decode cX7_lives 85 = .ok (.bipush 18, 2) := dk_16 18 (dk_at dksX7_lives_3 14 rfl rfl)
theorem dX7_lives_87 : decode cX7_lives 87 = .ok (.if_icmp .ne 4, 3) := dk_160 0 4 (dk_at dksX7_lives_3 16 rfl rfl)
theorem dX7_lives_90 : decode cX7_lives 90 = .ok (.return_, 1) := dk_177 (dk_at dksX7_lives_3 19 rfl rfl)
theorem dX7_lives_91 : decode cX7_lives 91 = .ok (.aload_n 0, 1) := dk_42 (dk_at dksX7_lives_3 20 rfl rfl)
theorem dX7_lives_92 : decode cX7_lives 92 = .ok (.getfield 65, 3) := dk_180 0 65 (dk_at dksX7_lives_3 21 rfl rfl)
theorem dX7_lives_95 : decode cX7_lives 95 = .ok (.iconst 0, 1) := dk_3 (dk_at dksX7_lives_4 0 rfl rfl)
theorem dX7_lives_96 : decode cX7_lives 96 = .ok (.dup2, 1) := dk_92 (dk_at dksX7_lives_4 1 rfl rfl)
theorem dX7_lives_97 : decode cX7_lives 97 = .ok (.iaload, 1) := dk_46 (dk_at dksX7_lives_4 2 rfl rfl)
theorem dX7_lives_98 : decode cX7_lives 98 = .ok (.aload_n 0, 1) := dk_42 (dk_at dksX7_lives_4 3 rfl rfl)
theorem dX7_lives_99 : decode cX7_lives 99 = .ok (.iload_n 3, 1) := dk_29 (dk_at dksX7_lives_4 4 rfl rfl)
theorem dX7_lives_100 : decode cX7_lives 100 = .ok (.invokevirtual 415, 3) := dk_182 1 159 (dk_at dksX7_lives_4 5 rfl rfl)
theorem dX7_lives_103 : decode cX7_lives 103 = .ok (.ifCond .eq 7, 3) := dk_153 0 7 (dk_at dksX7_lives_4 8 rfl rfl)
theorem dX7_lives_106 : decode cX7_lives 106 = .ok (.iconst 0, 1) := dk_3 (dk_at dksX7_lives_4 11 rfl rfl)
theorem dX7_lives_107 : decode cX7_lives 107 = .ok (.goto 4, 3) := dk_167 0 4 (dk_at dksX7_lives_4 12 rfl rfl)
theorem dX7_lives_110 : decode cX7_lives 110 = .ok (.iconst 1, 1) := dk_4 (dk_at dksX7_lives_4 15 rfl rfl)
theorem dX7_lives_111 : decode cX7_lives 111 = .ok (.iadd, 1) := dk_96 (dk_at dksX7_lives_4 16 rfl rfl)
theorem dX7_lives_112 : decode cX7_lives 112 = .ok (.iastore, 1) := dk_79 (dk_at dksX7_lives_4 17 rfl rfl)
theorem dX7_lives_113 : decode cX7_lives 113 = .ok (.aload_n 0, 1) := dk_42 (dk_at dksX7_lives_4 18 rfl rfl)
theorem dX7_lives_114 : decode cX7_lives 114 = .ok (.getfield 7, 3) := dk_180 0 7 (dk_at dksX7_lives_4 19 rfl rfl)
theorem dX7_lives_117 : decode cX7_lives 117 = .ok (.iload_n 3, 1) := dk_29 (dk_at dksX7_lives_4 22 rfl rfl)
theorem dX7_lives_118 : decode cX7_lives 118 = .ok (.iaload, 1) := dk_46 (dk_at dksX7_lives_4 23 rfl rfl)
theorem dX7_lives_119 : decode cX7_lives 119 = .ok (.bipush 16, 2) := dk_16 16 (dk_at dksX7_lives_5 0 rfl rfl)
theorem dX7_lives_121 : decode cX7_lives 121 = .ok (.if_icmp .ne 19, 3) := dk_160 0 19 (dk_at dksX7_lives_5 2 rfl rfl)
theorem dX7_lives_124 : decode cX7_lives 124 = .ok (.aload_n 0, 1) := dk_42 (dk_at dksX7_lives_5 5 rfl rfl)
theorem dX7_lives_125 : decode cX7_lives 125 = .ok (.getfield 62, 3) := dk_180 0 62 (dk_at dksX7_lives_5 6 rfl rfl)
theorem dX7_lives_128 : decode cX7_lives 128 = .ok (.iload_n 2, 1) := dk_28 (dk_at dksX7_lives_5 9 rfl rfl)
theorem dX7_lives_129 : decode cX7_lives 129 = .ok (.aload_n 0, 1) := dk_42 (dk_at dksX7_lives_5 10 rfl rfl)
theorem dX7_lives_130 : decode cX7_lives 130 = .ok (.getfield 7, 3) := dk_180 0 7 (dk_at dksX7_lives_5 11 rfl rfl)
theorem dX7_lives_133 : decode cX7_lives 133 = .ok (.iload_n 3, 1) := dk_29 (dk_at dksX7_lives_5 14 rfl rfl)
theorem dX7_lives_134 : decode cX7_lives 134 = .ok (.iconst 1, 1) := dk_4 (dk_at dksX7_lives_5 15 rfl rfl)
theorem dX7_lives_135 : decode cX7_lives 135 = .ok (.iadd, 1) := dk_96 (dk_at dksX7_lives_5 16 rfl rfl)
theorem dX7_lives_136 : decode cX7_lives 136 = .ok (.iaload, 1) := dk_46 (dk_at dksX7_lives_5 17 rfl rfl)
theorem dX7_lives_137 : decode cX7_lives 137 = .ok (.iconst 1, 1) := dk_4 (dk_at dksX7_lives_5 18 rfl rfl)
theorem dX7_lives_138 : decode cX7_lives 138 = .ok (.isub, 1) := dk_100 (dk_at dksX7_lives_5 19 rfl rfl)
theorem dX7_lives_139 : decode cX7_lives 139 = .ok (.iastore, 1) := dk_79 (dk_at dksX7_lives_5 20 rfl rfl)
theorem dX7_lives_140 : decode cX7_lives 140 = .ok (.aload_n 0, 1) := dk_42 (dk_at dksX7_lives_5 21 rfl rfl)
theorem dX7_lives_141 : decode cX7_lives 141 = .ok (.aload_n 0, 1) := dk_42 (dk_at dksX7_lives_5 22 rfl rfl)
theorem dX7_lives_142 : decode cX7_lives 142 = .ok (.getfield 7, 3) := dk_180 0 7 (dk_at dksX7_lives_6 0 rfl rfl)
theorem dX7_lives_145 : decode cX7_lives 145 = .ok (.iload_n 3, 1) := dk_29 (dk_at dksX7_lives_6 3 rfl rfl)
theorem dX7_lives_146 : decode cX7_lives 146 = .ok (.iaload, 1) := dk_46 (dk_at dksX7_lives_6 4 rfl rfl)
theorem dX7_lives_147 : decode cX7_lives 147 = .ok (.sipush 1500, 3) := dk_17 5 220 (dk_at dksX7_lives_6 5 rfl rfl)
theorem dX7_lives_150 : decode cX7_lives 150 = .ok (.if_icmp .lt 24, 3) := dk_161 0 24 (dk_at dksX7_lives_6 8 rfl rfl)
theorem dX7_lives_153 : decode cX7_lives 153 = .ok (.aload_n 0, 1) := dk_42 (dk_at dksX7_lives_6 11 rfl rfl)
theorem dX7_lives_154 : decode cX7_lives 154 = .ok (.iload_n 3, 1) := dk_29 (dk_at dksX7_lives_6 12 rfl rfl)
theorem dX7_lives_155 : decode cX7_lives 155 = .ok (.invokevirtual 418, 3) := dk_182 1 162 (dk_at dksX7_lives_6 13 rfl rfl)
theorem dX7_lives_158 : decode cX7_lives 158 = .ok (.ifCond .ne 16, 3) := dk_154 0 16 (dk_at dksX7_lives_6 16 rfl rfl)
theorem dX7_lives_161 : decode cX7_lives 161 = .ok (.aload_n 0, 1) := dk_42 (dk_at dksX7_lives_6 19 rfl rfl)
theorem dX7_lives_162 : decode cX7_lives 162 = .ok (.getfield 7, 3) := dk_180 0 7 (dk_at dksX7_lives_6 20 rfl rfl)
theorem dX7_lives_165 : decode cX7_lives 165 = .ok (.iload_n 3, 1) := dk_29 (dk_at dksX7_lives_6 23 rfl rfl)
theorem dX7_lives_166 : decode cX7_lives 166 = .ok (.iconst 4, 1) := dk_7 (dk_at dksX7_lives_7 0 rfl rfl)
theorem dX7_lives_167 : decode cX7_lives 167 = .ok (.iadd, 1) := dk_96 (dk_at dksX7_lives_7 1 rfl rfl)
theorem dX7_lives_168 : decode cX7_lives 168 = .ok (.iaload, 1) := dk_46 (dk_at dksX7_lives_7 2 rfl rfl)
theorem dX7_lives_169 : decode cX7_lives 169 = .ok (.iconst 1, 1) := dk_4 (dk_at dksX7_lives_7 3 rfl rfl)
theorem dX7_lives_170 : decode cX7_lives 170 = .ok (.iadd, 1) := dk_96 (dk_at dksX7_lives_7 4 rfl rfl)
theorem dX7_lives_171 : decode cX7_lives 171 = .ok (.goto 6, 3) := dk_167 0 6 (dk_at dksX7_lives_7 5 rfl rfl)
theorem dX7_lives_174 : decode cX7_lives 174 = .ok (.iload_n 2, 1) := dk_28 (dk_at dksX7_lives_7 8 rfl rfl)
theorem dX7_lives_175 : decode cX7_lives 175 = .ok (.iconst 1, 1) := dk_4 (dk_at dksX7_lives_7 9 rfl rfl)
theorem dX7_lives_176 : decode cX7_lives 176 = .ok (.iadd, 1) := dk_96 (dk_at dksX7_lives_7 10 rfl rfl)
theorem dX7_lives_177 : decode cX7_lives 177 = .ok (.invokevirtual 421, 3) := dk_182 1 165 (dk_at dksX7_lives_7 11 rfl rfl)
theorem dX7_lives_180 : decode cX7_lives 180 = .ok (.istore_n 2, 1) := dk_61 (dk_at dksX7_lives_7 14 rfl rfl)
theorem dX7_lives_181 : decode cX7_lives 181 = .ok (.goto (-149), 3) := dk_167 255 107 (dk_at dksX7_lives_7 15 rfl rfl)
theorem dX7_lives_184 : decode cX7_lives 184 = .ok (.return_, 1) := dk_177 (dk_at dksX7_lives_7 18 rfl rfl)
abbrev cX7_does : ByteArray := prog_16_method_133_code
def yX7_does : MethodName := ⟨RX7, "does", "(I)Z"⟩
def dkwX7_does_6 : List UInt8 := [172, 4, 172]
abbrev dktX7_does_6 : List UInt8 := dkwX7_does_6 ++ []
def dkwX7_does_5 : List UInt8 := [180, 0, 7, 16, 10, 28, 79, 4, 172, 42, 182, 1, 133, 172, 42, 28, 182, 1, 150, 172, 42, 182, 1, 153]
abbrev dktX7_does_5 : List UInt8 := dkwX7_does_5 ++ dktX7_does_6
def dkwX7_does_4 : List UInt8 := [180, 0, 7, 6, 92, 46, 42, 28, 42, 180, 0, 7, 27, 5, 96, 46, 182, 1, 0, 130, 79, 4, 172, 42]
abbrev dktX7_does_4 : List UInt8 := dkwX7_does_4 ++ dktX7_does_5
def dkwX7_does_3 : List UInt8 := [28, 96, 79, 4, 172, 42, 28, 42, 180, 0, 7, 27, 5, 96, 46, 182, 1, 34, 158, 0, 5, 3, 172, 42]
abbrev dktX7_does_3 : List UInt8 := dkwX7_does_3 ++ dktX7_does_4
def dkwX7_does_2 : List UInt8 := [3, 62, 29, 28, 162, 0, 13, 42, 182, 1, 53, 132, 3, 1, 167, 255, 244, 42, 180, 0, 65, 4, 92, 46]
abbrev dktX7_does_2 : List UInt8 := dkwX7_does_2 ++ dktX7_does_3
def dkwX7_does_1 : List UInt8 := [170, 0, 0, 0, 134, 0, 0, 0, 9, 0, 0, 0, 14, 0, 0, 0, 37, 0, 0, 0, 66, 0, 0, 0, 108, 0, 0, 0, 118, 0, 0, 0, 123, 0, 0, 0, 129]
abbrev dktX7_does_1 : List UInt8 := dkwX7_does_1 ++ dktX7_does_2
def dkwX7_does_0 : List UInt8 := [42, 180, 0, 7, 27, 4, 96, 46, 61, 42, 180, 0, 7, 27, 46]
abbrev dktX7_does_0 : List UInt8 := dkwX7_does_0 ++ dktX7_does_1
theorem dksX7_does_0 : cX7_does.data.toList.drop 0 = dktX7_does_0 := by decide +kernel
theorem dksX7_does_1 : cX7_does.data.toList.drop 15 = dktX7_does_1 := dk_seg dksX7_does_0 15 rfl rfl
theorem dksX7_does_2 : cX7_does.data.toList.drop 52 = dktX7_does_2 := dk_seg dksX7_does_1 37 rfl rfl
theorem dksX7_does_3 : cX7_does.data.toList.drop 76 = dktX7_does_3 := dk_seg dksX7_does_2 24 rfl rfl
theorem dksX7_does_4 : cX7_does.data.toList.drop 100 = dktX7_does_4 := dk_seg dksX7_does_3 24 rfl rfl
theorem dksX7_does_5 : cX7_does.data.toList.drop 124 = dktX7_does_5 := dk_seg dksX7_does_4 24 rfl rfl
theorem dksX7_does_6 : cX7_does.data.toList.drop 148 = dktX7_does_6 := dk_seg dksX7_does_5 24 rfl rfl
theorem dX7_does_0 : decode cX7_does 0 = .ok (.aload_n 0, 1) := dk_42 (dk_at dksX7_does_0 0 rfl rfl)
theorem dX7_does_1 : decode cX7_does 1 = .ok (.getfield 7, 3) := dk_180 0 7 (dk_at dksX7_does_0 1 rfl rfl)
theorem dX7_does_4 : decode cX7_does 4 = .ok (.iload_n 1, 1) := dk_27 (dk_at dksX7_does_0 4 rfl rfl)
theorem dX7_does_5 : decode cX7_does 5 = .ok (.iconst 1, 1) := dk_4 (dk_at dksX7_does_0 5 rfl rfl)
theorem dX7_does_6 : decode cX7_does 6 = .ok (.iadd, 1) := dk_96 (dk_at dksX7_does_0 6 rfl rfl)
theorem dX7_does_7 : decode cX7_does 7 = .ok (.iaload, 1) := dk_46 (dk_at dksX7_does_0 7 rfl rfl)
theorem dX7_does_8 : decode cX7_does 8 = .ok (.istore_n 2, 1) := dk_61 (dk_at dksX7_does_0 8 rfl rfl)
theorem dX7_does_9 : decode cX7_does 9 = .ok (.aload_n 0, 1) := dk_42 (dk_at dksX7_does_0 9 rfl rfl)
theorem dX7_does_10 : decode cX7_does 10 = .ok (.getfield 7, 3) := dk_180 0 7 (dk_at dksX7_does_0 10 rfl rfl)
theorem dX7_does_13 : decode cX7_does 13 = .ok (.iload_n 1, 1) := dk_27 (dk_at dksX7_does_0 13 rfl rfl)
theorem dX7_does_14 : decode cX7_does 14 = .ok (.iaload, 1) := dk_46 (dk_at dksX7_does_0 14 rfl rfl)
theorem dX7_does_15 : decode cX7_does 15 = .ok (.tableswitch 134 9 14 #[37, 66, 108, 118, 123, 129], 37) := by decide +kernel
theorem dX7_does_52 : decode cX7_does 52 = .ok (.iconst 0, 1) := dk_3 (dk_at dksX7_does_2 0 rfl rfl)
theorem dX7_does_53 : decode cX7_does 53 = .ok (.istore_n 3, 1) := dk_62 (dk_at dksX7_does_2 1 rfl rfl)
theorem dX7_does_54 : decode cX7_does 54 = .ok (.iload_n 3, 1) := dk_29 (dk_at dksX7_does_2 2 rfl rfl)
theorem dX7_does_55 : decode cX7_does 55 = .ok (.iload_n 2, 1) := dk_28 (dk_at dksX7_does_2 3 rfl rfl)
theorem dX7_does_56 : decode cX7_does 56 = .ok (.if_icmp .ge 13, 3) := dk_162 0 13 (dk_at dksX7_does_2 4 rfl rfl)
theorem dX7_does_59 : decode cX7_does 59 = .ok (.aload_n 0, 1) := dk_42 (dk_at dksX7_does_2 7 rfl rfl)
theorem dX7_does_60 : decode cX7_does 60 = .ok (.invokevirtual 309, 3) := dk_182 1 53 (dk_at dksX7_does_2 8 rfl rfl)
theorem dX7_does_63 : decode cX7_does 63 = .ok (.iinc 3 1, 3) := dk_132 3 1 (dk_at dksX7_does_2 11 rfl rfl)
theorem dX7_does_66 : decode cX7_does 66 = .ok (.goto (-12), 3) := dk_167 255 244 (dk_at dksX7_does_2 14 rfl rfl)
theorem dX7_does_69 : decode cX7_does 69 = .ok (.aload_n 0, 1) := dk_42 (dk_at dksX7_does_2 17 rfl rfl)
theorem dX7_does_70 : decode cX7_does 70 = .ok (.getfield 65, 3) := dk_180 0 65 (dk_at dksX7_does_2 18 rfl rfl)
theorem dX7_does_73 : decode cX7_does 73 = .ok (.iconst 1, 1) := dk_4 (dk_at dksX7_does_2 21 rfl rfl)
theorem dX7_does_74 : decode cX7_does 74 = .ok (.dup2, 1) := dk_92 (dk_at dksX7_does_2 22 rfl rfl)
theorem dX7_does_75 : decode cX7_does 75 = .ok (.iaload, 1) := dk_46 (dk_at dksX7_does_2 23 rfl rfl)
theorem dX7_does_76 : decode cX7_does 76 = .ok (.iload_n 2, 1) := dk_28 (dk_at dksX7_does_3 0 rfl rfl)
theorem dX7_does_77 : decode cX7_does 77 = .ok (.iadd, 1) := dk_96 (dk_at dksX7_does_3 1 rfl rfl)
theorem dX7_does_78 : decode cX7_does 78 = .ok (.iastore, 1) := dk_79 (dk_at dksX7_does_3 2 rfl rfl)
theorem dX7_does_79 : decode cX7_does 79 = .ok (.iconst 1, 1) := dk_4 (dk_at dksX7_does_3 3 rfl rfl)
theorem dX7_does_80 : decode cX7_does 80 = .ok (.ireturn, 1) := dk_172 (dk_at dksX7_does_3 4 rfl rfl)
theorem dX7_does_81 : decode cX7_does 81 = .ok (.aload_n 0, 1) := dk_42 (dk_at dksX7_does_3 5 rfl rfl)
theorem dX7_does_82 : decode cX7_does 82 = .ok (.iload_n 2, 1) := dk_28 (dk_at dksX7_does_3 6 rfl rfl)
theorem dX7_does_83 : decode cX7_does 83 = .ok (.aload_n 0, 1) := dk_42 (dk_at dksX7_does_3 7 rfl rfl)
theorem dX7_does_84 : decode cX7_does 84 = .ok (.getfield 7, 3) := dk_180 0 7 (dk_at dksX7_does_3 8 rfl rfl)
theorem dX7_does_87 : decode cX7_does 87 = .ok (.iload_n 1, 1) := dk_27 (dk_at dksX7_does_3 11 rfl rfl)
theorem dX7_does_88 : decode cX7_does 88 = .ok (.iconst 2, 1) := dk_5 (dk_at dksX7_does_3 12 rfl rfl)
theorem dX7_does_89 : decode cX7_does 89 = .ok (.iadd, 1) := dk_96 (dk_at dksX7_does_3 13 rfl rfl)
theorem dX7_does_90 : decode cX7_does 90 = .ok (.iaload, 1) := dk_46 (dk_at dksX7_does_3 14 rfl rfl)
theorem dX7_does_91 : decode cX7_does 91 = .ok (.invokevirtual 290, 3) := dk_182 1 34 (dk_at dksX7_does_3 15 rfl rfl)
theorem dX7_does_94 : decode cX7_does 94 = .ok (.ifCond .le 5, 3) := dk_158 0 5 (dk_at dksX7_does_3 18 rfl rfl)
theorem dX7_does_97 : decode cX7_does 97 = .ok (.iconst 0, 1) := dk_3 (dk_at dksX7_does_3 21 rfl rfl)
theorem dX7_does_98 : decode cX7_does 98 = .ok (.ireturn, 1) := dk_172 (dk_at dksX7_does_3 22 rfl rfl)
theorem dX7_does_99 : decode cX7_does 99 = .ok (.aload_n 0, 1) := dk_42 (dk_at dksX7_does_3 23 rfl rfl)
theorem dX7_does_100 : decode cX7_does 100 = .ok (.getfield 7, 3) := dk_180 0 7 (dk_at dksX7_does_4 0 rfl rfl)
theorem dX7_does_103 : decode cX7_does 103 = .ok (.iconst 3, 1) := dk_6 (dk_at dksX7_does_4 3 rfl rfl)
theorem dX7_does_104 : decode cX7_does 104 = .ok (.dup2, 1) := dk_92 (dk_at dksX7_does_4 4 rfl rfl)
theorem dX7_does_105 : decode cX7_does 105 = .ok (.iaload, 1) := dk_46 (dk_at dksX7_does_4 5 rfl rfl)
theorem dX7_does_106 : decode cX7_does 106 = .ok (.aload_n 0, 1) := dk_42 (dk_at dksX7_does_4 6 rfl rfl)
theorem dX7_does_107 : decode cX7_does 107 = .ok (.iload_n 2, 1) := dk_28 (dk_at dksX7_does_4 7 rfl rfl)
theorem dX7_does_108 : decode cX7_does 108 = .ok (.aload_n 0, 1) := dk_42 (dk_at dksX7_does_4 8 rfl rfl)
theorem dX7_does_109 : decode cX7_does 109 = .ok (.getfield 7, 3) := dk_180 0 7 (dk_at dksX7_does_4 9 rfl rfl)
theorem dX7_does_112 : decode cX7_does 112 = .ok (.iload_n 1, 1) := dk_27 (dk_at dksX7_does_4 12 rfl rfl)
theorem dX7_does_113 : decode cX7_does 113 = .ok (.iconst 2, 1) := dk_5 (dk_at dksX7_does_4 13 rfl rfl)
theorem dX7_does_114 : decode cX7_does 114 = .ok (.iadd, 1) := dk_96 (dk_at dksX7_does_4 14 rfl rfl)
theorem dX7_does_115 : decode cX7_does 115 = .ok (.iaload, 1) := dk_46 (dk_at dksX7_does_4 15 rfl rfl)
theorem dX7_does_116 : decode cX7_does 116 = .ok (.invokevirtual 256, 3) := dk_182 1 0 (dk_at dksX7_does_4 16 rfl rfl)
theorem dX7_does_119 : decode cX7_does 119 = .ok (.ixor, 1) := dk_130 (dk_at dksX7_does_4 19 rfl rfl)
theorem dX7_does_120 : decode cX7_does 120 = .ok (.iastore, 1) := dk_79 (dk_at dksX7_does_4 20 rfl rfl)
theorem dX7_does_121 : decode cX7_does 121 = .ok (.iconst 1, 1) := dk_4 (dk_at dksX7_does_4 21 rfl rfl)
theorem dX7_does_122 : decode cX7_does 122 = .ok (.ireturn, 1) := dk_172 (dk_at dksX7_does_4 22 rfl rfl)
theorem dX7_does_123 : decode cX7_does 123 = .ok (.aload_n 0, 1) := dk_42 (dk_at dksX7_does_4 23 rfl rfl)
theorem dX7_does_124 : decode cX7_does 124 = .ok (.getfield 7, 3) := dk_180 0 7 (dk_at dksX7_does_5 0 rfl rfl)
theorem dX7_does_127 : decode cX7_does 127 = .ok (.bipush 10, 2) := dk_16 10 (dk_at dksX7_does_5 3 rfl rfl)
theorem dX7_does_129 : decode cX7_does 129 = .ok (.iload_n 2, 1) := dk_28 (dk_at dksX7_does_5 5 rfl rfl)
theorem dX7_does_130 : decode cX7_does 130 = .ok (.iastore, 1) := dk_79 (dk_at dksX7_does_5 6 rfl rfl)
theorem dX7_does_131 : decode cX7_does 131 = .ok (.iconst 1, 1) := dk_4 (dk_at dksX7_does_5 7 rfl rfl)
theorem dX7_does_132 : decode cX7_does 132 = .ok (.ireturn, 1) := dk_172 (dk_at dksX7_does_5 8 rfl rfl)
theorem dX7_does_133 : decode cX7_does 133 = .ok (.aload_n 0, 1) := dk_42 (dk_at dksX7_does_5 9 rfl rfl)
theorem dX7_does_134 : decode cX7_does 134 = .ok (.invokevirtual 389, 3) := dk_182 1 133 (dk_at dksX7_does_5 10 rfl rfl)
theorem dX7_does_137 : decode cX7_does 137 = .ok (.ireturn, 1) := dk_172 (dk_at dksX7_does_5 13 rfl rfl)
theorem dX7_does_138 : decode cX7_does 138 = .ok (.aload_n 0, 1) := dk_42 (dk_at dksX7_does_5 14 rfl rfl)
theorem dX7_does_139 : decode cX7_does 139 = .ok (.iload_n 2, 1) := dk_28 (dk_at dksX7_does_5 15 rfl rfl)
theorem dX7_does_140 : decode cX7_does 140 = .ok (.invokevirtual 406, 3) := dk_182 1 150 (dk_at dksX7_does_5 16 rfl rfl)
theorem dX7_does_143 : decode cX7_does 143 = .ok (.ireturn, 1) := dk_172 (dk_at dksX7_does_5 19 rfl rfl)
theorem dX7_does_144 : decode cX7_does 144 = .ok (.aload_n 0, 1) := dk_42 (dk_at dksX7_does_5 20 rfl rfl)
theorem dX7_does_145 : decode cX7_does 145 = .ok (.invokevirtual 409, 3) := dk_182 1 153 (dk_at dksX7_does_5 21 rfl rfl)
theorem dX7_does_148 : decode cX7_does 148 = .ok (.ireturn, 1) := dk_172 (dk_at dksX7_does_6 0 rfl rfl)
theorem dX7_does_149 : decode cX7_does 149 = .ok (.iconst 1, 1) := dk_4 (dk_at dksX7_does_6 1 rfl rfl)
theorem dX7_does_150 : decode cX7_does 150 = .ok (.ireturn, 1) := dk_172 (dk_at dksX7_does_6 2 rfl rfl)
abbrev cX7_storms : ByteArray := prog_16_method_131_code
def yX7_storms : MethodName := ⟨RX7, "storms", "(I)Z"⟩
def dkwX7_storms_3 : List UInt8 := [132, 3, 1, 167, 255, 200, 4, 172]
abbrev dktX7_storms_3 : List UInt8 := dkwX7_storms_3 ++ []
def dkwX7_storms_2 : List UInt8 := [42, 180, 0, 7, 6, 92, 46, 4, 29, 120, 2, 130, 126, 79, 42, 180, 0, 65, 5, 92, 46, 4, 96, 79]
abbrev dktX7_storms_2 : List UInt8 := dkwX7_storms_2 ++ dktX7_storms_3
def dkwX7_storms_1 : List UInt8 := [162, 0, 54, 28, 29, 122, 4, 126, 153, 0, 40, 42, 16, 16, 182, 1, 147, 27, 161, 0, 6, 167, 0, 27]
abbrev dktX7_storms_1 : List UInt8 := dkwX7_storms_1 ++ dktX7_storms_2
def dkwX7_storms_0 : List UInt8 := [42, 180, 0, 7, 6, 46, 42, 180, 0, 7, 7, 46, 2, 130, 126, 61, 3, 62, 29, 42, 182, 1, 6]
abbrev dktX7_storms_0 : List UInt8 := dkwX7_storms_0 ++ dktX7_storms_1
theorem dksX7_storms_0 : cX7_storms.data.toList.drop 0 = dktX7_storms_0 := by decide +kernel
theorem dksX7_storms_1 : cX7_storms.data.toList.drop 23 = dktX7_storms_1 := dk_seg dksX7_storms_0 23 rfl rfl
theorem dksX7_storms_2 : cX7_storms.data.toList.drop 47 = dktX7_storms_2 := dk_seg dksX7_storms_1 24 rfl rfl
theorem dksX7_storms_3 : cX7_storms.data.toList.drop 71 = dktX7_storms_3 := dk_seg dksX7_storms_2 24 rfl rfl
theorem dX7_storms_0 : decode cX7_storms 0 = .ok (.aload_n 0, 1) := dk_42 (dk_at dksX7_storms_0 0 rfl rfl)
theorem dX7_storms_1 : decode cX7_storms 1 = .ok (.getfield 7, 3) := dk_180 0 7 (dk_at dksX7_storms_0 1 rfl rfl)
theorem dX7_storms_4 : decode cX7_storms 4 = .ok (.iconst 3, 1) := dk_6 (dk_at dksX7_storms_0 4 rfl rfl)
theorem dX7_storms_5 : decode cX7_storms 5 = .ok (.iaload, 1) := dk_46 (dk_at dksX7_storms_0 5 rfl rfl)
theorem dX7_storms_6 : decode cX7_storms 6 = .ok (.aload_n 0, 1) := dk_42 (dk_at dksX7_storms_0 6 rfl rfl)
theorem dX7_storms_7 : decode cX7_storms 7 = .ok (.getfield 7, 3) := dk_180 0 7 (dk_at dksX7_storms_0 7 rfl rfl)
theorem dX7_storms_10 : decode cX7_storms 10 = .ok (.iconst 4, 1) := dk_7 (dk_at dksX7_storms_0 10 rfl rfl)
theorem dX7_storms_11 : decode cX7_storms 11 = .ok (.iaload, 1) := dk_46 (dk_at dksX7_storms_0 11 rfl rfl)
theorem dX7_storms_12 : decode cX7_storms 12 = .ok (.iconst (-1), 1) := dk_2 (dk_at dksX7_storms_0 12 rfl rfl)
theorem dX7_storms_13 : decode cX7_storms 13 = .ok (.ixor, 1) := dk_130 (dk_at dksX7_storms_0 13 rfl rfl)
theorem dX7_storms_14 : decode cX7_storms 14 = .ok (.iand, 1) := dk_126 (dk_at dksX7_storms_0 14 rfl rfl)
theorem dX7_storms_15 : decode cX7_storms 15 = .ok (.istore_n 2, 1) := dk_61 (dk_at dksX7_storms_0 15 rfl rfl)
theorem dX7_storms_16 : decode cX7_storms 16 = .ok (.iconst 0, 1) := dk_3 (dk_at dksX7_storms_0 16 rfl rfl)
theorem dX7_storms_17 : decode cX7_storms 17 = .ok (.istore_n 3, 1) := dk_62 (dk_at dksX7_storms_0 17 rfl rfl)
theorem dX7_storms_18 : decode cX7_storms 18 = .ok (.iload_n 3, 1) := dk_29 (dk_at dksX7_storms_0 18 rfl rfl)
theorem dX7_storms_19 : decode cX7_storms 19 = .ok (.aload_n 0, 1) := dk_42 (dk_at dksX7_storms_0 19 rfl rfl)
theorem dX7_storms_20 : decode cX7_storms 20 = .ok (.invokevirtual 262, 3) := dk_182 1 6 (dk_at dksX7_storms_0 20 rfl rfl)
theorem dX7_storms_23 : decode cX7_storms 23 = .ok (.if_icmp .ge 54, 3) := dk_162 0 54 (dk_at dksX7_storms_1 0 rfl rfl)
theorem dX7_storms_26 : decode cX7_storms 26 = .ok (.iload_n 2, 1) := dk_28 (dk_at dksX7_storms_1 3 rfl rfl)
theorem dX7_storms_27 : decode cX7_storms 27 = .ok (.iload_n 3, 1) := dk_29 (dk_at dksX7_storms_1 4 rfl rfl)
theorem dX7_storms_28 : decode cX7_storms 28 = .ok (.ishr, 1) := dk_122 (dk_at dksX7_storms_1 5 rfl rfl)
theorem dX7_storms_29 : decode cX7_storms 29 = .ok (.iconst 1, 1) := dk_4 (dk_at dksX7_storms_1 6 rfl rfl)
theorem dX7_storms_30 : decode cX7_storms 30 = .ok (.iand, 1) := dk_126 (dk_at dksX7_storms_1 7 rfl rfl)
theorem dX7_storms_31 : decode cX7_storms 31 = .ok (.ifCond .eq 40, 3) := dk_153 0 40 (dk_at dksX7_storms_1 8 rfl rfl)
theorem dX7_storms_34 : decode cX7_storms 34 = .ok (.aload_n 0, 1) := dk_42 (dk_at dksX7_storms_1 11 rfl rfl)
theorem dX7_storms_35 : decode cX7_storms 35 = .ok (.bipush 16, 2) := dk_16 16 (dk_at dksX7_storms_1 12 rfl rfl)
theorem dX7_storms_37 : decode cX7_storms 37 = .ok (.invokevirtual 403, 3) := dk_182 1 147 (dk_at dksX7_storms_1 14 rfl rfl)
theorem dX7_storms_40 : decode cX7_storms 40 = .ok (.iload_n 1, 1) := dk_27 (dk_at dksX7_storms_1 17 rfl rfl)
theorem dX7_storms_41 : decode cX7_storms 41 = .ok (.if_icmp .lt 6, 3) := dk_161 0 6 (dk_at dksX7_storms_1 18 rfl rfl)
theorem dX7_storms_44 : decode cX7_storms 44 = .ok (.goto 27, 3) := dk_167 0 27 (dk_at dksX7_storms_1 21 rfl rfl)
theorem dX7_storms_47 : decode cX7_storms 47 = .ok (.aload_n 0, 1) := dk_42 (dk_at dksX7_storms_2 0 rfl rfl)
theorem dX7_storms_48 : decode cX7_storms 48 = .ok (.getfield 7, 3) := dk_180 0 7 (dk_at dksX7_storms_2 1 rfl rfl)
theorem dX7_storms_51 : decode cX7_storms 51 = .ok (.iconst 3, 1) := dk_6 (dk_at dksX7_storms_2 4 rfl rfl)
theorem dX7_storms_52 : decode cX7_storms 52 = .ok (.dup2, 1) := dk_92 (dk_at dksX7_storms_2 5 rfl rfl)
theorem dX7_storms_53 : decode cX7_storms 53 = .ok (.iaload, 1) := dk_46 (dk_at dksX7_storms_2 6 rfl rfl)
theorem dX7_storms_54 : decode cX7_storms 54 = .ok (.iconst 1, 1) := dk_4 (dk_at dksX7_storms_2 7 rfl rfl)
theorem dX7_storms_55 : decode cX7_storms 55 = .ok (.iload_n 3, 1) := dk_29 (dk_at dksX7_storms_2 8 rfl rfl)
theorem dX7_storms_56 : decode cX7_storms 56 = .ok (.ishl, 1) := dk_120 (dk_at dksX7_storms_2 9 rfl rfl)
theorem dX7_storms_57 : decode cX7_storms 57 = .ok (.iconst (-1), 1) := dk_2 (dk_at dksX7_storms_2 10 rfl rfl)
theorem dX7_storms_58 : decode cX7_storms 58 = .ok (.ixor, 1) := dk_130 (dk_at dksX7_storms_2 11 rfl rfl)
theorem dX7_storms_59 : decode cX7_storms 59 = .ok (.iand, 1) := dk_126 (dk_at dksX7_storms_2 12 rfl rfl)
theorem dX7_storms_60 : decode cX7_storms 60 = .ok (.iastore, 1) := dk_79 (dk_at dksX7_storms_2 13 rfl rfl)
theorem dX7_storms_61 : decode cX7_storms 61 = .ok (.aload_n 0, 1) := dk_42 (dk_at dksX7_storms_2 14 rfl rfl)
theorem dX7_storms_62 : decode cX7_storms 62 = .ok (.getfield 65, 3) := dk_180 0 65 (dk_at dksX7_storms_2 15 rfl rfl)
theorem dX7_storms_65 : decode cX7_storms 65 = .ok (.iconst 2, 1) := dk_5 (dk_at dksX7_storms_2 18 rfl rfl)
theorem dX7_storms_66 : decode cX7_storms 66 = .ok (.dup2, 1) := dk_92 (dk_at dksX7_storms_2 19 rfl rfl)
theorem dX7_storms_67 : decode cX7_storms 67 = .ok (.iaload, 1) := dk_46 (dk_at dksX7_storms_2 20 rfl rfl)
theorem dX7_storms_68 : decode cX7_storms 68 = .ok (.iconst 1, 1) := dk_4 (dk_at dksX7_storms_2 21 rfl rfl)
theorem dX7_storms_69 : decode cX7_storms 69 = .ok (.iadd, 1) := dk_96 (dk_at dksX7_storms_2 22 rfl rfl)
theorem dX7_storms_70 : decode cX7_storms 70 = .ok (.iastore, 1) := dk_79 (dk_at dksX7_storms_2 23 rfl rfl)
theorem dX7_storms_71 : decode cX7_storms 71 = .ok (.iinc 3 1, 3) := dk_132 3 1 (dk_at dksX7_storms_3 0 rfl rfl)
theorem dX7_storms_74 : decode cX7_storms 74 = .ok (.goto (-56), 3) := dk_167 255 200 (dk_at dksX7_storms_3 3 rfl rfl)
theorem dX7_storms_77 : decode cX7_storms 77 = .ok (.iconst 1, 1) := dk_4 (dk_at dksX7_storms_3 6 rfl rfl)
theorem dX7_storms_78 : decode cX7_storms 78 = .ok (.ireturn, 1) := dk_172 (dk_at dksX7_storms_3 7 rfl rfl)
abbrev cX7_draw : ByteArray := prog_16_method_130_code
def yX7_draw : MethodName := ⟨RX7, "draw", "(I)I"⟩
def dkwX7_draw_1 : List UInt8 := [16, 8, 108, 27, 112, 172]
abbrev dktX7_draw_1 : List UInt8 := dkwX7_draw_1 ++ []
def dkwX7_draw_0 : List UInt8 := [42, 42, 180, 1, 143, 17, 11, 63, 104, 17, 43, 75, 96, 19, 1, 146, 112, 181, 1, 143, 42, 180, 1, 143]
abbrev dktX7_draw_0 : List UInt8 := dkwX7_draw_0 ++ dktX7_draw_1
theorem dksX7_draw_0 : cX7_draw.data.toList.drop 0 = dktX7_draw_0 := by decide +kernel
theorem dksX7_draw_1 : cX7_draw.data.toList.drop 24 = dktX7_draw_1 := dk_seg dksX7_draw_0 24 rfl rfl
theorem dX7_draw_0 : decode cX7_draw 0 = .ok (.aload_n 0, 1) := dk_42 (dk_at dksX7_draw_0 0 rfl rfl)
theorem dX7_draw_1 : decode cX7_draw 1 = .ok (.aload_n 0, 1) := dk_42 (dk_at dksX7_draw_0 1 rfl rfl)
theorem dX7_draw_2 : decode cX7_draw 2 = .ok (.getfield 399, 3) := dk_180 1 143 (dk_at dksX7_draw_0 2 rfl rfl)
theorem dX7_draw_5 : decode cX7_draw 5 = .ok (.sipush 2879, 3) := dk_17 11 63 (dk_at dksX7_draw_0 5 rfl rfl)
theorem dX7_draw_8 : decode cX7_draw 8 = .ok (.imul, 1) := dk_104 (dk_at dksX7_draw_0 8 rfl rfl)
theorem dX7_draw_9 : decode cX7_draw 9 = .ok (.sipush 11083, 3) := dk_17 43 75 (dk_at dksX7_draw_0 9 rfl rfl)
theorem dX7_draw_12 : decode cX7_draw 12 = .ok (.iadd, 1) := dk_96 (dk_at dksX7_draw_0 12 rfl rfl)
theorem dX7_draw_13 : decode cX7_draw 13 = .ok (.ldc_w 402, 3) := dk_19 1 146 (dk_at dksX7_draw_0 13 rfl rfl)
theorem dX7_draw_16 : decode cX7_draw 16 = .ok (.irem, 1) := dk_112 (dk_at dksX7_draw_0 16 rfl rfl)
theorem dX7_draw_17 : decode cX7_draw 17 = .ok (.putfield 399, 3) := dk_181 1 143 (dk_at dksX7_draw_0 17 rfl rfl)
theorem dX7_draw_20 : decode cX7_draw 20 = .ok (.aload_n 0, 1) := dk_42 (dk_at dksX7_draw_0 20 rfl rfl)
theorem dX7_draw_21 : decode cX7_draw 21 = .ok (.getfield 399, 3) := dk_180 1 143 (dk_at dksX7_draw_0 21 rfl rfl)
theorem dX7_draw_24 : decode cX7_draw 24 = .ok (.bipush 8, 2) := dk_16 8 (dk_at dksX7_draw_1 0 rfl rfl)
theorem dX7_draw_26 : decode cX7_draw 26 = .ok (.idiv, 1) := dk_108 (dk_at dksX7_draw_1 2 rfl rfl)
theorem dX7_draw_27 : decode cX7_draw 27 = .ok (.iload_n 1, 1) := dk_27 (dk_at dksX7_draw_1 3 rfl rfl)
theorem dX7_draw_28 : decode cX7_draw 28 = .ok (.irem, 1) := dk_112 (dk_at dksX7_draw_1 4 rfl rfl)
theorem dX7_draw_29 : decode cX7_draw 29 = .ok (.ireturn, 1) := dk_172 (dk_at dksX7_draw_1 5 rfl rfl)
abbrev cX7_isBorn : ByteArray := prog_16_method_132_code
def yX7_isBorn : MethodName := ⟨RX7, "isBorn", "()Z"⟩
def dkwX7_isBorn_2 : List UInt8 := [42, 180, 0, 7, 6, 92, 46, 28, 128, 79, 42, 180, 0, 65, 6, 92, 46, 4, 96, 79, 4, 172]
abbrev dktX7_isBorn_2 : List UInt8 := dkwX7_isBorn_2 ++ []
def dkwX7_isBorn_1 : List UInt8 := [182, 1, 0, 61, 42, 182, 1, 12, 42, 180, 0, 7, 6, 46, 2, 130, 126, 28, 126, 154, 0, 5, 3, 172]
abbrev dktX7_isBorn_1 : List UInt8 := dkwX7_isBorn_1 ++ dktX7_isBorn_2
def dkwX7_isBorn_0 : List UInt8 := [42, 42, 180, 0, 7, 3, 46, 182, 1, 147, 60, 42, 27, 42, 42, 180, 0, 7, 4, 46, 182, 1, 147]
abbrev dktX7_isBorn_0 : List UInt8 := dkwX7_isBorn_0 ++ dktX7_isBorn_1
theorem dksX7_isBorn_0 : cX7_isBorn.data.toList.drop 0 = dktX7_isBorn_0 := by decide +kernel
theorem dksX7_isBorn_1 : cX7_isBorn.data.toList.drop 23 = dktX7_isBorn_1 := dk_seg dksX7_isBorn_0 23 rfl rfl
theorem dksX7_isBorn_2 : cX7_isBorn.data.toList.drop 47 = dktX7_isBorn_2 := dk_seg dksX7_isBorn_1 24 rfl rfl
theorem dX7_isBorn_0 : decode cX7_isBorn 0 = .ok (.aload_n 0, 1) := dk_42 (dk_at dksX7_isBorn_0 0 rfl rfl)
theorem dX7_isBorn_1 : decode cX7_isBorn 1 = .ok (.aload_n 0, 1) := dk_42 (dk_at dksX7_isBorn_0 1 rfl rfl)
theorem dX7_isBorn_2 : decode cX7_isBorn 2 = .ok (.getfield 7, 3) := dk_180 0 7 (dk_at dksX7_isBorn_0 2 rfl rfl)
theorem dX7_isBorn_5 : decode cX7_isBorn 5 = .ok (.iconst 0, 1) := dk_3 (dk_at dksX7_isBorn_0 5 rfl rfl)
theorem dX7_isBorn_6 : decode cX7_isBorn 6 = .ok (.iaload, 1) := dk_46 (dk_at dksX7_isBorn_0 6 rfl rfl)
theorem dX7_isBorn_7 : decode cX7_isBorn 7 = .ok (.invokevirtual 403, 3) := dk_182 1 147 (dk_at dksX7_isBorn_0 7 rfl rfl)
theorem dX7_isBorn_10 : decode cX7_isBorn 10 = .ok (.istore_n 1, 1) := dk_60 (dk_at dksX7_isBorn_0 10 rfl rfl)
theorem dX7_isBorn_11 : decode cX7_isBorn 11 = .ok (.aload_n 0, 1) := dk_42 (dk_at dksX7_isBorn_0 11 rfl rfl)
theorem dX7_isBorn_12 : decode cX7_isBorn 12 = .ok (.iload_n 1, 1) := dk_27 (dk_at dksX7_isBorn_0 12 rfl rfl)
theorem dX7_isBorn_13 : decode cX7_isBorn 13 = .ok (.aload_n 0, 1) := dk_42 (dk_at dksX7_isBorn_0 13 rfl rfl)
theorem dX7_isBorn_14 : decode cX7_isBorn 14 = .ok (.aload_n 0, 1) := dk_42 (dk_at dksX7_isBorn_0 14 rfl rfl)
theorem dX7_isBorn_15 : decode cX7_isBorn 15 = .ok (.getfield 7, 3) := dk_180 0 7 (dk_at dksX7_isBorn_0 15 rfl rfl)
theorem dX7_isBorn_18 : decode cX7_isBorn 18 = .ok (.iconst 1, 1) := dk_4 (dk_at dksX7_isBorn_0 18 rfl rfl)
theorem dX7_isBorn_19 : decode cX7_isBorn 19 = .ok (.iaload, 1) := dk_46 (dk_at dksX7_isBorn_0 19 rfl rfl)
theorem dX7_isBorn_20 : decode cX7_isBorn 20 = .ok (.invokevirtual 403, 3) := dk_182 1 147 (dk_at dksX7_isBorn_0 20 rfl rfl)
theorem dX7_isBorn_23 : decode cX7_isBorn 23 = .ok (.invokevirtual 256, 3) := dk_182 1 0 (dk_at dksX7_isBorn_1 0 rfl rfl)
theorem dX7_isBorn_26 : decode cX7_isBorn 26 = .ok (.istore_n 2, 1) := dk_61 (dk_at dksX7_isBorn_1 3 rfl rfl)
theorem dX7_isBorn_27 : decode cX7_isBorn 27 = .ok (.aload_n 0, 1) := dk_42 (dk_at dksX7_isBorn_1 4 rfl rfl)
theorem dX7_isBorn_28 : decode cX7_isBorn 28 = .ok (.invokevirtual 268, 3) := dk_182 1 12 (dk_at dksX7_isBorn_1 5 rfl rfl)
theorem dX7_isBorn_31 : decode cX7_isBorn 31 = .ok (.aload_n 0, 1) := dk_42 (dk_at dksX7_isBorn_1 8 rfl rfl)
theorem dX7_isBorn_32 : decode cX7_isBorn 32 = .ok (.getfield 7, 3) := dk_180 0 7 (dk_at dksX7_isBorn_1 9 rfl rfl)
theorem dX7_isBorn_35 : decode cX7_isBorn 35 = .ok (.iconst 3, 1) := dk_6 (dk_at dksX7_isBorn_1 12 rfl rfl)
theorem dX7_isBorn_36 : decode cX7_isBorn 36 = .ok (.iaload, 1) := dk_46 (dk_at dksX7_isBorn_1 13 rfl rfl)
theorem dX7_isBorn_37 : decode cX7_isBorn 37 = .ok (.iconst (-1), 1) := dk_2 (dk_at dksX7_isBorn_1 14 rfl rfl)
theorem dX7_isBorn_38 : decode cX7_isBorn 38 = .ok (.ixor, 1) := dk_130 (dk_at dksX7_isBorn_1 15 rfl rfl)
theorem dX7_isBorn_39 : decode cX7_isBorn 39 = .ok (.iand, 1) := dk_126 (dk_at dksX7_isBorn_1 16 rfl rfl)
theorem dX7_isBorn_40 : decode cX7_isBorn 40 = .ok (.iload_n 2, 1) := dk_28 (dk_at dksX7_isBorn_1 17 rfl rfl)
theorem dX7_isBorn_41 : decode cX7_isBorn 41 = .ok (.iand, 1) := dk_126 (dk_at dksX7_isBorn_1 18 rfl rfl)
theorem dX7_isBorn_42 : decode cX7_isBorn 42 = .ok (.ifCond .ne 5, 3) := dk_154 0 5 (dk_at dksX7_isBorn_1 19 rfl rfl)
theorem dX7_isBorn_45 : decode cX7_isBorn 45 = .ok (.iconst 0, 1) := dk_3 (dk_at dksX7_isBorn_1 22 rfl rfl)
theorem dX7_isBorn_46 : decode cX7_isBorn 46 = .ok (.ireturn, 1) := dk_172 (dk_at dksX7_isBorn_1 23 rfl rfl)
theorem dX7_isBorn_47 : decode cX7_isBorn 47 = .ok (.aload_n 0, 1) := dk_42 (dk_at dksX7_isBorn_2 0 rfl rfl)
theorem dX7_isBorn_48 : decode cX7_isBorn 48 = .ok (.getfield 7, 3) := dk_180 0 7 (dk_at dksX7_isBorn_2 1 rfl rfl)
theorem dX7_isBorn_51 : decode cX7_isBorn 51 = .ok (.iconst 3, 1) := dk_6 (dk_at dksX7_isBorn_2 4 rfl rfl)
theorem dX7_isBorn_52 : decode cX7_isBorn 52 = .ok (.dup2, 1) := dk_92 (dk_at dksX7_isBorn_2 5 rfl rfl)
theorem dX7_isBorn_53 : decode cX7_isBorn 53 = .ok (.iaload, 1) := dk_46 (dk_at dksX7_isBorn_2 6 rfl rfl)
theorem dX7_isBorn_54 : decode cX7_isBorn 54 = .ok (.iload_n 2, 1) := dk_28 (dk_at dksX7_isBorn_2 7 rfl rfl)
theorem dX7_isBorn_55 : decode cX7_isBorn 55 = .ok (.ior, 1) := dk_128 (dk_at dksX7_isBorn_2 8 rfl rfl)
theorem dX7_isBorn_56 : decode cX7_isBorn 56 = .ok (.iastore, 1) := dk_79 (dk_at dksX7_isBorn_2 9 rfl rfl)
theorem dX7_isBorn_57 : decode cX7_isBorn 57 = .ok (.aload_n 0, 1) := dk_42 (dk_at dksX7_isBorn_2 10 rfl rfl)
theorem dX7_isBorn_58 : decode cX7_isBorn 58 = .ok (.getfield 65, 3) := dk_180 0 65 (dk_at dksX7_isBorn_2 11 rfl rfl)
theorem dX7_isBorn_61 : decode cX7_isBorn 61 = .ok (.iconst 3, 1) := dk_6 (dk_at dksX7_isBorn_2 14 rfl rfl)
theorem dX7_isBorn_62 : decode cX7_isBorn 62 = .ok (.dup2, 1) := dk_92 (dk_at dksX7_isBorn_2 15 rfl rfl)
theorem dX7_isBorn_63 : decode cX7_isBorn 63 = .ok (.iaload, 1) := dk_46 (dk_at dksX7_isBorn_2 16 rfl rfl)
theorem dX7_isBorn_64 : decode cX7_isBorn 64 = .ok (.iconst 1, 1) := dk_4 (dk_at dksX7_isBorn_2 17 rfl rfl)
theorem dX7_isBorn_65 : decode cX7_isBorn 65 = .ok (.iadd, 1) := dk_96 (dk_at dksX7_isBorn_2 18 rfl rfl)
theorem dX7_isBorn_66 : decode cX7_isBorn 66 = .ok (.iastore, 1) := dk_79 (dk_at dksX7_isBorn_2 19 rfl rfl)
theorem dX7_isBorn_67 : decode cX7_isBorn 67 = .ok (.iconst 1, 1) := dk_4 (dk_at dksX7_isBorn_2 20 rfl rfl)
theorem dX7_isBorn_68 : decode cX7_isBorn 68 = .ok (.ireturn, 1) := dk_172 (dk_at dksX7_isBorn_2 21 rfl rfl)
abbrev cX7_holds : ByteArray := prog_16_method_134_code
def yX7_holds : MethodName := ⟨RX7, "holds", "(I)Z"⟩
def dkwX7_holds_6 : List UInt8 := [42, 180, 0, 7, 27, 4, 96, 46, 160, 0, 7, 4, 167, 0, 4, 3, 172]
abbrev dktX7_holds_6 : List UInt8 := dkwX7_holds_6 ++ []
def dkwX7_holds_5 : List UInt8 := [160, 0, 23, 29, 42, 180, 0, 7, 27, 4, 96, 46, 164, 0, 7, 4, 167, 0, 24, 3, 167, 0, 20, 29]
abbrev dktX7_holds_5 : List UInt8 := dkwX7_holds_5 ++ dktX7_holds_6
def dkwX7_holds_4 : List UInt8 := [96, 46, 162, 0, 7, 4, 167, 0, 57, 3, 167, 0, 53, 42, 180, 0, 7, 27, 8, 96, 46, 16, 62]
abbrev dktX7_holds_4 : List UInt8 := dkwX7_holds_4 ++ dktX7_holds_5
def dkwX7_holds_3 : List UInt8 := [184, 0, 226, 62, 42, 180, 0, 7, 27, 8, 96, 46, 16, 60, 160, 0, 23, 29, 42, 180, 0, 7, 27, 4]
abbrev dktX7_holds_3 : List UInt8 := dkwX7_holds_3 ++ dktX7_holds_4
def dkwX7_holds_2 : List UInt8 := [27, 5, 96, 46, 182, 1, 0, 126, 153, 0, 7, 4, 167, 0, 4, 3, 172, 42, 180, 0, 7, 6, 46]
abbrev dktX7_holds_2 : List UInt8 := dkwX7_holds_2 ++ dktX7_holds_3
def dkwX7_holds_1 : List UInt8 := [16, 20, 160, 0, 39, 42, 180, 0, 7, 6, 46, 42, 42, 180, 0, 7, 27, 4, 96, 46, 42, 180, 0, 7]
abbrev dktX7_holds_1 : List UInt8 := dkwX7_holds_1 ++ dktX7_holds_2
def dkwX7_holds_0 : List UInt8 := [42, 180, 0, 7, 27, 46, 17, 5, 220, 100, 61, 28, 16, 21, 160, 0, 8, 42, 182, 1, 74, 172, 28]
abbrev dktX7_holds_0 : List UInt8 := dkwX7_holds_0 ++ dktX7_holds_1
theorem dksX7_holds_0 : cX7_holds.data.toList.drop 0 = dktX7_holds_0 := by decide +kernel
theorem dksX7_holds_1 : cX7_holds.data.toList.drop 23 = dktX7_holds_1 := dk_seg dksX7_holds_0 23 rfl rfl
theorem dksX7_holds_2 : cX7_holds.data.toList.drop 47 = dktX7_holds_2 := dk_seg dksX7_holds_1 24 rfl rfl
theorem dksX7_holds_3 : cX7_holds.data.toList.drop 70 = dktX7_holds_3 := dk_seg dksX7_holds_2 23 rfl rfl
theorem dksX7_holds_4 : cX7_holds.data.toList.drop 94 = dktX7_holds_4 := dk_seg dksX7_holds_3 24 rfl rfl
theorem dksX7_holds_5 : cX7_holds.data.toList.drop 117 = dktX7_holds_5 := dk_seg dksX7_holds_4 23 rfl rfl
theorem dksX7_holds_6 : cX7_holds.data.toList.drop 141 = dktX7_holds_6 := dk_seg dksX7_holds_5 24 rfl rfl
theorem dX7_holds_0 : decode cX7_holds 0 = .ok (.aload_n 0, 1) := dk_42 (dk_at dksX7_holds_0 0 rfl rfl)
theorem dX7_holds_1 : decode cX7_holds 1 = .ok (.getfield 7, 3) := dk_180 0 7 (dk_at dksX7_holds_0 1 rfl rfl)
theorem dX7_holds_4 : decode cX7_holds 4 = .ok (.iload_n 1, 1) := dk_27 (dk_at dksX7_holds_0 4 rfl rfl)
theorem dX7_holds_5 : decode cX7_holds 5 = .ok (.iaload, 1) := dk_46 (dk_at dksX7_holds_0 5 rfl rfl)
theorem dX7_holds_6 : decode cX7_holds 6 = .ok (.sipush 1500, 3) := dk_17 5 220 (dk_at dksX7_holds_0 6 rfl rfl)
theorem dX7_holds_9 : decode cX7_holds 9 = .ok (.isub, 1) := dk_100 (dk_at dksX7_holds_0 9 rfl rfl)
theorem dX7_holds_10 : decode cX7_holds 10 = .ok (.istore_n 2, 1) := dk_61 (dk_at dksX7_holds_0 10 rfl rfl)
theorem dX7_holds_11 : decode cX7_holds 11 = .ok (.iload_n 2, 1) := dk_28 (dk_at dksX7_holds_0 11 rfl rfl)
theorem dX7_holds_12 : decode cX7_holds 12 = .ok (.bipush 21, 2) := dk_16 21 (dk_at dksX7_holds_0 12 rfl rfl)
theorem dX7_holds_14 : decode cX7_holds 14 = .ok (.if_icmp .ne 8, 3) := dk_160 0 8 (dk_at dksX7_holds_0 14 rfl rfl)
theorem dX7_holds_17 : decode cX7_holds 17 = .ok (.aload_n 0, 1) := dk_42 (dk_at dksX7_holds_0 17 rfl rfl)
theorem dX7_holds_18 : decode cX7_holds 18 = .ok (.invokevirtual 330, 3) := dk_182 1 74 (dk_at dksX7_holds_0 18 rfl rfl)
theorem dX7_holds_21 : decode cX7_holds 21 = .ok (.ireturn, 1) := dk_172 (dk_at dksX7_holds_0 21 rfl rfl)
theorem dX7_holds_22 : decode cX7_holds 22 = .ok (.iload_n 2, 1) := dk_28 (dk_at dksX7_holds_0 22 rfl rfl)
theorem dX7_holds_23 : decode cX7_holds 23 = .ok (.bipush 20, 2) := dk_16 20 (dk_at dksX7_holds_1 0 rfl rfl)
theorem dX7_holds_25 : decode cX7_holds 25 = .ok (.if_icmp .ne 39, 3) := dk_160 0 39 (dk_at dksX7_holds_1 2 rfl rfl)
theorem dX7_holds_28 : decode cX7_holds 28 = .ok (.aload_n 0, 1) := dk_42 (dk_at dksX7_holds_1 5 rfl rfl)
theorem dX7_holds_29 : decode cX7_holds 29 = .ok (.getfield 7, 3) := dk_180 0 7 (dk_at dksX7_holds_1 6 rfl rfl)
theorem dX7_holds_32 : decode cX7_holds 32 = .ok (.iconst 3, 1) := dk_6 (dk_at dksX7_holds_1 9 rfl rfl)
theorem dX7_holds_33 : decode cX7_holds 33 = .ok (.iaload, 1) := dk_46 (dk_at dksX7_holds_1 10 rfl rfl)
theorem dX7_holds_34 : decode cX7_holds 34 = .ok (.aload_n 0, 1) := dk_42 (dk_at dksX7_holds_1 11 rfl rfl)
theorem dX7_holds_35 : decode cX7_holds 35 = .ok (.aload_n 0, 1) := dk_42 (dk_at dksX7_holds_1 12 rfl rfl)
theorem dX7_holds_36 : decode cX7_holds 36 = .ok (.getfield 7, 3) := dk_180 0 7 (dk_at dksX7_holds_1 13 rfl rfl)
theorem dX7_holds_39 : decode cX7_holds 39 = .ok (.iload_n 1, 1) := dk_27 (dk_at dksX7_holds_1 16 rfl rfl)
theorem dX7_holds_40 : decode cX7_holds 40 = .ok (.iconst 1, 1) := dk_4 (dk_at dksX7_holds_1 17 rfl rfl)
theorem dX7_holds_41 : decode cX7_holds 41 = .ok (.iadd, 1) := dk_96 (dk_at dksX7_holds_1 18 rfl rfl)
theorem dX7_holds_42 : decode cX7_holds 42 = .ok (.iaload, 1) := dk_46 (dk_at dksX7_holds_1 19 rfl rfl)
theorem dX7_holds_43 : decode cX7_holds 43 = .ok (.aload_n 0, 1) := dk_42 (dk_at dksX7_holds_1 20 rfl rfl)
theorem dX7_holds_44 : decode cX7_holds 44 = .ok (.getfield 7, 3) := dk_180 0 7 (dk_at dksX7_holds_1 21 rfl rfl)
theorem dX7_holds_47 : decode cX7_holds 47 = .ok (.iload_n 1, 1) := dk_27 (dk_at dksX7_holds_2 0 rfl rfl)
theorem dX7_holds_48 : decode cX7_holds 48 = .ok (.iconst 2, 1) := dk_5 (dk_at dksX7_holds_2 1 rfl rfl)
theorem dX7_holds_49 : decode cX7_holds 49 = .ok (.iadd, 1) := dk_96 (dk_at dksX7_holds_2 2 rfl rfl)
theorem dX7_holds_50 : decode cX7_holds 50 = .ok (.iaload, 1) := dk_46 (dk_at dksX7_holds_2 3 rfl rfl)
theorem dX7_holds_51 : decode cX7_holds 51 = .ok (.invokevirtual 256, 3) := dk_182 1 0 (dk_at dksX7_holds_2 4 rfl rfl)
theorem dX7_holds_54 : decode cX7_holds 54 = .ok (.iand, 1) := dk_126 (dk_at dksX7_holds_2 7 rfl rfl)
theorem dX7_holds_55 : decode cX7_holds 55 = .ok (.ifCond .eq 7, 3) := dk_153 0 7 (dk_at dksX7_holds_2 8 rfl rfl)
theorem dX7_holds_58 : decode cX7_holds 58 = .ok (.iconst 1, 1) := dk_4 (dk_at dksX7_holds_2 11 rfl rfl)
theorem dX7_holds_59 : decode cX7_holds 59 = .ok (.goto 4, 3) := dk_167 0 4 (dk_at dksX7_holds_2 12 rfl rfl)
theorem dX7_holds_62 : decode cX7_holds 62 = .ok (.iconst 0, 1) := dk_3 (dk_at dksX7_holds_2 15 rfl rfl)
theorem dX7_holds_63 : decode cX7_holds 63 = .ok (.ireturn, 1) := dk_172 (dk_at dksX7_holds_2 16 rfl rfl)
theorem dX7_holds_64 : decode cX7_holds 64 = .ok (.aload_n 0, 1) := dk_42 (dk_at dksX7_holds_2 17 rfl rfl)
theorem dX7_holds_65 : decode cX7_holds 65 = .ok (.getfield 7, 3) := dk_180 0 7 (dk_at dksX7_holds_2 18 rfl rfl)
theorem dX7_holds_68 : decode cX7_holds 68 = .ok (.iconst 3, 1) := dk_6 (dk_at dksX7_holds_2 21 rfl rfl)
theorem dX7_holds_69 : decode cX7_holds 69 = .ok (.iaload, 1) := dk_46 (dk_at dksX7_holds_2 22 rfl rfl)
theorem dX7_holds_70 : decode cX7_holds 70 = .ok (.invokestatic 226, 3) := dk_184 0 226 (dk_at dksX7_holds_3 0 rfl rfl)
theorem dX7_holds_73 : decode cX7_holds 73 = .ok (.istore_n 3, 1) := dk_62 (dk_at dksX7_holds_3 3 rfl rfl)
theorem dX7_holds_74 : decode cX7_holds 74 = .ok (.aload_n 0, 1) := dk_42 (dk_at dksX7_holds_3 4 rfl rfl)
theorem dX7_holds_75 : decode cX7_holds 75 = .ok (.getfield 7, 3) := dk_180 0 7 (dk_at dksX7_holds_3 5 rfl rfl)
theorem dX7_holds_78 : decode cX7_holds 78 = .ok (.iload_n 1, 1) := dk_27 (dk_at dksX7_holds_3 8 rfl rfl)
theorem dX7_holds_79 : decode cX7_holds 79 = .ok (.iconst 5, 1) := dk_8 (dk_at dksX7_holds_3 9 rfl rfl)
theorem dX7_holds_80 : decode cX7_holds 80 = .ok (.iadd, 1) := dk_96 (dk_at dksX7_holds_3 10 rfl rfl)
theorem dX7_holds_81 : decode cX7_holds 81 = .ok (.iaload, 1) := dk_46 (dk_at dksX7_holds_3 11 rfl rfl)
theorem dX7_holds_82 : decode cX7_holds 82 = .ok (.bipush 60, 2) := dk_16 60 (dk_at dksX7_holds_3 12 rfl rfl)
theorem dX7_holds_84 : decode cX7_holds 84 = .ok (.if_icmp .ne 23, 3) := dk_160 0 23 (dk_at dksX7_holds_3 14 rfl rfl)
theorem dX7_holds_87 : decode cX7_holds 87 = .ok (.iload_n 3, 1) := dk_29 (dk_at dksX7_holds_3 17 rfl rfl)
theorem dX7_holds_88 : decode cX7_holds 88 = .ok (.aload_n 0, 1) := dk_42 (dk_at dksX7_holds_3 18 rfl rfl)
theorem dX7_holds_89 : decode cX7_holds 89 = .ok (.getfield 7, 3) := dk_180 0 7 (dk_at dksX7_holds_3 19 rfl rfl)
theorem dX7_holds_92 : decode cX7_holds 92 = .ok (.iload_n 1, 1) := dk_27 (dk_at dksX7_holds_3 22 rfl rfl)
theorem dX7_holds_93 : decode cX7_holds 93 = .ok (.iconst 1, 1) := dk_4 (dk_at dksX7_holds_3 23 rfl rfl)
theorem dX7_holds_94 : decode cX7_holds 94 = .ok (.iadd, 1) := dk_96 (dk_at dksX7_holds_4 0 rfl rfl)
theorem dX7_holds_95 : decode cX7_holds 95 = .ok (.iaload, 1) := dk_46 (dk_at dksX7_holds_4 1 rfl rfl)
theorem dX7_holds_96 : decode cX7_holds 96 = .ok (.if_icmp .ge 7, 3) := dk_162 0 7 (dk_at dksX7_holds_4 2 rfl rfl)
theorem dX7_holds_99 : decode cX7_holds 99 = .ok (.iconst 1, 1) := dk_4 (dk_at dksX7_holds_4 5 rfl rfl)
theorem dX7_holds_100 : decode cX7_holds 100 = .ok (.goto 57, 3) := dk_167 0 57 (dk_at dksX7_holds_4 6 rfl rfl)
theorem dX7_holds_103 : decode cX7_holds 103 = .ok (.iconst 0, 1) := dk_3 (dk_at dksX7_holds_4 9 rfl rfl)
theorem dX7_holds_104 : decode cX7_holds 104 = .ok (.goto 53, 3) := dk_167 0 53 (dk_at dksX7_holds_4 10 rfl rfl)
theorem dX7_holds_107 : decode cX7_holds 107 = .ok (.aload_n 0, 1) := dk_42 (dk_at dksX7_holds_4 13 rfl rfl)
theorem dX7_holds_108 : decode cX7_holds 108 = .ok (.getfield 7, 3) := dk_180 0 7 (dk_at dksX7_holds_4 14 rfl rfl)
theorem dX7_holds_111 : decode cX7_holds 111 = .ok (.iload_n 1, 1) := dk_27 (dk_at dksX7_holds_4 17 rfl rfl)
theorem dX7_holds_112 : decode cX7_holds 112 = .ok (.iconst 5, 1) := dk_8 (dk_at dksX7_holds_4 18 rfl rfl)
theorem dX7_holds_113 : decode cX7_holds 113 = .ok (.iadd, 1) := dk_96 (dk_at dksX7_holds_4 19 rfl rfl)
theorem dX7_holds_114 : decode cX7_holds 114 = .ok (.iaload, 1) := dk_46 (dk_at dksX7_holds_4 20 rfl rfl)
theorem dX7_holds_115 : decode cX7_holds 115 = .ok (.bipush 62, 2) := dk_16 62 (dk_at dksX7_holds_4 21 rfl rfl)
theorem dX7_holds_117 : decode cX7_holds 117 = .ok (.if_icmp .ne 23, 3) := dk_160 0 23 (dk_at dksX7_holds_5 0 rfl rfl)
theorem dX7_holds_120 : decode cX7_holds 120 = .ok (.iload_n 3, 1) := dk_29 (dk_at dksX7_holds_5 3 rfl rfl)
theorem dX7_holds_121 : decode cX7_holds 121 = .ok (.aload_n 0, 1) := dk_42 (dk_at dksX7_holds_5 4 rfl rfl)
theorem dX7_holds_122 : decode cX7_holds 122 = .ok (.getfield 7, 3) := dk_180 0 7 (dk_at dksX7_holds_5 5 rfl rfl)
theorem dX7_holds_125 : decode cX7_holds 125 = .ok (.iload_n 1, 1) := dk_27 (dk_at dksX7_holds_5 8 rfl rfl)
theorem dX7_holds_126 : decode cX7_holds 126 = .ok (.iconst 1, 1) := dk_4 (dk_at dksX7_holds_5 9 rfl rfl)
theorem dX7_holds_127 : decode cX7_holds 127 = .ok (.iadd, 1) := dk_96 (dk_at dksX7_holds_5 10 rfl rfl)
theorem dX7_holds_128 : decode cX7_holds 128 = .ok (.iaload, 1) := dk_46 (dk_at dksX7_holds_5 11 rfl rfl)
theorem dX7_holds_129 : decode cX7_holds 129 = .ok (.if_icmp .le 7, 3) := dk_164 0 7 (dk_at dksX7_holds_5 12 rfl rfl)
theorem dX7_holds_132 : decode cX7_holds 132 = .ok (.iconst 1, 1) := dk_4 (dk_at dksX7_holds_5 15 rfl rfl)
theorem dX7_holds_133 : decode cX7_holds 133 = .ok (.goto 24, 3) := dk_167 0 24 (dk_at dksX7_holds_5 16 rfl rfl)
theorem dX7_holds_136 : decode cX7_holds 136 = .ok (.iconst 0, 1) := dk_3 (dk_at dksX7_holds_5 19 rfl rfl)
theorem dX7_holds_137 : decode cX7_holds 137 = .ok (.goto 20, 3) := dk_167 0 20 (dk_at dksX7_holds_5 20 rfl rfl)
theorem dX7_holds_140 : decode cX7_holds 140 = .ok (.iload_n 3, 1) := dk_29 (dk_at dksX7_holds_5 23 rfl rfl)
theorem dX7_holds_141 : decode cX7_holds 141 = .ok (.aload_n 0, 1) := dk_42 (dk_at dksX7_holds_6 0 rfl rfl)
theorem dX7_holds_142 : decode cX7_holds 142 = .ok (.getfield 7, 3) := dk_180 0 7 (dk_at dksX7_holds_6 1 rfl rfl)
theorem dX7_holds_145 : decode cX7_holds 145 = .ok (.iload_n 1, 1) := dk_27 (dk_at dksX7_holds_6 4 rfl rfl)
theorem dX7_holds_146 : decode cX7_holds 146 = .ok (.iconst 1, 1) := dk_4 (dk_at dksX7_holds_6 5 rfl rfl)
theorem dX7_holds_147 : decode cX7_holds 147 = .ok (.iadd, 1) := dk_96 (dk_at dksX7_holds_6 6 rfl rfl)
theorem dX7_holds_148 : decode cX7_holds 148 = .ok (.iaload, 1) := dk_46 (dk_at dksX7_holds_6 7 rfl rfl)
theorem dX7_holds_149 : decode cX7_holds 149 = .ok (.if_icmp .ne 7, 3) := dk_160 0 7 (dk_at dksX7_holds_6 8 rfl rfl)
theorem dX7_holds_152 : decode cX7_holds 152 = .ok (.iconst 1, 1) := dk_4 (dk_at dksX7_holds_6 11 rfl rfl)
theorem dX7_holds_153 : decode cX7_holds 153 = .ok (.goto 4, 3) := dk_167 0 4 (dk_at dksX7_holds_6 12 rfl rfl)
theorem dX7_holds_156 : decode cX7_holds 156 = .ok (.iconst 0, 1) := dk_3 (dk_at dksX7_holds_6 15 rfl rfl)
theorem dX7_holds_157 : decode cX7_holds 157 = .ok (.ireturn, 1) := dk_172 (dk_at dksX7_holds_6 16 rfl rfl)
abbrev cX7_behindEnds : ByteArray := prog_16_method_135_code
def yX7_behindEnds : MethodName := ⟨RX7, "behindEnds", "(I)I"⟩
def dkwX7_behindEnds_5 : List UInt8 := [28, 172]
abbrev dktX7_behindEnds_5 : List UInt8 := dkwX7_behindEnds_5 ++ []
def dkwX7_behindEnds_4 : List UInt8 := [167, 0, 4, 3, 100, 79, 21, 4, 153, 0, 9, 29, 4, 96, 167, 0, 6, 28, 4, 96, 61, 167, 255, 146]
abbrev dktX7_behindEnds_4 : List UInt8 := dkwX7_behindEnds_4 ++ dktX7_behindEnds_5
def dkwX7_behindEnds_3 : List UInt8 := [158, 0, 7, 4, 167, 0, 4, 3, 54, 4, 42, 180, 0, 62, 29, 92, 46, 21, 4, 153, 0, 7, 4]
abbrev dktX7_behindEnds_3 : List UInt8 := dkwX7_behindEnds_3 ++ dktX7_behindEnds_4
def dkwX7_behindEnds_2 : List UInt8 := [180, 0, 7, 16, 44, 16, 6, 29, 104, 96, 46, 16, 16, 160, 0, 16, 42, 180, 0, 62, 29, 46]
abbrev dktX7_behindEnds_2 : List UInt8 := dkwX7_behindEnds_2 ++ dktX7_behindEnds_3
def dkwX7_behindEnds_1 : List UInt8 := [46, 16, 17, 160, 0, 88, 42, 180, 0, 7, 16, 44, 16, 6, 28, 104, 96, 7, 96, 46, 62, 42]
abbrev dktX7_behindEnds_1 : List UInt8 := dkwX7_behindEnds_1 ++ dktX7_behindEnds_2
def dkwX7_behindEnds_0 : List UInt8 := [27, 61, 28, 42, 180, 0, 7, 16, 11, 46, 162, 0, 105, 42, 180, 0, 7, 16, 44, 16, 6, 28, 104, 96]
abbrev dktX7_behindEnds_0 : List UInt8 := dkwX7_behindEnds_0 ++ dktX7_behindEnds_1
theorem dksX7_behindEnds_0 : cX7_behindEnds.data.toList.drop 0 = dktX7_behindEnds_0 := by decide +kernel
theorem dksX7_behindEnds_1 : cX7_behindEnds.data.toList.drop 24 = dktX7_behindEnds_1 := dk_seg dksX7_behindEnds_0 24 rfl rfl
theorem dksX7_behindEnds_2 : cX7_behindEnds.data.toList.drop 46 = dktX7_behindEnds_2 := dk_seg dksX7_behindEnds_1 22 rfl rfl
theorem dksX7_behindEnds_3 : cX7_behindEnds.data.toList.drop 68 = dktX7_behindEnds_3 := dk_seg dksX7_behindEnds_2 22 rfl rfl
theorem dksX7_behindEnds_4 : cX7_behindEnds.data.toList.drop 91 = dktX7_behindEnds_4 := dk_seg dksX7_behindEnds_3 23 rfl rfl
theorem dksX7_behindEnds_5 : cX7_behindEnds.data.toList.drop 115 = dktX7_behindEnds_5 := dk_seg dksX7_behindEnds_4 24 rfl rfl
theorem dX7_behindEnds_0 : decode cX7_behindEnds 0 = .ok (.iload_n 1, 1) := dk_27 (dk_at dksX7_behindEnds_0 0 rfl rfl)
theorem dX7_behindEnds_1 : decode cX7_behindEnds 1 = .ok (.istore_n 2, 1) := dk_61 (dk_at dksX7_behindEnds_0 1 rfl rfl)
theorem dX7_behindEnds_2 : decode cX7_behindEnds 2 = .ok (.iload_n 2, 1) := dk_28 (dk_at dksX7_behindEnds_0 2 rfl rfl)
theorem dX7_behindEnds_3 : decode cX7_behindEnds 3 = .ok (.aload_n 0, 1) := dk_42 (dk_at dksX7_behindEnds_0 3 rfl rfl)
theorem dX7_behindEnds_4 : decode cX7_behindEnds 4 = .ok (.getfield 7, 3) := dk_180 0 7 (dk_at dksX7_behindEnds_0 4 rfl rfl)
theorem dX7_behindEnds_7 : decode cX7_behindEnds 7 = .ok (.bipush 11, 2) := dk_16 11 (dk_at dksX7_behindEnds_0 7 rfl rfl)
theorem dX7_behindEnds_9 : decode cX7_behindEnds 9 = .ok (.iaload, 1) := dk_46 (dk_at dksX7_behindEnds_0 9 rfl rfl)
theorem dX7_behindEnds_10 : decode cX7_behindEnds 10 = .ok (.if_icmp .ge 105, 3) := dk_162 0 105 (dk_at dksX7_behindEnds_0 10 rfl rfl)
theorem dX7_behindEnds_13 : decode cX7_behindEnds 13 = .ok (.aload_n 0, 1) := dk_42 (dk_at dksX7_behindEnds_0 13 rfl rfl)
theorem dX7_behindEnds_14 : decode cX7_behindEnds 14 = .ok (.getfield 7, 3) := dk_180 0 7 (dk_at dksX7_behindEnds_0 14 rfl rfl)
theorem dX7_behindEnds_17 : decode cX7_behindEnds 17 = .ok (.bipush 44, 2) := dk_16 44 (dk_at dksX7_behindEnds_0 17 rfl rfl)
theorem dX7_behindEnds_19 : decode cX7_behindEnds 19 = .ok (.bipush 6, 2) := dk_16 6 (dk_at dksX7_behindEnds_0 19 rfl rfl)
theorem dX7_behindEnds_21 : decode cX7_behindEnds 21 = .ok (.iload_n 2, 1) := dk_28 (dk_at dksX7_behindEnds_0 21 rfl rfl)
theorem dX7_behindEnds_22 : decode cX7_behindEnds 22 = .ok (.imul, 1) := dk_104 (dk_at dksX7_behindEnds_0 22 rfl rfl)
theorem dX7_behindEnds_23 : decode cX7_behindEnds 23 = .ok (.iadd, 1) := dk_96 (dk_at dksX7_behindEnds_0 23 rfl rfl)
theorem dX7_behindEnds_24 : decode cX7_behindEnds 24 = .ok (.iaload, 1) := dk_46 (dk_at dksX7_behindEnds_1 0 rfl rfl)
theorem dX7_behindEnds_25 : decode cX7_behindEnds 25 = .ok (.bipush 17, 2) := dk_16 17 (dk_at dksX7_behindEnds_1 1 rfl rfl)
theorem dX7_behindEnds_27 : decode cX7_behindEnds 27 = .ok (.if_icmp .ne 88, 3) := dk_160 0 88 (dk_at dksX7_behindEnds_1 3 rfl rfl)
theorem dX7_behindEnds_30 : decode cX7_behindEnds 30 = .ok (.aload_n 0, 1) := dk_42 (dk_at dksX7_behindEnds_1 6 rfl rfl)
theorem dX7_behindEnds_31 : decode cX7_behindEnds 31 = .ok (.getfield 7, 3) := dk_180 0 7 (dk_at dksX7_behindEnds_1 7 rfl rfl)
theorem dX7_behindEnds_34 : decode cX7_behindEnds 34 = .ok (.bipush 44, 2) := dk_16 44 (dk_at dksX7_behindEnds_1 10 rfl rfl)
theorem dX7_behindEnds_36 : decode cX7_behindEnds 36 = .ok (.bipush 6, 2) := dk_16 6 (dk_at dksX7_behindEnds_1 12 rfl rfl)
theorem dX7_behindEnds_38 : decode cX7_behindEnds 38 = .ok (.iload_n 2, 1) := dk_28 (dk_at dksX7_behindEnds_1 14 rfl rfl)
theorem dX7_behindEnds_39 : decode cX7_behindEnds 39 = .ok (.imul, 1) := dk_104 (dk_at dksX7_behindEnds_1 15 rfl rfl)
theorem dX7_behindEnds_40 : decode cX7_behindEnds 40 = .ok (.iadd, 1) := dk_96 (dk_at dksX7_behindEnds_1 16 rfl rfl)
theorem dX7_behindEnds_41 : decode cX7_behindEnds 41 = .ok (.iconst 4, 1) := dk_7 (dk_at dksX7_behindEnds_1 17 rfl rfl)
theorem dX7_behindEnds_42 : decode cX7_behindEnds 42 = .ok (.iadd, 1) := dk_96 (dk_at dksX7_behindEnds_1 18 rfl rfl)
theorem dX7_behindEnds_43 : decode cX7_behindEnds 43 = .ok (.iaload, 1) := dk_46 (dk_at dksX7_behindEnds_1 19 rfl rfl)
theorem dX7_behindEnds_44 : decode cX7_behindEnds 44 = .ok (.istore_n 3, 1) := dk_62 (dk_at dksX7_behindEnds_1 20 rfl rfl)
theorem dX7_behindEnds_45 : decode cX7_behindEnds 45 = .ok (.aload_n 0, 1) := dk_42 (dk_at dksX7_behindEnds_1 21 rfl rfl)
theorem dX7_behindEnds_46 : decode cX7_behindEnds 46 = .ok (.getfield 7, 3) := dk_180 0 7 (dk_at dksX7_behindEnds_2 0 rfl rfl)
theorem dX7_behindEnds_49 : decode cX7_behindEnds 49 = .ok (.bipush 44, 2) := dk_16 44 (dk_at dksX7_behindEnds_2 3 rfl rfl)
theorem dX7_behindEnds_51 : decode cX7_behindEnds 51 = .ok (.bipush 6, 2) := dk_16 6 (dk_at dksX7_behindEnds_2 5 rfl rfl)
theorem dX7_behindEnds_53 : decode cX7_behindEnds 53 = .ok (.iload_n 3, 1) := dk_29 (dk_at dksX7_behindEnds_2 7 rfl rfl)
theorem dX7_behindEnds_54 : decode cX7_behindEnds 54 = .ok (.imul, 1) := dk_104 (dk_at dksX7_behindEnds_2 8 rfl rfl)
theorem dX7_behindEnds_55 : decode cX7_behindEnds 55 = .ok (.iadd, 1) := dk_96 (dk_at dksX7_behindEnds_2 9 rfl rfl)
theorem dX7_behindEnds_56 : decode cX7_behindEnds 56 = .ok (.iaload, 1) := dk_46 (dk_at dksX7_behindEnds_2 10 rfl rfl)
theorem dX7_behindEnds_57 : decode cX7_behindEnds 57 = .ok (.bipush 16, 2) := dk_16 16 (dk_at dksX7_behindEnds_2 11 rfl rfl)
theorem dX7_behindEnds_59 : decode cX7_behindEnds 59 = .ok (.if_icmp .ne 16, 3) := dk_160 0 16 (dk_at dksX7_behindEnds_2 13 rfl rfl)
theorem dX7_behindEnds_62 : decode cX7_behindEnds 62 = .ok (.aload_n 0, 1) := dk_42 (dk_at dksX7_behindEnds_2 16 rfl rfl)
theorem dX7_behindEnds_63 : decode cX7_behindEnds 63 = .ok (.getfield 62, 3) := dk_180 0 62 (dk_at dksX7_behindEnds_2 17 rfl rfl)
theorem dX7_behindEnds_66 : decode cX7_behindEnds 66 = .ok (.iload_n 3, 1) := dk_29 (dk_at dksX7_behindEnds_2 20 rfl rfl)
theorem dX7_behindEnds_67 : decode cX7_behindEnds 67 = .ok (.iaload, 1) := dk_46 (dk_at dksX7_behindEnds_2 21 rfl rfl)
theorem dX7_behindEnds_68 : decode cX7_behindEnds 68 = .ok (.ifCond .le 7, 3) := dk_158 0 7 (dk_at dksX7_behindEnds_3 0 rfl rfl)
theorem dX7_behindEnds_71 : decode cX7_behindEnds 71 = .ok (.iconst 1, 1) := dk_4 (dk_at dksX7_behindEnds_3 3 rfl rfl)
theorem dX7_behindEnds_72 : decode cX7_behindEnds 72 = .ok (.goto 4, 3) := dk_167 0 4 (dk_at dksX7_behindEnds_3 4 rfl rfl)
theorem dX7_behindEnds_75 : decode cX7_behindEnds 75 = .ok (.iconst 0, 1) := dk_3 (dk_at dksX7_behindEnds_3 7 rfl rfl)
theorem dX7_behindEnds_76 : decode cX7_behindEnds 76 = .ok (.istore 4, 2) := dk_54 4 (dk_at dksX7_behindEnds_3 8 rfl rfl)
theorem dX7_behindEnds_78 : decode cX7_behindEnds 78 = .ok (.aload_n 0, 1) := dk_42 (dk_at dksX7_behindEnds_3 10 rfl rfl)
theorem dX7_behindEnds_79 : decode cX7_behindEnds 79 = .ok (.getfield 62, 3) := dk_180 0 62 (dk_at dksX7_behindEnds_3 11 rfl rfl)
theorem dX7_behindEnds_82 : decode cX7_behindEnds 82 = .ok (.iload_n 3, 1) := dk_29 (dk_at dksX7_behindEnds_3 14 rfl rfl)
theorem dX7_behindEnds_83 : decode cX7_behindEnds 83 = .ok (.dup2, 1) := dk_92 (dk_at dksX7_behindEnds_3 15 rfl rfl)
theorem dX7_behindEnds_84 : decode cX7_behindEnds 84 = .ok (.iaload, 1) := dk_46 (dk_at dksX7_behindEnds_3 16 rfl rfl)
theorem dX7_behindEnds_85 : decode cX7_behindEnds 85 = .ok (.iload 4, 2) := dk_21 4 (dk_at dksX7_behindEnds_3 17 rfl rfl)
theorem dX7_behindEnds_87 : decode cX7_behindEnds 87 = .ok (.ifCond .eq 7, 3) := dk_153 0 7 (dk_at dksX7_behindEnds_3 19 rfl rfl)
theorem dX7_behindEnds_90 : decode cX7_behindEnds 90 = .ok (.iconst 1, 1) := dk_4 (dk_at dksX7_behindEnds_3 22 rfl rfl)
theorem dX7_behindEnds_91 : decode cX7_behindEnds 91 = .ok (.goto 4, 3) := dk_167 0 4 (dk_at dksX7_behindEnds_4 0 rfl rfl)
theorem dX7_behindEnds_94 : decode cX7_behindEnds 94 = .ok (.iconst 0, 1) := dk_3 (dk_at dksX7_behindEnds_4 3 rfl rfl)
theorem dX7_behindEnds_95 : decode cX7_behindEnds 95 = .ok (.isub, 1) := dk_100 (dk_at dksX7_behindEnds_4 4 rfl rfl)
theorem dX7_behindEnds_96 : decode cX7_behindEnds 96 = .ok (.iastore, 1) := dk_79 (dk_at dksX7_behindEnds_4 5 rfl rfl)
theorem dX7_behindEnds_97 : decode cX7_behindEnds 97 = .ok (.iload 4, 2) := dk_21 4 (dk_at dksX7_behindEnds_4 6 rfl rfl)
theorem dX7_behindEnds_99 : decode cX7_behindEnds 99 = .ok (.ifCond .eq 9, 3) := dk_153 0 9 (dk_at dksX7_behindEnds_4 8 rfl rfl)
theorem dX7_behindEnds_102 : decode cX7_behindEnds 102 = .ok (.iload_n 3, 1) := dk_29 (dk_at dksX7_behindEnds_4 11 rfl rfl)
theorem dX7_behindEnds_103 : decode cX7_behindEnds 103 = .ok (.iconst 1, 1) := dk_4 (dk_at dksX7_behindEnds_4 12 rfl rfl)
theorem dX7_behindEnds_104 : decode cX7_behindEnds 104 = .ok (.iadd, 1) := dk_96 (dk_at dksX7_behindEnds_4 13 rfl rfl)
theorem dX7_behindEnds_105 : decode cX7_behindEnds 105 = .ok (.goto 6, 3) := dk_167 0 6 (dk_at dksX7_behindEnds_4 14 rfl rfl)
theorem dX7_behindEnds_108 : decode cX7_behindEnds 108 = .ok (.iload_n 2, 1) := dk_28 (dk_at dksX7_behindEnds_4 17 rfl rfl)
theorem dX7_behindEnds_109 : decode cX7_behindEnds 109 = .ok (.iconst 1, 1) := dk_4 (dk_at dksX7_behindEnds_4 18 rfl rfl)
theorem dX7_behindEnds_110 : decode cX7_behindEnds 110 = .ok (.iadd, 1) := dk_96 (dk_at dksX7_behindEnds_4 19 rfl rfl)
theorem dX7_behindEnds_111 : decode cX7_behindEnds 111 = .ok (.istore_n 2, 1) := dk_61 (dk_at dksX7_behindEnds_4 20 rfl rfl)
theorem dX7_behindEnds_112 : decode cX7_behindEnds 112 = .ok (.goto (-110), 3) := dk_167 255 146 (dk_at dksX7_behindEnds_4 21 rfl rfl)
theorem dX7_behindEnds_115 : decode cX7_behindEnds 115 = .ok (.iload_n 2, 1) := dk_28 (dk_at dksX7_behindEnds_5 0 rfl rfl)
theorem dX7_behindEnds_116 : decode cX7_behindEnds 116 = .ok (.ireturn, 1) := dk_172 (dk_at dksX7_behindEnds_5 1 rfl rfl)
abbrev cX7_lived : ByteArray := prog_16_method_138_code
def yX7_lived : MethodName := ⟨RX7, "lived", "(I)I"⟩
def dkwX7_lived_1 : List UInt8 := [42, 42, 180, 0, 68, 27, 46, 182, 0, 85, 167, 0, 9, 42, 16, 6, 182, 0, 81, 172]
abbrev dktX7_lived_1 : List UInt8 := dkwX7_lived_1 ++ []
def dkwX7_lived_0 : List UInt8 := [27, 155, 0, 8, 27, 7, 164, 0, 11, 42, 4, 182, 0, 81, 167, 0, 29, 42, 180, 1, 171, 153, 0, 16]
abbrev dktX7_lived_0 : List UInt8 := dkwX7_lived_0 ++ dktX7_lived_1
theorem dksX7_lived_0 : cX7_lived.data.toList.drop 0 = dktX7_lived_0 := by decide +kernel
theorem dksX7_lived_1 : cX7_lived.data.toList.drop 24 = dktX7_lived_1 := dk_seg dksX7_lived_0 24 rfl rfl
theorem dX7_lived_0 : decode cX7_lived 0 = .ok (.iload_n 1, 1) := dk_27 (dk_at dksX7_lived_0 0 rfl rfl)
theorem dX7_lived_1 : decode cX7_lived 1 = .ok (.ifCond .lt 8, 3) := dk_155 0 8 (dk_at dksX7_lived_0 1 rfl rfl)
theorem dX7_lived_4 : decode cX7_lived 4 = .ok (.iload_n 1, 1) := dk_27 (dk_at dksX7_lived_0 4 rfl rfl)
theorem dX7_lived_5 : decode cX7_lived 5 = .ok (.iconst 4, 1) := dk_7 (dk_at dksX7_lived_0 5 rfl rfl)
theorem dX7_lived_6 : decode cX7_lived 6 = .ok (.if_icmp .le 11, 3) := dk_164 0 11 (dk_at dksX7_lived_0 6 rfl rfl)
theorem dX7_lived_9 : decode cX7_lived 9 = .ok (.aload_n 0, 1) := dk_42 (dk_at dksX7_lived_0 9 rfl rfl)
theorem dX7_lived_10 : decode cX7_lived 10 = .ok (.iconst 1, 1) := dk_4 (dk_at dksX7_lived_0 10 rfl rfl)
theorem dX7_lived_11 : decode cX7_lived 11 = .ok (.invokevirtual 81, 3) := dk_182 0 81 (dk_at dksX7_lived_0 11 rfl rfl)
theorem dX7_lived_14 : decode cX7_lived 14 = .ok (.goto 29, 3) := dk_167 0 29 (dk_at dksX7_lived_0 14 rfl rfl)
theorem dX7_lived_17 : decode cX7_lived 17 = .ok (.aload_n 0, 1) := dk_42 (dk_at dksX7_lived_0 17 rfl rfl)
theorem dX7_lived_18 : decode cX7_lived 18 = .ok (.getfield 427, 3) := dk_180 1 171 (dk_at dksX7_lived_0 18 rfl rfl)
theorem dX7_lived_21 : decode cX7_lived 21 = .ok (.ifCond .eq 16, 3) := dk_153 0 16 (dk_at dksX7_lived_0 21 rfl rfl)
theorem dX7_lived_24 : decode cX7_lived 24 = .ok (.aload_n 0, 1) := dk_42 (dk_at dksX7_lived_1 0 rfl rfl)
theorem dX7_lived_25 : decode cX7_lived 25 = .ok (.aload_n 0, 1) := dk_42 (dk_at dksX7_lived_1 1 rfl rfl)
theorem dX7_lived_26 : decode cX7_lived 26 = .ok (.getfield 68, 3) := dk_180 0 68 (dk_at dksX7_lived_1 2 rfl rfl)
theorem dX7_lived_29 : decode cX7_lived 29 = .ok (.iload_n 1, 1) := dk_27 (dk_at dksX7_lived_1 5 rfl rfl)
theorem dX7_lived_30 : decode cX7_lived 30 = .ok (.iaload, 1) := dk_46 (dk_at dksX7_lived_1 6 rfl rfl)
theorem dX7_lived_31 : decode cX7_lived 31 = .ok (.invokevirtual 85, 3) := dk_182 0 85 (dk_at dksX7_lived_1 7 rfl rfl)
theorem dX7_lived_34 : decode cX7_lived 34 = .ok (.goto 9, 3) := dk_167 0 9 (dk_at dksX7_lived_1 10 rfl rfl)
theorem dX7_lived_37 : decode cX7_lived 37 = .ok (.aload_n 0, 1) := dk_42 (dk_at dksX7_lived_1 13 rfl rfl)
theorem dX7_lived_38 : decode cX7_lived 38 = .ok (.bipush 6, 2) := dk_16 6 (dk_at dksX7_lived_1 14 rfl rfl)
theorem dX7_lived_40 : decode cX7_lived 40 = .ok (.invokevirtual 81, 3) := dk_182 0 81 (dk_at dksX7_lived_1 16 rfl rfl)
theorem dX7_lived_43 : decode cX7_lived 43 = .ok (.ireturn, 1) := dk_172 (dk_at dksX7_lived_1 19 rfl rfl)
abbrev cX7_mean : ByteArray := prog_16_method_139_code
def yX7_mean : MethodName := ⟨RX7, "mean", "(II)Z"⟩
def dkwX7_mean_7 : List UInt8 := [182, 1, 139, 172]
abbrev dktX7_mean_7 : List UInt8 := dkwX7_mean_7 ++ []
def dkwX7_mean_6 : List UInt8 := [17, 8, 2, 21, 6, 96, 46, 79, 132, 6, 1, 167, 255, 228, 132, 5, 1, 167, 255, 192, 42, 33, 28, 133]
abbrev dktX7_mean_6 : List UInt8 := dkwX7_mean_6 ++ dktX7_mean_7
def dkwX7_mean_5 : List UInt8 := [133, 97, 66, 3, 54, 6, 21, 6, 16, 44, 162, 0, 27, 42, 180, 0, 7, 21, 6, 42, 180, 0, 7]
abbrev dktX7_mean_5 : List UInt8 := dkwX7_mean_5 ++ dktX7_mean_6
def dkwX7_mean_4 : List UInt8 := [21, 5, 28, 162, 0, 64, 42, 27, 21, 5, 96, 182, 1, 168, 33, 42, 180, 0, 7, 6, 46, 184, 0, 226]
abbrev dktX7_mean_4 : List UInt8 := dkwX7_mean_4 ++ dktX7_mean_5
def dkwX7_mean_3 : List UInt8 := [17, 8, 2, 29, 96, 42, 180, 0, 7, 29, 46, 79, 132, 3, 1, 167, 255, 231, 9, 66, 3, 54, 5]
abbrev dktX7_mean_3 : List UInt8 := dkwX7_mean_3 ++ dktX7_mean_4
def dkwX7_mean_2 : List UInt8 := [2, 160, 0, 10, 42, 16, 6, 182, 0, 88, 172, 3, 62, 29, 16, 44, 162, 0, 25, 42, 180, 0, 7]
abbrev dktX7_mean_2 : List UInt8 := dkwX7_mean_2 ++ dktX7_mean_3
def dkwX7_mean_1 : List UInt8 := [27, 28, 96, 4, 100, 17, 39, 15, 164, 0, 9, 42, 4, 182, 0, 88, 172, 42, 180, 0, 7, 16, 11, 46]
abbrev dktX7_mean_1 : List UInt8 := dkwX7_mean_1 ++ dktX7_mean_2
def dkwX7_mean_0 : List UInt8 := [27, 133, 9, 20, 1, 77, 184, 1, 39, 153, 0, 26, 28, 133, 10, 20, 1, 175, 184, 1, 39, 153, 0, 14]
abbrev dktX7_mean_0 : List UInt8 := dkwX7_mean_0 ++ dktX7_mean_1
theorem dksX7_mean_0 : cX7_mean.data.toList.drop 0 = dktX7_mean_0 := by decide +kernel
theorem dksX7_mean_1 : cX7_mean.data.toList.drop 24 = dktX7_mean_1 := dk_seg dksX7_mean_0 24 rfl rfl
theorem dksX7_mean_2 : cX7_mean.data.toList.drop 48 = dktX7_mean_2 := dk_seg dksX7_mean_1 24 rfl rfl
theorem dksX7_mean_3 : cX7_mean.data.toList.drop 71 = dktX7_mean_3 := dk_seg dksX7_mean_2 23 rfl rfl
theorem dksX7_mean_4 : cX7_mean.data.toList.drop 94 = dktX7_mean_4 := dk_seg dksX7_mean_3 23 rfl rfl
theorem dksX7_mean_5 : cX7_mean.data.toList.drop 118 = dktX7_mean_5 := dk_seg dksX7_mean_4 24 rfl rfl
theorem dksX7_mean_6 : cX7_mean.data.toList.drop 141 = dktX7_mean_6 := dk_seg dksX7_mean_5 23 rfl rfl
theorem dksX7_mean_7 : cX7_mean.data.toList.drop 165 = dktX7_mean_7 := dk_seg dksX7_mean_6 24 rfl rfl
theorem dX7_mean_0 : decode cX7_mean 0 = .ok (.iload_n 1, 1) := dk_27 (dk_at dksX7_mean_0 0 rfl rfl)
theorem dX7_mean_1 : decode cX7_mean 1 = .ok (.i2l, 1) := dk_133 (dk_at dksX7_mean_0 1 rfl rfl)
theorem dX7_mean_2 : decode cX7_mean 2 = .ok (.lconst 0, 1) := dk_9 (dk_at dksX7_mean_0 2 rfl rfl)
theorem dX7_mean_3 : decode cX7_mean 3 = .ok (.ldc2_w 333, 3) := dk_20 1 77 (dk_at dksX7_mean_0 3 rfl rfl)
theorem dX7_mean_6 : decode cX7_mean 6 = .ok (.invokestatic 295, 3) := dk_184 1 39 (dk_at dksX7_mean_0 6 rfl rfl)
theorem dX7_mean_9 : decode cX7_mean 9 = .ok (.ifCond .eq 26, 3) := dk_153 0 26 (dk_at dksX7_mean_0 9 rfl rfl)
theorem dX7_mean_12 : decode cX7_mean 12 = .ok (.iload_n 2, 1) := dk_28 (dk_at dksX7_mean_0 12 rfl rfl)
theorem dX7_mean_13 : decode cX7_mean 13 = .ok (.i2l, 1) := dk_133 (dk_at dksX7_mean_0 13 rfl rfl)
theorem dX7_mean_14 : decode cX7_mean 14 = .ok (.lconst 1, 1) := dk_10 (dk_at dksX7_mean_0 14 rfl rfl)
theorem dX7_mean_15 : decode cX7_mean 15 = .ok (.ldc2_w 431, 3) := dk_20 1 175 (dk_at dksX7_mean_0 15 rfl rfl)
theorem dX7_mean_18 : decode cX7_mean 18 = .ok (.invokestatic 295, 3) := dk_184 1 39 (dk_at dksX7_mean_0 18 rfl rfl)
theorem dX7_mean_21 : decode cX7_mean 21 = .ok (.ifCond .eq 14, 3) := dk_153 0 14 (dk_at dksX7_mean_0 21 rfl rfl)
theorem dX7_mean_24 : decode cX7_mean 24 = .ok (.iload_n 1, 1) := dk_27 (dk_at dksX7_mean_1 0 rfl rfl)
theorem dX7_mean_25 : decode cX7_mean 25 = .ok (.iload_n 2, 1) := dk_28 (dk_at dksX7_mean_1 1 rfl rfl)
theorem dX7_mean_26 : decode cX7_mean 26 = .ok (.iadd, 1) := dk_96 (dk_at dksX7_mean_1 2 rfl rfl)
theorem dX7_mean_27 : decode cX7_mean 27 = .ok (.iconst 1, 1) := dk_4 (dk_at dksX7_mean_1 3 rfl rfl)
theorem dX7_mean_28 : decode cX7_mean 28 = .ok (.isub, 1) := dk_100 (dk_at dksX7_mean_1 4 rfl rfl)
theorem dX7_mean_29 : decode cX7_mean 29 = .ok (.sipush 9999, 3) := dk_17 39 15 (dk_at dksX7_mean_1 5 rfl rfl)
theorem dX7_mean_32 : decode cX7_mean 32 = .ok (.if_icmp .le 9, 3) := dk_164 0 9 (dk_at dksX7_mean_1 8 rfl rfl)
theorem dX7_mean_35 : decode cX7_mean 35 = .ok (.aload_n 0, 1) := dk_42 (dk_at dksX7_mean_1 11 rfl rfl)
theorem dX7_mean_36 : decode cX7_mean 36 = .ok (.iconst 1, 1) := dk_4 (dk_at dksX7_mean_1 12 rfl rfl)
theorem dX7_mean_37 : decode cX7_mean 37 = .ok (.invokevirtual 88, 3) := dk_182 0 88 (dk_at dksX7_mean_1 13 rfl rfl)
theorem dX7_mean_40 : decode cX7_mean 40 = .ok (.ireturn, 1) := dk_172 (dk_at dksX7_mean_1 16 rfl rfl)
theorem dX7_mean_41 : decode cX7_mean 41 = .ok (.aload_n 0, 1) := dk_42 (dk_at dksX7_mean_1 17 rfl rfl)
theorem dX7_mean_42 : decode cX7_mean 42 = .ok (.getfield 7, 3) := dk_180 0 7 (dk_at dksX7_mean_1 18 rfl rfl)
theorem dX7_mean_45 : decode cX7_mean 45 = .ok (.bipush 11, 2) := dk_16 11 (dk_at dksX7_mean_1 21 rfl rfl)
theorem dX7_mean_47 : decode cX7_mean 47 = .ok (.iaload, 1) := dk_46 (dk_at dksX7_mean_1 23 rfl rfl)
theorem dX7_mean_48 : decode cX7_mean 48 = .ok (.iconst (-1), 1) := dk_2 (dk_at dksX7_mean_2 0 rfl rfl)
theorem dX7_mean_49 : decode cX7_mean 49 = .ok (.if_icmp .ne 10, 3) := dk_160 0 10 (dk_at dksX7_mean_2 1 rfl rfl)
theorem dX7_mean_52 : decode cX7_mean 52 = .ok (.aload_n 0, 1) := dk_42 (dk_at dksX7_mean_2 4 rfl rfl)
theorem dX7_mean_53 : decode cX7_mean 53 = .ok (.bipush 6, 2) := dk_16 6 (dk_at dksX7_mean_2 5 rfl rfl)
theorem dX7_mean_55 : decode cX7_mean 55 = .ok (.invokevirtual 88, 3) := dk_182 0 88 (dk_at dksX7_mean_2 7 rfl rfl)
theorem dX7_mean_58 : decode cX7_mean 58 = .ok (.ireturn, 1) := dk_172 (dk_at dksX7_mean_2 10 rfl rfl)
theorem dX7_mean_59 : decode cX7_mean 59 = .ok (.iconst 0, 1) := dk_3 (dk_at dksX7_mean_2 11 rfl rfl)
theorem dX7_mean_60 : decode cX7_mean 60 = .ok (.istore_n 3, 1) := dk_62 (dk_at dksX7_mean_2 12 rfl rfl)
theorem dX7_mean_61 : decode cX7_mean 61 = .ok (.iload_n 3, 1) := dk_29 (dk_at dksX7_mean_2 13 rfl rfl)
theorem dX7_mean_62 : decode cX7_mean 62 = .ok (.bipush 44, 2) := dk_16 44 (dk_at dksX7_mean_2 14 rfl rfl)
theorem dX7_mean_64 : decode cX7_mean 64 = .ok (.if_icmp .ge 25, 3) := dk_162 0 25 (dk_at dksX7_mean_2 16 rfl rfl)
theorem dX7_mean_67 : decode cX7_mean 67 = .ok (.aload_n 0, 1) := dk_42 (dk_at dksX7_mean_2 19 rfl rfl)
theorem dX7_mean_68 : decode cX7_mean 68 = .ok (.getfield 7, 3) := dk_180 0 7 (dk_at dksX7_mean_2 20 rfl rfl)
theorem dX7_mean_71 : decode cX7_mean 71 = .ok (.sipush 2050, 3) := dk_17 8 2 (dk_at dksX7_mean_3 0 rfl rfl)
theorem dX7_mean_74 : decode cX7_mean 74 = .ok (.iload_n 3, 1) := dk_29 (dk_at dksX7_mean_3 3 rfl rfl)
theorem dX7_mean_75 : decode cX7_mean 75 = .ok (.iadd, 1) := dk_96 (dk_at dksX7_mean_3 4 rfl rfl)
theorem dX7_mean_76 : decode cX7_mean 76 = .ok (.aload_n 0, 1) := dk_42 (dk_at dksX7_mean_3 5 rfl rfl)
theorem dX7_mean_77 : decode cX7_mean 77 = .ok (.getfield 7, 3) := dk_180 0 7 (dk_at dksX7_mean_3 6 rfl rfl)
theorem dX7_mean_80 : decode cX7_mean 80 = .ok (.iload_n 3, 1) := dk_29 (dk_at dksX7_mean_3 9 rfl rfl)
theorem dX7_mean_81 : decode cX7_mean 81 = .ok (.iaload, 1) := dk_46 (dk_at dksX7_mean_3 10 rfl rfl)
theorem dX7_mean_82 : decode cX7_mean 82 = .ok (.iastore, 1) := dk_79 (dk_at dksX7_mean_3 11 rfl rfl)
theorem dX7_mean_83 : decode cX7_mean 83 = .ok (.iinc 3 1, 3) := dk_132 3 1 (dk_at dksX7_mean_3 12 rfl rfl)
theorem dX7_mean_86 : decode cX7_mean 86 = .ok (.goto (-25), 3) := dk_167 255 231 (dk_at dksX7_mean_3 15 rfl rfl)
theorem dX7_mean_89 : decode cX7_mean 89 = .ok (.lconst 0, 1) := dk_9 (dk_at dksX7_mean_3 18 rfl rfl)
theorem dX7_mean_90 : decode cX7_mean 90 = .ok (.lstore_n 3, 1) := dk_66 (dk_at dksX7_mean_3 19 rfl rfl)
theorem dX7_mean_91 : decode cX7_mean 91 = .ok (.iconst 0, 1) := dk_3 (dk_at dksX7_mean_3 20 rfl rfl)
theorem dX7_mean_92 : decode cX7_mean 92 = .ok (.istore 5, 2) := dk_54 5 (dk_at dksX7_mean_3 21 rfl rfl)
theorem dX7_mean_94 : decode cX7_mean 94 = .ok (.iload 5, 2) := dk_21 5 (dk_at dksX7_mean_4 0 rfl rfl)
theorem dX7_mean_96 : decode cX7_mean 96 = .ok (.iload_n 2, 1) := dk_28 (dk_at dksX7_mean_4 2 rfl rfl)
theorem dX7_mean_97 : decode cX7_mean 97 = .ok (.if_icmp .ge 64, 3) := dk_162 0 64 (dk_at dksX7_mean_4 3 rfl rfl)
theorem dX7_mean_100 : decode cX7_mean 100 = .ok (.aload_n 0, 1) := dk_42 (dk_at dksX7_mean_4 6 rfl rfl)
theorem dX7_mean_101 : decode cX7_mean 101 = .ok (.iload_n 1, 1) := dk_27 (dk_at dksX7_mean_4 7 rfl rfl)
theorem dX7_mean_102 : decode cX7_mean 102 = .ok (.iload 5, 2) := dk_21 5 (dk_at dksX7_mean_4 8 rfl rfl)
theorem dX7_mean_104 : decode cX7_mean 104 = .ok (.iadd, 1) := dk_96 (dk_at dksX7_mean_4 10 rfl rfl)
theorem dX7_mean_105 : decode cX7_mean 105 = .ok (.invokevirtual 424, 3) := dk_182 1 168 (dk_at dksX7_mean_4 11 rfl rfl)
theorem dX7_mean_108 : decode cX7_mean 108 = .ok (.lload_n 3, 1) := dk_33 (dk_at dksX7_mean_4 14 rfl rfl)
theorem dX7_mean_109 : decode cX7_mean 109 = .ok (.aload_n 0, 1) := dk_42 (dk_at dksX7_mean_4 15 rfl rfl)
theorem dX7_mean_110 : decode cX7_mean 110 = .ok (.getfield 7, 3) := dk_180 0 7 (dk_at dksX7_mean_4 16 rfl rfl)
theorem dX7_mean_113 : decode cX7_mean 113 = .ok (.iconst 3, 1) := dk_6 (dk_at dksX7_mean_4 19 rfl rfl)
theorem dX7_mean_114 : decode cX7_mean 114 = .ok (.iaload, 1) := dk_46 (dk_at dksX7_mean_4 20 rfl rfl)
theorem dX7_mean_115 : decode cX7_mean 115 = .ok (.invokestatic 226, 3) := dk_184 0 226 (dk_at dksX7_mean_4 21 rfl rfl)
theorem dX7_mean_118 : decode cX7_mean 118 = .ok (.i2l, 1) := dk_133 (dk_at dksX7_mean_5 0 rfl rfl)
theorem dX7_mean_119 : decode cX7_mean 119 = .ok (.ladd, 1) := dk_97 (dk_at dksX7_mean_5 1 rfl rfl)
theorem dX7_mean_120 : decode cX7_mean 120 = .ok (.lstore_n 3, 1) := dk_66 (dk_at dksX7_mean_5 2 rfl rfl)
theorem dX7_mean_121 : decode cX7_mean 121 = .ok (.iconst 0, 1) := dk_3 (dk_at dksX7_mean_5 3 rfl rfl)
theorem dX7_mean_122 : decode cX7_mean 122 = .ok (.istore 6, 2) := dk_54 6 (dk_at dksX7_mean_5 4 rfl rfl)
theorem dX7_mean_124 : decode cX7_mean 124 = .ok (.iload 6, 2) := dk_21 6 (dk_at dksX7_mean_5 6 rfl rfl)
theorem dX7_mean_126 : decode cX7_mean 126 = .ok (.bipush 44, 2) := dk_16 44 (dk_at dksX7_mean_5 8 rfl rfl)
theorem dX7_mean_128 : decode cX7_mean 128 = .ok (.if_icmp .ge 27, 3) := dk_162 0 27 (dk_at dksX7_mean_5 10 rfl rfl)
theorem dX7_mean_131 : decode cX7_mean 131 = .ok (.aload_n 0, 1) := dk_42 (dk_at dksX7_mean_5 13 rfl rfl)
theorem dX7_mean_132 : decode cX7_mean 132 = .ok (.getfield 7, 3) := dk_180 0 7 (dk_at dksX7_mean_5 14 rfl rfl)
theorem dX7_mean_135 : decode cX7_mean 135 = .ok (.iload 6, 2) := dk_21 6 (dk_at dksX7_mean_5 17 rfl rfl)
theorem dX7_mean_137 : decode cX7_mean 137 = .ok (.aload_n 0, 1) := dk_42 (dk_at dksX7_mean_5 19 rfl rfl)
theorem dX7_mean_138 : decode cX7_mean 138 = .ok (.getfield 7, 3) := dk_180 0 7 (dk_at dksX7_mean_5 20 rfl rfl)
theorem dX7_mean_141 : decode cX7_mean 141 = .ok (.sipush 2050, 3) := dk_17 8 2 (dk_at dksX7_mean_6 0 rfl rfl)
theorem dX7_mean_144 : decode cX7_mean 144 = .ok (.iload 6, 2) := dk_21 6 (dk_at dksX7_mean_6 3 rfl rfl)
theorem dX7_mean_146 : decode cX7_mean 146 = .ok (.iadd, 1) := dk_96 (dk_at dksX7_mean_6 5 rfl rfl)
theorem dX7_mean_147 : decode cX7_mean 147 = .ok (.iaload, 1) := dk_46 (dk_at dksX7_mean_6 6 rfl rfl)
theorem dX7_mean_148 : decode cX7_mean 148 = .ok (.iastore, 1) := dk_79 (dk_at dksX7_mean_6 7 rfl rfl)
theorem dX7_mean_149 : decode cX7_mean 149 = .ok (.iinc 6 1, 3) := dk_132 6 1 (dk_at dksX7_mean_6 8 rfl rfl)
theorem dX7_mean_152 : decode cX7_mean 152 = .ok (.goto (-28), 3) := dk_167 255 228 (dk_at dksX7_mean_6 11 rfl rfl)
theorem dX7_mean_155 : decode cX7_mean 155 = .ok (.iinc 5 1, 3) := dk_132 5 1 (dk_at dksX7_mean_6 14 rfl rfl)
theorem dX7_mean_158 : decode cX7_mean 158 = .ok (.goto (-64), 3) := dk_167 255 192 (dk_at dksX7_mean_6 17 rfl rfl)
theorem dX7_mean_161 : decode cX7_mean 161 = .ok (.aload_n 0, 1) := dk_42 (dk_at dksX7_mean_6 20 rfl rfl)
theorem dX7_mean_162 : decode cX7_mean 162 = .ok (.lload_n 3, 1) := dk_33 (dk_at dksX7_mean_6 21 rfl rfl)
theorem dX7_mean_163 : decode cX7_mean 163 = .ok (.iload_n 2, 1) := dk_28 (dk_at dksX7_mean_6 22 rfl rfl)
theorem dX7_mean_164 : decode cX7_mean 164 = .ok (.i2l, 1) := dk_133 (dk_at dksX7_mean_6 23 rfl rfl)
theorem dX7_mean_165 : decode cX7_mean 165 = .ok (.invokevirtual 395, 3) := dk_182 1 139 (dk_at dksX7_mean_7 0 rfl rfl)
theorem dX7_mean_168 : decode cX7_mean 168 = .ok (.ireturn, 1) := dk_172 (dk_at dksX7_mean_7 3 rfl rfl)
abbrev cX7_mark : ByteArray := prog_16_method_141_code
def yX7_mark : MethodName := ⟨RX7, "mark", "()I"⟩
def dkwX7_mark_1 : List UInt8 := [42, 3, 42, 180, 1, 177, 182, 1, 180, 42, 42, 180, 1, 177, 182, 0, 85, 172]
abbrev dktX7_mark_1 : List UInt8 := dkwX7_mark_1 ++ []
def dkwX7_mark_0 : List UInt8 := [42, 180, 1, 177, 6, 160, 0, 9, 42, 7, 182, 0, 81, 172, 42, 89, 180, 1, 177, 4, 96, 181, 1, 177]
abbrev dktX7_mark_0 : List UInt8 := dkwX7_mark_0 ++ dktX7_mark_1
theorem dksX7_mark_0 : cX7_mark.data.toList.drop 0 = dktX7_mark_0 := by decide +kernel
theorem dksX7_mark_1 : cX7_mark.data.toList.drop 24 = dktX7_mark_1 := dk_seg dksX7_mark_0 24 rfl rfl
theorem dX7_mark_0 : decode cX7_mark 0 = .ok (.aload_n 0, 1) := dk_42 (dk_at dksX7_mark_0 0 rfl rfl)
theorem dX7_mark_1 : decode cX7_mark 1 = .ok (.getfield 433, 3) := dk_180 1 177 (dk_at dksX7_mark_0 1 rfl rfl)
theorem dX7_mark_4 : decode cX7_mark 4 = .ok (.iconst 3, 1) := dk_6 (dk_at dksX7_mark_0 4 rfl rfl)
theorem dX7_mark_5 : decode cX7_mark 5 = .ok (.if_icmp .ne 9, 3) := dk_160 0 9 (dk_at dksX7_mark_0 5 rfl rfl)
theorem dX7_mark_8 : decode cX7_mark 8 = .ok (.aload_n 0, 1) := dk_42 (dk_at dksX7_mark_0 8 rfl rfl)
theorem dX7_mark_9 : decode cX7_mark 9 = .ok (.iconst 4, 1) := dk_7 (dk_at dksX7_mark_0 9 rfl rfl)
theorem dX7_mark_10 : decode cX7_mark 10 = .ok (.invokevirtual 81, 3) := dk_182 0 81 (dk_at dksX7_mark_0 10 rfl rfl)
theorem dX7_mark_13 : decode cX7_mark 13 = .ok (.ireturn, 1) := dk_172 (dk_at dksX7_mark_0 13 rfl rfl)
theorem dX7_mark_14 : decode cX7_mark 14 = .ok (.aload_n 0, 1) := dk_42 (dk_at dksX7_mark_0 14 rfl rfl)
theorem dX7_mark_15 : decode cX7_mark 15 = .ok (.dup, 1) := dk_89 (dk_at dksX7_mark_0 15 rfl rfl)
theorem dX7_mark_16 : decode cX7_mark 16 = .ok (.getfield 433, 3) := dk_180 1 177 (dk_at dksX7_mark_0 16 rfl rfl)
theorem dX7_mark_19 : decode cX7_mark 19 = .ok (.iconst 1, 1) := dk_4 (dk_at dksX7_mark_0 19 rfl rfl)
theorem dX7_mark_20 : decode cX7_mark 20 = .ok (.iadd, 1) := dk_96 (dk_at dksX7_mark_0 20 rfl rfl)
theorem dX7_mark_21 : decode cX7_mark 21 = .ok (.putfield 433, 3) := dk_181 1 177 (dk_at dksX7_mark_0 21 rfl rfl)
theorem dX7_mark_24 : decode cX7_mark 24 = .ok (.aload_n 0, 1) := dk_42 (dk_at dksX7_mark_1 0 rfl rfl)
theorem dX7_mark_25 : decode cX7_mark 25 = .ok (.iconst 0, 1) := dk_3 (dk_at dksX7_mark_1 1 rfl rfl)
theorem dX7_mark_26 : decode cX7_mark 26 = .ok (.aload_n 0, 1) := dk_42 (dk_at dksX7_mark_1 2 rfl rfl)
theorem dX7_mark_27 : decode cX7_mark 27 = .ok (.getfield 433, 3) := dk_180 1 177 (dk_at dksX7_mark_1 3 rfl rfl)
theorem dX7_mark_30 : decode cX7_mark 30 = .ok (.invokevirtual 436, 3) := dk_182 1 180 (dk_at dksX7_mark_1 6 rfl rfl)
theorem dX7_mark_33 : decode cX7_mark 33 = .ok (.aload_n 0, 1) := dk_42 (dk_at dksX7_mark_1 9 rfl rfl)
theorem dX7_mark_34 : decode cX7_mark 34 = .ok (.aload_n 0, 1) := dk_42 (dk_at dksX7_mark_1 10 rfl rfl)
theorem dX7_mark_35 : decode cX7_mark 35 = .ok (.getfield 433, 3) := dk_180 1 177 (dk_at dksX7_mark_1 11 rfl rfl)
theorem dX7_mark_38 : decode cX7_mark 38 = .ok (.invokevirtual 85, 3) := dk_182 0 85 (dk_at dksX7_mark_1 14 rfl rfl)
theorem dX7_mark_41 : decode cX7_mark 41 = .ok (.ireturn, 1) := dk_172 (dk_at dksX7_mark_1 17 rfl rfl)
abbrev cX7_copies : ByteArray := prog_16_method_140_code
def yX7_copies : MethodName := ⟨RX7, "copies", "(II)V"⟩
def dkwX7_copies_3 : List UInt8 := [167, 255, 225, 177]
abbrev dktX7_copies_3 : List UInt8 := dkwX7_copies_3 ++ []
def dkwX7_copies_2 : List UInt8 := [180, 0, 13, 16, 10, 28, 104, 29, 96, 42, 180, 0, 13, 16, 10, 27, 104, 29, 96, 47, 80, 132, 3, 1]
abbrev dktX7_copies_2 : List UInt8 := dkwX7_copies_2 ++ dktX7_copies_3
def dkwX7_copies_1 : List UInt8 := [17, 1, 154, 27, 104, 29, 96, 46, 79, 132, 3, 1, 167, 255, 222, 3, 62, 29, 16, 10, 162, 0, 31, 42]
abbrev dktX7_copies_1 : List UInt8 := dkwX7_copies_1 ++ dktX7_copies_2
def dkwX7_copies_0 : List UInt8 := [3, 62, 29, 17, 1, 154, 162, 0, 33, 42, 180, 0, 7, 17, 1, 154, 28, 104, 29, 96, 42, 180, 0, 7]
abbrev dktX7_copies_0 : List UInt8 := dkwX7_copies_0 ++ dktX7_copies_1
theorem dksX7_copies_0 : cX7_copies.data.toList.drop 0 = dktX7_copies_0 := by decide +kernel
theorem dksX7_copies_1 : cX7_copies.data.toList.drop 24 = dktX7_copies_1 := dk_seg dksX7_copies_0 24 rfl rfl
theorem dksX7_copies_2 : cX7_copies.data.toList.drop 48 = dktX7_copies_2 := dk_seg dksX7_copies_1 24 rfl rfl
theorem dksX7_copies_3 : cX7_copies.data.toList.drop 72 = dktX7_copies_3 := dk_seg dksX7_copies_2 24 rfl rfl
theorem dX7_copies_0 : decode cX7_copies 0 = .ok (.iconst 0, 1) := dk_3 (dk_at dksX7_copies_0 0 rfl rfl)
theorem dX7_copies_1 : decode cX7_copies 1 = .ok (.istore_n 3, 1) := dk_62 (dk_at dksX7_copies_0 1 rfl rfl)
theorem dX7_copies_2 : decode cX7_copies 2 = .ok (.iload_n 3, 1) := dk_29 (dk_at dksX7_copies_0 2 rfl rfl)
theorem dX7_copies_3 : decode cX7_copies 3 = .ok (.sipush 410, 3) := dk_17 1 154 (dk_at dksX7_copies_0 3 rfl rfl)
theorem dX7_copies_6 : decode cX7_copies 6 = .ok (.if_icmp .ge 33, 3) := dk_162 0 33 (dk_at dksX7_copies_0 6 rfl rfl)
theorem dX7_copies_9 : decode cX7_copies 9 = .ok (.aload_n 0, 1) := dk_42 (dk_at dksX7_copies_0 9 rfl rfl)
theorem dX7_copies_10 : decode cX7_copies 10 = .ok (.getfield 7, 3) := dk_180 0 7 (dk_at dksX7_copies_0 10 rfl rfl)
theorem dX7_copies_13 : decode cX7_copies 13 = .ok (.sipush 410, 3) := dk_17 1 154 (dk_at dksX7_copies_0 13 rfl rfl)
theorem dX7_copies_16 : decode cX7_copies 16 = .ok (.iload_n 2, 1) := dk_28 (dk_at dksX7_copies_0 16 rfl rfl)
theorem dX7_copies_17 : decode cX7_copies 17 = .ok (.imul, 1) := dk_104 (dk_at dksX7_copies_0 17 rfl rfl)
theorem dX7_copies_18 : decode cX7_copies 18 = .ok (.iload_n 3, 1) := dk_29 (dk_at dksX7_copies_0 18 rfl rfl)
theorem dX7_copies_19 : decode cX7_copies 19 = .ok (.iadd, 1) := dk_96 (dk_at dksX7_copies_0 19 rfl rfl)
theorem dX7_copies_20 : decode cX7_copies 20 = .ok (.aload_n 0, 1) := dk_42 (dk_at dksX7_copies_0 20 rfl rfl)
theorem dX7_copies_21 : decode cX7_copies 21 = .ok (.getfield 7, 3) := dk_180 0 7 (dk_at dksX7_copies_0 21 rfl rfl)
theorem dX7_copies_24 : decode cX7_copies 24 = .ok (.sipush 410, 3) := dk_17 1 154 (dk_at dksX7_copies_1 0 rfl rfl)
theorem dX7_copies_27 : decode cX7_copies 27 = .ok (.iload_n 1, 1) := dk_27 (dk_at dksX7_copies_1 3 rfl rfl)
theorem dX7_copies_28 : decode cX7_copies 28 = .ok (.imul, 1) := dk_104 (dk_at dksX7_copies_1 4 rfl rfl)
theorem dX7_copies_29 : decode cX7_copies 29 = .ok (.iload_n 3, 1) := dk_29 (dk_at dksX7_copies_1 5 rfl rfl)
theorem dX7_copies_30 : decode cX7_copies 30 = .ok (.iadd, 1) := dk_96 (dk_at dksX7_copies_1 6 rfl rfl)
theorem dX7_copies_31 : decode cX7_copies 31 = .ok (.iaload, 1) := dk_46 (dk_at dksX7_copies_1 7 rfl rfl)
theorem dX7_copies_32 : decode cX7_copies 32 = .ok (.iastore, 1) := dk_79 (dk_at dksX7_copies_1 8 rfl rfl)
theorem dX7_copies_33 : decode cX7_copies 33 = .ok (.iinc 3 1, 3) := dk_132 3 1 (dk_at dksX7_copies_1 9 rfl rfl)
theorem dX7_copies_36 : decode cX7_copies 36 = .ok (.goto (-34), 3) := dk_167 255 222 (dk_at dksX7_copies_1 12 rfl rfl)
theorem dX7_copies_39 : decode cX7_copies 39 = .ok (.iconst 0, 1) := dk_3 (dk_at dksX7_copies_1 15 rfl rfl)
theorem dX7_copies_40 : decode cX7_copies 40 = .ok (.istore_n 3, 1) := dk_62 (dk_at dksX7_copies_1 16 rfl rfl)
theorem dX7_copies_41 : decode cX7_copies 41 = .ok (.iload_n 3, 1) := dk_29 (dk_at dksX7_copies_1 17 rfl rfl)
theorem dX7_copies_42 : decode cX7_copies 42 = .ok (.bipush 10, 2) := dk_16 10 (dk_at dksX7_copies_1 18 rfl rfl)
theorem dX7_copies_44 : decode cX7_copies 44 = .ok (.if_icmp .ge 31, 3) := dk_162 0 31 (dk_at dksX7_copies_1 20 rfl rfl)
theorem dX7_copies_47 : decode cX7_copies 47 = .ok (.aload_n 0, 1) := dk_42 (dk_at dksX7_copies_1 23 rfl rfl)
theorem dX7_copies_48 : decode cX7_copies 48 = .ok (.getfield 13, 3) := dk_180 0 13 (dk_at dksX7_copies_2 0 rfl rfl)
theorem dX7_copies_51 : decode cX7_copies 51 = .ok (.bipush 10, 2) := dk_16 10 (dk_at dksX7_copies_2 3 rfl rfl)
theorem dX7_copies_53 : decode cX7_copies 53 = .ok (.iload_n 2, 1) := dk_28 (dk_at dksX7_copies_2 5 rfl rfl)
theorem dX7_copies_54 : decode cX7_copies 54 = .ok (.imul, 1) := dk_104 (dk_at dksX7_copies_2 6 rfl rfl)
theorem dX7_copies_55 : decode cX7_copies 55 = .ok (.iload_n 3, 1) := dk_29 (dk_at dksX7_copies_2 7 rfl rfl)
theorem dX7_copies_56 : decode cX7_copies 56 = .ok (.iadd, 1) := dk_96 (dk_at dksX7_copies_2 8 rfl rfl)
theorem dX7_copies_57 : decode cX7_copies 57 = .ok (.aload_n 0, 1) := dk_42 (dk_at dksX7_copies_2 9 rfl rfl)
theorem dX7_copies_58 : decode cX7_copies 58 = .ok (.getfield 13, 3) := dk_180 0 13 (dk_at dksX7_copies_2 10 rfl rfl)
theorem dX7_copies_61 : decode cX7_copies 61 = .ok (.bipush 10, 2) := dk_16 10 (dk_at dksX7_copies_2 13 rfl rfl)
theorem dX7_copies_63 : decode cX7_copies 63 = .ok (.iload_n 1, 1) := dk_27 (dk_at dksX7_copies_2 15 rfl rfl)
theorem dX7_copies_64 : decode cX7_copies 64 = .ok (.imul, 1) := dk_104 (dk_at dksX7_copies_2 16 rfl rfl)
theorem dX7_copies_65 : decode cX7_copies 65 = .ok (.iload_n 3, 1) := dk_29 (dk_at dksX7_copies_2 17 rfl rfl)
theorem dX7_copies_66 : decode cX7_copies 66 = .ok (.iadd, 1) := dk_96 (dk_at dksX7_copies_2 18 rfl rfl)
theorem dX7_copies_67 : decode cX7_copies 67 = .ok (.laload, 1) := dk_47 (dk_at dksX7_copies_2 19 rfl rfl)
theorem dX7_copies_68 : decode cX7_copies 68 = .ok (.lastore, 1) := dk_80 (dk_at dksX7_copies_2 20 rfl rfl)
theorem dX7_copies_69 : decode cX7_copies 69 = .ok (.iinc 3 1, 3) := dk_132 3 1 (dk_at dksX7_copies_2 21 rfl rfl)
theorem dX7_copies_72 : decode cX7_copies 72 = .ok (.goto (-31), 3) := dk_167 255 225 (dk_at dksX7_copies_3 0 rfl rfl)
theorem dX7_copies_75 : decode cX7_copies 75 = .ok (.return_, 1) := dk_177 (dk_at dksX7_copies_3 3 rfl rfl)
abbrev cX7_back : ByteArray := prog_16_method_142_code
def yX7_back : MethodName := ⟨RX7, "back", "()I"⟩
def dkwX7_back_1 : List UInt8 := [89, 180, 1, 177, 4, 100, 181, 1, 177, 42, 42, 180, 1, 177, 182, 0, 85, 172]
abbrev dktX7_back_1 : List UInt8 := dkwX7_back_1 ++ []
def dkwX7_back_0 : List UInt8 := [42, 180, 1, 177, 154, 0, 10, 42, 16, 6, 182, 0, 81, 172, 42, 42, 180, 1, 177, 3, 182, 1, 180, 42]
abbrev dktX7_back_0 : List UInt8 := dkwX7_back_0 ++ dktX7_back_1
theorem dksX7_back_0 : cX7_back.data.toList.drop 0 = dktX7_back_0 := by decide +kernel
theorem dksX7_back_1 : cX7_back.data.toList.drop 24 = dktX7_back_1 := dk_seg dksX7_back_0 24 rfl rfl
theorem dX7_back_0 : decode cX7_back 0 = .ok (.aload_n 0, 1) := dk_42 (dk_at dksX7_back_0 0 rfl rfl)
theorem dX7_back_1 : decode cX7_back 1 = .ok (.getfield 433, 3) := dk_180 1 177 (dk_at dksX7_back_0 1 rfl rfl)
theorem dX7_back_4 : decode cX7_back 4 = .ok (.ifCond .ne 10, 3) := dk_154 0 10 (dk_at dksX7_back_0 4 rfl rfl)
theorem dX7_back_7 : decode cX7_back 7 = .ok (.aload_n 0, 1) := dk_42 (dk_at dksX7_back_0 7 rfl rfl)
theorem dX7_back_8 : decode cX7_back 8 = .ok (.bipush 6, 2) := dk_16 6 (dk_at dksX7_back_0 8 rfl rfl)
theorem dX7_back_10 : decode cX7_back 10 = .ok (.invokevirtual 81, 3) := dk_182 0 81 (dk_at dksX7_back_0 10 rfl rfl)
theorem dX7_back_13 : decode cX7_back 13 = .ok (.ireturn, 1) := dk_172 (dk_at dksX7_back_0 13 rfl rfl)
theorem dX7_back_14 : decode cX7_back 14 = .ok (.aload_n 0, 1) := dk_42 (dk_at dksX7_back_0 14 rfl rfl)
theorem dX7_back_15 : decode cX7_back 15 = .ok (.aload_n 0, 1) := dk_42 (dk_at dksX7_back_0 15 rfl rfl)
theorem dX7_back_16 : decode cX7_back 16 = .ok (.getfield 433, 3) := dk_180 1 177 (dk_at dksX7_back_0 16 rfl rfl)
theorem dX7_back_19 : decode cX7_back 19 = .ok (.iconst 0, 1) := dk_3 (dk_at dksX7_back_0 19 rfl rfl)
theorem dX7_back_20 : decode cX7_back 20 = .ok (.invokevirtual 436, 3) := dk_182 1 180 (dk_at dksX7_back_0 20 rfl rfl)
theorem dX7_back_23 : decode cX7_back 23 = .ok (.aload_n 0, 1) := dk_42 (dk_at dksX7_back_0 23 rfl rfl)
theorem dX7_back_24 : decode cX7_back 24 = .ok (.dup, 1) := dk_89 (dk_at dksX7_back_1 0 rfl rfl)
theorem dX7_back_25 : decode cX7_back 25 = .ok (.getfield 433, 3) := dk_180 1 177 (dk_at dksX7_back_1 1 rfl rfl)
theorem dX7_back_28 : decode cX7_back 28 = .ok (.iconst 1, 1) := dk_4 (dk_at dksX7_back_1 4 rfl rfl)
theorem dX7_back_29 : decode cX7_back 29 = .ok (.isub, 1) := dk_100 (dk_at dksX7_back_1 5 rfl rfl)
theorem dX7_back_30 : decode cX7_back 30 = .ok (.putfield 433, 3) := dk_181 1 177 (dk_at dksX7_back_1 6 rfl rfl)
theorem dX7_back_33 : decode cX7_back 33 = .ok (.aload_n 0, 1) := dk_42 (dk_at dksX7_back_1 9 rfl rfl)
theorem dX7_back_34 : decode cX7_back 34 = .ok (.aload_n 0, 1) := dk_42 (dk_at dksX7_back_1 10 rfl rfl)
theorem dX7_back_35 : decode cX7_back 35 = .ok (.getfield 433, 3) := dk_180 1 177 (dk_at dksX7_back_1 11 rfl rfl)
theorem dX7_back_38 : decode cX7_back 38 = .ok (.invokevirtual 85, 3) := dk_182 0 85 (dk_at dksX7_back_1 14 rfl rfl)
theorem dX7_back_41 : decode cX7_back 41 = .ok (.ireturn, 1) := dk_172 (dk_at dksX7_back_1 17 rfl rfl)
theorem q144 : (Jvm.Cond.initialized "WindowHillModel") ∈ lw_all := lw_g (lw_at lw_m1 10 rfl) rfl
theorem q1458 : (Jvm.Cond.instantiable "WindowHillModel" (39 : Nat)) ∈ lw_all := lw_g (lw_at lw_m6 124 rfl) rfl
theorem q1460 : (Jvm.Cond.instanceMethod ({ cls := "WindowHillModel", name := "<init>", desc := "()V" } : Jvm.MethodName)) ∈ lw_all := lw_g (lw_at lw_m6 126 rfl) rfl
theorem q1461 : (Jvm.Cond.code ({ cls := "WindowHillModel", name := "<init>", desc := "()V" } : Jvm.MethodName) prog_16_method_1_code (1 : Nat) (Option.none : Option Jvm.ClassFile.FieldType)) ∈ lw_all := lw_g (lw_at lw_m6 127 rfl) rfl
theorem q1462 : (Jvm.Cond.methodLink "WindowHillModel" (1 : Nat) ({ cls := "java/lang/Object", name := "<init>", desc := "()V" } : Jvm.MethodName)) ∈ lw_all := lw_g (lw_at lw_m6 128 rfl) rfl
theorem q1463 : (Jvm.Cond.methodLink "WindowHillModel" (71 : Nat) ({ cls := "WindowHillModel", name := "plain", desc := "(I)V" } : Jvm.MethodName)) ∈ lw_all := lw_g (lw_at lw_m6 129 rfl) rfl
theorem q1464 : (Jvm.Cond.privateMethod ({ cls := "WindowHillModel", name := "plain", desc := "(I)V" } : Jvm.MethodName)) ∈ lw_tbl := lw_at lw_m6 130 rfl
theorem q1465 : (Jvm.Cond.instanceMethod ({ cls := "WindowHillModel", name := "plain", desc := "(I)V" } : Jvm.MethodName)) ∈ lw_all := lw_g (lw_at lw_m6 131 rfl) rfl
theorem q1466 : (Jvm.Cond.code ({ cls := "WindowHillModel", name := "plain", desc := "(I)V" } : Jvm.MethodName) prog_16_method_2_code (3 : Nat) (Option.none : Option Jvm.ClassFile.FieldType)) ∈ lw_all := lw_g (lw_at lw_m6 132 rfl) rfl
theorem q1467 : (Jvm.Cond.fieldLink "WindowHillModel" (7 : Nat) "WindowHillModel" "at" "[I") ∈ lw_all := lw_g (lw_at lw_m6 133 rfl) rfl
theorem q1468 : (Jvm.Cond.fieldLink "WindowHillModel" (13 : Nat) "WindowHillModel" "names" "[J") ∈ lw_all := lw_g (lw_at lw_m6 134 rfl) rfl
theorem q1469 : (Jvm.Cond.fieldLink "WindowHillModel" (75 : Nat) "WindowHillModel" "status" "I") ∈ lw_all := lw_g (lw_at lw_m6 135 rfl) rfl
theorem q1470 : (Jvm.Cond.fieldLink "WindowHillModel" (78 : Nat) "WindowHillModel" "top" "J") ∈ lw_all := lw_g (lw_at lw_m6 136 rfl) rfl
theorem q1471 : (Jvm.Cond.fieldLink "WindowHillModel" (17 : Nat) "WindowHillModel" "bottom" "J") ∈ lw_all := lw_g (lw_at lw_m6 137 rfl) rfl
theorem q1472 : (Jvm.Cond.fieldLink "WindowHillModel" (21 : Nat) "WindowHillModel" "sort" "[I") ∈ lw_all := lw_g (lw_at lw_m6 138 rfl) rfl
theorem q1473 : (Jvm.Cond.fieldLink "WindowHillModel" (24 : Nat) "WindowHillModel" "trayMany" "[I") ∈ lw_all := lw_g (lw_at lw_m6 139 rfl) rfl
theorem q1474 : (Jvm.Cond.fieldLink "WindowHillModel" (27 : Nat) "WindowHillModel" "trays" "[J") ∈ lw_all := lw_g (lw_at lw_m6 140 rfl) rfl
theorem q1475 : (Jvm.Cond.fieldLink "WindowHillModel" (30 : Nat) "WindowHillModel" "tape" "[B") ∈ lw_all := lw_g (lw_at lw_m6 141 rfl) rfl
theorem q1476 : (Jvm.Cond.fieldLink "WindowHillModel" (34 : Nat) "WindowHillModel" "text" "[B") ∈ lw_all := lw_g (lw_at lw_m6 142 rfl) rfl
theorem q1477 : (Jvm.Cond.fieldLink "WindowHillModel" (105 : Nat) "WindowHillModel" "taped" "I") ∈ lw_all := lw_g (lw_at lw_m6 143 rfl) rfl
theorem q1478 : (Jvm.Cond.fieldLink "WindowHillModel" (111 : Nat) "WindowHillModel" "size" "I") ∈ lw_all := lw_g (lw_at lw_m6 144 rfl) rfl
theorem q1479 : (Jvm.Cond.fieldLink "WindowHillModel" (126 : Nat) "WindowHillModel" "token" "I") ∈ lw_all := lw_g (lw_at lw_m6 145 rfl) rfl
theorem q1480 : (Jvm.Cond.fieldLink "WindowHillModel" (120 : Nat) "WindowHillModel" "from" "I") ∈ lw_all := lw_g (lw_at lw_m6 146 rfl) rfl
theorem q1481 : (Jvm.Cond.fieldLink "WindowHillModel" (114 : Nat) "WindowHillModel" "end" "I") ∈ lw_all := lw_g (lw_at lw_m6 147 rfl) rfl
theorem q1482 : (Jvm.Cond.fieldLink "WindowHillModel" (123 : Nat) "WindowHillModel" "value" "I") ∈ lw_all := lw_g (lw_at lw_m6 148 rfl) rfl
theorem q1483 : (Jvm.Cond.fieldLink "WindowHillModel" (37 : Nat) "WindowHillModel" "faultKind" "I") ∈ lw_all := lw_g (lw_at lw_m6 149 rfl) rfl
theorem q1484 : (Jvm.Cond.fieldLink "WindowHillModel" (41 : Nat) "WindowHillModel" "faultPlace" "I") ∈ lw_all := lw_g (lw_at lw_m6 150 rfl) rfl
theorem q1485 : (Jvm.Cond.fieldLink "WindowHillModel" (151 : Nat) "WindowHillModel" "faults" "I") ∈ lw_all := lw_g (lw_at lw_m6 151 rfl) rfl
theorem q1486 : (Jvm.Cond.fieldLink "WindowHillModel" (154 : Nat) "WindowHillModel" "seen" "I") ∈ lw_all := lw_g (lw_at lw_m6 152 rfl) rfl
theorem q1487 : (Jvm.Cond.fieldLink "WindowHillModel" (44 : Nat) "WindowHillModel" "opened" "[I") ∈ lw_all := lw_g (lw_at lw_m6 153 rfl) rfl
theorem q1488 : (Jvm.Cond.fieldLink "WindowHillModel" (241 : Nat) "WindowHillModel" "depth" "I") ∈ lw_all := lw_g (lw_at lw_m6 154 rfl) rfl
theorem q1489 : (Jvm.Cond.fieldLink "WindowHillModel" (244 : Nat) "WindowHillModel" "counted" "I") ∈ lw_all := lw_g (lw_at lw_m6 155 rfl) rfl
theorem q1490 : (Jvm.Cond.fieldLink "WindowHillModel" (47 : Nat) "WindowHillModel" "beside" "[I") ∈ lw_all := lw_g (lw_at lw_m6 156 rfl) rfl
theorem q1491 : (Jvm.Cond.fieldLink "WindowHillModel" (50 : Nat) "WindowHillModel" "then" "[I") ∈ lw_all := lw_g (lw_at lw_m6 157 rfl) rfl
theorem q1492 : (Jvm.Cond.fieldLink "WindowHillModel" (315 : Nat) "WindowHillModel" "lead" "I") ∈ lw_all := lw_g (lw_at lw_m6 158 rfl) rfl
theorem q1493 : (Jvm.Cond.fieldLink "WindowHillModel" (318 : Nat) "WindowHillModel" "round" "I") ∈ lw_all := lw_g (lw_at lw_m6 159 rfl) rfl
theorem q1494 : (Jvm.Cond.fieldLink "WindowHillModel" (53 : Nat) "WindowHillModel" "ways" "[J") ∈ lw_all := lw_g (lw_at lw_m6 160 rfl) rfl
theorem q1495 : (Jvm.Cond.fieldLink "WindowHillModel" (56 : Nat) "WindowHillModel" "further" "[J") ∈ lw_all := lw_g (lw_at lw_m6 161 rfl) rfl
theorem q1496 : (Jvm.Cond.fieldLink "WindowHillModel" (59 : Nat) "WindowHillModel" "canBe" "[I") ∈ lw_all := lw_g (lw_at lw_m6 162 rfl) rfl
theorem q1497 : (Jvm.Cond.fieldLink "WindowHillModel" (360 : Nat) "WindowHillModel" "tried" "I") ∈ lw_all := lw_g (lw_at lw_m6 163 rfl) rfl
theorem q1498 : (Jvm.Cond.fieldLink "WindowHillModel" (363 : Nat) "WindowHillModel" "triedMany" "I") ∈ lw_all := lw_g (lw_at lw_m6 164 rfl) rfl
theorem q1499 : (Jvm.Cond.fieldLink "WindowHillModel" (399 : Nat) "WindowHillModel" "drawn" "I") ∈ lw_all := lw_g (lw_at lw_m6 165 rfl) rfl
theorem q1500 : (Jvm.Cond.fieldLink "WindowHillModel" (412 : Nat) "WindowHillModel" "ranSteps" "I") ∈ lw_all := lw_g (lw_at lw_m6 166 rfl) rfl
theorem q1501 : (Jvm.Cond.fieldLink "WindowHillModel" (62 : Nat) "WindowHillModel" "loops" "[I") ∈ lw_all := lw_g (lw_at lw_m6 167 rfl) rfl
theorem q1502 : (Jvm.Cond.fieldLink "WindowHillModel" (65 : Nat) "WindowHillModel" "ran" "[I") ∈ lw_all := lw_g (lw_at lw_m6 168 rfl) rfl
theorem q1503 : (Jvm.Cond.fieldLink "WindowHillModel" (68 : Nat) "WindowHillModel" "told0" "[I") ∈ lw_all := lw_g (lw_at lw_m6 169 rfl) rfl
theorem q1504 : (Jvm.Cond.fieldLink "WindowHillModel" (427 : Nat) "WindowHillModel" "isTold" "Z") ∈ lw_all := lw_g (lw_at lw_m6 170 rfl) rfl
theorem q1505 : (Jvm.Cond.fieldLink "WindowHillModel" (433 : Nat) "WindowHillModel" "marks" "I") ∈ lw_all := lw_g (lw_at lw_m6 171 rfl) rfl
theorem q1506 : (Jvm.Cond.laysFinal "WindowHillModel" "WindowHillModel" "at" "[I") ∈ lw_all := lw_g (lw_at lw_m6 172 rfl) rfl
theorem q1507 : (Jvm.Cond.soleField "WindowHillModel" "at") ∈ lw_all := lw_g (lw_at lw_m6 173 rfl) rfl
theorem q1508 : (Jvm.Cond.laysFinal "WindowHillModel" "WindowHillModel" "names" "[J") ∈ lw_all := lw_g (lw_at lw_m6 174 rfl) rfl
theorem q1509 : (Jvm.Cond.soleField "WindowHillModel" "names") ∈ lw_all := lw_g (lw_at lw_m6 175 rfl) rfl
theorem q1510 : (Jvm.Cond.lays "WindowHillModel" "WindowHillModel" "status" "I") ∈ lw_all := lw_g (lw_at lw_m6 176 rfl) rfl
theorem q1511 : (Jvm.Cond.soleField "WindowHillModel" "status") ∈ lw_all := lw_g (lw_at lw_m6 177 rfl) rfl
theorem q1512 : (Jvm.Cond.lays "WindowHillModel" "WindowHillModel" "top" "J") ∈ lw_all := lw_g (lw_at lw_m6 178 rfl) rfl
theorem q1513 : (Jvm.Cond.soleField "WindowHillModel" "top") ∈ lw_all := lw_g (lw_at lw_m6 179 rfl) rfl
theorem q1514 : (Jvm.Cond.lays "WindowHillModel" "WindowHillModel" "bottom" "J") ∈ lw_all := lw_g (lw_at lw_m6 180 rfl) rfl
theorem q1515 : (Jvm.Cond.soleField "WindowHillModel" "bottom") ∈ lw_all := lw_g (lw_at lw_m6 181 rfl) rfl
theorem q1516 : (Jvm.Cond.laysFinal "WindowHillModel" "WindowHillModel" "sort" "[I") ∈ lw_all := lw_g (lw_at lw_m6 182 rfl) rfl
theorem q1517 : (Jvm.Cond.soleField "WindowHillModel" "sort") ∈ lw_all := lw_g (lw_at lw_m6 183 rfl) rfl
theorem q1518 : (Jvm.Cond.laysFinal "WindowHillModel" "WindowHillModel" "trayMany" "[I") ∈ lw_all := lw_g (lw_at lw_m6 184 rfl) rfl
theorem q1519 : (Jvm.Cond.soleField "WindowHillModel" "trayMany") ∈ lw_all := lw_g (lw_at lw_m6 185 rfl) rfl
theorem q1520 : (Jvm.Cond.laysFinal "WindowHillModel" "WindowHillModel" "trays" "[J") ∈ lw_all := lw_g (lw_at lw_m6 186 rfl) rfl
theorem q1521 : (Jvm.Cond.soleField "WindowHillModel" "trays") ∈ lw_all := lw_g (lw_at lw_m6 187 rfl) rfl
theorem q1522 : (Jvm.Cond.laysFinal "WindowHillModel" "WindowHillModel" "tape" "[B") ∈ lw_all := lw_g (lw_at lw_m6 188 rfl) rfl
theorem q1523 : (Jvm.Cond.soleField "WindowHillModel" "tape") ∈ lw_all := lw_g (lw_at lw_m6 189 rfl) rfl
theorem q1524 : (Jvm.Cond.laysFinal "WindowHillModel" "WindowHillModel" "text" "[B") ∈ lw_all := lw_g (lw_at lw_m6 190 rfl) rfl
theorem q1525 : (Jvm.Cond.soleField "WindowHillModel" "text") ∈ lw_all := lw_g (lw_at lw_m6 191 rfl) rfl
theorem q1526 : (Jvm.Cond.lays "WindowHillModel" "WindowHillModel" "taped" "I") ∈ lw_all := lw_g (lw_at lw_m6 192 rfl) rfl
theorem q1527 : (Jvm.Cond.soleField "WindowHillModel" "taped") ∈ lw_all := lw_g (lw_at lw_m6 193 rfl) rfl
theorem q1528 : (Jvm.Cond.lays "WindowHillModel" "WindowHillModel" "size" "I") ∈ lw_all := lw_g (lw_at lw_m6 194 rfl) rfl
theorem q1529 : (Jvm.Cond.soleField "WindowHillModel" "size") ∈ lw_all := lw_g (lw_at lw_m6 195 rfl) rfl
theorem q1530 : (Jvm.Cond.lays "WindowHillModel" "WindowHillModel" "token" "I") ∈ lw_all := lw_g (lw_at lw_m6 196 rfl) rfl
theorem q1531 : (Jvm.Cond.soleField "WindowHillModel" "token") ∈ lw_all := lw_g (lw_at lw_m6 197 rfl) rfl
theorem q1532 : (Jvm.Cond.lays "WindowHillModel" "WindowHillModel" "from" "I") ∈ lw_all := lw_g (lw_at lw_m6 198 rfl) rfl
theorem q1533 : (Jvm.Cond.soleField "WindowHillModel" "from") ∈ lw_all := lw_g (lw_at lw_m6 199 rfl) rfl
theorem q1534 : (Jvm.Cond.lays "WindowHillModel" "WindowHillModel" "end" "I") ∈ lw_all := lw_g (lw_at lw_m6 200 rfl) rfl
theorem q1535 : (Jvm.Cond.soleField "WindowHillModel" "end") ∈ lw_all := lw_g (lw_at lw_m6 201 rfl) rfl
theorem q1536 : (Jvm.Cond.lays "WindowHillModel" "WindowHillModel" "value" "I") ∈ lw_all := lw_g (lw_at lw_m6 202 rfl) rfl
theorem q1537 : (Jvm.Cond.soleField "WindowHillModel" "value") ∈ lw_all := lw_g (lw_at lw_m6 203 rfl) rfl
theorem q1538 : (Jvm.Cond.lays "WindowHillModel" "WindowHillModel" "faultKind" "I") ∈ lw_all := lw_g (lw_at lw_m6 204 rfl) rfl
theorem q1539 : (Jvm.Cond.soleField "WindowHillModel" "faultKind") ∈ lw_all := lw_g (lw_at lw_m6 205 rfl) rfl
theorem q1540 : (Jvm.Cond.lays "WindowHillModel" "WindowHillModel" "faultPlace" "I") ∈ lw_all := lw_g (lw_at lw_m6 206 rfl) rfl
theorem q1541 : (Jvm.Cond.soleField "WindowHillModel" "faultPlace") ∈ lw_all := lw_g (lw_at lw_m6 207 rfl) rfl
theorem q1542 : (Jvm.Cond.lays "WindowHillModel" "WindowHillModel" "faults" "I") ∈ lw_all := lw_g (lw_at lw_m6 208 rfl) rfl
theorem q1543 : (Jvm.Cond.soleField "WindowHillModel" "faults") ∈ lw_all := lw_g (lw_at lw_m6 209 rfl) rfl
theorem q1544 : (Jvm.Cond.lays "WindowHillModel" "WindowHillModel" "seen" "I") ∈ lw_all := lw_g (lw_at lw_m6 210 rfl) rfl
theorem q1545 : (Jvm.Cond.soleField "WindowHillModel" "seen") ∈ lw_all := lw_g (lw_at lw_m6 211 rfl) rfl
theorem q1546 : (Jvm.Cond.laysFinal "WindowHillModel" "WindowHillModel" "opened" "[I") ∈ lw_all := lw_g (lw_at lw_m6 212 rfl) rfl
theorem q1547 : (Jvm.Cond.soleField "WindowHillModel" "opened") ∈ lw_all := lw_g (lw_at lw_m6 213 rfl) rfl
theorem q1548 : (Jvm.Cond.lays "WindowHillModel" "WindowHillModel" "depth" "I") ∈ lw_all := lw_g (lw_at lw_m6 214 rfl) rfl
theorem q1549 : (Jvm.Cond.soleField "WindowHillModel" "depth") ∈ lw_all := lw_g (lw_at lw_m6 215 rfl) rfl
theorem q1550 : (Jvm.Cond.lays "WindowHillModel" "WindowHillModel" "counted" "I") ∈ lw_all := lw_g (lw_at lw_m6 216 rfl) rfl
theorem q1551 : (Jvm.Cond.soleField "WindowHillModel" "counted") ∈ lw_all := lw_g (lw_at lw_m6 217 rfl) rfl
theorem q1552 : (Jvm.Cond.laysFinal "WindowHillModel" "WindowHillModel" "beside" "[I") ∈ lw_all := lw_g (lw_at lw_m6 218 rfl) rfl
theorem q1553 : (Jvm.Cond.soleField "WindowHillModel" "beside") ∈ lw_all := lw_g (lw_at lw_m6 219 rfl) rfl
theorem q1554 : (Jvm.Cond.laysFinal "WindowHillModel" "WindowHillModel" "then" "[I") ∈ lw_all := lw_g (lw_at lw_m6 220 rfl) rfl
theorem q1555 : (Jvm.Cond.soleField "WindowHillModel" "then") ∈ lw_all := lw_g (lw_at lw_m6 221 rfl) rfl
theorem q1556 : (Jvm.Cond.lays "WindowHillModel" "WindowHillModel" "lead" "I") ∈ lw_all := lw_g (lw_at lw_m6 222 rfl) rfl
theorem q1557 : (Jvm.Cond.soleField "WindowHillModel" "lead") ∈ lw_all := lw_g (lw_at lw_m6 223 rfl) rfl
theorem q1558 : (Jvm.Cond.lays "WindowHillModel" "WindowHillModel" "round" "I") ∈ lw_all := lw_g (lw_at lw_m6 224 rfl) rfl
theorem q1559 : (Jvm.Cond.soleField "WindowHillModel" "round") ∈ lw_all := lw_g (lw_at lw_m6 225 rfl) rfl
theorem q1560 : (Jvm.Cond.laysFinal "WindowHillModel" "WindowHillModel" "ways" "[J") ∈ lw_all := lw_g (lw_at lw_m6 226 rfl) rfl
theorem q1561 : (Jvm.Cond.soleField "WindowHillModel" "ways") ∈ lw_all := lw_g (lw_at lw_m6 227 rfl) rfl
theorem q1562 : (Jvm.Cond.laysFinal "WindowHillModel" "WindowHillModel" "further" "[J") ∈ lw_all := lw_g (lw_at lw_m6 228 rfl) rfl
theorem q1563 : (Jvm.Cond.soleField "WindowHillModel" "further") ∈ lw_all := lw_g (lw_at lw_m6 229 rfl) rfl
theorem q1564 : (Jvm.Cond.laysFinal "WindowHillModel" "WindowHillModel" "canBe" "[I") ∈ lw_all := lw_g (lw_at lw_m6 230 rfl) rfl
theorem q1565 : (Jvm.Cond.soleField "WindowHillModel" "canBe") ∈ lw_all := lw_g (lw_at lw_m6 231 rfl) rfl
theorem q1566 : (Jvm.Cond.lays "WindowHillModel" "WindowHillModel" "tried" "I") ∈ lw_all := lw_g (lw_at lw_m6 232 rfl) rfl
theorem q1567 : (Jvm.Cond.soleField "WindowHillModel" "tried") ∈ lw_all := lw_g (lw_at lw_m6 233 rfl) rfl
theorem q1568 : (Jvm.Cond.lays "WindowHillModel" "WindowHillModel" "triedMany" "I") ∈ lw_all := lw_g (lw_at lw_m6 234 rfl) rfl
theorem q1569 : (Jvm.Cond.soleField "WindowHillModel" "triedMany") ∈ lw_all := lw_g (lw_at lw_m6 235 rfl) rfl
theorem q1570 : (Jvm.Cond.lays "WindowHillModel" "WindowHillModel" "drawn" "I") ∈ lw_all := lw_g (lw_at lw_m6 236 rfl) rfl
theorem q1571 : (Jvm.Cond.soleField "WindowHillModel" "drawn") ∈ lw_all := lw_g (lw_at lw_m6 237 rfl) rfl
theorem q1572 : (Jvm.Cond.lays "WindowHillModel" "WindowHillModel" "ranSteps" "I") ∈ lw_all := lw_g (lw_at lw_m6 238 rfl) rfl
theorem q1573 : (Jvm.Cond.soleField "WindowHillModel" "ranSteps") ∈ lw_all := lw_g (lw_at lw_m6 239 rfl) rfl
theorem q1574 : (Jvm.Cond.laysFinal "WindowHillModel" "WindowHillModel" "loops" "[I") ∈ lw_all := lw_g (lw_at lw_m7 0 rfl) rfl
theorem q1575 : (Jvm.Cond.soleField "WindowHillModel" "loops") ∈ lw_all := lw_g (lw_at lw_m7 1 rfl) rfl
theorem q1576 : (Jvm.Cond.laysFinal "WindowHillModel" "WindowHillModel" "ran" "[I") ∈ lw_all := lw_g (lw_at lw_m7 2 rfl) rfl
theorem q1577 : (Jvm.Cond.soleField "WindowHillModel" "ran") ∈ lw_all := lw_g (lw_at lw_m7 3 rfl) rfl
theorem q1578 : (Jvm.Cond.laysFinal "WindowHillModel" "WindowHillModel" "told0" "[I") ∈ lw_all := lw_g (lw_at lw_m7 4 rfl) rfl
theorem q1579 : (Jvm.Cond.soleField "WindowHillModel" "told0") ∈ lw_all := lw_g (lw_at lw_m7 5 rfl) rfl
theorem q1580 : (Jvm.Cond.lays "WindowHillModel" "WindowHillModel" "isTold" "Z") ∈ lw_all := lw_g (lw_at lw_m7 6 rfl) rfl
theorem q1581 : (Jvm.Cond.soleField "WindowHillModel" "isTold") ∈ lw_all := lw_g (lw_at lw_m7 7 rfl) rfl
theorem q1582 : (Jvm.Cond.lays "WindowHillModel" "WindowHillModel" "marks" "I") ∈ lw_all := lw_g (lw_at lw_m7 8 rfl) rfl
theorem q1583 : (Jvm.Cond.soleField "WindowHillModel" "marks") ∈ lw_all := lw_g (lw_at lw_m7 9 rfl) rfl
theorem q1584 : (Jvm.Cond.superclass "WindowHillModel" "java/lang/Object") ∈ lw_all := lw_g (lw_at lw_m7 10 rfl) rfl
theorem q1586 : (Jvm.Cond.instanceMethod ({ cls := "WindowHillModel", name := "status", desc := "()I" } : Jvm.MethodName)) ∈ lw_all := lw_g (lw_at lw_m7 12 rfl) rfl
theorem q1587 : (Jvm.Cond.selects "WindowHillModel" ({ cls := "WindowHillModel", name := "status", desc := "()I" } : Jvm.MethodName) ({ cls := "WindowHillModel", name := "status", desc := "()I" } : Jvm.MethodName)) ∈ lw_all := lw_g (lw_at lw_m7 13 rfl) rfl
theorem q1588 : (Jvm.Cond.code ({ cls := "WindowHillModel", name := "status", desc := "()I" } : Jvm.MethodName) prog_16_method_3_code (1 : Nat) (Option.some Jvm.ClassFile.FieldType.int)) ∈ lw_all := lw_g (lw_at lw_m7 14 rfl) rfl
theorem q1590 : (Jvm.Cond.instanceMethod ({ cls := "WindowHillModel", name := "top", desc := "()J" } : Jvm.MethodName)) ∈ lw_all := lw_g (lw_at lw_m7 16 rfl) rfl
theorem q1591 : (Jvm.Cond.selects "WindowHillModel" ({ cls := "WindowHillModel", name := "top", desc := "()J" } : Jvm.MethodName) ({ cls := "WindowHillModel", name := "top", desc := "()J" } : Jvm.MethodName)) ∈ lw_all := lw_g (lw_at lw_m7 17 rfl) rfl
theorem q1592 : (Jvm.Cond.code ({ cls := "WindowHillModel", name := "top", desc := "()J" } : Jvm.MethodName) prog_16_method_4_code (1 : Nat) (Option.some Jvm.ClassFile.FieldType.long)) ∈ lw_all := lw_g (lw_at lw_m7 18 rfl) rfl
theorem q1594 : (Jvm.Cond.instanceMethod ({ cls := "WindowHillModel", name := "bottom", desc := "()J" } : Jvm.MethodName)) ∈ lw_all := lw_g (lw_at lw_m7 20 rfl) rfl
theorem q1595 : (Jvm.Cond.selects "WindowHillModel" ({ cls := "WindowHillModel", name := "bottom", desc := "()J" } : Jvm.MethodName) ({ cls := "WindowHillModel", name := "bottom", desc := "()J" } : Jvm.MethodName)) ∈ lw_all := lw_g (lw_at lw_m7 21 rfl) rfl
theorem q1596 : (Jvm.Cond.code ({ cls := "WindowHillModel", name := "bottom", desc := "()J" } : Jvm.MethodName) prog_16_method_5_code (1 : Nat) (Option.some Jvm.ClassFile.FieldType.long)) ∈ lw_all := lw_g (lw_at lw_m7 22 rfl) rfl
theorem q1598 : (Jvm.Cond.instanceMethod ({ cls := "WindowHillModel", name := "tray", desc := "(III)Z" } : Jvm.MethodName)) ∈ lw_all := lw_g (lw_at lw_m7 24 rfl) rfl
theorem q1599 : (Jvm.Cond.selects "WindowHillModel" ({ cls := "WindowHillModel", name := "tray", desc := "(III)Z" } : Jvm.MethodName) ({ cls := "WindowHillModel", name := "tray", desc := "(III)Z" } : Jvm.MethodName)) ∈ lw_all := lw_g (lw_at lw_m7 25 rfl) rfl
theorem q1600 : (Jvm.Cond.code ({ cls := "WindowHillModel", name := "tray", desc := "(III)Z" } : Jvm.MethodName) prog_16_method_14_code (5 : Nat) (Option.some Jvm.ClassFile.FieldType.boolean)) ∈ lw_all := lw_g (lw_at lw_m7 26 rfl) rfl
theorem q1601 : (Jvm.Cond.methodLink "WindowHillModel" (92 : Nat) ({ cls := "WindowHillModel", name := "isTray", desc := "(I)Z" } : Jvm.MethodName)) ∈ lw_all := lw_g (lw_at lw_m7 27 rfl) rfl
theorem q1602 : (Jvm.Cond.static ({ cls := "WindowHillModel", name := "isTray", desc := "(I)Z" } : Jvm.MethodName)) ∈ lw_all := lw_g (lw_at lw_m7 28 rfl) rfl
theorem q1603 : (Jvm.Cond.code ({ cls := "WindowHillModel", name := "isTray", desc := "(I)Z" } : Jvm.MethodName) prog_16_method_12_code (1 : Nat) (Option.some Jvm.ClassFile.FieldType.boolean)) ∈ lw_all := lw_g (lw_at lw_m7 29 rfl) rfl
theorem q1604 : (Jvm.Cond.methodLink "WindowHillModel" (88 : Nat) ({ cls := "WindowHillModel", name := "is", desc := "(I)Z" } : Jvm.MethodName)) ∈ lw_all := lw_g (lw_at lw_m7 30 rfl) rfl
theorem q1605 : (Jvm.Cond.privateMethod ({ cls := "WindowHillModel", name := "is", desc := "(I)Z" } : Jvm.MethodName)) ∈ lw_tbl := lw_at lw_m7 31 rfl
theorem q1606 : (Jvm.Cond.instanceMethod ({ cls := "WindowHillModel", name := "is", desc := "(I)Z" } : Jvm.MethodName)) ∈ lw_all := lw_g (lw_at lw_m7 32 rfl) rfl
theorem q1607 : (Jvm.Cond.code ({ cls := "WindowHillModel", name := "is", desc := "(I)Z" } : Jvm.MethodName) prog_16_method_6_code (2 : Nat) (Option.some Jvm.ClassFile.FieldType.boolean)) ∈ lw_all := lw_g (lw_at lw_m7 33 rfl) rfl
theorem q1609 : (Jvm.Cond.instanceMethod ({ cls := "WindowHillModel", name := "write", desc := "(IIJ)Z" } : Jvm.MethodName)) ∈ lw_all := lw_g (lw_at lw_m7 35 rfl) rfl
theorem q1610 : (Jvm.Cond.selects "WindowHillModel" ({ cls := "WindowHillModel", name := "write", desc := "(IIJ)Z" } : Jvm.MethodName) ({ cls := "WindowHillModel", name := "write", desc := "(IIJ)Z" } : Jvm.MethodName)) ∈ lw_all := lw_g (lw_at lw_m7 36 rfl) rfl
theorem q1611 : (Jvm.Cond.code ({ cls := "WindowHillModel", name := "write", desc := "(IIJ)Z" } : Jvm.MethodName) prog_16_method_16_code (6 : Nat) (Option.some Jvm.ClassFile.FieldType.boolean)) ∈ lw_all := lw_g (lw_at lw_m7 37 rfl) rfl
theorem q1612 : (Jvm.Cond.methodLink "WindowHillModel" (95 : Nat) ({ cls := "WindowHillModel", name := "wrongPlace", desc := "(II)I" } : Jvm.MethodName)) ∈ lw_all := lw_g (lw_at lw_m7 38 rfl) rfl
theorem q1613 : (Jvm.Cond.privateMethod ({ cls := "WindowHillModel", name := "wrongPlace", desc := "(II)I" } : Jvm.MethodName)) ∈ lw_tbl := lw_at lw_m7 39 rfl
theorem q1614 : (Jvm.Cond.instanceMethod ({ cls := "WindowHillModel", name := "wrongPlace", desc := "(II)I" } : Jvm.MethodName)) ∈ lw_all := lw_g (lw_at lw_m7 40 rfl) rfl
theorem q1615 : (Jvm.Cond.code ({ cls := "WindowHillModel", name := "wrongPlace", desc := "(II)I" } : Jvm.MethodName) prog_16_method_15_code (3 : Nat) (Option.some Jvm.ClassFile.FieldType.int)) ∈ lw_all := lw_g (lw_at lw_m7 41 rfl) rfl
theorem q1616 : (Jvm.Cond.methodLink "WindowHillModel" (99 : Nat) ({ cls := "WindowHillModel", name := "cut", desc := "(JI)J" } : Jvm.MethodName)) ∈ lw_all := lw_g (lw_at lw_m7 42 rfl) rfl
theorem q1617 : (Jvm.Cond.static ({ cls := "WindowHillModel", name := "cut", desc := "(JI)J" } : Jvm.MethodName)) ∈ lw_all := lw_g (lw_at lw_m7 43 rfl) rfl
theorem q1618 : (Jvm.Cond.code ({ cls := "WindowHillModel", name := "cut", desc := "(JI)J" } : Jvm.MethodName) prog_16_method_13_code (3 : Nat) (Option.some Jvm.ClassFile.FieldType.long)) ∈ lw_all := lw_g (lw_at lw_m7 44 rfl) rfl
theorem q1620 : (Jvm.Cond.instanceMethod ({ cls := "WindowHillModel", name := "read", desc := "(II)J" } : Jvm.MethodName)) ∈ lw_all := lw_g (lw_at lw_m7 46 rfl) rfl
theorem q1621 : (Jvm.Cond.selects "WindowHillModel" ({ cls := "WindowHillModel", name := "read", desc := "(II)J" } : Jvm.MethodName) ({ cls := "WindowHillModel", name := "read", desc := "(II)J" } : Jvm.MethodName)) ∈ lw_all := lw_g (lw_at lw_m7 47 rfl) rfl
theorem q1622 : (Jvm.Cond.code ({ cls := "WindowHillModel", name := "read", desc := "(II)J" } : Jvm.MethodName) prog_16_method_17_code (3 : Nat) (Option.some Jvm.ClassFile.FieldType.long)) ∈ lw_all := lw_g (lw_at lw_m7 48 rfl) rfl
theorem q1623 : (Jvm.Cond.constantLong "WindowHillModel" (103 : Nat) (-1 : Int64)) ∈ lw_all := lw_g (lw_at lw_m7 49 rfl) rfl
theorem q1625 : (Jvm.Cond.instanceMethod ({ cls := "WindowHillModel", name := "pour", desc := "(IIIII)Z" } : Jvm.MethodName)) ∈ lw_all := lw_g (lw_at lw_m7 51 rfl) rfl
theorem q1626 : (Jvm.Cond.selects "WindowHillModel" ({ cls := "WindowHillModel", name := "pour", desc := "(IIIII)Z" } : Jvm.MethodName) ({ cls := "WindowHillModel", name := "pour", desc := "(IIIII)Z" } : Jvm.MethodName)) ∈ lw_all := lw_g (lw_at lw_m7 52 rfl) rfl
theorem q1627 : (Jvm.Cond.code ({ cls := "WindowHillModel", name := "pour", desc := "(IIIII)Z" } : Jvm.MethodName) prog_16_method_18_code (8 : Nat) (Option.some Jvm.ClassFile.FieldType.boolean)) ∈ lw_all := lw_g (lw_at lw_m7 53 rfl) rfl
theorem q1629 : (Jvm.Cond.instanceMethod ({ cls := "WindowHillModel", name := "feed", desc := "(IIIII)I" } : Jvm.MethodName)) ∈ lw_all := lw_g (lw_at lw_m7 55 rfl) rfl
theorem q1630 : (Jvm.Cond.selects "WindowHillModel" ({ cls := "WindowHillModel", name := "feed", desc := "(IIIII)I" } : Jvm.MethodName) ({ cls := "WindowHillModel", name := "feed", desc := "(IIIII)I" } : Jvm.MethodName)) ∈ lw_all := lw_g (lw_at lw_m7 56 rfl) rfl
theorem q1631 : (Jvm.Cond.code ({ cls := "WindowHillModel", name := "feed", desc := "(IIIII)I" } : Jvm.MethodName) prog_16_method_20_code (6 : Nat) (Option.some Jvm.ClassFile.FieldType.int)) ∈ lw_all := lw_g (lw_at lw_m7 57 rfl) rfl
theorem q1632 : (Jvm.Cond.methodLink "WindowHillModel" (108 : Nat) ({ cls := "WindowHillModel", name := "four", desc := "(I)V" } : Jvm.MethodName)) ∈ lw_all := lw_g (lw_at lw_m7 58 rfl) rfl
theorem q1633 : (Jvm.Cond.privateMethod ({ cls := "WindowHillModel", name := "four", desc := "(I)V" } : Jvm.MethodName)) ∈ lw_tbl := lw_at lw_m7 59 rfl
theorem q1634 : (Jvm.Cond.instanceMethod ({ cls := "WindowHillModel", name := "four", desc := "(I)V" } : Jvm.MethodName)) ∈ lw_all := lw_g (lw_at lw_m7 60 rfl) rfl
theorem q1635 : (Jvm.Cond.code ({ cls := "WindowHillModel", name := "four", desc := "(I)V" } : Jvm.MethodName) prog_16_method_21_code (3 : Nat) (Option.none : Option Jvm.ClassFile.FieldType)) ∈ lw_all := lw_g (lw_at lw_m7 61 rfl) rfl
theorem q1637 : (Jvm.Cond.instanceMethod ({ cls := "WindowHillModel", name := "fault", desc := "(I)I" } : Jvm.MethodName)) ∈ lw_all := lw_g (lw_at lw_m7 63 rfl) rfl
theorem q1638 : (Jvm.Cond.selects "WindowHillModel" ({ cls := "WindowHillModel", name := "fault", desc := "(I)I" } : Jvm.MethodName) ({ cls := "WindowHillModel", name := "fault", desc := "(I)I" } : Jvm.MethodName)) ∈ lw_all := lw_g (lw_at lw_m7 64 rfl) rfl
theorem q1639 : (Jvm.Cond.code ({ cls := "WindowHillModel", name := "fault", desc := "(I)I" } : Jvm.MethodName) prog_16_method_36_code (2 : Nat) (Option.some Jvm.ClassFile.FieldType.int)) ∈ lw_all := lw_g (lw_at lw_m7 65 rfl) rfl
theorem q1641 : (Jvm.Cond.instanceMethod ({ cls := "WindowHillModel", name := "town", desc := "(I)I" } : Jvm.MethodName)) ∈ lw_all := lw_g (lw_at lw_m7 67 rfl) rfl
theorem q1642 : (Jvm.Cond.selects "WindowHillModel" ({ cls := "WindowHillModel", name := "town", desc := "(I)I" } : Jvm.MethodName) ({ cls := "WindowHillModel", name := "town", desc := "(I)I" } : Jvm.MethodName)) ∈ lw_all := lw_g (lw_at lw_m7 68 rfl) rfl
theorem q1643 : (Jvm.Cond.code ({ cls := "WindowHillModel", name := "town", desc := "(I)I" } : Jvm.MethodName) prog_16_method_48_code (4 : Nat) (Option.some Jvm.ClassFile.FieldType.int)) ∈ lw_all := lw_g (lw_at lw_m7 69 rfl) rfl
theorem q1644 : (Jvm.Cond.methodLink "WindowHillModel" (213 : Nat) ({ cls := "WindowHillModel", name := "begins", desc := "(II)Z" } : Jvm.MethodName)) ∈ lw_all := lw_g (lw_at lw_m7 70 rfl) rfl
theorem q1645 : (Jvm.Cond.privateMethod ({ cls := "WindowHillModel", name := "begins", desc := "(II)Z" } : Jvm.MethodName)) ∈ lw_tbl := lw_at lw_m7 71 rfl
theorem q1646 : (Jvm.Cond.instanceMethod ({ cls := "WindowHillModel", name := "begins", desc := "(II)Z" } : Jvm.MethodName)) ∈ lw_all := lw_g (lw_at lw_m7 72 rfl) rfl
theorem q1647 : (Jvm.Cond.code ({ cls := "WindowHillModel", name := "begins", desc := "(II)Z" } : Jvm.MethodName) prog_16_method_29_code (4 : Nat) (Option.some Jvm.ClassFile.FieldType.boolean)) ∈ lw_all := lw_g (lw_at lw_m7 73 rfl) rfl
theorem q1648 : (Jvm.Cond.methodLink "WindowHillModel" (157 : Nat) ({ cls := "WindowHillModel", name := "onward", desc := "()V" } : Jvm.MethodName)) ∈ lw_all := lw_g (lw_at lw_m7 74 rfl) rfl
theorem q1649 : (Jvm.Cond.privateMethod ({ cls := "WindowHillModel", name := "onward", desc := "()V" } : Jvm.MethodName)) ∈ lw_tbl := lw_at lw_m7 75 rfl
theorem q1650 : (Jvm.Cond.instanceMethod ({ cls := "WindowHillModel", name := "onward", desc := "()V" } : Jvm.MethodName)) ∈ lw_all := lw_g (lw_at lw_m7 76 rfl) rfl
theorem q1651 : (Jvm.Cond.code ({ cls := "WindowHillModel", name := "onward", desc := "()V" } : Jvm.MethodName) prog_16_method_25_code (2 : Nat) (Option.none : Option Jvm.ClassFile.FieldType)) ∈ lw_all := lw_g (lw_at lw_m7 77 rfl) rfl
theorem q1652 : (Jvm.Cond.methodLink "WindowHillModel" (117 : Nat) ({ cls := "WindowHillModel", name := "byteAt", desc := "(I)I" } : Jvm.MethodName)) ∈ lw_all := lw_g (lw_at lw_m7 78 rfl) rfl
theorem q1653 : (Jvm.Cond.privateMethod ({ cls := "WindowHillModel", name := "byteAt", desc := "(I)I" } : Jvm.MethodName)) ∈ lw_tbl := lw_at lw_m7 79 rfl
theorem q1654 : (Jvm.Cond.instanceMethod ({ cls := "WindowHillModel", name := "byteAt", desc := "(I)I" } : Jvm.MethodName)) ∈ lw_all := lw_g (lw_at lw_m7 80 rfl) rfl
theorem q1655 : (Jvm.Cond.code ({ cls := "WindowHillModel", name := "byteAt", desc := "(I)I" } : Jvm.MethodName) prog_16_method_22_code (2 : Nat) (Option.some Jvm.ClassFile.FieldType.int)) ∈ lw_all := lw_g (lw_at lw_m7 81 rfl) rfl
theorem q1656 : (Jvm.Cond.methodLink "WindowHillModel" (129 : Nat) ({ cls := "WindowHillModel", name := "isSmall", desc := "(I)Z" } : Jvm.MethodName)) ∈ lw_all := lw_g (lw_at lw_m7 82 rfl) rfl
theorem q1657 : (Jvm.Cond.static ({ cls := "WindowHillModel", name := "isSmall", desc := "(I)Z" } : Jvm.MethodName)) ∈ lw_all := lw_g (lw_at lw_m7 83 rfl) rfl
theorem q1658 : (Jvm.Cond.code ({ cls := "WindowHillModel", name := "isSmall", desc := "(I)Z" } : Jvm.MethodName) prog_16_method_23_code (1 : Nat) (Option.some Jvm.ClassFile.FieldType.boolean)) ∈ lw_all := lw_g (lw_at lw_m7 84 rfl) rfl
theorem q1659 : (Jvm.Cond.methodLink "WindowHillModel" (132 : Nat) ({ cls := "WindowHillModel", name := "isDigit", desc := "(I)Z" } : Jvm.MethodName)) ∈ lw_all := lw_g (lw_at lw_m7 85 rfl) rfl
theorem q1660 : (Jvm.Cond.static ({ cls := "WindowHillModel", name := "isDigit", desc := "(I)Z" } : Jvm.MethodName)) ∈ lw_all := lw_g (lw_at lw_m7 86 rfl) rfl
theorem q1661 : (Jvm.Cond.code ({ cls := "WindowHillModel", name := "isDigit", desc := "(I)Z" } : Jvm.MethodName) prog_16_method_24_code (1 : Nat) (Option.some Jvm.ClassFile.FieldType.boolean)) ∈ lw_all := lw_g (lw_at lw_m7 87 rfl) rfl
theorem q1662 : (Jvm.Cond.constant "WindowHillModel" (135 : Nat) (100000 : Int32)) ∈ lw_all := lw_g (lw_at lw_m7 88 rfl) rfl
theorem q1663 : (Jvm.Cond.methodLink "WindowHillModel" (136 : Nat) ({ cls := "java/lang/Math", name := "min", desc := "(II)I" } : Jvm.MethodName)) ∈ lw_all := lw_g (lw_at lw_m7 89 rfl) rfl
theorem q1666 : (Jvm.Cond.methodLink "WindowHillModel" (81 : Nat) ({ cls := "WindowHillModel", name := "refuse", desc := "(I)I" } : Jvm.MethodName)) ∈ lw_all := lw_g (lw_at lw_m7 92 rfl) rfl
theorem q1667 : (Jvm.Cond.privateMethod ({ cls := "WindowHillModel", name := "refuse", desc := "(I)I" } : Jvm.MethodName)) ∈ lw_tbl := lw_at lw_m7 93 rfl
theorem q1668 : (Jvm.Cond.instanceMethod ({ cls := "WindowHillModel", name := "refuse", desc := "(I)I" } : Jvm.MethodName)) ∈ lw_all := lw_g (lw_at lw_m7 94 rfl) rfl
theorem q1669 : (Jvm.Cond.code ({ cls := "WindowHillModel", name := "refuse", desc := "(I)I" } : Jvm.MethodName) prog_16_method_7_code (2 : Nat) (Option.some Jvm.ClassFile.FieldType.int)) ∈ lw_all := lw_g (lw_at lw_m7 95 rfl) rfl
theorem q1670 : (Jvm.Cond.methodLink "WindowHillModel" (217 : Nat) ({ cls := "WindowHillModel", name := "first", desc := "()Z" } : Jvm.MethodName)) ∈ lw_all := lw_g (lw_at lw_m7 96 rfl) rfl
theorem q1671 : (Jvm.Cond.privateMethod ({ cls := "WindowHillModel", name := "first", desc := "()Z" } : Jvm.MethodName)) ∈ lw_tbl := lw_at lw_m7 97 rfl
theorem q1672 : (Jvm.Cond.instanceMethod ({ cls := "WindowHillModel", name := "first", desc := "()Z" } : Jvm.MethodName)) ∈ lw_all := lw_g (lw_at lw_m7 98 rfl) rfl
theorem q1673 : (Jvm.Cond.code ({ cls := "WindowHillModel", name := "first", desc := "()Z" } : Jvm.MethodName) prog_16_method_41_code (1 : Nat) (Option.some Jvm.ClassFile.FieldType.boolean)) ∈ lw_all := lw_g (lw_at lw_m7 99 rfl) rfl
theorem q1674 : (Jvm.Cond.stringRef "WindowHillModel" (174 : Nat) " wide row rule citizen ring born stays likes to night turn mayor elect storm birth when loop end stop lit lamp same ") ∈ lw_tbl := lw_at lw_m7 100 rfl
theorem q1675 : (Jvm.Cond.methodLink "WindowHillModel" (183 : Nat) ({ cls := "WindowHillModel", name := "wantWord", desc := "(Ljava/lang/String;I)Z" } : Jvm.MethodName)) ∈ lw_all := lw_g (lw_at lw_m7 101 rfl) rfl
theorem q1676 : (Jvm.Cond.privateMethod ({ cls := "WindowHillModel", name := "wantWord", desc := "(Ljava/lang/String;I)Z" } : Jvm.MethodName)) ∈ lw_tbl := lw_at lw_m7 102 rfl
theorem q1677 : (Jvm.Cond.instanceMethod ({ cls := "WindowHillModel", name := "wantWord", desc := "(Ljava/lang/String;I)Z" } : Jvm.MethodName)) ∈ lw_all := lw_g (lw_at lw_m7 103 rfl) rfl
theorem q1678 : (Jvm.Cond.code ({ cls := "WindowHillModel", name := "wantWord", desc := "(Ljava/lang/String;I)Z" } : Jvm.MethodName) prog_16_method_31_code (3 : Nat) (Option.some Jvm.ClassFile.FieldType.boolean)) ∈ lw_all := lw_g (lw_at lw_m7 104 rfl) rfl
theorem q1679 : (Jvm.Cond.methodLink "WindowHillModel" (166 : Nat) ({ cls := "WindowHillModel", name := "inWords", desc := "(Ljava/lang/String;)I" } : Jvm.MethodName)) ∈ lw_all := lw_g (lw_at lw_m7 105 rfl) rfl
theorem q1680 : (Jvm.Cond.privateMethod ({ cls := "WindowHillModel", name := "inWords", desc := "(Ljava/lang/String;)I" } : Jvm.MethodName)) ∈ lw_tbl := lw_at lw_m7 106 rfl
theorem q1681 : (Jvm.Cond.instanceMethod ({ cls := "WindowHillModel", name := "inWords", desc := "(Ljava/lang/String;)I" } : Jvm.MethodName)) ∈ lw_all := lw_g (lw_at lw_m7 107 rfl) rfl
theorem q1682 : (Jvm.Cond.code ({ cls := "WindowHillModel", name := "inWords", desc := "(Ljava/lang/String;)I" } : Jvm.MethodName) prog_16_method_27_code (7 : Nat) (Option.some Jvm.ClassFile.FieldType.int)) ∈ lw_all := lw_g (lw_at lw_m7 108 rfl) rfl
theorem q1683 : (Jvm.Cond.methodLink "WindowHillModel" (141 : Nat) ({ cls := "java/lang/String", name := "length", desc := "()I" } : Jvm.MethodName)) ∈ lw_all := lw_g (lw_at lw_m7 109 rfl) rfl
theorem q1684 : (Jvm.Cond.methodLink "WindowHillModel" (147 : Nat) ({ cls := "java/lang/String", name := "charAt", desc := "(I)C" } : Jvm.MethodName)) ∈ lw_all := lw_g (lw_at lw_m7 110 rfl) rfl
theorem q1685 : (Jvm.Cond.methodLink "WindowHillModel" (163 : Nat) ({ cls := "WindowHillModel", name := "fails", desc := "(I)Z" } : Jvm.MethodName)) ∈ lw_all := lw_g (lw_at lw_m7 111 rfl) rfl
theorem q1686 : (Jvm.Cond.privateMethod ({ cls := "WindowHillModel", name := "fails", desc := "(I)Z" } : Jvm.MethodName)) ∈ lw_tbl := lw_at lw_m7 112 rfl
theorem q1687 : (Jvm.Cond.instanceMethod ({ cls := "WindowHillModel", name := "fails", desc := "(I)Z" } : Jvm.MethodName)) ∈ lw_all := lw_g (lw_at lw_m7 113 rfl) rfl
theorem q1688 : (Jvm.Cond.code ({ cls := "WindowHillModel", name := "fails", desc := "(I)Z" } : Jvm.MethodName) prog_16_method_28_code (2 : Nat) (Option.some Jvm.ClassFile.FieldType.boolean)) ∈ lw_all := lw_g (lw_at lw_m7 114 rfl) rfl
theorem q1689 : (Jvm.Cond.methodLink "WindowHillModel" (187 : Nat) ({ cls := "WindowHillModel", name := "number", desc := "(III)Z" } : Jvm.MethodName)) ∈ lw_all := lw_g (lw_at lw_m7 115 rfl) rfl
theorem q1690 : (Jvm.Cond.privateMethod ({ cls := "WindowHillModel", name := "number", desc := "(III)Z" } : Jvm.MethodName)) ∈ lw_tbl := lw_at lw_m7 116 rfl
theorem q1691 : (Jvm.Cond.instanceMethod ({ cls := "WindowHillModel", name := "number", desc := "(III)Z" } : Jvm.MethodName)) ∈ lw_all := lw_g (lw_at lw_m7 117 rfl) rfl
theorem q1692 : (Jvm.Cond.code ({ cls := "WindowHillModel", name := "number", desc := "(III)Z" } : Jvm.MethodName) prog_16_method_32_code (4 : Nat) (Option.some Jvm.ClassFile.FieldType.boolean)) ∈ lw_all := lw_g (lw_at lw_m7 118 rfl) rfl
theorem q1693 : (Jvm.Cond.methodLink "WindowHillModel" (191 : Nat) ({ cls := "WindowHillModel", name := "isThere", desc := "(I)Z" } : Jvm.MethodName)) ∈ lw_all := lw_g (lw_at lw_m7 119 rfl) rfl
theorem q1694 : (Jvm.Cond.privateMethod ({ cls := "WindowHillModel", name := "isThere", desc := "(I)Z" } : Jvm.MethodName)) ∈ lw_tbl := lw_at lw_m7 120 rfl
theorem q1695 : (Jvm.Cond.instanceMethod ({ cls := "WindowHillModel", name := "isThere", desc := "(I)Z" } : Jvm.MethodName)) ∈ lw_all := lw_g (lw_at lw_m7 121 rfl) rfl
theorem q1696 : (Jvm.Cond.code ({ cls := "WindowHillModel", name := "isThere", desc := "(I)Z" } : Jvm.MethodName) prog_16_method_39_code (2 : Nat) (Option.some Jvm.ClassFile.FieldType.boolean)) ∈ lw_all := lw_g (lw_at lw_m7 122 rfl) rfl
theorem q1697 : (Jvm.Cond.methodLink "WindowHillModel" (194 : Nat) ({ cls := "WindowHillModel", name := "wantSign", desc := "(I)Z" } : Jvm.MethodName)) ∈ lw_all := lw_g (lw_at lw_m7 123 rfl) rfl
theorem q1698 : (Jvm.Cond.privateMethod ({ cls := "WindowHillModel", name := "wantSign", desc := "(I)Z" } : Jvm.MethodName)) ∈ lw_tbl := lw_at lw_m7 124 rfl
theorem q1699 : (Jvm.Cond.instanceMethod ({ cls := "WindowHillModel", name := "wantSign", desc := "(I)Z" } : Jvm.MethodName)) ∈ lw_all := lw_g (lw_at lw_m7 125 rfl) rfl
theorem q1700 : (Jvm.Cond.code ({ cls := "WindowHillModel", name := "wantSign", desc := "(I)Z" } : Jvm.MethodName) prog_16_method_30_code (2 : Nat) (Option.some Jvm.ClassFile.FieldType.boolean)) ∈ lw_all := lw_g (lw_at lw_m7 126 rfl) rfl
theorem q1701 : (Jvm.Cond.methodLink "WindowHillModel" (160 : Nat) ({ cls := "WindowHillModel", name := "isSign", desc := "(I)Z" } : Jvm.MethodName)) ∈ lw_all := lw_g (lw_at lw_m7 127 rfl) rfl
theorem q1702 : (Jvm.Cond.privateMethod ({ cls := "WindowHillModel", name := "isSign", desc := "(I)Z" } : Jvm.MethodName)) ∈ lw_tbl := lw_at lw_m7 128 rfl
theorem q1703 : (Jvm.Cond.instanceMethod ({ cls := "WindowHillModel", name := "isSign", desc := "(I)Z" } : Jvm.MethodName)) ∈ lw_all := lw_g (lw_at lw_m7 129 rfl) rfl
theorem q1704 : (Jvm.Cond.code ({ cls := "WindowHillModel", name := "isSign", desc := "(I)Z" } : Jvm.MethodName) prog_16_method_26_code (2 : Nat) (Option.some Jvm.ClassFile.FieldType.boolean)) ∈ lw_all := lw_g (lw_at lw_m7 130 rfl) rfl
theorem q1705 : (Jvm.Cond.methodLink "WindowHillModel" (220 : Nat) ({ cls := "WindowHillModel", name := "aRow", desc := "()Z" } : Jvm.MethodName)) ∈ lw_all := lw_g (lw_at lw_m7 131 rfl) rfl
theorem q1706 : (Jvm.Cond.privateMethod ({ cls := "WindowHillModel", name := "aRow", desc := "()Z" } : Jvm.MethodName)) ∈ lw_tbl := lw_at lw_m7 132 rfl
theorem q1707 : (Jvm.Cond.instanceMethod ({ cls := "WindowHillModel", name := "aRow", desc := "()Z" } : Jvm.MethodName)) ∈ lw_all := lw_g (lw_at lw_m7 133 rfl) rfl
theorem q1708 : (Jvm.Cond.code ({ cls := "WindowHillModel", name := "aRow", desc := "()Z" } : Jvm.MethodName) prog_16_method_43_code (4 : Nat) (Option.some Jvm.ClassFile.FieldType.boolean)) ∈ lw_all := lw_g (lw_at lw_m7 134 rfl) rfl
theorem q1709 : (Jvm.Cond.methodLink "WindowHillModel" (197 : Nat) ({ cls := "WindowHillModel", name := "isLamp", desc := "(I)Z" } : Jvm.MethodName)) ∈ lw_all := lw_g (lw_at lw_m7 135 rfl) rfl
theorem q1710 : (Jvm.Cond.static ({ cls := "WindowHillModel", name := "isLamp", desc := "(I)Z" } : Jvm.MethodName)) ∈ lw_all := lw_g (lw_at lw_m7 136 rfl) rfl
theorem q1711 : (Jvm.Cond.code ({ cls := "WindowHillModel", name := "isLamp", desc := "(I)Z" } : Jvm.MethodName) prog_16_method_42_code (1 : Nat) (Option.some Jvm.ClassFile.FieldType.boolean)) ∈ lw_all := lw_g (lw_at lw_m7 137 rfl) rfl
theorem q1712 : (Jvm.Cond.methodLink "WindowHillModel" (223 : Nat) ({ cls := "WindowHillModel", name := "townPart", desc := "()Z" } : Jvm.MethodName)) ∈ lw_all := lw_g (lw_at lw_m7 138 rfl) rfl
theorem q1713 : (Jvm.Cond.privateMethod ({ cls := "WindowHillModel", name := "townPart", desc := "()Z" } : Jvm.MethodName)) ∈ lw_tbl := lw_at lw_m7 139 rfl
theorem q1714 : (Jvm.Cond.instanceMethod ({ cls := "WindowHillModel", name := "townPart", desc := "()Z" } : Jvm.MethodName)) ∈ lw_all := lw_g (lw_at lw_m7 140 rfl) rfl
theorem q1715 : (Jvm.Cond.code ({ cls := "WindowHillModel", name := "townPart", desc := "()Z" } : Jvm.MethodName) prog_16_method_47_code (2 : Nat) (Option.some Jvm.ClassFile.FieldType.boolean)) ∈ lw_all := lw_g (lw_at lw_m7 141 rfl) rfl
theorem q1716 : (Jvm.Cond.methodLink "WindowHillModel" (206 : Nat) ({ cls := "WindowHillModel", name := "aRule", desc := "()Z" } : Jvm.MethodName)) ∈ lw_all := lw_g (lw_at lw_m7 142 rfl) rfl
theorem q1717 : (Jvm.Cond.privateMethod ({ cls := "WindowHillModel", name := "aRule", desc := "()Z" } : Jvm.MethodName)) ∈ lw_tbl := lw_at lw_m7 143 rfl
theorem q1718 : (Jvm.Cond.instanceMethod ({ cls := "WindowHillModel", name := "aRule", desc := "()Z" } : Jvm.MethodName)) ∈ lw_all := lw_g (lw_at lw_m7 144 rfl) rfl
theorem q1719 : (Jvm.Cond.code ({ cls := "WindowHillModel", name := "aRule", desc := "()Z" } : Jvm.MethodName) prog_16_method_45_code (2 : Nat) (Option.some Jvm.ClassFile.FieldType.boolean)) ∈ lw_all := lw_g (lw_at lw_m7 145 rfl) rfl
theorem q1720 : (Jvm.Cond.methodLink "WindowHillModel" (200 : Nat) ({ cls := "WindowHillModel", name := "newOne", desc := "(III)Z" } : Jvm.MethodName)) ∈ lw_all := lw_g (lw_at lw_m7 146 rfl) rfl
theorem q1721 : (Jvm.Cond.privateMethod ({ cls := "WindowHillModel", name := "newOne", desc := "(III)Z" } : Jvm.MethodName)) ∈ lw_tbl := lw_at lw_m7 147 rfl
theorem q1722 : (Jvm.Cond.instanceMethod ({ cls := "WindowHillModel", name := "newOne", desc := "(III)Z" } : Jvm.MethodName)) ∈ lw_all := lw_g (lw_at lw_m7 148 rfl) rfl
theorem q1723 : (Jvm.Cond.code ({ cls := "WindowHillModel", name := "newOne", desc := "(III)Z" } : Jvm.MethodName) prog_16_method_40_code (4 : Nat) (Option.some Jvm.ClassFile.FieldType.boolean)) ∈ lw_all := lw_g (lw_at lw_m7 149 rfl) rfl
theorem q1724 : (Jvm.Cond.methodLink "WindowHillModel" (176 : Nat) ({ cls := "WindowHillModel", name := "isName", desc := "(Ljava/lang/String;)Z" } : Jvm.MethodName)) ∈ lw_all := lw_g (lw_at lw_m7 150 rfl) rfl
theorem q1725 : (Jvm.Cond.privateMethod ({ cls := "WindowHillModel", name := "isName", desc := "(Ljava/lang/String;)Z" } : Jvm.MethodName)) ∈ lw_tbl := lw_at lw_m7 151 rfl
theorem q1726 : (Jvm.Cond.instanceMethod ({ cls := "WindowHillModel", name := "isName", desc := "(Ljava/lang/String;)Z" } : Jvm.MethodName)) ∈ lw_all := lw_g (lw_at lw_m7 152 rfl) rfl
theorem q1727 : (Jvm.Cond.code ({ cls := "WindowHillModel", name := "isName", desc := "(Ljava/lang/String;)Z" } : Jvm.MethodName) prog_16_method_33_code (2 : Nat) (Option.some Jvm.ClassFile.FieldType.boolean)) ∈ lw_all := lw_g (lw_at lw_m7 153 rfl) rfl
theorem q1728 : (Jvm.Cond.methodLink "WindowHillModel" (180 : Nat) ({ cls := "WindowHillModel", name := "findHere", desc := "(II)I" } : Jvm.MethodName)) ∈ lw_all := lw_g (lw_at lw_m7 154 rfl) rfl
theorem q1729 : (Jvm.Cond.privateMethod ({ cls := "WindowHillModel", name := "findHere", desc := "(II)I" } : Jvm.MethodName)) ∈ lw_tbl := lw_at lw_m7 155 rfl
theorem q1730 : (Jvm.Cond.instanceMethod ({ cls := "WindowHillModel", name := "findHere", desc := "(II)I" } : Jvm.MethodName)) ∈ lw_all := lw_g (lw_at lw_m7 156 rfl) rfl
theorem q1731 : (Jvm.Cond.code ({ cls := "WindowHillModel", name := "findHere", desc := "(II)I" } : Jvm.MethodName) prog_16_method_35_code (4 : Nat) (Option.some Jvm.ClassFile.FieldType.int)) ∈ lw_all := lw_g (lw_at lw_m7 157 rfl) rfl
theorem q1732 : (Jvm.Cond.methodLink "WindowHillModel" (170 : Nat) ({ cls := "WindowHillModel", name := "nameHere", desc := "()J" } : Jvm.MethodName)) ∈ lw_all := lw_g (lw_at lw_m7 158 rfl) rfl
theorem q1733 : (Jvm.Cond.privateMethod ({ cls := "WindowHillModel", name := "nameHere", desc := "()J" } : Jvm.MethodName)) ∈ lw_tbl := lw_at lw_m7 159 rfl
theorem q1734 : (Jvm.Cond.instanceMethod ({ cls := "WindowHillModel", name := "nameHere", desc := "()J" } : Jvm.MethodName)) ∈ lw_all := lw_g (lw_at lw_m7 160 rfl) rfl
theorem q1735 : (Jvm.Cond.code ({ cls := "WindowHillModel", name := "nameHere", desc := "()J" } : Jvm.MethodName) prog_16_method_34_code (4 : Nat) (Option.some Jvm.ClassFile.FieldType.long)) ∈ lw_all := lw_g (lw_at lw_m7 161 rfl) rfl
theorem q1736 : (Jvm.Cond.methodLink "WindowHillModel" (203 : Nat) ({ cls := "WindowHillModel", name := "neighbours", desc := "(I)Z" } : Jvm.MethodName)) ∈ lw_all := lw_g (lw_at lw_m7 162 rfl) rfl
theorem q1737 : (Jvm.Cond.privateMethod ({ cls := "WindowHillModel", name := "neighbours", desc := "(I)Z" } : Jvm.MethodName)) ∈ lw_tbl := lw_at lw_m7 163 rfl
theorem q1738 : (Jvm.Cond.instanceMethod ({ cls := "WindowHillModel", name := "neighbours", desc := "(I)Z" } : Jvm.MethodName)) ∈ lw_all := lw_g (lw_at lw_m7 164 rfl) rfl
theorem q1739 : (Jvm.Cond.code ({ cls := "WindowHillModel", name := "neighbours", desc := "(I)Z" } : Jvm.MethodName) prog_16_method_44_code (2 : Nat) (Option.some Jvm.ClassFile.FieldType.boolean)) ∈ lw_all := lw_g (lw_at lw_m7 165 rfl) rfl
theorem q1740 : (Jvm.Cond.methodLink "WindowHillModel" (210 : Nat) ({ cls := "WindowHillModel", name := "aCitizen", desc := "()Z" } : Jvm.MethodName)) ∈ lw_all := lw_g (lw_at lw_m7 166 rfl) rfl
theorem q1741 : (Jvm.Cond.privateMethod ({ cls := "WindowHillModel", name := "aCitizen", desc := "()Z" } : Jvm.MethodName)) ∈ lw_tbl := lw_at lw_m7 167 rfl
theorem q1742 : (Jvm.Cond.instanceMethod ({ cls := "WindowHillModel", name := "aCitizen", desc := "()Z" } : Jvm.MethodName)) ∈ lw_all := lw_g (lw_at lw_m7 168 rfl) rfl
theorem q1743 : (Jvm.Cond.code ({ cls := "WindowHillModel", name := "aCitizen", desc := "()Z" } : Jvm.MethodName) prog_16_method_46_code (2 : Nat) (Option.some Jvm.ClassFile.FieldType.boolean)) ∈ lw_all := lw_g (lw_at lw_m7 169 rfl) rfl
theorem q1744 : (Jvm.Cond.methodLink "WindowHillModel" (226 : Nat) ({ cls := "WindowHillModel", name := "bits", desc := "(I)I" } : Jvm.MethodName)) ∈ lw_all := lw_g (lw_at lw_m7 170 rfl) rfl
theorem q1745 : (Jvm.Cond.static ({ cls := "WindowHillModel", name := "bits", desc := "(I)I" } : Jvm.MethodName)) ∈ lw_all := lw_g (lw_at lw_m7 171 rfl) rfl
theorem q1746 : (Jvm.Cond.code ({ cls := "WindowHillModel", name := "bits", desc := "(I)I" } : Jvm.MethodName) prog_16_method_54_code (3 : Nat) (Option.some Jvm.ClassFile.FieldType.int)) ∈ lw_all := lw_g (lw_at lw_m7 172 rfl) rfl
theorem q1747 : (Jvm.Cond.methodLink "WindowHillModel" (229 : Nat) ({ cls := "WindowHillModel", name := "taken", desc := "(I)I" } : Jvm.MethodName)) ∈ lw_all := lw_g (lw_at lw_m7 173 rfl) rfl
theorem q1748 : (Jvm.Cond.privateMethod ({ cls := "WindowHillModel", name := "taken", desc := "(I)I" } : Jvm.MethodName)) ∈ lw_tbl := lw_at lw_m7 174 rfl
theorem q1749 : (Jvm.Cond.instanceMethod ({ cls := "WindowHillModel", name := "taken", desc := "(I)I" } : Jvm.MethodName)) ∈ lw_all := lw_g (lw_at lw_m7 175 rfl) rfl
theorem q1750 : (Jvm.Cond.code ({ cls := "WindowHillModel", name := "taken", desc := "(I)I" } : Jvm.MethodName) prog_16_method_37_code (2 : Nat) (Option.some Jvm.ClassFile.FieldType.int)) ∈ lw_all := lw_g (lw_at lw_m7 176 rfl) rfl
theorem q1751 : (Jvm.Cond.methodLink "WindowHillModel" (85 : Nat) ({ cls := "WindowHillModel", name := "gives", desc := "(I)I" } : Jvm.MethodName)) ∈ lw_all := lw_g (lw_at lw_m7 177 rfl) rfl
theorem q1752 : (Jvm.Cond.privateMethod ({ cls := "WindowHillModel", name := "gives", desc := "(I)I" } : Jvm.MethodName)) ∈ lw_tbl := lw_at lw_m7 178 rfl
theorem q1753 : (Jvm.Cond.instanceMethod ({ cls := "WindowHillModel", name := "gives", desc := "(I)I" } : Jvm.MethodName)) ∈ lw_all := lw_g (lw_at lw_m7 179 rfl) rfl
theorem q1754 : (Jvm.Cond.code ({ cls := "WindowHillModel", name := "gives", desc := "(I)I" } : Jvm.MethodName) prog_16_method_8_code (2 : Nat) (Option.some Jvm.ClassFile.FieldType.int)) ∈ lw_all := lw_g (lw_at lw_m7 180 rfl) rfl
theorem q1756 : (Jvm.Cond.instanceMethod ({ cls := "WindowHillModel", name := "year", desc := "(I)I" } : Jvm.MethodName)) ∈ lw_all := lw_g (lw_at lw_m7 182 rfl) rfl
theorem q1757 : (Jvm.Cond.selects "WindowHillModel" ({ cls := "WindowHillModel", name := "year", desc := "(I)I" } : Jvm.MethodName) ({ cls := "WindowHillModel", name := "year", desc := "(I)I" } : Jvm.MethodName)) ∈ lw_all := lw_g (lw_at lw_m7 183 rfl) rfl
theorem q1758 : (Jvm.Cond.code ({ cls := "WindowHillModel", name := "year", desc := "(I)I" } : Jvm.MethodName) prog_16_method_53_code (4 : Nat) (Option.some Jvm.ClassFile.FieldType.int)) ∈ lw_all := lw_g (lw_at lw_m7 184 rfl) rfl
theorem q1759 : (Jvm.Cond.methodLink "WindowHillModel" (250 : Nat) ({ cls := "WindowHillModel", name := "yearStep", desc := "()Z" } : Jvm.MethodName)) ∈ lw_all := lw_g (lw_at lw_m7 185 rfl) rfl
theorem q1760 : (Jvm.Cond.privateMethod ({ cls := "WindowHillModel", name := "yearStep", desc := "()Z" } : Jvm.MethodName)) ∈ lw_tbl := lw_at lw_m7 186 rfl
theorem q1761 : (Jvm.Cond.instanceMethod ({ cls := "WindowHillModel", name := "yearStep", desc := "()Z" } : Jvm.MethodName)) ∈ lw_all := lw_g (lw_at lw_m7 187 rfl) rfl
theorem q1762 : (Jvm.Cond.code ({ cls := "WindowHillModel", name := "yearStep", desc := "()Z" } : Jvm.MethodName) prog_16_method_52_code (6 : Nat) (Option.some Jvm.ClassFile.FieldType.boolean)) ∈ lw_all := lw_g (lw_at lw_m7 188 rfl) rfl
theorem q1763 : (Jvm.Cond.methodLink "WindowHillModel" (247 : Nat) ({ cls := "WindowHillModel", name := "yearOrder", desc := "(II)Z" } : Jvm.MethodName)) ∈ lw_all := lw_g (lw_at lw_m7 189 rfl) rfl
theorem q1764 : (Jvm.Cond.privateMethod ({ cls := "WindowHillModel", name := "yearOrder", desc := "(II)Z" } : Jvm.MethodName)) ∈ lw_tbl := lw_at lw_m7 190 rfl
theorem q1765 : (Jvm.Cond.instanceMethod ({ cls := "WindowHillModel", name := "yearOrder", desc := "(II)Z" } : Jvm.MethodName)) ∈ lw_all := lw_g (lw_at lw_m7 191 rfl) rfl
theorem q1766 : (Jvm.Cond.code ({ cls := "WindowHillModel", name := "yearOrder", desc := "(II)Z" } : Jvm.MethodName) prog_16_method_51_code (3 : Nat) (Option.some Jvm.ClassFile.FieldType.boolean)) ∈ lw_all := lw_g (lw_at lw_m7 192 rfl) rfl
theorem q1767 : (Jvm.Cond.methodLink "WindowHillModel" (232 : Nat) ({ cls := "WindowHillModel", name := "placeTo", desc := "(I)Z" } : Jvm.MethodName)) ∈ lw_all := lw_g (lw_at lw_m7 193 rfl) rfl
theorem q1768 : (Jvm.Cond.privateMethod ({ cls := "WindowHillModel", name := "placeTo", desc := "(I)Z" } : Jvm.MethodName)) ∈ lw_tbl := lw_at lw_m7 194 rfl
theorem q1769 : (Jvm.Cond.instanceMethod ({ cls := "WindowHillModel", name := "placeTo", desc := "(I)Z" } : Jvm.MethodName)) ∈ lw_all := lw_g (lw_at lw_m7 195 rfl) rfl
theorem q1770 : (Jvm.Cond.code ({ cls := "WindowHillModel", name := "placeTo", desc := "(I)Z" } : Jvm.MethodName) prog_16_method_49_code (2 : Nat) (Option.some Jvm.ClassFile.FieldType.boolean)) ∈ lw_all := lw_g (lw_at lw_m7 196 rfl) rfl
theorem q1771 : (Jvm.Cond.methodLink "WindowHillModel" (235 : Nat) ({ cls := "WindowHillModel", name := "oldRule", desc := "(I)Z" } : Jvm.MethodName)) ∈ lw_all := lw_g (lw_at lw_m7 197 rfl) rfl
theorem q1772 : (Jvm.Cond.privateMethod ({ cls := "WindowHillModel", name := "oldRule", desc := "(I)Z" } : Jvm.MethodName)) ∈ lw_tbl := lw_at lw_m7 198 rfl
theorem q1773 : (Jvm.Cond.instanceMethod ({ cls := "WindowHillModel", name := "oldRule", desc := "(I)Z" } : Jvm.MethodName)) ∈ lw_all := lw_g (lw_at lw_m7 199 rfl) rfl
theorem q1774 : (Jvm.Cond.code ({ cls := "WindowHillModel", name := "oldRule", desc := "(I)Z" } : Jvm.MethodName) prog_16_method_38_code (2 : Nat) (Option.some Jvm.ClassFile.FieldType.boolean)) ∈ lw_all := lw_g (lw_at lw_m7 200 rfl) rfl
theorem q1775 : (Jvm.Cond.methodLink "WindowHillModel" (238 : Nat) ({ cls := "WindowHillModel", name := "test", desc := "(I)Z" } : Jvm.MethodName)) ∈ lw_all := lw_g (lw_at lw_m7 201 rfl) rfl
theorem q1776 : (Jvm.Cond.privateMethod ({ cls := "WindowHillModel", name := "test", desc := "(I)Z" } : Jvm.MethodName)) ∈ lw_tbl := lw_at lw_m7 202 rfl
theorem q1777 : (Jvm.Cond.instanceMethod ({ cls := "WindowHillModel", name := "test", desc := "(I)Z" } : Jvm.MethodName)) ∈ lw_all := lw_g (lw_at lw_m7 203 rfl) rfl
theorem q1778 : (Jvm.Cond.code ({ cls := "WindowHillModel", name := "test", desc := "(I)Z" } : Jvm.MethodName) prog_16_method_50_code (3 : Nat) (Option.some Jvm.ClassFile.FieldType.boolean)) ∈ lw_all := lw_g (lw_at lw_m7 204 rfl) rfl
theorem q1780 : (Jvm.Cond.instanceMethod ({ cls := "WindowHillModel", name := "told", desc := "(I)I" } : Jvm.MethodName)) ∈ lw_all := lw_g (lw_at lw_m7 206 rfl) rfl
theorem q1781 : (Jvm.Cond.selects "WindowHillModel" ({ cls := "WindowHillModel", name := "told", desc := "(I)I" } : Jvm.MethodName) ({ cls := "WindowHillModel", name := "told", desc := "(I)I" } : Jvm.MethodName)) ∈ lw_all := lw_g (lw_at lw_m7 207 rfl) rfl
theorem q1782 : (Jvm.Cond.code ({ cls := "WindowHillModel", name := "told", desc := "(I)I" } : Jvm.MethodName) prog_16_method_66_code (2 : Nat) (Option.some Jvm.ClassFile.FieldType.int)) ∈ lw_all := lw_g (lw_at lw_m7 208 rfl) rfl
theorem q1783 : (Jvm.Cond.methodLink "WindowHillModel" (277 : Nat) ({ cls := "WindowHillModel", name := "orNone", desc := "(I)I" } : Jvm.MethodName)) ∈ lw_all := lw_g (lw_at lw_m7 209 rfl) rfl
theorem q1784 : (Jvm.Cond.privateMethod ({ cls := "WindowHillModel", name := "orNone", desc := "(I)I" } : Jvm.MethodName)) ∈ lw_tbl := lw_at lw_m7 210 rfl
theorem q1785 : (Jvm.Cond.instanceMethod ({ cls := "WindowHillModel", name := "orNone", desc := "(I)I" } : Jvm.MethodName)) ∈ lw_all := lw_g (lw_at lw_m7 211 rfl) rfl
theorem q1786 : (Jvm.Cond.code ({ cls := "WindowHillModel", name := "orNone", desc := "(I)I" } : Jvm.MethodName) prog_16_method_10_code (2 : Nat) (Option.some Jvm.ClassFile.FieldType.int)) ∈ lw_all := lw_g (lw_at lw_m7 212 rfl) rfl
theorem q1788 : (Jvm.Cond.instanceMethod ({ cls := "WindowHillModel", name := "picture", desc := "()J" } : Jvm.MethodName)) ∈ lw_all := lw_g (lw_at lw_m7 214 rfl) rfl
theorem q1789 : (Jvm.Cond.selects "WindowHillModel" ({ cls := "WindowHillModel", name := "picture", desc := "()J" } : Jvm.MethodName) ({ cls := "WindowHillModel", name := "picture", desc := "()J" } : Jvm.MethodName)) ∈ lw_all := lw_g (lw_at lw_m7 215 rfl) rfl
theorem q1790 : (Jvm.Cond.code ({ cls := "WindowHillModel", name := "picture", desc := "()J" } : Jvm.MethodName) prog_16_method_67_code (1 : Nat) (Option.some Jvm.ClassFile.FieldType.long)) ∈ lw_all := lw_g (lw_at lw_m7 216 rfl) rfl
theorem q1791 : (Jvm.Cond.methodLink "WindowHillModel" (280 : Nat) ({ cls := "WindowHillModel", name := "givesLong", desc := "(J)J" } : Jvm.MethodName)) ∈ lw_all := lw_g (lw_at lw_m7 217 rfl) rfl
theorem q1792 : (Jvm.Cond.privateMethod ({ cls := "WindowHillModel", name := "givesLong", desc := "(J)J" } : Jvm.MethodName)) ∈ lw_tbl := lw_at lw_m7 218 rfl
theorem q1793 : (Jvm.Cond.instanceMethod ({ cls := "WindowHillModel", name := "givesLong", desc := "(J)J" } : Jvm.MethodName)) ∈ lw_all := lw_g (lw_at lw_m7 219 rfl) rfl
theorem q1794 : (Jvm.Cond.code ({ cls := "WindowHillModel", name := "givesLong", desc := "(J)J" } : Jvm.MethodName) prog_16_method_9_code (3 : Nat) (Option.some Jvm.ClassFile.FieldType.long)) ∈ lw_all := lw_g (lw_at lw_m7 220 rfl) rfl
theorem q1796 : (Jvm.Cond.instanceMethod ({ cls := "WindowHillModel", name := "lamp", desc := "(III)I" } : Jvm.MethodName)) ∈ lw_all := lw_g (lw_at lw_m7 222 rfl) rfl
theorem q1797 : (Jvm.Cond.selects "WindowHillModel" ({ cls := "WindowHillModel", name := "lamp", desc := "(III)I" } : Jvm.MethodName) ({ cls := "WindowHillModel", name := "lamp", desc := "(III)I" } : Jvm.MethodName)) ∈ lw_all := lw_g (lw_at lw_m7 223 rfl) rfl
theorem q1798 : (Jvm.Cond.code ({ cls := "WindowHillModel", name := "lamp", desc := "(III)I" } : Jvm.MethodName) prog_16_method_68_code (7 : Nat) (Option.some Jvm.ClassFile.FieldType.int)) ∈ lw_all := lw_g (lw_at lw_m7 224 rfl) rfl
theorem q1799 : (Jvm.Cond.methodLink "WindowHillModel" (259 : Nat) ({ cls := "WindowHillModel", name := "wrongHouse", desc := "(II)I" } : Jvm.MethodName)) ∈ lw_all := lw_g (lw_at lw_m7 225 rfl) rfl
theorem q1800 : (Jvm.Cond.privateMethod ({ cls := "WindowHillModel", name := "wrongHouse", desc := "(II)I" } : Jvm.MethodName)) ∈ lw_tbl := lw_at lw_m7 226 rfl
theorem q1801 : (Jvm.Cond.instanceMethod ({ cls := "WindowHillModel", name := "wrongHouse", desc := "(II)I" } : Jvm.MethodName)) ∈ lw_all := lw_g (lw_at lw_m7 227 rfl) rfl
theorem q1802 : (Jvm.Cond.code ({ cls := "WindowHillModel", name := "wrongHouse", desc := "(II)I" } : Jvm.MethodName) prog_16_method_57_code (3 : Nat) (Option.some Jvm.ClassFile.FieldType.int)) ∈ lw_all := lw_g (lw_at lw_m7 228 rfl) rfl
theorem q1803 : (Jvm.Cond.methodLink "WindowHillModel" (253 : Nat) ({ cls := "WindowHillModel", name := "isPlace", desc := "(II)Z" } : Jvm.MethodName)) ∈ lw_all := lw_g (lw_at lw_m7 229 rfl) rfl
theorem q1804 : (Jvm.Cond.privateMethod ({ cls := "WindowHillModel", name := "isPlace", desc := "(II)Z" } : Jvm.MethodName)) ∈ lw_tbl := lw_at lw_m7 230 rfl
theorem q1805 : (Jvm.Cond.instanceMethod ({ cls := "WindowHillModel", name := "isPlace", desc := "(II)Z" } : Jvm.MethodName)) ∈ lw_all := lw_g (lw_at lw_m7 231 rfl) rfl
theorem q1806 : (Jvm.Cond.code ({ cls := "WindowHillModel", name := "isPlace", desc := "(II)Z" } : Jvm.MethodName) prog_16_method_55_code (3 : Nat) (Option.some Jvm.ClassFile.FieldType.boolean)) ∈ lw_all := lw_g (lw_at lw_m7 232 rfl) rfl
theorem q1807 : (Jvm.Cond.methodLink "WindowHillModel" (256 : Nat) ({ cls := "WindowHillModel", name := "bitOf", desc := "(II)I" } : Jvm.MethodName)) ∈ lw_all := lw_g (lw_at lw_m7 233 rfl) rfl
theorem q1808 : (Jvm.Cond.privateMethod ({ cls := "WindowHillModel", name := "bitOf", desc := "(II)I" } : Jvm.MethodName)) ∈ lw_tbl := lw_at lw_m7 234 rfl
theorem q1809 : (Jvm.Cond.instanceMethod ({ cls := "WindowHillModel", name := "bitOf", desc := "(II)I" } : Jvm.MethodName)) ∈ lw_all := lw_g (lw_at lw_m7 235 rfl) rfl
theorem q1810 : (Jvm.Cond.code ({ cls := "WindowHillModel", name := "bitOf", desc := "(II)I" } : Jvm.MethodName) prog_16_method_56_code (3 : Nat) (Option.some Jvm.ClassFile.FieldType.int)) ∈ lw_all := lw_g (lw_at lw_m7 236 rfl) rfl
theorem q1811 : (Jvm.Cond.methodLink "WindowHillModel" (265 : Nat) ({ cls := "WindowHillModel", name := "near", desc := "(I)I" } : Jvm.MethodName)) ∈ lw_all := lw_g (lw_at lw_m7 237 rfl) rfl
theorem q1812 : (Jvm.Cond.privateMethod ({ cls := "WindowHillModel", name := "near", desc := "(I)I" } : Jvm.MethodName)) ∈ lw_tbl := lw_at lw_m7 238 rfl
theorem q1813 : (Jvm.Cond.instanceMethod ({ cls := "WindowHillModel", name := "near", desc := "(I)I" } : Jvm.MethodName)) ∈ lw_all := lw_g (lw_at lw_m7 239 rfl) rfl
theorem q1814 : (Jvm.Cond.code ({ cls := "WindowHillModel", name := "near", desc := "(I)I" } : Jvm.MethodName) prog_16_method_62_code (5 : Nat) (Option.some Jvm.ClassFile.FieldType.int)) ∈ lw_all := lw_g (lw_at lw_m8 0 rfl) rfl
theorem q1815 : (Jvm.Cond.methodLink "WindowHillModel" (262 : Nat) ({ cls := "WindowHillModel", name := "places", desc := "()I" } : Jvm.MethodName)) ∈ lw_all := lw_g (lw_at lw_m8 1 rfl) rfl
theorem q1816 : (Jvm.Cond.privateMethod ({ cls := "WindowHillModel", name := "places", desc := "()I" } : Jvm.MethodName)) ∈ lw_tbl := lw_at lw_m8 2 rfl
theorem q1817 : (Jvm.Cond.instanceMethod ({ cls := "WindowHillModel", name := "places", desc := "()I" } : Jvm.MethodName)) ∈ lw_all := lw_g (lw_at lw_m8 3 rfl) rfl
theorem q1818 : (Jvm.Cond.code ({ cls := "WindowHillModel", name := "places", desc := "()I" } : Jvm.MethodName) prog_16_method_59_code (1 : Nat) (Option.some Jvm.ClassFile.FieldType.int)) ∈ lw_all := lw_g (lw_at lw_m8 4 rfl) rfl
theorem q1820 : (Jvm.Cond.instanceMethod ({ cls := "WindowHillModel", name := "rule", desc := "(II)I" } : Jvm.MethodName)) ∈ lw_all := lw_g (lw_at lw_m8 6 rfl) rfl
theorem q1821 : (Jvm.Cond.selects "WindowHillModel" ({ cls := "WindowHillModel", name := "rule", desc := "(II)I" } : Jvm.MethodName) ({ cls := "WindowHillModel", name := "rule", desc := "(II)I" } : Jvm.MethodName)) ∈ lw_all := lw_g (lw_at lw_m8 7 rfl) rfl
theorem q1822 : (Jvm.Cond.code ({ cls := "WindowHillModel", name := "rule", desc := "(II)I" } : Jvm.MethodName) prog_16_method_70_code (3 : Nat) (Option.some Jvm.ClassFile.FieldType.int)) ∈ lw_all := lw_g (lw_at lw_m8 8 rfl) rfl
theorem q1823 : (Jvm.Cond.methodLink "WindowHillModel" (284 : Nat) ({ cls := "WindowHillModel", name := "isRule", desc := "(I)Z" } : Jvm.MethodName)) ∈ lw_all := lw_g (lw_at lw_m8 9 rfl) rfl
theorem q1824 : (Jvm.Cond.privateMethod ({ cls := "WindowHillModel", name := "isRule", desc := "(I)Z" } : Jvm.MethodName)) ∈ lw_tbl := lw_at lw_m8 10 rfl
theorem q1825 : (Jvm.Cond.instanceMethod ({ cls := "WindowHillModel", name := "isRule", desc := "(I)Z" } : Jvm.MethodName)) ∈ lw_all := lw_g (lw_at lw_m8 11 rfl) rfl
theorem q1826 : (Jvm.Cond.code ({ cls := "WindowHillModel", name := "isRule", desc := "(I)Z" } : Jvm.MethodName) prog_16_method_69_code (2 : Nat) (Option.some Jvm.ClassFile.FieldType.boolean)) ∈ lw_all := lw_g (lw_at lw_m8 12 rfl) rfl
theorem q1828 : (Jvm.Cond.instanceMethod ({ cls := "WindowHillModel", name := "citizen", desc := "(II)I" } : Jvm.MethodName)) ∈ lw_all := lw_g (lw_at lw_m8 14 rfl) rfl
theorem q1829 : (Jvm.Cond.selects "WindowHillModel" ({ cls := "WindowHillModel", name := "citizen", desc := "(II)I" } : Jvm.MethodName) ({ cls := "WindowHillModel", name := "citizen", desc := "(II)I" } : Jvm.MethodName)) ∈ lw_all := lw_g (lw_at lw_m8 15 rfl) rfl
theorem q1830 : (Jvm.Cond.code ({ cls := "WindowHillModel", name := "citizen", desc := "(II)I" } : Jvm.MethodName) prog_16_method_72_code (3 : Nat) (Option.some Jvm.ClassFile.FieldType.int)) ∈ lw_all := lw_g (lw_at lw_m8 16 rfl) rfl
theorem q1831 : (Jvm.Cond.methodLink "WindowHillModel" (287 : Nat) ({ cls := "WindowHillModel", name := "isCitizen", desc := "(I)Z" } : Jvm.MethodName)) ∈ lw_all := lw_g (lw_at lw_m8 17 rfl) rfl
theorem q1832 : (Jvm.Cond.privateMethod ({ cls := "WindowHillModel", name := "isCitizen", desc := "(I)Z" } : Jvm.MethodName)) ∈ lw_tbl := lw_at lw_m8 18 rfl
theorem q1833 : (Jvm.Cond.instanceMethod ({ cls := "WindowHillModel", name := "isCitizen", desc := "(I)Z" } : Jvm.MethodName)) ∈ lw_all := lw_g (lw_at lw_m8 19 rfl) rfl
theorem q1834 : (Jvm.Cond.code ({ cls := "WindowHillModel", name := "isCitizen", desc := "(I)Z" } : Jvm.MethodName) prog_16_method_71_code (2 : Nat) (Option.some Jvm.ClassFile.FieldType.boolean)) ∈ lw_all := lw_g (lw_at lw_m8 20 rfl) rfl
theorem q1836 : (Jvm.Cond.instanceMethod ({ cls := "WindowHillModel", name := "turn", desc := "(II)I" } : Jvm.MethodName)) ∈ lw_all := lw_g (lw_at lw_m8 22 rfl) rfl
theorem q1837 : (Jvm.Cond.selects "WindowHillModel" ({ cls := "WindowHillModel", name := "turn", desc := "(II)I" } : Jvm.MethodName) ({ cls := "WindowHillModel", name := "turn", desc := "(II)I" } : Jvm.MethodName)) ∈ lw_all := lw_g (lw_at lw_m8 23 rfl) rfl
theorem q1838 : (Jvm.Cond.code ({ cls := "WindowHillModel", name := "turn", desc := "(II)I" } : Jvm.MethodName) prog_16_method_73_code (4 : Nat) (Option.some Jvm.ClassFile.FieldType.int)) ∈ lw_all := lw_g (lw_at lw_m8 24 rfl) rfl
theorem q1839 : (Jvm.Cond.methodLink "WindowHillModel" (290 : Nat) ({ cls := "WindowHillModel", name := "wrongLamp", desc := "(II)I" } : Jvm.MethodName)) ∈ lw_all := lw_g (lw_at lw_m8 25 rfl) rfl
theorem q1840 : (Jvm.Cond.privateMethod ({ cls := "WindowHillModel", name := "wrongLamp", desc := "(II)I" } : Jvm.MethodName)) ∈ lw_tbl := lw_at lw_m8 26 rfl
theorem q1841 : (Jvm.Cond.instanceMethod ({ cls := "WindowHillModel", name := "wrongLamp", desc := "(II)I" } : Jvm.MethodName)) ∈ lw_all := lw_g (lw_at lw_m8 27 rfl) rfl
theorem q1842 : (Jvm.Cond.code ({ cls := "WindowHillModel", name := "wrongLamp", desc := "(II)I" } : Jvm.MethodName) prog_16_method_58_code (3 : Nat) (Option.some Jvm.ClassFile.FieldType.int)) ∈ lw_all := lw_g (lw_at lw_m8 28 rfl) rfl
theorem q1844 : (Jvm.Cond.instanceMethod ({ cls := "WindowHillModel", name := "paint", desc := "(J)I" } : Jvm.MethodName)) ∈ lw_all := lw_g (lw_at lw_m8 30 rfl) rfl
theorem q1845 : (Jvm.Cond.selects "WindowHillModel" ({ cls := "WindowHillModel", name := "paint", desc := "(J)I" } : Jvm.MethodName) ({ cls := "WindowHillModel", name := "paint", desc := "(J)I" } : Jvm.MethodName)) ∈ lw_all := lw_g (lw_at lw_m8 31 rfl) rfl
theorem q1846 : (Jvm.Cond.code ({ cls := "WindowHillModel", name := "paint", desc := "(J)I" } : Jvm.MethodName) prog_16_method_75_code (3 : Nat) (Option.some Jvm.ClassFile.FieldType.int)) ∈ lw_all := lw_g (lw_at lw_m8 32 rfl) rfl
theorem q1847 : (Jvm.Cond.constantLong "WindowHillModel" (293 : Nat) (1073741823 : Int64)) ∈ lw_all := lw_g (lw_at lw_m8 33 rfl) rfl
theorem q1848 : (Jvm.Cond.methodLink "WindowHillModel" (295 : Nat) ({ cls := "WindowHillModel", name := "isFrom", desc := "(JJJ)Z" } : Jvm.MethodName)) ∈ lw_all := lw_g (lw_at lw_m8 34 rfl) rfl
theorem q1849 : (Jvm.Cond.static ({ cls := "WindowHillModel", name := "isFrom", desc := "(JJJ)Z" } : Jvm.MethodName)) ∈ lw_all := lw_g (lw_at lw_m8 35 rfl) rfl
theorem q1850 : (Jvm.Cond.code ({ cls := "WindowHillModel", name := "isFrom", desc := "(JJJ)Z" } : Jvm.MethodName) prog_16_method_19_code (6 : Nat) (Option.some Jvm.ClassFile.FieldType.boolean)) ∈ lw_all := lw_g (lw_at lw_m8 36 rfl) rfl
theorem q1851 : (Jvm.Cond.methodLink "WindowHillModel" (299 : Nat) ({ cls := "WindowHillModel", name := "paints", desc := "(I)I" } : Jvm.MethodName)) ∈ lw_all := lw_g (lw_at lw_m8 37 rfl) rfl
theorem q1852 : (Jvm.Cond.privateMethod ({ cls := "WindowHillModel", name := "paints", desc := "(I)I" } : Jvm.MethodName)) ∈ lw_tbl := lw_at lw_m8 38 rfl
theorem q1853 : (Jvm.Cond.instanceMethod ({ cls := "WindowHillModel", name := "paints", desc := "(I)I" } : Jvm.MethodName)) ∈ lw_all := lw_g (lw_at lw_m8 39 rfl) rfl
theorem q1854 : (Jvm.Cond.code ({ cls := "WindowHillModel", name := "paints", desc := "(I)I" } : Jvm.MethodName) prog_16_method_74_code (2 : Nat) (Option.some Jvm.ClassFile.FieldType.int)) ∈ lw_all := lw_g (lw_at lw_m8 40 rfl) rfl
theorem q1855 : (Jvm.Cond.methodLink "WindowHillModel" (268 : Nat) ({ cls := "WindowHillModel", name := "free", desc := "()I" } : Jvm.MethodName)) ∈ lw_all := lw_g (lw_at lw_m8 41 rfl) rfl
theorem q1856 : (Jvm.Cond.privateMethod ({ cls := "WindowHillModel", name := "free", desc := "()I" } : Jvm.MethodName)) ∈ lw_tbl := lw_at lw_m8 42 rfl
theorem q1857 : (Jvm.Cond.instanceMethod ({ cls := "WindowHillModel", name := "free", desc := "()I" } : Jvm.MethodName)) ∈ lw_all := lw_g (lw_at lw_m8 43 rfl) rfl
theorem q1858 : (Jvm.Cond.code ({ cls := "WindowHillModel", name := "free", desc := "()I" } : Jvm.MethodName) prog_16_method_60_code (1 : Nat) (Option.some Jvm.ClassFile.FieldType.int)) ∈ lw_all := lw_g (lw_at lw_m8 44 rfl) rfl
theorem q1860 : (Jvm.Cond.instanceMethod ({ cls := "WindowHillModel", name := "paintRows", desc := "(I)I" } : Jvm.MethodName)) ∈ lw_all := lw_g (lw_at lw_m8 46 rfl) rfl
theorem q1861 : (Jvm.Cond.selects "WindowHillModel" ({ cls := "WindowHillModel", name := "paintRows", desc := "(I)I" } : Jvm.MethodName) ({ cls := "WindowHillModel", name := "paintRows", desc := "(I)I" } : Jvm.MethodName)) ∈ lw_all := lw_g (lw_at lw_m8 47 rfl) rfl
theorem q1862 : (Jvm.Cond.code ({ cls := "WindowHillModel", name := "paintRows", desc := "(I)I" } : Jvm.MethodName) prog_16_method_76_code (4 : Nat) (Option.some Jvm.ClassFile.FieldType.int)) ∈ lw_all := lw_g (lw_at lw_m8 48 rfl) rfl
theorem q1863 : (Jvm.Cond.constantLong "WindowHillModel" (302 : Nat) (31 : Int64)) ∈ lw_all := lw_g (lw_at lw_m8 49 rfl) rfl
theorem q1865 : (Jvm.Cond.instanceMethod ({ cls := "WindowHillModel", name := "copyRows", desc := "(I)I" } : Jvm.MethodName)) ∈ lw_all := lw_g (lw_at lw_m8 51 rfl) rfl
theorem q1866 : (Jvm.Cond.selects "WindowHillModel" ({ cls := "WindowHillModel", name := "copyRows", desc := "(I)I" } : Jvm.MethodName) ({ cls := "WindowHillModel", name := "copyRows", desc := "(I)I" } : Jvm.MethodName)) ∈ lw_all := lw_g (lw_at lw_m8 52 rfl) rfl
theorem q1867 : (Jvm.Cond.code ({ cls := "WindowHillModel", name := "copyRows", desc := "(I)I" } : Jvm.MethodName) prog_16_method_78_code (3 : Nat) (Option.some Jvm.ClassFile.FieldType.int)) ∈ lw_all := lw_g (lw_at lw_m8 53 rfl) rfl
theorem q1868 : (Jvm.Cond.methodLink "WindowHillModel" (304 : Nat) ({ cls := "WindowHillModel", name := "rowOf", desc := "(II)I" } : Jvm.MethodName)) ∈ lw_all := lw_g (lw_at lw_m8 54 rfl) rfl
theorem q1869 : (Jvm.Cond.privateMethod ({ cls := "WindowHillModel", name := "rowOf", desc := "(II)I" } : Jvm.MethodName)) ∈ lw_tbl := lw_at lw_m8 55 rfl
theorem q1870 : (Jvm.Cond.instanceMethod ({ cls := "WindowHillModel", name := "rowOf", desc := "(II)I" } : Jvm.MethodName)) ∈ lw_all := lw_g (lw_at lw_m8 56 rfl) rfl
theorem q1871 : (Jvm.Cond.code ({ cls := "WindowHillModel", name := "rowOf", desc := "(II)I" } : Jvm.MethodName) prog_16_method_77_code (3 : Nat) (Option.some Jvm.ClassFile.FieldType.int)) ∈ lw_all := lw_g (lw_at lw_m8 57 rfl) rfl
theorem q1873 : (Jvm.Cond.instanceMethod ({ cls := "WindowHillModel", name := "mayor", desc := "(I)Z" } : Jvm.MethodName)) ∈ lw_all := lw_g (lw_at lw_m8 59 rfl) rfl
theorem q1874 : (Jvm.Cond.selects "WindowHillModel" ({ cls := "WindowHillModel", name := "mayor", desc := "(I)Z" } : Jvm.MethodName) ({ cls := "WindowHillModel", name := "mayor", desc := "(I)Z" } : Jvm.MethodName)) ∈ lw_all := lw_g (lw_at lw_m8 60 rfl) rfl
theorem q1875 : (Jvm.Cond.code ({ cls := "WindowHillModel", name := "mayor", desc := "(I)Z" } : Jvm.MethodName) prog_16_method_79_code (2 : Nat) (Option.some Jvm.ClassFile.FieldType.boolean)) ∈ lw_all := lw_g (lw_at lw_m8 61 rfl) rfl
theorem q1877 : (Jvm.Cond.instanceMethod ({ cls := "WindowHillModel", name := "bend", desc := "(III)Z" } : Jvm.MethodName)) ∈ lw_all := lw_g (lw_at lw_m8 63 rfl) rfl
theorem q1878 : (Jvm.Cond.selects "WindowHillModel" ({ cls := "WindowHillModel", name := "bend", desc := "(III)Z" } : Jvm.MethodName) ({ cls := "WindowHillModel", name := "bend", desc := "(III)Z" } : Jvm.MethodName)) ∈ lw_all := lw_g (lw_at lw_m8 64 rfl) rfl
theorem q1879 : (Jvm.Cond.code ({ cls := "WindowHillModel", name := "bend", desc := "(III)Z" } : Jvm.MethodName) prog_16_method_80_code (4 : Nat) (Option.some Jvm.ClassFile.FieldType.boolean)) ∈ lw_all := lw_g (lw_at lw_m8 65 rfl) rfl
theorem q1881 : (Jvm.Cond.instanceMethod ({ cls := "WindowHillModel", name := "night", desc := "(I)I" } : Jvm.MethodName)) ∈ lw_all := lw_g (lw_at lw_m8 67 rfl) rfl
theorem q1882 : (Jvm.Cond.selects "WindowHillModel" ({ cls := "WindowHillModel", name := "night", desc := "(I)I" } : Jvm.MethodName) ({ cls := "WindowHillModel", name := "night", desc := "(I)I" } : Jvm.MethodName)) ∈ lw_all := lw_g (lw_at lw_m8 68 rfl) rfl
theorem q1883 : (Jvm.Cond.code ({ cls := "WindowHillModel", name := "night", desc := "(I)I" } : Jvm.MethodName) prog_16_method_82_code (3 : Nat) (Option.some Jvm.ClassFile.FieldType.int)) ∈ lw_all := lw_g (lw_at lw_m8 69 rfl) rfl
theorem q1884 : (Jvm.Cond.constantLong "WindowHillModel" (307 : Nat) (999 : Int64)) ∈ lw_all := lw_g (lw_at lw_m8 70 rfl) rfl
theorem q1885 : (Jvm.Cond.methodLink "WindowHillModel" (309 : Nat) ({ cls := "WindowHillModel", name := "goes", desc := "()V" } : Jvm.MethodName)) ∈ lw_all := lw_g (lw_at lw_m8 71 rfl) rfl
theorem q1886 : (Jvm.Cond.privateMethod ({ cls := "WindowHillModel", name := "goes", desc := "()V" } : Jvm.MethodName)) ∈ lw_tbl := lw_at lw_m8 72 rfl
theorem q1887 : (Jvm.Cond.instanceMethod ({ cls := "WindowHillModel", name := "goes", desc := "()V" } : Jvm.MethodName)) ∈ lw_all := lw_g (lw_at lw_m8 73 rfl) rfl
theorem q1888 : (Jvm.Cond.code ({ cls := "WindowHillModel", name := "goes", desc := "()V" } : Jvm.MethodName) prog_16_method_81_code (3 : Nat) (Option.none : Option Jvm.ClassFile.FieldType)) ∈ lw_all := lw_g (lw_at lw_m8 74 rfl) rfl
theorem q1889 : (Jvm.Cond.methodLink "WindowHillModel" (271 : Nat) ({ cls := "WindowHillModel", name := "laysNear", desc := "()V" } : Jvm.MethodName)) ∈ lw_all := lw_g (lw_at lw_m8 75 rfl) rfl
theorem q1890 : (Jvm.Cond.privateMethod ({ cls := "WindowHillModel", name := "laysNear", desc := "()V" } : Jvm.MethodName)) ∈ lw_tbl := lw_at lw_m8 76 rfl
theorem q1891 : (Jvm.Cond.instanceMethod ({ cls := "WindowHillModel", name := "laysNear", desc := "()V" } : Jvm.MethodName)) ∈ lw_all := lw_g (lw_at lw_m8 77 rfl) rfl
theorem q1892 : (Jvm.Cond.code ({ cls := "WindowHillModel", name := "laysNear", desc := "()V" } : Jvm.MethodName) prog_16_method_63_code (2 : Nat) (Option.none : Option Jvm.ClassFile.FieldType)) ∈ lw_all := lw_g (lw_at lw_m8 78 rfl) rfl
theorem q1893 : (Jvm.Cond.methodLink "WindowHillModel" (274 : Nat) ({ cls := "WindowHillModel", name := "becomes", desc := "(II)I" } : Jvm.MethodName)) ∈ lw_all := lw_g (lw_at lw_m8 79 rfl) rfl
theorem q1894 : (Jvm.Cond.privateMethod ({ cls := "WindowHillModel", name := "becomes", desc := "(II)I" } : Jvm.MethodName)) ∈ lw_tbl := lw_at lw_m8 80 rfl
theorem q1895 : (Jvm.Cond.instanceMethod ({ cls := "WindowHillModel", name := "becomes", desc := "(II)I" } : Jvm.MethodName)) ∈ lw_all := lw_g (lw_at lw_m8 81 rfl) rfl
theorem q1896 : (Jvm.Cond.code ({ cls := "WindowHillModel", name := "becomes", desc := "(II)I" } : Jvm.MethodName) prog_16_method_64_code (7 : Nat) (Option.some Jvm.ClassFile.FieldType.int)) ∈ lw_all := lw_g (lw_at lw_m8 82 rfl) rfl
theorem q1898 : (Jvm.Cond.instanceMethod ({ cls := "WindowHillModel", name := "ahead", desc := "(I)J" } : Jvm.MethodName)) ∈ lw_all := lw_g (lw_at lw_m8 84 rfl) rfl
theorem q1899 : (Jvm.Cond.selects "WindowHillModel" ({ cls := "WindowHillModel", name := "ahead", desc := "(I)J" } : Jvm.MethodName) ({ cls := "WindowHillModel", name := "ahead", desc := "(I)J" } : Jvm.MethodName)) ∈ lw_all := lw_g (lw_at lw_m8 85 rfl) rfl
theorem q1900 : (Jvm.Cond.code ({ cls := "WindowHillModel", name := "ahead", desc := "(I)J" } : Jvm.MethodName) prog_16_method_83_code (2 : Nat) (Option.some Jvm.ClassFile.FieldType.long)) ∈ lw_all := lw_g (lw_at lw_m8 86 rfl) rfl
theorem q1901 : (Jvm.Cond.methodLink "WindowHillModel" (312 : Nat) ({ cls := "WindowHillModel", name := "after", desc := "(II)I" } : Jvm.MethodName)) ∈ lw_all := lw_g (lw_at lw_m8 87 rfl) rfl
theorem q1902 : (Jvm.Cond.privateMethod ({ cls := "WindowHillModel", name := "after", desc := "(II)I" } : Jvm.MethodName)) ∈ lw_tbl := lw_at lw_m8 88 rfl
theorem q1903 : (Jvm.Cond.instanceMethod ({ cls := "WindowHillModel", name := "after", desc := "(II)I" } : Jvm.MethodName)) ∈ lw_all := lw_g (lw_at lw_m8 89 rfl) rfl
theorem q1904 : (Jvm.Cond.code ({ cls := "WindowHillModel", name := "after", desc := "(II)I" } : Jvm.MethodName) prog_16_method_65_code (5 : Nat) (Option.some Jvm.ClassFile.FieldType.int)) ∈ lw_all := lw_g (lw_at lw_m8 90 rfl) rfl
theorem q1906 : (Jvm.Cond.instanceMethod ({ cls := "WindowHillModel", name := "again", desc := "(I)I" } : Jvm.MethodName)) ∈ lw_all := lw_g (lw_at lw_m8 92 rfl) rfl
theorem q1907 : (Jvm.Cond.selects "WindowHillModel" ({ cls := "WindowHillModel", name := "again", desc := "(I)I" } : Jvm.MethodName) ({ cls := "WindowHillModel", name := "again", desc := "(I)I" } : Jvm.MethodName)) ∈ lw_all := lw_g (lw_at lw_m8 93 rfl) rfl
theorem q1908 : (Jvm.Cond.code ({ cls := "WindowHillModel", name := "again", desc := "(I)I" } : Jvm.MethodName) prog_16_method_85_code (2 : Nat) (Option.some Jvm.ClassFile.FieldType.int)) ∈ lw_all := lw_g (lw_at lw_m8 94 rfl) rfl
theorem q1909 : (Jvm.Cond.methodLink "WindowHillModel" (321 : Nat) ({ cls := "WindowHillModel", name := "comesAgain", desc := "()Z" } : Jvm.MethodName)) ∈ lw_all := lw_g (lw_at lw_m8 95 rfl) rfl
theorem q1910 : (Jvm.Cond.privateMethod ({ cls := "WindowHillModel", name := "comesAgain", desc := "()Z" } : Jvm.MethodName)) ∈ lw_tbl := lw_at lw_m8 96 rfl
theorem q1911 : (Jvm.Cond.instanceMethod ({ cls := "WindowHillModel", name := "comesAgain", desc := "()Z" } : Jvm.MethodName)) ∈ lw_all := lw_g (lw_at lw_m8 97 rfl) rfl
theorem q1912 : (Jvm.Cond.code ({ cls := "WindowHillModel", name := "comesAgain", desc := "()Z" } : Jvm.MethodName) prog_16_method_84_code (3 : Nat) (Option.some Jvm.ClassFile.FieldType.boolean)) ∈ lw_all := lw_g (lw_at lw_m8 98 rfl) rfl
theorem q1914 : (Jvm.Cond.instanceMethod ({ cls := "WindowHillModel", name := "far", desc := "(I)J" } : Jvm.MethodName)) ∈ lw_all := lw_g (lw_at lw_m8 100 rfl) rfl
theorem q1915 : (Jvm.Cond.selects "WindowHillModel" ({ cls := "WindowHillModel", name := "far", desc := "(I)J" } : Jvm.MethodName) ({ cls := "WindowHillModel", name := "far", desc := "(I)J" } : Jvm.MethodName)) ∈ lw_all := lw_g (lw_at lw_m8 101 rfl) rfl
theorem q1916 : (Jvm.Cond.code ({ cls := "WindowHillModel", name := "far", desc := "(I)J" } : Jvm.MethodName) prog_16_method_86_code (2 : Nat) (Option.some Jvm.ClassFile.FieldType.long)) ∈ lw_all := lw_g (lw_at lw_m8 102 rfl) rfl
theorem q1917 : (Jvm.Cond.constantLong "WindowHillModel" (324 : Nat) (999999999 : Int64)) ∈ lw_all := lw_g (lw_at lw_m8 103 rfl) rfl
theorem q1919 : (Jvm.Cond.instanceMethod ({ cls := "WindowHillModel", name := "walks", desc := "(I)I" } : Jvm.MethodName)) ∈ lw_all := lw_g (lw_at lw_m8 105 rfl) rfl
theorem q1920 : (Jvm.Cond.selects "WindowHillModel" ({ cls := "WindowHillModel", name := "walks", desc := "(I)I" } : Jvm.MethodName) ({ cls := "WindowHillModel", name := "walks", desc := "(I)I" } : Jvm.MethodName)) ∈ lw_all := lw_g (lw_at lw_m8 106 rfl) rfl
theorem q1921 : (Jvm.Cond.code ({ cls := "WindowHillModel", name := "walks", desc := "(I)I" } : Jvm.MethodName) prog_16_method_88_code (6 : Nat) (Option.some Jvm.ClassFile.FieldType.int)) ∈ lw_all := lw_g (lw_at lw_m8 107 rfl) rfl
theorem q1922 : (Jvm.Cond.methodLink "WindowHillModel" (326 : Nat) ({ cls := "WindowHillModel", name := "moved", desc := "(III)I" } : Jvm.MethodName)) ∈ lw_all := lw_g (lw_at lw_m8 108 rfl) rfl
theorem q1923 : (Jvm.Cond.privateMethod ({ cls := "WindowHillModel", name := "moved", desc := "(III)I" } : Jvm.MethodName)) ∈ lw_tbl := lw_at lw_m8 109 rfl
theorem q1924 : (Jvm.Cond.instanceMethod ({ cls := "WindowHillModel", name := "moved", desc := "(III)I" } : Jvm.MethodName)) ∈ lw_all := lw_g (lw_at lw_m8 110 rfl) rfl
theorem q1925 : (Jvm.Cond.code ({ cls := "WindowHillModel", name := "moved", desc := "(III)I" } : Jvm.MethodName) prog_16_method_87_code (8 : Nat) (Option.some Jvm.ClassFile.FieldType.int)) ∈ lw_all := lw_g (lw_at lw_m8 111 rfl) rfl
theorem q1927 : (Jvm.Cond.instanceMethod ({ cls := "WindowHillModel", name := "still", desc := "()I" } : Jvm.MethodName)) ∈ lw_all := lw_g (lw_at lw_m8 113 rfl) rfl
theorem q1928 : (Jvm.Cond.selects "WindowHillModel" ({ cls := "WindowHillModel", name := "still", desc := "()I" } : Jvm.MethodName) ({ cls := "WindowHillModel", name := "still", desc := "()I" } : Jvm.MethodName)) ∈ lw_all := lw_g (lw_at lw_m8 114 rfl) rfl
theorem q1929 : (Jvm.Cond.code ({ cls := "WindowHillModel", name := "still", desc := "()I" } : Jvm.MethodName) prog_16_method_90_code (1 : Nat) (Option.some Jvm.ClassFile.FieldType.int)) ∈ lw_all := lw_g (lw_at lw_m8 115 rfl) rfl
theorem q1930 : (Jvm.Cond.methodLink "WindowHillModel" (330 : Nat) ({ cls := "WindowHillModel", name := "isStill", desc := "()Z" } : Jvm.MethodName)) ∈ lw_all := lw_g (lw_at lw_m8 116 rfl) rfl
theorem q1931 : (Jvm.Cond.privateMethod ({ cls := "WindowHillModel", name := "isStill", desc := "()Z" } : Jvm.MethodName)) ∈ lw_tbl := lw_at lw_m8 117 rfl
theorem q1932 : (Jvm.Cond.instanceMethod ({ cls := "WindowHillModel", name := "isStill", desc := "()Z" } : Jvm.MethodName)) ∈ lw_all := lw_g (lw_at lw_m8 118 rfl) rfl
theorem q1933 : (Jvm.Cond.code ({ cls := "WindowHillModel", name := "isStill", desc := "()Z" } : Jvm.MethodName) prog_16_method_89_code (1 : Nat) (Option.some Jvm.ClassFile.FieldType.boolean)) ∈ lw_all := lw_g (lw_at lw_m8 119 rfl) rfl
theorem q1935 : (Jvm.Cond.instanceMethod ({ cls := "WindowHillModel", name := "next", desc := "(I)I" } : Jvm.MethodName)) ∈ lw_all := lw_g (lw_at lw_m8 121 rfl) rfl
theorem q1936 : (Jvm.Cond.selects "WindowHillModel" ({ cls := "WindowHillModel", name := "next", desc := "(I)I" } : Jvm.MethodName) ({ cls := "WindowHillModel", name := "next", desc := "(I)I" } : Jvm.MethodName)) ∈ lw_all := lw_g (lw_at lw_m8 122 rfl) rfl
theorem q1937 : (Jvm.Cond.code ({ cls := "WindowHillModel", name := "next", desc := "(I)I" } : Jvm.MethodName) prog_16_method_91_code (3 : Nat) (Option.some Jvm.ClassFile.FieldType.int)) ∈ lw_all := lw_g (lw_at lw_m8 123 rfl) rfl
theorem q1939 : (Jvm.Cond.instanceMethod ({ cls := "WindowHillModel", name := "oil", desc := "(I)I" } : Jvm.MethodName)) ∈ lw_all := lw_g (lw_at lw_m8 125 rfl) rfl
theorem q1940 : (Jvm.Cond.selects "WindowHillModel" ({ cls := "WindowHillModel", name := "oil", desc := "(I)I" } : Jvm.MethodName) ({ cls := "WindowHillModel", name := "oil", desc := "(I)I" } : Jvm.MethodName)) ∈ lw_all := lw_g (lw_at lw_m8 126 rfl) rfl
theorem q1941 : (Jvm.Cond.code ({ cls := "WindowHillModel", name := "oil", desc := "(I)I" } : Jvm.MethodName) prog_16_method_92_code (5 : Nat) (Option.some Jvm.ClassFile.FieldType.int)) ∈ lw_all := lw_g (lw_at lw_m8 127 rfl) rfl
theorem q1942 : (Jvm.Cond.constantLong "WindowHillModel" (333 : Nat) (9999 : Int64)) ∈ lw_all := lw_g (lw_at lw_m8 128 rfl) rfl
theorem q1944 : (Jvm.Cond.instanceMethod ({ cls := "WindowHillModel", name := "brightest", desc := "(I)I" } : Jvm.MethodName)) ∈ lw_all := lw_g (lw_at lw_m8 130 rfl) rfl
theorem q1945 : (Jvm.Cond.selects "WindowHillModel" ({ cls := "WindowHillModel", name := "brightest", desc := "(I)I" } : Jvm.MethodName) ({ cls := "WindowHillModel", name := "brightest", desc := "(I)I" } : Jvm.MethodName)) ∈ lw_all := lw_g (lw_at lw_m8 131 rfl) rfl
theorem q1946 : (Jvm.Cond.code ({ cls := "WindowHillModel", name := "brightest", desc := "(I)I" } : Jvm.MethodName) prog_16_method_93_code (5 : Nat) (Option.some Jvm.ClassFile.FieldType.int)) ∈ lw_all := lw_g (lw_at lw_m8 132 rfl) rfl
theorem q1947 : (Jvm.Cond.methodLink "WindowHillModel" (335 : Nat) ({ cls := "java/lang/Math", name := "max", desc := "(II)I" } : Jvm.MethodName)) ∈ lw_all := lw_g (lw_at lw_m8 133 rfl) rfl
theorem q1949 : (Jvm.Cond.instanceMethod ({ cls := "WindowHillModel", name := "ancestors", desc := "()J" } : Jvm.MethodName)) ∈ lw_all := lw_g (lw_at lw_m8 135 rfl) rfl
theorem q1950 : (Jvm.Cond.selects "WindowHillModel" ({ cls := "WindowHillModel", name := "ancestors", desc := "()J" } : Jvm.MethodName) ({ cls := "WindowHillModel", name := "ancestors", desc := "()J" } : Jvm.MethodName)) ∈ lw_all := lw_g (lw_at lw_m8 136 rfl) rfl
theorem q1951 : (Jvm.Cond.code ({ cls := "WindowHillModel", name := "ancestors", desc := "()J" } : Jvm.MethodName) prog_16_method_100_code (1 : Nat) (Option.some Jvm.ClassFile.FieldType.long)) ∈ lw_all := lw_g (lw_at lw_m8 137 rfl) rfl
theorem q1952 : (Jvm.Cond.methodLink "WindowHillModel" (353 : Nat) ({ cls := "WindowHillModel", name := "reckons", desc := "(Z)J" } : Jvm.MethodName)) ∈ lw_all := lw_g (lw_at lw_m8 138 rfl) rfl
theorem q1953 : (Jvm.Cond.privateMethod ({ cls := "WindowHillModel", name := "reckons", desc := "(Z)J" } : Jvm.MethodName)) ∈ lw_tbl := lw_at lw_m8 139 rfl
theorem q1954 : (Jvm.Cond.instanceMethod ({ cls := "WindowHillModel", name := "reckons", desc := "(Z)J" } : Jvm.MethodName)) ∈ lw_all := lw_g (lw_at lw_m8 140 rfl) rfl
theorem q1955 : (Jvm.Cond.code ({ cls := "WindowHillModel", name := "reckons", desc := "(Z)J" } : Jvm.MethodName) prog_16_method_97_code (7 : Nat) (Option.some Jvm.ClassFile.FieldType.long)) ∈ lw_all := lw_g (lw_at lw_m8 141 rfl) rfl
theorem q1956 : (Jvm.Cond.methodLink "WindowHillModel" (342 : Nat) ({ cls := "WindowHillModel", name := "fitsRow", desc := "(II)Z" } : Jvm.MethodName)) ∈ lw_all := lw_g (lw_at lw_m8 142 rfl) rfl
theorem q1957 : (Jvm.Cond.privateMethod ({ cls := "WindowHillModel", name := "fitsRow", desc := "(II)Z" } : Jvm.MethodName)) ∈ lw_tbl := lw_at lw_m8 143 rfl
theorem q1958 : (Jvm.Cond.instanceMethod ({ cls := "WindowHillModel", name := "fitsRow", desc := "(II)Z" } : Jvm.MethodName)) ∈ lw_all := lw_g (lw_at lw_m8 144 rfl) rfl
theorem q1959 : (Jvm.Cond.code ({ cls := "WindowHillModel", name := "fitsRow", desc := "(II)Z" } : Jvm.MethodName) prog_16_method_94_code (5 : Nat) (Option.some Jvm.ClassFile.FieldType.boolean)) ∈ lw_all := lw_g (lw_at lw_m8 145 rfl) rfl
theorem q1960 : (Jvm.Cond.methodLink "WindowHillModel" (345 : Nat) ({ cls := "WindowHillModel", name := "isGood", desc := "(IIIIZ)Z" } : Jvm.MethodName)) ∈ lw_all := lw_g (lw_at lw_m8 146 rfl) rfl
theorem q1961 : (Jvm.Cond.privateMethod ({ cls := "WindowHillModel", name := "isGood", desc := "(IIIIZ)Z" } : Jvm.MethodName)) ∈ lw_tbl := lw_at lw_m8 147 rfl
theorem q1962 : (Jvm.Cond.instanceMethod ({ cls := "WindowHillModel", name := "isGood", desc := "(IIIIZ)Z" } : Jvm.MethodName)) ∈ lw_all := lw_g (lw_at lw_m8 148 rfl) rfl
theorem q1963 : (Jvm.Cond.code ({ cls := "WindowHillModel", name := "isGood", desc := "(IIIIZ)Z" } : Jvm.MethodName) prog_16_method_96_code (6 : Nat) (Option.some Jvm.ClassFile.FieldType.boolean)) ∈ lw_all := lw_g (lw_at lw_m8 149 rfl) rfl
theorem q1964 : (Jvm.Cond.methodLink "WindowHillModel" (338 : Nat) ({ cls := "WindowHillModel", name := "rowBecomes", desc := "(IIII)I" } : Jvm.MethodName)) ∈ lw_all := lw_g (lw_at lw_m8 150 rfl) rfl
theorem q1965 : (Jvm.Cond.privateMethod ({ cls := "WindowHillModel", name := "rowBecomes", desc := "(IIII)I" } : Jvm.MethodName)) ∈ lw_tbl := lw_at lw_m8 151 rfl
theorem q1966 : (Jvm.Cond.instanceMethod ({ cls := "WindowHillModel", name := "rowBecomes", desc := "(IIII)I" } : Jvm.MethodName)) ∈ lw_all := lw_g (lw_at lw_m8 152 rfl) rfl
theorem q1967 : (Jvm.Cond.code ({ cls := "WindowHillModel", name := "rowBecomes", desc := "(IIII)I" } : Jvm.MethodName) prog_16_method_95_code (11 : Nat) (Option.some Jvm.ClassFile.FieldType.int)) ∈ lw_all := lw_g (lw_at lw_m8 153 rfl) rfl
theorem q1969 : (Jvm.Cond.instanceMethod ({ cls := "WindowHillModel", name := "ancestor", desc := "()J" } : Jvm.MethodName)) ∈ lw_all := lw_g (lw_at lw_m8 155 rfl) rfl
theorem q1970 : (Jvm.Cond.selects "WindowHillModel" ({ cls := "WindowHillModel", name := "ancestor", desc := "()J" } : Jvm.MethodName) ({ cls := "WindowHillModel", name := "ancestor", desc := "()J" } : Jvm.MethodName)) ∈ lw_all := lw_g (lw_at lw_m8 156 rfl) rfl
theorem q1971 : (Jvm.Cond.code ({ cls := "WindowHillModel", name := "ancestor", desc := "()J" } : Jvm.MethodName) prog_16_method_101_code (1 : Nat) (Option.some Jvm.ClassFile.FieldType.long)) ∈ lw_all := lw_g (lw_at lw_m8 157 rfl) rfl
theorem q1972 : (Jvm.Cond.methodLink "WindowHillModel" (357 : Nat) ({ cls := "WindowHillModel", name := "least", desc := "(Z)J" } : Jvm.MethodName)) ∈ lw_all := lw_g (lw_at lw_m8 158 rfl) rfl
theorem q1973 : (Jvm.Cond.privateMethod ({ cls := "WindowHillModel", name := "least", desc := "(Z)J" } : Jvm.MethodName)) ∈ lw_tbl := lw_at lw_m8 159 rfl
theorem q1974 : (Jvm.Cond.instanceMethod ({ cls := "WindowHillModel", name := "least", desc := "(Z)J" } : Jvm.MethodName)) ∈ lw_all := lw_g (lw_at lw_m8 160 rfl) rfl
theorem q1975 : (Jvm.Cond.code ({ cls := "WindowHillModel", name := "least", desc := "(Z)J" } : Jvm.MethodName) prog_16_method_98_code (7 : Nat) (Option.some Jvm.ClassFile.FieldType.long)) ∈ lw_all := lw_g (lw_at lw_m8 161 rfl) rfl
theorem q1976 : (Jvm.Cond.methodLink "WindowHillModel" (349 : Nat) ({ cls := "WindowHillModel", name := "aboveOf", desc := "(IIIZ)I" } : Jvm.MethodName)) ∈ lw_all := lw_g (lw_at lw_m8 162 rfl) rfl
theorem q1977 : (Jvm.Cond.privateMethod ({ cls := "WindowHillModel", name := "aboveOf", desc := "(IIIZ)I" } : Jvm.MethodName)) ∈ lw_tbl := lw_at lw_m8 163 rfl
theorem q1978 : (Jvm.Cond.instanceMethod ({ cls := "WindowHillModel", name := "aboveOf", desc := "(IIIZ)I" } : Jvm.MethodName)) ∈ lw_all := lw_g (lw_at lw_m8 164 rfl) rfl
theorem q1979 : (Jvm.Cond.code ({ cls := "WindowHillModel", name := "aboveOf", desc := "(IIIZ)I" } : Jvm.MethodName) prog_16_method_99_code (6 : Nat) (Option.some Jvm.ClassFile.FieldType.int)) ∈ lw_all := lw_g (lw_at lw_m8 165 rfl) rfl
theorem q1981 : (Jvm.Cond.instanceMethod ({ cls := "WindowHillModel", name := "stills", desc := "()J" } : Jvm.MethodName)) ∈ lw_all := lw_g (lw_at lw_m8 167 rfl) rfl
theorem q1982 : (Jvm.Cond.selects "WindowHillModel" ({ cls := "WindowHillModel", name := "stills", desc := "()J" } : Jvm.MethodName) ({ cls := "WindowHillModel", name := "stills", desc := "()J" } : Jvm.MethodName)) ∈ lw_all := lw_g (lw_at lw_m8 168 rfl) rfl
theorem q1983 : (Jvm.Cond.code ({ cls := "WindowHillModel", name := "stills", desc := "()J" } : Jvm.MethodName) prog_16_method_102_code (1 : Nat) (Option.some Jvm.ClassFile.FieldType.long)) ∈ lw_all := lw_g (lw_at lw_m8 169 rfl) rfl
theorem q1985 : (Jvm.Cond.instanceMethod ({ cls := "WindowHillModel", name := "firstStill", desc := "()J" } : Jvm.MethodName)) ∈ lw_all := lw_g (lw_at lw_m8 171 rfl) rfl
theorem q1986 : (Jvm.Cond.selects "WindowHillModel" ({ cls := "WindowHillModel", name := "firstStill", desc := "()J" } : Jvm.MethodName) ({ cls := "WindowHillModel", name := "firstStill", desc := "()J" } : Jvm.MethodName)) ∈ lw_all := lw_g (lw_at lw_m8 172 rfl) rfl
theorem q1987 : (Jvm.Cond.code ({ cls := "WindowHillModel", name := "firstStill", desc := "()J" } : Jvm.MethodName) prog_16_method_103_code (1 : Nat) (Option.some Jvm.ClassFile.FieldType.long)) ∈ lw_all := lw_g (lw_at lw_m8 173 rfl) rfl
theorem q1989 : (Jvm.Cond.instanceMethod ({ cls := "WindowHillModel", name := "pictures", desc := "()J" } : Jvm.MethodName)) ∈ lw_all := lw_g (lw_at lw_m8 175 rfl) rfl
theorem q1990 : (Jvm.Cond.selects "WindowHillModel" ({ cls := "WindowHillModel", name := "pictures", desc := "()J" } : Jvm.MethodName) ({ cls := "WindowHillModel", name := "pictures", desc := "()J" } : Jvm.MethodName)) ∈ lw_all := lw_g (lw_at lw_m8 176 rfl) rfl
theorem q1991 : (Jvm.Cond.code ({ cls := "WindowHillModel", name := "pictures", desc := "()J" } : Jvm.MethodName) prog_16_method_104_code (1 : Nat) (Option.some Jvm.ClassFile.FieldType.long)) ∈ lw_all := lw_g (lw_at lw_m8 177 rfl) rfl
theorem q1993 : (Jvm.Cond.instanceMethod ({ cls := "WindowHillModel", name := "signal", desc := "(IIII)I" } : Jvm.MethodName)) ∈ lw_all := lw_g (lw_at lw_m8 179 rfl) rfl
theorem q1994 : (Jvm.Cond.selects "WindowHillModel" ({ cls := "WindowHillModel", name := "signal", desc := "(IIII)I" } : Jvm.MethodName) ({ cls := "WindowHillModel", name := "signal", desc := "(IIII)I" } : Jvm.MethodName)) ∈ lw_all := lw_g (lw_at lw_m8 180 rfl) rfl
theorem q1995 : (Jvm.Cond.code ({ cls := "WindowHillModel", name := "signal", desc := "(IIII)I" } : Jvm.MethodName) prog_16_method_106_code (11 : Nat) (Option.some Jvm.ClassFile.FieldType.int)) ∈ lw_all := lw_g (lw_at lw_m8 181 rfl) rfl
theorem q1996 : (Jvm.Cond.constantLong "WindowHillModel" (366 : Nat) (30 : Int64)) ∈ lw_all := lw_g (lw_at lw_m8 182 rfl) rfl
theorem q1997 : (Jvm.Cond.methodLink "WindowHillModel" (368 : Nat) ({ cls := "WindowHillModel", name := "tries", desc := "(IIII)V" } : Jvm.MethodName)) ∈ lw_all := lw_g (lw_at lw_m8 183 rfl) rfl
theorem q1998 : (Jvm.Cond.privateMethod ({ cls := "WindowHillModel", name := "tries", desc := "(IIII)V" } : Jvm.MethodName)) ∈ lw_tbl := lw_at lw_m8 184 rfl
theorem q1999 : (Jvm.Cond.instanceMethod ({ cls := "WindowHillModel", name := "tries", desc := "(IIII)V" } : Jvm.MethodName)) ∈ lw_all := lw_g (lw_at lw_m8 185 rfl) rfl
theorem q2000 : (Jvm.Cond.code ({ cls := "WindowHillModel", name := "tries", desc := "(IIII)V" } : Jvm.MethodName) prog_16_method_105_code (7 : Nat) (Option.none : Option Jvm.ClassFile.FieldType)) ∈ lw_all := lw_g (lw_at lw_m8 186 rfl) rfl
theorem q2002 : (Jvm.Cond.instanceMethod ({ cls := "WindowHillModel", name := "spoils", desc := "(III)I" } : Jvm.MethodName)) ∈ lw_all := lw_g (lw_at lw_m8 188 rfl) rfl
theorem q2003 : (Jvm.Cond.selects "WindowHillModel" ({ cls := "WindowHillModel", name := "spoils", desc := "(III)I" } : Jvm.MethodName) ({ cls := "WindowHillModel", name := "spoils", desc := "(III)I" } : Jvm.MethodName)) ∈ lw_all := lw_g (lw_at lw_m8 189 rfl) rfl
theorem q2004 : (Jvm.Cond.code ({ cls := "WindowHillModel", name := "spoils", desc := "(III)I" } : Jvm.MethodName) prog_16_method_108_code (5 : Nat) (Option.some Jvm.ClassFile.FieldType.int)) ∈ lw_all := lw_g (lw_at lw_m8 190 rfl) rfl
theorem q2005 : (Jvm.Cond.methodLink "WindowHillModel" (372 : Nat) ({ cls := "WindowHillModel", name := "spoilsBy", desc := "(II)I" } : Jvm.MethodName)) ∈ lw_all := lw_g (lw_at lw_m8 191 rfl) rfl
theorem q2006 : (Jvm.Cond.privateMethod ({ cls := "WindowHillModel", name := "spoilsBy", desc := "(II)I" } : Jvm.MethodName)) ∈ lw_tbl := lw_at lw_m8 192 rfl
theorem q2007 : (Jvm.Cond.instanceMethod ({ cls := "WindowHillModel", name := "spoilsBy", desc := "(II)I" } : Jvm.MethodName)) ∈ lw_all := lw_g (lw_at lw_m8 193 rfl) rfl
theorem q2008 : (Jvm.Cond.code ({ cls := "WindowHillModel", name := "spoilsBy", desc := "(II)I" } : Jvm.MethodName) prog_16_method_107_code (3 : Nat) (Option.some Jvm.ClassFile.FieldType.int)) ∈ lw_all := lw_g (lw_at lw_m8 194 rfl) rfl
theorem q2010 : (Jvm.Cond.instanceMethod ({ cls := "WindowHillModel", name := "worst", desc := "(II)I" } : Jvm.MethodName)) ∈ lw_all := lw_g (lw_at lw_m8 196 rfl) rfl
theorem q2011 : (Jvm.Cond.selects "WindowHillModel" ({ cls := "WindowHillModel", name := "worst", desc := "(II)I" } : Jvm.MethodName) ({ cls := "WindowHillModel", name := "worst", desc := "(II)I" } : Jvm.MethodName)) ∈ lw_all := lw_g (lw_at lw_m8 197 rfl) rfl
theorem q2012 : (Jvm.Cond.code ({ cls := "WindowHillModel", name := "worst", desc := "(II)I" } : Jvm.MethodName) prog_16_method_109_code (7 : Nat) (Option.some Jvm.ClassFile.FieldType.int)) ∈ lw_all := lw_g (lw_at lw_m8 198 rfl) rfl
theorem q2014 : (Jvm.Cond.instanceMethod ({ cls := "WindowHillModel", name := "mend", desc := "(JI)I" } : Jvm.MethodName)) ∈ lw_all := lw_g (lw_at lw_m8 200 rfl) rfl
theorem q2015 : (Jvm.Cond.selects "WindowHillModel" ({ cls := "WindowHillModel", name := "mend", desc := "(JI)I" } : Jvm.MethodName) ({ cls := "WindowHillModel", name := "mend", desc := "(JI)I" } : Jvm.MethodName)) ∈ lw_all := lw_g (lw_at lw_m8 201 rfl) rfl
theorem q2016 : (Jvm.Cond.code ({ cls := "WindowHillModel", name := "mend", desc := "(JI)I" } : Jvm.MethodName) prog_16_method_110_code (14 : Nat) (Option.some Jvm.ClassFile.FieldType.int)) ∈ lw_all := lw_g (lw_at lw_m8 202 rfl) rfl
theorem q2017 : (Jvm.Cond.methodLink "WindowHillModel" (375 : Nat) ({ cls := "WindowHillModel", name := "whole", desc := "()I" } : Jvm.MethodName)) ∈ lw_all := lw_g (lw_at lw_m8 203 rfl) rfl
theorem q2018 : (Jvm.Cond.privateMethod ({ cls := "WindowHillModel", name := "whole", desc := "()I" } : Jvm.MethodName)) ∈ lw_tbl := lw_at lw_m8 204 rfl
theorem q2019 : (Jvm.Cond.instanceMethod ({ cls := "WindowHillModel", name := "whole", desc := "()I" } : Jvm.MethodName)) ∈ lw_all := lw_g (lw_at lw_m8 205 rfl) rfl
theorem q2020 : (Jvm.Cond.code ({ cls := "WindowHillModel", name := "whole", desc := "()I" } : Jvm.MethodName) prog_16_method_61_code (1 : Nat) (Option.some Jvm.ClassFile.FieldType.int)) ∈ lw_all := lw_g (lw_at lw_m8 206 rfl) rfl
theorem q2022 : (Jvm.Cond.instanceMethod ({ cls := "WindowHillModel", name := "unlike", desc := "(J)I" } : Jvm.MethodName)) ∈ lw_all := lw_g (lw_at lw_m8 208 rfl) rfl
theorem q2023 : (Jvm.Cond.selects "WindowHillModel" ({ cls := "WindowHillModel", name := "unlike", desc := "(J)I" } : Jvm.MethodName) ({ cls := "WindowHillModel", name := "unlike", desc := "(J)I" } : Jvm.MethodName)) ∈ lw_all := lw_g (lw_at lw_m8 209 rfl) rfl
theorem q2024 : (Jvm.Cond.code ({ cls := "WindowHillModel", name := "unlike", desc := "(J)I" } : Jvm.MethodName) prog_16_method_111_code (3 : Nat) (Option.some Jvm.ClassFile.FieldType.int)) ∈ lw_all := lw_g (lw_at lw_m8 210 rfl) rfl
theorem q2026 : (Jvm.Cond.instanceMethod ({ cls := "WindowHillModel", name := "seen", desc := "(II)I" } : Jvm.MethodName)) ∈ lw_all := lw_g (lw_at lw_m8 212 rfl) rfl
theorem q2027 : (Jvm.Cond.selects "WindowHillModel" ({ cls := "WindowHillModel", name := "seen", desc := "(II)I" } : Jvm.MethodName) ({ cls := "WindowHillModel", name := "seen", desc := "(II)I" } : Jvm.MethodName)) ∈ lw_all := lw_g (lw_at lw_m8 213 rfl) rfl
theorem q2028 : (Jvm.Cond.code ({ cls := "WindowHillModel", name := "seen", desc := "(II)I" } : Jvm.MethodName) prog_16_method_112_code (3 : Nat) (Option.some Jvm.ClassFile.FieldType.int)) ∈ lw_all := lw_g (lw_at lw_m8 214 rfl) rfl
theorem q2029 : (Jvm.Cond.constantLong "WindowHillModel" (378 : Nat) (4 : Int64)) ∈ lw_all := lw_g (lw_at lw_m8 215 rfl) rfl
theorem q2031 : (Jvm.Cond.instanceMethod ({ cls := "WindowHillModel", name := "rulesLeft", desc := "()I" } : Jvm.MethodName)) ∈ lw_all := lw_g (lw_at lw_m8 217 rfl) rfl
theorem q2032 : (Jvm.Cond.selects "WindowHillModel" ({ cls := "WindowHillModel", name := "rulesLeft", desc := "()I" } : Jvm.MethodName) ({ cls := "WindowHillModel", name := "rulesLeft", desc := "()I" } : Jvm.MethodName)) ∈ lw_all := lw_g (lw_at lw_m8 218 rfl) rfl
theorem q2033 : (Jvm.Cond.code ({ cls := "WindowHillModel", name := "rulesLeft", desc := "()I" } : Jvm.MethodName) prog_16_method_113_code (3 : Nat) (Option.some Jvm.ClassFile.FieldType.int)) ∈ lw_all := lw_g (lw_at lw_m8 219 rfl) rfl
theorem q2035 : (Jvm.Cond.instanceMethod ({ cls := "WindowHillModel", name := "fits", desc := "()I" } : Jvm.MethodName)) ∈ lw_all := lw_g (lw_at lw_m8 221 rfl) rfl
theorem q2036 : (Jvm.Cond.selects "WindowHillModel" ({ cls := "WindowHillModel", name := "fits", desc := "()I" } : Jvm.MethodName) ({ cls := "WindowHillModel", name := "fits", desc := "()I" } : Jvm.MethodName)) ∈ lw_all := lw_g (lw_at lw_m8 222 rfl) rfl
theorem q2037 : (Jvm.Cond.code ({ cls := "WindowHillModel", name := "fits", desc := "()I" } : Jvm.MethodName) prog_16_method_114_code (6 : Nat) (Option.some Jvm.ClassFile.FieldType.int)) ∈ lw_all := lw_g (lw_at lw_m8 223 rfl) rfl
theorem q2039 : (Jvm.Cond.instanceMethod ({ cls := "WindowHillModel", name := "forget", desc := "()I" } : Jvm.MethodName)) ∈ lw_all := lw_g (lw_at lw_m8 225 rfl) rfl
theorem q2040 : (Jvm.Cond.selects "WindowHillModel" ({ cls := "WindowHillModel", name := "forget", desc := "()I" } : Jvm.MethodName) ({ cls := "WindowHillModel", name := "forget", desc := "()I" } : Jvm.MethodName)) ∈ lw_all := lw_g (lw_at lw_m8 226 rfl) rfl
theorem q2041 : (Jvm.Cond.code ({ cls := "WindowHillModel", name := "forget", desc := "()I" } : Jvm.MethodName) prog_16_method_115_code (3 : Nat) (Option.some Jvm.ClassFile.FieldType.int)) ∈ lw_all := lw_g (lw_at lw_m8 227 rfl) rfl
theorem q2043 : (Jvm.Cond.instanceMethod ({ cls := "WindowHillModel", name := "shows", desc := "()I" } : Jvm.MethodName)) ∈ lw_all := lw_g (lw_at lw_m8 229 rfl) rfl
theorem q2044 : (Jvm.Cond.selects "WindowHillModel" ({ cls := "WindowHillModel", name := "shows", desc := "()I" } : Jvm.MethodName) ({ cls := "WindowHillModel", name := "shows", desc := "()I" } : Jvm.MethodName)) ∈ lw_all := lw_g (lw_at lw_m8 230 rfl) rfl
theorem q2045 : (Jvm.Cond.code ({ cls := "WindowHillModel", name := "shows", desc := "()I" } : Jvm.MethodName) prog_16_method_116_code (4 : Nat) (Option.some Jvm.ClassFile.FieldType.int)) ∈ lw_all := lw_g (lw_at lw_m8 231 rfl) rfl
theorem q2047 : (Jvm.Cond.instanceMethod ({ cls := "WindowHillModel", name := "vote", desc := "(I)I" } : Jvm.MethodName)) ∈ lw_all := lw_g (lw_at lw_m8 233 rfl) rfl
theorem q2048 : (Jvm.Cond.selects "WindowHillModel" ({ cls := "WindowHillModel", name := "vote", desc := "(I)I" } : Jvm.MethodName) ({ cls := "WindowHillModel", name := "vote", desc := "(I)I" } : Jvm.MethodName)) ∈ lw_all := lw_g (lw_at lw_m8 234 rfl) rfl
theorem q2049 : (Jvm.Cond.code ({ cls := "WindowHillModel", name := "vote", desc := "(I)I" } : Jvm.MethodName) prog_16_method_119_code (2 : Nat) (Option.some Jvm.ClassFile.FieldType.int)) ∈ lw_all := lw_g (lw_at lw_m8 235 rfl) rfl
theorem q2050 : (Jvm.Cond.methodLink "WindowHillModel" (383 : Nat) ({ cls := "WindowHillModel", name := "voteOf", desc := "(I)I" } : Jvm.MethodName)) ∈ lw_all := lw_g (lw_at lw_m8 236 rfl) rfl
theorem q2051 : (Jvm.Cond.privateMethod ({ cls := "WindowHillModel", name := "voteOf", desc := "(I)I" } : Jvm.MethodName)) ∈ lw_tbl := lw_at lw_m8 237 rfl
theorem q2052 : (Jvm.Cond.instanceMethod ({ cls := "WindowHillModel", name := "voteOf", desc := "(I)I" } : Jvm.MethodName)) ∈ lw_all := lw_g (lw_at lw_m8 238 rfl) rfl
theorem q2053 : (Jvm.Cond.code ({ cls := "WindowHillModel", name := "voteOf", desc := "(I)I" } : Jvm.MethodName) prog_16_method_118_code (6 : Nat) (Option.some Jvm.ClassFile.FieldType.int)) ∈ lw_all := lw_g (lw_at lw_m8 239 rfl) rfl
theorem q2054 : (Jvm.Cond.methodLink "WindowHillModel" (380 : Nat) ({ cls := "WindowHillModel", name := "dislikes", desc := "(II)I" } : Jvm.MethodName)) ∈ lw_all := lw_g (lw_at lw_m9 0 rfl) rfl
theorem q2055 : (Jvm.Cond.privateMethod ({ cls := "WindowHillModel", name := "dislikes", desc := "(II)I" } : Jvm.MethodName)) ∈ lw_tbl := lw_at lw_m9 1 rfl
theorem q2056 : (Jvm.Cond.instanceMethod ({ cls := "WindowHillModel", name := "dislikes", desc := "(II)I" } : Jvm.MethodName)) ∈ lw_all := lw_g (lw_at lw_m9 2 rfl) rfl
theorem q2057 : (Jvm.Cond.code ({ cls := "WindowHillModel", name := "dislikes", desc := "(II)I" } : Jvm.MethodName) prog_16_method_117_code (4 : Nat) (Option.some Jvm.ClassFile.FieldType.int)) ∈ lw_all := lw_g (lw_at lw_m9 3 rfl) rfl
theorem q2059 : (Jvm.Cond.instanceMethod ({ cls := "WindowHillModel", name := "votes", desc := "(I)I" } : Jvm.MethodName)) ∈ lw_all := lw_g (lw_at lw_m9 5 rfl) rfl
theorem q2060 : (Jvm.Cond.selects "WindowHillModel" ({ cls := "WindowHillModel", name := "votes", desc := "(I)I" } : Jvm.MethodName) ({ cls := "WindowHillModel", name := "votes", desc := "(I)I" } : Jvm.MethodName)) ∈ lw_all := lw_g (lw_at lw_m9 6 rfl) rfl
theorem q2061 : (Jvm.Cond.code ({ cls := "WindowHillModel", name := "votes", desc := "(I)I" } : Jvm.MethodName) prog_16_method_121_code (2 : Nat) (Option.some Jvm.ClassFile.FieldType.int)) ∈ lw_all := lw_g (lw_at lw_m9 7 rfl) rfl
theorem q2062 : (Jvm.Cond.methodLink "WindowHillModel" (386 : Nat) ({ cls := "WindowHillModel", name := "votesFor", desc := "(I)I" } : Jvm.MethodName)) ∈ lw_all := lw_g (lw_at lw_m9 8 rfl) rfl
theorem q2063 : (Jvm.Cond.privateMethod ({ cls := "WindowHillModel", name := "votesFor", desc := "(I)I" } : Jvm.MethodName)) ∈ lw_tbl := lw_at lw_m9 9 rfl
theorem q2064 : (Jvm.Cond.instanceMethod ({ cls := "WindowHillModel", name := "votesFor", desc := "(I)I" } : Jvm.MethodName)) ∈ lw_all := lw_g (lw_at lw_m9 10 rfl) rfl
theorem q2065 : (Jvm.Cond.code ({ cls := "WindowHillModel", name := "votesFor", desc := "(I)I" } : Jvm.MethodName) prog_16_method_120_code (4 : Nat) (Option.some Jvm.ClassFile.FieldType.int)) ∈ lw_all := lw_g (lw_at lw_m9 11 rfl) rfl
theorem q2067 : (Jvm.Cond.instanceMethod ({ cls := "WindowHillModel", name := "elect", desc := "()I" } : Jvm.MethodName)) ∈ lw_all := lw_g (lw_at lw_m9 13 rfl) rfl
theorem q2068 : (Jvm.Cond.selects "WindowHillModel" ({ cls := "WindowHillModel", name := "elect", desc := "()I" } : Jvm.MethodName) ({ cls := "WindowHillModel", name := "elect", desc := "()I" } : Jvm.MethodName)) ∈ lw_all := lw_g (lw_at lw_m9 14 rfl) rfl
theorem q2069 : (Jvm.Cond.code ({ cls := "WindowHillModel", name := "elect", desc := "()I" } : Jvm.MethodName) prog_16_method_123_code (1 : Nat) (Option.some Jvm.ClassFile.FieldType.int)) ∈ lw_all := lw_g (lw_at lw_m9 15 rfl) rfl
theorem q2070 : (Jvm.Cond.methodLink "WindowHillModel" (389 : Nat) ({ cls := "WindowHillModel", name := "elects", desc := "()Z" } : Jvm.MethodName)) ∈ lw_all := lw_g (lw_at lw_m9 16 rfl) rfl
theorem q2071 : (Jvm.Cond.privateMethod ({ cls := "WindowHillModel", name := "elects", desc := "()Z" } : Jvm.MethodName)) ∈ lw_tbl := lw_at lw_m9 17 rfl
theorem q2072 : (Jvm.Cond.instanceMethod ({ cls := "WindowHillModel", name := "elects", desc := "()Z" } : Jvm.MethodName)) ∈ lw_all := lw_g (lw_at lw_m9 18 rfl) rfl
theorem q2073 : (Jvm.Cond.code ({ cls := "WindowHillModel", name := "elects", desc := "()Z" } : Jvm.MethodName) prog_16_method_122_code (3 : Nat) (Option.some Jvm.ClassFile.FieldType.boolean)) ∈ lw_all := lw_g (lw_at lw_m9 19 rfl) rfl
theorem q2075 : (Jvm.Cond.instanceMethod ({ cls := "WindowHillModel", name := "reads", desc := "(II)I" } : Jvm.MethodName)) ∈ lw_all := lw_g (lw_at lw_m9 21 rfl) rfl
theorem q2076 : (Jvm.Cond.selects "WindowHillModel" ({ cls := "WindowHillModel", name := "reads", desc := "(II)I" } : Jvm.MethodName) ({ cls := "WindowHillModel", name := "reads", desc := "(II)I" } : Jvm.MethodName)) ∈ lw_all := lw_g (lw_at lw_m9 22 rfl) rfl
theorem q2077 : (Jvm.Cond.code ({ cls := "WindowHillModel", name := "reads", desc := "(II)I" } : Jvm.MethodName) prog_16_method_124_code (5 : Nat) (Option.some Jvm.ClassFile.FieldType.int)) ∈ lw_all := lw_g (lw_at lw_m9 23 rfl) rfl
theorem q2079 : (Jvm.Cond.instanceMethod ({ cls := "WindowHillModel", name := "mirror", desc := "()I" } : Jvm.MethodName)) ∈ lw_all := lw_g (lw_at lw_m9 25 rfl) rfl
theorem q2080 : (Jvm.Cond.selects "WindowHillModel" ({ cls := "WindowHillModel", name := "mirror", desc := "()I" } : Jvm.MethodName) ({ cls := "WindowHillModel", name := "mirror", desc := "()I" } : Jvm.MethodName)) ∈ lw_all := lw_g (lw_at lw_m9 26 rfl) rfl
theorem q2081 : (Jvm.Cond.code ({ cls := "WindowHillModel", name := "mirror", desc := "()I" } : Jvm.MethodName) prog_16_method_125_code (5 : Nat) (Option.some Jvm.ClassFile.FieldType.int)) ∈ lw_all := lw_g (lw_at lw_m9 27 rfl) rfl
theorem q2083 : (Jvm.Cond.instanceMethod ({ cls := "WindowHillModel", name := "heaps", desc := "(I)I" } : Jvm.MethodName)) ∈ lw_all := lw_g (lw_at lw_m9 29 rfl) rfl
theorem q2084 : (Jvm.Cond.selects "WindowHillModel" ({ cls := "WindowHillModel", name := "heaps", desc := "(I)I" } : Jvm.MethodName) ({ cls := "WindowHillModel", name := "heaps", desc := "(I)I" } : Jvm.MethodName)) ∈ lw_all := lw_g (lw_at lw_m9 30 rfl) rfl
theorem q2085 : (Jvm.Cond.code ({ cls := "WindowHillModel", name := "heaps", desc := "(I)I" } : Jvm.MethodName) prog_16_method_127_code (6 : Nat) (Option.some Jvm.ClassFile.FieldType.int)) ∈ lw_all := lw_g (lw_at lw_m9 31 rfl) rfl
theorem q2086 : (Jvm.Cond.methodLink "WindowHillModel" (392 : Nat) ({ cls := "WindowHillModel", name := "heapOf", desc := "(I)I" } : Jvm.MethodName)) ∈ lw_all := lw_g (lw_at lw_m9 32 rfl) rfl
theorem q2087 : (Jvm.Cond.privateMethod ({ cls := "WindowHillModel", name := "heapOf", desc := "(I)I" } : Jvm.MethodName)) ∈ lw_tbl := lw_at lw_m9 33 rfl
theorem q2088 : (Jvm.Cond.instanceMethod ({ cls := "WindowHillModel", name := "heapOf", desc := "(I)I" } : Jvm.MethodName)) ∈ lw_all := lw_g (lw_at lw_m9 34 rfl) rfl
theorem q2089 : (Jvm.Cond.code ({ cls := "WindowHillModel", name := "heapOf", desc := "(I)I" } : Jvm.MethodName) prog_16_method_126_code (5 : Nat) (Option.some Jvm.ClassFile.FieldType.int)) ∈ lw_all := lw_g (lw_at lw_m9 35 rfl) rfl
theorem q2091 : (Jvm.Cond.instanceMethod ({ cls := "WindowHillModel", name := "heap", desc := "(II)I" } : Jvm.MethodName)) ∈ lw_all := lw_g (lw_at lw_m9 37 rfl) rfl
theorem q2092 : (Jvm.Cond.selects "WindowHillModel" ({ cls := "WindowHillModel", name := "heap", desc := "(II)I" } : Jvm.MethodName) ({ cls := "WindowHillModel", name := "heap", desc := "(II)I" } : Jvm.MethodName)) ∈ lw_all := lw_g (lw_at lw_m9 38 rfl) rfl
theorem q2093 : (Jvm.Cond.code ({ cls := "WindowHillModel", name := "heap", desc := "(II)I" } : Jvm.MethodName) prog_16_method_128_code (4 : Nat) (Option.some Jvm.ClassFile.FieldType.int)) ∈ lw_all := lw_g (lw_at lw_m9 39 rfl) rfl
theorem q2095 : (Jvm.Cond.instanceMethod ({ cls := "WindowHillModel", name := "company", desc := "()Z" } : Jvm.MethodName)) ∈ lw_all := lw_g (lw_at lw_m9 41 rfl) rfl
theorem q2096 : (Jvm.Cond.selects "WindowHillModel" ({ cls := "WindowHillModel", name := "company", desc := "()Z" } : Jvm.MethodName) ({ cls := "WindowHillModel", name := "company", desc := "()Z" } : Jvm.MethodName)) ∈ lw_all := lw_g (lw_at lw_m9 42 rfl) rfl
theorem q2097 : (Jvm.Cond.code ({ cls := "WindowHillModel", name := "company", desc := "()Z" } : Jvm.MethodName) prog_16_method_129_code (3 : Nat) (Option.some Jvm.ClassFile.FieldType.boolean)) ∈ lw_all := lw_g (lw_at lw_m9 43 rfl) rfl
theorem q2098 : (Jvm.Cond.methodLink "WindowHillModel" (395 : Nat) ({ cls := "WindowHillModel", name := "tellsBy", desc := "(JJ)Z" } : Jvm.MethodName)) ∈ lw_all := lw_g (lw_at lw_m9 44 rfl) rfl
theorem q2099 : (Jvm.Cond.privateMethod ({ cls := "WindowHillModel", name := "tellsBy", desc := "(JJ)Z" } : Jvm.MethodName)) ∈ lw_tbl := lw_at lw_m9 45 rfl
theorem q2100 : (Jvm.Cond.instanceMethod ({ cls := "WindowHillModel", name := "tellsBy", desc := "(JJ)Z" } : Jvm.MethodName)) ∈ lw_all := lw_g (lw_at lw_m9 46 rfl) rfl
theorem q2101 : (Jvm.Cond.code ({ cls := "WindowHillModel", name := "tellsBy", desc := "(JJ)Z" } : Jvm.MethodName) prog_16_method_11_code (11 : Nat) (Option.some Jvm.ClassFile.FieldType.boolean)) ∈ lw_all := lw_g (lw_at lw_m9 47 rfl) rfl
theorem q2103 : (Jvm.Cond.instanceMethod ({ cls := "WindowHillModel", name := "live", desc := "(I)I" } : Jvm.MethodName)) ∈ lw_all := lw_g (lw_at lw_m9 49 rfl) rfl
theorem q2104 : (Jvm.Cond.selects "WindowHillModel" ({ cls := "WindowHillModel", name := "live", desc := "(I)I" } : Jvm.MethodName) ({ cls := "WindowHillModel", name := "live", desc := "(I)I" } : Jvm.MethodName)) ∈ lw_all := lw_g (lw_at lw_m9 50 rfl) rfl
theorem q2105 : (Jvm.Cond.code ({ cls := "WindowHillModel", name := "live", desc := "(I)I" } : Jvm.MethodName) prog_16_method_137_code (3 : Nat) (Option.some Jvm.ClassFile.FieldType.int)) ∈ lw_all := lw_g (lw_at lw_m9 51 rfl) rfl
theorem q2106 : (Jvm.Cond.methodLink "WindowHillModel" (424 : Nat) ({ cls := "WindowHillModel", name := "lives", desc := "(I)V" } : Jvm.MethodName)) ∈ lw_all := lw_g (lw_at lw_m9 52 rfl) rfl
theorem q2107 : (Jvm.Cond.privateMethod ({ cls := "WindowHillModel", name := "lives", desc := "(I)V" } : Jvm.MethodName)) ∈ lw_tbl := lw_at lw_m9 53 rfl
theorem q2108 : (Jvm.Cond.instanceMethod ({ cls := "WindowHillModel", name := "lives", desc := "(I)V" } : Jvm.MethodName)) ∈ lw_all := lw_g (lw_at lw_m9 54 rfl) rfl
theorem q2109 : (Jvm.Cond.code ({ cls := "WindowHillModel", name := "lives", desc := "(I)V" } : Jvm.MethodName) prog_16_method_136_code (4 : Nat) (Option.none : Option Jvm.ClassFile.FieldType)) ∈ lw_all := lw_g (lw_at lw_m9 55 rfl) rfl
theorem q2110 : (Jvm.Cond.methodLink "WindowHillModel" (415 : Nat) ({ cls := "WindowHillModel", name := "does", desc := "(I)Z" } : Jvm.MethodName)) ∈ lw_all := lw_g (lw_at lw_m9 56 rfl) rfl
theorem q2111 : (Jvm.Cond.privateMethod ({ cls := "WindowHillModel", name := "does", desc := "(I)Z" } : Jvm.MethodName)) ∈ lw_tbl := lw_at lw_m9 57 rfl
theorem q2112 : (Jvm.Cond.instanceMethod ({ cls := "WindowHillModel", name := "does", desc := "(I)Z" } : Jvm.MethodName)) ∈ lw_all := lw_g (lw_at lw_m9 58 rfl) rfl
theorem q2113 : (Jvm.Cond.code ({ cls := "WindowHillModel", name := "does", desc := "(I)Z" } : Jvm.MethodName) prog_16_method_133_code (4 : Nat) (Option.some Jvm.ClassFile.FieldType.boolean)) ∈ lw_all := lw_g (lw_at lw_m9 59 rfl) rfl
theorem q2114 : (Jvm.Cond.methodLink "WindowHillModel" (406 : Nat) ({ cls := "WindowHillModel", name := "storms", desc := "(I)Z" } : Jvm.MethodName)) ∈ lw_all := lw_g (lw_at lw_m9 60 rfl) rfl
theorem q2115 : (Jvm.Cond.privateMethod ({ cls := "WindowHillModel", name := "storms", desc := "(I)Z" } : Jvm.MethodName)) ∈ lw_tbl := lw_at lw_m9 61 rfl
theorem q2116 : (Jvm.Cond.instanceMethod ({ cls := "WindowHillModel", name := "storms", desc := "(I)Z" } : Jvm.MethodName)) ∈ lw_all := lw_g (lw_at lw_m9 62 rfl) rfl
theorem q2117 : (Jvm.Cond.code ({ cls := "WindowHillModel", name := "storms", desc := "(I)Z" } : Jvm.MethodName) prog_16_method_131_code (4 : Nat) (Option.some Jvm.ClassFile.FieldType.boolean)) ∈ lw_all := lw_g (lw_at lw_m9 63 rfl) rfl
theorem q2118 : (Jvm.Cond.methodLink "WindowHillModel" (403 : Nat) ({ cls := "WindowHillModel", name := "draw", desc := "(I)I" } : Jvm.MethodName)) ∈ lw_all := lw_g (lw_at lw_m9 64 rfl) rfl
theorem q2119 : (Jvm.Cond.privateMethod ({ cls := "WindowHillModel", name := "draw", desc := "(I)I" } : Jvm.MethodName)) ∈ lw_tbl := lw_at lw_m9 65 rfl
theorem q2120 : (Jvm.Cond.instanceMethod ({ cls := "WindowHillModel", name := "draw", desc := "(I)I" } : Jvm.MethodName)) ∈ lw_all := lw_g (lw_at lw_m9 66 rfl) rfl
theorem q2121 : (Jvm.Cond.code ({ cls := "WindowHillModel", name := "draw", desc := "(I)I" } : Jvm.MethodName) prog_16_method_130_code (2 : Nat) (Option.some Jvm.ClassFile.FieldType.int)) ∈ lw_all := lw_g (lw_at lw_m9 67 rfl) rfl
theorem q2122 : (Jvm.Cond.constant "WindowHillModel" (402 : Nat) (65536 : Int32)) ∈ lw_all := lw_g (lw_at lw_m9 68 rfl) rfl
theorem q2123 : (Jvm.Cond.methodLink "WindowHillModel" (409 : Nat) ({ cls := "WindowHillModel", name := "isBorn", desc := "()Z" } : Jvm.MethodName)) ∈ lw_all := lw_g (lw_at lw_m9 69 rfl) rfl
theorem q2124 : (Jvm.Cond.privateMethod ({ cls := "WindowHillModel", name := "isBorn", desc := "()Z" } : Jvm.MethodName)) ∈ lw_tbl := lw_at lw_m9 70 rfl
theorem q2125 : (Jvm.Cond.instanceMethod ({ cls := "WindowHillModel", name := "isBorn", desc := "()Z" } : Jvm.MethodName)) ∈ lw_all := lw_g (lw_at lw_m9 71 rfl) rfl
theorem q2126 : (Jvm.Cond.code ({ cls := "WindowHillModel", name := "isBorn", desc := "()Z" } : Jvm.MethodName) prog_16_method_132_code (3 : Nat) (Option.some Jvm.ClassFile.FieldType.boolean)) ∈ lw_all := lw_g (lw_at lw_m9 72 rfl) rfl
theorem q2127 : (Jvm.Cond.methodLink "WindowHillModel" (418 : Nat) ({ cls := "WindowHillModel", name := "holds", desc := "(I)Z" } : Jvm.MethodName)) ∈ lw_all := lw_g (lw_at lw_m9 73 rfl) rfl
theorem q2128 : (Jvm.Cond.privateMethod ({ cls := "WindowHillModel", name := "holds", desc := "(I)Z" } : Jvm.MethodName)) ∈ lw_tbl := lw_at lw_m9 74 rfl
theorem q2129 : (Jvm.Cond.instanceMethod ({ cls := "WindowHillModel", name := "holds", desc := "(I)Z" } : Jvm.MethodName)) ∈ lw_all := lw_g (lw_at lw_m9 75 rfl) rfl
theorem q2130 : (Jvm.Cond.code ({ cls := "WindowHillModel", name := "holds", desc := "(I)Z" } : Jvm.MethodName) prog_16_method_134_code (4 : Nat) (Option.some Jvm.ClassFile.FieldType.boolean)) ∈ lw_all := lw_g (lw_at lw_m9 76 rfl) rfl
theorem q2131 : (Jvm.Cond.methodLink "WindowHillModel" (421 : Nat) ({ cls := "WindowHillModel", name := "behindEnds", desc := "(I)I" } : Jvm.MethodName)) ∈ lw_all := lw_g (lw_at lw_m9 77 rfl) rfl
theorem q2132 : (Jvm.Cond.privateMethod ({ cls := "WindowHillModel", name := "behindEnds", desc := "(I)I" } : Jvm.MethodName)) ∈ lw_tbl := lw_at lw_m9 78 rfl
theorem q2133 : (Jvm.Cond.instanceMethod ({ cls := "WindowHillModel", name := "behindEnds", desc := "(I)I" } : Jvm.MethodName)) ∈ lw_all := lw_g (lw_at lw_m9 79 rfl) rfl
theorem q2134 : (Jvm.Cond.code ({ cls := "WindowHillModel", name := "behindEnds", desc := "(I)I" } : Jvm.MethodName) prog_16_method_135_code (5 : Nat) (Option.some Jvm.ClassFile.FieldType.int)) ∈ lw_all := lw_g (lw_at lw_m9 80 rfl) rfl
theorem q2136 : (Jvm.Cond.instanceMethod ({ cls := "WindowHillModel", name := "lived", desc := "(I)I" } : Jvm.MethodName)) ∈ lw_all := lw_g (lw_at lw_m9 82 rfl) rfl
theorem q2137 : (Jvm.Cond.selects "WindowHillModel" ({ cls := "WindowHillModel", name := "lived", desc := "(I)I" } : Jvm.MethodName) ({ cls := "WindowHillModel", name := "lived", desc := "(I)I" } : Jvm.MethodName)) ∈ lw_all := lw_g (lw_at lw_m9 83 rfl) rfl
theorem q2138 : (Jvm.Cond.code ({ cls := "WindowHillModel", name := "lived", desc := "(I)I" } : Jvm.MethodName) prog_16_method_138_code (2 : Nat) (Option.some Jvm.ClassFile.FieldType.int)) ∈ lw_all := lw_g (lw_at lw_m9 84 rfl) rfl
theorem q2140 : (Jvm.Cond.instanceMethod ({ cls := "WindowHillModel", name := "mean", desc := "(II)Z" } : Jvm.MethodName)) ∈ lw_all := lw_g (lw_at lw_m9 86 rfl) rfl
theorem q2141 : (Jvm.Cond.selects "WindowHillModel" ({ cls := "WindowHillModel", name := "mean", desc := "(II)Z" } : Jvm.MethodName) ({ cls := "WindowHillModel", name := "mean", desc := "(II)Z" } : Jvm.MethodName)) ∈ lw_all := lw_g (lw_at lw_m9 87 rfl) rfl
theorem q2142 : (Jvm.Cond.code ({ cls := "WindowHillModel", name := "mean", desc := "(II)Z" } : Jvm.MethodName) prog_16_method_139_code (7 : Nat) (Option.some Jvm.ClassFile.FieldType.boolean)) ∈ lw_all := lw_g (lw_at lw_m9 88 rfl) rfl
theorem q2143 : (Jvm.Cond.constantLong "WindowHillModel" (431 : Nat) (20 : Int64)) ∈ lw_all := lw_g (lw_at lw_m9 89 rfl) rfl
theorem q2145 : (Jvm.Cond.instanceMethod ({ cls := "WindowHillModel", name := "mark", desc := "()I" } : Jvm.MethodName)) ∈ lw_all := lw_g (lw_at lw_m9 91 rfl) rfl
theorem q2146 : (Jvm.Cond.selects "WindowHillModel" ({ cls := "WindowHillModel", name := "mark", desc := "()I" } : Jvm.MethodName) ({ cls := "WindowHillModel", name := "mark", desc := "()I" } : Jvm.MethodName)) ∈ lw_all := lw_g (lw_at lw_m9 92 rfl) rfl
theorem q2147 : (Jvm.Cond.code ({ cls := "WindowHillModel", name := "mark", desc := "()I" } : Jvm.MethodName) prog_16_method_141_code (1 : Nat) (Option.some Jvm.ClassFile.FieldType.int)) ∈ lw_all := lw_g (lw_at lw_m9 93 rfl) rfl
theorem q2148 : (Jvm.Cond.methodLink "WindowHillModel" (436 : Nat) ({ cls := "WindowHillModel", name := "copies", desc := "(II)V" } : Jvm.MethodName)) ∈ lw_all := lw_g (lw_at lw_m9 94 rfl) rfl
theorem q2149 : (Jvm.Cond.privateMethod ({ cls := "WindowHillModel", name := "copies", desc := "(II)V" } : Jvm.MethodName)) ∈ lw_tbl := lw_at lw_m9 95 rfl
theorem q2150 : (Jvm.Cond.instanceMethod ({ cls := "WindowHillModel", name := "copies", desc := "(II)V" } : Jvm.MethodName)) ∈ lw_all := lw_g (lw_at lw_m9 96 rfl) rfl
theorem q2151 : (Jvm.Cond.code ({ cls := "WindowHillModel", name := "copies", desc := "(II)V" } : Jvm.MethodName) prog_16_method_140_code (4 : Nat) (Option.none : Option Jvm.ClassFile.FieldType)) ∈ lw_all := lw_g (lw_at lw_m9 97 rfl) rfl
theorem q2153 : (Jvm.Cond.instanceMethod ({ cls := "WindowHillModel", name := "back", desc := "()I" } : Jvm.MethodName)) ∈ lw_all := lw_g (lw_at lw_m9 99 rfl) rfl
theorem q2154 : (Jvm.Cond.selects "WindowHillModel" ({ cls := "WindowHillModel", name := "back", desc := "()I" } : Jvm.MethodName) ({ cls := "WindowHillModel", name := "back", desc := "()I" } : Jvm.MethodName)) ∈ lw_all := lw_g (lw_at lw_m9 100 rfl) rfl
theorem q2155 : (Jvm.Cond.code ({ cls := "WindowHillModel", name := "back", desc := "()I" } : Jvm.MethodName) prog_16_method_142_code (1 : Nat) (Option.some Jvm.ClassFile.FieldType.int)) ∈ lw_all := lw_g (lw_at lw_m9 101 rfl) rfl
theorem in_X7 : ∀ w ∈ wsX70, w ∈ lw_all := lw_in wsX70 [1506, 1508, 1510, 1512, 1514, 1516, 1518, 1520, 1522, 1524, 1526, 1528, 1530, 1532, 1534, 1536, 1538, 1540, 1542, 1544, 1546, 1548, 1550, 1552, 1554, 1556, 1558, 1560, 1562, 1564, 1566, 1568, 1570, 1572, 1574, 1576, 1578, 1580, 1582] (by decide +kernel) (by decide +kernel)
