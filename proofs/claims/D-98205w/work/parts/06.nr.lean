/-! WindowHill$Reader -/
set_option maxRecDepth 100000
def RX8 : String := "WindowHill$Reader"
def TX8 : u_T := fun k => match k with
  | 0 => ("WindowHill$Reader", "size", "I", true)
  | 1 => ("WindowHill$Reader", "at", "I", false)
  | 2 => ("WindowHill$Reader", "behind", "I", false)
  | 3 => ("WindowHill$Reader", "sort", "I", false)
  | 4 => ("WindowHill$Reader", "number", "I", false)
  | 5 => ("WindowHill$Reader", "steps", "I", false)
  | 6 => ("WindowHill$Reader", "picture", "I", false)
  | _ => ("WindowHill$Reader", "this$0", "LWindowHill;", true)
def tyX8 : Nat → FieldType := fun k => match k with
  | 0 => .int
  | 1 => .int
  | 2 => .int
  | 3 => .int
  | 4 => .int
  | 5 => .int
  | 6 => .int
  | _ => .object "WindowHill"
abbrev wsX80 : List Cond := u_ws RX8 TX8 8
theorem nmX8 : ∀ a, a < 8 → ∀ b, b < 8 → a ≠ b → (TX8 a).2.1 ≠ (TX8 b).2.1 := by decide +kernel
theorem tyX8_ok : ∀ k, k < 8 → parseFieldDescriptor (TX8 k).2.2.1 = some (tyX8 k) := by decide +kernel
abbrev cX8_init : ByteArray := prog_9_method_1_code
def yX8_init : MethodName := ⟨RX8, "<init>", "(LWindowHill;I)V"⟩
def dkwX8_init_0 : List UInt8 := [42, 43, 181, 0, 3, 42, 183, 0, 9, 42, 28, 181, 0, 15, 42, 182, 0, 19, 177]
abbrev dktX8_init_0 : List UInt8 := dkwX8_init_0 ++ []
theorem dksX8_init_0 : cX8_init.data.toList.drop 0 = dktX8_init_0 := by decide +kernel
theorem dX8_init_0 : decode cX8_init 0 = .ok (.aload_n 0, 1) := dk_42 (dk_at dksX8_init_0 0 rfl rfl)
theorem dX8_init_1 : decode cX8_init 1 = .ok (.aload_n 1, 1) := dk_43 (dk_at dksX8_init_0 1 rfl rfl)
theorem dX8_init_2 : decode cX8_init 2 = .ok (.putfield 3, 3) := dk_181 0 3 (dk_at dksX8_init_0 2 rfl rfl)
theorem dX8_init_5 : decode cX8_init 5 = .ok (.aload_n 0, 1) := dk_42 (dk_at dksX8_init_0 5 rfl rfl)
theorem dX8_init_6 : decode cX8_init 6 = .ok (.invokespecial 9, 3) := dk_183 0 9 (dk_at dksX8_init_0 6 rfl rfl)
theorem dX8_init_9 : decode cX8_init 9 = .ok (.aload_n 0, 1) := dk_42 (dk_at dksX8_init_0 9 rfl rfl)
theorem dX8_init_10 : decode cX8_init 10 = .ok (.iload_n 2, 1) := dk_28 (dk_at dksX8_init_0 10 rfl rfl)
theorem dX8_init_11 : decode cX8_init 11 = .ok (.putfield 15, 3) := dk_181 0 15 (dk_at dksX8_init_0 11 rfl rfl)
theorem dX8_init_14 : decode cX8_init 14 = .ok (.aload_n 0, 1) := dk_42 (dk_at dksX8_init_0 14 rfl rfl)
theorem dX8_init_15 : decode cX8_init 15 = .ok (.invokevirtual 19, 3) := dk_182 0 19 (dk_at dksX8_init_0 15 rfl rfl)
theorem dX8_init_18 : decode cX8_init 18 = .ok (.return_, 1) := dk_177 (dk_at dksX8_init_0 18 rfl rfl)
abbrev cX8_next : ByteArray := prog_9_method_4_code
def yX8_next : MethodName := ⟨RX8, "next", "()V"⟩
def dkwX8_next_13 : List UInt8 := [180, 0, 22, 42, 180, 0, 29, 51, 16, 61, 160, 0, 7, 6, 167, 0, 4, 7, 181, 0, 32, 177]
abbrev dktX8_next_13 : List UInt8 := dkwX8_next_13 ++ []
def dkwX8_next_12 : List UInt8 := [159, 0, 37, 42, 180, 0, 3, 180, 0, 22, 42, 180, 0, 29, 51, 16, 62, 159, 0, 20, 42, 180, 0, 3]
abbrev dktX8_next_12 : List UInt8 := dkwX8_next_12 ++ dktX8_next_13
def dkwX8_next_11 : List UInt8 := [180, 0, 29, 51, 16, 59, 159, 0, 54, 42, 180, 0, 3, 180, 0, 22, 42, 180, 0, 29, 51, 16, 60]
abbrev dktX8_next_11 : List UInt8 := dkwX8_next_11 ++ dktX8_next_12
def dkwX8_next_10 : List UInt8 := [167, 0, 90, 42, 42, 180, 0, 29, 4, 96, 181, 0, 26, 42, 42, 180, 0, 3, 180, 0, 22, 42]
abbrev dktX8_next_10 : List UInt8 := dkwX8_next_10 ++ dktX8_next_11
def dkwX8_next_9 : List UInt8 := [42, 42, 180, 0, 26, 42, 180, 0, 29, 100, 7, 164, 0, 7, 7, 167, 0, 4, 5, 181, 0, 32]
abbrev dktX8_next_9 : List UInt8 := dkwX8_next_9 ++ dktX8_next_10
def dkwX8_next_8 : List UInt8 := [180, 0, 26, 51, 96, 16, 48, 100, 181, 0, 42, 42, 89, 180, 0, 26, 4, 96, 181, 0, 26, 167, 255, 195]
abbrev dktX8_next_8 : List UInt8 := dkwX8_next_8 ++ dktX8_next_9
def dkwX8_next_7 : List UInt8 := [180, 0, 29, 100, 7, 162, 0, 30, 42, 16, 10, 42, 180, 0, 42, 104, 42, 180, 0, 3, 180, 0, 22, 42]
abbrev dktX8_next_7 : List UInt8 := dkwX8_next_7 ++ dktX8_next_8
def dkwX8_next_6 : List UInt8 := [153, 0, 97, 42, 3, 181, 0, 42, 42, 42, 180, 0, 26, 182, 0, 39, 153, 0, 56, 42, 180, 0, 26, 42]
abbrev dktX8_next_6 : List UInt8 := dkwX8_next_6 ++ dktX8_next_7
def dkwX8_next_5 : List UInt8 := [153, 0, 208, 42, 89, 180, 0, 26, 4, 96, 181, 0, 26, 167, 255, 235, 42, 42, 180, 0, 29, 182, 0, 39]
abbrev dktX8_next_5 : List UInt8 := dkwX8_next_5 ++ dktX8_next_6
def dkwX8_next_4 : List UInt8 := [180, 0, 29, 182, 0, 35, 153, 0, 32, 42, 4, 181, 0, 32, 42, 42, 180, 0, 26, 182, 0, 35]
abbrev dktX8_next_4 : List UInt8 := dkwX8_next_4 ++ dktX8_next_5
def dkwX8_next_3 : List UInt8 := [181, 0, 26, 42, 3, 181, 0, 32, 42, 180, 0, 29, 42, 180, 0, 15, 161, 0, 4, 177, 42, 42]
abbrev dktX8_next_3 : List UInt8 := dkwX8_next_3 ++ dktX8_next_4
def dkwX8_next_2 : List UInt8 := [51, 16, 32, 160, 0, 16, 42, 89, 180, 0, 29, 4, 96, 181, 0, 29, 167, 255, 201, 42, 42, 180, 0, 29]
abbrev dktX8_next_2 : List UInt8 := dkwX8_next_2 ++ dktX8_next_3
def dkwX8_next_1 : List UInt8 := [180, 0, 22, 42, 180, 0, 29, 51, 16, 10, 159, 0, 20, 42, 180, 0, 3, 180, 0, 22, 42, 180, 0, 29]
abbrev dktX8_next_1 : List UInt8 := dkwX8_next_1 ++ dktX8_next_2
def dkwX8_next_0 : List UInt8 := [42, 42, 180, 0, 26, 181, 0, 29, 42, 180, 0, 29, 42, 180, 0, 15, 162, 0, 50, 42, 180, 0, 3]
abbrev dktX8_next_0 : List UInt8 := dkwX8_next_0 ++ dktX8_next_1
theorem dksX8_next_0 : cX8_next.data.toList.drop 0 = dktX8_next_0 := by decide +kernel
theorem dksX8_next_1 : cX8_next.data.toList.drop 23 = dktX8_next_1 := dk_seg dksX8_next_0 23 rfl rfl
theorem dksX8_next_2 : cX8_next.data.toList.drop 47 = dktX8_next_2 := dk_seg dksX8_next_1 24 rfl rfl
theorem dksX8_next_3 : cX8_next.data.toList.drop 71 = dktX8_next_3 := dk_seg dksX8_next_2 24 rfl rfl
theorem dksX8_next_4 : cX8_next.data.toList.drop 93 = dktX8_next_4 := dk_seg dksX8_next_3 22 rfl rfl
theorem dksX8_next_5 : cX8_next.data.toList.drop 115 = dktX8_next_5 := dk_seg dksX8_next_4 22 rfl rfl
theorem dksX8_next_6 : cX8_next.data.toList.drop 139 = dktX8_next_6 := dk_seg dksX8_next_5 24 rfl rfl
theorem dksX8_next_7 : cX8_next.data.toList.drop 163 = dktX8_next_7 := dk_seg dksX8_next_6 24 rfl rfl
theorem dksX8_next_8 : cX8_next.data.toList.drop 187 = dktX8_next_8 := dk_seg dksX8_next_7 24 rfl rfl
theorem dksX8_next_9 : cX8_next.data.toList.drop 211 = dktX8_next_9 := dk_seg dksX8_next_8 24 rfl rfl
theorem dksX8_next_10 : cX8_next.data.toList.drop 233 = dktX8_next_10 := dk_seg dksX8_next_9 22 rfl rfl
theorem dksX8_next_11 : cX8_next.data.toList.drop 255 = dktX8_next_11 := dk_seg dksX8_next_10 22 rfl rfl
theorem dksX8_next_12 : cX8_next.data.toList.drop 278 = dktX8_next_12 := dk_seg dksX8_next_11 23 rfl rfl
theorem dksX8_next_13 : cX8_next.data.toList.drop 302 = dktX8_next_13 := dk_seg dksX8_next_12 24 rfl rfl
theorem dX8_next_0 : decode cX8_next 0 = .ok (.aload_n 0, 1) := dk_42 (dk_at dksX8_next_0 0 rfl rfl)
theorem dX8_next_1 : decode cX8_next 1 = .ok (.aload_n 0, 1) := dk_42 (dk_at dksX8_next_0 1 rfl rfl)
theorem dX8_next_2 : decode cX8_next 2 = .ok (.getfield 26, 3) := dk_180 0 26 (dk_at dksX8_next_0 2 rfl rfl)
theorem dX8_next_5 : decode cX8_next 5 = .ok (.putfield 29, 3) := dk_181 0 29 (dk_at dksX8_next_0 5 rfl rfl)
theorem dX8_next_8 : decode cX8_next 8 = .ok (.aload_n 0, 1) := dk_42 (dk_at dksX8_next_0 8 rfl rfl)
theorem dX8_next_9 : decode cX8_next 9 = .ok (.getfield 29, 3) := dk_180 0 29 (dk_at dksX8_next_0 9 rfl rfl)
theorem dX8_next_12 : decode cX8_next 12 = .ok (.aload_n 0, 1) := dk_42 (dk_at dksX8_next_0 12 rfl rfl)
theorem dX8_next_13 : decode cX8_next 13 = .ok (.getfield 15, 3) := dk_180 0 15 (dk_at dksX8_next_0 13 rfl rfl)
theorem dX8_next_16 : decode cX8_next 16 = .ok (.if_icmp .ge 50, 3) := dk_162 0 50 (dk_at dksX8_next_0 16 rfl rfl)
theorem dX8_next_19 : decode cX8_next 19 = .ok (.aload_n 0, 1) := dk_42 (dk_at dksX8_next_0 19 rfl rfl)
theorem dX8_next_20 : decode cX8_next 20 = .ok (.getfield 3, 3) := dk_180 0 3 (dk_at dksX8_next_0 20 rfl rfl)
theorem dX8_next_23 : decode cX8_next 23 = .ok (.getfield 22, 3) := dk_180 0 22 (dk_at dksX8_next_1 0 rfl rfl)
theorem dX8_next_26 : decode cX8_next 26 = .ok (.aload_n 0, 1) := dk_42 (dk_at dksX8_next_1 3 rfl rfl)
theorem dX8_next_27 : decode cX8_next 27 = .ok (.getfield 29, 3) := dk_180 0 29 (dk_at dksX8_next_1 4 rfl rfl)
theorem dX8_next_30 : decode cX8_next 30 = .ok (.baload, 1) := dk_51 (dk_at dksX8_next_1 7 rfl rfl)
theorem dX8_next_31 : decode cX8_next 31 = .ok (.bipush 10, 2) := dk_16 10 (dk_at dksX8_next_1 8 rfl rfl)
theorem dX8_next_33 : decode cX8_next 33 = .ok (.if_icmp .eq 20, 3) := dk_159 0 20 (dk_at dksX8_next_1 10 rfl rfl)
theorem dX8_next_36 : decode cX8_next 36 = .ok (.aload_n 0, 1) := dk_42 (dk_at dksX8_next_1 13 rfl rfl)
theorem dX8_next_37 : decode cX8_next 37 = .ok (.getfield 3, 3) := dk_180 0 3 (dk_at dksX8_next_1 14 rfl rfl)
theorem dX8_next_40 : decode cX8_next 40 = .ok (.getfield 22, 3) := dk_180 0 22 (dk_at dksX8_next_1 17 rfl rfl)
theorem dX8_next_43 : decode cX8_next 43 = .ok (.aload_n 0, 1) := dk_42 (dk_at dksX8_next_1 20 rfl rfl)
theorem dX8_next_44 : decode cX8_next 44 = .ok (.getfield 29, 3) := dk_180 0 29 (dk_at dksX8_next_1 21 rfl rfl)
theorem dX8_next_47 : decode cX8_next 47 = .ok (.baload, 1) := dk_51 (dk_at dksX8_next_2 0 rfl rfl)
theorem dX8_next_48 : decode cX8_next 48 = .ok (.bipush 32, 2) := dk_16 32 (dk_at dksX8_next_2 1 rfl rfl)
theorem dX8_next_50 : decode cX8_next 50 = .ok (.if_icmp .ne 16, 3) := dk_160 0 16 (dk_at dksX8_next_2 3 rfl rfl)
theorem dX8_next_53 : decode cX8_next 53 = .ok (.aload_n 0, 1) := dk_42 (dk_at dksX8_next_2 6 rfl rfl)
theorem dX8_next_54 : decode cX8_next 54 = .ok (.dup, 1) := dk_89 (dk_at dksX8_next_2 7 rfl rfl)
theorem dX8_next_55 : decode cX8_next 55 = .ok (.getfield 29, 3) := dk_180 0 29 (dk_at dksX8_next_2 8 rfl rfl)
theorem dX8_next_58 : decode cX8_next 58 = .ok (.iconst 1, 1) := dk_4 (dk_at dksX8_next_2 11 rfl rfl)
theorem dX8_next_59 : decode cX8_next 59 = .ok (.iadd, 1) := dk_96 (dk_at dksX8_next_2 12 rfl rfl)
theorem dX8_next_60 : decode cX8_next 60 = .ok (.putfield 29, 3) := dk_181 0 29 (dk_at dksX8_next_2 13 rfl rfl)
theorem dX8_next_63 : decode cX8_next 63 = .ok (.goto (-55), 3) := dk_167 255 201 (dk_at dksX8_next_2 16 rfl rfl)
theorem dX8_next_66 : decode cX8_next 66 = .ok (.aload_n 0, 1) := dk_42 (dk_at dksX8_next_2 19 rfl rfl)
theorem dX8_next_67 : decode cX8_next 67 = .ok (.aload_n 0, 1) := dk_42 (dk_at dksX8_next_2 20 rfl rfl)
theorem dX8_next_68 : decode cX8_next 68 = .ok (.getfield 29, 3) := dk_180 0 29 (dk_at dksX8_next_2 21 rfl rfl)
theorem dX8_next_71 : decode cX8_next 71 = .ok (.putfield 26, 3) := dk_181 0 26 (dk_at dksX8_next_3 0 rfl rfl)
theorem dX8_next_74 : decode cX8_next 74 = .ok (.aload_n 0, 1) := dk_42 (dk_at dksX8_next_3 3 rfl rfl)
theorem dX8_next_75 : decode cX8_next 75 = .ok (.iconst 0, 1) := dk_3 (dk_at dksX8_next_3 4 rfl rfl)
theorem dX8_next_76 : decode cX8_next 76 = .ok (.putfield 32, 3) := dk_181 0 32 (dk_at dksX8_next_3 5 rfl rfl)
theorem dX8_next_79 : decode cX8_next 79 = .ok (.aload_n 0, 1) := dk_42 (dk_at dksX8_next_3 8 rfl rfl)
theorem dX8_next_80 : decode cX8_next 80 = .ok (.getfield 29, 3) := dk_180 0 29 (dk_at dksX8_next_3 9 rfl rfl)
theorem dX8_next_83 : decode cX8_next 83 = .ok (.aload_n 0, 1) := dk_42 (dk_at dksX8_next_3 12 rfl rfl)
theorem dX8_next_84 : decode cX8_next 84 = .ok (.getfield 15, 3) := dk_180 0 15 (dk_at dksX8_next_3 13 rfl rfl)
theorem dX8_next_87 : decode cX8_next 87 = .ok (.if_icmp .lt 4, 3) := dk_161 0 4 (dk_at dksX8_next_3 16 rfl rfl)
theorem dX8_next_90 : decode cX8_next 90 = .ok (.return_, 1) := dk_177 (dk_at dksX8_next_3 19 rfl rfl)
theorem dX8_next_91 : decode cX8_next 91 = .ok (.aload_n 0, 1) := dk_42 (dk_at dksX8_next_3 20 rfl rfl)
theorem dX8_next_92 : decode cX8_next 92 = .ok (.aload_n 0, 1) := dk_42 (dk_at dksX8_next_3 21 rfl rfl)
theorem dX8_next_93 : decode cX8_next 93 = .ok (.getfield 29, 3) := dk_180 0 29 (dk_at dksX8_next_4 0 rfl rfl)
theorem dX8_next_96 : decode cX8_next 96 = .ok (.invokevirtual 35, 3) := dk_182 0 35 (dk_at dksX8_next_4 3 rfl rfl)
theorem dX8_next_99 : decode cX8_next 99 = .ok (.ifCond .eq 32, 3) := dk_153 0 32 (dk_at dksX8_next_4 6 rfl rfl)
theorem dX8_next_102 : decode cX8_next 102 = .ok (.aload_n 0, 1) := dk_42 (dk_at dksX8_next_4 9 rfl rfl)
theorem dX8_next_103 : decode cX8_next 103 = .ok (.iconst 1, 1) := dk_4 (dk_at dksX8_next_4 10 rfl rfl)
theorem dX8_next_104 : decode cX8_next 104 = .ok (.putfield 32, 3) := dk_181 0 32 (dk_at dksX8_next_4 11 rfl rfl)
theorem dX8_next_107 : decode cX8_next 107 = .ok (.aload_n 0, 1) := dk_42 (dk_at dksX8_next_4 14 rfl rfl)
theorem dX8_next_108 : decode cX8_next 108 = .ok (.aload_n 0, 1) := dk_42 (dk_at dksX8_next_4 15 rfl rfl)
theorem dX8_next_109 : decode cX8_next 109 = .ok (.getfield 26, 3) := dk_180 0 26 (dk_at dksX8_next_4 16 rfl rfl)
theorem dX8_next_112 : decode cX8_next 112 = .ok (.invokevirtual 35, 3) := dk_182 0 35 (dk_at dksX8_next_4 19 rfl rfl)
theorem dX8_next_115 : decode cX8_next 115 = .ok (.ifCond .eq 208, 3) := dk_153 0 208 (dk_at dksX8_next_5 0 rfl rfl)
theorem dX8_next_118 : decode cX8_next 118 = .ok (.aload_n 0, 1) := dk_42 (dk_at dksX8_next_5 3 rfl rfl)
theorem dX8_next_119 : decode cX8_next 119 = .ok (.dup, 1) := dk_89 (dk_at dksX8_next_5 4 rfl rfl)
theorem dX8_next_120 : decode cX8_next 120 = .ok (.getfield 26, 3) := dk_180 0 26 (dk_at dksX8_next_5 5 rfl rfl)
theorem dX8_next_123 : decode cX8_next 123 = .ok (.iconst 1, 1) := dk_4 (dk_at dksX8_next_5 8 rfl rfl)
theorem dX8_next_124 : decode cX8_next 124 = .ok (.iadd, 1) := dk_96 (dk_at dksX8_next_5 9 rfl rfl)
theorem dX8_next_125 : decode cX8_next 125 = .ok (.putfield 26, 3) := dk_181 0 26 (dk_at dksX8_next_5 10 rfl rfl)
theorem dX8_next_128 : decode cX8_next 128 = .ok (.goto (-21), 3) := dk_167 255 235 (dk_at dksX8_next_5 13 rfl rfl)
theorem dX8_next_131 : decode cX8_next 131 = .ok (.aload_n 0, 1) := dk_42 (dk_at dksX8_next_5 16 rfl rfl)
theorem dX8_next_132 : decode cX8_next 132 = .ok (.aload_n 0, 1) := dk_42 (dk_at dksX8_next_5 17 rfl rfl)
theorem dX8_next_133 : decode cX8_next 133 = .ok (.getfield 29, 3) := dk_180 0 29 (dk_at dksX8_next_5 18 rfl rfl)
theorem dX8_next_136 : decode cX8_next 136 = .ok (.invokevirtual 39, 3) := dk_182 0 39 (dk_at dksX8_next_5 21 rfl rfl)
theorem dX8_next_139 : decode cX8_next 139 = .ok (.ifCond .eq 97, 3) := dk_153 0 97 (dk_at dksX8_next_6 0 rfl rfl)
theorem dX8_next_142 : decode cX8_next 142 = .ok (.aload_n 0, 1) := dk_42 (dk_at dksX8_next_6 3 rfl rfl)
theorem dX8_next_143 : decode cX8_next 143 = .ok (.iconst 0, 1) := dk_3 (dk_at dksX8_next_6 4 rfl rfl)
theorem dX8_next_144 : decode cX8_next 144 = .ok (.putfield 42, 3) := dk_181 0 42 (dk_at dksX8_next_6 5 rfl rfl)
theorem dX8_next_147 : decode cX8_next 147 = .ok (.aload_n 0, 1) := dk_42 (dk_at dksX8_next_6 8 rfl rfl)
theorem dX8_next_148 : decode cX8_next 148 = .ok (.aload_n 0, 1) := dk_42 (dk_at dksX8_next_6 9 rfl rfl)
theorem dX8_next_149 : decode cX8_next 149 = .ok (.getfield 26, 3) := dk_180 0 26 (dk_at dksX8_next_6 10 rfl rfl)
theorem dX8_next_152 : decode cX8_next 152 = .ok (.invokevirtual 39, 3) := dk_182 0 39 (dk_at dksX8_next_6 13 rfl rfl)
theorem dX8_next_155 : decode cX8_next 155 = .ok (.ifCond .eq 56, 3) := dk_153 0 56 (dk_at dksX8_next_6 16 rfl rfl)
theorem dX8_next_158 : decode cX8_next 158 = .ok (.aload_n 0, 1) := dk_42 (dk_at dksX8_next_6 19 rfl rfl)
theorem dX8_next_159 : decode cX8_next 159 = .ok (.getfield 26, 3) := dk_180 0 26 (dk_at dksX8_next_6 20 rfl rfl)
theorem dX8_next_162 : decode cX8_next 162 = .ok (.aload_n 0, 1) := dk_42 (dk_at dksX8_next_6 23 rfl rfl)
theorem dX8_next_163 : decode cX8_next 163 = .ok (.getfield 29, 3) := dk_180 0 29 (dk_at dksX8_next_7 0 rfl rfl)
theorem dX8_next_166 : decode cX8_next 166 = .ok (.isub, 1) := dk_100 (dk_at dksX8_next_7 3 rfl rfl)
theorem dX8_next_167 : decode cX8_next 167 = .ok (.iconst 4, 1) := dk_7 (dk_at dksX8_next_7 4 rfl rfl)
theorem dX8_next_168 : decode cX8_next 168 = .ok (.if_icmp .ge 30, 3) := dk_162 0 30 (dk_at dksX8_next_7 5 rfl rfl)
theorem dX8_next_171 : decode cX8_next 171 = .ok (.aload_n 0, 1) := dk_42 (dk_at dksX8_next_7 8 rfl rfl)
theorem dX8_next_172 : decode cX8_next 172 = .ok (.bipush 10, 2) := dk_16 10 (dk_at dksX8_next_7 9 rfl rfl)
theorem dX8_next_174 : decode cX8_next 174 = .ok (.aload_n 0, 1) := dk_42 (dk_at dksX8_next_7 11 rfl rfl)
theorem dX8_next_175 : decode cX8_next 175 = .ok (.getfield 42, 3) := dk_180 0 42 (dk_at dksX8_next_7 12 rfl rfl)
theorem dX8_next_178 : decode cX8_next 178 = .ok (.imul, 1) := dk_104 (dk_at dksX8_next_7 15 rfl rfl)
theorem dX8_next_179 : decode cX8_next 179 = .ok (.aload_n 0, 1) := dk_42 (dk_at dksX8_next_7 16 rfl rfl)
theorem dX8_next_180 : decode cX8_next 180 = .ok (.getfield 3, 3) := dk_180 0 3 (dk_at dksX8_next_7 17 rfl rfl)
theorem dX8_next_183 : decode cX8_next 183 = .ok (.getfield 22, 3) := dk_180 0 22 (dk_at dksX8_next_7 20 rfl rfl)
theorem dX8_next_186 : decode cX8_next 186 = .ok (.aload_n 0, 1) := dk_42 (dk_at dksX8_next_7 23 rfl rfl)
theorem dX8_next_187 : decode cX8_next 187 = .ok (.getfield 26, 3) := dk_180 0 26 (dk_at dksX8_next_8 0 rfl rfl)
theorem dX8_next_190 : decode cX8_next 190 = .ok (.baload, 1) := dk_51 (dk_at dksX8_next_8 3 rfl rfl)
theorem dX8_next_191 : decode cX8_next 191 = .ok (.iadd, 1) := dk_96 (dk_at dksX8_next_8 4 rfl rfl)
theorem dX8_next_192 : decode cX8_next 192 = .ok (.bipush 48, 2) := dk_16 48 (dk_at dksX8_next_8 5 rfl rfl)
theorem dX8_next_194 : decode cX8_next 194 = .ok (.isub, 1) := dk_100 (dk_at dksX8_next_8 7 rfl rfl)
theorem dX8_next_195 : decode cX8_next 195 = .ok (.putfield 42, 3) := dk_181 0 42 (dk_at dksX8_next_8 8 rfl rfl)
theorem dX8_next_198 : decode cX8_next 198 = .ok (.aload_n 0, 1) := dk_42 (dk_at dksX8_next_8 11 rfl rfl)
theorem dX8_next_199 : decode cX8_next 199 = .ok (.dup, 1) := dk_89 (dk_at dksX8_next_8 12 rfl rfl)
theorem dX8_next_200 : decode cX8_next 200 = .ok (.getfield 26, 3) := dk_180 0 26 (dk_at dksX8_next_8 13 rfl rfl)
theorem dX8_next_203 : decode cX8_next 203 = .ok (.iconst 1, 1) := dk_4 (dk_at dksX8_next_8 16 rfl rfl)
theorem dX8_next_204 : decode cX8_next 204 = .ok (.iadd, 1) := dk_96 (dk_at dksX8_next_8 17 rfl rfl)
theorem dX8_next_205 : decode cX8_next 205 = .ok (.putfield 26, 3) := dk_181 0 26 (dk_at dksX8_next_8 18 rfl rfl)
theorem dX8_next_208 : decode cX8_next 208 = .ok (.goto (-61), 3) := dk_167 255 195 (dk_at dksX8_next_8 21 rfl rfl)
theorem dX8_next_211 : decode cX8_next 211 = .ok (.aload_n 0, 1) := dk_42 (dk_at dksX8_next_9 0 rfl rfl)
theorem dX8_next_212 : decode cX8_next 212 = .ok (.aload_n 0, 1) := dk_42 (dk_at dksX8_next_9 1 rfl rfl)
theorem dX8_next_213 : decode cX8_next 213 = .ok (.getfield 26, 3) := dk_180 0 26 (dk_at dksX8_next_9 2 rfl rfl)
theorem dX8_next_216 : decode cX8_next 216 = .ok (.aload_n 0, 1) := dk_42 (dk_at dksX8_next_9 5 rfl rfl)
theorem dX8_next_217 : decode cX8_next 217 = .ok (.getfield 29, 3) := dk_180 0 29 (dk_at dksX8_next_9 6 rfl rfl)
theorem dX8_next_220 : decode cX8_next 220 = .ok (.isub, 1) := dk_100 (dk_at dksX8_next_9 9 rfl rfl)
theorem dX8_next_221 : decode cX8_next 221 = .ok (.iconst 4, 1) := dk_7 (dk_at dksX8_next_9 10 rfl rfl)
theorem dX8_next_222 : decode cX8_next 222 = .ok (.if_icmp .le 7, 3) := dk_164 0 7 (dk_at dksX8_next_9 11 rfl rfl)
theorem dX8_next_225 : decode cX8_next 225 = .ok (.iconst 4, 1) := dk_7 (dk_at dksX8_next_9 14 rfl rfl)
theorem dX8_next_226 : decode cX8_next 226 = .ok (.goto 4, 3) := dk_167 0 4 (dk_at dksX8_next_9 15 rfl rfl)
theorem dX8_next_229 : decode cX8_next 229 = .ok (.iconst 2, 1) := dk_5 (dk_at dksX8_next_9 18 rfl rfl)
theorem dX8_next_230 : decode cX8_next 230 = .ok (.putfield 32, 3) := dk_181 0 32 (dk_at dksX8_next_9 19 rfl rfl)
theorem dX8_next_233 : decode cX8_next 233 = .ok (.goto 90, 3) := dk_167 0 90 (dk_at dksX8_next_10 0 rfl rfl)
theorem dX8_next_236 : decode cX8_next 236 = .ok (.aload_n 0, 1) := dk_42 (dk_at dksX8_next_10 3 rfl rfl)
theorem dX8_next_237 : decode cX8_next 237 = .ok (.aload_n 0, 1) := dk_42 (dk_at dksX8_next_10 4 rfl rfl)
theorem dX8_next_238 : decode cX8_next 238 = .ok (.getfield 29, 3) := dk_180 0 29 (dk_at dksX8_next_10 5 rfl rfl)
theorem dX8_next_241 : decode cX8_next 241 = .ok (.iconst 1, 1) := dk_4 (dk_at dksX8_next_10 8 rfl rfl)
theorem dX8_next_242 : decode cX8_next 242 = .ok (.iadd, 1) := dk_96 (dk_at dksX8_next_10 9 rfl rfl)
theorem dX8_next_243 : decode cX8_next 243 = .ok (.putfield 26, 3) := dk_181 0 26 (dk_at dksX8_next_10 10 rfl rfl)
theorem dX8_next_246 : decode cX8_next 246 = .ok (.aload_n 0, 1) := dk_42 (dk_at dksX8_next_10 13 rfl rfl)
theorem dX8_next_247 : decode cX8_next 247 = .ok (.aload_n 0, 1) := dk_42 (dk_at dksX8_next_10 14 rfl rfl)
theorem dX8_next_248 : decode cX8_next 248 = .ok (.getfield 3, 3) := dk_180 0 3 (dk_at dksX8_next_10 15 rfl rfl)
theorem dX8_next_251 : decode cX8_next 251 = .ok (.getfield 22, 3) := dk_180 0 22 (dk_at dksX8_next_10 18 rfl rfl)
theorem dX8_next_254 : decode cX8_next 254 = .ok (.aload_n 0, 1) := dk_42 (dk_at dksX8_next_10 21 rfl rfl)
theorem dX8_next_255 : decode cX8_next 255 = .ok (.getfield 29, 3) := dk_180 0 29 (dk_at dksX8_next_11 0 rfl rfl)
theorem dX8_next_258 : decode cX8_next 258 = .ok (.baload, 1) := dk_51 (dk_at dksX8_next_11 3 rfl rfl)
theorem dX8_next_259 : decode cX8_next 259 = .ok (.bipush 59, 2) := dk_16 59 (dk_at dksX8_next_11 4 rfl rfl)
theorem dX8_next_261 : decode cX8_next 261 = .ok (.if_icmp .eq 54, 3) := dk_159 0 54 (dk_at dksX8_next_11 6 rfl rfl)
theorem dX8_next_264 : decode cX8_next 264 = .ok (.aload_n 0, 1) := dk_42 (dk_at dksX8_next_11 9 rfl rfl)
theorem dX8_next_265 : decode cX8_next 265 = .ok (.getfield 3, 3) := dk_180 0 3 (dk_at dksX8_next_11 10 rfl rfl)
theorem dX8_next_268 : decode cX8_next 268 = .ok (.getfield 22, 3) := dk_180 0 22 (dk_at dksX8_next_11 13 rfl rfl)
theorem dX8_next_271 : decode cX8_next 271 = .ok (.aload_n 0, 1) := dk_42 (dk_at dksX8_next_11 16 rfl rfl)
theorem dX8_next_272 : decode cX8_next 272 = .ok (.getfield 29, 3) := dk_180 0 29 (dk_at dksX8_next_11 17 rfl rfl)
theorem dX8_next_275 : decode cX8_next 275 = .ok (.baload, 1) := dk_51 (dk_at dksX8_next_11 20 rfl rfl)
theorem dX8_next_276 : decode cX8_next 276 = .ok (.bipush 60, 2) := dk_16 60 (dk_at dksX8_next_11 21 rfl rfl)
theorem dX8_next_278 : decode cX8_next 278 = .ok (.if_icmp .eq 37, 3) := dk_159 0 37 (dk_at dksX8_next_12 0 rfl rfl)
theorem dX8_next_281 : decode cX8_next 281 = .ok (.aload_n 0, 1) := dk_42 (dk_at dksX8_next_12 3 rfl rfl)
theorem dX8_next_282 : decode cX8_next 282 = .ok (.getfield 3, 3) := dk_180 0 3 (dk_at dksX8_next_12 4 rfl rfl)
theorem dX8_next_285 : decode cX8_next 285 = .ok (.getfield 22, 3) := dk_180 0 22 (dk_at dksX8_next_12 7 rfl rfl)
theorem dX8_next_288 : decode cX8_next 288 = .ok (.aload_n 0, 1) := dk_42 (dk_at dksX8_next_12 10 rfl rfl)
theorem dX8_next_289 : decode cX8_next 289 = .ok (.getfield 29, 3) := dk_180 0 29 (dk_at dksX8_next_12 11 rfl rfl)
theorem dX8_next_292 : decode cX8_next 292 = .ok (.baload, 1) := dk_51 (dk_at dksX8_next_12 14 rfl rfl)
theorem dX8_next_293 : decode cX8_next 293 = .ok (.bipush 62, 2) := dk_16 62 (dk_at dksX8_next_12 15 rfl rfl)
theorem dX8_next_295 : decode cX8_next 295 = .ok (.if_icmp .eq 20, 3) := dk_159 0 20 (dk_at dksX8_next_12 17 rfl rfl)
theorem dX8_next_298 : decode cX8_next 298 = .ok (.aload_n 0, 1) := dk_42 (dk_at dksX8_next_12 20 rfl rfl)
theorem dX8_next_299 : decode cX8_next 299 = .ok (.getfield 3, 3) := dk_180 0 3 (dk_at dksX8_next_12 21 rfl rfl)
theorem dX8_next_302 : decode cX8_next 302 = .ok (.getfield 22, 3) := dk_180 0 22 (dk_at dksX8_next_13 0 rfl rfl)
theorem dX8_next_305 : decode cX8_next 305 = .ok (.aload_n 0, 1) := dk_42 (dk_at dksX8_next_13 3 rfl rfl)
theorem dX8_next_306 : decode cX8_next 306 = .ok (.getfield 29, 3) := dk_180 0 29 (dk_at dksX8_next_13 4 rfl rfl)
theorem dX8_next_309 : decode cX8_next 309 = .ok (.baload, 1) := dk_51 (dk_at dksX8_next_13 7 rfl rfl)
theorem dX8_next_310 : decode cX8_next 310 = .ok (.bipush 61, 2) := dk_16 61 (dk_at dksX8_next_13 8 rfl rfl)
theorem dX8_next_312 : decode cX8_next 312 = .ok (.if_icmp .ne 7, 3) := dk_160 0 7 (dk_at dksX8_next_13 10 rfl rfl)
theorem dX8_next_315 : decode cX8_next 315 = .ok (.iconst 3, 1) := dk_6 (dk_at dksX8_next_13 13 rfl rfl)
theorem dX8_next_316 : decode cX8_next 316 = .ok (.goto 4, 3) := dk_167 0 4 (dk_at dksX8_next_13 14 rfl rfl)
theorem dX8_next_319 : decode cX8_next 319 = .ok (.iconst 4, 1) := dk_7 (dk_at dksX8_next_13 17 rfl rfl)
theorem dX8_next_320 : decode cX8_next 320 = .ok (.putfield 32, 3) := dk_181 0 32 (dk_at dksX8_next_13 18 rfl rfl)
theorem dX8_next_323 : decode cX8_next 323 = .ok (.return_, 1) := dk_177 (dk_at dksX8_next_13 21 rfl rfl)
abbrev cX8_isLetter : ByteArray := prog_9_method_2_code
def yX8_isLetter : MethodName := ⟨RX8, "isLetter", "(I)Z"⟩
def dkwX8_isLetter_1 : List UInt8 := [180, 0, 3, 180, 0, 22, 27, 51, 16, 122, 163, 0, 7, 4, 167, 0, 4, 3, 172]
abbrev dktX8_isLetter_1 : List UInt8 := dkwX8_isLetter_1 ++ []
def dkwX8_isLetter_0 : List UInt8 := [27, 42, 180, 0, 15, 162, 0, 35, 42, 180, 0, 3, 180, 0, 22, 27, 51, 16, 97, 161, 0, 21, 42]
abbrev dktX8_isLetter_0 : List UInt8 := dkwX8_isLetter_0 ++ dktX8_isLetter_1
theorem dksX8_isLetter_0 : cX8_isLetter.data.toList.drop 0 = dktX8_isLetter_0 := by decide +kernel
theorem dksX8_isLetter_1 : cX8_isLetter.data.toList.drop 23 = dktX8_isLetter_1 := dk_seg dksX8_isLetter_0 23 rfl rfl
theorem dX8_isLetter_0 : decode cX8_isLetter 0 = .ok (.iload_n 1, 1) := dk_27 (dk_at dksX8_isLetter_0 0 rfl rfl)
theorem dX8_isLetter_1 : decode cX8_isLetter 1 = .ok (.aload_n 0, 1) := dk_42 (dk_at dksX8_isLetter_0 1 rfl rfl)
theorem dX8_isLetter_2 : decode cX8_isLetter 2 = .ok (.getfield 15, 3) := dk_180 0 15 (dk_at dksX8_isLetter_0 2 rfl rfl)
theorem dX8_isLetter_5 : decode cX8_isLetter 5 = .ok (.if_icmp .ge 35, 3) := dk_162 0 35 (dk_at dksX8_isLetter_0 5 rfl rfl)
theorem dX8_isLetter_8 : decode cX8_isLetter 8 = .ok (.aload_n 0, 1) := dk_42 (dk_at dksX8_isLetter_0 8 rfl rfl)
theorem dX8_isLetter_9 : decode cX8_isLetter 9 = .ok (.getfield 3, 3) := dk_180 0 3 (dk_at dksX8_isLetter_0 9 rfl rfl)
theorem dX8_isLetter_12 : decode cX8_isLetter 12 = .ok (.getfield 22, 3) := dk_180 0 22 (dk_at dksX8_isLetter_0 12 rfl rfl)
theorem dX8_isLetter_15 : decode cX8_isLetter 15 = .ok (.iload_n 1, 1) := dk_27 (dk_at dksX8_isLetter_0 15 rfl rfl)
theorem dX8_isLetter_16 : decode cX8_isLetter 16 = .ok (.baload, 1) := dk_51 (dk_at dksX8_isLetter_0 16 rfl rfl)
theorem dX8_isLetter_17 : decode cX8_isLetter 17 = .ok (.bipush 97, 2) := dk_16 97 (dk_at dksX8_isLetter_0 17 rfl rfl)
theorem dX8_isLetter_19 : decode cX8_isLetter 19 = .ok (.if_icmp .lt 21, 3) := dk_161 0 21 (dk_at dksX8_isLetter_0 19 rfl rfl)
theorem dX8_isLetter_22 : decode cX8_isLetter 22 = .ok (.aload_n 0, 1) := dk_42 (dk_at dksX8_isLetter_0 22 rfl rfl)
theorem dX8_isLetter_23 : decode cX8_isLetter 23 = .ok (.getfield 3, 3) := dk_180 0 3 (dk_at dksX8_isLetter_1 0 rfl rfl)
theorem dX8_isLetter_26 : decode cX8_isLetter 26 = .ok (.getfield 22, 3) := dk_180 0 22 (dk_at dksX8_isLetter_1 3 rfl rfl)
theorem dX8_isLetter_29 : decode cX8_isLetter 29 = .ok (.iload_n 1, 1) := dk_27 (dk_at dksX8_isLetter_1 6 rfl rfl)
theorem dX8_isLetter_30 : decode cX8_isLetter 30 = .ok (.baload, 1) := dk_51 (dk_at dksX8_isLetter_1 7 rfl rfl)
theorem dX8_isLetter_31 : decode cX8_isLetter 31 = .ok (.bipush 122, 2) := dk_16 122 (dk_at dksX8_isLetter_1 8 rfl rfl)
theorem dX8_isLetter_33 : decode cX8_isLetter 33 = .ok (.if_icmp .gt 7, 3) := dk_163 0 7 (dk_at dksX8_isLetter_1 10 rfl rfl)
theorem dX8_isLetter_36 : decode cX8_isLetter 36 = .ok (.iconst 1, 1) := dk_4 (dk_at dksX8_isLetter_1 13 rfl rfl)
theorem dX8_isLetter_37 : decode cX8_isLetter 37 = .ok (.goto 4, 3) := dk_167 0 4 (dk_at dksX8_isLetter_1 14 rfl rfl)
theorem dX8_isLetter_40 : decode cX8_isLetter 40 = .ok (.iconst 0, 1) := dk_3 (dk_at dksX8_isLetter_1 17 rfl rfl)
theorem dX8_isLetter_41 : decode cX8_isLetter 41 = .ok (.ireturn, 1) := dk_172 (dk_at dksX8_isLetter_1 18 rfl rfl)
abbrev cX8_isDigit : ByteArray := prog_9_method_3_code
def yX8_isDigit : MethodName := ⟨RX8, "isDigit", "(I)Z"⟩
def dkwX8_isDigit_1 : List UInt8 := [180, 0, 3, 180, 0, 22, 27, 51, 16, 57, 163, 0, 7, 4, 167, 0, 4, 3, 172]
abbrev dktX8_isDigit_1 : List UInt8 := dkwX8_isDigit_1 ++ []
def dkwX8_isDigit_0 : List UInt8 := [27, 42, 180, 0, 15, 162, 0, 35, 42, 180, 0, 3, 180, 0, 22, 27, 51, 16, 48, 161, 0, 21, 42]
abbrev dktX8_isDigit_0 : List UInt8 := dkwX8_isDigit_0 ++ dktX8_isDigit_1
theorem dksX8_isDigit_0 : cX8_isDigit.data.toList.drop 0 = dktX8_isDigit_0 := by decide +kernel
theorem dksX8_isDigit_1 : cX8_isDigit.data.toList.drop 23 = dktX8_isDigit_1 := dk_seg dksX8_isDigit_0 23 rfl rfl
theorem dX8_isDigit_0 : decode cX8_isDigit 0 = .ok (.iload_n 1, 1) := dk_27 (dk_at dksX8_isDigit_0 0 rfl rfl)
theorem dX8_isDigit_1 : decode cX8_isDigit 1 = .ok (.aload_n 0, 1) := dk_42 (dk_at dksX8_isDigit_0 1 rfl rfl)
theorem dX8_isDigit_2 : decode cX8_isDigit 2 = .ok (.getfield 15, 3) := dk_180 0 15 (dk_at dksX8_isDigit_0 2 rfl rfl)
theorem dX8_isDigit_5 : decode cX8_isDigit 5 = .ok (.if_icmp .ge 35, 3) := dk_162 0 35 (dk_at dksX8_isDigit_0 5 rfl rfl)
theorem dX8_isDigit_8 : decode cX8_isDigit 8 = .ok (.aload_n 0, 1) := dk_42 (dk_at dksX8_isDigit_0 8 rfl rfl)
theorem dX8_isDigit_9 : decode cX8_isDigit 9 = .ok (.getfield 3, 3) := dk_180 0 3 (dk_at dksX8_isDigit_0 9 rfl rfl)
theorem dX8_isDigit_12 : decode cX8_isDigit 12 = .ok (.getfield 22, 3) := dk_180 0 22 (dk_at dksX8_isDigit_0 12 rfl rfl)
theorem dX8_isDigit_15 : decode cX8_isDigit 15 = .ok (.iload_n 1, 1) := dk_27 (dk_at dksX8_isDigit_0 15 rfl rfl)
theorem dX8_isDigit_16 : decode cX8_isDigit 16 = .ok (.baload, 1) := dk_51 (dk_at dksX8_isDigit_0 16 rfl rfl)
theorem dX8_isDigit_17 : decode cX8_isDigit 17 = .ok (.bipush 48, 2) := dk_16 48 (dk_at dksX8_isDigit_0 17 rfl rfl)
theorem dX8_isDigit_19 : decode cX8_isDigit 19 = .ok (.if_icmp .lt 21, 3) := dk_161 0 21 (dk_at dksX8_isDigit_0 19 rfl rfl)
theorem dX8_isDigit_22 : decode cX8_isDigit 22 = .ok (.aload_n 0, 1) := dk_42 (dk_at dksX8_isDigit_0 22 rfl rfl)
theorem dX8_isDigit_23 : decode cX8_isDigit 23 = .ok (.getfield 3, 3) := dk_180 0 3 (dk_at dksX8_isDigit_1 0 rfl rfl)
theorem dX8_isDigit_26 : decode cX8_isDigit 26 = .ok (.getfield 22, 3) := dk_180 0 22 (dk_at dksX8_isDigit_1 3 rfl rfl)
theorem dX8_isDigit_29 : decode cX8_isDigit 29 = .ok (.iload_n 1, 1) := dk_27 (dk_at dksX8_isDigit_1 6 rfl rfl)
theorem dX8_isDigit_30 : decode cX8_isDigit 30 = .ok (.baload, 1) := dk_51 (dk_at dksX8_isDigit_1 7 rfl rfl)
theorem dX8_isDigit_31 : decode cX8_isDigit 31 = .ok (.bipush 57, 2) := dk_16 57 (dk_at dksX8_isDigit_1 8 rfl rfl)
theorem dX8_isDigit_33 : decode cX8_isDigit 33 = .ok (.if_icmp .gt 7, 3) := dk_163 0 7 (dk_at dksX8_isDigit_1 10 rfl rfl)
theorem dX8_isDigit_36 : decode cX8_isDigit 36 = .ok (.iconst 1, 1) := dk_4 (dk_at dksX8_isDigit_1 13 rfl rfl)
theorem dX8_isDigit_37 : decode cX8_isDigit 37 = .ok (.goto 4, 3) := dk_167 0 4 (dk_at dksX8_isDigit_1 14 rfl rfl)
theorem dX8_isDigit_40 : decode cX8_isDigit 40 = .ok (.iconst 0, 1) := dk_3 (dk_at dksX8_isDigit_1 17 rfl rfl)
theorem dX8_isDigit_41 : decode cX8_isDigit 41 = .ok (.ireturn, 1) := dk_172 (dk_at dksX8_isDigit_1 18 rfl rfl)
abbrev cX8_town : ByteArray := prog_9_method_16_code
def yX8_town : MethodName := ⟨RX8, "town", "(LWindowHill$Town;)V"⟩
def dkwX8_town_5 : List UInt8 := [182, 0, 170, 167, 0, 8, 42, 182, 0, 68, 191, 42, 182, 0, 156, 167, 255, 206, 43, 182, 0, 172, 177]
abbrev dktX8_town_5 : List UInt8 := dkwX8_town_5 ++ []
def dkwX8_town_4 : List UInt8 := [153, 0, 11, 42, 43, 182, 0, 168, 167, 0, 25, 42, 18, 108, 182, 0, 72, 153, 0, 11, 42, 43]
abbrev dktX8_town_4 : List UInt8 := dkwX8_town_4 ++ dktX8_town_5
def dkwX8_town_3 : List UInt8 := [180, 0, 159, 154, 0, 8, 42, 182, 0, 68, 191, 42, 180, 0, 32, 153, 0, 49, 42, 18, 102, 182, 0, 72]
abbrev dktX8_town_3 : List UInt8 := dkwX8_town_3 ++ dktX8_town_4
def dkwX8_town_2 : List UInt8 := [3, 181, 0, 162, 42, 18, 100, 182, 0, 72, 153, 0, 11, 42, 43, 182, 0, 165, 167, 255, 242, 43]
abbrev dktX8_town_2 : List UInt8 := dkwX8_town_2 ++ dktX8_town_3
def dkwX8_town_1 : List UInt8 := [181, 0, 153, 43, 180, 0, 153, 153, 0, 7, 42, 182, 0, 19, 42, 182, 0, 156, 43, 3, 181, 0, 159, 43]
abbrev dktX8_town_1 : List UInt8 := dkwX8_town_1 ++ dktX8_town_2
def dkwX8_town_0 : List UInt8 := [42, 18, 96, 182, 0, 144, 43, 42, 4, 8, 182, 0, 148, 181, 0, 151, 43, 42, 18, 98, 182, 0, 72]
abbrev dktX8_town_0 : List UInt8 := dkwX8_town_0 ++ dktX8_town_1
theorem dksX8_town_0 : cX8_town.data.toList.drop 0 = dktX8_town_0 := by decide +kernel
theorem dksX8_town_1 : cX8_town.data.toList.drop 23 = dktX8_town_1 := dk_seg dksX8_town_0 23 rfl rfl
theorem dksX8_town_2 : cX8_town.data.toList.drop 47 = dktX8_town_2 := dk_seg dksX8_town_1 24 rfl rfl
theorem dksX8_town_3 : cX8_town.data.toList.drop 69 = dktX8_town_3 := dk_seg dksX8_town_2 22 rfl rfl
theorem dksX8_town_4 : cX8_town.data.toList.drop 93 = dktX8_town_4 := dk_seg dksX8_town_3 24 rfl rfl
theorem dksX8_town_5 : cX8_town.data.toList.drop 115 = dktX8_town_5 := dk_seg dksX8_town_4 22 rfl rfl
theorem dX8_town_0 : decode cX8_town 0 = .ok (.aload_n 0, 1) := dk_42 (dk_at dksX8_town_0 0 rfl rfl)
theorem dX8_town_1 : decode cX8_town 1 = .ok (.ldc 96, 2) := dk_18 96 (dk_at dksX8_town_0 1 rfl rfl)
theorem dX8_town_3 : decode cX8_town 3 = .ok (.invokevirtual 144, 3) := dk_182 0 144 (dk_at dksX8_town_0 3 rfl rfl)
theorem dX8_town_6 : decode cX8_town 6 = .ok (.aload_n 1, 1) := dk_43 (dk_at dksX8_town_0 6 rfl rfl)
theorem dX8_town_7 : decode cX8_town 7 = .ok (.aload_n 0, 1) := dk_42 (dk_at dksX8_town_0 7 rfl rfl)
theorem dX8_town_8 : decode cX8_town 8 = .ok (.iconst 1, 1) := dk_4 (dk_at dksX8_town_0 8 rfl rfl)
theorem dX8_town_9 : decode cX8_town 9 = .ok (.iconst 5, 1) := dk_8 (dk_at dksX8_town_0 9 rfl rfl)
theorem dX8_town_10 : decode cX8_town 10 = .ok (.invokevirtual 148, 3) := dk_182 0 148 (dk_at dksX8_town_0 10 rfl rfl)
theorem dX8_town_13 : decode cX8_town 13 = .ok (.putfield 151, 3) := dk_181 0 151 (dk_at dksX8_town_0 13 rfl rfl)
theorem dX8_town_16 : decode cX8_town 16 = .ok (.aload_n 1, 1) := dk_43 (dk_at dksX8_town_0 16 rfl rfl)
theorem dX8_town_17 : decode cX8_town 17 = .ok (.aload_n 0, 1) := dk_42 (dk_at dksX8_town_0 17 rfl rfl)
theorem dX8_town_18 : decode cX8_town 18 = .ok (.ldc 98, 2) := dk_18 98 (dk_at dksX8_town_0 18 rfl rfl)
theorem dX8_town_20 : decode cX8_town 20 = .ok (.invokevirtual 72, 3) := dk_182 0 72 (dk_at dksX8_town_0 20 rfl rfl)
theorem dX8_town_23 : decode cX8_town 23 = .ok (.putfield 153, 3) := dk_181 0 153 (dk_at dksX8_town_1 0 rfl rfl)
theorem dX8_town_26 : decode cX8_town 26 = .ok (.aload_n 1, 1) := dk_43 (dk_at dksX8_town_1 3 rfl rfl)
theorem dX8_town_27 : decode cX8_town 27 = .ok (.getfield 153, 3) := dk_180 0 153 (dk_at dksX8_town_1 4 rfl rfl)
theorem dX8_town_30 : decode cX8_town 30 = .ok (.ifCond .eq 7, 3) := dk_153 0 7 (dk_at dksX8_town_1 7 rfl rfl)
theorem dX8_town_33 : decode cX8_town 33 = .ok (.aload_n 0, 1) := dk_42 (dk_at dksX8_town_1 10 rfl rfl)
theorem dX8_town_34 : decode cX8_town 34 = .ok (.invokevirtual 19, 3) := dk_182 0 19 (dk_at dksX8_town_1 11 rfl rfl)
theorem dX8_town_37 : decode cX8_town 37 = .ok (.aload_n 0, 1) := dk_42 (dk_at dksX8_town_1 14 rfl rfl)
theorem dX8_town_38 : decode cX8_town 38 = .ok (.invokevirtual 156, 3) := dk_182 0 156 (dk_at dksX8_town_1 15 rfl rfl)
theorem dX8_town_41 : decode cX8_town 41 = .ok (.aload_n 1, 1) := dk_43 (dk_at dksX8_town_1 18 rfl rfl)
theorem dX8_town_42 : decode cX8_town 42 = .ok (.iconst 0, 1) := dk_3 (dk_at dksX8_town_1 19 rfl rfl)
theorem dX8_town_43 : decode cX8_town 43 = .ok (.putfield 159, 3) := dk_181 0 159 (dk_at dksX8_town_1 20 rfl rfl)
theorem dX8_town_46 : decode cX8_town 46 = .ok (.aload_n 1, 1) := dk_43 (dk_at dksX8_town_1 23 rfl rfl)
theorem dX8_town_47 : decode cX8_town 47 = .ok (.iconst 0, 1) := dk_3 (dk_at dksX8_town_2 0 rfl rfl)
theorem dX8_town_48 : decode cX8_town 48 = .ok (.putfield 162, 3) := dk_181 0 162 (dk_at dksX8_town_2 1 rfl rfl)
theorem dX8_town_51 : decode cX8_town 51 = .ok (.aload_n 0, 1) := dk_42 (dk_at dksX8_town_2 4 rfl rfl)
theorem dX8_town_52 : decode cX8_town 52 = .ok (.ldc 100, 2) := dk_18 100 (dk_at dksX8_town_2 5 rfl rfl)
theorem dX8_town_54 : decode cX8_town 54 = .ok (.invokevirtual 72, 3) := dk_182 0 72 (dk_at dksX8_town_2 7 rfl rfl)
theorem dX8_town_57 : decode cX8_town 57 = .ok (.ifCond .eq 11, 3) := dk_153 0 11 (dk_at dksX8_town_2 10 rfl rfl)
theorem dX8_town_60 : decode cX8_town 60 = .ok (.aload_n 0, 1) := dk_42 (dk_at dksX8_town_2 13 rfl rfl)
theorem dX8_town_61 : decode cX8_town 61 = .ok (.aload_n 1, 1) := dk_43 (dk_at dksX8_town_2 14 rfl rfl)
theorem dX8_town_62 : decode cX8_town 62 = .ok (.invokevirtual 165, 3) := dk_182 0 165 (dk_at dksX8_town_2 15 rfl rfl)
theorem dX8_town_65 : decode cX8_town 65 = .ok (.goto (-14), 3) := dk_167 255 242 (dk_at dksX8_town_2 18 rfl rfl)
theorem dX8_town_68 : decode cX8_town 68 = .ok (.aload_n 1, 1) := dk_43 (dk_at dksX8_town_2 21 rfl rfl)
theorem dX8_town_69 : decode cX8_town 69 = .ok (.getfield 159, 3) := dk_180 0 159 (dk_at dksX8_town_3 0 rfl rfl)
theorem dX8_town_72 : decode cX8_town 72 = .ok (.ifCond .ne 8, 3) := dk_154 0 8 (dk_at dksX8_town_3 3 rfl rfl)
theorem dX8_town_75 : decode cX8_town 75 = .ok (.aload_n 0, 1) := dk_42 (dk_at dksX8_town_3 6 rfl rfl)
theorem dX8_town_76 : decode cX8_town 76 = .ok (.invokevirtual 68, 3) := dk_182 0 68 (dk_at dksX8_town_3 7 rfl rfl)
theorem dX8_town_79 : decode cX8_town 79 = .ok (.athrow, 1) := dk_191 (dk_at dksX8_town_3 10 rfl rfl)
theorem dX8_town_80 : decode cX8_town 80 = .ok (.aload_n 0, 1) := dk_42 (dk_at dksX8_town_3 11 rfl rfl)
theorem dX8_town_81 : decode cX8_town 81 = .ok (.getfield 32, 3) := dk_180 0 32 (dk_at dksX8_town_3 12 rfl rfl)
theorem dX8_town_84 : decode cX8_town 84 = .ok (.ifCond .eq 49, 3) := dk_153 0 49 (dk_at dksX8_town_3 15 rfl rfl)
theorem dX8_town_87 : decode cX8_town 87 = .ok (.aload_n 0, 1) := dk_42 (dk_at dksX8_town_3 18 rfl rfl)
theorem dX8_town_88 : decode cX8_town 88 = .ok (.ldc 102, 2) := dk_18 102 (dk_at dksX8_town_3 19 rfl rfl)
theorem dX8_town_90 : decode cX8_town 90 = .ok (.invokevirtual 72, 3) := dk_182 0 72 (dk_at dksX8_town_3 21 rfl rfl)
theorem dX8_town_93 : decode cX8_town 93 = .ok (.ifCond .eq 11, 3) := dk_153 0 11 (dk_at dksX8_town_4 0 rfl rfl)
theorem dX8_town_96 : decode cX8_town 96 = .ok (.aload_n 0, 1) := dk_42 (dk_at dksX8_town_4 3 rfl rfl)
theorem dX8_town_97 : decode cX8_town 97 = .ok (.aload_n 1, 1) := dk_43 (dk_at dksX8_town_4 4 rfl rfl)
theorem dX8_town_98 : decode cX8_town 98 = .ok (.invokevirtual 168, 3) := dk_182 0 168 (dk_at dksX8_town_4 5 rfl rfl)
theorem dX8_town_101 : decode cX8_town 101 = .ok (.goto 25, 3) := dk_167 0 25 (dk_at dksX8_town_4 8 rfl rfl)
theorem dX8_town_104 : decode cX8_town 104 = .ok (.aload_n 0, 1) := dk_42 (dk_at dksX8_town_4 11 rfl rfl)
theorem dX8_town_105 : decode cX8_town 105 = .ok (.ldc 108, 2) := dk_18 108 (dk_at dksX8_town_4 12 rfl rfl)
theorem dX8_town_107 : decode cX8_town 107 = .ok (.invokevirtual 72, 3) := dk_182 0 72 (dk_at dksX8_town_4 14 rfl rfl)
theorem dX8_town_110 : decode cX8_town 110 = .ok (.ifCond .eq 11, 3) := dk_153 0 11 (dk_at dksX8_town_4 17 rfl rfl)
theorem dX8_town_113 : decode cX8_town 113 = .ok (.aload_n 0, 1) := dk_42 (dk_at dksX8_town_4 20 rfl rfl)
theorem dX8_town_114 : decode cX8_town 114 = .ok (.aload_n 1, 1) := dk_43 (dk_at dksX8_town_4 21 rfl rfl)
theorem dX8_town_115 : decode cX8_town 115 = .ok (.invokevirtual 170, 3) := dk_182 0 170 (dk_at dksX8_town_5 0 rfl rfl)
theorem dX8_town_118 : decode cX8_town 118 = .ok (.goto 8, 3) := dk_167 0 8 (dk_at dksX8_town_5 3 rfl rfl)
theorem dX8_town_121 : decode cX8_town 121 = .ok (.aload_n 0, 1) := dk_42 (dk_at dksX8_town_5 6 rfl rfl)
theorem dX8_town_122 : decode cX8_town 122 = .ok (.invokevirtual 68, 3) := dk_182 0 68 (dk_at dksX8_town_5 7 rfl rfl)
theorem dX8_town_125 : decode cX8_town 125 = .ok (.athrow, 1) := dk_191 (dk_at dksX8_town_5 10 rfl rfl)
theorem dX8_town_126 : decode cX8_town 126 = .ok (.aload_n 0, 1) := dk_42 (dk_at dksX8_town_5 11 rfl rfl)
theorem dX8_town_127 : decode cX8_town 127 = .ok (.invokevirtual 156, 3) := dk_182 0 156 (dk_at dksX8_town_5 12 rfl rfl)
theorem dX8_town_130 : decode cX8_town 130 = .ok (.goto (-50), 3) := dk_167 255 206 (dk_at dksX8_town_5 15 rfl rfl)
theorem dX8_town_133 : decode cX8_town 133 = .ok (.aload_n 1, 1) := dk_43 (dk_at dksX8_town_5 18 rfl rfl)
theorem dX8_town_134 : decode cX8_town 134 = .ok (.invokevirtual 172, 3) := dk_182 0 172 (dk_at dksX8_town_5 19 rfl rfl)
theorem dX8_town_137 : decode cX8_town 137 = .ok (.return_, 1) := dk_177 (dk_at dksX8_town_5 22 rfl rfl)
abbrev cX8_word : ByteArray := prog_9_method_9_code
def yX8_word : MethodName := ⟨RX8, "word", "(Ljava/lang/String;)V"⟩
def dkwX8_word_0 : List UInt8 := [42, 43, 182, 0, 72, 154, 0, 8, 42, 182, 0, 68, 191, 42, 182, 0, 19, 177]
abbrev dktX8_word_0 : List UInt8 := dkwX8_word_0 ++ []
theorem dksX8_word_0 : cX8_word.data.toList.drop 0 = dktX8_word_0 := by decide +kernel
theorem dX8_word_0 : decode cX8_word 0 = .ok (.aload_n 0, 1) := dk_42 (dk_at dksX8_word_0 0 rfl rfl)
theorem dX8_word_1 : decode cX8_word 1 = .ok (.aload_n 1, 1) := dk_43 (dk_at dksX8_word_0 1 rfl rfl)
theorem dX8_word_2 : decode cX8_word 2 = .ok (.invokevirtual 72, 3) := dk_182 0 72 (dk_at dksX8_word_0 2 rfl rfl)
theorem dX8_word_5 : decode cX8_word 5 = .ok (.ifCond .ne 8, 3) := dk_154 0 8 (dk_at dksX8_word_0 5 rfl rfl)
theorem dX8_word_8 : decode cX8_word 8 = .ok (.aload_n 0, 1) := dk_42 (dk_at dksX8_word_0 8 rfl rfl)
theorem dX8_word_9 : decode cX8_word 9 = .ok (.invokevirtual 68, 3) := dk_182 0 68 (dk_at dksX8_word_0 9 rfl rfl)
theorem dX8_word_12 : decode cX8_word 12 = .ok (.athrow, 1) := dk_191 (dk_at dksX8_word_0 12 rfl rfl)
theorem dX8_word_13 : decode cX8_word 13 = .ok (.aload_n 0, 1) := dk_42 (dk_at dksX8_word_0 13 rfl rfl)
theorem dX8_word_14 : decode cX8_word 14 = .ok (.invokevirtual 19, 3) := dk_182 0 19 (dk_at dksX8_word_0 14 rfl rfl)
theorem dX8_word_17 : decode cX8_word 17 = .ok (.return_, 1) := dk_177 (dk_at dksX8_word_0 17 rfl rfl)
abbrev cX8_isWord : ByteArray := prog_9_method_5_code
def yX8_isWord : MethodName := ⟨RX8, "isWord", "(Ljava/lang/String;)Z"⟩
def dkwX8_isWord_2 : List UInt8 := [96, 51, 43, 28, 182, 0, 51, 159, 0, 5, 3, 172, 132, 2, 1, 167, 255, 221, 4, 172]
abbrev dktX8_isWord_2 : List UInt8 := dkwX8_isWord_2 ++ []
def dkwX8_isWord_1 : List UInt8 := [3, 172, 3, 61, 28, 43, 182, 0, 45, 162, 0, 33, 42, 180, 0, 3, 180, 0, 22, 42, 180, 0, 29, 28]
abbrev dktX8_isWord_1 : List UInt8 := dkwX8_isWord_1 ++ dktX8_isWord_2
def dkwX8_isWord_0 : List UInt8 := [42, 180, 0, 32, 4, 160, 0, 19, 42, 180, 0, 26, 42, 180, 0, 29, 100, 43, 182, 0, 45, 159, 0, 5]
abbrev dktX8_isWord_0 : List UInt8 := dkwX8_isWord_0 ++ dktX8_isWord_1
theorem dksX8_isWord_0 : cX8_isWord.data.toList.drop 0 = dktX8_isWord_0 := by decide +kernel
theorem dksX8_isWord_1 : cX8_isWord.data.toList.drop 24 = dktX8_isWord_1 := dk_seg dksX8_isWord_0 24 rfl rfl
theorem dksX8_isWord_2 : cX8_isWord.data.toList.drop 48 = dktX8_isWord_2 := dk_seg dksX8_isWord_1 24 rfl rfl
theorem dX8_isWord_0 : decode cX8_isWord 0 = .ok (.aload_n 0, 1) := dk_42 (dk_at dksX8_isWord_0 0 rfl rfl)
theorem dX8_isWord_1 : decode cX8_isWord 1 = .ok (.getfield 32, 3) := dk_180 0 32 (dk_at dksX8_isWord_0 1 rfl rfl)
theorem dX8_isWord_4 : decode cX8_isWord 4 = .ok (.iconst 1, 1) := dk_4 (dk_at dksX8_isWord_0 4 rfl rfl)
theorem dX8_isWord_5 : decode cX8_isWord 5 = .ok (.if_icmp .ne 19, 3) := dk_160 0 19 (dk_at dksX8_isWord_0 5 rfl rfl)
theorem dX8_isWord_8 : decode cX8_isWord 8 = .ok (.aload_n 0, 1) := dk_42 (dk_at dksX8_isWord_0 8 rfl rfl)
theorem dX8_isWord_9 : decode cX8_isWord 9 = .ok (.getfield 26, 3) := dk_180 0 26 (dk_at dksX8_isWord_0 9 rfl rfl)
theorem dX8_isWord_12 : decode cX8_isWord 12 = .ok (.aload_n 0, 1) := dk_42 (dk_at dksX8_isWord_0 12 rfl rfl)
theorem dX8_isWord_13 : decode cX8_isWord 13 = .ok (.getfield 29, 3) := dk_180 0 29 (dk_at dksX8_isWord_0 13 rfl rfl)
theorem dX8_isWord_16 : decode cX8_isWord 16 = .ok (.isub, 1) := dk_100 (dk_at dksX8_isWord_0 16 rfl rfl)
theorem dX8_isWord_17 : decode cX8_isWord 17 = .ok (.aload_n 1, 1) := dk_43 (dk_at dksX8_isWord_0 17 rfl rfl)
theorem dX8_isWord_18 : decode cX8_isWord 18 = .ok (.invokevirtual 45, 3) := dk_182 0 45 (dk_at dksX8_isWord_0 18 rfl rfl)
theorem dX8_isWord_21 : decode cX8_isWord 21 = .ok (.if_icmp .eq 5, 3) := dk_159 0 5 (dk_at dksX8_isWord_0 21 rfl rfl)
theorem dX8_isWord_24 : decode cX8_isWord 24 = .ok (.iconst 0, 1) := dk_3 (dk_at dksX8_isWord_1 0 rfl rfl)
theorem dX8_isWord_25 : decode cX8_isWord 25 = .ok (.ireturn, 1) := dk_172 (dk_at dksX8_isWord_1 1 rfl rfl)
theorem dX8_isWord_26 : decode cX8_isWord 26 = .ok (.iconst 0, 1) := dk_3 (dk_at dksX8_isWord_1 2 rfl rfl)
theorem dX8_isWord_27 : decode cX8_isWord 27 = .ok (.istore_n 2, 1) := dk_61 (dk_at dksX8_isWord_1 3 rfl rfl)
theorem dX8_isWord_28 : decode cX8_isWord 28 = .ok (.iload_n 2, 1) := dk_28 (dk_at dksX8_isWord_1 4 rfl rfl)
theorem dX8_isWord_29 : decode cX8_isWord 29 = .ok (.aload_n 1, 1) := dk_43 (dk_at dksX8_isWord_1 5 rfl rfl)
theorem dX8_isWord_30 : decode cX8_isWord 30 = .ok (.invokevirtual 45, 3) := dk_182 0 45 (dk_at dksX8_isWord_1 6 rfl rfl)
theorem dX8_isWord_33 : decode cX8_isWord 33 = .ok (.if_icmp .ge 33, 3) := dk_162 0 33 (dk_at dksX8_isWord_1 9 rfl rfl)
theorem dX8_isWord_36 : decode cX8_isWord 36 = .ok (.aload_n 0, 1) := dk_42 (dk_at dksX8_isWord_1 12 rfl rfl)
theorem dX8_isWord_37 : decode cX8_isWord 37 = .ok (.getfield 3, 3) := dk_180 0 3 (dk_at dksX8_isWord_1 13 rfl rfl)
theorem dX8_isWord_40 : decode cX8_isWord 40 = .ok (.getfield 22, 3) := dk_180 0 22 (dk_at dksX8_isWord_1 16 rfl rfl)
theorem dX8_isWord_43 : decode cX8_isWord 43 = .ok (.aload_n 0, 1) := dk_42 (dk_at dksX8_isWord_1 19 rfl rfl)
theorem dX8_isWord_44 : decode cX8_isWord 44 = .ok (.getfield 29, 3) := dk_180 0 29 (dk_at dksX8_isWord_1 20 rfl rfl)
theorem dX8_isWord_47 : decode cX8_isWord 47 = .ok (.iload_n 2, 1) := dk_28 (dk_at dksX8_isWord_1 23 rfl rfl)
theorem dX8_isWord_48 : decode cX8_isWord 48 = .ok (.iadd, 1) := dk_96 (dk_at dksX8_isWord_2 0 rfl rfl)
theorem dX8_isWord_49 : decode cX8_isWord 49 = .ok (.baload, 1) := dk_51 (dk_at dksX8_isWord_2 1 rfl rfl)
theorem dX8_isWord_50 : decode cX8_isWord 50 = .ok (.aload_n 1, 1) := dk_43 (dk_at dksX8_isWord_2 2 rfl rfl)
theorem dX8_isWord_51 : decode cX8_isWord 51 = .ok (.iload_n 2, 1) := dk_28 (dk_at dksX8_isWord_2 3 rfl rfl)
theorem dX8_isWord_52 : decode cX8_isWord 52 = .ok (.invokevirtual 51, 3) := dk_182 0 51 (dk_at dksX8_isWord_2 4 rfl rfl)
theorem dX8_isWord_55 : decode cX8_isWord 55 = .ok (.if_icmp .eq 5, 3) := dk_159 0 5 (dk_at dksX8_isWord_2 7 rfl rfl)
theorem dX8_isWord_58 : decode cX8_isWord 58 = .ok (.iconst 0, 1) := dk_3 (dk_at dksX8_isWord_2 10 rfl rfl)
theorem dX8_isWord_59 : decode cX8_isWord 59 = .ok (.ireturn, 1) := dk_172 (dk_at dksX8_isWord_2 11 rfl rfl)
theorem dX8_isWord_60 : decode cX8_isWord 60 = .ok (.iinc 2 1, 3) := dk_132 2 1 (dk_at dksX8_isWord_2 12 rfl rfl)
theorem dX8_isWord_63 : decode cX8_isWord 63 = .ok (.goto (-35), 3) := dk_167 255 221 (dk_at dksX8_isWord_2 15 rfl rfl)
theorem dX8_isWord_66 : decode cX8_isWord 66 = .ok (.iconst 1, 1) := dk_4 (dk_at dksX8_isWord_2 18 rfl rfl)
theorem dX8_isWord_67 : decode cX8_isWord 67 = .ok (.ireturn, 1) := dk_172 (dk_at dksX8_isWord_2 19 rfl rfl)
abbrev cX8_wrong : ByteArray := prog_9_method_7_code
def yX8_wrong : MethodName := ⟨RX8, "wrong", "()LWindowHill$Bad;"⟩
def dkwX8_wrong_1 : List UInt8 := [182, 0, 59, 176]
abbrev dktX8_wrong_1 : List UInt8 := dkwX8_wrong_1 ++ []
def dkwX8_wrong_0 : List UInt8 := [42, 180, 0, 3, 180, 0, 55, 42, 180, 0, 32, 7, 160, 0, 7, 4, 167, 0, 4, 5, 42, 180, 0, 29]
abbrev dktX8_wrong_0 : List UInt8 := dkwX8_wrong_0 ++ dktX8_wrong_1
theorem dksX8_wrong_0 : cX8_wrong.data.toList.drop 0 = dktX8_wrong_0 := by decide +kernel
theorem dksX8_wrong_1 : cX8_wrong.data.toList.drop 24 = dktX8_wrong_1 := dk_seg dksX8_wrong_0 24 rfl rfl
theorem dX8_wrong_0 : decode cX8_wrong 0 = .ok (.aload_n 0, 1) := dk_42 (dk_at dksX8_wrong_0 0 rfl rfl)
theorem dX8_wrong_1 : decode cX8_wrong 1 = .ok (.getfield 3, 3) := dk_180 0 3 (dk_at dksX8_wrong_0 1 rfl rfl)
theorem dX8_wrong_4 : decode cX8_wrong 4 = .ok (.getfield 55, 3) := dk_180 0 55 (dk_at dksX8_wrong_0 4 rfl rfl)
theorem dX8_wrong_7 : decode cX8_wrong 7 = .ok (.aload_n 0, 1) := dk_42 (dk_at dksX8_wrong_0 7 rfl rfl)
theorem dX8_wrong_8 : decode cX8_wrong 8 = .ok (.getfield 32, 3) := dk_180 0 32 (dk_at dksX8_wrong_0 8 rfl rfl)
theorem dX8_wrong_11 : decode cX8_wrong 11 = .ok (.iconst 4, 1) := dk_7 (dk_at dksX8_wrong_0 11 rfl rfl)
theorem dX8_wrong_12 : decode cX8_wrong 12 = .ok (.if_icmp .ne 7, 3) := dk_160 0 7 (dk_at dksX8_wrong_0 12 rfl rfl)
theorem dX8_wrong_15 : decode cX8_wrong 15 = .ok (.iconst 1, 1) := dk_4 (dk_at dksX8_wrong_0 15 rfl rfl)
theorem dX8_wrong_16 : decode cX8_wrong 16 = .ok (.goto 4, 3) := dk_167 0 4 (dk_at dksX8_wrong_0 16 rfl rfl)
theorem dX8_wrong_19 : decode cX8_wrong 19 = .ok (.iconst 2, 1) := dk_5 (dk_at dksX8_wrong_0 19 rfl rfl)
theorem dX8_wrong_20 : decode cX8_wrong 20 = .ok (.aload_n 0, 1) := dk_42 (dk_at dksX8_wrong_0 20 rfl rfl)
theorem dX8_wrong_21 : decode cX8_wrong 21 = .ok (.getfield 29, 3) := dk_180 0 29 (dk_at dksX8_wrong_0 21 rfl rfl)
theorem dX8_wrong_24 : decode cX8_wrong 24 = .ok (.invokevirtual 59, 3) := dk_182 0 59 (dk_at dksX8_wrong_1 0 rfl rfl)
theorem dX8_wrong_27 : decode cX8_wrong 27 = .ok (.areturn, 1) := dk_176 (dk_at dksX8_wrong_1 3 rfl rfl)
abbrev cX8_number : ByteArray := prog_9_method_10_code
def yX8_number : MethodName := ⟨RX8, "number", "(II)I"⟩
def dkwX8_number_2 : List UInt8 := [180, 0, 42, 62, 42, 182, 0, 19, 29, 172]
abbrev dktX8_number_2 : List UInt8 := dkwX8_number_2 ++ []
def dkwX8_number_1 : List UInt8 := [180, 0, 42, 28, 164, 0, 19, 42, 180, 0, 3, 180, 0, 55, 7, 42, 180, 0, 29, 182, 0, 59, 191, 42]
abbrev dktX8_number_1 : List UInt8 := dkwX8_number_1 ++ dktX8_number_2
def dkwX8_number_0 : List UInt8 := [42, 180, 0, 32, 5, 159, 0, 8, 42, 182, 0, 68, 191, 42, 180, 0, 42, 27, 161, 0, 11, 42]
abbrev dktX8_number_0 : List UInt8 := dkwX8_number_0 ++ dktX8_number_1
theorem dksX8_number_0 : cX8_number.data.toList.drop 0 = dktX8_number_0 := by decide +kernel
theorem dksX8_number_1 : cX8_number.data.toList.drop 22 = dktX8_number_1 := dk_seg dksX8_number_0 22 rfl rfl
theorem dksX8_number_2 : cX8_number.data.toList.drop 46 = dktX8_number_2 := dk_seg dksX8_number_1 24 rfl rfl
theorem dX8_number_0 : decode cX8_number 0 = .ok (.aload_n 0, 1) := dk_42 (dk_at dksX8_number_0 0 rfl rfl)
theorem dX8_number_1 : decode cX8_number 1 = .ok (.getfield 32, 3) := dk_180 0 32 (dk_at dksX8_number_0 1 rfl rfl)
theorem dX8_number_4 : decode cX8_number 4 = .ok (.iconst 2, 1) := dk_5 (dk_at dksX8_number_0 4 rfl rfl)
theorem dX8_number_5 : decode cX8_number 5 = .ok (.if_icmp .eq 8, 3) := dk_159 0 8 (dk_at dksX8_number_0 5 rfl rfl)
theorem dX8_number_8 : decode cX8_number 8 = .ok (.aload_n 0, 1) := dk_42 (dk_at dksX8_number_0 8 rfl rfl)
theorem dX8_number_9 : decode cX8_number 9 = .ok (.invokevirtual 68, 3) := dk_182 0 68 (dk_at dksX8_number_0 9 rfl rfl)
theorem dX8_number_12 : decode cX8_number 12 = .ok (.athrow, 1) := dk_191 (dk_at dksX8_number_0 12 rfl rfl)
theorem dX8_number_13 : decode cX8_number 13 = .ok (.aload_n 0, 1) := dk_42 (dk_at dksX8_number_0 13 rfl rfl)
theorem dX8_number_14 : decode cX8_number 14 = .ok (.getfield 42, 3) := dk_180 0 42 (dk_at dksX8_number_0 14 rfl rfl)
theorem dX8_number_17 : decode cX8_number 17 = .ok (.iload_n 1, 1) := dk_27 (dk_at dksX8_number_0 17 rfl rfl)
theorem dX8_number_18 : decode cX8_number 18 = .ok (.if_icmp .lt 11, 3) := dk_161 0 11 (dk_at dksX8_number_0 18 rfl rfl)
theorem dX8_number_21 : decode cX8_number 21 = .ok (.aload_n 0, 1) := dk_42 (dk_at dksX8_number_0 21 rfl rfl)
theorem dX8_number_22 : decode cX8_number 22 = .ok (.getfield 42, 3) := dk_180 0 42 (dk_at dksX8_number_1 0 rfl rfl)
theorem dX8_number_25 : decode cX8_number 25 = .ok (.iload_n 2, 1) := dk_28 (dk_at dksX8_number_1 3 rfl rfl)
theorem dX8_number_26 : decode cX8_number 26 = .ok (.if_icmp .le 19, 3) := dk_164 0 19 (dk_at dksX8_number_1 4 rfl rfl)
theorem dX8_number_29 : decode cX8_number 29 = .ok (.aload_n 0, 1) := dk_42 (dk_at dksX8_number_1 7 rfl rfl)
theorem dX8_number_30 : decode cX8_number 30 = .ok (.getfield 3, 3) := dk_180 0 3 (dk_at dksX8_number_1 8 rfl rfl)
theorem dX8_number_33 : decode cX8_number 33 = .ok (.getfield 55, 3) := dk_180 0 55 (dk_at dksX8_number_1 11 rfl rfl)
theorem dX8_number_36 : decode cX8_number 36 = .ok (.iconst 4, 1) := dk_7 (dk_at dksX8_number_1 14 rfl rfl)
theorem dX8_number_37 : decode cX8_number 37 = .ok (.aload_n 0, 1) := dk_42 (dk_at dksX8_number_1 15 rfl rfl)
theorem dX8_number_38 : decode cX8_number 38 = .ok (.getfield 29, 3) := dk_180 0 29 (dk_at dksX8_number_1 16 rfl rfl)
theorem dX8_number_41 : decode cX8_number 41 = .ok (.invokevirtual 59, 3) := dk_182 0 59 (dk_at dksX8_number_1 19 rfl rfl)
theorem dX8_number_44 : decode cX8_number 44 = .ok (.athrow, 1) := dk_191 (dk_at dksX8_number_1 22 rfl rfl)
theorem dX8_number_45 : decode cX8_number 45 = .ok (.aload_n 0, 1) := dk_42 (dk_at dksX8_number_1 23 rfl rfl)
theorem dX8_number_46 : decode cX8_number 46 = .ok (.getfield 42, 3) := dk_180 0 42 (dk_at dksX8_number_2 0 rfl rfl)
theorem dX8_number_49 : decode cX8_number 49 = .ok (.istore_n 3, 1) := dk_62 (dk_at dksX8_number_2 3 rfl rfl)
theorem dX8_number_50 : decode cX8_number 50 = .ok (.aload_n 0, 1) := dk_42 (dk_at dksX8_number_2 4 rfl rfl)
theorem dX8_number_51 : decode cX8_number 51 = .ok (.invokevirtual 19, 3) := dk_182 0 19 (dk_at dksX8_number_2 5 rfl rfl)
theorem dX8_number_54 : decode cX8_number 54 = .ok (.iload_n 3, 1) := dk_29 (dk_at dksX8_number_2 8 rfl rfl)
theorem dX8_number_55 : decode cX8_number 55 = .ok (.ireturn, 1) := dk_172 (dk_at dksX8_number_2 9 rfl rfl)
abbrev cX8_close : ByteArray := prog_9_method_8_code
def yX8_close : MethodName := ⟨RX8, "close", "()V"⟩
def dkwX8_close_0 : List UInt8 := [42, 16, 59, 182, 0, 64, 154, 0, 8, 42, 182, 0, 68, 191, 42, 182, 0, 19, 177]
abbrev dktX8_close_0 : List UInt8 := dkwX8_close_0 ++ []
theorem dksX8_close_0 : cX8_close.data.toList.drop 0 = dktX8_close_0 := by decide +kernel
theorem dX8_close_0 : decode cX8_close 0 = .ok (.aload_n 0, 1) := dk_42 (dk_at dksX8_close_0 0 rfl rfl)
theorem dX8_close_1 : decode cX8_close 1 = .ok (.bipush 59, 2) := dk_16 59 (dk_at dksX8_close_0 1 rfl rfl)
theorem dX8_close_3 : decode cX8_close 3 = .ok (.invokevirtual 64, 3) := dk_182 0 64 (dk_at dksX8_close_0 3 rfl rfl)
theorem dX8_close_6 : decode cX8_close 6 = .ok (.ifCond .ne 8, 3) := dk_154 0 8 (dk_at dksX8_close_0 6 rfl rfl)
theorem dX8_close_9 : decode cX8_close 9 = .ok (.aload_n 0, 1) := dk_42 (dk_at dksX8_close_0 9 rfl rfl)
theorem dX8_close_10 : decode cX8_close 10 = .ok (.invokevirtual 68, 3) := dk_182 0 68 (dk_at dksX8_close_0 10 rfl rfl)
theorem dX8_close_13 : decode cX8_close 13 = .ok (.athrow, 1) := dk_191 (dk_at dksX8_close_0 13 rfl rfl)
theorem dX8_close_14 : decode cX8_close 14 = .ok (.aload_n 0, 1) := dk_42 (dk_at dksX8_close_0 14 rfl rfl)
theorem dX8_close_15 : decode cX8_close 15 = .ok (.invokevirtual 19, 3) := dk_182 0 19 (dk_at dksX8_close_0 15 rfl rfl)
theorem dX8_close_18 : decode cX8_close 18 = .ok (.return_, 1) := dk_177 (dk_at dksX8_close_0 18 rfl rfl)
abbrev cX8_isSign : ByteArray := prog_9_method_6_code
def yX8_isSign : MethodName := ⟨RX8, "isSign", "(C)Z"⟩
def dkwX8_isSign_1 : List UInt8 := [4, 167, 0, 4, 3, 172]
abbrev dktX8_isSign_1 : List UInt8 := dkwX8_isSign_1 ++ []
def dkwX8_isSign_0 : List UInt8 := [42, 180, 0, 32, 6, 160, 0, 23, 42, 180, 0, 3, 180, 0, 22, 42, 180, 0, 29, 51, 27, 160, 0, 7]
abbrev dktX8_isSign_0 : List UInt8 := dkwX8_isSign_0 ++ dktX8_isSign_1
theorem dksX8_isSign_0 : cX8_isSign.data.toList.drop 0 = dktX8_isSign_0 := by decide +kernel
theorem dksX8_isSign_1 : cX8_isSign.data.toList.drop 24 = dktX8_isSign_1 := dk_seg dksX8_isSign_0 24 rfl rfl
theorem dX8_isSign_0 : decode cX8_isSign 0 = .ok (.aload_n 0, 1) := dk_42 (dk_at dksX8_isSign_0 0 rfl rfl)
theorem dX8_isSign_1 : decode cX8_isSign 1 = .ok (.getfield 32, 3) := dk_180 0 32 (dk_at dksX8_isSign_0 1 rfl rfl)
theorem dX8_isSign_4 : decode cX8_isSign 4 = .ok (.iconst 3, 1) := dk_6 (dk_at dksX8_isSign_0 4 rfl rfl)
theorem dX8_isSign_5 : decode cX8_isSign 5 = .ok (.if_icmp .ne 23, 3) := dk_160 0 23 (dk_at dksX8_isSign_0 5 rfl rfl)
theorem dX8_isSign_8 : decode cX8_isSign 8 = .ok (.aload_n 0, 1) := dk_42 (dk_at dksX8_isSign_0 8 rfl rfl)
theorem dX8_isSign_9 : decode cX8_isSign 9 = .ok (.getfield 3, 3) := dk_180 0 3 (dk_at dksX8_isSign_0 9 rfl rfl)
theorem dX8_isSign_12 : decode cX8_isSign 12 = .ok (.getfield 22, 3) := dk_180 0 22 (dk_at dksX8_isSign_0 12 rfl rfl)
theorem dX8_isSign_15 : decode cX8_isSign 15 = .ok (.aload_n 0, 1) := dk_42 (dk_at dksX8_isSign_0 15 rfl rfl)
theorem dX8_isSign_16 : decode cX8_isSign 16 = .ok (.getfield 29, 3) := dk_180 0 29 (dk_at dksX8_isSign_0 16 rfl rfl)
theorem dX8_isSign_19 : decode cX8_isSign 19 = .ok (.baload, 1) := dk_51 (dk_at dksX8_isSign_0 19 rfl rfl)
theorem dX8_isSign_20 : decode cX8_isSign 20 = .ok (.iload_n 1, 1) := dk_27 (dk_at dksX8_isSign_0 20 rfl rfl)
theorem dX8_isSign_21 : decode cX8_isSign 21 = .ok (.if_icmp .ne 7, 3) := dk_160 0 7 (dk_at dksX8_isSign_0 21 rfl rfl)
theorem dX8_isSign_24 : decode cX8_isSign 24 = .ok (.iconst 1, 1) := dk_4 (dk_at dksX8_isSign_1 0 rfl rfl)
theorem dX8_isSign_25 : decode cX8_isSign 25 = .ok (.goto 4, 3) := dk_167 0 4 (dk_at dksX8_isSign_1 1 rfl rfl)
theorem dX8_isSign_28 : decode cX8_isSign 28 = .ok (.iconst 0, 1) := dk_3 (dk_at dksX8_isSign_1 4 rfl rfl)
theorem dX8_isSign_29 : decode cX8_isSign 29 = .ok (.ireturn, 1) := dk_172 (dk_at dksX8_isSign_1 5 rfl rfl)
abbrev cX8_row : ByteArray := prog_9_method_17_code
def yX8_row : MethodName := ⟨RX8, "row", "(LWindowHill$Town;)V"⟩
def dkwX8_row_13 : List UInt8 := [42, 182, 0, 156, 177]
abbrev dktX8_row_13 : List UInt8 := dkwX8_row_13 ++ []
def dkwX8_row_12 : List UInt8 := [128, 181, 0, 184, 132, 3, 1, 167, 255, 137, 43, 89, 180, 0, 159, 4, 96, 181, 0, 159, 42, 182, 0, 19]
abbrev dktX8_row_12 : List UInt8 := dkwX8_row_12 ++ dktX8_row_13
def dkwX8_row_11 : List UInt8 := [181, 0, 181, 21, 5, 16, 108, 159, 0, 10, 21, 5, 16, 119, 160, 0, 14, 42, 89, 180, 0, 184, 21, 4]
abbrev dktX8_row_11 : List UInt8 := dkwX8_row_11 ++ dktX8_row_12
def dkwX8_row_10 : List UInt8 := [180, 0, 178, 21, 4, 128, 181, 0, 178, 21, 5, 16, 120, 160, 0, 14, 43, 89, 180, 0, 181, 21, 4, 128]
abbrev dktX8_row_10 : List UInt8 := dkwX8_row_10 ++ dktX8_row_11
def dkwX8_row_9 : List UInt8 := [159, 0, 14, 43, 89, 180, 0, 162, 21, 4, 128, 181, 0, 162, 21, 5, 16, 119, 160, 0, 14, 43, 89]
abbrev dktX8_row_9 : List UInt8 := dkwX8_row_9 ++ dktX8_row_10
def dkwX8_row_8 : List UInt8 := [120, 54, 4, 42, 180, 0, 3, 180, 0, 22, 42, 180, 0, 29, 29, 96, 51, 54, 5, 21, 5, 16, 110]
abbrev dktX8_row_8 : List UInt8 := dkwX8_row_8 ++ dktX8_row_9
def dkwX8_row_7 : List UInt8 := [182, 0, 68, 191, 3, 62, 29, 43, 180, 0, 151, 162, 0, 117, 4, 43, 29, 43, 180, 0, 159, 182, 0, 175]
abbrev dktX8_row_7 : List UInt8 := dkwX8_row_7 ++ dktX8_row_8
def dkwX8_row_6 : List UInt8 := [29, 51, 16, 120, 160, 0, 7, 4, 167, 0, 4, 3, 61, 132, 3, 1, 167, 255, 165, 28, 154, 0, 8, 42]
abbrev dktX8_row_6 : List UInt8 := dkwX8_row_6 ++ dktX8_row_7
def dkwX8_row_5 : List UInt8 := [159, 0, 31, 42, 180, 0, 3, 180, 0, 22, 29, 51, 16, 119, 159, 0, 17, 42, 180, 0, 3, 180, 0, 22]
abbrev dktX8_row_5 : List UInt8 := dkwX8_row_5 ++ dktX8_row_6
def dkwX8_row_4 : List UInt8 := [180, 0, 3, 180, 0, 22, 29, 51, 16, 108, 159, 0, 45, 42, 180, 0, 3, 180, 0, 22, 29, 51, 16, 110]
abbrev dktX8_row_4 : List UInt8 := dkwX8_row_4 ++ dktX8_row_5
def dkwX8_row_3 : List UInt8 := [42, 180, 0, 26, 162, 0, 85, 42, 180, 0, 3, 180, 0, 22, 29, 51, 16, 100, 159, 0, 59, 42]
abbrev dktX8_row_3 : List UInt8 := dkwX8_row_3 ++ dktX8_row_4
def dkwX8_row_2 : List UInt8 := [100, 43, 180, 0, 151, 160, 0, 7, 4, 167, 0, 4, 3, 61, 42, 180, 0, 29, 62, 28, 153, 0, 93, 29]
abbrev dktX8_row_2 : List UInt8 := dkwX8_row_2 ++ dktX8_row_3
def dkwX8_row_1 : List UInt8 := [182, 0, 59, 191, 42, 182, 0, 19, 42, 180, 0, 32, 4, 160, 0, 23, 42, 180, 0, 26, 42, 180, 0, 29]
abbrev dktX8_row_1 : List UInt8 := dkwX8_row_1 ++ dktX8_row_2
def dkwX8_row_0 : List UInt8 := [43, 180, 0, 159, 16, 6, 160, 0, 20, 42, 180, 0, 3, 180, 0, 55, 16, 6, 42, 180, 0, 29]
abbrev dktX8_row_0 : List UInt8 := dkwX8_row_0 ++ dktX8_row_1
theorem dksX8_row_0 : cX8_row.data.toList.drop 0 = dktX8_row_0 := by decide +kernel
theorem dksX8_row_1 : cX8_row.data.toList.drop 22 = dktX8_row_1 := dk_seg dksX8_row_0 22 rfl rfl
theorem dksX8_row_2 : cX8_row.data.toList.drop 46 = dktX8_row_2 := dk_seg dksX8_row_1 24 rfl rfl
theorem dksX8_row_3 : cX8_row.data.toList.drop 70 = dktX8_row_3 := dk_seg dksX8_row_2 24 rfl rfl
theorem dksX8_row_4 : cX8_row.data.toList.drop 92 = dktX8_row_4 := dk_seg dksX8_row_3 22 rfl rfl
theorem dksX8_row_5 : cX8_row.data.toList.drop 116 = dktX8_row_5 := dk_seg dksX8_row_4 24 rfl rfl
theorem dksX8_row_6 : cX8_row.data.toList.drop 140 = dktX8_row_6 := dk_seg dksX8_row_5 24 rfl rfl
theorem dksX8_row_7 : cX8_row.data.toList.drop 164 = dktX8_row_7 := dk_seg dksX8_row_6 24 rfl rfl
theorem dksX8_row_8 : cX8_row.data.toList.drop 188 = dktX8_row_8 := dk_seg dksX8_row_7 24 rfl rfl
theorem dksX8_row_9 : cX8_row.data.toList.drop 211 = dktX8_row_9 := dk_seg dksX8_row_8 23 rfl rfl
theorem dksX8_row_10 : cX8_row.data.toList.drop 234 = dktX8_row_10 := dk_seg dksX8_row_9 23 rfl rfl
theorem dksX8_row_11 : cX8_row.data.toList.drop 258 = dktX8_row_11 := dk_seg dksX8_row_10 24 rfl rfl
theorem dksX8_row_12 : cX8_row.data.toList.drop 282 = dktX8_row_12 := dk_seg dksX8_row_11 24 rfl rfl
theorem dksX8_row_13 : cX8_row.data.toList.drop 306 = dktX8_row_13 := dk_seg dksX8_row_12 24 rfl rfl
theorem dX8_row_0 : decode cX8_row 0 = .ok (.aload_n 1, 1) := dk_43 (dk_at dksX8_row_0 0 rfl rfl)
theorem dX8_row_1 : decode cX8_row 1 = .ok (.getfield 159, 3) := dk_180 0 159 (dk_at dksX8_row_0 1 rfl rfl)
theorem dX8_row_4 : decode cX8_row 4 = .ok (.bipush 6, 2) := dk_16 6 (dk_at dksX8_row_0 4 rfl rfl)
theorem dX8_row_6 : decode cX8_row 6 = .ok (.if_icmp .ne 20, 3) := dk_160 0 20 (dk_at dksX8_row_0 6 rfl rfl)
theorem dX8_row_9 : decode cX8_row 9 = .ok (.aload_n 0, 1) := dk_42 (dk_at dksX8_row_0 9 rfl rfl)
theorem dX8_row_10 : decode cX8_row 10 = .ok (.getfield 3, 3) := dk_180 0 3 (dk_at dksX8_row_0 10 rfl rfl)
theorem dX8_row_13 : decode cX8_row 13 = .ok (.getfield 55, 3) := dk_180 0 55 (dk_at dksX8_row_0 13 rfl rfl)
theorem dX8_row_16 : decode cX8_row 16 = .ok (.bipush 6, 2) := dk_16 6 (dk_at dksX8_row_0 16 rfl rfl)
theorem dX8_row_18 : decode cX8_row 18 = .ok (.aload_n 0, 1) := dk_42 (dk_at dksX8_row_0 18 rfl rfl)
theorem dX8_row_19 : decode cX8_row 19 = .ok (.getfield 29, 3) := dk_180 0 29 (dk_at dksX8_row_0 19 rfl rfl)
theorem dX8_row_22 : decode cX8_row 22 = .ok (.invokevirtual 59, 3) := dk_182 0 59 (dk_at dksX8_row_1 0 rfl rfl)
theorem dX8_row_25 : decode cX8_row 25 = .ok (.athrow, 1) := dk_191 (dk_at dksX8_row_1 3 rfl rfl)
theorem dX8_row_26 : decode cX8_row 26 = .ok (.aload_n 0, 1) := dk_42 (dk_at dksX8_row_1 4 rfl rfl)
theorem dX8_row_27 : decode cX8_row 27 = .ok (.invokevirtual 19, 3) := dk_182 0 19 (dk_at dksX8_row_1 5 rfl rfl)
theorem dX8_row_30 : decode cX8_row 30 = .ok (.aload_n 0, 1) := dk_42 (dk_at dksX8_row_1 8 rfl rfl)
theorem dX8_row_31 : decode cX8_row 31 = .ok (.getfield 32, 3) := dk_180 0 32 (dk_at dksX8_row_1 9 rfl rfl)
theorem dX8_row_34 : decode cX8_row 34 = .ok (.iconst 1, 1) := dk_4 (dk_at dksX8_row_1 12 rfl rfl)
theorem dX8_row_35 : decode cX8_row 35 = .ok (.if_icmp .ne 23, 3) := dk_160 0 23 (dk_at dksX8_row_1 13 rfl rfl)
theorem dX8_row_38 : decode cX8_row 38 = .ok (.aload_n 0, 1) := dk_42 (dk_at dksX8_row_1 16 rfl rfl)
theorem dX8_row_39 : decode cX8_row 39 = .ok (.getfield 26, 3) := dk_180 0 26 (dk_at dksX8_row_1 17 rfl rfl)
theorem dX8_row_42 : decode cX8_row 42 = .ok (.aload_n 0, 1) := dk_42 (dk_at dksX8_row_1 20 rfl rfl)
theorem dX8_row_43 : decode cX8_row 43 = .ok (.getfield 29, 3) := dk_180 0 29 (dk_at dksX8_row_1 21 rfl rfl)
theorem dX8_row_46 : decode cX8_row 46 = .ok (.isub, 1) := dk_100 (dk_at dksX8_row_2 0 rfl rfl)
theorem dX8_row_47 : decode cX8_row 47 = .ok (.aload_n 1, 1) := dk_43 (dk_at dksX8_row_2 1 rfl rfl)
theorem dX8_row_48 : decode cX8_row 48 = .ok (.getfield 151, 3) := dk_180 0 151 (dk_at dksX8_row_2 2 rfl rfl)
theorem dX8_row_51 : decode cX8_row 51 = .ok (.if_icmp .ne 7, 3) := dk_160 0 7 (dk_at dksX8_row_2 5 rfl rfl)
theorem dX8_row_54 : decode cX8_row 54 = .ok (.iconst 1, 1) := dk_4 (dk_at dksX8_row_2 8 rfl rfl)
theorem dX8_row_55 : decode cX8_row 55 = .ok (.goto 4, 3) := dk_167 0 4 (dk_at dksX8_row_2 9 rfl rfl)
theorem dX8_row_58 : decode cX8_row 58 = .ok (.iconst 0, 1) := dk_3 (dk_at dksX8_row_2 12 rfl rfl)
theorem dX8_row_59 : decode cX8_row 59 = .ok (.istore_n 2, 1) := dk_61 (dk_at dksX8_row_2 13 rfl rfl)
theorem dX8_row_60 : decode cX8_row 60 = .ok (.aload_n 0, 1) := dk_42 (dk_at dksX8_row_2 14 rfl rfl)
theorem dX8_row_61 : decode cX8_row 61 = .ok (.getfield 29, 3) := dk_180 0 29 (dk_at dksX8_row_2 15 rfl rfl)
theorem dX8_row_64 : decode cX8_row 64 = .ok (.istore_n 3, 1) := dk_62 (dk_at dksX8_row_2 18 rfl rfl)
theorem dX8_row_65 : decode cX8_row 65 = .ok (.iload_n 2, 1) := dk_28 (dk_at dksX8_row_2 19 rfl rfl)
theorem dX8_row_66 : decode cX8_row 66 = .ok (.ifCond .eq 93, 3) := dk_153 0 93 (dk_at dksX8_row_2 20 rfl rfl)
theorem dX8_row_69 : decode cX8_row 69 = .ok (.iload_n 3, 1) := dk_29 (dk_at dksX8_row_2 23 rfl rfl)
theorem dX8_row_70 : decode cX8_row 70 = .ok (.aload_n 0, 1) := dk_42 (dk_at dksX8_row_3 0 rfl rfl)
theorem dX8_row_71 : decode cX8_row 71 = .ok (.getfield 26, 3) := dk_180 0 26 (dk_at dksX8_row_3 1 rfl rfl)
theorem dX8_row_74 : decode cX8_row 74 = .ok (.if_icmp .ge 85, 3) := dk_162 0 85 (dk_at dksX8_row_3 4 rfl rfl)
theorem dX8_row_77 : decode cX8_row 77 = .ok (.aload_n 0, 1) := dk_42 (dk_at dksX8_row_3 7 rfl rfl)
theorem dX8_row_78 : decode cX8_row 78 = .ok (.getfield 3, 3) := dk_180 0 3 (dk_at dksX8_row_3 8 rfl rfl)
theorem dX8_row_81 : decode cX8_row 81 = .ok (.getfield 22, 3) := dk_180 0 22 (dk_at dksX8_row_3 11 rfl rfl)
theorem dX8_row_84 : decode cX8_row 84 = .ok (.iload_n 3, 1) := dk_29 (dk_at dksX8_row_3 14 rfl rfl)
theorem dX8_row_85 : decode cX8_row 85 = .ok (.baload, 1) := dk_51 (dk_at dksX8_row_3 15 rfl rfl)
theorem dX8_row_86 : decode cX8_row 86 = .ok (.bipush 100, 2) := dk_16 100 (dk_at dksX8_row_3 16 rfl rfl)
theorem dX8_row_88 : decode cX8_row 88 = .ok (.if_icmp .eq 59, 3) := dk_159 0 59 (dk_at dksX8_row_3 18 rfl rfl)
theorem dX8_row_91 : decode cX8_row 91 = .ok (.aload_n 0, 1) := dk_42 (dk_at dksX8_row_3 21 rfl rfl)
theorem dX8_row_92 : decode cX8_row 92 = .ok (.getfield 3, 3) := dk_180 0 3 (dk_at dksX8_row_4 0 rfl rfl)
theorem dX8_row_95 : decode cX8_row 95 = .ok (.getfield 22, 3) := dk_180 0 22 (dk_at dksX8_row_4 3 rfl rfl)
theorem dX8_row_98 : decode cX8_row 98 = .ok (.iload_n 3, 1) := dk_29 (dk_at dksX8_row_4 6 rfl rfl)
theorem dX8_row_99 : decode cX8_row 99 = .ok (.baload, 1) := dk_51 (dk_at dksX8_row_4 7 rfl rfl)
theorem dX8_row_100 : decode cX8_row 100 = .ok (.bipush 108, 2) := dk_16 108 (dk_at dksX8_row_4 8 rfl rfl)
theorem dX8_row_102 : decode cX8_row 102 = .ok (.if_icmp .eq 45, 3) := dk_159 0 45 (dk_at dksX8_row_4 10 rfl rfl)
theorem dX8_row_105 : decode cX8_row 105 = .ok (.aload_n 0, 1) := dk_42 (dk_at dksX8_row_4 13 rfl rfl)
theorem dX8_row_106 : decode cX8_row 106 = .ok (.getfield 3, 3) := dk_180 0 3 (dk_at dksX8_row_4 14 rfl rfl)
theorem dX8_row_109 : decode cX8_row 109 = .ok (.getfield 22, 3) := dk_180 0 22 (dk_at dksX8_row_4 17 rfl rfl)
theorem dX8_row_112 : decode cX8_row 112 = .ok (.iload_n 3, 1) := dk_29 (dk_at dksX8_row_4 20 rfl rfl)
theorem dX8_row_113 : decode cX8_row 113 = .ok (.baload, 1) := dk_51 (dk_at dksX8_row_4 21 rfl rfl)
theorem dX8_row_114 : decode cX8_row 114 = .ok (.bipush 110, 2) := dk_16 110 (dk_at dksX8_row_4 22 rfl rfl)
theorem dX8_row_116 : decode cX8_row 116 = .ok (.if_icmp .eq 31, 3) := dk_159 0 31 (dk_at dksX8_row_5 0 rfl rfl)
theorem dX8_row_119 : decode cX8_row 119 = .ok (.aload_n 0, 1) := dk_42 (dk_at dksX8_row_5 3 rfl rfl)
theorem dX8_row_120 : decode cX8_row 120 = .ok (.getfield 3, 3) := dk_180 0 3 (dk_at dksX8_row_5 4 rfl rfl)
theorem dX8_row_123 : decode cX8_row 123 = .ok (.getfield 22, 3) := dk_180 0 22 (dk_at dksX8_row_5 7 rfl rfl)
theorem dX8_row_126 : decode cX8_row 126 = .ok (.iload_n 3, 1) := dk_29 (dk_at dksX8_row_5 10 rfl rfl)
theorem dX8_row_127 : decode cX8_row 127 = .ok (.baload, 1) := dk_51 (dk_at dksX8_row_5 11 rfl rfl)
theorem dX8_row_128 : decode cX8_row 128 = .ok (.bipush 119, 2) := dk_16 119 (dk_at dksX8_row_5 12 rfl rfl)
theorem dX8_row_130 : decode cX8_row 130 = .ok (.if_icmp .eq 17, 3) := dk_159 0 17 (dk_at dksX8_row_5 14 rfl rfl)
theorem dX8_row_133 : decode cX8_row 133 = .ok (.aload_n 0, 1) := dk_42 (dk_at dksX8_row_5 17 rfl rfl)
theorem dX8_row_134 : decode cX8_row 134 = .ok (.getfield 3, 3) := dk_180 0 3 (dk_at dksX8_row_5 18 rfl rfl)
theorem dX8_row_137 : decode cX8_row 137 = .ok (.getfield 22, 3) := dk_180 0 22 (dk_at dksX8_row_5 21 rfl rfl)
theorem dX8_row_140 : decode cX8_row 140 = .ok (.iload_n 3, 1) := dk_29 (dk_at dksX8_row_6 0 rfl rfl)
theorem dX8_row_141 : decode cX8_row 141 = .ok (.baload, 1) := dk_51 (dk_at dksX8_row_6 1 rfl rfl)
theorem dX8_row_142 : decode cX8_row 142 = .ok (.bipush 120, 2) := dk_16 120 (dk_at dksX8_row_6 2 rfl rfl)
theorem dX8_row_144 : decode cX8_row 144 = .ok (.if_icmp .ne 7, 3) := dk_160 0 7 (dk_at dksX8_row_6 4 rfl rfl)
theorem dX8_row_147 : decode cX8_row 147 = .ok (.iconst 1, 1) := dk_4 (dk_at dksX8_row_6 7 rfl rfl)
theorem dX8_row_148 : decode cX8_row 148 = .ok (.goto 4, 3) := dk_167 0 4 (dk_at dksX8_row_6 8 rfl rfl)
theorem dX8_row_151 : decode cX8_row 151 = .ok (.iconst 0, 1) := dk_3 (dk_at dksX8_row_6 11 rfl rfl)
theorem dX8_row_152 : decode cX8_row 152 = .ok (.istore_n 2, 1) := dk_61 (dk_at dksX8_row_6 12 rfl rfl)
theorem dX8_row_153 : decode cX8_row 153 = .ok (.iinc 3 1, 3) := dk_132 3 1 (dk_at dksX8_row_6 13 rfl rfl)
theorem dX8_row_156 : decode cX8_row 156 = .ok (.goto (-91), 3) := dk_167 255 165 (dk_at dksX8_row_6 16 rfl rfl)
theorem dX8_row_159 : decode cX8_row 159 = .ok (.iload_n 2, 1) := dk_28 (dk_at dksX8_row_6 19 rfl rfl)
theorem dX8_row_160 : decode cX8_row 160 = .ok (.ifCond .ne 8, 3) := dk_154 0 8 (dk_at dksX8_row_6 20 rfl rfl)
theorem dX8_row_163 : decode cX8_row 163 = .ok (.aload_n 0, 1) := dk_42 (dk_at dksX8_row_6 23 rfl rfl)
theorem dX8_row_164 : decode cX8_row 164 = .ok (.invokevirtual 68, 3) := dk_182 0 68 (dk_at dksX8_row_7 0 rfl rfl)
theorem dX8_row_167 : decode cX8_row 167 = .ok (.athrow, 1) := dk_191 (dk_at dksX8_row_7 3 rfl rfl)
theorem dX8_row_168 : decode cX8_row 168 = .ok (.iconst 0, 1) := dk_3 (dk_at dksX8_row_7 4 rfl rfl)
theorem dX8_row_169 : decode cX8_row 169 = .ok (.istore_n 3, 1) := dk_62 (dk_at dksX8_row_7 5 rfl rfl)
theorem dX8_row_170 : decode cX8_row 170 = .ok (.iload_n 3, 1) := dk_29 (dk_at dksX8_row_7 6 rfl rfl)
theorem dX8_row_171 : decode cX8_row 171 = .ok (.aload_n 1, 1) := dk_43 (dk_at dksX8_row_7 7 rfl rfl)
theorem dX8_row_172 : decode cX8_row 172 = .ok (.getfield 151, 3) := dk_180 0 151 (dk_at dksX8_row_7 8 rfl rfl)
theorem dX8_row_175 : decode cX8_row 175 = .ok (.if_icmp .ge 117, 3) := dk_162 0 117 (dk_at dksX8_row_7 11 rfl rfl)
theorem dX8_row_178 : decode cX8_row 178 = .ok (.iconst 1, 1) := dk_4 (dk_at dksX8_row_7 14 rfl rfl)
theorem dX8_row_179 : decode cX8_row 179 = .ok (.aload_n 1, 1) := dk_43 (dk_at dksX8_row_7 15 rfl rfl)
theorem dX8_row_180 : decode cX8_row 180 = .ok (.iload_n 3, 1) := dk_29 (dk_at dksX8_row_7 16 rfl rfl)
theorem dX8_row_181 : decode cX8_row 181 = .ok (.aload_n 1, 1) := dk_43 (dk_at dksX8_row_7 17 rfl rfl)
theorem dX8_row_182 : decode cX8_row 182 = .ok (.getfield 159, 3) := dk_180 0 159 (dk_at dksX8_row_7 18 rfl rfl)
theorem dX8_row_185 : decode cX8_row 185 = .ok (.invokevirtual 175, 3) := dk_182 0 175 (dk_at dksX8_row_7 21 rfl rfl)
theorem dX8_row_188 : decode cX8_row 188 = .ok (.ishl, 1) := dk_120 (dk_at dksX8_row_8 0 rfl rfl)
theorem dX8_row_189 : decode cX8_row 189 = .ok (.istore 4, 2) := dk_54 4 (dk_at dksX8_row_8 1 rfl rfl)
theorem dX8_row_191 : decode cX8_row 191 = .ok (.aload_n 0, 1) := dk_42 (dk_at dksX8_row_8 3 rfl rfl)
theorem dX8_row_192 : decode cX8_row 192 = .ok (.getfield 3, 3) := dk_180 0 3 (dk_at dksX8_row_8 4 rfl rfl)
theorem dX8_row_195 : decode cX8_row 195 = .ok (.getfield 22, 3) := dk_180 0 22 (dk_at dksX8_row_8 7 rfl rfl)
theorem dX8_row_198 : decode cX8_row 198 = .ok (.aload_n 0, 1) := dk_42 (dk_at dksX8_row_8 10 rfl rfl)
theorem dX8_row_199 : decode cX8_row 199 = .ok (.getfield 29, 3) := dk_180 0 29 (dk_at dksX8_row_8 11 rfl rfl)
theorem dX8_row_202 : decode cX8_row 202 = .ok (.iload_n 3, 1) := dk_29 (dk_at dksX8_row_8 14 rfl rfl)
theorem dX8_row_203 : decode cX8_row 203 = .ok (.iadd, 1) := dk_96 (dk_at dksX8_row_8 15 rfl rfl)
theorem dX8_row_204 : decode cX8_row 204 = .ok (.baload, 1) := dk_51 (dk_at dksX8_row_8 16 rfl rfl)
theorem dX8_row_205 : decode cX8_row 205 = .ok (.istore 5, 2) := dk_54 5 (dk_at dksX8_row_8 17 rfl rfl)
theorem dX8_row_207 : decode cX8_row 207 = .ok (.iload 5, 2) := dk_21 5 (dk_at dksX8_row_8 19 rfl rfl)
theorem dX8_row_209 : decode cX8_row 209 = .ok (.bipush 110, 2) := dk_16 110 (dk_at dksX8_row_8 21 rfl rfl)
theorem dX8_row_211 : decode cX8_row 211 = .ok (.if_icmp .eq 14, 3) := dk_159 0 14 (dk_at dksX8_row_9 0 rfl rfl)
theorem dX8_row_214 : decode cX8_row 214 = .ok (.aload_n 1, 1) := dk_43 (dk_at dksX8_row_9 3 rfl rfl)
theorem dX8_row_215 : decode cX8_row 215 = .ok (.dup, 1) := dk_89 (dk_at dksX8_row_9 4 rfl rfl)
theorem dX8_row_216 : decode cX8_row 216 = .ok (.getfield 162, 3) := dk_180 0 162 (dk_at dksX8_row_9 5 rfl rfl)
theorem dX8_row_219 : decode cX8_row 219 = .ok (.iload 4, 2) := dk_21 4 (dk_at dksX8_row_9 8 rfl rfl)
theorem dX8_row_221 : decode cX8_row 221 = .ok (.ior, 1) := dk_128 (dk_at dksX8_row_9 10 rfl rfl)
theorem dX8_row_222 : decode cX8_row 222 = .ok (.putfield 162, 3) := dk_181 0 162 (dk_at dksX8_row_9 11 rfl rfl)
theorem dX8_row_225 : decode cX8_row 225 = .ok (.iload 5, 2) := dk_21 5 (dk_at dksX8_row_9 14 rfl rfl)
theorem dX8_row_227 : decode cX8_row 227 = .ok (.bipush 119, 2) := dk_16 119 (dk_at dksX8_row_9 16 rfl rfl)
theorem dX8_row_229 : decode cX8_row 229 = .ok (.if_icmp .ne 14, 3) := dk_160 0 14 (dk_at dksX8_row_9 18 rfl rfl)
theorem dX8_row_232 : decode cX8_row 232 = .ok (.aload_n 1, 1) := dk_43 (dk_at dksX8_row_9 21 rfl rfl)
theorem dX8_row_233 : decode cX8_row 233 = .ok (.dup, 1) := dk_89 (dk_at dksX8_row_9 22 rfl rfl)
theorem dX8_row_234 : decode cX8_row 234 = .ok (.getfield 178, 3) := dk_180 0 178 (dk_at dksX8_row_10 0 rfl rfl)
theorem dX8_row_237 : decode cX8_row 237 = .ok (.iload 4, 2) := dk_21 4 (dk_at dksX8_row_10 3 rfl rfl)
theorem dX8_row_239 : decode cX8_row 239 = .ok (.ior, 1) := dk_128 (dk_at dksX8_row_10 5 rfl rfl)
theorem dX8_row_240 : decode cX8_row 240 = .ok (.putfield 178, 3) := dk_181 0 178 (dk_at dksX8_row_10 6 rfl rfl)
theorem dX8_row_243 : decode cX8_row 243 = .ok (.iload 5, 2) := dk_21 5 (dk_at dksX8_row_10 9 rfl rfl)
theorem dX8_row_245 : decode cX8_row 245 = .ok (.bipush 120, 2) := dk_16 120 (dk_at dksX8_row_10 11 rfl rfl)
theorem dX8_row_247 : decode cX8_row 247 = .ok (.if_icmp .ne 14, 3) := dk_160 0 14 (dk_at dksX8_row_10 13 rfl rfl)
theorem dX8_row_250 : decode cX8_row 250 = .ok (.aload_n 1, 1) := dk_43 (dk_at dksX8_row_10 16 rfl rfl)
theorem dX8_row_251 : decode cX8_row 251 = .ok (.dup, 1) := dk_89 (dk_at dksX8_row_10 17 rfl rfl)
theorem dX8_row_252 : decode cX8_row 252 = .ok (.getfield 181, 3) := dk_180 0 181 (dk_at dksX8_row_10 18 rfl rfl)
theorem dX8_row_255 : decode cX8_row 255 = .ok (.iload 4, 2) := dk_21 4 (dk_at dksX8_row_10 21 rfl rfl)
theorem dX8_row_257 : decode cX8_row 257 = .ok (.ior, 1) := dk_128 (dk_at dksX8_row_10 23 rfl rfl)
theorem dX8_row_258 : decode cX8_row 258 = .ok (.putfield 181, 3) := dk_181 0 181 (dk_at dksX8_row_11 0 rfl rfl)
theorem dX8_row_261 : decode cX8_row 261 = .ok (.iload 5, 2) := dk_21 5 (dk_at dksX8_row_11 3 rfl rfl)
theorem dX8_row_263 : decode cX8_row 263 = .ok (.bipush 108, 2) := dk_16 108 (dk_at dksX8_row_11 5 rfl rfl)
theorem dX8_row_265 : decode cX8_row 265 = .ok (.if_icmp .eq 10, 3) := dk_159 0 10 (dk_at dksX8_row_11 7 rfl rfl)
theorem dX8_row_268 : decode cX8_row 268 = .ok (.iload 5, 2) := dk_21 5 (dk_at dksX8_row_11 10 rfl rfl)
theorem dX8_row_270 : decode cX8_row 270 = .ok (.bipush 119, 2) := dk_16 119 (dk_at dksX8_row_11 12 rfl rfl)
theorem dX8_row_272 : decode cX8_row 272 = .ok (.if_icmp .ne 14, 3) := dk_160 0 14 (dk_at dksX8_row_11 14 rfl rfl)
theorem dX8_row_275 : decode cX8_row 275 = .ok (.aload_n 0, 1) := dk_42 (dk_at dksX8_row_11 17 rfl rfl)
theorem dX8_row_276 : decode cX8_row 276 = .ok (.dup, 1) := dk_89 (dk_at dksX8_row_11 18 rfl rfl)
theorem dX8_row_277 : decode cX8_row 277 = .ok (.getfield 184, 3) := dk_180 0 184 (dk_at dksX8_row_11 19 rfl rfl)
theorem dX8_row_280 : decode cX8_row 280 = .ok (.iload 4, 2) := dk_21 4 (dk_at dksX8_row_11 22 rfl rfl)
theorem dX8_row_282 : decode cX8_row 282 = .ok (.ior, 1) := dk_128 (dk_at dksX8_row_12 0 rfl rfl)
theorem dX8_row_283 : decode cX8_row 283 = .ok (.putfield 184, 3) := dk_181 0 184 (dk_at dksX8_row_12 1 rfl rfl)
theorem dX8_row_286 : decode cX8_row 286 = .ok (.iinc 3 1, 3) := dk_132 3 1 (dk_at dksX8_row_12 4 rfl rfl)
theorem dX8_row_289 : decode cX8_row 289 = .ok (.goto (-119), 3) := dk_167 255 137 (dk_at dksX8_row_12 7 rfl rfl)
theorem dX8_row_292 : decode cX8_row 292 = .ok (.aload_n 1, 1) := dk_43 (dk_at dksX8_row_12 10 rfl rfl)
theorem dX8_row_293 : decode cX8_row 293 = .ok (.dup, 1) := dk_89 (dk_at dksX8_row_12 11 rfl rfl)
theorem dX8_row_294 : decode cX8_row 294 = .ok (.getfield 159, 3) := dk_180 0 159 (dk_at dksX8_row_12 12 rfl rfl)
theorem dX8_row_297 : decode cX8_row 297 = .ok (.iconst 1, 1) := dk_4 (dk_at dksX8_row_12 15 rfl rfl)
theorem dX8_row_298 : decode cX8_row 298 = .ok (.iadd, 1) := dk_96 (dk_at dksX8_row_12 16 rfl rfl)
theorem dX8_row_299 : decode cX8_row 299 = .ok (.putfield 159, 3) := dk_181 0 159 (dk_at dksX8_row_12 17 rfl rfl)
theorem dX8_row_302 : decode cX8_row 302 = .ok (.aload_n 0, 1) := dk_42 (dk_at dksX8_row_12 20 rfl rfl)
theorem dX8_row_303 : decode cX8_row 303 = .ok (.invokevirtual 19, 3) := dk_182 0 19 (dk_at dksX8_row_12 21 rfl rfl)
theorem dX8_row_306 : decode cX8_row 306 = .ok (.aload_n 0, 1) := dk_42 (dk_at dksX8_row_13 0 rfl rfl)
theorem dX8_row_307 : decode cX8_row 307 = .ok (.invokevirtual 156, 3) := dk_182 0 156 (dk_at dksX8_row_13 1 rfl rfl)
theorem dX8_row_310 : decode cX8_row 310 = .ok (.return_, 1) := dk_177 (dk_at dksX8_row_13 4 rfl rfl)
abbrev cX8_rule : ByteArray := prog_9_method_19_code
def yX8_rule : MethodName := ⟨RX8, "rule", "(LWindowHill$Town;)V"⟩
def dkwX8_rule_3 : List UInt8 := [89, 180, 0, 187, 4, 96, 181, 0, 187, 177]
abbrev dktX8_rule_3 : List UInt8 := dkwX8_rule_3 ++ []
def dkwX8_rule_2 : List UInt8 := [182, 0, 197, 79, 43, 180, 0, 201, 28, 42, 18, 106, 182, 0, 197, 79, 43, 180, 0, 203, 28, 33, 80, 43]
abbrev dktX8_rule_2 : List UInt8 := dkwX8_rule_2 ++ dktX8_rule_3
def dkwX8_rule_1 : List UInt8 := [182, 0, 59, 191, 42, 182, 0, 19, 42, 43, 182, 0, 190, 66, 43, 180, 0, 194, 28, 42, 18, 104]
abbrev dktX8_rule_1 : List UInt8 := dkwX8_rule_1 ++ dktX8_rule_2
def dkwX8_rule_0 : List UInt8 := [43, 180, 0, 187, 61, 28, 7, 160, 0, 20, 42, 180, 0, 3, 180, 0, 55, 16, 6, 42, 180, 0, 29]
abbrev dktX8_rule_0 : List UInt8 := dkwX8_rule_0 ++ dktX8_rule_1
theorem dksX8_rule_0 : cX8_rule.data.toList.drop 0 = dktX8_rule_0 := by decide +kernel
theorem dksX8_rule_1 : cX8_rule.data.toList.drop 23 = dktX8_rule_1 := dk_seg dksX8_rule_0 23 rfl rfl
theorem dksX8_rule_2 : cX8_rule.data.toList.drop 45 = dktX8_rule_2 := dk_seg dksX8_rule_1 22 rfl rfl
theorem dksX8_rule_3 : cX8_rule.data.toList.drop 69 = dktX8_rule_3 := dk_seg dksX8_rule_2 24 rfl rfl
theorem dX8_rule_0 : decode cX8_rule 0 = .ok (.aload_n 1, 1) := dk_43 (dk_at dksX8_rule_0 0 rfl rfl)
theorem dX8_rule_1 : decode cX8_rule 1 = .ok (.getfield 187, 3) := dk_180 0 187 (dk_at dksX8_rule_0 1 rfl rfl)
theorem dX8_rule_4 : decode cX8_rule 4 = .ok (.istore_n 2, 1) := dk_61 (dk_at dksX8_rule_0 4 rfl rfl)
theorem dX8_rule_5 : decode cX8_rule 5 = .ok (.iload_n 2, 1) := dk_28 (dk_at dksX8_rule_0 5 rfl rfl)
theorem dX8_rule_6 : decode cX8_rule 6 = .ok (.iconst 4, 1) := dk_7 (dk_at dksX8_rule_0 6 rfl rfl)
theorem dX8_rule_7 : decode cX8_rule 7 = .ok (.if_icmp .ne 20, 3) := dk_160 0 20 (dk_at dksX8_rule_0 7 rfl rfl)
theorem dX8_rule_10 : decode cX8_rule 10 = .ok (.aload_n 0, 1) := dk_42 (dk_at dksX8_rule_0 10 rfl rfl)
theorem dX8_rule_11 : decode cX8_rule 11 = .ok (.getfield 3, 3) := dk_180 0 3 (dk_at dksX8_rule_0 11 rfl rfl)
theorem dX8_rule_14 : decode cX8_rule 14 = .ok (.getfield 55, 3) := dk_180 0 55 (dk_at dksX8_rule_0 14 rfl rfl)
theorem dX8_rule_17 : decode cX8_rule 17 = .ok (.bipush 6, 2) := dk_16 6 (dk_at dksX8_rule_0 17 rfl rfl)
theorem dX8_rule_19 : decode cX8_rule 19 = .ok (.aload_n 0, 1) := dk_42 (dk_at dksX8_rule_0 19 rfl rfl)
theorem dX8_rule_20 : decode cX8_rule 20 = .ok (.getfield 29, 3) := dk_180 0 29 (dk_at dksX8_rule_0 20 rfl rfl)
theorem dX8_rule_23 : decode cX8_rule 23 = .ok (.invokevirtual 59, 3) := dk_182 0 59 (dk_at dksX8_rule_1 0 rfl rfl)
theorem dX8_rule_26 : decode cX8_rule 26 = .ok (.athrow, 1) := dk_191 (dk_at dksX8_rule_1 3 rfl rfl)
theorem dX8_rule_27 : decode cX8_rule 27 = .ok (.aload_n 0, 1) := dk_42 (dk_at dksX8_rule_1 4 rfl rfl)
theorem dX8_rule_28 : decode cX8_rule 28 = .ok (.invokevirtual 19, 3) := dk_182 0 19 (dk_at dksX8_rule_1 5 rfl rfl)
theorem dX8_rule_31 : decode cX8_rule 31 = .ok (.aload_n 0, 1) := dk_42 (dk_at dksX8_rule_1 8 rfl rfl)
theorem dX8_rule_32 : decode cX8_rule 32 = .ok (.aload_n 1, 1) := dk_43 (dk_at dksX8_rule_1 9 rfl rfl)
theorem dX8_rule_33 : decode cX8_rule 33 = .ok (.invokevirtual 190, 3) := dk_182 0 190 (dk_at dksX8_rule_1 10 rfl rfl)
theorem dX8_rule_36 : decode cX8_rule 36 = .ok (.lstore_n 3, 1) := dk_66 (dk_at dksX8_rule_1 13 rfl rfl)
theorem dX8_rule_37 : decode cX8_rule 37 = .ok (.aload_n 1, 1) := dk_43 (dk_at dksX8_rule_1 14 rfl rfl)
theorem dX8_rule_38 : decode cX8_rule 38 = .ok (.getfield 194, 3) := dk_180 0 194 (dk_at dksX8_rule_1 15 rfl rfl)
theorem dX8_rule_41 : decode cX8_rule 41 = .ok (.iload_n 2, 1) := dk_28 (dk_at dksX8_rule_1 18 rfl rfl)
theorem dX8_rule_42 : decode cX8_rule 42 = .ok (.aload_n 0, 1) := dk_42 (dk_at dksX8_rule_1 19 rfl rfl)
theorem dX8_rule_43 : decode cX8_rule 43 = .ok (.ldc 104, 2) := dk_18 104 (dk_at dksX8_rule_1 20 rfl rfl)
theorem dX8_rule_45 : decode cX8_rule 45 = .ok (.invokevirtual 197, 3) := dk_182 0 197 (dk_at dksX8_rule_2 0 rfl rfl)
theorem dX8_rule_48 : decode cX8_rule 48 = .ok (.iastore, 1) := dk_79 (dk_at dksX8_rule_2 3 rfl rfl)
theorem dX8_rule_49 : decode cX8_rule 49 = .ok (.aload_n 1, 1) := dk_43 (dk_at dksX8_rule_2 4 rfl rfl)
theorem dX8_rule_50 : decode cX8_rule 50 = .ok (.getfield 201, 3) := dk_180 0 201 (dk_at dksX8_rule_2 5 rfl rfl)
theorem dX8_rule_53 : decode cX8_rule 53 = .ok (.iload_n 2, 1) := dk_28 (dk_at dksX8_rule_2 8 rfl rfl)
theorem dX8_rule_54 : decode cX8_rule 54 = .ok (.aload_n 0, 1) := dk_42 (dk_at dksX8_rule_2 9 rfl rfl)
theorem dX8_rule_55 : decode cX8_rule 55 = .ok (.ldc 106, 2) := dk_18 106 (dk_at dksX8_rule_2 10 rfl rfl)
theorem dX8_rule_57 : decode cX8_rule 57 = .ok (.invokevirtual 197, 3) := dk_182 0 197 (dk_at dksX8_rule_2 12 rfl rfl)
theorem dX8_rule_60 : decode cX8_rule 60 = .ok (.iastore, 1) := dk_79 (dk_at dksX8_rule_2 15 rfl rfl)
theorem dX8_rule_61 : decode cX8_rule 61 = .ok (.aload_n 1, 1) := dk_43 (dk_at dksX8_rule_2 16 rfl rfl)
theorem dX8_rule_62 : decode cX8_rule 62 = .ok (.getfield 203, 3) := dk_180 0 203 (dk_at dksX8_rule_2 17 rfl rfl)
theorem dX8_rule_65 : decode cX8_rule 65 = .ok (.iload_n 2, 1) := dk_28 (dk_at dksX8_rule_2 20 rfl rfl)
theorem dX8_rule_66 : decode cX8_rule 66 = .ok (.lload_n 3, 1) := dk_33 (dk_at dksX8_rule_2 21 rfl rfl)
theorem dX8_rule_67 : decode cX8_rule 67 = .ok (.lastore, 1) := dk_80 (dk_at dksX8_rule_2 22 rfl rfl)
theorem dX8_rule_68 : decode cX8_rule 68 = .ok (.aload_n 1, 1) := dk_43 (dk_at dksX8_rule_2 23 rfl rfl)
theorem dX8_rule_69 : decode cX8_rule 69 = .ok (.dup, 1) := dk_89 (dk_at dksX8_rule_3 0 rfl rfl)
theorem dX8_rule_70 : decode cX8_rule 70 = .ok (.getfield 187, 3) := dk_180 0 187 (dk_at dksX8_rule_3 1 rfl rfl)
theorem dX8_rule_73 : decode cX8_rule 73 = .ok (.iconst 1, 1) := dk_4 (dk_at dksX8_rule_3 4 rfl rfl)
theorem dX8_rule_74 : decode cX8_rule 74 = .ok (.iadd, 1) := dk_96 (dk_at dksX8_rule_3 5 rfl rfl)
theorem dX8_rule_75 : decode cX8_rule 75 = .ok (.putfield 187, 3) := dk_181 0 187 (dk_at dksX8_rule_3 6 rfl rfl)
theorem dX8_rule_78 : decode cX8_rule 78 = .ok (.return_, 1) := dk_177 (dk_at dksX8_rule_3 9 rfl rfl)
abbrev cX8_fresh : ByteArray := prog_9_method_15_code
def yX8_fresh : MethodName := ⟨RX8, "fresh", "(LWindowHill$Town;)J"⟩
def dkwX8_fresh_1 : List UInt8 := [180, 0, 29, 182, 0, 59, 191, 42, 182, 0, 19, 32, 173]
abbrev dktX8_fresh_1 : List UInt8 := dkwX8_fresh_1 ++ []
def dkwX8_fresh_0 : List UInt8 := [42, 182, 0, 134, 65, 43, 32, 182, 0, 138, 153, 0, 19, 42, 180, 0, 3, 180, 0, 55, 6, 42]
abbrev dktX8_fresh_0 : List UInt8 := dkwX8_fresh_0 ++ dktX8_fresh_1
theorem dksX8_fresh_0 : cX8_fresh.data.toList.drop 0 = dktX8_fresh_0 := by decide +kernel
theorem dksX8_fresh_1 : cX8_fresh.data.toList.drop 22 = dktX8_fresh_1 := dk_seg dksX8_fresh_0 22 rfl rfl
theorem dX8_fresh_0 : decode cX8_fresh 0 = .ok (.aload_n 0, 1) := dk_42 (dk_at dksX8_fresh_0 0 rfl rfl)
theorem dX8_fresh_1 : decode cX8_fresh 1 = .ok (.invokevirtual 134, 3) := dk_182 0 134 (dk_at dksX8_fresh_0 1 rfl rfl)
theorem dX8_fresh_4 : decode cX8_fresh 4 = .ok (.lstore_n 2, 1) := dk_65 (dk_at dksX8_fresh_0 4 rfl rfl)
theorem dX8_fresh_5 : decode cX8_fresh 5 = .ok (.aload_n 1, 1) := dk_43 (dk_at dksX8_fresh_0 5 rfl rfl)
theorem dX8_fresh_6 : decode cX8_fresh 6 = .ok (.lload_n 2, 1) := dk_32 (dk_at dksX8_fresh_0 6 rfl rfl)
theorem dX8_fresh_7 : decode cX8_fresh 7 = .ok (.invokevirtual 138, 3) := dk_182 0 138 (dk_at dksX8_fresh_0 7 rfl rfl)
theorem dX8_fresh_10 : decode cX8_fresh 10 = .ok (.ifCond .eq 19, 3) := dk_153 0 19 (dk_at dksX8_fresh_0 10 rfl rfl)
theorem dX8_fresh_13 : decode cX8_fresh 13 = .ok (.aload_n 0, 1) := dk_42 (dk_at dksX8_fresh_0 13 rfl rfl)
theorem dX8_fresh_14 : decode cX8_fresh 14 = .ok (.getfield 3, 3) := dk_180 0 3 (dk_at dksX8_fresh_0 14 rfl rfl)
theorem dX8_fresh_17 : decode cX8_fresh 17 = .ok (.getfield 55, 3) := dk_180 0 55 (dk_at dksX8_fresh_0 17 rfl rfl)
theorem dX8_fresh_20 : decode cX8_fresh 20 = .ok (.iconst 3, 1) := dk_6 (dk_at dksX8_fresh_0 20 rfl rfl)
theorem dX8_fresh_21 : decode cX8_fresh 21 = .ok (.aload_n 0, 1) := dk_42 (dk_at dksX8_fresh_0 21 rfl rfl)
theorem dX8_fresh_22 : decode cX8_fresh 22 = .ok (.getfield 29, 3) := dk_180 0 29 (dk_at dksX8_fresh_1 0 rfl rfl)
theorem dX8_fresh_25 : decode cX8_fresh 25 = .ok (.invokevirtual 59, 3) := dk_182 0 59 (dk_at dksX8_fresh_1 3 rfl rfl)
theorem dX8_fresh_28 : decode cX8_fresh 28 = .ok (.athrow, 1) := dk_191 (dk_at dksX8_fresh_1 6 rfl rfl)
theorem dX8_fresh_29 : decode cX8_fresh 29 = .ok (.aload_n 0, 1) := dk_42 (dk_at dksX8_fresh_1 7 rfl rfl)
theorem dX8_fresh_30 : decode cX8_fresh 30 = .ok (.invokevirtual 19, 3) := dk_182 0 19 (dk_at dksX8_fresh_1 8 rfl rfl)
theorem dX8_fresh_33 : decode cX8_fresh 33 = .ok (.lload_n 2, 1) := dk_32 (dk_at dksX8_fresh_1 11 rfl rfl)
theorem dX8_fresh_34 : decode cX8_fresh 34 = .ok (.lreturn, 1) := dk_173 (dk_at dksX8_fresh_1 12 rfl rfl)
abbrev cX8_name : ByteArray := prog_9_method_14_code
def yX8_name : MethodName := ⟨RX8, "name", "()J"⟩
def dkwX8_name_3 : List UInt8 := [132, 3, 1, 167, 255, 224, 31, 173]
abbrev dktX8_name_3 : List UInt8 := dkwX8_name_3 ++ []
def dkwX8_name_2 : List UInt8 := [162, 0, 30, 31, 20, 0, 130, 105, 42, 180, 0, 3, 180, 0, 22, 29, 51, 133, 97, 20, 0, 132, 101, 64]
abbrev dktX8_name_2 : List UInt8 := dkwX8_name_2 ++ dktX8_name_3
def dkwX8_name_1 : List UInt8 := [182, 0, 126, 153, 0, 8, 42, 182, 0, 68, 191, 9, 64, 42, 180, 0, 29, 62, 29, 42, 180, 0, 26]
abbrev dktX8_name_1 : List UInt8 := dkwX8_name_1 ++ dktX8_name_2
def dkwX8_name_0 : List UInt8 := [42, 180, 0, 32, 4, 160, 0, 24, 42, 180, 0, 26, 42, 180, 0, 29, 100, 16, 8, 163, 0, 10, 42]
abbrev dktX8_name_0 : List UInt8 := dkwX8_name_0 ++ dktX8_name_1
theorem dksX8_name_0 : cX8_name.data.toList.drop 0 = dktX8_name_0 := by decide +kernel
theorem dksX8_name_1 : cX8_name.data.toList.drop 23 = dktX8_name_1 := dk_seg dksX8_name_0 23 rfl rfl
theorem dksX8_name_2 : cX8_name.data.toList.drop 46 = dktX8_name_2 := dk_seg dksX8_name_1 23 rfl rfl
theorem dksX8_name_3 : cX8_name.data.toList.drop 70 = dktX8_name_3 := dk_seg dksX8_name_2 24 rfl rfl
theorem dX8_name_0 : decode cX8_name 0 = .ok (.aload_n 0, 1) := dk_42 (dk_at dksX8_name_0 0 rfl rfl)
theorem dX8_name_1 : decode cX8_name 1 = .ok (.getfield 32, 3) := dk_180 0 32 (dk_at dksX8_name_0 1 rfl rfl)
theorem dX8_name_4 : decode cX8_name 4 = .ok (.iconst 1, 1) := dk_4 (dk_at dksX8_name_0 4 rfl rfl)
theorem dX8_name_5 : decode cX8_name 5 = .ok (.if_icmp .ne 24, 3) := dk_160 0 24 (dk_at dksX8_name_0 5 rfl rfl)
theorem dX8_name_8 : decode cX8_name 8 = .ok (.aload_n 0, 1) := dk_42 (dk_at dksX8_name_0 8 rfl rfl)
theorem dX8_name_9 : decode cX8_name 9 = .ok (.getfield 26, 3) := dk_180 0 26 (dk_at dksX8_name_0 9 rfl rfl)
theorem dX8_name_12 : decode cX8_name 12 = .ok (.aload_n 0, 1) := dk_42 (dk_at dksX8_name_0 12 rfl rfl)
theorem dX8_name_13 : decode cX8_name 13 = .ok (.getfield 29, 3) := dk_180 0 29 (dk_at dksX8_name_0 13 rfl rfl)
theorem dX8_name_16 : decode cX8_name 16 = .ok (.isub, 1) := dk_100 (dk_at dksX8_name_0 16 rfl rfl)
theorem dX8_name_17 : decode cX8_name 17 = .ok (.bipush 8, 2) := dk_16 8 (dk_at dksX8_name_0 17 rfl rfl)
theorem dX8_name_19 : decode cX8_name 19 = .ok (.if_icmp .gt 10, 3) := dk_163 0 10 (dk_at dksX8_name_0 19 rfl rfl)
theorem dX8_name_22 : decode cX8_name 22 = .ok (.aload_n 0, 1) := dk_42 (dk_at dksX8_name_0 22 rfl rfl)
theorem dX8_name_23 : decode cX8_name 23 = .ok (.invokevirtual 126, 3) := dk_182 0 126 (dk_at dksX8_name_1 0 rfl rfl)
theorem dX8_name_26 : decode cX8_name 26 = .ok (.ifCond .eq 8, 3) := dk_153 0 8 (dk_at dksX8_name_1 3 rfl rfl)
theorem dX8_name_29 : decode cX8_name 29 = .ok (.aload_n 0, 1) := dk_42 (dk_at dksX8_name_1 6 rfl rfl)
theorem dX8_name_30 : decode cX8_name 30 = .ok (.invokevirtual 68, 3) := dk_182 0 68 (dk_at dksX8_name_1 7 rfl rfl)
theorem dX8_name_33 : decode cX8_name 33 = .ok (.athrow, 1) := dk_191 (dk_at dksX8_name_1 10 rfl rfl)
theorem dX8_name_34 : decode cX8_name 34 = .ok (.lconst 0, 1) := dk_9 (dk_at dksX8_name_1 11 rfl rfl)
theorem dX8_name_35 : decode cX8_name 35 = .ok (.lstore_n 1, 1) := dk_64 (dk_at dksX8_name_1 12 rfl rfl)
theorem dX8_name_36 : decode cX8_name 36 = .ok (.aload_n 0, 1) := dk_42 (dk_at dksX8_name_1 13 rfl rfl)
theorem dX8_name_37 : decode cX8_name 37 = .ok (.getfield 29, 3) := dk_180 0 29 (dk_at dksX8_name_1 14 rfl rfl)
theorem dX8_name_40 : decode cX8_name 40 = .ok (.istore_n 3, 1) := dk_62 (dk_at dksX8_name_1 17 rfl rfl)
theorem dX8_name_41 : decode cX8_name 41 = .ok (.iload_n 3, 1) := dk_29 (dk_at dksX8_name_1 18 rfl rfl)
theorem dX8_name_42 : decode cX8_name 42 = .ok (.aload_n 0, 1) := dk_42 (dk_at dksX8_name_1 19 rfl rfl)
theorem dX8_name_43 : decode cX8_name 43 = .ok (.getfield 26, 3) := dk_180 0 26 (dk_at dksX8_name_1 20 rfl rfl)
theorem dX8_name_46 : decode cX8_name 46 = .ok (.if_icmp .ge 30, 3) := dk_162 0 30 (dk_at dksX8_name_2 0 rfl rfl)
theorem dX8_name_49 : decode cX8_name 49 = .ok (.lload_n 1, 1) := dk_31 (dk_at dksX8_name_2 3 rfl rfl)
theorem dX8_name_50 : decode cX8_name 50 = .ok (.ldc2_w 130, 3) := dk_20 0 130 (dk_at dksX8_name_2 4 rfl rfl)
theorem dX8_name_53 : decode cX8_name 53 = .ok (.lmul, 1) := dk_105 (dk_at dksX8_name_2 7 rfl rfl)
theorem dX8_name_54 : decode cX8_name 54 = .ok (.aload_n 0, 1) := dk_42 (dk_at dksX8_name_2 8 rfl rfl)
theorem dX8_name_55 : decode cX8_name 55 = .ok (.getfield 3, 3) := dk_180 0 3 (dk_at dksX8_name_2 9 rfl rfl)
theorem dX8_name_58 : decode cX8_name 58 = .ok (.getfield 22, 3) := dk_180 0 22 (dk_at dksX8_name_2 12 rfl rfl)
theorem dX8_name_61 : decode cX8_name 61 = .ok (.iload_n 3, 1) := dk_29 (dk_at dksX8_name_2 15 rfl rfl)
theorem dX8_name_62 : decode cX8_name 62 = .ok (.baload, 1) := dk_51 (dk_at dksX8_name_2 16 rfl rfl)
theorem dX8_name_63 : decode cX8_name 63 = .ok (.i2l, 1) := dk_133 (dk_at dksX8_name_2 17 rfl rfl)
theorem dX8_name_64 : decode cX8_name 64 = .ok (.ladd, 1) := dk_97 (dk_at dksX8_name_2 18 rfl rfl)
theorem dX8_name_65 : decode cX8_name 65 = .ok (.ldc2_w 132, 3) := dk_20 0 132 (dk_at dksX8_name_2 19 rfl rfl)
theorem dX8_name_68 : decode cX8_name 68 = .ok (.lsub, 1) := dk_101 (dk_at dksX8_name_2 22 rfl rfl)
theorem dX8_name_69 : decode cX8_name 69 = .ok (.lstore_n 1, 1) := dk_64 (dk_at dksX8_name_2 23 rfl rfl)
theorem dX8_name_70 : decode cX8_name 70 = .ok (.iinc 3 1, 3) := dk_132 3 1 (dk_at dksX8_name_3 0 rfl rfl)
theorem dX8_name_73 : decode cX8_name 73 = .ok (.goto (-32), 3) := dk_167 255 224 (dk_at dksX8_name_3 3 rfl rfl)
theorem dX8_name_76 : decode cX8_name 76 = .ok (.lload_n 1, 1) := dk_31 (dk_at dksX8_name_3 6 rfl rfl)
theorem dX8_name_77 : decode cX8_name 77 = .ok (.lreturn, 1) := dk_173 (dk_at dksX8_name_3 7 rfl rfl)
abbrev cX8_isKept : ByteArray := prog_9_method_13_code
def yX8_isKept : MethodName := ⟨RX8, "isKept", "()Z"⟩
def dkwX8_isKept_5 : List UInt8 := [182, 0, 72, 154, 0, 12, 42, 18, 124, 182, 0, 72, 153, 0, 7, 4, 167, 0, 4, 3, 172]
abbrev dktX8_isKept_5 : List UInt8 := dkwX8_isKept_5 ++ []
def dkwX8_isKept_4 : List UInt8 := [156, 0, 37, 42, 182, 0, 117, 156, 0, 30, 42, 18, 120, 182, 0, 72, 154, 0, 21, 42, 18, 122]
abbrev dktX8_isKept_4 : List UInt8 := dkwX8_isKept_4 ++ dktX8_isKept_5
def dkwX8_isKept_3 : List UInt8 := [42, 18, 112, 182, 0, 72, 153, 0, 7, 4, 167, 0, 4, 3, 60, 27, 154, 0, 44, 42, 182, 0, 114]
abbrev dktX8_isKept_3 : List UInt8 := dkwX8_isKept_3 ++ dktX8_isKept_4
def dkwX8_isKept_2 : List UInt8 := [182, 0, 72, 154, 0, 30, 42, 18, 108, 182, 0, 72, 154, 0, 21, 42, 18, 110, 182, 0, 72, 154, 0, 12]
abbrev dktX8_isKept_2 : List UInt8 := dkwX8_isKept_2 ++ dktX8_isKept_3
def dkwX8_isKept_1 : List UInt8 := [154, 0, 57, 42, 18, 102, 182, 0, 72, 154, 0, 48, 42, 18, 104, 182, 0, 72, 154, 0, 39, 42, 18, 106]
abbrev dktX8_isKept_1 : List UInt8 := dkwX8_isKept_1 ++ dktX8_isKept_2
def dkwX8_isKept_0 : List UInt8 := [42, 18, 96, 182, 0, 72, 154, 0, 75, 42, 18, 98, 182, 0, 72, 154, 0, 66, 42, 18, 100, 182, 0, 72]
abbrev dktX8_isKept_0 : List UInt8 := dkwX8_isKept_0 ++ dktX8_isKept_1
theorem dksX8_isKept_0 : cX8_isKept.data.toList.drop 0 = dktX8_isKept_0 := by decide +kernel
theorem dksX8_isKept_1 : cX8_isKept.data.toList.drop 24 = dktX8_isKept_1 := dk_seg dksX8_isKept_0 24 rfl rfl
theorem dksX8_isKept_2 : cX8_isKept.data.toList.drop 48 = dktX8_isKept_2 := dk_seg dksX8_isKept_1 24 rfl rfl
theorem dksX8_isKept_3 : cX8_isKept.data.toList.drop 72 = dktX8_isKept_3 := dk_seg dksX8_isKept_2 24 rfl rfl
theorem dksX8_isKept_4 : cX8_isKept.data.toList.drop 95 = dktX8_isKept_4 := dk_seg dksX8_isKept_3 23 rfl rfl
theorem dksX8_isKept_5 : cX8_isKept.data.toList.drop 117 = dktX8_isKept_5 := dk_seg dksX8_isKept_4 22 rfl rfl
theorem dX8_isKept_0 : decode cX8_isKept 0 = .ok (.aload_n 0, 1) := dk_42 (dk_at dksX8_isKept_0 0 rfl rfl)
theorem dX8_isKept_1 : decode cX8_isKept 1 = .ok (.ldc 96, 2) := dk_18 96 (dk_at dksX8_isKept_0 1 rfl rfl)
theorem dX8_isKept_3 : decode cX8_isKept 3 = .ok (.invokevirtual 72, 3) := dk_182 0 72 (dk_at dksX8_isKept_0 3 rfl rfl)
theorem dX8_isKept_6 : decode cX8_isKept 6 = .ok (.ifCond .ne 75, 3) := dk_154 0 75 (dk_at dksX8_isKept_0 6 rfl rfl)
theorem dX8_isKept_9 : decode cX8_isKept 9 = .ok (.aload_n 0, 1) := dk_42 (dk_at dksX8_isKept_0 9 rfl rfl)
theorem dX8_isKept_10 : decode cX8_isKept 10 = .ok (.ldc 98, 2) := dk_18 98 (dk_at dksX8_isKept_0 10 rfl rfl)
theorem dX8_isKept_12 : decode cX8_isKept 12 = .ok (.invokevirtual 72, 3) := dk_182 0 72 (dk_at dksX8_isKept_0 12 rfl rfl)
theorem dX8_isKept_15 : decode cX8_isKept 15 = .ok (.ifCond .ne 66, 3) := dk_154 0 66 (dk_at dksX8_isKept_0 15 rfl rfl)
theorem dX8_isKept_18 : decode cX8_isKept 18 = .ok (.aload_n 0, 1) := dk_42 (dk_at dksX8_isKept_0 18 rfl rfl)
theorem dX8_isKept_19 : decode cX8_isKept 19 = .ok (.ldc 100, 2) := dk_18 100 (dk_at dksX8_isKept_0 19 rfl rfl)
theorem dX8_isKept_21 : decode cX8_isKept 21 = .ok (.invokevirtual 72, 3) := dk_182 0 72 (dk_at dksX8_isKept_0 21 rfl rfl)
theorem dX8_isKept_24 : decode cX8_isKept 24 = .ok (.ifCond .ne 57, 3) := dk_154 0 57 (dk_at dksX8_isKept_1 0 rfl rfl)
theorem dX8_isKept_27 : decode cX8_isKept 27 = .ok (.aload_n 0, 1) := dk_42 (dk_at dksX8_isKept_1 3 rfl rfl)
theorem dX8_isKept_28 : decode cX8_isKept 28 = .ok (.ldc 102, 2) := dk_18 102 (dk_at dksX8_isKept_1 4 rfl rfl)
theorem dX8_isKept_30 : decode cX8_isKept 30 = .ok (.invokevirtual 72, 3) := dk_182 0 72 (dk_at dksX8_isKept_1 6 rfl rfl)
theorem dX8_isKept_33 : decode cX8_isKept 33 = .ok (.ifCond .ne 48, 3) := dk_154 0 48 (dk_at dksX8_isKept_1 9 rfl rfl)
theorem dX8_isKept_36 : decode cX8_isKept 36 = .ok (.aload_n 0, 1) := dk_42 (dk_at dksX8_isKept_1 12 rfl rfl)
theorem dX8_isKept_37 : decode cX8_isKept 37 = .ok (.ldc 104, 2) := dk_18 104 (dk_at dksX8_isKept_1 13 rfl rfl)
theorem dX8_isKept_39 : decode cX8_isKept 39 = .ok (.invokevirtual 72, 3) := dk_182 0 72 (dk_at dksX8_isKept_1 15 rfl rfl)
theorem dX8_isKept_42 : decode cX8_isKept 42 = .ok (.ifCond .ne 39, 3) := dk_154 0 39 (dk_at dksX8_isKept_1 18 rfl rfl)
theorem dX8_isKept_45 : decode cX8_isKept 45 = .ok (.aload_n 0, 1) := dk_42 (dk_at dksX8_isKept_1 21 rfl rfl)
theorem dX8_isKept_46 : decode cX8_isKept 46 = .ok (.ldc 106, 2) := dk_18 106 (dk_at dksX8_isKept_1 22 rfl rfl)
theorem dX8_isKept_48 : decode cX8_isKept 48 = .ok (.invokevirtual 72, 3) := dk_182 0 72 (dk_at dksX8_isKept_2 0 rfl rfl)
theorem dX8_isKept_51 : decode cX8_isKept 51 = .ok (.ifCond .ne 30, 3) := dk_154 0 30 (dk_at dksX8_isKept_2 3 rfl rfl)
theorem dX8_isKept_54 : decode cX8_isKept 54 = .ok (.aload_n 0, 1) := dk_42 (dk_at dksX8_isKept_2 6 rfl rfl)
theorem dX8_isKept_55 : decode cX8_isKept 55 = .ok (.ldc 108, 2) := dk_18 108 (dk_at dksX8_isKept_2 7 rfl rfl)
theorem dX8_isKept_57 : decode cX8_isKept 57 = .ok (.invokevirtual 72, 3) := dk_182 0 72 (dk_at dksX8_isKept_2 9 rfl rfl)
theorem dX8_isKept_60 : decode cX8_isKept 60 = .ok (.ifCond .ne 21, 3) := dk_154 0 21 (dk_at dksX8_isKept_2 12 rfl rfl)
theorem dX8_isKept_63 : decode cX8_isKept 63 = .ok (.aload_n 0, 1) := dk_42 (dk_at dksX8_isKept_2 15 rfl rfl)
theorem dX8_isKept_64 : decode cX8_isKept 64 = .ok (.ldc 110, 2) := dk_18 110 (dk_at dksX8_isKept_2 16 rfl rfl)
theorem dX8_isKept_66 : decode cX8_isKept 66 = .ok (.invokevirtual 72, 3) := dk_182 0 72 (dk_at dksX8_isKept_2 18 rfl rfl)
theorem dX8_isKept_69 : decode cX8_isKept 69 = .ok (.ifCond .ne 12, 3) := dk_154 0 12 (dk_at dksX8_isKept_2 21 rfl rfl)
theorem dX8_isKept_72 : decode cX8_isKept 72 = .ok (.aload_n 0, 1) := dk_42 (dk_at dksX8_isKept_3 0 rfl rfl)
theorem dX8_isKept_73 : decode cX8_isKept 73 = .ok (.ldc 112, 2) := dk_18 112 (dk_at dksX8_isKept_3 1 rfl rfl)
theorem dX8_isKept_75 : decode cX8_isKept 75 = .ok (.invokevirtual 72, 3) := dk_182 0 72 (dk_at dksX8_isKept_3 3 rfl rfl)
theorem dX8_isKept_78 : decode cX8_isKept 78 = .ok (.ifCond .eq 7, 3) := dk_153 0 7 (dk_at dksX8_isKept_3 6 rfl rfl)
theorem dX8_isKept_81 : decode cX8_isKept 81 = .ok (.iconst 1, 1) := dk_4 (dk_at dksX8_isKept_3 9 rfl rfl)
theorem dX8_isKept_82 : decode cX8_isKept 82 = .ok (.goto 4, 3) := dk_167 0 4 (dk_at dksX8_isKept_3 10 rfl rfl)
theorem dX8_isKept_85 : decode cX8_isKept 85 = .ok (.iconst 0, 1) := dk_3 (dk_at dksX8_isKept_3 13 rfl rfl)
theorem dX8_isKept_86 : decode cX8_isKept 86 = .ok (.istore_n 1, 1) := dk_60 (dk_at dksX8_isKept_3 14 rfl rfl)
theorem dX8_isKept_87 : decode cX8_isKept 87 = .ok (.iload_n 1, 1) := dk_27 (dk_at dksX8_isKept_3 15 rfl rfl)
theorem dX8_isKept_88 : decode cX8_isKept 88 = .ok (.ifCond .ne 44, 3) := dk_154 0 44 (dk_at dksX8_isKept_3 16 rfl rfl)
theorem dX8_isKept_91 : decode cX8_isKept 91 = .ok (.aload_n 0, 1) := dk_42 (dk_at dksX8_isKept_3 19 rfl rfl)
theorem dX8_isKept_92 : decode cX8_isKept 92 = .ok (.invokevirtual 114, 3) := dk_182 0 114 (dk_at dksX8_isKept_3 20 rfl rfl)
theorem dX8_isKept_95 : decode cX8_isKept 95 = .ok (.ifCond .ge 37, 3) := dk_156 0 37 (dk_at dksX8_isKept_4 0 rfl rfl)
theorem dX8_isKept_98 : decode cX8_isKept 98 = .ok (.aload_n 0, 1) := dk_42 (dk_at dksX8_isKept_4 3 rfl rfl)
theorem dX8_isKept_99 : decode cX8_isKept 99 = .ok (.invokevirtual 117, 3) := dk_182 0 117 (dk_at dksX8_isKept_4 4 rfl rfl)
theorem dX8_isKept_102 : decode cX8_isKept 102 = .ok (.ifCond .ge 30, 3) := dk_156 0 30 (dk_at dksX8_isKept_4 7 rfl rfl)
theorem dX8_isKept_105 : decode cX8_isKept 105 = .ok (.aload_n 0, 1) := dk_42 (dk_at dksX8_isKept_4 10 rfl rfl)
theorem dX8_isKept_106 : decode cX8_isKept 106 = .ok (.ldc 120, 2) := dk_18 120 (dk_at dksX8_isKept_4 11 rfl rfl)
theorem dX8_isKept_108 : decode cX8_isKept 108 = .ok (.invokevirtual 72, 3) := dk_182 0 72 (dk_at dksX8_isKept_4 13 rfl rfl)
theorem dX8_isKept_111 : decode cX8_isKept 111 = .ok (.ifCond .ne 21, 3) := dk_154 0 21 (dk_at dksX8_isKept_4 16 rfl rfl)
theorem dX8_isKept_114 : decode cX8_isKept 114 = .ok (.aload_n 0, 1) := dk_42 (dk_at dksX8_isKept_4 19 rfl rfl)
theorem dX8_isKept_115 : decode cX8_isKept 115 = .ok (.ldc 122, 2) := dk_18 122 (dk_at dksX8_isKept_4 20 rfl rfl)
theorem dX8_isKept_117 : decode cX8_isKept 117 = .ok (.invokevirtual 72, 3) := dk_182 0 72 (dk_at dksX8_isKept_5 0 rfl rfl)
theorem dX8_isKept_120 : decode cX8_isKept 120 = .ok (.ifCond .ne 12, 3) := dk_154 0 12 (dk_at dksX8_isKept_5 3 rfl rfl)
theorem dX8_isKept_123 : decode cX8_isKept 123 = .ok (.aload_n 0, 1) := dk_42 (dk_at dksX8_isKept_5 6 rfl rfl)
theorem dX8_isKept_124 : decode cX8_isKept 124 = .ok (.ldc 124, 2) := dk_18 124 (dk_at dksX8_isKept_5 7 rfl rfl)
theorem dX8_isKept_126 : decode cX8_isKept 126 = .ok (.invokevirtual 72, 3) := dk_182 0 72 (dk_at dksX8_isKept_5 9 rfl rfl)
theorem dX8_isKept_129 : decode cX8_isKept 129 = .ok (.ifCond .eq 7, 3) := dk_153 0 7 (dk_at dksX8_isKept_5 12 rfl rfl)
theorem dX8_isKept_132 : decode cX8_isKept 132 = .ok (.iconst 1, 1) := dk_4 (dk_at dksX8_isKept_5 15 rfl rfl)
theorem dX8_isKept_133 : decode cX8_isKept 133 = .ok (.goto 4, 3) := dk_167 0 4 (dk_at dksX8_isKept_5 16 rfl rfl)
theorem dX8_isKept_136 : decode cX8_isKept 136 = .ok (.iconst 0, 1) := dk_3 (dk_at dksX8_isKept_5 19 rfl rfl)
theorem dX8_isKept_137 : decode cX8_isKept 137 = .ok (.ireturn, 1) := dk_172 (dk_at dksX8_isKept_5 20 rfl rfl)
abbrev cX8_acts : ByteArray := prog_9_method_11_code
def yX8_acts : MethodName := ⟨RX8, "acts", "()I"⟩
def dkwX8_acts_3 : List UInt8 := [182, 0, 72, 153, 0, 8, 16, 6, 167, 0, 4, 2, 172]
abbrev dktX8_acts_3 : List UInt8 := dkwX8_acts_3 ++ []
def dkwX8_acts_2 : List UInt8 := [182, 0, 72, 153, 0, 5, 7, 172, 42, 18, 86, 182, 0, 72, 153, 0, 5, 8, 172, 42, 18, 88]
abbrev dktX8_acts_2 : List UInt8 := dkwX8_acts_2 ++ dktX8_acts_3
def dkwX8_acts_1 : List UInt8 := [18, 80, 182, 0, 72, 153, 0, 5, 5, 172, 42, 18, 82, 182, 0, 72, 153, 0, 5, 6, 172, 42, 18, 84]
abbrev dktX8_acts_1 : List UInt8 := dkwX8_acts_1 ++ dktX8_acts_2
def dkwX8_acts_0 : List UInt8 := [42, 18, 76, 182, 0, 72, 153, 0, 5, 3, 172, 42, 18, 78, 182, 0, 72, 153, 0, 5, 4, 172, 42]
abbrev dktX8_acts_0 : List UInt8 := dkwX8_acts_0 ++ dktX8_acts_1
theorem dksX8_acts_0 : cX8_acts.data.toList.drop 0 = dktX8_acts_0 := by decide +kernel
theorem dksX8_acts_1 : cX8_acts.data.toList.drop 23 = dktX8_acts_1 := dk_seg dksX8_acts_0 23 rfl rfl
theorem dksX8_acts_2 : cX8_acts.data.toList.drop 47 = dktX8_acts_2 := dk_seg dksX8_acts_1 24 rfl rfl
theorem dksX8_acts_3 : cX8_acts.data.toList.drop 69 = dktX8_acts_3 := dk_seg dksX8_acts_2 22 rfl rfl
theorem dX8_acts_0 : decode cX8_acts 0 = .ok (.aload_n 0, 1) := dk_42 (dk_at dksX8_acts_0 0 rfl rfl)
theorem dX8_acts_1 : decode cX8_acts 1 = .ok (.ldc 76, 2) := dk_18 76 (dk_at dksX8_acts_0 1 rfl rfl)
theorem dX8_acts_3 : decode cX8_acts 3 = .ok (.invokevirtual 72, 3) := dk_182 0 72 (dk_at dksX8_acts_0 3 rfl rfl)
theorem dX8_acts_6 : decode cX8_acts 6 = .ok (.ifCond .eq 5, 3) := dk_153 0 5 (dk_at dksX8_acts_0 6 rfl rfl)
theorem dX8_acts_9 : decode cX8_acts 9 = .ok (.iconst 0, 1) := dk_3 (dk_at dksX8_acts_0 9 rfl rfl)
theorem dX8_acts_10 : decode cX8_acts 10 = .ok (.ireturn, 1) := dk_172 (dk_at dksX8_acts_0 10 rfl rfl)
theorem dX8_acts_11 : decode cX8_acts 11 = .ok (.aload_n 0, 1) := dk_42 (dk_at dksX8_acts_0 11 rfl rfl)
theorem dX8_acts_12 : decode cX8_acts 12 = .ok (.ldc 78, 2) := dk_18 78 (dk_at dksX8_acts_0 12 rfl rfl)
theorem dX8_acts_14 : decode cX8_acts 14 = .ok (.invokevirtual 72, 3) := dk_182 0 72 (dk_at dksX8_acts_0 14 rfl rfl)
theorem dX8_acts_17 : decode cX8_acts 17 = .ok (.ifCond .eq 5, 3) := dk_153 0 5 (dk_at dksX8_acts_0 17 rfl rfl)
theorem dX8_acts_20 : decode cX8_acts 20 = .ok (.iconst 1, 1) := dk_4 (dk_at dksX8_acts_0 20 rfl rfl)
theorem dX8_acts_21 : decode cX8_acts 21 = .ok (.ireturn, 1) := dk_172 (dk_at dksX8_acts_0 21 rfl rfl)
theorem dX8_acts_22 : decode cX8_acts 22 = .ok (.aload_n 0, 1) := dk_42 (dk_at dksX8_acts_0 22 rfl rfl)
theorem dX8_acts_23 : decode cX8_acts 23 = .ok (.ldc 80, 2) := dk_18 80 (dk_at dksX8_acts_1 0 rfl rfl)
theorem dX8_acts_25 : decode cX8_acts 25 = .ok (.invokevirtual 72, 3) := dk_182 0 72 (dk_at dksX8_acts_1 2 rfl rfl)
theorem dX8_acts_28 : decode cX8_acts 28 = .ok (.ifCond .eq 5, 3) := dk_153 0 5 (dk_at dksX8_acts_1 5 rfl rfl)
theorem dX8_acts_31 : decode cX8_acts 31 = .ok (.iconst 2, 1) := dk_5 (dk_at dksX8_acts_1 8 rfl rfl)
theorem dX8_acts_32 : decode cX8_acts 32 = .ok (.ireturn, 1) := dk_172 (dk_at dksX8_acts_1 9 rfl rfl)
theorem dX8_acts_33 : decode cX8_acts 33 = .ok (.aload_n 0, 1) := dk_42 (dk_at dksX8_acts_1 10 rfl rfl)
theorem dX8_acts_34 : decode cX8_acts 34 = .ok (.ldc 82, 2) := dk_18 82 (dk_at dksX8_acts_1 11 rfl rfl)
theorem dX8_acts_36 : decode cX8_acts 36 = .ok (.invokevirtual 72, 3) := dk_182 0 72 (dk_at dksX8_acts_1 13 rfl rfl)
theorem dX8_acts_39 : decode cX8_acts 39 = .ok (.ifCond .eq 5, 3) := dk_153 0 5 (dk_at dksX8_acts_1 16 rfl rfl)
theorem dX8_acts_42 : decode cX8_acts 42 = .ok (.iconst 3, 1) := dk_6 (dk_at dksX8_acts_1 19 rfl rfl)
theorem dX8_acts_43 : decode cX8_acts 43 = .ok (.ireturn, 1) := dk_172 (dk_at dksX8_acts_1 20 rfl rfl)
theorem dX8_acts_44 : decode cX8_acts 44 = .ok (.aload_n 0, 1) := dk_42 (dk_at dksX8_acts_1 21 rfl rfl)
theorem dX8_acts_45 : decode cX8_acts 45 = .ok (.ldc 84, 2) := dk_18 84 (dk_at dksX8_acts_1 22 rfl rfl)
theorem dX8_acts_47 : decode cX8_acts 47 = .ok (.invokevirtual 72, 3) := dk_182 0 72 (dk_at dksX8_acts_2 0 rfl rfl)
theorem dX8_acts_50 : decode cX8_acts 50 = .ok (.ifCond .eq 5, 3) := dk_153 0 5 (dk_at dksX8_acts_2 3 rfl rfl)
theorem dX8_acts_53 : decode cX8_acts 53 = .ok (.iconst 4, 1) := dk_7 (dk_at dksX8_acts_2 6 rfl rfl)
theorem dX8_acts_54 : decode cX8_acts 54 = .ok (.ireturn, 1) := dk_172 (dk_at dksX8_acts_2 7 rfl rfl)
theorem dX8_acts_55 : decode cX8_acts 55 = .ok (.aload_n 0, 1) := dk_42 (dk_at dksX8_acts_2 8 rfl rfl)
theorem dX8_acts_56 : decode cX8_acts 56 = .ok (.ldc 86, 2) := dk_18 86 (dk_at dksX8_acts_2 9 rfl rfl)
theorem dX8_acts_58 : decode cX8_acts 58 = .ok (.invokevirtual 72, 3) := dk_182 0 72 (dk_at dksX8_acts_2 11 rfl rfl)
theorem dX8_acts_61 : decode cX8_acts 61 = .ok (.ifCond .eq 5, 3) := dk_153 0 5 (dk_at dksX8_acts_2 14 rfl rfl)
theorem dX8_acts_64 : decode cX8_acts 64 = .ok (.iconst 5, 1) := dk_8 (dk_at dksX8_acts_2 17 rfl rfl)
theorem dX8_acts_65 : decode cX8_acts 65 = .ok (.ireturn, 1) := dk_172 (dk_at dksX8_acts_2 18 rfl rfl)
theorem dX8_acts_66 : decode cX8_acts 66 = .ok (.aload_n 0, 1) := dk_42 (dk_at dksX8_acts_2 19 rfl rfl)
theorem dX8_acts_67 : decode cX8_acts 67 = .ok (.ldc 88, 2) := dk_18 88 (dk_at dksX8_acts_2 20 rfl rfl)
theorem dX8_acts_69 : decode cX8_acts 69 = .ok (.invokevirtual 72, 3) := dk_182 0 72 (dk_at dksX8_acts_3 0 rfl rfl)
theorem dX8_acts_72 : decode cX8_acts 72 = .ok (.ifCond .eq 8, 3) := dk_153 0 8 (dk_at dksX8_acts_3 3 rfl rfl)
theorem dX8_acts_75 : decode cX8_acts 75 = .ok (.bipush 6, 2) := dk_16 6 (dk_at dksX8_acts_3 6 rfl rfl)
theorem dX8_acts_77 : decode cX8_acts 77 = .ok (.goto 4, 3) := dk_167 0 4 (dk_at dksX8_acts_3 8 rfl rfl)
theorem dX8_acts_80 : decode cX8_acts 80 = .ok (.iconst (-1), 1) := dk_2 (dk_at dksX8_acts_3 11 rfl rfl)
theorem dX8_acts_81 : decode cX8_acts 81 = .ok (.ireturn, 1) := dk_172 (dk_at dksX8_acts_3 12 rfl rfl)
abbrev cX8_tests : ByteArray := prog_9_method_12_code
def yX8_tests : MethodName := ⟨RX8, "tests", "()I"⟩
def dkwX8_tests_1 : List UInt8 := [167, 0, 17, 42, 18, 94, 182, 0, 72, 153, 0, 7, 5, 167, 0, 4, 2, 172]
abbrev dktX8_tests_1 : List UInt8 := dkwX8_tests_1 ++ []
def dkwX8_tests_0 : List UInt8 := [42, 18, 90, 182, 0, 72, 153, 0, 7, 3, 167, 0, 30, 42, 18, 92, 182, 0, 72, 153, 0, 7, 4]
abbrev dktX8_tests_0 : List UInt8 := dkwX8_tests_0 ++ dktX8_tests_1
theorem dksX8_tests_0 : cX8_tests.data.toList.drop 0 = dktX8_tests_0 := by decide +kernel
theorem dksX8_tests_1 : cX8_tests.data.toList.drop 23 = dktX8_tests_1 := dk_seg dksX8_tests_0 23 rfl rfl
theorem dX8_tests_0 : decode cX8_tests 0 = .ok (.aload_n 0, 1) := dk_42 (dk_at dksX8_tests_0 0 rfl rfl)
theorem dX8_tests_1 : decode cX8_tests 1 = .ok (.ldc 90, 2) := dk_18 90 (dk_at dksX8_tests_0 1 rfl rfl)
theorem dX8_tests_3 : decode cX8_tests 3 = .ok (.invokevirtual 72, 3) := dk_182 0 72 (dk_at dksX8_tests_0 3 rfl rfl)
theorem dX8_tests_6 : decode cX8_tests 6 = .ok (.ifCond .eq 7, 3) := dk_153 0 7 (dk_at dksX8_tests_0 6 rfl rfl)
theorem dX8_tests_9 : decode cX8_tests 9 = .ok (.iconst 0, 1) := dk_3 (dk_at dksX8_tests_0 9 rfl rfl)
theorem dX8_tests_10 : decode cX8_tests 10 = .ok (.goto 30, 3) := dk_167 0 30 (dk_at dksX8_tests_0 10 rfl rfl)
theorem dX8_tests_13 : decode cX8_tests 13 = .ok (.aload_n 0, 1) := dk_42 (dk_at dksX8_tests_0 13 rfl rfl)
theorem dX8_tests_14 : decode cX8_tests 14 = .ok (.ldc 92, 2) := dk_18 92 (dk_at dksX8_tests_0 14 rfl rfl)
theorem dX8_tests_16 : decode cX8_tests 16 = .ok (.invokevirtual 72, 3) := dk_182 0 72 (dk_at dksX8_tests_0 16 rfl rfl)
theorem dX8_tests_19 : decode cX8_tests 19 = .ok (.ifCond .eq 7, 3) := dk_153 0 7 (dk_at dksX8_tests_0 19 rfl rfl)
theorem dX8_tests_22 : decode cX8_tests 22 = .ok (.iconst 1, 1) := dk_4 (dk_at dksX8_tests_0 22 rfl rfl)
theorem dX8_tests_23 : decode cX8_tests 23 = .ok (.goto 17, 3) := dk_167 0 17 (dk_at dksX8_tests_1 0 rfl rfl)
theorem dX8_tests_26 : decode cX8_tests 26 = .ok (.aload_n 0, 1) := dk_42 (dk_at dksX8_tests_1 3 rfl rfl)
theorem dX8_tests_27 : decode cX8_tests 27 = .ok (.ldc 94, 2) := dk_18 94 (dk_at dksX8_tests_1 4 rfl rfl)
theorem dX8_tests_29 : decode cX8_tests 29 = .ok (.invokevirtual 72, 3) := dk_182 0 72 (dk_at dksX8_tests_1 6 rfl rfl)
theorem dX8_tests_32 : decode cX8_tests 32 = .ok (.ifCond .eq 7, 3) := dk_153 0 7 (dk_at dksX8_tests_1 9 rfl rfl)
theorem dX8_tests_35 : decode cX8_tests 35 = .ok (.iconst 2, 1) := dk_5 (dk_at dksX8_tests_1 12 rfl rfl)
theorem dX8_tests_36 : decode cX8_tests 36 = .ok (.goto 4, 3) := dk_167 0 4 (dk_at dksX8_tests_1 13 rfl rfl)
theorem dX8_tests_39 : decode cX8_tests 39 = .ok (.iconst (-1), 1) := dk_2 (dk_at dksX8_tests_1 16 rfl rfl)
theorem dX8_tests_40 : decode cX8_tests 40 = .ok (.ireturn, 1) := dk_172 (dk_at dksX8_tests_1 17 rfl rfl)
abbrev cX8_set : ByteArray := prog_9_method_18_code
def yX8_set : MethodName := ⟨RX8, "set", "(Ljava/lang/String;)I"⟩
def dkwX8_set_2 : List UInt8 := [182, 0, 59, 191, 28, 4, 21, 4, 120, 128, 61, 42, 180, 0, 32, 5, 159, 255, 208, 28, 172]
abbrev dktX8_set_2 : List UInt8 := dkwX8_set_2 ++ []
def dkwX8_set_1 : List UInt8 := [182, 0, 148, 54, 4, 28, 21, 4, 122, 4, 126, 4, 160, 0, 16, 42, 180, 0, 3, 180, 0, 55, 8, 29]
abbrev dktX8_set_1 : List UInt8 := dkwX8_set_1 ++ dktX8_set_2
def dkwX8_set_0 : List UInt8 := [42, 43, 182, 0, 72, 154, 0, 5, 3, 172, 42, 182, 0, 19, 3, 61, 42, 180, 0, 29, 62, 42, 3, 7]
abbrev dktX8_set_0 : List UInt8 := dkwX8_set_0 ++ dktX8_set_1
theorem dksX8_set_0 : cX8_set.data.toList.drop 0 = dktX8_set_0 := by decide +kernel
theorem dksX8_set_1 : cX8_set.data.toList.drop 24 = dktX8_set_1 := dk_seg dksX8_set_0 24 rfl rfl
theorem dksX8_set_2 : cX8_set.data.toList.drop 48 = dktX8_set_2 := dk_seg dksX8_set_1 24 rfl rfl
theorem dX8_set_0 : decode cX8_set 0 = .ok (.aload_n 0, 1) := dk_42 (dk_at dksX8_set_0 0 rfl rfl)
theorem dX8_set_1 : decode cX8_set 1 = .ok (.aload_n 1, 1) := dk_43 (dk_at dksX8_set_0 1 rfl rfl)
theorem dX8_set_2 : decode cX8_set 2 = .ok (.invokevirtual 72, 3) := dk_182 0 72 (dk_at dksX8_set_0 2 rfl rfl)
theorem dX8_set_5 : decode cX8_set 5 = .ok (.ifCond .ne 5, 3) := dk_154 0 5 (dk_at dksX8_set_0 5 rfl rfl)
theorem dX8_set_8 : decode cX8_set 8 = .ok (.iconst 0, 1) := dk_3 (dk_at dksX8_set_0 8 rfl rfl)
theorem dX8_set_9 : decode cX8_set 9 = .ok (.ireturn, 1) := dk_172 (dk_at dksX8_set_0 9 rfl rfl)
theorem dX8_set_10 : decode cX8_set 10 = .ok (.aload_n 0, 1) := dk_42 (dk_at dksX8_set_0 10 rfl rfl)
theorem dX8_set_11 : decode cX8_set 11 = .ok (.invokevirtual 19, 3) := dk_182 0 19 (dk_at dksX8_set_0 11 rfl rfl)
theorem dX8_set_14 : decode cX8_set 14 = .ok (.iconst 0, 1) := dk_3 (dk_at dksX8_set_0 14 rfl rfl)
theorem dX8_set_15 : decode cX8_set 15 = .ok (.istore_n 2, 1) := dk_61 (dk_at dksX8_set_0 15 rfl rfl)
theorem dX8_set_16 : decode cX8_set 16 = .ok (.aload_n 0, 1) := dk_42 (dk_at dksX8_set_0 16 rfl rfl)
theorem dX8_set_17 : decode cX8_set 17 = .ok (.getfield 29, 3) := dk_180 0 29 (dk_at dksX8_set_0 17 rfl rfl)
theorem dX8_set_20 : decode cX8_set 20 = .ok (.istore_n 3, 1) := dk_62 (dk_at dksX8_set_0 20 rfl rfl)
theorem dX8_set_21 : decode cX8_set 21 = .ok (.aload_n 0, 1) := dk_42 (dk_at dksX8_set_0 21 rfl rfl)
theorem dX8_set_22 : decode cX8_set 22 = .ok (.iconst 0, 1) := dk_3 (dk_at dksX8_set_0 22 rfl rfl)
theorem dX8_set_23 : decode cX8_set 23 = .ok (.iconst 4, 1) := dk_7 (dk_at dksX8_set_0 23 rfl rfl)
theorem dX8_set_24 : decode cX8_set 24 = .ok (.invokevirtual 148, 3) := dk_182 0 148 (dk_at dksX8_set_1 0 rfl rfl)
theorem dX8_set_27 : decode cX8_set 27 = .ok (.istore 4, 2) := dk_54 4 (dk_at dksX8_set_1 3 rfl rfl)
theorem dX8_set_29 : decode cX8_set 29 = .ok (.iload_n 2, 1) := dk_28 (dk_at dksX8_set_1 5 rfl rfl)
theorem dX8_set_30 : decode cX8_set 30 = .ok (.iload 4, 2) := dk_21 4 (dk_at dksX8_set_1 6 rfl rfl)
theorem dX8_set_32 : decode cX8_set 32 = .ok (.ishr, 1) := dk_122 (dk_at dksX8_set_1 8 rfl rfl)
theorem dX8_set_33 : decode cX8_set 33 = .ok (.iconst 1, 1) := dk_4 (dk_at dksX8_set_1 9 rfl rfl)
theorem dX8_set_34 : decode cX8_set 34 = .ok (.iand, 1) := dk_126 (dk_at dksX8_set_1 10 rfl rfl)
theorem dX8_set_35 : decode cX8_set 35 = .ok (.iconst 1, 1) := dk_4 (dk_at dksX8_set_1 11 rfl rfl)
theorem dX8_set_36 : decode cX8_set 36 = .ok (.if_icmp .ne 16, 3) := dk_160 0 16 (dk_at dksX8_set_1 12 rfl rfl)
theorem dX8_set_39 : decode cX8_set 39 = .ok (.aload_n 0, 1) := dk_42 (dk_at dksX8_set_1 15 rfl rfl)
theorem dX8_set_40 : decode cX8_set 40 = .ok (.getfield 3, 3) := dk_180 0 3 (dk_at dksX8_set_1 16 rfl rfl)
theorem dX8_set_43 : decode cX8_set 43 = .ok (.getfield 55, 3) := dk_180 0 55 (dk_at dksX8_set_1 19 rfl rfl)
theorem dX8_set_46 : decode cX8_set 46 = .ok (.iconst 5, 1) := dk_8 (dk_at dksX8_set_1 22 rfl rfl)
theorem dX8_set_47 : decode cX8_set 47 = .ok (.iload_n 3, 1) := dk_29 (dk_at dksX8_set_1 23 rfl rfl)
theorem dX8_set_48 : decode cX8_set 48 = .ok (.invokevirtual 59, 3) := dk_182 0 59 (dk_at dksX8_set_2 0 rfl rfl)
theorem dX8_set_51 : decode cX8_set 51 = .ok (.athrow, 1) := dk_191 (dk_at dksX8_set_2 3 rfl rfl)
theorem dX8_set_52 : decode cX8_set 52 = .ok (.iload_n 2, 1) := dk_28 (dk_at dksX8_set_2 4 rfl rfl)
theorem dX8_set_53 : decode cX8_set 53 = .ok (.iconst 1, 1) := dk_4 (dk_at dksX8_set_2 5 rfl rfl)
theorem dX8_set_54 : decode cX8_set 54 = .ok (.iload 4, 2) := dk_21 4 (dk_at dksX8_set_2 6 rfl rfl)
theorem dX8_set_56 : decode cX8_set 56 = .ok (.ishl, 1) := dk_120 (dk_at dksX8_set_2 8 rfl rfl)
theorem dX8_set_57 : decode cX8_set 57 = .ok (.ior, 1) := dk_128 (dk_at dksX8_set_2 9 rfl rfl)
theorem dX8_set_58 : decode cX8_set 58 = .ok (.istore_n 2, 1) := dk_61 (dk_at dksX8_set_2 10 rfl rfl)
theorem dX8_set_59 : decode cX8_set 59 = .ok (.aload_n 0, 1) := dk_42 (dk_at dksX8_set_2 11 rfl rfl)
theorem dX8_set_60 : decode cX8_set 60 = .ok (.getfield 32, 3) := dk_180 0 32 (dk_at dksX8_set_2 12 rfl rfl)
theorem dX8_set_63 : decode cX8_set 63 = .ok (.iconst 2, 1) := dk_5 (dk_at dksX8_set_2 15 rfl rfl)
theorem dX8_set_64 : decode cX8_set 64 = .ok (.if_icmp .eq (-48), 3) := dk_159 255 208 (dk_at dksX8_set_2 16 rfl rfl)
theorem dX8_set_67 : decode cX8_set 67 = .ok (.iload_n 2, 1) := dk_28 (dk_at dksX8_set_2 19 rfl rfl)
theorem dX8_set_68 : decode cX8_set 68 = .ok (.ireturn, 1) := dk_172 (dk_at dksX8_set_2 20 rfl rfl)
abbrev cX8_citizen : ByteArray := prog_9_method_20_code
def yX8_citizen : MethodName := ⟨RX8, "citizen", "(LWindowHill$Town;)V"⟩
def dkwX8_citizen_4 : List UInt8 := [96, 181, 0, 207, 177]
abbrev dktX8_citizen_4 : List UInt8 := dkwX8_citizen_4 ++ []
def dkwX8_citizen_3 : List UInt8 := [180, 0, 210, 28, 46, 16, 30, 182, 0, 148, 79, 43, 180, 0, 216, 28, 33, 80, 43, 89, 180, 0, 207, 4]
abbrev dktX8_citizen_3 : List UInt8 := dkwX8_citizen_3 ++ dktX8_citizen_4
def dkwX8_citizen_2 : List UInt8 := [28, 42, 3, 16, 30, 182, 0, 148, 79, 42, 18, 112, 182, 0, 144, 43, 180, 0, 213, 28, 42, 43]
abbrev dktX8_citizen_2 : List UInt8 := dkwX8_citizen_2 ++ dktX8_citizen_3
def dkwX8_citizen_1 : List UInt8 := [182, 0, 59, 191, 42, 182, 0, 19, 42, 43, 182, 0, 190, 66, 42, 18, 110, 182, 0, 144, 43, 180, 0, 210]
abbrev dktX8_citizen_1 : List UInt8 := dkwX8_citizen_1 ++ dktX8_citizen_2
def dkwX8_citizen_0 : List UInt8 := [43, 180, 0, 207, 61, 28, 16, 6, 160, 0, 20, 42, 180, 0, 3, 180, 0, 55, 16, 6, 42, 180, 0, 29]
abbrev dktX8_citizen_0 : List UInt8 := dkwX8_citizen_0 ++ dktX8_citizen_1
theorem dksX8_citizen_0 : cX8_citizen.data.toList.drop 0 = dktX8_citizen_0 := by decide +kernel
theorem dksX8_citizen_1 : cX8_citizen.data.toList.drop 24 = dktX8_citizen_1 := dk_seg dksX8_citizen_0 24 rfl rfl
theorem dksX8_citizen_2 : cX8_citizen.data.toList.drop 48 = dktX8_citizen_2 := dk_seg dksX8_citizen_1 24 rfl rfl
theorem dksX8_citizen_3 : cX8_citizen.data.toList.drop 70 = dktX8_citizen_3 := dk_seg dksX8_citizen_2 22 rfl rfl
theorem dksX8_citizen_4 : cX8_citizen.data.toList.drop 94 = dktX8_citizen_4 := dk_seg dksX8_citizen_3 24 rfl rfl
theorem dX8_citizen_0 : decode cX8_citizen 0 = .ok (.aload_n 1, 1) := dk_43 (dk_at dksX8_citizen_0 0 rfl rfl)
theorem dX8_citizen_1 : decode cX8_citizen 1 = .ok (.getfield 207, 3) := dk_180 0 207 (dk_at dksX8_citizen_0 1 rfl rfl)
theorem dX8_citizen_4 : decode cX8_citizen 4 = .ok (.istore_n 2, 1) := dk_61 (dk_at dksX8_citizen_0 4 rfl rfl)
theorem dX8_citizen_5 : decode cX8_citizen 5 = .ok (.iload_n 2, 1) := dk_28 (dk_at dksX8_citizen_0 5 rfl rfl)
theorem dX8_citizen_6 : decode cX8_citizen 6 = .ok (.bipush 6, 2) := dk_16 6 (dk_at dksX8_citizen_0 6 rfl rfl)
theorem dX8_citizen_8 : decode cX8_citizen 8 = .ok (.if_icmp .ne 20, 3) := dk_160 0 20 (dk_at dksX8_citizen_0 8 rfl rfl)
theorem dX8_citizen_11 : decode cX8_citizen 11 = .ok (.aload_n 0, 1) := dk_42 (dk_at dksX8_citizen_0 11 rfl rfl)
theorem dX8_citizen_12 : decode cX8_citizen 12 = .ok (.getfield 3, 3) := dk_180 0 3 (dk_at dksX8_citizen_0 12 rfl rfl)
theorem dX8_citizen_15 : decode cX8_citizen 15 = .ok (.getfield 55, 3) := dk_180 0 55 (dk_at dksX8_citizen_0 15 rfl rfl)
theorem dX8_citizen_18 : decode cX8_citizen 18 = .ok (.bipush 6, 2) := dk_16 6 (dk_at dksX8_citizen_0 18 rfl rfl)
theorem dX8_citizen_20 : decode cX8_citizen 20 = .ok (.aload_n 0, 1) := dk_42 (dk_at dksX8_citizen_0 20 rfl rfl)
theorem dX8_citizen_21 : decode cX8_citizen 21 = .ok (.getfield 29, 3) := dk_180 0 29 (dk_at dksX8_citizen_0 21 rfl rfl)
theorem dX8_citizen_24 : decode cX8_citizen 24 = .ok (.invokevirtual 59, 3) := dk_182 0 59 (dk_at dksX8_citizen_1 0 rfl rfl)
theorem dX8_citizen_27 : decode cX8_citizen 27 = .ok (.athrow, 1) := dk_191 (dk_at dksX8_citizen_1 3 rfl rfl)
theorem dX8_citizen_28 : decode cX8_citizen 28 = .ok (.aload_n 0, 1) := dk_42 (dk_at dksX8_citizen_1 4 rfl rfl)
theorem dX8_citizen_29 : decode cX8_citizen 29 = .ok (.invokevirtual 19, 3) := dk_182 0 19 (dk_at dksX8_citizen_1 5 rfl rfl)
theorem dX8_citizen_32 : decode cX8_citizen 32 = .ok (.aload_n 0, 1) := dk_42 (dk_at dksX8_citizen_1 8 rfl rfl)
theorem dX8_citizen_33 : decode cX8_citizen 33 = .ok (.aload_n 1, 1) := dk_43 (dk_at dksX8_citizen_1 9 rfl rfl)
theorem dX8_citizen_34 : decode cX8_citizen 34 = .ok (.invokevirtual 190, 3) := dk_182 0 190 (dk_at dksX8_citizen_1 10 rfl rfl)
theorem dX8_citizen_37 : decode cX8_citizen 37 = .ok (.lstore_n 3, 1) := dk_66 (dk_at dksX8_citizen_1 13 rfl rfl)
theorem dX8_citizen_38 : decode cX8_citizen 38 = .ok (.aload_n 0, 1) := dk_42 (dk_at dksX8_citizen_1 14 rfl rfl)
theorem dX8_citizen_39 : decode cX8_citizen 39 = .ok (.ldc 110, 2) := dk_18 110 (dk_at dksX8_citizen_1 15 rfl rfl)
theorem dX8_citizen_41 : decode cX8_citizen 41 = .ok (.invokevirtual 144, 3) := dk_182 0 144 (dk_at dksX8_citizen_1 17 rfl rfl)
theorem dX8_citizen_44 : decode cX8_citizen 44 = .ok (.aload_n 1, 1) := dk_43 (dk_at dksX8_citizen_1 20 rfl rfl)
theorem dX8_citizen_45 : decode cX8_citizen 45 = .ok (.getfield 210, 3) := dk_180 0 210 (dk_at dksX8_citizen_1 21 rfl rfl)
theorem dX8_citizen_48 : decode cX8_citizen 48 = .ok (.iload_n 2, 1) := dk_28 (dk_at dksX8_citizen_2 0 rfl rfl)
theorem dX8_citizen_49 : decode cX8_citizen 49 = .ok (.aload_n 0, 1) := dk_42 (dk_at dksX8_citizen_2 1 rfl rfl)
theorem dX8_citizen_50 : decode cX8_citizen 50 = .ok (.iconst 0, 1) := dk_3 (dk_at dksX8_citizen_2 2 rfl rfl)
theorem dX8_citizen_51 : decode cX8_citizen 51 = .ok (.bipush 30, 2) := dk_16 30 (dk_at dksX8_citizen_2 3 rfl rfl)
theorem dX8_citizen_53 : decode cX8_citizen 53 = .ok (.invokevirtual 148, 3) := dk_182 0 148 (dk_at dksX8_citizen_2 5 rfl rfl)
theorem dX8_citizen_56 : decode cX8_citizen 56 = .ok (.iastore, 1) := dk_79 (dk_at dksX8_citizen_2 8 rfl rfl)
theorem dX8_citizen_57 : decode cX8_citizen 57 = .ok (.aload_n 0, 1) := dk_42 (dk_at dksX8_citizen_2 9 rfl rfl)
theorem dX8_citizen_58 : decode cX8_citizen 58 = .ok (.ldc 112, 2) := dk_18 112 (dk_at dksX8_citizen_2 10 rfl rfl)
theorem dX8_citizen_60 : decode cX8_citizen 60 = .ok (.invokevirtual 144, 3) := dk_182 0 144 (dk_at dksX8_citizen_2 12 rfl rfl)
theorem dX8_citizen_63 : decode cX8_citizen 63 = .ok (.aload_n 1, 1) := dk_43 (dk_at dksX8_citizen_2 15 rfl rfl)
theorem dX8_citizen_64 : decode cX8_citizen 64 = .ok (.getfield 213, 3) := dk_180 0 213 (dk_at dksX8_citizen_2 16 rfl rfl)
theorem dX8_citizen_67 : decode cX8_citizen 67 = .ok (.iload_n 2, 1) := dk_28 (dk_at dksX8_citizen_2 19 rfl rfl)
theorem dX8_citizen_68 : decode cX8_citizen 68 = .ok (.aload_n 0, 1) := dk_42 (dk_at dksX8_citizen_2 20 rfl rfl)
theorem dX8_citizen_69 : decode cX8_citizen 69 = .ok (.aload_n 1, 1) := dk_43 (dk_at dksX8_citizen_2 21 rfl rfl)
theorem dX8_citizen_70 : decode cX8_citizen 70 = .ok (.getfield 210, 3) := dk_180 0 210 (dk_at dksX8_citizen_3 0 rfl rfl)
theorem dX8_citizen_73 : decode cX8_citizen 73 = .ok (.iload_n 2, 1) := dk_28 (dk_at dksX8_citizen_3 3 rfl rfl)
theorem dX8_citizen_74 : decode cX8_citizen 74 = .ok (.iaload, 1) := dk_46 (dk_at dksX8_citizen_3 4 rfl rfl)
theorem dX8_citizen_75 : decode cX8_citizen 75 = .ok (.bipush 30, 2) := dk_16 30 (dk_at dksX8_citizen_3 5 rfl rfl)
theorem dX8_citizen_77 : decode cX8_citizen 77 = .ok (.invokevirtual 148, 3) := dk_182 0 148 (dk_at dksX8_citizen_3 7 rfl rfl)
theorem dX8_citizen_80 : decode cX8_citizen 80 = .ok (.iastore, 1) := dk_79 (dk_at dksX8_citizen_3 10 rfl rfl)
theorem dX8_citizen_81 : decode cX8_citizen 81 = .ok (.aload_n 1, 1) := dk_43 (dk_at dksX8_citizen_3 11 rfl rfl)
theorem dX8_citizen_82 : decode cX8_citizen 82 = .ok (.getfield 216, 3) := dk_180 0 216 (dk_at dksX8_citizen_3 12 rfl rfl)
theorem dX8_citizen_85 : decode cX8_citizen 85 = .ok (.iload_n 2, 1) := dk_28 (dk_at dksX8_citizen_3 15 rfl rfl)
theorem dX8_citizen_86 : decode cX8_citizen 86 = .ok (.lload_n 3, 1) := dk_33 (dk_at dksX8_citizen_3 16 rfl rfl)
theorem dX8_citizen_87 : decode cX8_citizen 87 = .ok (.lastore, 1) := dk_80 (dk_at dksX8_citizen_3 17 rfl rfl)
theorem dX8_citizen_88 : decode cX8_citizen 88 = .ok (.aload_n 1, 1) := dk_43 (dk_at dksX8_citizen_3 18 rfl rfl)
theorem dX8_citizen_89 : decode cX8_citizen 89 = .ok (.dup, 1) := dk_89 (dk_at dksX8_citizen_3 19 rfl rfl)
theorem dX8_citizen_90 : decode cX8_citizen 90 = .ok (.getfield 207, 3) := dk_180 0 207 (dk_at dksX8_citizen_3 20 rfl rfl)
theorem dX8_citizen_93 : decode cX8_citizen 93 = .ok (.iconst 1, 1) := dk_4 (dk_at dksX8_citizen_3 23 rfl rfl)
theorem dX8_citizen_94 : decode cX8_citizen 94 = .ok (.iadd, 1) := dk_96 (dk_at dksX8_citizen_4 0 rfl rfl)
theorem dX8_citizen_95 : decode cX8_citizen 95 = .ok (.putfield 207, 3) := dk_181 0 207 (dk_at dksX8_citizen_4 1 rfl rfl)
theorem dX8_citizen_98 : decode cX8_citizen 98 = .ok (.return_, 1) := dk_177 (dk_at dksX8_citizen_4 4 rfl rfl)
abbrev cX8_year : ByteArray := prog_9_method_21_code
def yX8_year : MethodName := ⟨RX8, "year", "(LWindowHill$Town;LWindowHill$Block;)V"⟩
def dkwX8_year_0 : List UInt8 := [42, 180, 0, 32, 153, 0, 13, 42, 43, 44, 3, 182, 0, 219, 167, 255, 242, 177]
abbrev dktX8_year_0 : List UInt8 := dkwX8_year_0 ++ []
theorem dksX8_year_0 : cX8_year.data.toList.drop 0 = dktX8_year_0 := by decide +kernel
theorem dX8_year_0 : decode cX8_year 0 = .ok (.aload_n 0, 1) := dk_42 (dk_at dksX8_year_0 0 rfl rfl)
theorem dX8_year_1 : decode cX8_year 1 = .ok (.getfield 32, 3) := dk_180 0 32 (dk_at dksX8_year_0 1 rfl rfl)
theorem dX8_year_4 : decode cX8_year 4 = .ok (.ifCond .eq 13, 3) := dk_153 0 13 (dk_at dksX8_year_0 4 rfl rfl)
theorem dX8_year_7 : decode cX8_year 7 = .ok (.aload_n 0, 1) := dk_42 (dk_at dksX8_year_0 7 rfl rfl)
theorem dX8_year_8 : decode cX8_year 8 = .ok (.aload_n 1, 1) := dk_43 (dk_at dksX8_year_0 8 rfl rfl)
theorem dX8_year_9 : decode cX8_year 9 = .ok (.aload_n 2, 1) := dk_44 (dk_at dksX8_year_0 9 rfl rfl)
theorem dX8_year_10 : decode cX8_year 10 = .ok (.iconst 0, 1) := dk_3 (dk_at dksX8_year_0 10 rfl rfl)
theorem dX8_year_11 : decode cX8_year 11 = .ok (.invokevirtual 219, 3) := dk_182 0 219 (dk_at dksX8_year_0 11 rfl rfl)
theorem dX8_year_14 : decode cX8_year 14 = .ok (.goto (-14), 3) := dk_167 255 242 (dk_at dksX8_year_0 14 rfl rfl)
theorem dX8_year_17 : decode cX8_year 17 = .ok (.return_, 1) := dk_177 (dk_at dksX8_year_0 17 rfl rfl)
abbrev cX8_step : ByteArray := prog_9_method_22_code
def yX8_step : MethodName := ⟨RX8, "step", "(LWindowHill$Town;LWindowHill$Block;I)V"⟩
def dkwX8_step_5 : List UInt8 := [182, 0, 226, 167, 0, 8, 42, 43, 182, 0, 230, 58, 6, 42, 182, 0, 156, 44, 25, 6, 182, 0, 234, 177]
abbrev dktX8_step_5 : List UInt8 := dkwX8_step_5 ++ []
def dkwX8_step_4 : List UInt8 := [182, 0, 59, 191, 42, 89, 180, 0, 223, 4, 96, 181, 0, 223, 21, 5, 153, 0, 14, 42, 43, 21, 4, 29]
abbrev dktX8_step_4 : List UInt8 := dkwX8_step_4 ++ dktX8_step_5
def dkwX8_step_3 : List UInt8 := [191, 21, 5, 153, 0, 25, 29, 6, 160, 0, 20, 42, 180, 0, 3, 180, 0, 55, 16, 7, 42, 180, 0, 29]
abbrev dktX8_step_3 : List UInt8 := dkwX8_step_3 ++ dktX8_step_4
def dkwX8_step_2 : List UInt8 := [180, 0, 223, 16, 30, 160, 0, 20, 42, 180, 0, 3, 180, 0, 55, 16, 6, 42, 180, 0, 29, 182, 0, 59]
abbrev dktX8_step_2 : List UInt8 := dkwX8_step_2 ++ dktX8_step_3
def dkwX8_step_1 : List UInt8 := [167, 0, 4, 3, 54, 5, 42, 182, 0, 114, 156, 0, 13, 21, 5, 154, 0, 8, 42, 182, 0, 68, 191, 42]
abbrev dktX8_step_1 : List UInt8 := dkwX8_step_1 ++ dktX8_step_2
def dkwX8_step_0 : List UInt8 := [42, 18, 120, 182, 0, 72, 54, 4, 21, 4, 154, 0, 12, 42, 18, 122, 182, 0, 72, 153, 0, 7, 4]
abbrev dktX8_step_0 : List UInt8 := dkwX8_step_0 ++ dktX8_step_1
theorem dksX8_step_0 : cX8_step.data.toList.drop 0 = dktX8_step_0 := by decide +kernel
theorem dksX8_step_1 : cX8_step.data.toList.drop 23 = dktX8_step_1 := dk_seg dksX8_step_0 23 rfl rfl
theorem dksX8_step_2 : cX8_step.data.toList.drop 47 = dktX8_step_2 := dk_seg dksX8_step_1 24 rfl rfl
theorem dksX8_step_3 : cX8_step.data.toList.drop 71 = dktX8_step_3 := dk_seg dksX8_step_2 24 rfl rfl
theorem dksX8_step_4 : cX8_step.data.toList.drop 95 = dktX8_step_4 := dk_seg dksX8_step_3 24 rfl rfl
theorem dksX8_step_5 : cX8_step.data.toList.drop 119 = dktX8_step_5 := dk_seg dksX8_step_4 24 rfl rfl
theorem dX8_step_0 : decode cX8_step 0 = .ok (.aload_n 0, 1) := dk_42 (dk_at dksX8_step_0 0 rfl rfl)
theorem dX8_step_1 : decode cX8_step 1 = .ok (.ldc 120, 2) := dk_18 120 (dk_at dksX8_step_0 1 rfl rfl)
theorem dX8_step_3 : decode cX8_step 3 = .ok (.invokevirtual 72, 3) := dk_182 0 72 (dk_at dksX8_step_0 3 rfl rfl)
theorem dX8_step_6 : decode cX8_step 6 = .ok (.istore 4, 2) := dk_54 4 (dk_at dksX8_step_0 6 rfl rfl)
theorem dX8_step_8 : decode cX8_step 8 = .ok (.iload 4, 2) := dk_21 4 (dk_at dksX8_step_0 8 rfl rfl)
theorem dX8_step_10 : decode cX8_step 10 = .ok (.ifCond .ne 12, 3) := dk_154 0 12 (dk_at dksX8_step_0 10 rfl rfl)
theorem dX8_step_13 : decode cX8_step 13 = .ok (.aload_n 0, 1) := dk_42 (dk_at dksX8_step_0 13 rfl rfl)
theorem dX8_step_14 : decode cX8_step 14 = .ok (.ldc 122, 2) := dk_18 122 (dk_at dksX8_step_0 14 rfl rfl)
theorem dX8_step_16 : decode cX8_step 16 = .ok (.invokevirtual 72, 3) := dk_182 0 72 (dk_at dksX8_step_0 16 rfl rfl)
theorem dX8_step_19 : decode cX8_step 19 = .ok (.ifCond .eq 7, 3) := dk_153 0 7 (dk_at dksX8_step_0 19 rfl rfl)
theorem dX8_step_22 : decode cX8_step 22 = .ok (.iconst 1, 1) := dk_4 (dk_at dksX8_step_0 22 rfl rfl)
theorem dX8_step_23 : decode cX8_step 23 = .ok (.goto 4, 3) := dk_167 0 4 (dk_at dksX8_step_1 0 rfl rfl)
theorem dX8_step_26 : decode cX8_step 26 = .ok (.iconst 0, 1) := dk_3 (dk_at dksX8_step_1 3 rfl rfl)
theorem dX8_step_27 : decode cX8_step 27 = .ok (.istore 5, 2) := dk_54 5 (dk_at dksX8_step_1 4 rfl rfl)
theorem dX8_step_29 : decode cX8_step 29 = .ok (.aload_n 0, 1) := dk_42 (dk_at dksX8_step_1 6 rfl rfl)
theorem dX8_step_30 : decode cX8_step 30 = .ok (.invokevirtual 114, 3) := dk_182 0 114 (dk_at dksX8_step_1 7 rfl rfl)
theorem dX8_step_33 : decode cX8_step 33 = .ok (.ifCond .ge 13, 3) := dk_156 0 13 (dk_at dksX8_step_1 10 rfl rfl)
theorem dX8_step_36 : decode cX8_step 36 = .ok (.iload 5, 2) := dk_21 5 (dk_at dksX8_step_1 13 rfl rfl)
theorem dX8_step_38 : decode cX8_step 38 = .ok (.ifCond .ne 8, 3) := dk_154 0 8 (dk_at dksX8_step_1 15 rfl rfl)
theorem dX8_step_41 : decode cX8_step 41 = .ok (.aload_n 0, 1) := dk_42 (dk_at dksX8_step_1 18 rfl rfl)
theorem dX8_step_42 : decode cX8_step 42 = .ok (.invokevirtual 68, 3) := dk_182 0 68 (dk_at dksX8_step_1 19 rfl rfl)
theorem dX8_step_45 : decode cX8_step 45 = .ok (.athrow, 1) := dk_191 (dk_at dksX8_step_1 22 rfl rfl)
theorem dX8_step_46 : decode cX8_step 46 = .ok (.aload_n 0, 1) := dk_42 (dk_at dksX8_step_1 23 rfl rfl)
theorem dX8_step_47 : decode cX8_step 47 = .ok (.getfield 223, 3) := dk_180 0 223 (dk_at dksX8_step_2 0 rfl rfl)
theorem dX8_step_50 : decode cX8_step 50 = .ok (.bipush 30, 2) := dk_16 30 (dk_at dksX8_step_2 3 rfl rfl)
theorem dX8_step_52 : decode cX8_step 52 = .ok (.if_icmp .ne 20, 3) := dk_160 0 20 (dk_at dksX8_step_2 5 rfl rfl)
theorem dX8_step_55 : decode cX8_step 55 = .ok (.aload_n 0, 1) := dk_42 (dk_at dksX8_step_2 8 rfl rfl)
theorem dX8_step_56 : decode cX8_step 56 = .ok (.getfield 3, 3) := dk_180 0 3 (dk_at dksX8_step_2 9 rfl rfl)
theorem dX8_step_59 : decode cX8_step 59 = .ok (.getfield 55, 3) := dk_180 0 55 (dk_at dksX8_step_2 12 rfl rfl)
theorem dX8_step_62 : decode cX8_step 62 = .ok (.bipush 6, 2) := dk_16 6 (dk_at dksX8_step_2 15 rfl rfl)
theorem dX8_step_64 : decode cX8_step 64 = .ok (.aload_n 0, 1) := dk_42 (dk_at dksX8_step_2 17 rfl rfl)
theorem dX8_step_65 : decode cX8_step 65 = .ok (.getfield 29, 3) := dk_180 0 29 (dk_at dksX8_step_2 18 rfl rfl)
theorem dX8_step_68 : decode cX8_step 68 = .ok (.invokevirtual 59, 3) := dk_182 0 59 (dk_at dksX8_step_2 21 rfl rfl)
theorem dX8_step_71 : decode cX8_step 71 = .ok (.athrow, 1) := dk_191 (dk_at dksX8_step_3 0 rfl rfl)
theorem dX8_step_72 : decode cX8_step 72 = .ok (.iload 5, 2) := dk_21 5 (dk_at dksX8_step_3 1 rfl rfl)
theorem dX8_step_74 : decode cX8_step 74 = .ok (.ifCond .eq 25, 3) := dk_153 0 25 (dk_at dksX8_step_3 3 rfl rfl)
theorem dX8_step_77 : decode cX8_step 77 = .ok (.iload_n 3, 1) := dk_29 (dk_at dksX8_step_3 6 rfl rfl)
theorem dX8_step_78 : decode cX8_step 78 = .ok (.iconst 3, 1) := dk_6 (dk_at dksX8_step_3 7 rfl rfl)
theorem dX8_step_79 : decode cX8_step 79 = .ok (.if_icmp .ne 20, 3) := dk_160 0 20 (dk_at dksX8_step_3 8 rfl rfl)
theorem dX8_step_82 : decode cX8_step 82 = .ok (.aload_n 0, 1) := dk_42 (dk_at dksX8_step_3 11 rfl rfl)
theorem dX8_step_83 : decode cX8_step 83 = .ok (.getfield 3, 3) := dk_180 0 3 (dk_at dksX8_step_3 12 rfl rfl)
theorem dX8_step_86 : decode cX8_step 86 = .ok (.getfield 55, 3) := dk_180 0 55 (dk_at dksX8_step_3 15 rfl rfl)
theorem dX8_step_89 : decode cX8_step 89 = .ok (.bipush 7, 2) := dk_16 7 (dk_at dksX8_step_3 18 rfl rfl)
theorem dX8_step_91 : decode cX8_step 91 = .ok (.aload_n 0, 1) := dk_42 (dk_at dksX8_step_3 20 rfl rfl)
theorem dX8_step_92 : decode cX8_step 92 = .ok (.getfield 29, 3) := dk_180 0 29 (dk_at dksX8_step_3 21 rfl rfl)
theorem dX8_step_95 : decode cX8_step 95 = .ok (.invokevirtual 59, 3) := dk_182 0 59 (dk_at dksX8_step_4 0 rfl rfl)
theorem dX8_step_98 : decode cX8_step 98 = .ok (.athrow, 1) := dk_191 (dk_at dksX8_step_4 3 rfl rfl)
theorem dX8_step_99 : decode cX8_step 99 = .ok (.aload_n 0, 1) := dk_42 (dk_at dksX8_step_4 4 rfl rfl)
theorem dX8_step_100 : decode cX8_step 100 = .ok (.dup, 1) := dk_89 (dk_at dksX8_step_4 5 rfl rfl)
theorem dX8_step_101 : decode cX8_step 101 = .ok (.getfield 223, 3) := dk_180 0 223 (dk_at dksX8_step_4 6 rfl rfl)
theorem dX8_step_104 : decode cX8_step 104 = .ok (.iconst 1, 1) := dk_4 (dk_at dksX8_step_4 9 rfl rfl)
theorem dX8_step_105 : decode cX8_step 105 = .ok (.iadd, 1) := dk_96 (dk_at dksX8_step_4 10 rfl rfl)
theorem dX8_step_106 : decode cX8_step 106 = .ok (.putfield 223, 3) := dk_181 0 223 (dk_at dksX8_step_4 11 rfl rfl)
theorem dX8_step_109 : decode cX8_step 109 = .ok (.iload 5, 2) := dk_21 5 (dk_at dksX8_step_4 14 rfl rfl)
theorem dX8_step_111 : decode cX8_step 111 = .ok (.ifCond .eq 14, 3) := dk_153 0 14 (dk_at dksX8_step_4 16 rfl rfl)
theorem dX8_step_114 : decode cX8_step 114 = .ok (.aload_n 0, 1) := dk_42 (dk_at dksX8_step_4 19 rfl rfl)
theorem dX8_step_115 : decode cX8_step 115 = .ok (.aload_n 1, 1) := dk_43 (dk_at dksX8_step_4 20 rfl rfl)
theorem dX8_step_116 : decode cX8_step 116 = .ok (.iload 4, 2) := dk_21 4 (dk_at dksX8_step_4 21 rfl rfl)
theorem dX8_step_118 : decode cX8_step 118 = .ok (.iload_n 3, 1) := dk_29 (dk_at dksX8_step_4 23 rfl rfl)
theorem dX8_step_119 : decode cX8_step 119 = .ok (.invokevirtual 226, 3) := dk_182 0 226 (dk_at dksX8_step_5 0 rfl rfl)
theorem dX8_step_122 : decode cX8_step 122 = .ok (.goto 8, 3) := dk_167 0 8 (dk_at dksX8_step_5 3 rfl rfl)
theorem dX8_step_125 : decode cX8_step 125 = .ok (.aload_n 0, 1) := dk_42 (dk_at dksX8_step_5 6 rfl rfl)
theorem dX8_step_126 : decode cX8_step 126 = .ok (.aload_n 1, 1) := dk_43 (dk_at dksX8_step_5 7 rfl rfl)
theorem dX8_step_127 : decode cX8_step 127 = .ok (.invokevirtual 230, 3) := dk_182 0 230 (dk_at dksX8_step_5 8 rfl rfl)
theorem dX8_step_130 : decode cX8_step 130 = .ok (.astore 6, 2) := dk_58 6 (dk_at dksX8_step_5 11 rfl rfl)
theorem dX8_step_132 : decode cX8_step 132 = .ok (.aload_n 0, 1) := dk_42 (dk_at dksX8_step_5 13 rfl rfl)
theorem dX8_step_133 : decode cX8_step 133 = .ok (.invokevirtual 156, 3) := dk_182 0 156 (dk_at dksX8_step_5 14 rfl rfl)
theorem dX8_step_136 : decode cX8_step 136 = .ok (.aload_n 2, 1) := dk_44 (dk_at dksX8_step_5 17 rfl rfl)
theorem dX8_step_137 : decode cX8_step 137 = .ok (.aload 6, 2) := dk_25 6 (dk_at dksX8_step_5 18 rfl rfl)
theorem dX8_step_139 : decode cX8_step 139 = .ok (.invokevirtual 234, 3) := dk_182 0 234 (dk_at dksX8_step_5 20 rfl rfl)
theorem dX8_step_142 : decode cX8_step 142 = .ok (.return_, 1) := dk_177 (dk_at dksX8_step_5 23 rfl rfl)
abbrev cX8_block : ByteArray := prog_9_method_25_code
def yX8_block : MethodName := ⟨RX8, "block", "(LWindowHill$Town;ZI)LWindowHill$Block;"⟩
def dkwX8_block_2 : List UInt8 := [25, 4, 29, 4, 96, 182, 0, 219, 167, 255, 237, 42, 182, 0, 19, 25, 4, 176]
abbrev dktX8_block_2 : List UInt8 := dkwX8_block_2 ++ []
def dkwX8_block_1 : List UInt8 := [182, 0, 148, 183, 1, 1, 58, 4, 42, 182, 0, 156, 42, 18, 124, 182, 0, 72, 154, 0, 16, 42, 43]
abbrev dktX8_block_1 : List UInt8 := dkwX8_block_1 ++ dktX8_block_2
def dkwX8_block_0 : List UInt8 := [42, 182, 0, 19, 28, 153, 0, 11, 42, 43, 182, 0, 252, 167, 0, 17, 187, 0, 255, 89, 42, 4, 16, 99]
abbrev dktX8_block_0 : List UInt8 := dkwX8_block_0 ++ dktX8_block_1
theorem dksX8_block_0 : cX8_block.data.toList.drop 0 = dktX8_block_0 := by decide +kernel
theorem dksX8_block_1 : cX8_block.data.toList.drop 24 = dktX8_block_1 := dk_seg dksX8_block_0 24 rfl rfl
theorem dksX8_block_2 : cX8_block.data.toList.drop 47 = dktX8_block_2 := dk_seg dksX8_block_1 23 rfl rfl
theorem dX8_block_0 : decode cX8_block 0 = .ok (.aload_n 0, 1) := dk_42 (dk_at dksX8_block_0 0 rfl rfl)
theorem dX8_block_1 : decode cX8_block 1 = .ok (.invokevirtual 19, 3) := dk_182 0 19 (dk_at dksX8_block_0 1 rfl rfl)
theorem dX8_block_4 : decode cX8_block 4 = .ok (.iload_n 2, 1) := dk_28 (dk_at dksX8_block_0 4 rfl rfl)
theorem dX8_block_5 : decode cX8_block 5 = .ok (.ifCond .eq 11, 3) := dk_153 0 11 (dk_at dksX8_block_0 5 rfl rfl)
theorem dX8_block_8 : decode cX8_block 8 = .ok (.aload_n 0, 1) := dk_42 (dk_at dksX8_block_0 8 rfl rfl)
theorem dX8_block_9 : decode cX8_block 9 = .ok (.aload_n 1, 1) := dk_43 (dk_at dksX8_block_0 9 rfl rfl)
theorem dX8_block_10 : decode cX8_block 10 = .ok (.invokevirtual 252, 3) := dk_182 0 252 (dk_at dksX8_block_0 10 rfl rfl)
theorem dX8_block_13 : decode cX8_block 13 = .ok (.goto 17, 3) := dk_167 0 17 (dk_at dksX8_block_0 13 rfl rfl)
theorem dX8_block_16 : decode cX8_block 16 = .ok (.new 255, 3) := dk_187 0 255 (dk_at dksX8_block_0 16 rfl rfl)
theorem dX8_block_19 : decode cX8_block 19 = .ok (.dup, 1) := dk_89 (dk_at dksX8_block_0 19 rfl rfl)
theorem dX8_block_20 : decode cX8_block 20 = .ok (.aload_n 0, 1) := dk_42 (dk_at dksX8_block_0 20 rfl rfl)
theorem dX8_block_21 : decode cX8_block 21 = .ok (.iconst 1, 1) := dk_4 (dk_at dksX8_block_0 21 rfl rfl)
theorem dX8_block_22 : decode cX8_block 22 = .ok (.bipush 99, 2) := dk_16 99 (dk_at dksX8_block_0 22 rfl rfl)
theorem dX8_block_24 : decode cX8_block 24 = .ok (.invokevirtual 148, 3) := dk_182 0 148 (dk_at dksX8_block_1 0 rfl rfl)
theorem dX8_block_27 : decode cX8_block 27 = .ok (.invokespecial 257, 3) := dk_183 1 1 (dk_at dksX8_block_1 3 rfl rfl)
theorem dX8_block_30 : decode cX8_block 30 = .ok (.astore 4, 2) := dk_58 4 (dk_at dksX8_block_1 6 rfl rfl)
theorem dX8_block_32 : decode cX8_block 32 = .ok (.aload_n 0, 1) := dk_42 (dk_at dksX8_block_1 8 rfl rfl)
theorem dX8_block_33 : decode cX8_block 33 = .ok (.invokevirtual 156, 3) := dk_182 0 156 (dk_at dksX8_block_1 9 rfl rfl)
theorem dX8_block_36 : decode cX8_block 36 = .ok (.aload_n 0, 1) := dk_42 (dk_at dksX8_block_1 12 rfl rfl)
theorem dX8_block_37 : decode cX8_block 37 = .ok (.ldc 124, 2) := dk_18 124 (dk_at dksX8_block_1 13 rfl rfl)
theorem dX8_block_39 : decode cX8_block 39 = .ok (.invokevirtual 72, 3) := dk_182 0 72 (dk_at dksX8_block_1 15 rfl rfl)
theorem dX8_block_42 : decode cX8_block 42 = .ok (.ifCond .ne 16, 3) := dk_154 0 16 (dk_at dksX8_block_1 18 rfl rfl)
theorem dX8_block_45 : decode cX8_block 45 = .ok (.aload_n 0, 1) := dk_42 (dk_at dksX8_block_1 21 rfl rfl)
theorem dX8_block_46 : decode cX8_block 46 = .ok (.aload_n 1, 1) := dk_43 (dk_at dksX8_block_1 22 rfl rfl)
theorem dX8_block_47 : decode cX8_block 47 = .ok (.aload 4, 2) := dk_25 4 (dk_at dksX8_block_2 0 rfl rfl)
theorem dX8_block_49 : decode cX8_block 49 = .ok (.iload_n 3, 1) := dk_29 (dk_at dksX8_block_2 2 rfl rfl)
theorem dX8_block_50 : decode cX8_block 50 = .ok (.iconst 1, 1) := dk_4 (dk_at dksX8_block_2 3 rfl rfl)
theorem dX8_block_51 : decode cX8_block 51 = .ok (.iadd, 1) := dk_96 (dk_at dksX8_block_2 4 rfl rfl)
theorem dX8_block_52 : decode cX8_block 52 = .ok (.invokevirtual 219, 3) := dk_182 0 219 (dk_at dksX8_block_2 5 rfl rfl)
theorem dX8_block_55 : decode cX8_block 55 = .ok (.goto (-19), 3) := dk_167 255 237 (dk_at dksX8_block_2 8 rfl rfl)
theorem dX8_block_58 : decode cX8_block 58 = .ok (.aload_n 0, 1) := dk_42 (dk_at dksX8_block_2 11 rfl rfl)
theorem dX8_block_59 : decode cX8_block 59 = .ok (.invokevirtual 19, 3) := dk_182 0 19 (dk_at dksX8_block_2 12 rfl rfl)
theorem dX8_block_62 : decode cX8_block 62 = .ok (.aload 4, 2) := dk_25 4 (dk_at dksX8_block_2 15 rfl rfl)
theorem dX8_block_64 : decode cX8_block 64 = .ok (.areturn, 1) := dk_176 (dk_at dksX8_block_2 17 rfl rfl)
abbrev cX8_when : ByteArray := prog_9_method_26_code
def yX8_when : MethodName := ⟨RX8, "when", "(LWindowHill$Town;)LWindowHill$When;"⟩
def dkwX8_when_5 : List UInt8 := [176]
abbrev dktX8_when_5 : List UInt8 := dkwX8_when_5 ++ []
def dkwX8_when_4 : List UInt8 := [182, 0, 68, 191, 42, 182, 0, 19, 187, 1, 4, 89, 28, 42, 3, 16, 30, 182, 0, 148, 29, 183, 1, 6]
abbrev dktX8_when_4 : List UInt8 := dkwX8_when_4 ++ dktX8_when_5
def dkwX8_when_3 : List UInt8 := [182, 0, 64, 153, 0, 8, 16, 62, 167, 0, 5, 16, 61, 62, 42, 29, 146, 182, 0, 64, 154, 0, 8, 42]
abbrev dktX8_when_3 : List UInt8 := dkwX8_when_3 ++ dktX8_when_4
def dkwX8_when_2 : List UInt8 := [28, 3, 3, 183, 1, 6, 176, 42, 16, 60, 182, 0, 64, 153, 0, 8, 16, 60, 167, 0, 19, 42, 16, 62]
abbrev dktX8_when_2 : List UInt8 := dkwX8_when_2 ++ dktX8_when_3
def dkwX8_when_1 : List UInt8 := [187, 1, 4, 89, 28, 42, 43, 182, 0, 245, 3, 183, 1, 6, 176, 28, 5, 160, 0, 14, 187, 1, 4, 89]
abbrev dktX8_when_1 : List UInt8 := dkwX8_when_1 ++ dktX8_when_2
def dkwX8_when_0 : List UInt8 := [42, 182, 0, 117, 61, 28, 156, 0, 8, 42, 182, 0, 68, 191, 42, 182, 0, 19, 28, 4, 160, 0, 18]
abbrev dktX8_when_0 : List UInt8 := dkwX8_when_0 ++ dktX8_when_1
theorem dksX8_when_0 : cX8_when.data.toList.drop 0 = dktX8_when_0 := by decide +kernel
theorem dksX8_when_1 : cX8_when.data.toList.drop 23 = dktX8_when_1 := dk_seg dksX8_when_0 23 rfl rfl
theorem dksX8_when_2 : cX8_when.data.toList.drop 47 = dktX8_when_2 := dk_seg dksX8_when_1 24 rfl rfl
theorem dksX8_when_3 : cX8_when.data.toList.drop 71 = dktX8_when_3 := dk_seg dksX8_when_2 24 rfl rfl
theorem dksX8_when_4 : cX8_when.data.toList.drop 95 = dktX8_when_4 := dk_seg dksX8_when_3 24 rfl rfl
theorem dksX8_when_5 : cX8_when.data.toList.drop 119 = dktX8_when_5 := dk_seg dksX8_when_4 24 rfl rfl
theorem dX8_when_0 : decode cX8_when 0 = .ok (.aload_n 0, 1) := dk_42 (dk_at dksX8_when_0 0 rfl rfl)
theorem dX8_when_1 : decode cX8_when 1 = .ok (.invokevirtual 117, 3) := dk_182 0 117 (dk_at dksX8_when_0 1 rfl rfl)
theorem dX8_when_4 : decode cX8_when 4 = .ok (.istore_n 2, 1) := dk_61 (dk_at dksX8_when_0 4 rfl rfl)
theorem dX8_when_5 : decode cX8_when 5 = .ok (.iload_n 2, 1) := dk_28 (dk_at dksX8_when_0 5 rfl rfl)
theorem dX8_when_6 : decode cX8_when 6 = .ok (.ifCond .ge 8, 3) := dk_156 0 8 (dk_at dksX8_when_0 6 rfl rfl)
theorem dX8_when_9 : decode cX8_when 9 = .ok (.aload_n 0, 1) := dk_42 (dk_at dksX8_when_0 9 rfl rfl)
theorem dX8_when_10 : decode cX8_when 10 = .ok (.invokevirtual 68, 3) := dk_182 0 68 (dk_at dksX8_when_0 10 rfl rfl)
theorem dX8_when_13 : decode cX8_when 13 = .ok (.athrow, 1) := dk_191 (dk_at dksX8_when_0 13 rfl rfl)
theorem dX8_when_14 : decode cX8_when 14 = .ok (.aload_n 0, 1) := dk_42 (dk_at dksX8_when_0 14 rfl rfl)
theorem dX8_when_15 : decode cX8_when 15 = .ok (.invokevirtual 19, 3) := dk_182 0 19 (dk_at dksX8_when_0 15 rfl rfl)
theorem dX8_when_18 : decode cX8_when 18 = .ok (.iload_n 2, 1) := dk_28 (dk_at dksX8_when_0 18 rfl rfl)
theorem dX8_when_19 : decode cX8_when 19 = .ok (.iconst 1, 1) := dk_4 (dk_at dksX8_when_0 19 rfl rfl)
theorem dX8_when_20 : decode cX8_when 20 = .ok (.if_icmp .ne 18, 3) := dk_160 0 18 (dk_at dksX8_when_0 20 rfl rfl)
theorem dX8_when_23 : decode cX8_when 23 = .ok (.new 260, 3) := dk_187 1 4 (dk_at dksX8_when_1 0 rfl rfl)
theorem dX8_when_26 : decode cX8_when 26 = .ok (.dup, 1) := dk_89 (dk_at dksX8_when_1 3 rfl rfl)
theorem dX8_when_27 : decode cX8_when 27 = .ok (.iload_n 2, 1) := dk_28 (dk_at dksX8_when_1 4 rfl rfl)
theorem dX8_when_28 : decode cX8_when 28 = .ok (.aload_n 0, 1) := dk_42 (dk_at dksX8_when_1 5 rfl rfl)
theorem dX8_when_29 : decode cX8_when 29 = .ok (.aload_n 1, 1) := dk_43 (dk_at dksX8_when_1 6 rfl rfl)
theorem dX8_when_30 : decode cX8_when 30 = .ok (.invokevirtual 245, 3) := dk_182 0 245 (dk_at dksX8_when_1 7 rfl rfl)
theorem dX8_when_33 : decode cX8_when 33 = .ok (.iconst 0, 1) := dk_3 (dk_at dksX8_when_1 10 rfl rfl)
theorem dX8_when_34 : decode cX8_when 34 = .ok (.invokespecial 262, 3) := dk_183 1 6 (dk_at dksX8_when_1 11 rfl rfl)
theorem dX8_when_37 : decode cX8_when 37 = .ok (.areturn, 1) := dk_176 (dk_at dksX8_when_1 14 rfl rfl)
theorem dX8_when_38 : decode cX8_when 38 = .ok (.iload_n 2, 1) := dk_28 (dk_at dksX8_when_1 15 rfl rfl)
theorem dX8_when_39 : decode cX8_when 39 = .ok (.iconst 2, 1) := dk_5 (dk_at dksX8_when_1 16 rfl rfl)
theorem dX8_when_40 : decode cX8_when 40 = .ok (.if_icmp .ne 14, 3) := dk_160 0 14 (dk_at dksX8_when_1 17 rfl rfl)
theorem dX8_when_43 : decode cX8_when 43 = .ok (.new 260, 3) := dk_187 1 4 (dk_at dksX8_when_1 20 rfl rfl)
theorem dX8_when_46 : decode cX8_when 46 = .ok (.dup, 1) := dk_89 (dk_at dksX8_when_1 23 rfl rfl)
theorem dX8_when_47 : decode cX8_when 47 = .ok (.iload_n 2, 1) := dk_28 (dk_at dksX8_when_2 0 rfl rfl)
theorem dX8_when_48 : decode cX8_when 48 = .ok (.iconst 0, 1) := dk_3 (dk_at dksX8_when_2 1 rfl rfl)
theorem dX8_when_49 : decode cX8_when 49 = .ok (.iconst 0, 1) := dk_3 (dk_at dksX8_when_2 2 rfl rfl)
theorem dX8_when_50 : decode cX8_when 50 = .ok (.invokespecial 262, 3) := dk_183 1 6 (dk_at dksX8_when_2 3 rfl rfl)
theorem dX8_when_53 : decode cX8_when 53 = .ok (.areturn, 1) := dk_176 (dk_at dksX8_when_2 6 rfl rfl)
theorem dX8_when_54 : decode cX8_when 54 = .ok (.aload_n 0, 1) := dk_42 (dk_at dksX8_when_2 7 rfl rfl)
theorem dX8_when_55 : decode cX8_when 55 = .ok (.bipush 60, 2) := dk_16 60 (dk_at dksX8_when_2 8 rfl rfl)
theorem dX8_when_57 : decode cX8_when 57 = .ok (.invokevirtual 64, 3) := dk_182 0 64 (dk_at dksX8_when_2 10 rfl rfl)
theorem dX8_when_60 : decode cX8_when 60 = .ok (.ifCond .eq 8, 3) := dk_153 0 8 (dk_at dksX8_when_2 13 rfl rfl)
theorem dX8_when_63 : decode cX8_when 63 = .ok (.bipush 60, 2) := dk_16 60 (dk_at dksX8_when_2 16 rfl rfl)
theorem dX8_when_65 : decode cX8_when 65 = .ok (.goto 19, 3) := dk_167 0 19 (dk_at dksX8_when_2 18 rfl rfl)
theorem dX8_when_68 : decode cX8_when 68 = .ok (.aload_n 0, 1) := dk_42 (dk_at dksX8_when_2 21 rfl rfl)
theorem dX8_when_69 : decode cX8_when 69 = .ok (.bipush 62, 2) := dk_16 62 (dk_at dksX8_when_2 22 rfl rfl)
theorem dX8_when_71 : decode cX8_when 71 = .ok (.invokevirtual 64, 3) := dk_182 0 64 (dk_at dksX8_when_3 0 rfl rfl)
theorem dX8_when_74 : decode cX8_when 74 = .ok (.ifCond .eq 8, 3) := dk_153 0 8 (dk_at dksX8_when_3 3 rfl rfl)
theorem dX8_when_77 : decode cX8_when 77 = .ok (.bipush 62, 2) := dk_16 62 (dk_at dksX8_when_3 6 rfl rfl)
theorem dX8_when_79 : decode cX8_when 79 = .ok (.goto 5, 3) := dk_167 0 5 (dk_at dksX8_when_3 8 rfl rfl)
theorem dX8_when_82 : decode cX8_when 82 = .ok (.bipush 61, 2) := dk_16 61 (dk_at dksX8_when_3 11 rfl rfl)
theorem dX8_when_84 : decode cX8_when 84 = .ok (.istore_n 3, 1) := dk_62 (dk_at dksX8_when_3 13 rfl rfl)
theorem dX8_when_85 : decode cX8_when 85 = .ok (.aload_n 0, 1) := dk_42 (dk_at dksX8_when_3 14 rfl rfl)
theorem dX8_when_86 : decode cX8_when 86 = .ok (.iload_n 3, 1) := dk_29 (dk_at dksX8_when_3 15 rfl rfl)
theorem dX8_when_87 : decode cX8_when 87 = .ok (.i2c, 1) := dk_146 (dk_at dksX8_when_3 16 rfl rfl)
theorem dX8_when_88 : decode cX8_when 88 = .ok (.invokevirtual 64, 3) := dk_182 0 64 (dk_at dksX8_when_3 17 rfl rfl)
theorem dX8_when_91 : decode cX8_when 91 = .ok (.ifCond .ne 8, 3) := dk_154 0 8 (dk_at dksX8_when_3 20 rfl rfl)
theorem dX8_when_94 : decode cX8_when 94 = .ok (.aload_n 0, 1) := dk_42 (dk_at dksX8_when_3 23 rfl rfl)
theorem dX8_when_95 : decode cX8_when 95 = .ok (.invokevirtual 68, 3) := dk_182 0 68 (dk_at dksX8_when_4 0 rfl rfl)
theorem dX8_when_98 : decode cX8_when 98 = .ok (.athrow, 1) := dk_191 (dk_at dksX8_when_4 3 rfl rfl)
theorem dX8_when_99 : decode cX8_when 99 = .ok (.aload_n 0, 1) := dk_42 (dk_at dksX8_when_4 4 rfl rfl)
theorem dX8_when_100 : decode cX8_when 100 = .ok (.invokevirtual 19, 3) := dk_182 0 19 (dk_at dksX8_when_4 5 rfl rfl)
theorem dX8_when_103 : decode cX8_when 103 = .ok (.new 260, 3) := dk_187 1 4 (dk_at dksX8_when_4 8 rfl rfl)
theorem dX8_when_106 : decode cX8_when 106 = .ok (.dup, 1) := dk_89 (dk_at dksX8_when_4 11 rfl rfl)
theorem dX8_when_107 : decode cX8_when 107 = .ok (.iload_n 2, 1) := dk_28 (dk_at dksX8_when_4 12 rfl rfl)
theorem dX8_when_108 : decode cX8_when 108 = .ok (.aload_n 0, 1) := dk_42 (dk_at dksX8_when_4 13 rfl rfl)
theorem dX8_when_109 : decode cX8_when 109 = .ok (.iconst 0, 1) := dk_3 (dk_at dksX8_when_4 14 rfl rfl)
theorem dX8_when_110 : decode cX8_when 110 = .ok (.bipush 30, 2) := dk_16 30 (dk_at dksX8_when_4 15 rfl rfl)
theorem dX8_when_112 : decode cX8_when 112 = .ok (.invokevirtual 148, 3) := dk_182 0 148 (dk_at dksX8_when_4 17 rfl rfl)
theorem dX8_when_115 : decode cX8_when 115 = .ok (.iload_n 3, 1) := dk_29 (dk_at dksX8_when_4 20 rfl rfl)
theorem dX8_when_116 : decode cX8_when 116 = .ok (.invokespecial 262, 3) := dk_183 1 6 (dk_at dksX8_when_4 21 rfl rfl)
theorem dX8_when_119 : decode cX8_when 119 = .ok (.areturn, 1) := dk_176 (dk_at dksX8_when_5 0 rfl rfl)
abbrev cX8_cell : ByteArray := prog_9_method_23_code
def yX8_cell : MethodName := ⟨RX8, "cell", "(LWindowHill$Town;)I"⟩
def dkwX8_cell_1 : List UInt8 := [182, 0, 148, 182, 0, 175, 172]
abbrev dktX8_cell_1 : List UInt8 := dkwX8_cell_1 ++ []
def dkwX8_cell_0 : List UInt8 := [42, 3, 43, 180, 0, 151, 4, 100, 182, 0, 148, 61, 43, 28, 42, 3, 43, 180, 0, 159, 4, 100]
abbrev dktX8_cell_0 : List UInt8 := dkwX8_cell_0 ++ dktX8_cell_1
theorem dksX8_cell_0 : cX8_cell.data.toList.drop 0 = dktX8_cell_0 := by decide +kernel
theorem dksX8_cell_1 : cX8_cell.data.toList.drop 22 = dktX8_cell_1 := dk_seg dksX8_cell_0 22 rfl rfl
theorem dX8_cell_0 : decode cX8_cell 0 = .ok (.aload_n 0, 1) := dk_42 (dk_at dksX8_cell_0 0 rfl rfl)
theorem dX8_cell_1 : decode cX8_cell 1 = .ok (.iconst 0, 1) := dk_3 (dk_at dksX8_cell_0 1 rfl rfl)
theorem dX8_cell_2 : decode cX8_cell 2 = .ok (.aload_n 1, 1) := dk_43 (dk_at dksX8_cell_0 2 rfl rfl)
theorem dX8_cell_3 : decode cX8_cell 3 = .ok (.getfield 151, 3) := dk_180 0 151 (dk_at dksX8_cell_0 3 rfl rfl)
theorem dX8_cell_6 : decode cX8_cell 6 = .ok (.iconst 1, 1) := dk_4 (dk_at dksX8_cell_0 6 rfl rfl)
theorem dX8_cell_7 : decode cX8_cell 7 = .ok (.isub, 1) := dk_100 (dk_at dksX8_cell_0 7 rfl rfl)
theorem dX8_cell_8 : decode cX8_cell 8 = .ok (.invokevirtual 148, 3) := dk_182 0 148 (dk_at dksX8_cell_0 8 rfl rfl)
theorem dX8_cell_11 : decode cX8_cell 11 = .ok (.istore_n 2, 1) := dk_61 (dk_at dksX8_cell_0 11 rfl rfl)
theorem dX8_cell_12 : decode cX8_cell 12 = .ok (.aload_n 1, 1) := dk_43 (dk_at dksX8_cell_0 12 rfl rfl)
theorem dX8_cell_13 : decode cX8_cell 13 = .ok (.iload_n 2, 1) := dk_28 (dk_at dksX8_cell_0 13 rfl rfl)
theorem dX8_cell_14 : decode cX8_cell 14 = .ok (.aload_n 0, 1) := dk_42 (dk_at dksX8_cell_0 14 rfl rfl)
theorem dX8_cell_15 : decode cX8_cell 15 = .ok (.iconst 0, 1) := dk_3 (dk_at dksX8_cell_0 15 rfl rfl)
theorem dX8_cell_16 : decode cX8_cell 16 = .ok (.aload_n 1, 1) := dk_43 (dk_at dksX8_cell_0 16 rfl rfl)
theorem dX8_cell_17 : decode cX8_cell 17 = .ok (.getfield 159, 3) := dk_180 0 159 (dk_at dksX8_cell_0 17 rfl rfl)
theorem dX8_cell_20 : decode cX8_cell 20 = .ok (.iconst 1, 1) := dk_4 (dk_at dksX8_cell_0 20 rfl rfl)
theorem dX8_cell_21 : decode cX8_cell 21 = .ok (.isub, 1) := dk_100 (dk_at dksX8_cell_0 21 rfl rfl)
theorem dX8_cell_22 : decode cX8_cell 22 = .ok (.invokevirtual 148, 3) := dk_182 0 148 (dk_at dksX8_cell_1 0 rfl rfl)
theorem dX8_cell_25 : decode cX8_cell 25 = .ok (.invokevirtual 175, 3) := dk_182 0 175 (dk_at dksX8_cell_1 3 rfl rfl)
theorem dX8_cell_28 : decode cX8_cell 28 = .ok (.ireturn, 1) := dk_172 (dk_at dksX8_cell_1 6 rfl rfl)
abbrev cX8_plain : ByteArray := prog_9_method_24_code
def yX8_plain : MethodName := ⟨RX8, "plain", "(LWindowHill$Town;)LWindowHill$Step;"⟩
def dkwX8_plain_5 : List UInt8 := [182, 0, 19, 187, 0, 240, 89, 28, 29, 183, 0, 242, 176]
abbrev dktX8_plain_5 : List UInt8 := dkwX8_plain_5 ++ []
def dkwX8_plain_4 : List UInt8 := [62, 29, 156, 0, 19, 42, 180, 0, 3, 180, 0, 55, 6, 42, 180, 0, 29, 182, 0, 59, 191, 42]
abbrev dktX8_plain_4 : List UInt8 := dkwX8_plain_4 ++ dktX8_plain_5
def dkwX8_plain_3 : List UInt8 := [176, 28, 5, 159, 0, 13, 187, 0, 240, 89, 28, 3, 183, 0, 242, 176, 43, 42, 182, 0, 134, 182, 0, 248]
abbrev dktX8_plain_3 : List UInt8 := dkwX8_plain_3 ++ dktX8_plain_4
def dkwX8_plain_2 : List UInt8 := [183, 0, 242, 176, 28, 7, 160, 0, 19, 187, 0, 240, 89, 28, 42, 3, 16, 16, 182, 0, 148, 183, 0, 242]
abbrev dktX8_plain_2 : List UInt8 := dkwX8_plain_2 ++ dktX8_plain_3
def dkwX8_plain_1 : List UInt8 := [182, 0, 148, 183, 0, 242, 176, 28, 4, 160, 0, 17, 187, 0, 240, 89, 28, 42, 43, 182, 0, 245]
abbrev dktX8_plain_1 : List UInt8 := dkwX8_plain_1 ++ dktX8_plain_2
def dkwX8_plain_0 : List UInt8 := [42, 182, 0, 114, 61, 42, 182, 0, 19, 28, 154, 0, 19, 187, 0, 240, 89, 28, 42, 4, 16, 99]
abbrev dktX8_plain_0 : List UInt8 := dkwX8_plain_0 ++ dktX8_plain_1
theorem dksX8_plain_0 : cX8_plain.data.toList.drop 0 = dktX8_plain_0 := by decide +kernel
theorem dksX8_plain_1 : cX8_plain.data.toList.drop 22 = dktX8_plain_1 := dk_seg dksX8_plain_0 22 rfl rfl
theorem dksX8_plain_2 : cX8_plain.data.toList.drop 44 = dktX8_plain_2 := dk_seg dksX8_plain_1 22 rfl rfl
theorem dksX8_plain_3 : cX8_plain.data.toList.drop 68 = dktX8_plain_3 := dk_seg dksX8_plain_2 24 rfl rfl
theorem dksX8_plain_4 : cX8_plain.data.toList.drop 92 = dktX8_plain_4 := dk_seg dksX8_plain_3 24 rfl rfl
theorem dksX8_plain_5 : cX8_plain.data.toList.drop 114 = dktX8_plain_5 := dk_seg dksX8_plain_4 22 rfl rfl
theorem dX8_plain_0 : decode cX8_plain 0 = .ok (.aload_n 0, 1) := dk_42 (dk_at dksX8_plain_0 0 rfl rfl)
theorem dX8_plain_1 : decode cX8_plain 1 = .ok (.invokevirtual 114, 3) := dk_182 0 114 (dk_at dksX8_plain_0 1 rfl rfl)
theorem dX8_plain_4 : decode cX8_plain 4 = .ok (.istore_n 2, 1) := dk_61 (dk_at dksX8_plain_0 4 rfl rfl)
theorem dX8_plain_5 : decode cX8_plain 5 = .ok (.aload_n 0, 1) := dk_42 (dk_at dksX8_plain_0 5 rfl rfl)
theorem dX8_plain_6 : decode cX8_plain 6 = .ok (.invokevirtual 19, 3) := dk_182 0 19 (dk_at dksX8_plain_0 6 rfl rfl)
theorem dX8_plain_9 : decode cX8_plain 9 = .ok (.iload_n 2, 1) := dk_28 (dk_at dksX8_plain_0 9 rfl rfl)
theorem dX8_plain_10 : decode cX8_plain 10 = .ok (.ifCond .ne 19, 3) := dk_154 0 19 (dk_at dksX8_plain_0 10 rfl rfl)
theorem dX8_plain_13 : decode cX8_plain 13 = .ok (.new 240, 3) := dk_187 0 240 (dk_at dksX8_plain_0 13 rfl rfl)
theorem dX8_plain_16 : decode cX8_plain 16 = .ok (.dup, 1) := dk_89 (dk_at dksX8_plain_0 16 rfl rfl)
theorem dX8_plain_17 : decode cX8_plain 17 = .ok (.iload_n 2, 1) := dk_28 (dk_at dksX8_plain_0 17 rfl rfl)
theorem dX8_plain_18 : decode cX8_plain 18 = .ok (.aload_n 0, 1) := dk_42 (dk_at dksX8_plain_0 18 rfl rfl)
theorem dX8_plain_19 : decode cX8_plain 19 = .ok (.iconst 1, 1) := dk_4 (dk_at dksX8_plain_0 19 rfl rfl)
theorem dX8_plain_20 : decode cX8_plain 20 = .ok (.bipush 99, 2) := dk_16 99 (dk_at dksX8_plain_0 20 rfl rfl)
theorem dX8_plain_22 : decode cX8_plain 22 = .ok (.invokevirtual 148, 3) := dk_182 0 148 (dk_at dksX8_plain_1 0 rfl rfl)
theorem dX8_plain_25 : decode cX8_plain 25 = .ok (.invokespecial 242, 3) := dk_183 0 242 (dk_at dksX8_plain_1 3 rfl rfl)
theorem dX8_plain_28 : decode cX8_plain 28 = .ok (.areturn, 1) := dk_176 (dk_at dksX8_plain_1 6 rfl rfl)
theorem dX8_plain_29 : decode cX8_plain 29 = .ok (.iload_n 2, 1) := dk_28 (dk_at dksX8_plain_1 7 rfl rfl)
theorem dX8_plain_30 : decode cX8_plain 30 = .ok (.iconst 1, 1) := dk_4 (dk_at dksX8_plain_1 8 rfl rfl)
theorem dX8_plain_31 : decode cX8_plain 31 = .ok (.if_icmp .ne 17, 3) := dk_160 0 17 (dk_at dksX8_plain_1 9 rfl rfl)
theorem dX8_plain_34 : decode cX8_plain 34 = .ok (.new 240, 3) := dk_187 0 240 (dk_at dksX8_plain_1 12 rfl rfl)
theorem dX8_plain_37 : decode cX8_plain 37 = .ok (.dup, 1) := dk_89 (dk_at dksX8_plain_1 15 rfl rfl)
theorem dX8_plain_38 : decode cX8_plain 38 = .ok (.iload_n 2, 1) := dk_28 (dk_at dksX8_plain_1 16 rfl rfl)
theorem dX8_plain_39 : decode cX8_plain 39 = .ok (.aload_n 0, 1) := dk_42 (dk_at dksX8_plain_1 17 rfl rfl)
theorem dX8_plain_40 : decode cX8_plain 40 = .ok (.aload_n 1, 1) := dk_43 (dk_at dksX8_plain_1 18 rfl rfl)
theorem dX8_plain_41 : decode cX8_plain 41 = .ok (.invokevirtual 245, 3) := dk_182 0 245 (dk_at dksX8_plain_1 19 rfl rfl)
theorem dX8_plain_44 : decode cX8_plain 44 = .ok (.invokespecial 242, 3) := dk_183 0 242 (dk_at dksX8_plain_2 0 rfl rfl)
theorem dX8_plain_47 : decode cX8_plain 47 = .ok (.areturn, 1) := dk_176 (dk_at dksX8_plain_2 3 rfl rfl)
theorem dX8_plain_48 : decode cX8_plain 48 = .ok (.iload_n 2, 1) := dk_28 (dk_at dksX8_plain_2 4 rfl rfl)
theorem dX8_plain_49 : decode cX8_plain 49 = .ok (.iconst 4, 1) := dk_7 (dk_at dksX8_plain_2 5 rfl rfl)
theorem dX8_plain_50 : decode cX8_plain 50 = .ok (.if_icmp .ne 19, 3) := dk_160 0 19 (dk_at dksX8_plain_2 6 rfl rfl)
theorem dX8_plain_53 : decode cX8_plain 53 = .ok (.new 240, 3) := dk_187 0 240 (dk_at dksX8_plain_2 9 rfl rfl)
theorem dX8_plain_56 : decode cX8_plain 56 = .ok (.dup, 1) := dk_89 (dk_at dksX8_plain_2 12 rfl rfl)
theorem dX8_plain_57 : decode cX8_plain 57 = .ok (.iload_n 2, 1) := dk_28 (dk_at dksX8_plain_2 13 rfl rfl)
theorem dX8_plain_58 : decode cX8_plain 58 = .ok (.aload_n 0, 1) := dk_42 (dk_at dksX8_plain_2 14 rfl rfl)
theorem dX8_plain_59 : decode cX8_plain 59 = .ok (.iconst 0, 1) := dk_3 (dk_at dksX8_plain_2 15 rfl rfl)
theorem dX8_plain_60 : decode cX8_plain 60 = .ok (.bipush 16, 2) := dk_16 16 (dk_at dksX8_plain_2 16 rfl rfl)
theorem dX8_plain_62 : decode cX8_plain 62 = .ok (.invokevirtual 148, 3) := dk_182 0 148 (dk_at dksX8_plain_2 18 rfl rfl)
theorem dX8_plain_65 : decode cX8_plain 65 = .ok (.invokespecial 242, 3) := dk_183 0 242 (dk_at dksX8_plain_2 21 rfl rfl)
theorem dX8_plain_68 : decode cX8_plain 68 = .ok (.areturn, 1) := dk_176 (dk_at dksX8_plain_3 0 rfl rfl)
theorem dX8_plain_69 : decode cX8_plain 69 = .ok (.iload_n 2, 1) := dk_28 (dk_at dksX8_plain_3 1 rfl rfl)
theorem dX8_plain_70 : decode cX8_plain 70 = .ok (.iconst 2, 1) := dk_5 (dk_at dksX8_plain_3 2 rfl rfl)
theorem dX8_plain_71 : decode cX8_plain 71 = .ok (.if_icmp .eq 13, 3) := dk_159 0 13 (dk_at dksX8_plain_3 3 rfl rfl)
theorem dX8_plain_74 : decode cX8_plain 74 = .ok (.new 240, 3) := dk_187 0 240 (dk_at dksX8_plain_3 6 rfl rfl)
theorem dX8_plain_77 : decode cX8_plain 77 = .ok (.dup, 1) := dk_89 (dk_at dksX8_plain_3 9 rfl rfl)
theorem dX8_plain_78 : decode cX8_plain 78 = .ok (.iload_n 2, 1) := dk_28 (dk_at dksX8_plain_3 10 rfl rfl)
theorem dX8_plain_79 : decode cX8_plain 79 = .ok (.iconst 0, 1) := dk_3 (dk_at dksX8_plain_3 11 rfl rfl)
theorem dX8_plain_80 : decode cX8_plain 80 = .ok (.invokespecial 242, 3) := dk_183 0 242 (dk_at dksX8_plain_3 12 rfl rfl)
theorem dX8_plain_83 : decode cX8_plain 83 = .ok (.areturn, 1) := dk_176 (dk_at dksX8_plain_3 15 rfl rfl)
theorem dX8_plain_84 : decode cX8_plain 84 = .ok (.aload_n 1, 1) := dk_43 (dk_at dksX8_plain_3 16 rfl rfl)
theorem dX8_plain_85 : decode cX8_plain 85 = .ok (.aload_n 0, 1) := dk_42 (dk_at dksX8_plain_3 17 rfl rfl)
theorem dX8_plain_86 : decode cX8_plain 86 = .ok (.invokevirtual 134, 3) := dk_182 0 134 (dk_at dksX8_plain_3 18 rfl rfl)
theorem dX8_plain_89 : decode cX8_plain 89 = .ok (.invokevirtual 248, 3) := dk_182 0 248 (dk_at dksX8_plain_3 21 rfl rfl)
theorem dX8_plain_92 : decode cX8_plain 92 = .ok (.istore_n 3, 1) := dk_62 (dk_at dksX8_plain_4 0 rfl rfl)
theorem dX8_plain_93 : decode cX8_plain 93 = .ok (.iload_n 3, 1) := dk_29 (dk_at dksX8_plain_4 1 rfl rfl)
theorem dX8_plain_94 : decode cX8_plain 94 = .ok (.ifCond .ge 19, 3) := dk_156 0 19 (dk_at dksX8_plain_4 2 rfl rfl)
theorem dX8_plain_97 : decode cX8_plain 97 = .ok (.aload_n 0, 1) := dk_42 (dk_at dksX8_plain_4 5 rfl rfl)
theorem dX8_plain_98 : decode cX8_plain 98 = .ok (.getfield 3, 3) := dk_180 0 3 (dk_at dksX8_plain_4 6 rfl rfl)
theorem dX8_plain_101 : decode cX8_plain 101 = .ok (.getfield 55, 3) := dk_180 0 55 (dk_at dksX8_plain_4 9 rfl rfl)
theorem dX8_plain_104 : decode cX8_plain 104 = .ok (.iconst 3, 1) := dk_6 (dk_at dksX8_plain_4 12 rfl rfl)
theorem dX8_plain_105 : decode cX8_plain 105 = .ok (.aload_n 0, 1) := dk_42 (dk_at dksX8_plain_4 13 rfl rfl)
theorem dX8_plain_106 : decode cX8_plain 106 = .ok (.getfield 29, 3) := dk_180 0 29 (dk_at dksX8_plain_4 14 rfl rfl)
theorem dX8_plain_109 : decode cX8_plain 109 = .ok (.invokevirtual 59, 3) := dk_182 0 59 (dk_at dksX8_plain_4 17 rfl rfl)
theorem dX8_plain_112 : decode cX8_plain 112 = .ok (.athrow, 1) := dk_191 (dk_at dksX8_plain_4 20 rfl rfl)
theorem dX8_plain_113 : decode cX8_plain 113 = .ok (.aload_n 0, 1) := dk_42 (dk_at dksX8_plain_4 21 rfl rfl)
theorem dX8_plain_114 : decode cX8_plain 114 = .ok (.invokevirtual 19, 3) := dk_182 0 19 (dk_at dksX8_plain_5 0 rfl rfl)
theorem dX8_plain_117 : decode cX8_plain 117 = .ok (.new 240, 3) := dk_187 0 240 (dk_at dksX8_plain_5 3 rfl rfl)
theorem dX8_plain_120 : decode cX8_plain 120 = .ok (.dup, 1) := dk_89 (dk_at dksX8_plain_5 6 rfl rfl)
theorem dX8_plain_121 : decode cX8_plain 121 = .ok (.iload_n 2, 1) := dk_28 (dk_at dksX8_plain_5 7 rfl rfl)
theorem dX8_plain_122 : decode cX8_plain 122 = .ok (.iload_n 3, 1) := dk_29 (dk_at dksX8_plain_5 8 rfl rfl)
theorem dX8_plain_123 : decode cX8_plain 123 = .ok (.invokespecial 242, 3) := dk_183 0 242 (dk_at dksX8_plain_5 9 rfl rfl)
theorem dX8_plain_126 : decode cX8_plain 126 = .ok (.areturn, 1) := dk_176 (dk_at dksX8_plain_5 12 rfl rfl)
theorem q151 : (Jvm.Cond.initialized "WindowHill$Reader") ∈ lw_all := lw_g (lw_at lw_m1 17 rfl) rfl
theorem q293 : (Jvm.Cond.fieldLinkNest "WindowHill$Reader" (151 : Nat) "WindowHill$Town" "wide" "I" "WindowHill") ∈ lw_tbl := lw_at lw_m1 159 rfl
theorem q297 : (Jvm.Cond.fieldLinkNest "WindowHill$Reader" (159 : Nat) "WindowHill$Town" "rows" "I" "WindowHill") ∈ lw_tbl := lw_at lw_m1 163 rfl
theorem q300 : (Jvm.Cond.fieldLinkNest "WindowHill$Reader" (162 : Nat) "WindowHill$Town" "houses" "I" "WindowHill") ∈ lw_tbl := lw_at lw_m1 166 rfl
theorem q304 : (Jvm.Cond.fieldLinkNest "WindowHill$Reader" (178 : Nat) "WindowHill$Town" "always" "I" "WindowHill") ∈ lw_tbl := lw_at lw_m1 170 rfl
theorem q307 : (Jvm.Cond.fieldLinkNest "WindowHill$Reader" (181 : Nat) "WindowHill$Town" "never" "I" "WindowHill") ∈ lw_tbl := lw_at lw_m1 173 rfl
theorem q310 : (Jvm.Cond.fieldLinkNest "WindowHill$Reader" (187 : Nat) "WindowHill$Town" "rules" "I" "WindowHill") ∈ lw_tbl := lw_at lw_m1 176 rfl
theorem q314 : (Jvm.Cond.fieldLinkNest "WindowHill$Reader" (207 : Nat) "WindowHill$Town" "citizens" "I" "WindowHill") ∈ lw_tbl := lw_at lw_m1 180 rfl
theorem q317 : (Jvm.Cond.fieldLinkNest "WindowHill$Reader" (153 : Nat) "WindowHill$Town" "ring" "Z" "WindowHill") ∈ lw_tbl := lw_at lw_m1 183 rfl
theorem q323 : (Jvm.Cond.fieldLinkNest "WindowHill$Reader" (210 : Nat) "WindowHill$Town" "least" "[I" "WindowHill") ∈ lw_tbl := lw_at lw_m1 189 rfl
theorem q327 : (Jvm.Cond.fieldLinkNest "WindowHill$Reader" (213 : Nat) "WindowHill$Town" "most" "[I" "WindowHill") ∈ lw_tbl := lw_at lw_m1 193 rfl
theorem q330 : (Jvm.Cond.fieldLinkNest "WindowHill$Reader" (203 : Nat) "WindowHill$Town" "ruleNames" "[J" "WindowHill") ∈ lw_tbl := lw_at lw_m1 196 rfl
theorem q332 : (Jvm.Cond.fieldLinkNest "WindowHill$Reader" (216 : Nat) "WindowHill$Town" "citizenNames" "[J" "WindowHill") ∈ lw_tbl := lw_at lw_m1 198 rfl
theorem q335 : (Jvm.Cond.fieldLinkNest "WindowHill$Reader" (194 : Nat) "WindowHill$Town" "born" "[I" "WindowHill") ∈ lw_tbl := lw_at lw_m1 201 rfl
theorem q338 : (Jvm.Cond.fieldLinkNest "WindowHill$Reader" (201 : Nat) "WindowHill$Town" "stays" "[I" "WindowHill") ∈ lw_tbl := lw_at lw_m1 204 rfl
theorem q424 : (Jvm.Cond.fieldLinkNest "WindowHill$Reader" (22 : Nat) "WindowHill" "tape" "[B" "WindowHill") ∈ lw_tbl := lw_at lw_m2 50 rfl
theorem q430 : (Jvm.Cond.fieldLinkNest "WindowHill$Reader" (55 : Nat) "WindowHill" "bad" "LWindowHill$Bad;" "WindowHill") ∈ lw_tbl := lw_at lw_m2 56 rfl
theorem q632 : (Jvm.Cond.instantiable "WindowHill$Reader" (8 : Nat)) ∈ lw_all := lw_g (lw_at lw_m3 18 rfl) rfl
theorem q634 : (Jvm.Cond.instanceMethod ({ cls := "WindowHill$Reader", name := "<init>", desc := "(LWindowHill;I)V" } : Jvm.MethodName)) ∈ lw_all := lw_g (lw_at lw_m3 20 rfl) rfl
theorem q635 : (Jvm.Cond.code ({ cls := "WindowHill$Reader", name := "<init>", desc := "(LWindowHill;I)V" } : Jvm.MethodName) prog_9_method_1_code (3 : Nat) (Option.none : Option Jvm.ClassFile.FieldType)) ∈ lw_all := lw_g (lw_at lw_m3 21 rfl) rfl
theorem q636 : (Jvm.Cond.methodLink "WindowHill$Reader" (9 : Nat) ({ cls := "java/lang/Object", name := "<init>", desc := "()V" } : Jvm.MethodName)) ∈ lw_all := lw_g (lw_at lw_m3 22 rfl) rfl
theorem q637 : (Jvm.Cond.methodLink "WindowHill$Reader" (19 : Nat) ({ cls := "WindowHill$Reader", name := "next", desc := "()V" } : Jvm.MethodName)) ∈ lw_all := lw_g (lw_at lw_m3 23 rfl) rfl
theorem q638 : (Jvm.Cond.privateMethod ({ cls := "WindowHill$Reader", name := "next", desc := "()V" } : Jvm.MethodName)) ∈ lw_tbl := lw_at lw_m3 24 rfl
theorem q639 : (Jvm.Cond.instanceMethod ({ cls := "WindowHill$Reader", name := "next", desc := "()V" } : Jvm.MethodName)) ∈ lw_all := lw_g (lw_at lw_m3 25 rfl) rfl
theorem q640 : (Jvm.Cond.code ({ cls := "WindowHill$Reader", name := "next", desc := "()V" } : Jvm.MethodName) prog_9_method_4_code (1 : Nat) (Option.none : Option Jvm.ClassFile.FieldType)) ∈ lw_all := lw_g (lw_at lw_m3 26 rfl) rfl
theorem q641 : (Jvm.Cond.methodLink "WindowHill$Reader" (35 : Nat) ({ cls := "WindowHill$Reader", name := "isLetter", desc := "(I)Z" } : Jvm.MethodName)) ∈ lw_all := lw_g (lw_at lw_m3 27 rfl) rfl
theorem q642 : (Jvm.Cond.privateMethod ({ cls := "WindowHill$Reader", name := "isLetter", desc := "(I)Z" } : Jvm.MethodName)) ∈ lw_tbl := lw_at lw_m3 28 rfl
theorem q643 : (Jvm.Cond.instanceMethod ({ cls := "WindowHill$Reader", name := "isLetter", desc := "(I)Z" } : Jvm.MethodName)) ∈ lw_all := lw_g (lw_at lw_m3 29 rfl) rfl
theorem q644 : (Jvm.Cond.code ({ cls := "WindowHill$Reader", name := "isLetter", desc := "(I)Z" } : Jvm.MethodName) prog_9_method_2_code (2 : Nat) (Option.some Jvm.ClassFile.FieldType.boolean)) ∈ lw_all := lw_g (lw_at lw_m3 30 rfl) rfl
theorem q645 : (Jvm.Cond.methodLink "WindowHill$Reader" (39 : Nat) ({ cls := "WindowHill$Reader", name := "isDigit", desc := "(I)Z" } : Jvm.MethodName)) ∈ lw_all := lw_g (lw_at lw_m3 31 rfl) rfl
theorem q646 : (Jvm.Cond.privateMethod ({ cls := "WindowHill$Reader", name := "isDigit", desc := "(I)Z" } : Jvm.MethodName)) ∈ lw_tbl := lw_at lw_m3 32 rfl
theorem q647 : (Jvm.Cond.instanceMethod ({ cls := "WindowHill$Reader", name := "isDigit", desc := "(I)Z" } : Jvm.MethodName)) ∈ lw_all := lw_g (lw_at lw_m3 33 rfl) rfl
theorem q648 : (Jvm.Cond.code ({ cls := "WindowHill$Reader", name := "isDigit", desc := "(I)Z" } : Jvm.MethodName) prog_9_method_3_code (2 : Nat) (Option.some Jvm.ClassFile.FieldType.boolean)) ∈ lw_all := lw_g (lw_at lw_m3 34 rfl) rfl
theorem q649 : (Jvm.Cond.fieldLink "WindowHill$Reader" (15 : Nat) "WindowHill$Reader" "size" "I") ∈ lw_all := lw_g (lw_at lw_m3 35 rfl) rfl
theorem q650 : (Jvm.Cond.fieldLink "WindowHill$Reader" (29 : Nat) "WindowHill$Reader" "at" "I") ∈ lw_all := lw_g (lw_at lw_m3 36 rfl) rfl
theorem q651 : (Jvm.Cond.fieldLink "WindowHill$Reader" (26 : Nat) "WindowHill$Reader" "behind" "I") ∈ lw_all := lw_g (lw_at lw_m3 37 rfl) rfl
theorem q652 : (Jvm.Cond.fieldLink "WindowHill$Reader" (32 : Nat) "WindowHill$Reader" "sort" "I") ∈ lw_all := lw_g (lw_at lw_m3 38 rfl) rfl
theorem q653 : (Jvm.Cond.fieldLink "WindowHill$Reader" (42 : Nat) "WindowHill$Reader" "number" "I") ∈ lw_all := lw_g (lw_at lw_m3 39 rfl) rfl
theorem q654 : (Jvm.Cond.fieldLink "WindowHill$Reader" (223 : Nat) "WindowHill$Reader" "steps" "I") ∈ lw_all := lw_g (lw_at lw_m3 40 rfl) rfl
theorem q656 : (Jvm.Cond.fieldLink "WindowHill$Reader" (184 : Nat) "WindowHill$Reader" "picture" "I") ∈ lw_all := lw_g (lw_at lw_m3 42 rfl) rfl
theorem q658 : (Jvm.Cond.fieldLink "WindowHill$Reader" (3 : Nat) "WindowHill$Reader" "this$0" "LWindowHill;") ∈ lw_all := lw_g (lw_at lw_m3 44 rfl) rfl
theorem q659 : (Jvm.Cond.laysFinal "WindowHill$Reader" "WindowHill$Reader" "size" "I") ∈ lw_all := lw_g (lw_at lw_m3 45 rfl) rfl
theorem q660 : (Jvm.Cond.soleField "WindowHill$Reader" "size") ∈ lw_all := lw_g (lw_at lw_m3 46 rfl) rfl
theorem q661 : (Jvm.Cond.lays "WindowHill$Reader" "WindowHill$Reader" "at" "I") ∈ lw_all := lw_g (lw_at lw_m3 47 rfl) rfl
theorem q662 : (Jvm.Cond.soleField "WindowHill$Reader" "at") ∈ lw_all := lw_g (lw_at lw_m3 48 rfl) rfl
theorem q663 : (Jvm.Cond.lays "WindowHill$Reader" "WindowHill$Reader" "behind" "I") ∈ lw_all := lw_g (lw_at lw_m3 49 rfl) rfl
theorem q664 : (Jvm.Cond.soleField "WindowHill$Reader" "behind") ∈ lw_all := lw_g (lw_at lw_m3 50 rfl) rfl
theorem q665 : (Jvm.Cond.lays "WindowHill$Reader" "WindowHill$Reader" "sort" "I") ∈ lw_all := lw_g (lw_at lw_m3 51 rfl) rfl
theorem q666 : (Jvm.Cond.soleField "WindowHill$Reader" "sort") ∈ lw_all := lw_g (lw_at lw_m3 52 rfl) rfl
theorem q667 : (Jvm.Cond.lays "WindowHill$Reader" "WindowHill$Reader" "number" "I") ∈ lw_all := lw_g (lw_at lw_m3 53 rfl) rfl
theorem q668 : (Jvm.Cond.soleField "WindowHill$Reader" "number") ∈ lw_all := lw_g (lw_at lw_m3 54 rfl) rfl
theorem q669 : (Jvm.Cond.lays "WindowHill$Reader" "WindowHill$Reader" "steps" "I") ∈ lw_all := lw_g (lw_at lw_m3 55 rfl) rfl
theorem q670 : (Jvm.Cond.soleField "WindowHill$Reader" "steps") ∈ lw_all := lw_g (lw_at lw_m3 56 rfl) rfl
theorem q671 : (Jvm.Cond.lays "WindowHill$Reader" "WindowHill$Reader" "picture" "I") ∈ lw_all := lw_g (lw_at lw_m3 57 rfl) rfl
theorem q672 : (Jvm.Cond.soleField "WindowHill$Reader" "picture") ∈ lw_all := lw_g (lw_at lw_m3 58 rfl) rfl
theorem q673 : (Jvm.Cond.laysFinal "WindowHill$Reader" "WindowHill$Reader" "this$0" "LWindowHill;") ∈ lw_all := lw_g (lw_at lw_m3 59 rfl) rfl
theorem q674 : (Jvm.Cond.soleField "WindowHill$Reader" "this$0") ∈ lw_all := lw_g (lw_at lw_m3 60 rfl) rfl
theorem q675 : (Jvm.Cond.superclass "WindowHill$Reader" "java/lang/Object") ∈ lw_all := lw_g (lw_at lw_m3 61 rfl) rfl
theorem q677 : (Jvm.Cond.instanceMethod ({ cls := "WindowHill$Reader", name := "town", desc := "(LWindowHill$Town;)V" } : Jvm.MethodName)) ∈ lw_all := lw_g (lw_at lw_m3 63 rfl) rfl
theorem q678 : (Jvm.Cond.selects "WindowHill$Reader" ({ cls := "WindowHill$Reader", name := "town", desc := "(LWindowHill$Town;)V" } : Jvm.MethodName) ({ cls := "WindowHill$Reader", name := "town", desc := "(LWindowHill$Town;)V" } : Jvm.MethodName)) ∈ lw_all := lw_g (lw_at lw_m3 64 rfl) rfl
theorem q679 : (Jvm.Cond.code ({ cls := "WindowHill$Reader", name := "town", desc := "(LWindowHill$Town;)V" } : Jvm.MethodName) prog_9_method_16_code (2 : Nat) (Option.none : Option Jvm.ClassFile.FieldType)) ∈ lw_all := lw_g (lw_at lw_m3 65 rfl) rfl
theorem q680 : (Jvm.Cond.stringRef "WindowHill$Reader" (96 : Nat) "wide") ∈ lw_tbl := lw_at lw_m3 66 rfl
theorem q681 : (Jvm.Cond.methodLink "WindowHill$Reader" (144 : Nat) ({ cls := "WindowHill$Reader", name := "word", desc := "(Ljava/lang/String;)V" } : Jvm.MethodName)) ∈ lw_all := lw_g (lw_at lw_m3 67 rfl) rfl
theorem q682 : (Jvm.Cond.privateMethod ({ cls := "WindowHill$Reader", name := "word", desc := "(Ljava/lang/String;)V" } : Jvm.MethodName)) ∈ lw_tbl := lw_at lw_m3 68 rfl
theorem q683 : (Jvm.Cond.instanceMethod ({ cls := "WindowHill$Reader", name := "word", desc := "(Ljava/lang/String;)V" } : Jvm.MethodName)) ∈ lw_all := lw_g (lw_at lw_m3 69 rfl) rfl
theorem q684 : (Jvm.Cond.code ({ cls := "WindowHill$Reader", name := "word", desc := "(Ljava/lang/String;)V" } : Jvm.MethodName) prog_9_method_9_code (2 : Nat) (Option.none : Option Jvm.ClassFile.FieldType)) ∈ lw_all := lw_g (lw_at lw_m3 70 rfl) rfl
theorem q685 : (Jvm.Cond.methodLink "WindowHill$Reader" (72 : Nat) ({ cls := "WindowHill$Reader", name := "isWord", desc := "(Ljava/lang/String;)Z" } : Jvm.MethodName)) ∈ lw_all := lw_g (lw_at lw_m3 71 rfl) rfl
theorem q686 : (Jvm.Cond.privateMethod ({ cls := "WindowHill$Reader", name := "isWord", desc := "(Ljava/lang/String;)Z" } : Jvm.MethodName)) ∈ lw_tbl := lw_at lw_m3 72 rfl
theorem q687 : (Jvm.Cond.instanceMethod ({ cls := "WindowHill$Reader", name := "isWord", desc := "(Ljava/lang/String;)Z" } : Jvm.MethodName)) ∈ lw_all := lw_g (lw_at lw_m3 73 rfl) rfl
theorem q688 : (Jvm.Cond.code ({ cls := "WindowHill$Reader", name := "isWord", desc := "(Ljava/lang/String;)Z" } : Jvm.MethodName) prog_9_method_5_code (3 : Nat) (Option.some Jvm.ClassFile.FieldType.boolean)) ∈ lw_all := lw_g (lw_at lw_m3 74 rfl) rfl
theorem q689 : (Jvm.Cond.methodLink "WindowHill$Reader" (45 : Nat) ({ cls := "java/lang/String", name := "length", desc := "()I" } : Jvm.MethodName)) ∈ lw_all := lw_g (lw_at lw_m3 75 rfl) rfl
theorem q699 : (Jvm.Cond.methodLink "WindowHill$Reader" (51 : Nat) ({ cls := "java/lang/String", name := "charAt", desc := "(I)C" } : Jvm.MethodName)) ∈ lw_all := lw_g (lw_at lw_m3 85 rfl) rfl
theorem q737 : (Jvm.Cond.methodLink "WindowHill$Reader" (68 : Nat) ({ cls := "WindowHill$Reader", name := "wrong", desc := "()LWindowHill$Bad;" } : Jvm.MethodName)) ∈ lw_all := lw_g (lw_at lw_m3 123 rfl) rfl
theorem q738 : (Jvm.Cond.privateMethod ({ cls := "WindowHill$Reader", name := "wrong", desc := "()LWindowHill$Bad;" } : Jvm.MethodName)) ∈ lw_tbl := lw_at lw_m3 124 rfl
theorem q739 : (Jvm.Cond.instanceMethod ({ cls := "WindowHill$Reader", name := "wrong", desc := "()LWindowHill$Bad;" } : Jvm.MethodName)) ∈ lw_all := lw_g (lw_at lw_m3 125 rfl) rfl
theorem q740 : (Jvm.Cond.code ({ cls := "WindowHill$Reader", name := "wrong", desc := "()LWindowHill$Bad;" } : Jvm.MethodName) prog_9_method_7_code (1 : Nat) (Option.some (Jvm.ClassFile.FieldType.object "WindowHill$Bad"))) ∈ lw_all := lw_g (lw_at lw_m3 126 rfl) rfl
theorem q741 : (Jvm.Cond.methodLink "WindowHill$Reader" (59 : Nat) ({ cls := "WindowHill$Bad", name := "at", desc := "(II)LWindowHill$Bad;" } : Jvm.MethodName)) ∈ lw_all := lw_g (lw_at lw_m3 127 rfl) rfl
theorem q745 : (Jvm.Cond.methodLink "WindowHill$Reader" (148 : Nat) ({ cls := "WindowHill$Reader", name := "number", desc := "(II)I" } : Jvm.MethodName)) ∈ lw_all := lw_g (lw_at lw_m3 131 rfl) rfl
theorem q746 : (Jvm.Cond.privateMethod ({ cls := "WindowHill$Reader", name := "number", desc := "(II)I" } : Jvm.MethodName)) ∈ lw_tbl := lw_at lw_m3 132 rfl
theorem q747 : (Jvm.Cond.instanceMethod ({ cls := "WindowHill$Reader", name := "number", desc := "(II)I" } : Jvm.MethodName)) ∈ lw_all := lw_g (lw_at lw_m3 133 rfl) rfl
theorem q748 : (Jvm.Cond.code ({ cls := "WindowHill$Reader", name := "number", desc := "(II)I" } : Jvm.MethodName) prog_9_method_10_code (4 : Nat) (Option.some Jvm.ClassFile.FieldType.int)) ∈ lw_all := lw_g (lw_at lw_m3 134 rfl) rfl
theorem q749 : (Jvm.Cond.stringRef "WindowHill$Reader" (98 : Nat) "ring") ∈ lw_tbl := lw_at lw_m3 135 rfl
theorem q750 : (Jvm.Cond.methodLink "WindowHill$Reader" (156 : Nat) ({ cls := "WindowHill$Reader", name := "close", desc := "()V" } : Jvm.MethodName)) ∈ lw_all := lw_g (lw_at lw_m3 136 rfl) rfl
theorem q751 : (Jvm.Cond.privateMethod ({ cls := "WindowHill$Reader", name := "close", desc := "()V" } : Jvm.MethodName)) ∈ lw_tbl := lw_at lw_m3 137 rfl
theorem q752 : (Jvm.Cond.instanceMethod ({ cls := "WindowHill$Reader", name := "close", desc := "()V" } : Jvm.MethodName)) ∈ lw_all := lw_g (lw_at lw_m3 138 rfl) rfl
theorem q753 : (Jvm.Cond.code ({ cls := "WindowHill$Reader", name := "close", desc := "()V" } : Jvm.MethodName) prog_9_method_8_code (1 : Nat) (Option.none : Option Jvm.ClassFile.FieldType)) ∈ lw_all := lw_g (lw_at lw_m3 139 rfl) rfl
theorem q754 : (Jvm.Cond.methodLink "WindowHill$Reader" (64 : Nat) ({ cls := "WindowHill$Reader", name := "isSign", desc := "(C)Z" } : Jvm.MethodName)) ∈ lw_all := lw_g (lw_at lw_m3 140 rfl) rfl
theorem q755 : (Jvm.Cond.privateMethod ({ cls := "WindowHill$Reader", name := "isSign", desc := "(C)Z" } : Jvm.MethodName)) ∈ lw_tbl := lw_at lw_m3 141 rfl
theorem q756 : (Jvm.Cond.instanceMethod ({ cls := "WindowHill$Reader", name := "isSign", desc := "(C)Z" } : Jvm.MethodName)) ∈ lw_all := lw_g (lw_at lw_m3 142 rfl) rfl
theorem q757 : (Jvm.Cond.code ({ cls := "WindowHill$Reader", name := "isSign", desc := "(C)Z" } : Jvm.MethodName) prog_9_method_6_code (2 : Nat) (Option.some Jvm.ClassFile.FieldType.boolean)) ∈ lw_all := lw_g (lw_at lw_m3 143 rfl) rfl
theorem q758 : (Jvm.Cond.stringRef "WindowHill$Reader" (100 : Nat) "row") ∈ lw_tbl := lw_at lw_m3 144 rfl
theorem q759 : (Jvm.Cond.methodLink "WindowHill$Reader" (165 : Nat) ({ cls := "WindowHill$Reader", name := "row", desc := "(LWindowHill$Town;)V" } : Jvm.MethodName)) ∈ lw_all := lw_g (lw_at lw_m3 145 rfl) rfl
theorem q760 : (Jvm.Cond.privateMethod ({ cls := "WindowHill$Reader", name := "row", desc := "(LWindowHill$Town;)V" } : Jvm.MethodName)) ∈ lw_tbl := lw_at lw_m3 146 rfl
theorem q761 : (Jvm.Cond.instanceMethod ({ cls := "WindowHill$Reader", name := "row", desc := "(LWindowHill$Town;)V" } : Jvm.MethodName)) ∈ lw_all := lw_g (lw_at lw_m3 147 rfl) rfl
theorem q762 : (Jvm.Cond.code ({ cls := "WindowHill$Reader", name := "row", desc := "(LWindowHill$Town;)V" } : Jvm.MethodName) prog_9_method_17_code (6 : Nat) (Option.none : Option Jvm.ClassFile.FieldType)) ∈ lw_all := lw_g (lw_at lw_m3 148 rfl) rfl
theorem q763 : (Jvm.Cond.methodLink "WindowHill$Reader" (175 : Nat) ({ cls := "WindowHill$Town", name := "cell", desc := "(II)I" } : Jvm.MethodName)) ∈ lw_all := lw_g (lw_at lw_m3 149 rfl) rfl
theorem q767 : (Jvm.Cond.stringRef "WindowHill$Reader" (102 : Nat) "rule") ∈ lw_tbl := lw_at lw_m3 153 rfl
theorem q768 : (Jvm.Cond.methodLink "WindowHill$Reader" (168 : Nat) ({ cls := "WindowHill$Reader", name := "rule", desc := "(LWindowHill$Town;)V" } : Jvm.MethodName)) ∈ lw_all := lw_g (lw_at lw_m3 154 rfl) rfl
theorem q769 : (Jvm.Cond.privateMethod ({ cls := "WindowHill$Reader", name := "rule", desc := "(LWindowHill$Town;)V" } : Jvm.MethodName)) ∈ lw_tbl := lw_at lw_m3 155 rfl
theorem q770 : (Jvm.Cond.instanceMethod ({ cls := "WindowHill$Reader", name := "rule", desc := "(LWindowHill$Town;)V" } : Jvm.MethodName)) ∈ lw_all := lw_g (lw_at lw_m3 156 rfl) rfl
theorem q771 : (Jvm.Cond.code ({ cls := "WindowHill$Reader", name := "rule", desc := "(LWindowHill$Town;)V" } : Jvm.MethodName) prog_9_method_19_code (5 : Nat) (Option.none : Option Jvm.ClassFile.FieldType)) ∈ lw_all := lw_g (lw_at lw_m3 157 rfl) rfl
theorem q772 : (Jvm.Cond.methodLink "WindowHill$Reader" (190 : Nat) ({ cls := "WindowHill$Reader", name := "fresh", desc := "(LWindowHill$Town;)J" } : Jvm.MethodName)) ∈ lw_all := lw_g (lw_at lw_m3 158 rfl) rfl
theorem q773 : (Jvm.Cond.privateMethod ({ cls := "WindowHill$Reader", name := "fresh", desc := "(LWindowHill$Town;)J" } : Jvm.MethodName)) ∈ lw_tbl := lw_at lw_m3 159 rfl
theorem q774 : (Jvm.Cond.instanceMethod ({ cls := "WindowHill$Reader", name := "fresh", desc := "(LWindowHill$Town;)J" } : Jvm.MethodName)) ∈ lw_all := lw_g (lw_at lw_m3 160 rfl) rfl
theorem q775 : (Jvm.Cond.code ({ cls := "WindowHill$Reader", name := "fresh", desc := "(LWindowHill$Town;)J" } : Jvm.MethodName) prog_9_method_15_code (4 : Nat) (Option.some Jvm.ClassFile.FieldType.long)) ∈ lw_all := lw_g (lw_at lw_m3 161 rfl) rfl
theorem q776 : (Jvm.Cond.methodLink "WindowHill$Reader" (134 : Nat) ({ cls := "WindowHill$Reader", name := "name", desc := "()J" } : Jvm.MethodName)) ∈ lw_all := lw_g (lw_at lw_m3 162 rfl) rfl
theorem q777 : (Jvm.Cond.privateMethod ({ cls := "WindowHill$Reader", name := "name", desc := "()J" } : Jvm.MethodName)) ∈ lw_tbl := lw_at lw_m3 163 rfl
theorem q778 : (Jvm.Cond.instanceMethod ({ cls := "WindowHill$Reader", name := "name", desc := "()J" } : Jvm.MethodName)) ∈ lw_all := lw_g (lw_at lw_m3 164 rfl) rfl
theorem q779 : (Jvm.Cond.code ({ cls := "WindowHill$Reader", name := "name", desc := "()J" } : Jvm.MethodName) prog_9_method_14_code (4 : Nat) (Option.some Jvm.ClassFile.FieldType.long)) ∈ lw_all := lw_g (lw_at lw_m3 165 rfl) rfl
theorem q780 : (Jvm.Cond.methodLink "WindowHill$Reader" (126 : Nat) ({ cls := "WindowHill$Reader", name := "isKept", desc := "()Z" } : Jvm.MethodName)) ∈ lw_all := lw_g (lw_at lw_m3 166 rfl) rfl
theorem q781 : (Jvm.Cond.privateMethod ({ cls := "WindowHill$Reader", name := "isKept", desc := "()Z" } : Jvm.MethodName)) ∈ lw_tbl := lw_at lw_m3 167 rfl
theorem q782 : (Jvm.Cond.instanceMethod ({ cls := "WindowHill$Reader", name := "isKept", desc := "()Z" } : Jvm.MethodName)) ∈ lw_all := lw_g (lw_at lw_m3 168 rfl) rfl
theorem q783 : (Jvm.Cond.code ({ cls := "WindowHill$Reader", name := "isKept", desc := "()Z" } : Jvm.MethodName) prog_9_method_13_code (2 : Nat) (Option.some Jvm.ClassFile.FieldType.boolean)) ∈ lw_all := lw_g (lw_at lw_m3 169 rfl) rfl
theorem q784 : (Jvm.Cond.stringRef "WindowHill$Reader" (104 : Nat) "born") ∈ lw_tbl := lw_at lw_m3 170 rfl
theorem q785 : (Jvm.Cond.stringRef "WindowHill$Reader" (106 : Nat) "stays") ∈ lw_tbl := lw_at lw_m3 171 rfl
theorem q786 : (Jvm.Cond.stringRef "WindowHill$Reader" (108 : Nat) "citizen") ∈ lw_tbl := lw_at lw_m3 172 rfl
theorem q787 : (Jvm.Cond.stringRef "WindowHill$Reader" (110 : Nat) "likes") ∈ lw_tbl := lw_at lw_m3 173 rfl
theorem q788 : (Jvm.Cond.stringRef "WindowHill$Reader" (112 : Nat) "to") ∈ lw_tbl := lw_at lw_m3 174 rfl
theorem q789 : (Jvm.Cond.methodLink "WindowHill$Reader" (114 : Nat) ({ cls := "WindowHill$Reader", name := "acts", desc := "()I" } : Jvm.MethodName)) ∈ lw_all := lw_g (lw_at lw_m3 175 rfl) rfl
theorem q790 : (Jvm.Cond.privateMethod ({ cls := "WindowHill$Reader", name := "acts", desc := "()I" } : Jvm.MethodName)) ∈ lw_tbl := lw_at lw_m3 176 rfl
theorem q791 : (Jvm.Cond.instanceMethod ({ cls := "WindowHill$Reader", name := "acts", desc := "()I" } : Jvm.MethodName)) ∈ lw_all := lw_g (lw_at lw_m3 177 rfl) rfl
theorem q792 : (Jvm.Cond.code ({ cls := "WindowHill$Reader", name := "acts", desc := "()I" } : Jvm.MethodName) prog_9_method_11_code (1 : Nat) (Option.some Jvm.ClassFile.FieldType.int)) ∈ lw_all := lw_g (lw_at lw_m3 178 rfl) rfl
theorem q793 : (Jvm.Cond.stringRef "WindowHill$Reader" (76 : Nat) "night") ∈ lw_tbl := lw_at lw_m3 179 rfl
theorem q794 : (Jvm.Cond.stringRef "WindowHill$Reader" (78 : Nat) "turn") ∈ lw_tbl := lw_at lw_m3 180 rfl
theorem q795 : (Jvm.Cond.stringRef "WindowHill$Reader" (80 : Nat) "mayor") ∈ lw_tbl := lw_at lw_m3 181 rfl
theorem q796 : (Jvm.Cond.stringRef "WindowHill$Reader" (82 : Nat) "elect") ∈ lw_tbl := lw_at lw_m3 182 rfl
theorem q797 : (Jvm.Cond.stringRef "WindowHill$Reader" (84 : Nat) "storm") ∈ lw_tbl := lw_at lw_m3 183 rfl
theorem q798 : (Jvm.Cond.stringRef "WindowHill$Reader" (86 : Nat) "birth") ∈ lw_tbl := lw_at lw_m3 184 rfl
theorem q799 : (Jvm.Cond.stringRef "WindowHill$Reader" (88 : Nat) "stop") ∈ lw_tbl := lw_at lw_m3 185 rfl
theorem q800 : (Jvm.Cond.methodLink "WindowHill$Reader" (117 : Nat) ({ cls := "WindowHill$Reader", name := "tests", desc := "()I" } : Jvm.MethodName)) ∈ lw_all := lw_g (lw_at lw_m3 186 rfl) rfl
theorem q801 : (Jvm.Cond.privateMethod ({ cls := "WindowHill$Reader", name := "tests", desc := "()I" } : Jvm.MethodName)) ∈ lw_tbl := lw_at lw_m3 187 rfl
theorem q802 : (Jvm.Cond.instanceMethod ({ cls := "WindowHill$Reader", name := "tests", desc := "()I" } : Jvm.MethodName)) ∈ lw_all := lw_g (lw_at lw_m3 188 rfl) rfl
theorem q803 : (Jvm.Cond.code ({ cls := "WindowHill$Reader", name := "tests", desc := "()I" } : Jvm.MethodName) prog_9_method_12_code (1 : Nat) (Option.some Jvm.ClassFile.FieldType.int)) ∈ lw_all := lw_g (lw_at lw_m3 189 rfl) rfl
theorem q804 : (Jvm.Cond.stringRef "WindowHill$Reader" (90 : Nat) "lit") ∈ lw_tbl := lw_at lw_m3 190 rfl
theorem q805 : (Jvm.Cond.stringRef "WindowHill$Reader" (92 : Nat) "lamp") ∈ lw_tbl := lw_at lw_m3 191 rfl
theorem q806 : (Jvm.Cond.stringRef "WindowHill$Reader" (94 : Nat) "same") ∈ lw_tbl := lw_at lw_m3 192 rfl
theorem q807 : (Jvm.Cond.stringRef "WindowHill$Reader" (120 : Nat) "when") ∈ lw_tbl := lw_at lw_m3 193 rfl
theorem q808 : (Jvm.Cond.stringRef "WindowHill$Reader" (122 : Nat) "loop") ∈ lw_tbl := lw_at lw_m3 194 rfl
theorem q809 : (Jvm.Cond.stringRef "WindowHill$Reader" (124 : Nat) "end") ∈ lw_tbl := lw_at lw_m3 195 rfl
theorem q810 : (Jvm.Cond.constantLong "WindowHill$Reader" (130 : Nat) (32 : Int64)) ∈ lw_all := lw_g (lw_at lw_m3 196 rfl) rfl
theorem q811 : (Jvm.Cond.constantLong "WindowHill$Reader" (132 : Nat) (96 : Int64)) ∈ lw_all := lw_g (lw_at lw_m3 197 rfl) rfl
theorem q812 : (Jvm.Cond.methodLink "WindowHill$Reader" (138 : Nat) ({ cls := "WindowHill$Town", name := "isTaken", desc := "(J)Z" } : Jvm.MethodName)) ∈ lw_all := lw_g (lw_at lw_m3 198 rfl) rfl
theorem q820 : (Jvm.Cond.methodLink "WindowHill$Reader" (197 : Nat) ({ cls := "WindowHill$Reader", name := "set", desc := "(Ljava/lang/String;)I" } : Jvm.MethodName)) ∈ lw_all := lw_g (lw_at lw_m3 206 rfl) rfl
theorem q821 : (Jvm.Cond.privateMethod ({ cls := "WindowHill$Reader", name := "set", desc := "(Ljava/lang/String;)I" } : Jvm.MethodName)) ∈ lw_tbl := lw_at lw_m3 207 rfl
theorem q822 : (Jvm.Cond.instanceMethod ({ cls := "WindowHill$Reader", name := "set", desc := "(Ljava/lang/String;)I" } : Jvm.MethodName)) ∈ lw_all := lw_g (lw_at lw_m3 208 rfl) rfl
theorem q823 : (Jvm.Cond.code ({ cls := "WindowHill$Reader", name := "set", desc := "(Ljava/lang/String;)I" } : Jvm.MethodName) prog_9_method_18_code (5 : Nat) (Option.some Jvm.ClassFile.FieldType.int)) ∈ lw_all := lw_g (lw_at lw_m3 209 rfl) rfl
theorem q824 : (Jvm.Cond.methodLink "WindowHill$Reader" (170 : Nat) ({ cls := "WindowHill$Reader", name := "citizen", desc := "(LWindowHill$Town;)V" } : Jvm.MethodName)) ∈ lw_all := lw_g (lw_at lw_m3 210 rfl) rfl
theorem q825 : (Jvm.Cond.privateMethod ({ cls := "WindowHill$Reader", name := "citizen", desc := "(LWindowHill$Town;)V" } : Jvm.MethodName)) ∈ lw_tbl := lw_at lw_m3 211 rfl
theorem q826 : (Jvm.Cond.instanceMethod ({ cls := "WindowHill$Reader", name := "citizen", desc := "(LWindowHill$Town;)V" } : Jvm.MethodName)) ∈ lw_all := lw_g (lw_at lw_m3 212 rfl) rfl
theorem q827 : (Jvm.Cond.code ({ cls := "WindowHill$Reader", name := "citizen", desc := "(LWindowHill$Town;)V" } : Jvm.MethodName) prog_9_method_20_code (5 : Nat) (Option.none : Option Jvm.ClassFile.FieldType)) ∈ lw_all := lw_g (lw_at lw_m3 213 rfl) rfl
theorem q828 : (Jvm.Cond.methodLink "WindowHill$Reader" (172 : Nat) ({ cls := "WindowHill$Town", name := "settles", desc := "()V" } : Jvm.MethodName)) ∈ lw_all := lw_g (lw_at lw_m3 214 rfl) rfl
theorem q896 : (Jvm.Cond.instanceMethod ({ cls := "WindowHill$Reader", name := "year", desc := "(LWindowHill$Town;LWindowHill$Block;)V" } : Jvm.MethodName)) ∈ lw_all := lw_g (lw_at lw_m4 42 rfl) rfl
theorem q897 : (Jvm.Cond.selects "WindowHill$Reader" ({ cls := "WindowHill$Reader", name := "year", desc := "(LWindowHill$Town;LWindowHill$Block;)V" } : Jvm.MethodName) ({ cls := "WindowHill$Reader", name := "year", desc := "(LWindowHill$Town;LWindowHill$Block;)V" } : Jvm.MethodName)) ∈ lw_all := lw_g (lw_at lw_m4 43 rfl) rfl
theorem q898 : (Jvm.Cond.code ({ cls := "WindowHill$Reader", name := "year", desc := "(LWindowHill$Town;LWindowHill$Block;)V" } : Jvm.MethodName) prog_9_method_21_code (3 : Nat) (Option.none : Option Jvm.ClassFile.FieldType)) ∈ lw_all := lw_g (lw_at lw_m4 44 rfl) rfl
theorem q899 : (Jvm.Cond.methodLink "WindowHill$Reader" (219 : Nat) ({ cls := "WindowHill$Reader", name := "step", desc := "(LWindowHill$Town;LWindowHill$Block;I)V" } : Jvm.MethodName)) ∈ lw_all := lw_g (lw_at lw_m4 45 rfl) rfl
theorem q900 : (Jvm.Cond.privateMethod ({ cls := "WindowHill$Reader", name := "step", desc := "(LWindowHill$Town;LWindowHill$Block;I)V" } : Jvm.MethodName)) ∈ lw_tbl := lw_at lw_m4 46 rfl
theorem q901 : (Jvm.Cond.instanceMethod ({ cls := "WindowHill$Reader", name := "step", desc := "(LWindowHill$Town;LWindowHill$Block;I)V" } : Jvm.MethodName)) ∈ lw_all := lw_g (lw_at lw_m4 47 rfl) rfl
theorem q902 : (Jvm.Cond.code ({ cls := "WindowHill$Reader", name := "step", desc := "(LWindowHill$Town;LWindowHill$Block;I)V" } : Jvm.MethodName) prog_9_method_22_code (7 : Nat) (Option.none : Option Jvm.ClassFile.FieldType)) ∈ lw_all := lw_g (lw_at lw_m4 48 rfl) rfl
theorem q903 : (Jvm.Cond.methodLink "WindowHill$Reader" (226 : Nat) ({ cls := "WindowHill$Reader", name := "block", desc := "(LWindowHill$Town;ZI)LWindowHill$Block;" } : Jvm.MethodName)) ∈ lw_all := lw_g (lw_at lw_m4 49 rfl) rfl
theorem q904 : (Jvm.Cond.privateMethod ({ cls := "WindowHill$Reader", name := "block", desc := "(LWindowHill$Town;ZI)LWindowHill$Block;" } : Jvm.MethodName)) ∈ lw_tbl := lw_at lw_m4 50 rfl
theorem q905 : (Jvm.Cond.instanceMethod ({ cls := "WindowHill$Reader", name := "block", desc := "(LWindowHill$Town;ZI)LWindowHill$Block;" } : Jvm.MethodName)) ∈ lw_all := lw_g (lw_at lw_m4 51 rfl) rfl
theorem q906 : (Jvm.Cond.code ({ cls := "WindowHill$Reader", name := "block", desc := "(LWindowHill$Town;ZI)LWindowHill$Block;" } : Jvm.MethodName) prog_9_method_25_code (5 : Nat) (Option.some (Jvm.ClassFile.FieldType.object "WindowHill$Block"))) ∈ lw_all := lw_g (lw_at lw_m4 52 rfl) rfl
theorem q907 : (Jvm.Cond.methodLink "WindowHill$Reader" (252 : Nat) ({ cls := "WindowHill$Reader", name := "when", desc := "(LWindowHill$Town;)LWindowHill$When;" } : Jvm.MethodName)) ∈ lw_all := lw_g (lw_at lw_m4 53 rfl) rfl
theorem q908 : (Jvm.Cond.privateMethod ({ cls := "WindowHill$Reader", name := "when", desc := "(LWindowHill$Town;)LWindowHill$When;" } : Jvm.MethodName)) ∈ lw_tbl := lw_at lw_m4 54 rfl
theorem q909 : (Jvm.Cond.instanceMethod ({ cls := "WindowHill$Reader", name := "when", desc := "(LWindowHill$Town;)LWindowHill$When;" } : Jvm.MethodName)) ∈ lw_all := lw_g (lw_at lw_m4 55 rfl) rfl
theorem q910 : (Jvm.Cond.code ({ cls := "WindowHill$Reader", name := "when", desc := "(LWindowHill$Town;)LWindowHill$When;" } : Jvm.MethodName) prog_9_method_26_code (4 : Nat) (Option.some (Jvm.ClassFile.FieldType.object "WindowHill$When"))) ∈ lw_all := lw_g (lw_at lw_m4 56 rfl) rfl
theorem q911 : (Jvm.Cond.classLink "WindowHill$Reader" (260 : Nat) "WindowHill$When") ∈ lw_all := lw_g (lw_at lw_m4 57 rfl) rfl
theorem q913 : (Jvm.Cond.methodLink "WindowHill$Reader" (245 : Nat) ({ cls := "WindowHill$Reader", name := "cell", desc := "(LWindowHill$Town;)I" } : Jvm.MethodName)) ∈ lw_all := lw_g (lw_at lw_m4 59 rfl) rfl
theorem q914 : (Jvm.Cond.privateMethod ({ cls := "WindowHill$Reader", name := "cell", desc := "(LWindowHill$Town;)I" } : Jvm.MethodName)) ∈ lw_tbl := lw_at lw_m4 60 rfl
theorem q915 : (Jvm.Cond.instanceMethod ({ cls := "WindowHill$Reader", name := "cell", desc := "(LWindowHill$Town;)I" } : Jvm.MethodName)) ∈ lw_all := lw_g (lw_at lw_m4 61 rfl) rfl
theorem q916 : (Jvm.Cond.code ({ cls := "WindowHill$Reader", name := "cell", desc := "(LWindowHill$Town;)I" } : Jvm.MethodName) prog_9_method_23_code (3 : Nat) (Option.some Jvm.ClassFile.FieldType.int)) ∈ lw_all := lw_g (lw_at lw_m4 62 rfl) rfl
theorem q917 : (Jvm.Cond.methodLink "WindowHill$Reader" (262 : Nat) ({ cls := "WindowHill$When", name := "<init>", desc := "(III)V" } : Jvm.MethodName)) ∈ lw_all := lw_g (lw_at lw_m4 63 rfl) rfl
theorem q933 : (Jvm.Cond.classLink "WindowHill$Reader" (255 : Nat) "WindowHill$Loop") ∈ lw_all := lw_g (lw_at lw_m4 79 rfl) rfl
theorem q934 : (Jvm.Cond.methodLink "WindowHill$Reader" (257 : Nat) ({ cls := "WindowHill$Loop", name := "<init>", desc := "(I)V" } : Jvm.MethodName)) ∈ lw_all := lw_g (lw_at lw_m4 80 rfl) rfl
theorem q935 : (Jvm.Cond.methodLink "WindowHill$Reader" (230 : Nat) ({ cls := "WindowHill$Reader", name := "plain", desc := "(LWindowHill$Town;)LWindowHill$Step;" } : Jvm.MethodName)) ∈ lw_all := lw_g (lw_at lw_m4 81 rfl) rfl
theorem q936 : (Jvm.Cond.privateMethod ({ cls := "WindowHill$Reader", name := "plain", desc := "(LWindowHill$Town;)LWindowHill$Step;" } : Jvm.MethodName)) ∈ lw_tbl := lw_at lw_m4 82 rfl
theorem q937 : (Jvm.Cond.instanceMethod ({ cls := "WindowHill$Reader", name := "plain", desc := "(LWindowHill$Town;)LWindowHill$Step;" } : Jvm.MethodName)) ∈ lw_all := lw_g (lw_at lw_m4 83 rfl) rfl
theorem q938 : (Jvm.Cond.code ({ cls := "WindowHill$Reader", name := "plain", desc := "(LWindowHill$Town;)LWindowHill$Step;" } : Jvm.MethodName) prog_9_method_24_code (4 : Nat) (Option.some (Jvm.ClassFile.FieldType.object "WindowHill$Step"))) ∈ lw_all := lw_g (lw_at lw_m4 84 rfl) rfl
theorem q939 : (Jvm.Cond.classLink "WindowHill$Reader" (240 : Nat) "WindowHill$Act") ∈ lw_all := lw_g (lw_at lw_m4 85 rfl) rfl
theorem q941 : (Jvm.Cond.methodLink "WindowHill$Reader" (242 : Nat) ({ cls := "WindowHill$Act", name := "<init>", desc := "(II)V" } : Jvm.MethodName)) ∈ lw_all := lw_g (lw_at lw_m4 87 rfl) rfl
theorem q952 : (Jvm.Cond.methodLink "WindowHill$Reader" (248 : Nat) ({ cls := "WindowHill$Town", name := "ruleNamed", desc := "(J)I" } : Jvm.MethodName)) ∈ lw_all := lw_g (lw_at lw_m4 98 rfl) rfl
theorem q953 : (Jvm.Cond.methodLink "WindowHill$Reader" (234 : Nat) ({ cls := "WindowHill$Block", name := "add", desc := "(LWindowHill$Step;)V" } : Jvm.MethodName)) ∈ lw_all := lw_g (lw_at lw_m4 99 rfl) rfl
theorem in_X8 : ∀ w ∈ wsX80, w ∈ lw_all := lw_in wsX80 [659, 661, 663, 665, 667, 669, 671, 673] (by decide +kernel) (by decide +kernel)

/-! WindowHill$Step -/
set_option maxRecDepth 100000
def RX9 : String := "WindowHill$Step"
abbrev cX9_init : ByteArray := prog_11_method_1_code
def yX9_init : MethodName := ⟨RX9, "<init>", "()V"⟩
theorem dX9_init_0 : decode cX9_init 0 = .ok (.aload_n 0, 1) := by decide +kernel
theorem dX9_init_1 : decode cX9_init 1 = .ok (.invokespecial 3, 3) := by decide +kernel
theorem dX9_init_4 : decode cX9_init 4 = .ok (.return_, 1) := by decide +kernel
abbrev cX9_go : ByteArray := prog_11_method_3_code
def yX9_go : MethodName := ⟨RX9, "go", "(LWindowHill$Living;)V"⟩
def dkwX9_go_1 : List UInt8 := [180, 0, 9, 4, 96, 181, 0, 9, 42, 43, 182, 0, 22, 177]
abbrev dktX9_go_1 : List UInt8 := dkwX9_go_1 ++ []
def dkwX9_go_0 : List UInt8 := [43, 180, 0, 9, 17, 1, 44, 160, 0, 14, 43, 4, 181, 0, 15, 43, 4, 181, 0, 19, 177, 43, 89]
abbrev dktX9_go_0 : List UInt8 := dkwX9_go_0 ++ dktX9_go_1
theorem dksX9_go_0 : cX9_go.data.toList.drop 0 = dktX9_go_0 := by decide +kernel
theorem dksX9_go_1 : cX9_go.data.toList.drop 23 = dktX9_go_1 := dk_seg dksX9_go_0 23 rfl rfl
theorem dX9_go_0 : decode cX9_go 0 = .ok (.aload_n 1, 1) := dk_43 (dk_at dksX9_go_0 0 rfl rfl)
theorem dX9_go_1 : decode cX9_go 1 = .ok (.getfield 9, 3) := dk_180 0 9 (dk_at dksX9_go_0 1 rfl rfl)
theorem dX9_go_4 : decode cX9_go 4 = .ok (.sipush 300, 3) := dk_17 1 44 (dk_at dksX9_go_0 4 rfl rfl)
theorem dX9_go_7 : decode cX9_go 7 = .ok (.if_icmp .ne 14, 3) := dk_160 0 14 (dk_at dksX9_go_0 7 rfl rfl)
theorem dX9_go_10 : decode cX9_go 10 = .ok (.aload_n 1, 1) := dk_43 (dk_at dksX9_go_0 10 rfl rfl)
theorem dX9_go_11 : decode cX9_go 11 = .ok (.iconst 1, 1) := dk_4 (dk_at dksX9_go_0 11 rfl rfl)
theorem dX9_go_12 : decode cX9_go 12 = .ok (.putfield 15, 3) := dk_181 0 15 (dk_at dksX9_go_0 12 rfl rfl)
theorem dX9_go_15 : decode cX9_go 15 = .ok (.aload_n 1, 1) := dk_43 (dk_at dksX9_go_0 15 rfl rfl)
theorem dX9_go_16 : decode cX9_go 16 = .ok (.iconst 1, 1) := dk_4 (dk_at dksX9_go_0 16 rfl rfl)
theorem dX9_go_17 : decode cX9_go 17 = .ok (.putfield 19, 3) := dk_181 0 19 (dk_at dksX9_go_0 17 rfl rfl)
theorem dX9_go_20 : decode cX9_go 20 = .ok (.return_, 1) := dk_177 (dk_at dksX9_go_0 20 rfl rfl)
theorem dX9_go_21 : decode cX9_go 21 = .ok (.aload_n 1, 1) := dk_43 (dk_at dksX9_go_0 21 rfl rfl)
theorem dX9_go_22 : decode cX9_go 22 = .ok (.dup, 1) := dk_89 (dk_at dksX9_go_0 22 rfl rfl)
theorem dX9_go_23 : decode cX9_go 23 = .ok (.getfield 9, 3) := dk_180 0 9 (dk_at dksX9_go_1 0 rfl rfl)
theorem dX9_go_26 : decode cX9_go 26 = .ok (.iconst 1, 1) := dk_4 (dk_at dksX9_go_1 3 rfl rfl)
theorem dX9_go_27 : decode cX9_go 27 = .ok (.iadd, 1) := dk_96 (dk_at dksX9_go_1 4 rfl rfl)
theorem dX9_go_28 : decode cX9_go 28 = .ok (.putfield 9, 3) := dk_181 0 9 (dk_at dksX9_go_1 5 rfl rfl)
theorem dX9_go_31 : decode cX9_go 31 = .ok (.aload_n 0, 1) := dk_42 (dk_at dksX9_go_1 8 rfl rfl)
theorem dX9_go_32 : decode cX9_go 32 = .ok (.aload_n 1, 1) := dk_43 (dk_at dksX9_go_1 9 rfl rfl)
theorem dX9_go_33 : decode cX9_go 33 = .ok (.invokevirtual 22, 3) := dk_182 0 22 (dk_at dksX9_go_1 10 rfl rfl)
theorem dX9_go_36 : decode cX9_go 36 = .ok (.return_, 1) := dk_177 (dk_at dksX9_go_1 13 rfl rfl)
theorem q157 : (Jvm.Cond.initialized "WindowHill$Step") ∈ lw_all := lw_g (lw_at lw_m1 23 rfl) rfl
theorem q876 : (Jvm.Cond.instanceMethod ({ cls := "WindowHill$Step", name := "<init>", desc := "()V" } : Jvm.MethodName)) ∈ lw_all := lw_g (lw_at lw_m4 22 rfl) rfl
theorem q877 : (Jvm.Cond.code ({ cls := "WindowHill$Step", name := "<init>", desc := "()V" } : Jvm.MethodName) prog_11_method_1_code (1 : Nat) (Option.none : Option Jvm.ClassFile.FieldType)) ∈ lw_all := lw_g (lw_at lw_m4 23 rfl) rfl
theorem q878 : (Jvm.Cond.methodLink "WindowHill$Step" (3 : Nat) ({ cls := "java/lang/Object", name := "<init>", desc := "()V" } : Jvm.MethodName)) ∈ lw_all := lw_g (lw_at lw_m4 24 rfl) rfl
theorem q1339 : (Jvm.Cond.fieldLinkNest "WindowHill$Step" (9 : Nat) "WindowHill$Living" "done" "I" "WindowHill") ∈ lw_tbl := lw_at lw_m6 5 rfl
theorem q1352 : (Jvm.Cond.fieldLinkNest "WindowHill$Step" (15 : Nat) "WindowHill$Living" "isOver" "Z" "WindowHill") ∈ lw_tbl := lw_at lw_m6 18 rfl
theorem q1353 : (Jvm.Cond.fieldLinkNest "WindowHill$Step" (19 : Nat) "WindowHill$Living" "isLeft" "Z" "WindowHill") ∈ lw_tbl := lw_at lw_m6 19 rfl
theorem q1381 : (Jvm.Cond.instanceMethod ({ cls := "WindowHill$Step", name := "go", desc := "(LWindowHill$Living;)V" } : Jvm.MethodName)) ∈ lw_all := lw_g (lw_at lw_m6 47 rfl) rfl
theorem q1382 : (Jvm.Cond.sameMethod "WindowHill$Step" "WindowHill$Step" "go" "(LWindowHill$Living;)V") ∈ lw_all := lw_g (lw_at lw_m6 48 rfl) rfl
theorem q1386 : (Jvm.Cond.code ({ cls := "WindowHill$Step", name := "go", desc := "(LWindowHill$Living;)V" } : Jvm.MethodName) prog_11_method_3_code (2 : Nat) (Option.none : Option Jvm.ClassFile.FieldType)) ∈ lw_all := lw_g (lw_at lw_m6 52 rfl) rfl
theorem q1387 : (Jvm.Cond.methodLink "WindowHill$Step" (22 : Nat) ({ cls := "WindowHill$Step", name := "does", desc := "(LWindowHill$Living;)V" } : Jvm.MethodName)) ∈ lw_all := lw_g (lw_at lw_m6 53 rfl) rfl
theorem q1388 : (Jvm.Cond.declares ({ cls := "WindowHill$Step", name := "does", desc := "(LWindowHill$Living;)V" } : Jvm.MethodName)) ∈ lw_tbl := lw_at lw_m6 54 rfl
theorem q1389 : (Jvm.Cond.sameMethod "WindowHill$Step" "WindowHill$Step" "does" "(LWindowHill$Living;)V") ∈ lw_all := lw_g (lw_at lw_m6 55 rfl) rfl

/-! WindowHill$Block -/
set_option maxRecDepth 100000
def RX10 : String := "WindowHill$Block"
abbrev cX10_init : ByteArray := prog_4_method_1_code
def yX10_init : MethodName := ⟨RX10, "<init>", "()V"⟩
def dkwX10_init_0 : List UInt8 := [42, 183, 0, 1, 42, 7, 189, 0, 2, 181, 0, 7, 177]
abbrev dktX10_init_0 : List UInt8 := dkwX10_init_0 ++ []
theorem dksX10_init_0 : cX10_init.data.toList.drop 0 = dktX10_init_0 := by decide +kernel
theorem dX10_init_0 : decode cX10_init 0 = .ok (.aload_n 0, 1) := dk_42 (dk_at dksX10_init_0 0 rfl rfl)
theorem dX10_init_1 : decode cX10_init 1 = .ok (.invokespecial 1, 3) := dk_183 0 1 (dk_at dksX10_init_0 1 rfl rfl)
theorem dX10_init_4 : decode cX10_init 4 = .ok (.aload_n 0, 1) := dk_42 (dk_at dksX10_init_0 4 rfl rfl)
theorem dX10_init_5 : decode cX10_init 5 = .ok (.iconst 4, 1) := dk_7 (dk_at dksX10_init_0 5 rfl rfl)
theorem dX10_init_6 : decode cX10_init 6 = .ok (.anewarray 2, 3) := dk_189 0 2 (dk_at dksX10_init_0 6 rfl rfl)
theorem dX10_init_9 : decode cX10_init 9 = .ok (.putfield 7, 3) := dk_181 0 7 (dk_at dksX10_init_0 9 rfl rfl)
theorem dX10_init_12 : decode cX10_init 12 = .ok (.return_, 1) := dk_177 (dk_at dksX10_init_0 12 rfl rfl)
abbrev cX10_add : ByteArray := prog_4_method_2_code
def yX10_add : MethodName := ⟨RX10, "add", "(LWindowHill$Step;)V"⟩
def dkwX10_add_2 : List UInt8 := [180, 0, 13, 43, 83, 42, 89, 180, 0, 13, 4, 96, 181, 0, 13, 177]
abbrev dktX10_add_2 : List UInt8 := dkwX10_add_2 ++ []
def dkwX10_add_1 : List UInt8 := [180, 0, 7, 3, 44, 3, 42, 180, 0, 13, 184, 0, 17, 42, 44, 181, 0, 7, 42, 180, 0, 7, 42]
abbrev dktX10_add_1 : List UInt8 := dkwX10_add_1 ++ dktX10_add_2
def dkwX10_add_0 : List UInt8 := [42, 180, 0, 13, 42, 180, 0, 7, 190, 160, 0, 32, 5, 42, 180, 0, 13, 104, 189, 0, 2, 77, 42]
abbrev dktX10_add_0 : List UInt8 := dkwX10_add_0 ++ dktX10_add_1
theorem dksX10_add_0 : cX10_add.data.toList.drop 0 = dktX10_add_0 := by decide +kernel
theorem dksX10_add_1 : cX10_add.data.toList.drop 23 = dktX10_add_1 := dk_seg dksX10_add_0 23 rfl rfl
theorem dksX10_add_2 : cX10_add.data.toList.drop 46 = dktX10_add_2 := dk_seg dksX10_add_1 23 rfl rfl
theorem dX10_add_0 : decode cX10_add 0 = .ok (.aload_n 0, 1) := dk_42 (dk_at dksX10_add_0 0 rfl rfl)
theorem dX10_add_1 : decode cX10_add 1 = .ok (.getfield 13, 3) := dk_180 0 13 (dk_at dksX10_add_0 1 rfl rfl)
theorem dX10_add_4 : decode cX10_add 4 = .ok (.aload_n 0, 1) := dk_42 (dk_at dksX10_add_0 4 rfl rfl)
theorem dX10_add_5 : decode cX10_add 5 = .ok (.getfield 7, 3) := dk_180 0 7 (dk_at dksX10_add_0 5 rfl rfl)
theorem dX10_add_8 : decode cX10_add 8 = .ok (.arraylength, 1) := dk_190 (dk_at dksX10_add_0 8 rfl rfl)
theorem dX10_add_9 : decode cX10_add 9 = .ok (.if_icmp .ne 32, 3) := dk_160 0 32 (dk_at dksX10_add_0 9 rfl rfl)
theorem dX10_add_12 : decode cX10_add 12 = .ok (.iconst 2, 1) := dk_5 (dk_at dksX10_add_0 12 rfl rfl)
theorem dX10_add_13 : decode cX10_add 13 = .ok (.aload_n 0, 1) := dk_42 (dk_at dksX10_add_0 13 rfl rfl)
theorem dX10_add_14 : decode cX10_add 14 = .ok (.getfield 13, 3) := dk_180 0 13 (dk_at dksX10_add_0 14 rfl rfl)
theorem dX10_add_17 : decode cX10_add 17 = .ok (.imul, 1) := dk_104 (dk_at dksX10_add_0 17 rfl rfl)
theorem dX10_add_18 : decode cX10_add 18 = .ok (.anewarray 2, 3) := dk_189 0 2 (dk_at dksX10_add_0 18 rfl rfl)
theorem dX10_add_21 : decode cX10_add 21 = .ok (.astore_n 2, 1) := dk_77 (dk_at dksX10_add_0 21 rfl rfl)
theorem dX10_add_22 : decode cX10_add 22 = .ok (.aload_n 0, 1) := dk_42 (dk_at dksX10_add_0 22 rfl rfl)
theorem dX10_add_23 : decode cX10_add 23 = .ok (.getfield 7, 3) := dk_180 0 7 (dk_at dksX10_add_1 0 rfl rfl)
theorem dX10_add_26 : decode cX10_add 26 = .ok (.iconst 0, 1) := dk_3 (dk_at dksX10_add_1 3 rfl rfl)
theorem dX10_add_27 : decode cX10_add 27 = .ok (.aload_n 2, 1) := dk_44 (dk_at dksX10_add_1 4 rfl rfl)
theorem dX10_add_28 : decode cX10_add 28 = .ok (.iconst 0, 1) := dk_3 (dk_at dksX10_add_1 5 rfl rfl)
theorem dX10_add_29 : decode cX10_add 29 = .ok (.aload_n 0, 1) := dk_42 (dk_at dksX10_add_1 6 rfl rfl)
theorem dX10_add_30 : decode cX10_add 30 = .ok (.getfield 13, 3) := dk_180 0 13 (dk_at dksX10_add_1 7 rfl rfl)
theorem dX10_add_33 : decode cX10_add 33 = .ok (.invokestatic 17, 3) := dk_184 0 17 (dk_at dksX10_add_1 10 rfl rfl)
theorem dX10_add_36 : decode cX10_add 36 = .ok (.aload_n 0, 1) := dk_42 (dk_at dksX10_add_1 13 rfl rfl)
theorem dX10_add_37 : decode cX10_add 37 = .ok (.aload_n 2, 1) := dk_44 (dk_at dksX10_add_1 14 rfl rfl)
theorem dX10_add_38 : decode cX10_add 38 = .ok (.putfield 7, 3) := dk_181 0 7 (dk_at dksX10_add_1 15 rfl rfl)
theorem dX10_add_41 : decode cX10_add 41 = .ok (.aload_n 0, 1) := dk_42 (dk_at dksX10_add_1 18 rfl rfl)
theorem dX10_add_42 : decode cX10_add 42 = .ok (.getfield 7, 3) := dk_180 0 7 (dk_at dksX10_add_1 19 rfl rfl)
theorem dX10_add_45 : decode cX10_add 45 = .ok (.aload_n 0, 1) := dk_42 (dk_at dksX10_add_1 22 rfl rfl)
theorem dX10_add_46 : decode cX10_add 46 = .ok (.getfield 13, 3) := dk_180 0 13 (dk_at dksX10_add_2 0 rfl rfl)
theorem dX10_add_49 : decode cX10_add 49 = .ok (.aload_n 1, 1) := dk_43 (dk_at dksX10_add_2 3 rfl rfl)
theorem dX10_add_50 : decode cX10_add 50 = .ok (.aastore, 1) := dk_83 (dk_at dksX10_add_2 4 rfl rfl)
theorem dX10_add_51 : decode cX10_add 51 = .ok (.aload_n 0, 1) := dk_42 (dk_at dksX10_add_2 5 rfl rfl)
theorem dX10_add_52 : decode cX10_add 52 = .ok (.dup, 1) := dk_89 (dk_at dksX10_add_2 6 rfl rfl)
theorem dX10_add_53 : decode cX10_add 53 = .ok (.getfield 13, 3) := dk_180 0 13 (dk_at dksX10_add_2 7 rfl rfl)
theorem dX10_add_56 : decode cX10_add 56 = .ok (.iconst 1, 1) := dk_4 (dk_at dksX10_add_2 10 rfl rfl)
theorem dX10_add_57 : decode cX10_add 57 = .ok (.iadd, 1) := dk_96 (dk_at dksX10_add_2 11 rfl rfl)
theorem dX10_add_58 : decode cX10_add 58 = .ok (.putfield 13, 3) := dk_181 0 13 (dk_at dksX10_add_2 12 rfl rfl)
theorem dX10_add_61 : decode cX10_add 61 = .ok (.return_, 1) := dk_177 (dk_at dksX10_add_2 15 rfl rfl)
abbrev cX10_all : ByteArray := prog_4_method_3_code
def yX10_all : MethodName := ⟨RX10, "all", "(LWindowHill$Living;)V"⟩
def dkwX10_all_1 : List UInt8 := [182, 0, 29, 132, 2, 1, 167, 255, 228, 177]
abbrev dktX10_all_1 : List UInt8 := dkwX10_all_1 ++ []
def dkwX10_all_0 : List UInt8 := [3, 61, 28, 42, 180, 0, 13, 162, 0, 26, 43, 180, 0, 23, 154, 0, 19, 42, 180, 0, 7, 28, 50, 43]
abbrev dktX10_all_0 : List UInt8 := dkwX10_all_0 ++ dktX10_all_1
theorem dksX10_all_0 : cX10_all.data.toList.drop 0 = dktX10_all_0 := by decide +kernel
theorem dksX10_all_1 : cX10_all.data.toList.drop 24 = dktX10_all_1 := dk_seg dksX10_all_0 24 rfl rfl
theorem dX10_all_0 : decode cX10_all 0 = .ok (.iconst 0, 1) := dk_3 (dk_at dksX10_all_0 0 rfl rfl)
theorem dX10_all_1 : decode cX10_all 1 = .ok (.istore_n 2, 1) := dk_61 (dk_at dksX10_all_0 1 rfl rfl)
theorem dX10_all_2 : decode cX10_all 2 = .ok (.iload_n 2, 1) := dk_28 (dk_at dksX10_all_0 2 rfl rfl)
theorem dX10_all_3 : decode cX10_all 3 = .ok (.aload_n 0, 1) := dk_42 (dk_at dksX10_all_0 3 rfl rfl)
theorem dX10_all_4 : decode cX10_all 4 = .ok (.getfield 13, 3) := dk_180 0 13 (dk_at dksX10_all_0 4 rfl rfl)
theorem dX10_all_7 : decode cX10_all 7 = .ok (.if_icmp .ge 26, 3) := dk_162 0 26 (dk_at dksX10_all_0 7 rfl rfl)
theorem dX10_all_10 : decode cX10_all 10 = .ok (.aload_n 1, 1) := dk_43 (dk_at dksX10_all_0 10 rfl rfl)
theorem dX10_all_11 : decode cX10_all 11 = .ok (.getfield 23, 3) := dk_180 0 23 (dk_at dksX10_all_0 11 rfl rfl)
theorem dX10_all_14 : decode cX10_all 14 = .ok (.ifCond .ne 19, 3) := dk_154 0 19 (dk_at dksX10_all_0 14 rfl rfl)
theorem dX10_all_17 : decode cX10_all 17 = .ok (.aload_n 0, 1) := dk_42 (dk_at dksX10_all_0 17 rfl rfl)
theorem dX10_all_18 : decode cX10_all 18 = .ok (.getfield 7, 3) := dk_180 0 7 (dk_at dksX10_all_0 18 rfl rfl)
theorem dX10_all_21 : decode cX10_all 21 = .ok (.iload_n 2, 1) := dk_28 (dk_at dksX10_all_0 21 rfl rfl)
theorem dX10_all_22 : decode cX10_all 22 = .ok (.aaload, 1) := dk_50 (dk_at dksX10_all_0 22 rfl rfl)
theorem dX10_all_23 : decode cX10_all 23 = .ok (.aload_n 1, 1) := dk_43 (dk_at dksX10_all_0 23 rfl rfl)
theorem dX10_all_24 : decode cX10_all 24 = .ok (.invokevirtual 29, 3) := dk_182 0 29 (dk_at dksX10_all_1 0 rfl rfl)
theorem dX10_all_27 : decode cX10_all 27 = .ok (.iinc 2 1, 3) := dk_132 2 1 (dk_at dksX10_all_1 3 rfl rfl)
theorem dX10_all_30 : decode cX10_all 30 = .ok (.goto (-28), 3) := dk_167 255 228 (dk_at dksX10_all_1 6 rfl rfl)
theorem dX10_all_33 : decode cX10_all 33 = .ok (.return_, 1) := dk_177 (dk_at dksX10_all_1 9 rfl rfl)
theorem q158 : (Jvm.Cond.initialized "WindowHill$Block") ∈ lw_all := lw_g (lw_at lw_m1 24 rfl) rfl
theorem q873 : (Jvm.Cond.instanceMethod ({ cls := "WindowHill$Block", name := "<init>", desc := "()V" } : Jvm.MethodName)) ∈ lw_all := lw_g (lw_at lw_m4 19 rfl) rfl
theorem q874 : (Jvm.Cond.code ({ cls := "WindowHill$Block", name := "<init>", desc := "()V" } : Jvm.MethodName) prog_4_method_1_code (1 : Nat) (Option.none : Option Jvm.ClassFile.FieldType)) ∈ lw_all := lw_g (lw_at lw_m4 20 rfl) rfl
theorem q875 : (Jvm.Cond.methodLinkNest "WindowHill$Block" (1 : Nat) ({ cls := "WindowHill$Step", name := "<init>", desc := "()V" } : Jvm.MethodName) "WindowHill") ∈ lw_tbl := lw_at lw_m4 21 rfl
theorem q879 : (Jvm.Cond.classLink "WindowHill$Block" (2 : Nat) "WindowHill$Step") ∈ lw_all := lw_g (lw_at lw_m4 25 rfl) rfl
theorem q882 : (Jvm.Cond.fieldLink "WindowHill$Block" (7 : Nat) "WindowHill$Block" "steps" "[LWindowHill$Step;") ∈ lw_all := lw_g (lw_at lw_m4 28 rfl) rfl
theorem q883 : (Jvm.Cond.fieldLink "WindowHill$Block" (13 : Nat) "WindowHill$Block" "size" "I") ∈ lw_all := lw_g (lw_at lw_m4 29 rfl) rfl
theorem q887 : (Jvm.Cond.soleField "WindowHill$Block" "steps") ∈ lw_all := lw_g (lw_at lw_m4 33 rfl) rfl
theorem q889 : (Jvm.Cond.soleField "WindowHill$Block" "size") ∈ lw_all := lw_g (lw_at lw_m4 35 rfl) rfl
theorem q954 : (Jvm.Cond.instanceMethod ({ cls := "WindowHill$Block", name := "add", desc := "(LWindowHill$Step;)V" } : Jvm.MethodName)) ∈ lw_all := lw_g (lw_at lw_m4 100 rfl) rfl
theorem q955 : (Jvm.Cond.sameMethod "WindowHill$Block" "WindowHill$Block" "add" "(LWindowHill$Step;)V") ∈ lw_all := lw_g (lw_at lw_m4 101 rfl) rfl
theorem q958 : (Jvm.Cond.code ({ cls := "WindowHill$Block", name := "add", desc := "(LWindowHill$Step;)V" } : Jvm.MethodName) prog_4_method_2_code (3 : Nat) (Option.none : Option Jvm.ClassFile.FieldType)) ∈ lw_all := lw_g (lw_at lw_m4 104 rfl) rfl
theorem q959 : (Jvm.Cond.methodLink "WindowHill$Block" (17 : Nat) ({ cls := "java/lang/System", name := "arraycopy", desc := "(Ljava/lang/Object;ILjava/lang/Object;II)V" } : Jvm.MethodName)) ∈ lw_all := lw_g (lw_at lw_m4 105 rfl) rfl
theorem q1351 : (Jvm.Cond.fieldLinkNest "WindowHill$Block" (23 : Nat) "WindowHill$Living" "isOver" "Z" "WindowHill") ∈ lw_tbl := lw_at lw_m6 17 rfl
theorem q1376 : (Jvm.Cond.declares ({ cls := "WindowHill$Block", name := "all", desc := "(LWindowHill$Living;)V" } : Jvm.MethodName)) ∈ lw_tbl := lw_at lw_m6 42 rfl
theorem q1378 : (Jvm.Cond.instanceMethod ({ cls := "WindowHill$Block", name := "all", desc := "(LWindowHill$Living;)V" } : Jvm.MethodName)) ∈ lw_all := lw_g (lw_at lw_m6 44 rfl) rfl
theorem q1379 : (Jvm.Cond.code ({ cls := "WindowHill$Block", name := "all", desc := "(LWindowHill$Living;)V" } : Jvm.MethodName) prog_4_method_3_code (3 : Nat) (Option.none : Option Jvm.ClassFile.FieldType)) ∈ lw_all := lw_g (lw_at lw_m6 45 rfl) rfl
theorem q1380 : (Jvm.Cond.methodLink "WindowHill$Block" (29 : Nat) ({ cls := "WindowHill$Step", name := "go", desc := "(LWindowHill$Living;)V" } : Jvm.MethodName)) ∈ lw_all := lw_g (lw_at lw_m6 46 rfl) rfl

/-! WindowHill$Loop -/
set_option maxRecDepth 100000
def RX11 : String := "WindowHill$Loop"
def TX11 : u_T := fun k => match k with
  | 0 => ("WindowHill$Block", "steps", "[LWindowHill$Step;", false)
  | 1 => ("WindowHill$Block", "size", "I", false)
  | _ => ("WindowHill$Loop", "times", "I", true)
def tyX11 : Nat → FieldType := fun k => match k with
  | 0 => .array (.object "WindowHill$Step")
  | 1 => .int
  | _ => .int
abbrev wsX110 : List Cond := u_ws RX11 TX11 3
theorem nmX11 : ∀ a, a < 3 → ∀ b, b < 3 → a ≠ b → (TX11 a).2.1 ≠ (TX11 b).2.1 := by decide +kernel
theorem tyX11_ok : ∀ k, k < 3 → parseFieldDescriptor (TX11 k).2.2.1 = some (tyX11 k) := by decide +kernel
abbrev cX11_init : ByteArray := prog_8_method_1_code
def yX11_init : MethodName := ⟨RX11, "<init>", "(I)V"⟩
def dkwX11_init_0 : List UInt8 := [42, 183, 0, 1, 42, 27, 181, 0, 7, 177]
abbrev dktX11_init_0 : List UInt8 := dkwX11_init_0 ++ []
theorem dksX11_init_0 : cX11_init.data.toList.drop 0 = dktX11_init_0 := by decide +kernel
theorem dX11_init_0 : decode cX11_init 0 = .ok (.aload_n 0, 1) := dk_42 (dk_at dksX11_init_0 0 rfl rfl)
theorem dX11_init_1 : decode cX11_init 1 = .ok (.invokespecial 1, 3) := dk_183 0 1 (dk_at dksX11_init_0 1 rfl rfl)
theorem dX11_init_4 : decode cX11_init 4 = .ok (.aload_n 0, 1) := dk_42 (dk_at dksX11_init_0 4 rfl rfl)
theorem dX11_init_5 : decode cX11_init 5 = .ok (.iload_n 1, 1) := dk_27 (dk_at dksX11_init_0 5 rfl rfl)
theorem dX11_init_6 : decode cX11_init 6 = .ok (.putfield 7, 3) := dk_181 0 7 (dk_at dksX11_init_0 6 rfl rfl)
theorem dX11_init_9 : decode cX11_init 9 = .ok (.return_, 1) := dk_177 (dk_at dksX11_init_0 9 rfl rfl)
abbrev cX11_does : ByteArray := prog_8_method_2_code
def yX11_does : MethodName := ⟨RX11, "does", "(LWindowHill$Living;)V"⟩
def dkwX11_does_1 : List UInt8 := [132, 2, 1, 167, 255, 233, 177]
abbrev dktX11_does_1 : List UInt8 := dkwX11_does_1 ++ []
def dkwX11_does_0 : List UInt8 := [3, 61, 28, 42, 180, 0, 7, 162, 0, 21, 43, 180, 0, 13, 154, 0, 14, 42, 43, 182, 0, 19]
abbrev dktX11_does_0 : List UInt8 := dkwX11_does_0 ++ dktX11_does_1
theorem dksX11_does_0 : cX11_does.data.toList.drop 0 = dktX11_does_0 := by decide +kernel
theorem dksX11_does_1 : cX11_does.data.toList.drop 22 = dktX11_does_1 := dk_seg dksX11_does_0 22 rfl rfl
theorem dX11_does_0 : decode cX11_does 0 = .ok (.iconst 0, 1) := dk_3 (dk_at dksX11_does_0 0 rfl rfl)
theorem dX11_does_1 : decode cX11_does 1 = .ok (.istore_n 2, 1) := dk_61 (dk_at dksX11_does_0 1 rfl rfl)
theorem dX11_does_2 : decode cX11_does 2 = .ok (.iload_n 2, 1) := dk_28 (dk_at dksX11_does_0 2 rfl rfl)
theorem dX11_does_3 : decode cX11_does 3 = .ok (.aload_n 0, 1) := dk_42 (dk_at dksX11_does_0 3 rfl rfl)
theorem dX11_does_4 : decode cX11_does 4 = .ok (.getfield 7, 3) := dk_180 0 7 (dk_at dksX11_does_0 4 rfl rfl)
theorem dX11_does_7 : decode cX11_does 7 = .ok (.if_icmp .ge 21, 3) := dk_162 0 21 (dk_at dksX11_does_0 7 rfl rfl)
theorem dX11_does_10 : decode cX11_does 10 = .ok (.aload_n 1, 1) := dk_43 (dk_at dksX11_does_0 10 rfl rfl)
theorem dX11_does_11 : decode cX11_does 11 = .ok (.getfield 13, 3) := dk_180 0 13 (dk_at dksX11_does_0 11 rfl rfl)
theorem dX11_does_14 : decode cX11_does 14 = .ok (.ifCond .ne 14, 3) := dk_154 0 14 (dk_at dksX11_does_0 14 rfl rfl)
theorem dX11_does_17 : decode cX11_does 17 = .ok (.aload_n 0, 1) := dk_42 (dk_at dksX11_does_0 17 rfl rfl)
theorem dX11_does_18 : decode cX11_does 18 = .ok (.aload_n 1, 1) := dk_43 (dk_at dksX11_does_0 18 rfl rfl)
theorem dX11_does_19 : decode cX11_does 19 = .ok (.invokevirtual 19, 3) := dk_182 0 19 (dk_at dksX11_does_0 19 rfl rfl)
theorem dX11_does_22 : decode cX11_does 22 = .ok (.iinc 2 1, 3) := dk_132 2 1 (dk_at dksX11_does_1 0 rfl rfl)
theorem dX11_does_25 : decode cX11_does 25 = .ok (.goto (-23), 3) := dk_167 255 233 (dk_at dksX11_does_1 3 rfl rfl)
theorem dX11_does_28 : decode cX11_does 28 = .ok (.return_, 1) := dk_177 (dk_at dksX11_does_1 6 rfl rfl)
theorem q159 : (Jvm.Cond.initialized "WindowHill$Loop") ∈ lw_all := lw_g (lw_at lw_m1 25 rfl) rfl
theorem q868 : (Jvm.Cond.instantiable "WindowHill$Loop" (3 : Nat)) ∈ lw_all := lw_g (lw_at lw_m4 14 rfl) rfl
theorem q870 : (Jvm.Cond.instanceMethod ({ cls := "WindowHill$Loop", name := "<init>", desc := "(I)V" } : Jvm.MethodName)) ∈ lw_all := lw_g (lw_at lw_m4 16 rfl) rfl
theorem q871 : (Jvm.Cond.code ({ cls := "WindowHill$Loop", name := "<init>", desc := "(I)V" } : Jvm.MethodName) prog_8_method_1_code (2 : Nat) (Option.none : Option Jvm.ClassFile.FieldType)) ∈ lw_all := lw_g (lw_at lw_m4 17 rfl) rfl
theorem q872 : (Jvm.Cond.methodLinkNest "WindowHill$Loop" (1 : Nat) ({ cls := "WindowHill$Block", name := "<init>", desc := "()V" } : Jvm.MethodName) "WindowHill") ∈ lw_tbl := lw_at lw_m4 18 rfl
theorem q881 : (Jvm.Cond.fieldLink "WindowHill$Loop" (7 : Nat) "WindowHill$Loop" "times" "I") ∈ lw_all := lw_g (lw_at lw_m4 27 rfl) rfl
theorem q884 : (Jvm.Cond.laysFinal "WindowHill$Loop" "WindowHill$Loop" "times" "I") ∈ lw_all := lw_g (lw_at lw_m4 30 rfl) rfl
theorem q885 : (Jvm.Cond.soleField "WindowHill$Loop" "times") ∈ lw_all := lw_g (lw_at lw_m4 31 rfl) rfl
theorem q886 : (Jvm.Cond.lays "WindowHill$Loop" "WindowHill$Block" "steps" "[LWindowHill$Step;") ∈ lw_all := lw_g (lw_at lw_m4 32 rfl) rfl
theorem q888 : (Jvm.Cond.lays "WindowHill$Loop" "WindowHill$Block" "size" "I") ∈ lw_all := lw_g (lw_at lw_m4 34 rfl) rfl
theorem q890 : (Jvm.Cond.superclass "WindowHill$Loop" "WindowHill$Block") ∈ lw_all := lw_g (lw_at lw_m4 36 rfl) rfl
theorem q956 : (Jvm.Cond.selects "WindowHill$Loop" ({ cls := "WindowHill$Block", name := "add", desc := "(LWindowHill$Step;)V" } : Jvm.MethodName) ({ cls := "WindowHill$Block", name := "add", desc := "(LWindowHill$Step;)V" } : Jvm.MethodName)) ∈ lw_all := lw_g (lw_at lw_m4 102 rfl) rfl
theorem q1349 : (Jvm.Cond.fieldLinkNest "WindowHill$Loop" (13 : Nat) "WindowHill$Living" "isOver" "Z" "WindowHill") ∈ lw_tbl := lw_at lw_m6 15 rfl
theorem q1375 : (Jvm.Cond.sameMethod "WindowHill$Loop" "WindowHill$Block" "all" "(LWindowHill$Living;)V") ∈ lw_all := lw_g (lw_at lw_m6 41 rfl) rfl
theorem q1377 : (Jvm.Cond.selects "WindowHill$Loop" ({ cls := "WindowHill$Loop", name := "all", desc := "(LWindowHill$Living;)V" } : Jvm.MethodName) ({ cls := "WindowHill$Block", name := "all", desc := "(LWindowHill$Living;)V" } : Jvm.MethodName)) ∈ lw_all := lw_g (lw_at lw_m6 43 rfl) rfl
theorem q1384 : (Jvm.Cond.selects "WindowHill$Loop" ({ cls := "WindowHill$Step", name := "go", desc := "(LWindowHill$Living;)V" } : Jvm.MethodName) ({ cls := "WindowHill$Step", name := "go", desc := "(LWindowHill$Living;)V" } : Jvm.MethodName)) ∈ lw_all := lw_g (lw_at lw_m6 50 rfl) rfl
theorem q1415 : (Jvm.Cond.selects "WindowHill$Loop" ({ cls := "WindowHill$Step", name := "does", desc := "(LWindowHill$Living;)V" } : Jvm.MethodName) ({ cls := "WindowHill$Loop", name := "does", desc := "(LWindowHill$Living;)V" } : Jvm.MethodName)) ∈ lw_all := lw_g (lw_at lw_m6 81 rfl) rfl
theorem q1416 : (Jvm.Cond.instanceMethod ({ cls := "WindowHill$Loop", name := "does", desc := "(LWindowHill$Living;)V" } : Jvm.MethodName)) ∈ lw_all := lw_g (lw_at lw_m6 82 rfl) rfl
theorem q1417 : (Jvm.Cond.code ({ cls := "WindowHill$Loop", name := "does", desc := "(LWindowHill$Living;)V" } : Jvm.MethodName) prog_8_method_2_code (3 : Nat) (Option.none : Option Jvm.ClassFile.FieldType)) ∈ lw_all := lw_g (lw_at lw_m6 83 rfl) rfl
theorem q1418 : (Jvm.Cond.methodLink "WindowHill$Loop" (19 : Nat) ({ cls := "WindowHill$Loop", name := "all", desc := "(LWindowHill$Living;)V" } : Jvm.MethodName)) ∈ lw_all := lw_g (lw_at lw_m6 84 rfl) rfl
theorem q2159 : (Jvm.Cond.castable "WindowHill$Loop" "WindowHill$Step") ∈ lw_tbl := lw_at lw_m9 105 rfl
theorem in_X11 : ∀ w ∈ wsX110, w ∈ lw_all := lw_in wsX110 [886, 888, 884] (by decide +kernel) (by decide +kernel)

/-! WindowHill$When -/
set_option maxRecDepth 100000
def RX12 : String := "WindowHill$When"
def TX12 : u_T := fun k => match k with
  | 0 => ("WindowHill$Block", "steps", "[LWindowHill$Step;", false)
  | 1 => ("WindowHill$Block", "size", "I", false)
  | 2 => ("WindowHill$When", "what", "I", true)
  | 3 => ("WindowHill$When", "number", "I", true)
  | _ => ("WindowHill$When", "sign", "I", true)
def tyX12 : Nat → FieldType := fun k => match k with
  | 0 => .array (.object "WindowHill$Step")
  | 1 => .int
  | 2 => .int
  | 3 => .int
  | _ => .int
abbrev wsX120 : List Cond := u_ws RX12 TX12 5
theorem nmX12 : ∀ a, a < 5 → ∀ b, b < 5 → a ≠ b → (TX12 a).2.1 ≠ (TX12 b).2.1 := by decide +kernel
theorem tyX12_ok : ∀ k, k < 5 → parseFieldDescriptor (TX12 k).2.2.1 = some (tyX12 k) := by decide +kernel
abbrev cX12_init : ByteArray := prog_14_method_1_code
def yX12_init : MethodName := ⟨RX12, "<init>", "(III)V"⟩
def dkwX12_init_0 : List UInt8 := [42, 183, 0, 3, 42, 27, 181, 0, 9, 42, 28, 181, 0, 15, 42, 29, 181, 0, 18, 177]
abbrev dktX12_init_0 : List UInt8 := dkwX12_init_0 ++ []
theorem dksX12_init_0 : cX12_init.data.toList.drop 0 = dktX12_init_0 := by decide +kernel
theorem dX12_init_0 : decode cX12_init 0 = .ok (.aload_n 0, 1) := dk_42 (dk_at dksX12_init_0 0 rfl rfl)
theorem dX12_init_1 : decode cX12_init 1 = .ok (.invokespecial 3, 3) := dk_183 0 3 (dk_at dksX12_init_0 1 rfl rfl)
theorem dX12_init_4 : decode cX12_init 4 = .ok (.aload_n 0, 1) := dk_42 (dk_at dksX12_init_0 4 rfl rfl)
theorem dX12_init_5 : decode cX12_init 5 = .ok (.iload_n 1, 1) := dk_27 (dk_at dksX12_init_0 5 rfl rfl)
theorem dX12_init_6 : decode cX12_init 6 = .ok (.putfield 9, 3) := dk_181 0 9 (dk_at dksX12_init_0 6 rfl rfl)
theorem dX12_init_9 : decode cX12_init 9 = .ok (.aload_n 0, 1) := dk_42 (dk_at dksX12_init_0 9 rfl rfl)
theorem dX12_init_10 : decode cX12_init 10 = .ok (.iload_n 2, 1) := dk_28 (dk_at dksX12_init_0 10 rfl rfl)
theorem dX12_init_11 : decode cX12_init 11 = .ok (.putfield 15, 3) := dk_181 0 15 (dk_at dksX12_init_0 11 rfl rfl)
theorem dX12_init_14 : decode cX12_init 14 = .ok (.aload_n 0, 1) := dk_42 (dk_at dksX12_init_0 14 rfl rfl)
theorem dX12_init_15 : decode cX12_init 15 = .ok (.iload_n 3, 1) := dk_29 (dk_at dksX12_init_0 15 rfl rfl)
theorem dX12_init_16 : decode cX12_init 16 = .ok (.putfield 18, 3) := dk_181 0 18 (dk_at dksX12_init_0 16 rfl rfl)
theorem dX12_init_19 : decode cX12_init 19 = .ok (.return_, 1) := dk_177 (dk_at dksX12_init_0 19 rfl rfl)
abbrev cX12_does : ByteArray := prog_14_method_3_code
def yX12_does : MethodName := ⟨RX12, "does", "(LWindowHill$Living;)V"⟩
def dkwX12_does_0 : List UInt8 := [42, 43, 180, 0, 35, 182, 0, 41, 153, 0, 8, 42, 43, 182, 0, 45, 177]
abbrev dktX12_does_0 : List UInt8 := dkwX12_does_0 ++ []
theorem dksX12_does_0 : cX12_does.data.toList.drop 0 = dktX12_does_0 := by decide +kernel
theorem dX12_does_0 : decode cX12_does 0 = .ok (.aload_n 0, 1) := dk_42 (dk_at dksX12_does_0 0 rfl rfl)
theorem dX12_does_1 : decode cX12_does 1 = .ok (.aload_n 1, 1) := dk_43 (dk_at dksX12_does_0 1 rfl rfl)
theorem dX12_does_2 : decode cX12_does 2 = .ok (.getfield 35, 3) := dk_180 0 35 (dk_at dksX12_does_0 2 rfl rfl)
theorem dX12_does_5 : decode cX12_does 5 = .ok (.invokevirtual 41, 3) := dk_182 0 41 (dk_at dksX12_does_0 5 rfl rfl)
theorem dX12_does_8 : decode cX12_does 8 = .ok (.ifCond .eq 8, 3) := dk_153 0 8 (dk_at dksX12_does_0 8 rfl rfl)
theorem dX12_does_11 : decode cX12_does 11 = .ok (.aload_n 0, 1) := dk_42 (dk_at dksX12_does_0 11 rfl rfl)
theorem dX12_does_12 : decode cX12_does 12 = .ok (.aload_n 1, 1) := dk_43 (dk_at dksX12_does_0 12 rfl rfl)
theorem dX12_does_13 : decode cX12_does 13 = .ok (.invokevirtual 45, 3) := dk_182 0 45 (dk_at dksX12_does_0 13 rfl rfl)
theorem dX12_does_16 : decode cX12_does 16 = .ok (.return_, 1) := dk_177 (dk_at dksX12_does_0 16 rfl rfl)
abbrev cX12_is : ByteArray := prog_14_method_2_code
def yX12_is : MethodName := ⟨RX12, "is", "(LWindowHill$Hill;)Z"⟩
def dkwX12_is_5 : List UInt8 := [28, 42, 180, 0, 15, 160, 0, 7, 4, 167, 0, 4, 3, 172]
abbrev dktX12_is_5 : List UInt8 := dkwX12_is_5 ++ []
def dkwX12_is_4 : List UInt8 := [180, 0, 18, 16, 62, 160, 0, 19, 28, 42, 180, 0, 15, 164, 0, 7, 4, 167, 0, 20, 3, 167, 0, 16]
abbrev dktX12_is_4 : List UInt8 := dkwX12_is_4 ++ dktX12_is_5
def dkwX12_is_3 : List UInt8 := [16, 60, 160, 0, 19, 28, 42, 180, 0, 15, 162, 0, 7, 4, 167, 0, 45, 3, 167, 0, 41, 42]
abbrev dktX12_is_3 : List UInt8 := dkwX12_is_3 ++ dktX12_is_4
def dkwX12_is_2 : List UInt8 := [180, 0, 21, 160, 0, 7, 4, 167, 0, 4, 3, 172, 43, 180, 0, 21, 184, 0, 30, 61, 42, 180, 0, 18]
abbrev dktX12_is_2 : List UInt8 := dkwX12_is_2 ++ dktX12_is_3
def dkwX12_is_1 : List UInt8 := [167, 0, 4, 3, 172, 42, 180, 0, 9, 5, 160, 0, 24, 43, 43, 180, 0, 21, 182, 0, 26, 43]
abbrev dktX12_is_1 : List UInt8 := dkwX12_is_1 ++ dktX12_is_2
def dkwX12_is_0 : List UInt8 := [42, 180, 0, 9, 4, 160, 0, 24, 43, 180, 0, 21, 42, 180, 0, 15, 122, 4, 126, 4, 160, 0, 7, 4]
abbrev dktX12_is_0 : List UInt8 := dkwX12_is_0 ++ dktX12_is_1
theorem dksX12_is_0 : cX12_is.data.toList.drop 0 = dktX12_is_0 := by decide +kernel
theorem dksX12_is_1 : cX12_is.data.toList.drop 24 = dktX12_is_1 := dk_seg dksX12_is_0 24 rfl rfl
theorem dksX12_is_2 : cX12_is.data.toList.drop 46 = dktX12_is_2 := dk_seg dksX12_is_1 22 rfl rfl
theorem dksX12_is_3 : cX12_is.data.toList.drop 70 = dktX12_is_3 := dk_seg dksX12_is_2 24 rfl rfl
theorem dksX12_is_4 : cX12_is.data.toList.drop 92 = dktX12_is_4 := dk_seg dksX12_is_3 22 rfl rfl
theorem dksX12_is_5 : cX12_is.data.toList.drop 116 = dktX12_is_5 := dk_seg dksX12_is_4 24 rfl rfl
theorem dX12_is_0 : decode cX12_is 0 = .ok (.aload_n 0, 1) := dk_42 (dk_at dksX12_is_0 0 rfl rfl)
theorem dX12_is_1 : decode cX12_is 1 = .ok (.getfield 9, 3) := dk_180 0 9 (dk_at dksX12_is_0 1 rfl rfl)
theorem dX12_is_4 : decode cX12_is 4 = .ok (.iconst 1, 1) := dk_4 (dk_at dksX12_is_0 4 rfl rfl)
theorem dX12_is_5 : decode cX12_is 5 = .ok (.if_icmp .ne 24, 3) := dk_160 0 24 (dk_at dksX12_is_0 5 rfl rfl)
theorem dX12_is_8 : decode cX12_is 8 = .ok (.aload_n 1, 1) := dk_43 (dk_at dksX12_is_0 8 rfl rfl)
theorem dX12_is_9 : decode cX12_is 9 = .ok (.getfield 21, 3) := dk_180 0 21 (dk_at dksX12_is_0 9 rfl rfl)
theorem dX12_is_12 : decode cX12_is 12 = .ok (.aload_n 0, 1) := dk_42 (dk_at dksX12_is_0 12 rfl rfl)
theorem dX12_is_13 : decode cX12_is 13 = .ok (.getfield 15, 3) := dk_180 0 15 (dk_at dksX12_is_0 13 rfl rfl)
theorem dX12_is_16 : decode cX12_is 16 = .ok (.ishr, 1) := dk_122 (dk_at dksX12_is_0 16 rfl rfl)
theorem dX12_is_17 : decode cX12_is 17 = .ok (.iconst 1, 1) := dk_4 (dk_at dksX12_is_0 17 rfl rfl)
theorem dX12_is_18 : decode cX12_is 18 = .ok (.iand, 1) := dk_126 (dk_at dksX12_is_0 18 rfl rfl)
theorem dX12_is_19 : decode cX12_is 19 = .ok (.iconst 1, 1) := dk_4 (dk_at dksX12_is_0 19 rfl rfl)
theorem dX12_is_20 : decode cX12_is 20 = .ok (.if_icmp .ne 7, 3) := dk_160 0 7 (dk_at dksX12_is_0 20 rfl rfl)
theorem dX12_is_23 : decode cX12_is 23 = .ok (.iconst 1, 1) := dk_4 (dk_at dksX12_is_0 23 rfl rfl)
theorem dX12_is_24 : decode cX12_is 24 = .ok (.goto 4, 3) := dk_167 0 4 (dk_at dksX12_is_1 0 rfl rfl)
theorem dX12_is_27 : decode cX12_is 27 = .ok (.iconst 0, 1) := dk_3 (dk_at dksX12_is_1 3 rfl rfl)
theorem dX12_is_28 : decode cX12_is 28 = .ok (.ireturn, 1) := dk_172 (dk_at dksX12_is_1 4 rfl rfl)
theorem dX12_is_29 : decode cX12_is 29 = .ok (.aload_n 0, 1) := dk_42 (dk_at dksX12_is_1 5 rfl rfl)
theorem dX12_is_30 : decode cX12_is 30 = .ok (.getfield 9, 3) := dk_180 0 9 (dk_at dksX12_is_1 6 rfl rfl)
theorem dX12_is_33 : decode cX12_is 33 = .ok (.iconst 2, 1) := dk_5 (dk_at dksX12_is_1 9 rfl rfl)
theorem dX12_is_34 : decode cX12_is 34 = .ok (.if_icmp .ne 24, 3) := dk_160 0 24 (dk_at dksX12_is_1 10 rfl rfl)
theorem dX12_is_37 : decode cX12_is 37 = .ok (.aload_n 1, 1) := dk_43 (dk_at dksX12_is_1 13 rfl rfl)
theorem dX12_is_38 : decode cX12_is 38 = .ok (.aload_n 1, 1) := dk_43 (dk_at dksX12_is_1 14 rfl rfl)
theorem dX12_is_39 : decode cX12_is 39 = .ok (.getfield 21, 3) := dk_180 0 21 (dk_at dksX12_is_1 15 rfl rfl)
theorem dX12_is_42 : decode cX12_is 42 = .ok (.invokevirtual 26, 3) := dk_182 0 26 (dk_at dksX12_is_1 18 rfl rfl)
theorem dX12_is_45 : decode cX12_is 45 = .ok (.aload_n 1, 1) := dk_43 (dk_at dksX12_is_1 21 rfl rfl)
theorem dX12_is_46 : decode cX12_is 46 = .ok (.getfield 21, 3) := dk_180 0 21 (dk_at dksX12_is_2 0 rfl rfl)
theorem dX12_is_49 : decode cX12_is 49 = .ok (.if_icmp .ne 7, 3) := dk_160 0 7 (dk_at dksX12_is_2 3 rfl rfl)
theorem dX12_is_52 : decode cX12_is 52 = .ok (.iconst 1, 1) := dk_4 (dk_at dksX12_is_2 6 rfl rfl)
theorem dX12_is_53 : decode cX12_is 53 = .ok (.goto 4, 3) := dk_167 0 4 (dk_at dksX12_is_2 7 rfl rfl)
theorem dX12_is_56 : decode cX12_is 56 = .ok (.iconst 0, 1) := dk_3 (dk_at dksX12_is_2 10 rfl rfl)
theorem dX12_is_57 : decode cX12_is 57 = .ok (.ireturn, 1) := dk_172 (dk_at dksX12_is_2 11 rfl rfl)
theorem dX12_is_58 : decode cX12_is 58 = .ok (.aload_n 1, 1) := dk_43 (dk_at dksX12_is_2 12 rfl rfl)
theorem dX12_is_59 : decode cX12_is 59 = .ok (.getfield 21, 3) := dk_180 0 21 (dk_at dksX12_is_2 13 rfl rfl)
theorem dX12_is_62 : decode cX12_is 62 = .ok (.invokestatic 30, 3) := dk_184 0 30 (dk_at dksX12_is_2 16 rfl rfl)
theorem dX12_is_65 : decode cX12_is 65 = .ok (.istore_n 2, 1) := dk_61 (dk_at dksX12_is_2 19 rfl rfl)
theorem dX12_is_66 : decode cX12_is 66 = .ok (.aload_n 0, 1) := dk_42 (dk_at dksX12_is_2 20 rfl rfl)
theorem dX12_is_67 : decode cX12_is 67 = .ok (.getfield 18, 3) := dk_180 0 18 (dk_at dksX12_is_2 21 rfl rfl)
theorem dX12_is_70 : decode cX12_is 70 = .ok (.bipush 60, 2) := dk_16 60 (dk_at dksX12_is_3 0 rfl rfl)
theorem dX12_is_72 : decode cX12_is 72 = .ok (.if_icmp .ne 19, 3) := dk_160 0 19 (dk_at dksX12_is_3 2 rfl rfl)
theorem dX12_is_75 : decode cX12_is 75 = .ok (.iload_n 2, 1) := dk_28 (dk_at dksX12_is_3 5 rfl rfl)
theorem dX12_is_76 : decode cX12_is 76 = .ok (.aload_n 0, 1) := dk_42 (dk_at dksX12_is_3 6 rfl rfl)
theorem dX12_is_77 : decode cX12_is 77 = .ok (.getfield 15, 3) := dk_180 0 15 (dk_at dksX12_is_3 7 rfl rfl)
theorem dX12_is_80 : decode cX12_is 80 = .ok (.if_icmp .ge 7, 3) := dk_162 0 7 (dk_at dksX12_is_3 10 rfl rfl)
theorem dX12_is_83 : decode cX12_is 83 = .ok (.iconst 1, 1) := dk_4 (dk_at dksX12_is_3 13 rfl rfl)
theorem dX12_is_84 : decode cX12_is 84 = .ok (.goto 45, 3) := dk_167 0 45 (dk_at dksX12_is_3 14 rfl rfl)
theorem dX12_is_87 : decode cX12_is 87 = .ok (.iconst 0, 1) := dk_3 (dk_at dksX12_is_3 17 rfl rfl)
theorem dX12_is_88 : decode cX12_is 88 = .ok (.goto 41, 3) := dk_167 0 41 (dk_at dksX12_is_3 18 rfl rfl)
theorem dX12_is_91 : decode cX12_is 91 = .ok (.aload_n 0, 1) := dk_42 (dk_at dksX12_is_3 21 rfl rfl)
theorem dX12_is_92 : decode cX12_is 92 = .ok (.getfield 18, 3) := dk_180 0 18 (dk_at dksX12_is_4 0 rfl rfl)
theorem dX12_is_95 : decode cX12_is 95 = .ok (.bipush 62, 2) := dk_16 62 (dk_at dksX12_is_4 3 rfl rfl)
theorem dX12_is_97 : decode cX12_is 97 = .ok (.if_icmp .ne 19, 3) := dk_160 0 19 (dk_at dksX12_is_4 5 rfl rfl)
theorem dX12_is_100 : decode cX12_is 100 = .ok (.iload_n 2, 1) := dk_28 (dk_at dksX12_is_4 8 rfl rfl)
theorem dX12_is_101 : decode cX12_is 101 = .ok (.aload_n 0, 1) := dk_42 (dk_at dksX12_is_4 9 rfl rfl)
theorem dX12_is_102 : decode cX12_is 102 = .ok (.getfield 15, 3) := dk_180 0 15 (dk_at dksX12_is_4 10 rfl rfl)
theorem dX12_is_105 : decode cX12_is 105 = .ok (.if_icmp .le 7, 3) := dk_164 0 7 (dk_at dksX12_is_4 13 rfl rfl)
theorem dX12_is_108 : decode cX12_is 108 = .ok (.iconst 1, 1) := dk_4 (dk_at dksX12_is_4 16 rfl rfl)
theorem dX12_is_109 : decode cX12_is 109 = .ok (.goto 20, 3) := dk_167 0 20 (dk_at dksX12_is_4 17 rfl rfl)
theorem dX12_is_112 : decode cX12_is 112 = .ok (.iconst 0, 1) := dk_3 (dk_at dksX12_is_4 20 rfl rfl)
theorem dX12_is_113 : decode cX12_is 113 = .ok (.goto 16, 3) := dk_167 0 16 (dk_at dksX12_is_4 21 rfl rfl)
theorem dX12_is_116 : decode cX12_is 116 = .ok (.iload_n 2, 1) := dk_28 (dk_at dksX12_is_5 0 rfl rfl)
theorem dX12_is_117 : decode cX12_is 117 = .ok (.aload_n 0, 1) := dk_42 (dk_at dksX12_is_5 1 rfl rfl)
theorem dX12_is_118 : decode cX12_is 118 = .ok (.getfield 15, 3) := dk_180 0 15 (dk_at dksX12_is_5 2 rfl rfl)
theorem dX12_is_121 : decode cX12_is 121 = .ok (.if_icmp .ne 7, 3) := dk_160 0 7 (dk_at dksX12_is_5 5 rfl rfl)
theorem dX12_is_124 : decode cX12_is 124 = .ok (.iconst 1, 1) := dk_4 (dk_at dksX12_is_5 8 rfl rfl)
theorem dX12_is_125 : decode cX12_is 125 = .ok (.goto 4, 3) := dk_167 0 4 (dk_at dksX12_is_5 9 rfl rfl)
theorem dX12_is_128 : decode cX12_is 128 = .ok (.iconst 0, 1) := dk_3 (dk_at dksX12_is_5 12 rfl rfl)
theorem dX12_is_129 : decode cX12_is 129 = .ok (.ireturn, 1) := dk_172 (dk_at dksX12_is_5 13 rfl rfl)
theorem q160 : (Jvm.Cond.initialized "WindowHill$When") ∈ lw_all := lw_g (lw_at lw_m1 26 rfl) rfl
theorem q381 : (Jvm.Cond.fieldLinkNest "WindowHill$When" (21 : Nat) "WindowHill$Hill" "lit" "I" "WindowHill") ∈ lw_tbl := lw_at lw_m2 7 rfl
theorem q912 : (Jvm.Cond.instantiable "WindowHill$When" (5 : Nat)) ∈ lw_all := lw_g (lw_at lw_m4 58 rfl) rfl
theorem q918 : (Jvm.Cond.instanceMethod ({ cls := "WindowHill$When", name := "<init>", desc := "(III)V" } : Jvm.MethodName)) ∈ lw_all := lw_g (lw_at lw_m4 64 rfl) rfl
theorem q919 : (Jvm.Cond.code ({ cls := "WindowHill$When", name := "<init>", desc := "(III)V" } : Jvm.MethodName) prog_14_method_1_code (4 : Nat) (Option.none : Option Jvm.ClassFile.FieldType)) ∈ lw_all := lw_g (lw_at lw_m4 65 rfl) rfl
theorem q920 : (Jvm.Cond.methodLinkNest "WindowHill$When" (3 : Nat) ({ cls := "WindowHill$Block", name := "<init>", desc := "()V" } : Jvm.MethodName) "WindowHill") ∈ lw_tbl := lw_at lw_m4 66 rfl
theorem q921 : (Jvm.Cond.fieldLink "WindowHill$When" (9 : Nat) "WindowHill$When" "what" "I") ∈ lw_all := lw_g (lw_at lw_m4 67 rfl) rfl
theorem q922 : (Jvm.Cond.fieldLink "WindowHill$When" (15 : Nat) "WindowHill$When" "number" "I") ∈ lw_all := lw_g (lw_at lw_m4 68 rfl) rfl
theorem q923 : (Jvm.Cond.fieldLink "WindowHill$When" (18 : Nat) "WindowHill$When" "sign" "I") ∈ lw_all := lw_g (lw_at lw_m4 69 rfl) rfl
theorem q924 : (Jvm.Cond.laysFinal "WindowHill$When" "WindowHill$When" "what" "I") ∈ lw_all := lw_g (lw_at lw_m4 70 rfl) rfl
theorem q925 : (Jvm.Cond.soleField "WindowHill$When" "what") ∈ lw_all := lw_g (lw_at lw_m4 71 rfl) rfl
theorem q926 : (Jvm.Cond.laysFinal "WindowHill$When" "WindowHill$When" "number" "I") ∈ lw_all := lw_g (lw_at lw_m4 72 rfl) rfl
theorem q927 : (Jvm.Cond.soleField "WindowHill$When" "number") ∈ lw_all := lw_g (lw_at lw_m4 73 rfl) rfl
theorem q928 : (Jvm.Cond.laysFinal "WindowHill$When" "WindowHill$When" "sign" "I") ∈ lw_all := lw_g (lw_at lw_m4 74 rfl) rfl
theorem q929 : (Jvm.Cond.soleField "WindowHill$When" "sign") ∈ lw_all := lw_g (lw_at lw_m4 75 rfl) rfl
theorem q930 : (Jvm.Cond.lays "WindowHill$When" "WindowHill$Block" "steps" "[LWindowHill$Step;") ∈ lw_all := lw_g (lw_at lw_m4 76 rfl) rfl
theorem q931 : (Jvm.Cond.lays "WindowHill$When" "WindowHill$Block" "size" "I") ∈ lw_all := lw_g (lw_at lw_m4 77 rfl) rfl
theorem q932 : (Jvm.Cond.superclass "WindowHill$When" "WindowHill$Block") ∈ lw_all := lw_g (lw_at lw_m4 78 rfl) rfl
theorem q957 : (Jvm.Cond.selects "WindowHill$When" ({ cls := "WindowHill$Block", name := "add", desc := "(LWindowHill$Step;)V" } : Jvm.MethodName) ({ cls := "WindowHill$Block", name := "add", desc := "(LWindowHill$Step;)V" } : Jvm.MethodName)) ∈ lw_all := lw_g (lw_at lw_m4 103 rfl) rfl
theorem q1337 : (Jvm.Cond.fieldLinkNest "WindowHill$When" (35 : Nat) "WindowHill$Living" "hill" "LWindowHill$Hill;" "WindowHill") ∈ lw_tbl := lw_at lw_m6 3 rfl
theorem q1385 : (Jvm.Cond.selects "WindowHill$When" ({ cls := "WindowHill$Step", name := "go", desc := "(LWindowHill$Living;)V" } : Jvm.MethodName) ({ cls := "WindowHill$Step", name := "go", desc := "(LWindowHill$Living;)V" } : Jvm.MethodName)) ∈ lw_all := lw_g (lw_at lw_m6 51 rfl) rfl
theorem q1419 : (Jvm.Cond.selects "WindowHill$When" ({ cls := "WindowHill$Step", name := "does", desc := "(LWindowHill$Living;)V" } : Jvm.MethodName) ({ cls := "WindowHill$When", name := "does", desc := "(LWindowHill$Living;)V" } : Jvm.MethodName)) ∈ lw_all := lw_g (lw_at lw_m6 85 rfl) rfl
theorem q1420 : (Jvm.Cond.instanceMethod ({ cls := "WindowHill$When", name := "does", desc := "(LWindowHill$Living;)V" } : Jvm.MethodName)) ∈ lw_all := lw_g (lw_at lw_m6 86 rfl) rfl
theorem q1421 : (Jvm.Cond.code ({ cls := "WindowHill$When", name := "does", desc := "(LWindowHill$Living;)V" } : Jvm.MethodName) prog_14_method_3_code (2 : Nat) (Option.none : Option Jvm.ClassFile.FieldType)) ∈ lw_all := lw_g (lw_at lw_m6 87 rfl) rfl
theorem q1422 : (Jvm.Cond.methodLink "WindowHill$When" (41 : Nat) ({ cls := "WindowHill$When", name := "is", desc := "(LWindowHill$Hill;)Z" } : Jvm.MethodName)) ∈ lw_all := lw_g (lw_at lw_m6 88 rfl) rfl
theorem q1423 : (Jvm.Cond.privateMethod ({ cls := "WindowHill$When", name := "is", desc := "(LWindowHill$Hill;)Z" } : Jvm.MethodName)) ∈ lw_tbl := lw_at lw_m6 89 rfl
theorem q1424 : (Jvm.Cond.instanceMethod ({ cls := "WindowHill$When", name := "is", desc := "(LWindowHill$Hill;)Z" } : Jvm.MethodName)) ∈ lw_all := lw_g (lw_at lw_m6 90 rfl) rfl
theorem q1425 : (Jvm.Cond.code ({ cls := "WindowHill$When", name := "is", desc := "(LWindowHill$Hill;)Z" } : Jvm.MethodName) prog_14_method_2_code (3 : Nat) (Option.some Jvm.ClassFile.FieldType.boolean)) ∈ lw_all := lw_g (lw_at lw_m6 91 rfl) rfl
theorem q1426 : (Jvm.Cond.methodLink "WindowHill$When" (26 : Nat) ({ cls := "WindowHill$Hill", name := "next", desc := "(I)I" } : Jvm.MethodName)) ∈ lw_all := lw_g (lw_at lw_m6 92 rfl) rfl
theorem q1427 : (Jvm.Cond.methodLink "WindowHill$When" (30 : Nat) ({ cls := "java/lang/Integer", name := "bitCount", desc := "(I)I" } : Jvm.MethodName)) ∈ lw_all := lw_g (lw_at lw_m6 93 rfl) rfl
theorem q1428 : (Jvm.Cond.methodLink "WindowHill$When" (45 : Nat) ({ cls := "WindowHill$When", name := "all", desc := "(LWindowHill$Living;)V" } : Jvm.MethodName)) ∈ lw_all := lw_g (lw_at lw_m6 94 rfl) rfl
theorem q1429 : (Jvm.Cond.sameMethod "WindowHill$When" "WindowHill$Block" "all" "(LWindowHill$Living;)V") ∈ lw_all := lw_g (lw_at lw_m6 95 rfl) rfl
theorem q1430 : (Jvm.Cond.selects "WindowHill$When" ({ cls := "WindowHill$When", name := "all", desc := "(LWindowHill$Living;)V" } : Jvm.MethodName) ({ cls := "WindowHill$Block", name := "all", desc := "(LWindowHill$Living;)V" } : Jvm.MethodName)) ∈ lw_all := lw_g (lw_at lw_m6 96 rfl) rfl
theorem q2160 : (Jvm.Cond.castable "WindowHill$When" "WindowHill$Step") ∈ lw_tbl := lw_at lw_m9 106 rfl
theorem in_X12 : ∀ w ∈ wsX120, w ∈ lw_all := lw_in wsX120 [930, 931, 924, 926, 928] (by decide +kernel) (by decide +kernel)

/-! WindowHill$Act -/
set_option maxRecDepth 100000
def RX13 : String := "WindowHill$Act"
def TX13 : u_T := fun k => match k with
  | 0 => ("WindowHill$Act", "what", "I", true)
  | _ => ("WindowHill$Act", "number", "I", true)
def tyX13 : Nat → FieldType := fun k => match k with
  | 0 => .int
  | _ => .int
abbrev wsX130 : List Cond := u_ws RX13 TX13 2
theorem nmX13 : ∀ a, a < 2 → ∀ b, b < 2 → a ≠ b → (TX13 a).2.1 ≠ (TX13 b).2.1 := by decide +kernel
theorem tyX13_ok : ∀ k, k < 2 → parseFieldDescriptor (TX13 k).2.2.1 = some (tyX13 k) := by decide +kernel
abbrev cX13_init : ByteArray := prog_2_method_1_code
def yX13_init : MethodName := ⟨RX13, "<init>", "(II)V"⟩
def dkwX13_init_0 : List UInt8 := [42, 183, 0, 3, 42, 27, 181, 0, 9, 42, 28, 181, 0, 15, 177]
abbrev dktX13_init_0 : List UInt8 := dkwX13_init_0 ++ []
theorem dksX13_init_0 : cX13_init.data.toList.drop 0 = dktX13_init_0 := by decide +kernel
theorem dX13_init_0 : decode cX13_init 0 = .ok (.aload_n 0, 1) := dk_42 (dk_at dksX13_init_0 0 rfl rfl)
theorem dX13_init_1 : decode cX13_init 1 = .ok (.invokespecial 3, 3) := dk_183 0 3 (dk_at dksX13_init_0 1 rfl rfl)
theorem dX13_init_4 : decode cX13_init 4 = .ok (.aload_n 0, 1) := dk_42 (dk_at dksX13_init_0 4 rfl rfl)
theorem dX13_init_5 : decode cX13_init 5 = .ok (.iload_n 1, 1) := dk_27 (dk_at dksX13_init_0 5 rfl rfl)
theorem dX13_init_6 : decode cX13_init 6 = .ok (.putfield 9, 3) := dk_181 0 9 (dk_at dksX13_init_0 6 rfl rfl)
theorem dX13_init_9 : decode cX13_init 9 = .ok (.aload_n 0, 1) := dk_42 (dk_at dksX13_init_0 9 rfl rfl)
theorem dX13_init_10 : decode cX13_init 10 = .ok (.iload_n 2, 1) := dk_28 (dk_at dksX13_init_0 10 rfl rfl)
theorem dX13_init_11 : decode cX13_init 11 = .ok (.putfield 15, 3) := dk_181 0 15 (dk_at dksX13_init_0 11 rfl rfl)
theorem dX13_init_14 : decode cX13_init 14 = .ok (.return_, 1) := dk_177 (dk_at dksX13_init_0 14 rfl rfl)
abbrev cX13_does : ByteArray := prog_2_method_5_code
def yX13_does : MethodName := ⟨RX13, "does", "(LWindowHill$Living;)V"⟩
def dkwX13_does_0 : List UInt8 := [42, 43, 182, 0, 87, 154, 0, 13, 43, 89, 180, 0, 91, 4, 96, 181, 0, 91, 177]
abbrev dktX13_does_0 : List UInt8 := dkwX13_does_0 ++ []
theorem dksX13_does_0 : cX13_does.data.toList.drop 0 = dktX13_does_0 := by decide +kernel
theorem dX13_does_0 : decode cX13_does 0 = .ok (.aload_n 0, 1) := dk_42 (dk_at dksX13_does_0 0 rfl rfl)
theorem dX13_does_1 : decode cX13_does 1 = .ok (.aload_n 1, 1) := dk_43 (dk_at dksX13_does_0 1 rfl rfl)
theorem dX13_does_2 : decode cX13_does 2 = .ok (.invokevirtual 87, 3) := dk_182 0 87 (dk_at dksX13_does_0 2 rfl rfl)
theorem dX13_does_5 : decode cX13_does 5 = .ok (.ifCond .ne 13, 3) := dk_154 0 13 (dk_at dksX13_does_0 5 rfl rfl)
theorem dX13_does_8 : decode cX13_does 8 = .ok (.aload_n 1, 1) := dk_43 (dk_at dksX13_does_0 8 rfl rfl)
theorem dX13_does_9 : decode cX13_does 9 = .ok (.dup, 1) := dk_89 (dk_at dksX13_does_0 9 rfl rfl)
theorem dX13_does_10 : decode cX13_does 10 = .ok (.getfield 91, 3) := dk_180 0 91 (dk_at dksX13_does_0 10 rfl rfl)
theorem dX13_does_13 : decode cX13_does 13 = .ok (.iconst 1, 1) := dk_4 (dk_at dksX13_does_0 13 rfl rfl)
theorem dX13_does_14 : decode cX13_does 14 = .ok (.iadd, 1) := dk_96 (dk_at dksX13_does_0 14 rfl rfl)
theorem dX13_does_15 : decode cX13_does 15 = .ok (.putfield 91, 3) := dk_181 0 91 (dk_at dksX13_does_0 15 rfl rfl)
theorem dX13_does_18 : decode cX13_does 18 = .ok (.return_, 1) := dk_177 (dk_at dksX13_does_0 18 rfl rfl)
abbrev cX13_can : ByteArray := prog_2_method_2_code
def yX13_can : MethodName := ⟨RX13, "can", "(LWindowHill$Living;)Z"⟩
def dkwX13_can_6 : List UInt8 := [42, 43, 44, 182, 0, 56, 172, 43, 4, 181, 0, 60, 4, 172]
abbrev dktX13_can_6 : List UInt8 := dkwX13_can_6 ++ []
def dkwX13_can_5 : List UInt8 := [172, 44, 42, 180, 0, 15, 181, 0, 45, 4, 172, 44, 182, 0, 48, 172, 42, 43, 44, 182, 0, 52, 4, 172]
abbrev dktX13_can_5 : List UInt8 := dkwX13_can_5 ++ dktX13_can_6
def dkwX13_can_4 : List UInt8 := [122, 4, 126, 154, 0, 5, 3, 172, 44, 89, 180, 0, 42, 4, 42, 180, 0, 15, 120, 130, 181, 0, 42, 4]
abbrev dktX13_can_4 : List UInt8 := dkwX13_can_4 ++ dktX13_can_5
def dkwX13_can_3 : List UInt8 := [180, 0, 29, 42, 180, 0, 15, 96, 181, 0, 29, 4, 172, 44, 180, 0, 32, 182, 0, 36, 42, 180, 0, 15]
abbrev dktX13_can_3 : List UInt8 := dkwX13_can_3 ++ dktX13_can_4
def dkwX13_can_2 : List UInt8 := [3, 62, 29, 42, 180, 0, 15, 162, 0, 13, 44, 182, 0, 24, 132, 3, 1, 167, 255, 241, 43, 89]
abbrev dktX13_can_2 : List UInt8 := dkwX13_can_2 ++ dktX13_can_3
def dkwX13_can_1 : List UInt8 := [170, 0, 0, 0, 0, 0, 140, 0, 0, 0, 0, 0, 0, 0, 5, 0, 0, 0, 39, 0, 0, 0, 74, 0, 0, 0, 110, 0, 0, 0, 120, 0, 0, 0, 125, 0, 0, 0, 133]
abbrev dktX13_can_1 : List UInt8 := dkwX13_can_1 ++ dktX13_can_2
def dkwX13_can_0 : List UInt8 := [43, 180, 0, 18, 77, 42, 180, 0, 9]
abbrev dktX13_can_0 : List UInt8 := dkwX13_can_0 ++ dktX13_can_1
theorem dksX13_can_0 : cX13_can.data.toList.drop 0 = dktX13_can_0 := by decide +kernel
theorem dksX13_can_1 : cX13_can.data.toList.drop 9 = dktX13_can_1 := dk_seg dksX13_can_0 9 rfl rfl
theorem dksX13_can_2 : cX13_can.data.toList.drop 48 = dktX13_can_2 := dk_seg dksX13_can_1 39 rfl rfl
theorem dksX13_can_3 : cX13_can.data.toList.drop 70 = dktX13_can_3 := dk_seg dksX13_can_2 22 rfl rfl
theorem dksX13_can_4 : cX13_can.data.toList.drop 94 = dktX13_can_4 := dk_seg dksX13_can_3 24 rfl rfl
theorem dksX13_can_5 : cX13_can.data.toList.drop 118 = dktX13_can_5 := dk_seg dksX13_can_4 24 rfl rfl
theorem dksX13_can_6 : cX13_can.data.toList.drop 142 = dktX13_can_6 := dk_seg dksX13_can_5 24 rfl rfl
theorem dX13_can_0 : decode cX13_can 0 = .ok (.aload_n 1, 1) := dk_43 (dk_at dksX13_can_0 0 rfl rfl)
theorem dX13_can_1 : decode cX13_can 1 = .ok (.getfield 18, 3) := dk_180 0 18 (dk_at dksX13_can_0 1 rfl rfl)
theorem dX13_can_4 : decode cX13_can 4 = .ok (.astore_n 2, 1) := dk_77 (dk_at dksX13_can_0 4 rfl rfl)
theorem dX13_can_5 : decode cX13_can 5 = .ok (.aload_n 0, 1) := dk_42 (dk_at dksX13_can_0 5 rfl rfl)
theorem dX13_can_6 : decode cX13_can 6 = .ok (.getfield 9, 3) := dk_180 0 9 (dk_at dksX13_can_0 6 rfl rfl)
theorem dX13_can_9 : decode cX13_can 9 = .ok (.tableswitch 140 0 5 #[39, 74, 110, 120, 125, 133], 39) := by decide +kernel
theorem dX13_can_48 : decode cX13_can 48 = .ok (.iconst 0, 1) := dk_3 (dk_at dksX13_can_2 0 rfl rfl)
theorem dX13_can_49 : decode cX13_can 49 = .ok (.istore_n 3, 1) := dk_62 (dk_at dksX13_can_2 1 rfl rfl)
theorem dX13_can_50 : decode cX13_can 50 = .ok (.iload_n 3, 1) := dk_29 (dk_at dksX13_can_2 2 rfl rfl)
theorem dX13_can_51 : decode cX13_can 51 = .ok (.aload_n 0, 1) := dk_42 (dk_at dksX13_can_2 3 rfl rfl)
theorem dX13_can_52 : decode cX13_can 52 = .ok (.getfield 15, 3) := dk_180 0 15 (dk_at dksX13_can_2 4 rfl rfl)
theorem dX13_can_55 : decode cX13_can 55 = .ok (.if_icmp .ge 13, 3) := dk_162 0 13 (dk_at dksX13_can_2 7 rfl rfl)
theorem dX13_can_58 : decode cX13_can 58 = .ok (.aload_n 2, 1) := dk_44 (dk_at dksX13_can_2 10 rfl rfl)
theorem dX13_can_59 : decode cX13_can 59 = .ok (.invokevirtual 24, 3) := dk_182 0 24 (dk_at dksX13_can_2 11 rfl rfl)
theorem dX13_can_62 : decode cX13_can 62 = .ok (.iinc 3 1, 3) := dk_132 3 1 (dk_at dksX13_can_2 14 rfl rfl)
theorem dX13_can_65 : decode cX13_can 65 = .ok (.goto (-15), 3) := dk_167 255 241 (dk_at dksX13_can_2 17 rfl rfl)
theorem dX13_can_68 : decode cX13_can 68 = .ok (.aload_n 1, 1) := dk_43 (dk_at dksX13_can_2 20 rfl rfl)
theorem dX13_can_69 : decode cX13_can 69 = .ok (.dup, 1) := dk_89 (dk_at dksX13_can_2 21 rfl rfl)
theorem dX13_can_70 : decode cX13_can 70 = .ok (.getfield 29, 3) := dk_180 0 29 (dk_at dksX13_can_3 0 rfl rfl)
theorem dX13_can_73 : decode cX13_can 73 = .ok (.aload_n 0, 1) := dk_42 (dk_at dksX13_can_3 3 rfl rfl)
theorem dX13_can_74 : decode cX13_can 74 = .ok (.getfield 15, 3) := dk_180 0 15 (dk_at dksX13_can_3 4 rfl rfl)
theorem dX13_can_77 : decode cX13_can 77 = .ok (.iadd, 1) := dk_96 (dk_at dksX13_can_3 7 rfl rfl)
theorem dX13_can_78 : decode cX13_can 78 = .ok (.putfield 29, 3) := dk_181 0 29 (dk_at dksX13_can_3 8 rfl rfl)
theorem dX13_can_81 : decode cX13_can 81 = .ok (.iconst 1, 1) := dk_4 (dk_at dksX13_can_3 11 rfl rfl)
theorem dX13_can_82 : decode cX13_can 82 = .ok (.ireturn, 1) := dk_172 (dk_at dksX13_can_3 12 rfl rfl)
theorem dX13_can_83 : decode cX13_can 83 = .ok (.aload_n 2, 1) := dk_44 (dk_at dksX13_can_3 13 rfl rfl)
theorem dX13_can_84 : decode cX13_can 84 = .ok (.getfield 32, 3) := dk_180 0 32 (dk_at dksX13_can_3 14 rfl rfl)
theorem dX13_can_87 : decode cX13_can 87 = .ok (.invokevirtual 36, 3) := dk_182 0 36 (dk_at dksX13_can_3 17 rfl rfl)
theorem dX13_can_90 : decode cX13_can 90 = .ok (.aload_n 0, 1) := dk_42 (dk_at dksX13_can_3 20 rfl rfl)
theorem dX13_can_91 : decode cX13_can 91 = .ok (.getfield 15, 3) := dk_180 0 15 (dk_at dksX13_can_3 21 rfl rfl)
theorem dX13_can_94 : decode cX13_can 94 = .ok (.ishr, 1) := dk_122 (dk_at dksX13_can_4 0 rfl rfl)
theorem dX13_can_95 : decode cX13_can 95 = .ok (.iconst 1, 1) := dk_4 (dk_at dksX13_can_4 1 rfl rfl)
theorem dX13_can_96 : decode cX13_can 96 = .ok (.iand, 1) := dk_126 (dk_at dksX13_can_4 2 rfl rfl)
theorem dX13_can_97 : decode cX13_can 97 = .ok (.ifCond .ne 5, 3) := dk_154 0 5 (dk_at dksX13_can_4 3 rfl rfl)
theorem dX13_can_100 : decode cX13_can 100 = .ok (.iconst 0, 1) := dk_3 (dk_at dksX13_can_4 6 rfl rfl)
theorem dX13_can_101 : decode cX13_can 101 = .ok (.ireturn, 1) := dk_172 (dk_at dksX13_can_4 7 rfl rfl)
theorem dX13_can_102 : decode cX13_can 102 = .ok (.aload_n 2, 1) := dk_44 (dk_at dksX13_can_4 8 rfl rfl)
theorem dX13_can_103 : decode cX13_can 103 = .ok (.dup, 1) := dk_89 (dk_at dksX13_can_4 9 rfl rfl)
theorem dX13_can_104 : decode cX13_can 104 = .ok (.getfield 42, 3) := dk_180 0 42 (dk_at dksX13_can_4 10 rfl rfl)
theorem dX13_can_107 : decode cX13_can 107 = .ok (.iconst 1, 1) := dk_4 (dk_at dksX13_can_4 13 rfl rfl)
theorem dX13_can_108 : decode cX13_can 108 = .ok (.aload_n 0, 1) := dk_42 (dk_at dksX13_can_4 14 rfl rfl)
theorem dX13_can_109 : decode cX13_can 109 = .ok (.getfield 15, 3) := dk_180 0 15 (dk_at dksX13_can_4 15 rfl rfl)
theorem dX13_can_112 : decode cX13_can 112 = .ok (.ishl, 1) := dk_120 (dk_at dksX13_can_4 18 rfl rfl)
theorem dX13_can_113 : decode cX13_can 113 = .ok (.ixor, 1) := dk_130 (dk_at dksX13_can_4 19 rfl rfl)
theorem dX13_can_114 : decode cX13_can 114 = .ok (.putfield 42, 3) := dk_181 0 42 (dk_at dksX13_can_4 20 rfl rfl)
theorem dX13_can_117 : decode cX13_can 117 = .ok (.iconst 1, 1) := dk_4 (dk_at dksX13_can_4 23 rfl rfl)
theorem dX13_can_118 : decode cX13_can 118 = .ok (.ireturn, 1) := dk_172 (dk_at dksX13_can_5 0 rfl rfl)
theorem dX13_can_119 : decode cX13_can 119 = .ok (.aload_n 2, 1) := dk_44 (dk_at dksX13_can_5 1 rfl rfl)
theorem dX13_can_120 : decode cX13_can 120 = .ok (.aload_n 0, 1) := dk_42 (dk_at dksX13_can_5 2 rfl rfl)
theorem dX13_can_121 : decode cX13_can 121 = .ok (.getfield 15, 3) := dk_180 0 15 (dk_at dksX13_can_5 3 rfl rfl)
theorem dX13_can_124 : decode cX13_can 124 = .ok (.putfield 45, 3) := dk_181 0 45 (dk_at dksX13_can_5 6 rfl rfl)
theorem dX13_can_127 : decode cX13_can 127 = .ok (.iconst 1, 1) := dk_4 (dk_at dksX13_can_5 9 rfl rfl)
theorem dX13_can_128 : decode cX13_can 128 = .ok (.ireturn, 1) := dk_172 (dk_at dksX13_can_5 10 rfl rfl)
theorem dX13_can_129 : decode cX13_can 129 = .ok (.aload_n 2, 1) := dk_44 (dk_at dksX13_can_5 11 rfl rfl)
theorem dX13_can_130 : decode cX13_can 130 = .ok (.invokevirtual 48, 3) := dk_182 0 48 (dk_at dksX13_can_5 12 rfl rfl)
theorem dX13_can_133 : decode cX13_can 133 = .ok (.ireturn, 1) := dk_172 (dk_at dksX13_can_5 15 rfl rfl)
theorem dX13_can_134 : decode cX13_can 134 = .ok (.aload_n 0, 1) := dk_42 (dk_at dksX13_can_5 16 rfl rfl)
theorem dX13_can_135 : decode cX13_can 135 = .ok (.aload_n 1, 1) := dk_43 (dk_at dksX13_can_5 17 rfl rfl)
theorem dX13_can_136 : decode cX13_can 136 = .ok (.aload_n 2, 1) := dk_44 (dk_at dksX13_can_5 18 rfl rfl)
theorem dX13_can_137 : decode cX13_can 137 = .ok (.invokevirtual 52, 3) := dk_182 0 52 (dk_at dksX13_can_5 19 rfl rfl)
theorem dX13_can_140 : decode cX13_can 140 = .ok (.iconst 1, 1) := dk_4 (dk_at dksX13_can_5 22 rfl rfl)
theorem dX13_can_141 : decode cX13_can 141 = .ok (.ireturn, 1) := dk_172 (dk_at dksX13_can_5 23 rfl rfl)
theorem dX13_can_142 : decode cX13_can 142 = .ok (.aload_n 0, 1) := dk_42 (dk_at dksX13_can_6 0 rfl rfl)
theorem dX13_can_143 : decode cX13_can 143 = .ok (.aload_n 1, 1) := dk_43 (dk_at dksX13_can_6 1 rfl rfl)
theorem dX13_can_144 : decode cX13_can 144 = .ok (.aload_n 2, 1) := dk_44 (dk_at dksX13_can_6 2 rfl rfl)
theorem dX13_can_145 : decode cX13_can 145 = .ok (.invokevirtual 56, 3) := dk_182 0 56 (dk_at dksX13_can_6 3 rfl rfl)
theorem dX13_can_148 : decode cX13_can 148 = .ok (.ireturn, 1) := dk_172 (dk_at dksX13_can_6 6 rfl rfl)
theorem dX13_can_149 : decode cX13_can 149 = .ok (.aload_n 1, 1) := dk_43 (dk_at dksX13_can_6 7 rfl rfl)
theorem dX13_can_150 : decode cX13_can 150 = .ok (.iconst 1, 1) := dk_4 (dk_at dksX13_can_6 8 rfl rfl)
theorem dX13_can_151 : decode cX13_can 151 = .ok (.putfield 60, 3) := dk_181 0 60 (dk_at dksX13_can_6 9 rfl rfl)
theorem dX13_can_154 : decode cX13_can 154 = .ok (.iconst 1, 1) := dk_4 (dk_at dksX13_can_6 12 rfl rfl)
theorem dX13_can_155 : decode cX13_can 155 = .ok (.ireturn, 1) := dk_172 (dk_at dksX13_can_6 13 rfl rfl)
abbrev cX13_storm : ByteArray := prog_2_method_3_code
def yX13_storm : MethodName := ⟨RX13, "storm", "(LWindowHill$Living;LWindowHill$Hill;)V"⟩
def dkwX13_storm_3 : List UInt8 := [43, 89, 180, 0, 71, 4, 96, 181, 0, 71, 132, 4, 1, 167, 255, 191, 177]
abbrev dktX13_storm_3 : List UInt8 := dkwX13_storm_3 ++ []
def dkwX13_storm_2 : List UInt8 := [180, 0, 15, 161, 0, 6, 167, 0, 28, 44, 89, 180, 0, 42, 4, 21, 4, 120, 2, 130, 126, 181, 0, 42]
abbrev dktX13_storm_2 : List UInt8 := dkwX13_storm_2 ++ dktX13_storm_3
def dkwX13_storm_1 : List UInt8 := [182, 0, 64, 162, 0, 59, 29, 21, 4, 122, 4, 126, 153, 0, 44, 43, 16, 16, 182, 0, 67, 42]
abbrev dktX13_storm_1 : List UInt8 := dkwX13_storm_1 ++ dktX13_storm_2
def dkwX13_storm_0 : List UInt8 := [44, 180, 0, 42, 44, 180, 0, 32, 182, 0, 36, 126, 62, 3, 54, 4, 21, 4, 44, 180, 0, 32]
abbrev dktX13_storm_0 : List UInt8 := dkwX13_storm_0 ++ dktX13_storm_1
theorem dksX13_storm_0 : cX13_storm.data.toList.drop 0 = dktX13_storm_0 := by decide +kernel
theorem dksX13_storm_1 : cX13_storm.data.toList.drop 22 = dktX13_storm_1 := dk_seg dksX13_storm_0 22 rfl rfl
theorem dksX13_storm_2 : cX13_storm.data.toList.drop 44 = dktX13_storm_2 := dk_seg dksX13_storm_1 22 rfl rfl
theorem dksX13_storm_3 : cX13_storm.data.toList.drop 68 = dktX13_storm_3 := dk_seg dksX13_storm_2 24 rfl rfl
theorem dX13_storm_0 : decode cX13_storm 0 = .ok (.aload_n 2, 1) := dk_44 (dk_at dksX13_storm_0 0 rfl rfl)
theorem dX13_storm_1 : decode cX13_storm 1 = .ok (.getfield 42, 3) := dk_180 0 42 (dk_at dksX13_storm_0 1 rfl rfl)
theorem dX13_storm_4 : decode cX13_storm 4 = .ok (.aload_n 2, 1) := dk_44 (dk_at dksX13_storm_0 4 rfl rfl)
theorem dX13_storm_5 : decode cX13_storm 5 = .ok (.getfield 32, 3) := dk_180 0 32 (dk_at dksX13_storm_0 5 rfl rfl)
theorem dX13_storm_8 : decode cX13_storm 8 = .ok (.invokevirtual 36, 3) := dk_182 0 36 (dk_at dksX13_storm_0 8 rfl rfl)
theorem dX13_storm_11 : decode cX13_storm 11 = .ok (.iand, 1) := dk_126 (dk_at dksX13_storm_0 11 rfl rfl)
theorem dX13_storm_12 : decode cX13_storm 12 = .ok (.istore_n 3, 1) := dk_62 (dk_at dksX13_storm_0 12 rfl rfl)
theorem dX13_storm_13 : decode cX13_storm 13 = .ok (.iconst 0, 1) := dk_3 (dk_at dksX13_storm_0 13 rfl rfl)
theorem dX13_storm_14 : decode cX13_storm 14 = .ok (.istore 4, 2) := dk_54 4 (dk_at dksX13_storm_0 14 rfl rfl)
theorem dX13_storm_16 : decode cX13_storm 16 = .ok (.iload 4, 2) := dk_21 4 (dk_at dksX13_storm_0 16 rfl rfl)
theorem dX13_storm_18 : decode cX13_storm 18 = .ok (.aload_n 2, 1) := dk_44 (dk_at dksX13_storm_0 18 rfl rfl)
theorem dX13_storm_19 : decode cX13_storm 19 = .ok (.getfield 32, 3) := dk_180 0 32 (dk_at dksX13_storm_0 19 rfl rfl)
theorem dX13_storm_22 : decode cX13_storm 22 = .ok (.invokevirtual 64, 3) := dk_182 0 64 (dk_at dksX13_storm_1 0 rfl rfl)
theorem dX13_storm_25 : decode cX13_storm 25 = .ok (.if_icmp .ge 59, 3) := dk_162 0 59 (dk_at dksX13_storm_1 3 rfl rfl)
theorem dX13_storm_28 : decode cX13_storm 28 = .ok (.iload_n 3, 1) := dk_29 (dk_at dksX13_storm_1 6 rfl rfl)
theorem dX13_storm_29 : decode cX13_storm 29 = .ok (.iload 4, 2) := dk_21 4 (dk_at dksX13_storm_1 7 rfl rfl)
theorem dX13_storm_31 : decode cX13_storm 31 = .ok (.ishr, 1) := dk_122 (dk_at dksX13_storm_1 9 rfl rfl)
theorem dX13_storm_32 : decode cX13_storm 32 = .ok (.iconst 1, 1) := dk_4 (dk_at dksX13_storm_1 10 rfl rfl)
theorem dX13_storm_33 : decode cX13_storm 33 = .ok (.iand, 1) := dk_126 (dk_at dksX13_storm_1 11 rfl rfl)
theorem dX13_storm_34 : decode cX13_storm 34 = .ok (.ifCond .eq 44, 3) := dk_153 0 44 (dk_at dksX13_storm_1 12 rfl rfl)
theorem dX13_storm_37 : decode cX13_storm 37 = .ok (.aload_n 1, 1) := dk_43 (dk_at dksX13_storm_1 15 rfl rfl)
theorem dX13_storm_38 : decode cX13_storm 38 = .ok (.bipush 16, 2) := dk_16 16 (dk_at dksX13_storm_1 16 rfl rfl)
theorem dX13_storm_40 : decode cX13_storm 40 = .ok (.invokevirtual 67, 3) := dk_182 0 67 (dk_at dksX13_storm_1 18 rfl rfl)
theorem dX13_storm_43 : decode cX13_storm 43 = .ok (.aload_n 0, 1) := dk_42 (dk_at dksX13_storm_1 21 rfl rfl)
theorem dX13_storm_44 : decode cX13_storm 44 = .ok (.getfield 15, 3) := dk_180 0 15 (dk_at dksX13_storm_2 0 rfl rfl)
theorem dX13_storm_47 : decode cX13_storm 47 = .ok (.if_icmp .lt 6, 3) := dk_161 0 6 (dk_at dksX13_storm_2 3 rfl rfl)
theorem dX13_storm_50 : decode cX13_storm 50 = .ok (.goto 28, 3) := dk_167 0 28 (dk_at dksX13_storm_2 6 rfl rfl)
theorem dX13_storm_53 : decode cX13_storm 53 = .ok (.aload_n 2, 1) := dk_44 (dk_at dksX13_storm_2 9 rfl rfl)
theorem dX13_storm_54 : decode cX13_storm 54 = .ok (.dup, 1) := dk_89 (dk_at dksX13_storm_2 10 rfl rfl)
theorem dX13_storm_55 : decode cX13_storm 55 = .ok (.getfield 42, 3) := dk_180 0 42 (dk_at dksX13_storm_2 11 rfl rfl)
theorem dX13_storm_58 : decode cX13_storm 58 = .ok (.iconst 1, 1) := dk_4 (dk_at dksX13_storm_2 14 rfl rfl)
theorem dX13_storm_59 : decode cX13_storm 59 = .ok (.iload 4, 2) := dk_21 4 (dk_at dksX13_storm_2 15 rfl rfl)
theorem dX13_storm_61 : decode cX13_storm 61 = .ok (.ishl, 1) := dk_120 (dk_at dksX13_storm_2 17 rfl rfl)
theorem dX13_storm_62 : decode cX13_storm 62 = .ok (.iconst (-1), 1) := dk_2 (dk_at dksX13_storm_2 18 rfl rfl)
theorem dX13_storm_63 : decode cX13_storm 63 = .ok (.ixor, 1) := dk_130 (dk_at dksX13_storm_2 19 rfl rfl)
theorem dX13_storm_64 : decode cX13_storm 64 = .ok (.iand, 1) := dk_126 (dk_at dksX13_storm_2 20 rfl rfl)
theorem dX13_storm_65 : decode cX13_storm 65 = .ok (.putfield 42, 3) := dk_181 0 42 (dk_at dksX13_storm_2 21 rfl rfl)
theorem dX13_storm_68 : decode cX13_storm 68 = .ok (.aload_n 1, 1) := dk_43 (dk_at dksX13_storm_3 0 rfl rfl)
theorem dX13_storm_69 : decode cX13_storm 69 = .ok (.dup, 1) := dk_89 (dk_at dksX13_storm_3 1 rfl rfl)
theorem dX13_storm_70 : decode cX13_storm 70 = .ok (.getfield 71, 3) := dk_180 0 71 (dk_at dksX13_storm_3 2 rfl rfl)
theorem dX13_storm_73 : decode cX13_storm 73 = .ok (.iconst 1, 1) := dk_4 (dk_at dksX13_storm_3 5 rfl rfl)
theorem dX13_storm_74 : decode cX13_storm 74 = .ok (.iadd, 1) := dk_96 (dk_at dksX13_storm_3 6 rfl rfl)
theorem dX13_storm_75 : decode cX13_storm 75 = .ok (.putfield 71, 3) := dk_181 0 71 (dk_at dksX13_storm_3 7 rfl rfl)
theorem dX13_storm_78 : decode cX13_storm 78 = .ok (.iinc 4 1, 3) := dk_132 4 1 (dk_at dksX13_storm_3 10 rfl rfl)
theorem dX13_storm_81 : decode cX13_storm 81 = .ok (.goto (-65), 3) := dk_167 255 191 (dk_at dksX13_storm_3 13 rfl rfl)
theorem dX13_storm_84 : decode cX13_storm 84 = .ok (.return_, 1) := dk_177 (dk_at dksX13_storm_3 16 rfl rfl)
abbrev cX13_birth : ByteArray := prog_2_method_4_code
def yX13_birth : MethodName := ⟨RX13, "birth", "(LWindowHill$Living;LWindowHill$Hill;)Z"⟩
def dkwX13_birth_3 : List UInt8 := [43, 89, 180, 0, 84, 4, 96, 181, 0, 84, 4, 172]
abbrev dktX13_birth_3 : List UInt8 := dkwX13_birth_3 ++ []
def dkwX13_birth_2 : List UInt8 := [126, 4, 21, 4, 120, 126, 154, 0, 5, 3, 172, 44, 89, 180, 0, 42, 4, 21, 4, 120, 128, 181, 0, 42]
abbrev dktX13_birth_2 : List UInt8 := dkwX13_birth_2 ++ dktX13_birth_3
def dkwX13_birth_1 : List UInt8 := [180, 0, 77, 182, 0, 67, 182, 0, 80, 54, 4, 44, 180, 0, 32, 182, 0, 36, 44, 180, 0, 42, 2, 130]
abbrev dktX13_birth_1 : List UInt8 := dkwX13_birth_1 ++ dktX13_birth_2
def dkwX13_birth_0 : List UInt8 := [43, 44, 180, 0, 32, 180, 0, 74, 182, 0, 67, 62, 44, 180, 0, 32, 29, 43, 44, 180, 0, 32]
abbrev dktX13_birth_0 : List UInt8 := dkwX13_birth_0 ++ dktX13_birth_1
theorem dksX13_birth_0 : cX13_birth.data.toList.drop 0 = dktX13_birth_0 := by decide +kernel
theorem dksX13_birth_1 : cX13_birth.data.toList.drop 22 = dktX13_birth_1 := dk_seg dksX13_birth_0 22 rfl rfl
theorem dksX13_birth_2 : cX13_birth.data.toList.drop 46 = dktX13_birth_2 := dk_seg dksX13_birth_1 24 rfl rfl
theorem dksX13_birth_3 : cX13_birth.data.toList.drop 70 = dktX13_birth_3 := dk_seg dksX13_birth_2 24 rfl rfl
theorem dX13_birth_0 : decode cX13_birth 0 = .ok (.aload_n 1, 1) := dk_43 (dk_at dksX13_birth_0 0 rfl rfl)
theorem dX13_birth_1 : decode cX13_birth 1 = .ok (.aload_n 2, 1) := dk_44 (dk_at dksX13_birth_0 1 rfl rfl)
theorem dX13_birth_2 : decode cX13_birth 2 = .ok (.getfield 32, 3) := dk_180 0 32 (dk_at dksX13_birth_0 2 rfl rfl)
theorem dX13_birth_5 : decode cX13_birth 5 = .ok (.getfield 74, 3) := dk_180 0 74 (dk_at dksX13_birth_0 5 rfl rfl)
theorem dX13_birth_8 : decode cX13_birth 8 = .ok (.invokevirtual 67, 3) := dk_182 0 67 (dk_at dksX13_birth_0 8 rfl rfl)
theorem dX13_birth_11 : decode cX13_birth 11 = .ok (.istore_n 3, 1) := dk_62 (dk_at dksX13_birth_0 11 rfl rfl)
theorem dX13_birth_12 : decode cX13_birth 12 = .ok (.aload_n 2, 1) := dk_44 (dk_at dksX13_birth_0 12 rfl rfl)
theorem dX13_birth_13 : decode cX13_birth 13 = .ok (.getfield 32, 3) := dk_180 0 32 (dk_at dksX13_birth_0 13 rfl rfl)
theorem dX13_birth_16 : decode cX13_birth 16 = .ok (.iload_n 3, 1) := dk_29 (dk_at dksX13_birth_0 16 rfl rfl)
theorem dX13_birth_17 : decode cX13_birth 17 = .ok (.aload_n 1, 1) := dk_43 (dk_at dksX13_birth_0 17 rfl rfl)
theorem dX13_birth_18 : decode cX13_birth 18 = .ok (.aload_n 2, 1) := dk_44 (dk_at dksX13_birth_0 18 rfl rfl)
theorem dX13_birth_19 : decode cX13_birth 19 = .ok (.getfield 32, 3) := dk_180 0 32 (dk_at dksX13_birth_0 19 rfl rfl)
theorem dX13_birth_22 : decode cX13_birth 22 = .ok (.getfield 77, 3) := dk_180 0 77 (dk_at dksX13_birth_1 0 rfl rfl)
theorem dX13_birth_25 : decode cX13_birth 25 = .ok (.invokevirtual 67, 3) := dk_182 0 67 (dk_at dksX13_birth_1 3 rfl rfl)
theorem dX13_birth_28 : decode cX13_birth 28 = .ok (.invokevirtual 80, 3) := dk_182 0 80 (dk_at dksX13_birth_1 6 rfl rfl)
theorem dX13_birth_31 : decode cX13_birth 31 = .ok (.istore 4, 2) := dk_54 4 (dk_at dksX13_birth_1 9 rfl rfl)
theorem dX13_birth_33 : decode cX13_birth 33 = .ok (.aload_n 2, 1) := dk_44 (dk_at dksX13_birth_1 11 rfl rfl)
theorem dX13_birth_34 : decode cX13_birth 34 = .ok (.getfield 32, 3) := dk_180 0 32 (dk_at dksX13_birth_1 12 rfl rfl)
theorem dX13_birth_37 : decode cX13_birth 37 = .ok (.invokevirtual 36, 3) := dk_182 0 36 (dk_at dksX13_birth_1 15 rfl rfl)
theorem dX13_birth_40 : decode cX13_birth 40 = .ok (.aload_n 2, 1) := dk_44 (dk_at dksX13_birth_1 18 rfl rfl)
theorem dX13_birth_41 : decode cX13_birth 41 = .ok (.getfield 42, 3) := dk_180 0 42 (dk_at dksX13_birth_1 19 rfl rfl)
theorem dX13_birth_44 : decode cX13_birth 44 = .ok (.iconst (-1), 1) := dk_2 (dk_at dksX13_birth_1 22 rfl rfl)
theorem dX13_birth_45 : decode cX13_birth 45 = .ok (.ixor, 1) := dk_130 (dk_at dksX13_birth_1 23 rfl rfl)
theorem dX13_birth_46 : decode cX13_birth 46 = .ok (.iand, 1) := dk_126 (dk_at dksX13_birth_2 0 rfl rfl)
theorem dX13_birth_47 : decode cX13_birth 47 = .ok (.iconst 1, 1) := dk_4 (dk_at dksX13_birth_2 1 rfl rfl)
theorem dX13_birth_48 : decode cX13_birth 48 = .ok (.iload 4, 2) := dk_21 4 (dk_at dksX13_birth_2 2 rfl rfl)
theorem dX13_birth_50 : decode cX13_birth 50 = .ok (.ishl, 1) := dk_120 (dk_at dksX13_birth_2 4 rfl rfl)
theorem dX13_birth_51 : decode cX13_birth 51 = .ok (.iand, 1) := dk_126 (dk_at dksX13_birth_2 5 rfl rfl)
theorem dX13_birth_52 : decode cX13_birth 52 = .ok (.ifCond .ne 5, 3) := dk_154 0 5 (dk_at dksX13_birth_2 6 rfl rfl)
theorem dX13_birth_55 : decode cX13_birth 55 = .ok (.iconst 0, 1) := dk_3 (dk_at dksX13_birth_2 9 rfl rfl)
theorem dX13_birth_56 : decode cX13_birth 56 = .ok (.ireturn, 1) := dk_172 (dk_at dksX13_birth_2 10 rfl rfl)
theorem dX13_birth_57 : decode cX13_birth 57 = .ok (.aload_n 2, 1) := dk_44 (dk_at dksX13_birth_2 11 rfl rfl)
theorem dX13_birth_58 : decode cX13_birth 58 = .ok (.dup, 1) := dk_89 (dk_at dksX13_birth_2 12 rfl rfl)
theorem dX13_birth_59 : decode cX13_birth 59 = .ok (.getfield 42, 3) := dk_180 0 42 (dk_at dksX13_birth_2 13 rfl rfl)
theorem dX13_birth_62 : decode cX13_birth 62 = .ok (.iconst 1, 1) := dk_4 (dk_at dksX13_birth_2 16 rfl rfl)
theorem dX13_birth_63 : decode cX13_birth 63 = .ok (.iload 4, 2) := dk_21 4 (dk_at dksX13_birth_2 17 rfl rfl)
theorem dX13_birth_65 : decode cX13_birth 65 = .ok (.ishl, 1) := dk_120 (dk_at dksX13_birth_2 19 rfl rfl)
theorem dX13_birth_66 : decode cX13_birth 66 = .ok (.ior, 1) := dk_128 (dk_at dksX13_birth_2 20 rfl rfl)
theorem dX13_birth_67 : decode cX13_birth 67 = .ok (.putfield 42, 3) := dk_181 0 42 (dk_at dksX13_birth_2 21 rfl rfl)
theorem dX13_birth_70 : decode cX13_birth 70 = .ok (.aload_n 1, 1) := dk_43 (dk_at dksX13_birth_3 0 rfl rfl)
theorem dX13_birth_71 : decode cX13_birth 71 = .ok (.dup, 1) := dk_89 (dk_at dksX13_birth_3 1 rfl rfl)
theorem dX13_birth_72 : decode cX13_birth 72 = .ok (.getfield 84, 3) := dk_180 0 84 (dk_at dksX13_birth_3 2 rfl rfl)
theorem dX13_birth_75 : decode cX13_birth 75 = .ok (.iconst 1, 1) := dk_4 (dk_at dksX13_birth_3 5 rfl rfl)
theorem dX13_birth_76 : decode cX13_birth 76 = .ok (.iadd, 1) := dk_96 (dk_at dksX13_birth_3 6 rfl rfl)
theorem dX13_birth_77 : decode cX13_birth 77 = .ok (.putfield 84, 3) := dk_181 0 84 (dk_at dksX13_birth_3 7 rfl rfl)
theorem dX13_birth_80 : decode cX13_birth 80 = .ok (.iconst 1, 1) := dk_4 (dk_at dksX13_birth_3 10 rfl rfl)
theorem dX13_birth_81 : decode cX13_birth 81 = .ok (.ireturn, 1) := dk_172 (dk_at dksX13_birth_3 11 rfl rfl)
theorem q161 : (Jvm.Cond.initialized "WindowHill$Act") ∈ lw_all := lw_g (lw_at lw_m1 27 rfl) rfl
theorem q292 : (Jvm.Cond.fieldLinkNest "WindowHill$Act" (74 : Nat) "WindowHill$Town" "wide" "I" "WindowHill") ∈ lw_tbl := lw_at lw_m1 158 rfl
theorem q296 : (Jvm.Cond.fieldLinkNest "WindowHill$Act" (77 : Nat) "WindowHill$Town" "rows" "I" "WindowHill") ∈ lw_tbl := lw_at lw_m1 162 rfl
theorem q373 : (Jvm.Cond.fieldLinkNest "WindowHill$Act" (32 : Nat) "WindowHill$Hill" "town" "LWindowHill$Town;" "WindowHill") ∈ lw_tbl := lw_at lw_m1 239 rfl
theorem q383 : (Jvm.Cond.fieldLinkNest "WindowHill$Act" (42 : Nat) "WindowHill$Hill" "lit" "I" "WindowHill") ∈ lw_tbl := lw_at lw_m2 9 rfl
theorem q386 : (Jvm.Cond.fieldLinkNest "WindowHill$Act" (45 : Nat) "WindowHill$Hill" "mayor" "I" "WindowHill") ∈ lw_tbl := lw_at lw_m2 12 rfl
theorem q940 : (Jvm.Cond.instantiable "WindowHill$Act" (2 : Nat)) ∈ lw_all := lw_g (lw_at lw_m4 86 rfl) rfl
theorem q942 : (Jvm.Cond.instanceMethod ({ cls := "WindowHill$Act", name := "<init>", desc := "(II)V" } : Jvm.MethodName)) ∈ lw_all := lw_g (lw_at lw_m4 88 rfl) rfl
theorem q943 : (Jvm.Cond.code ({ cls := "WindowHill$Act", name := "<init>", desc := "(II)V" } : Jvm.MethodName) prog_2_method_1_code (3 : Nat) (Option.none : Option Jvm.ClassFile.FieldType)) ∈ lw_all := lw_g (lw_at lw_m4 89 rfl) rfl
theorem q944 : (Jvm.Cond.methodLinkNest "WindowHill$Act" (3 : Nat) ({ cls := "WindowHill$Step", name := "<init>", desc := "()V" } : Jvm.MethodName) "WindowHill") ∈ lw_tbl := lw_at lw_m4 90 rfl
theorem q945 : (Jvm.Cond.fieldLink "WindowHill$Act" (9 : Nat) "WindowHill$Act" "what" "I") ∈ lw_all := lw_g (lw_at lw_m4 91 rfl) rfl
theorem q946 : (Jvm.Cond.fieldLink "WindowHill$Act" (15 : Nat) "WindowHill$Act" "number" "I") ∈ lw_all := lw_g (lw_at lw_m4 92 rfl) rfl
theorem q947 : (Jvm.Cond.laysFinal "WindowHill$Act" "WindowHill$Act" "what" "I") ∈ lw_all := lw_g (lw_at lw_m4 93 rfl) rfl
theorem q948 : (Jvm.Cond.soleField "WindowHill$Act" "what") ∈ lw_all := lw_g (lw_at lw_m4 94 rfl) rfl
theorem q949 : (Jvm.Cond.laysFinal "WindowHill$Act" "WindowHill$Act" "number" "I") ∈ lw_all := lw_g (lw_at lw_m4 95 rfl) rfl
theorem q950 : (Jvm.Cond.soleField "WindowHill$Act" "number") ∈ lw_all := lw_g (lw_at lw_m4 96 rfl) rfl
theorem q951 : (Jvm.Cond.superclass "WindowHill$Act" "WindowHill$Step") ∈ lw_all := lw_g (lw_at lw_m4 97 rfl) rfl
theorem q1336 : (Jvm.Cond.fieldLinkNest "WindowHill$Act" (18 : Nat) "WindowHill$Living" "hill" "LWindowHill$Hill;" "WindowHill") ∈ lw_tbl := lw_at lw_m6 2 rfl
theorem q1341 : (Jvm.Cond.fieldLinkNest "WindowHill$Act" (91 : Nat) "WindowHill$Living" "missed" "I" "WindowHill") ∈ lw_tbl := lw_at lw_m6 7 rfl
theorem q1343 : (Jvm.Cond.fieldLinkNest "WindowHill$Act" (29 : Nat) "WindowHill$Living" "nights" "I" "WindowHill") ∈ lw_tbl := lw_at lw_m6 9 rfl
theorem q1345 : (Jvm.Cond.fieldLinkNest "WindowHill$Act" (71 : Nat) "WindowHill$Living" "storms" "I" "WindowHill") ∈ lw_tbl := lw_at lw_m6 11 rfl
theorem q1347 : (Jvm.Cond.fieldLinkNest "WindowHill$Act" (84 : Nat) "WindowHill$Living" "births" "I" "WindowHill") ∈ lw_tbl := lw_at lw_m6 13 rfl
theorem q1350 : (Jvm.Cond.fieldLinkNest "WindowHill$Act" (60 : Nat) "WindowHill$Living" "isOver" "Z" "WindowHill") ∈ lw_tbl := lw_at lw_m6 16 rfl
theorem q1383 : (Jvm.Cond.selects "WindowHill$Act" ({ cls := "WindowHill$Step", name := "go", desc := "(LWindowHill$Living;)V" } : Jvm.MethodName) ({ cls := "WindowHill$Step", name := "go", desc := "(LWindowHill$Living;)V" } : Jvm.MethodName)) ∈ lw_all := lw_g (lw_at lw_m6 49 rfl) rfl
theorem q1390 : (Jvm.Cond.selects "WindowHill$Act" ({ cls := "WindowHill$Step", name := "does", desc := "(LWindowHill$Living;)V" } : Jvm.MethodName) ({ cls := "WindowHill$Act", name := "does", desc := "(LWindowHill$Living;)V" } : Jvm.MethodName)) ∈ lw_all := lw_g (lw_at lw_m6 56 rfl) rfl
theorem q1391 : (Jvm.Cond.instanceMethod ({ cls := "WindowHill$Act", name := "does", desc := "(LWindowHill$Living;)V" } : Jvm.MethodName)) ∈ lw_all := lw_g (lw_at lw_m6 57 rfl) rfl
theorem q1392 : (Jvm.Cond.code ({ cls := "WindowHill$Act", name := "does", desc := "(LWindowHill$Living;)V" } : Jvm.MethodName) prog_2_method_5_code (2 : Nat) (Option.none : Option Jvm.ClassFile.FieldType)) ∈ lw_all := lw_g (lw_at lw_m6 58 rfl) rfl
theorem q1393 : (Jvm.Cond.methodLink "WindowHill$Act" (87 : Nat) ({ cls := "WindowHill$Act", name := "can", desc := "(LWindowHill$Living;)Z" } : Jvm.MethodName)) ∈ lw_all := lw_g (lw_at lw_m6 59 rfl) rfl
theorem q1394 : (Jvm.Cond.privateMethod ({ cls := "WindowHill$Act", name := "can", desc := "(LWindowHill$Living;)Z" } : Jvm.MethodName)) ∈ lw_tbl := lw_at lw_m6 60 rfl
theorem q1395 : (Jvm.Cond.instanceMethod ({ cls := "WindowHill$Act", name := "can", desc := "(LWindowHill$Living;)Z" } : Jvm.MethodName)) ∈ lw_all := lw_g (lw_at lw_m6 61 rfl) rfl
theorem q1396 : (Jvm.Cond.code ({ cls := "WindowHill$Act", name := "can", desc := "(LWindowHill$Living;)Z" } : Jvm.MethodName) prog_2_method_2_code (4 : Nat) (Option.some Jvm.ClassFile.FieldType.boolean)) ∈ lw_all := lw_g (lw_at lw_m6 62 rfl) rfl
theorem q1397 : (Jvm.Cond.methodLink "WindowHill$Act" (24 : Nat) ({ cls := "WindowHill$Hill", name := "night", desc := "()V" } : Jvm.MethodName)) ∈ lw_all := lw_g (lw_at lw_m6 63 rfl) rfl
theorem q1398 : (Jvm.Cond.methodLink "WindowHill$Act" (36 : Nat) ({ cls := "WindowHill$Town", name := "free", desc := "()I" } : Jvm.MethodName)) ∈ lw_all := lw_g (lw_at lw_m6 64 rfl) rfl
theorem q1399 : (Jvm.Cond.methodLink "WindowHill$Act" (48 : Nat) ({ cls := "WindowHill$Hill", name := "elects", desc := "()Z" } : Jvm.MethodName)) ∈ lw_all := lw_g (lw_at lw_m6 65 rfl) rfl
theorem q1400 : (Jvm.Cond.methodLink "WindowHill$Act" (52 : Nat) ({ cls := "WindowHill$Act", name := "storm", desc := "(LWindowHill$Living;LWindowHill$Hill;)V" } : Jvm.MethodName)) ∈ lw_all := lw_g (lw_at lw_m6 66 rfl) rfl
theorem q1401 : (Jvm.Cond.privateMethod ({ cls := "WindowHill$Act", name := "storm", desc := "(LWindowHill$Living;LWindowHill$Hill;)V" } : Jvm.MethodName)) ∈ lw_tbl := lw_at lw_m6 67 rfl
theorem q1402 : (Jvm.Cond.instanceMethod ({ cls := "WindowHill$Act", name := "storm", desc := "(LWindowHill$Living;LWindowHill$Hill;)V" } : Jvm.MethodName)) ∈ lw_all := lw_g (lw_at lw_m6 68 rfl) rfl
theorem q1403 : (Jvm.Cond.code ({ cls := "WindowHill$Act", name := "storm", desc := "(LWindowHill$Living;LWindowHill$Hill;)V" } : Jvm.MethodName) prog_2_method_3_code (5 : Nat) (Option.none : Option Jvm.ClassFile.FieldType)) ∈ lw_all := lw_g (lw_at lw_m6 69 rfl) rfl
theorem q1404 : (Jvm.Cond.methodLink "WindowHill$Act" (64 : Nat) ({ cls := "WindowHill$Town", name := "cells", desc := "()I" } : Jvm.MethodName)) ∈ lw_all := lw_g (lw_at lw_m6 70 rfl) rfl
theorem q1405 : (Jvm.Cond.methodLink "WindowHill$Act" (67 : Nat) ({ cls := "WindowHill$Living", name := "draw", desc := "(I)I" } : Jvm.MethodName)) ∈ lw_all := lw_g (lw_at lw_m6 71 rfl) rfl
theorem q1410 : (Jvm.Cond.methodLink "WindowHill$Act" (56 : Nat) ({ cls := "WindowHill$Act", name := "birth", desc := "(LWindowHill$Living;LWindowHill$Hill;)Z" } : Jvm.MethodName)) ∈ lw_all := lw_g (lw_at lw_m6 76 rfl) rfl
theorem q1411 : (Jvm.Cond.privateMethod ({ cls := "WindowHill$Act", name := "birth", desc := "(LWindowHill$Living;LWindowHill$Hill;)Z" } : Jvm.MethodName)) ∈ lw_tbl := lw_at lw_m6 77 rfl
theorem q1412 : (Jvm.Cond.instanceMethod ({ cls := "WindowHill$Act", name := "birth", desc := "(LWindowHill$Living;LWindowHill$Hill;)Z" } : Jvm.MethodName)) ∈ lw_all := lw_g (lw_at lw_m6 78 rfl) rfl
theorem q1413 : (Jvm.Cond.code ({ cls := "WindowHill$Act", name := "birth", desc := "(LWindowHill$Living;LWindowHill$Hill;)Z" } : Jvm.MethodName) prog_2_method_4_code (5 : Nat) (Option.some Jvm.ClassFile.FieldType.boolean)) ∈ lw_all := lw_g (lw_at lw_m6 79 rfl) rfl
theorem q1414 : (Jvm.Cond.methodLink "WindowHill$Act" (80 : Nat) ({ cls := "WindowHill$Town", name := "cell", desc := "(II)I" } : Jvm.MethodName)) ∈ lw_all := lw_g (lw_at lw_m6 80 rfl) rfl
theorem q2161 : (Jvm.Cond.castable "WindowHill$Act" "WindowHill$Step") ∈ lw_tbl := lw_at lw_m9 107 rfl
theorem in_X13 : ∀ w ∈ wsX130, w ∈ lw_all := lw_in wsX130 [947, 949] (by decide +kernel) (by decide +kernel)

/-! WindowHill$Living -/
set_option maxRecDepth 100000
def RX14 : String := "WindowHill$Living"
def TX14 : u_T := fun k => match k with
  | 0 => ("WindowHill$Living", "hill", "LWindowHill$Hill;", true)
  | 1 => ("WindowHill$Living", "state", "I", false)
  | 2 => ("WindowHill$Living", "done", "I", false)
  | 3 => ("WindowHill$Living", "missed", "I", false)
  | 4 => ("WindowHill$Living", "nights", "I", false)
  | 5 => ("WindowHill$Living", "storms", "I", false)
  | 6 => ("WindowHill$Living", "births", "I", false)
  | 7 => ("WindowHill$Living", "isOver", "Z", false)
  | _ => ("WindowHill$Living", "isLeft", "Z", false)
def tyX14 : Nat → FieldType := fun k => match k with
  | 0 => .object "WindowHill$Hill"
  | 1 => .int
  | 2 => .int
  | 3 => .int
  | 4 => .int
  | 5 => .int
  | 6 => .int
  | 7 => .boolean
  | _ => .boolean
abbrev wsX140 : List Cond := u_ws RX14 TX14 9
theorem nmX14 : ∀ a, a < 9 → ∀ b, b < 9 → a ≠ b → (TX14 a).2.1 ≠ (TX14 b).2.1 := by decide +kernel
theorem tyX14_ok : ∀ k, k < 9 → parseFieldDescriptor (TX14 k).2.2.1 = some (tyX14 k) := by decide +kernel
abbrev cX14_init : ByteArray := prog_7_method_1_code
def yX14_init : MethodName := ⟨RX14, "<init>", "(LWindowHill$Hill;I)V"⟩
def dkwX14_init_0 : List UInt8 := [42, 183, 0, 1, 42, 43, 181, 0, 7, 42, 28, 181, 0, 13, 177]
abbrev dktX14_init_0 : List UInt8 := dkwX14_init_0 ++ []
theorem dksX14_init_0 : cX14_init.data.toList.drop 0 = dktX14_init_0 := by decide +kernel
theorem dX14_init_0 : decode cX14_init 0 = .ok (.aload_n 0, 1) := dk_42 (dk_at dksX14_init_0 0 rfl rfl)
theorem dX14_init_1 : decode cX14_init 1 = .ok (.invokespecial 1, 3) := dk_183 0 1 (dk_at dksX14_init_0 1 rfl rfl)
theorem dX14_init_4 : decode cX14_init 4 = .ok (.aload_n 0, 1) := dk_42 (dk_at dksX14_init_0 4 rfl rfl)
theorem dX14_init_5 : decode cX14_init 5 = .ok (.aload_n 1, 1) := dk_43 (dk_at dksX14_init_0 5 rfl rfl)
theorem dX14_init_6 : decode cX14_init 6 = .ok (.putfield 7, 3) := dk_181 0 7 (dk_at dksX14_init_0 6 rfl rfl)
theorem dX14_init_9 : decode cX14_init 9 = .ok (.aload_n 0, 1) := dk_42 (dk_at dksX14_init_0 9 rfl rfl)
theorem dX14_init_10 : decode cX14_init 10 = .ok (.iload_n 2, 1) := dk_28 (dk_at dksX14_init_0 10 rfl rfl)
theorem dX14_init_11 : decode cX14_init 11 = .ok (.putfield 13, 3) := dk_181 0 13 (dk_at dksX14_init_0 11 rfl rfl)
theorem dX14_init_14 : decode cX14_init 14 = .ok (.return_, 1) := dk_177 (dk_at dksX14_init_0 14 rfl rfl)
abbrev cX14_draw : ByteArray := prog_7_method_2_code
def yX14_draw : MethodName := ⟨RX14, "draw", "(I)I"⟩
def dkwX14_draw_1 : List UInt8 := [16, 8, 108, 27, 112, 172]
abbrev dktX14_draw_1 : List UInt8 := dkwX14_draw_1 ++ []
def dkwX14_draw_0 : List UInt8 := [42, 42, 180, 0, 13, 17, 11, 63, 104, 17, 43, 75, 96, 18, 17, 112, 181, 0, 13, 42, 180, 0, 13]
abbrev dktX14_draw_0 : List UInt8 := dkwX14_draw_0 ++ dktX14_draw_1
theorem dksX14_draw_0 : cX14_draw.data.toList.drop 0 = dktX14_draw_0 := by decide +kernel
theorem dksX14_draw_1 : cX14_draw.data.toList.drop 23 = dktX14_draw_1 := dk_seg dksX14_draw_0 23 rfl rfl
theorem dX14_draw_0 : decode cX14_draw 0 = .ok (.aload_n 0, 1) := dk_42 (dk_at dksX14_draw_0 0 rfl rfl)
theorem dX14_draw_1 : decode cX14_draw 1 = .ok (.aload_n 0, 1) := dk_42 (dk_at dksX14_draw_0 1 rfl rfl)
theorem dX14_draw_2 : decode cX14_draw 2 = .ok (.getfield 13, 3) := dk_180 0 13 (dk_at dksX14_draw_0 2 rfl rfl)
theorem dX14_draw_5 : decode cX14_draw 5 = .ok (.sipush 2879, 3) := dk_17 11 63 (dk_at dksX14_draw_0 5 rfl rfl)
theorem dX14_draw_8 : decode cX14_draw 8 = .ok (.imul, 1) := dk_104 (dk_at dksX14_draw_0 8 rfl rfl)
theorem dX14_draw_9 : decode cX14_draw 9 = .ok (.sipush 11083, 3) := dk_17 43 75 (dk_at dksX14_draw_0 9 rfl rfl)
theorem dX14_draw_12 : decode cX14_draw 12 = .ok (.iadd, 1) := dk_96 (dk_at dksX14_draw_0 12 rfl rfl)
theorem dX14_draw_13 : decode cX14_draw 13 = .ok (.ldc 17, 2) := dk_18 17 (dk_at dksX14_draw_0 13 rfl rfl)
theorem dX14_draw_15 : decode cX14_draw 15 = .ok (.irem, 1) := dk_112 (dk_at dksX14_draw_0 15 rfl rfl)
theorem dX14_draw_16 : decode cX14_draw 16 = .ok (.putfield 13, 3) := dk_181 0 13 (dk_at dksX14_draw_0 16 rfl rfl)
theorem dX14_draw_19 : decode cX14_draw 19 = .ok (.aload_n 0, 1) := dk_42 (dk_at dksX14_draw_0 19 rfl rfl)
theorem dX14_draw_20 : decode cX14_draw 20 = .ok (.getfield 13, 3) := dk_180 0 13 (dk_at dksX14_draw_0 20 rfl rfl)
theorem dX14_draw_23 : decode cX14_draw 23 = .ok (.bipush 8, 2) := dk_16 8 (dk_at dksX14_draw_1 0 rfl rfl)
theorem dX14_draw_25 : decode cX14_draw 25 = .ok (.idiv, 1) := dk_108 (dk_at dksX14_draw_1 2 rfl rfl)
theorem dX14_draw_26 : decode cX14_draw 26 = .ok (.iload_n 1, 1) := dk_27 (dk_at dksX14_draw_1 3 rfl rfl)
theorem dX14_draw_27 : decode cX14_draw 27 = .ok (.irem, 1) := dk_112 (dk_at dksX14_draw_1 4 rfl rfl)
theorem dX14_draw_28 : decode cX14_draw 28 = .ok (.ireturn, 1) := dk_172 (dk_at dksX14_draw_1 5 rfl rfl)
theorem q163 : (Jvm.Cond.initialized "WindowHill$Living") ∈ lw_all := lw_g (lw_at lw_m1 29 rfl) rfl
theorem q1330 : (Jvm.Cond.instantiable "WindowHill$Living" (9 : Nat)) ∈ lw_all := lw_g (lw_at lw_m5 236 rfl) rfl
theorem q1332 : (Jvm.Cond.instanceMethod ({ cls := "WindowHill$Living", name := "<init>", desc := "(LWindowHill$Hill;I)V" } : Jvm.MethodName)) ∈ lw_all := lw_g (lw_at lw_m5 238 rfl) rfl
theorem q1333 : (Jvm.Cond.code ({ cls := "WindowHill$Living", name := "<init>", desc := "(LWindowHill$Hill;I)V" } : Jvm.MethodName) prog_7_method_1_code (3 : Nat) (Option.none : Option Jvm.ClassFile.FieldType)) ∈ lw_all := lw_g (lw_at lw_m5 239 rfl) rfl
theorem q1334 : (Jvm.Cond.methodLink "WindowHill$Living" (1 : Nat) ({ cls := "java/lang/Object", name := "<init>", desc := "()V" } : Jvm.MethodName)) ∈ lw_all := lw_g (lw_at lw_m6 0 rfl) rfl
theorem q1335 : (Jvm.Cond.fieldLink "WindowHill$Living" (7 : Nat) "WindowHill$Living" "hill" "LWindowHill$Hill;") ∈ lw_all := lw_g (lw_at lw_m6 1 rfl) rfl
theorem q1338 : (Jvm.Cond.fieldLink "WindowHill$Living" (13 : Nat) "WindowHill$Living" "state" "I") ∈ lw_all := lw_g (lw_at lw_m6 4 rfl) rfl
theorem q1355 : (Jvm.Cond.laysFinal "WindowHill$Living" "WindowHill$Living" "hill" "LWindowHill$Hill;") ∈ lw_all := lw_g (lw_at lw_m6 21 rfl) rfl
theorem q1356 : (Jvm.Cond.soleField "WindowHill$Living" "hill") ∈ lw_all := lw_g (lw_at lw_m6 22 rfl) rfl
theorem q1357 : (Jvm.Cond.lays "WindowHill$Living" "WindowHill$Living" "state" "I") ∈ lw_all := lw_g (lw_at lw_m6 23 rfl) rfl
theorem q1358 : (Jvm.Cond.soleField "WindowHill$Living" "state") ∈ lw_all := lw_g (lw_at lw_m6 24 rfl) rfl
theorem q1359 : (Jvm.Cond.lays "WindowHill$Living" "WindowHill$Living" "done" "I") ∈ lw_all := lw_g (lw_at lw_m6 25 rfl) rfl
theorem q1360 : (Jvm.Cond.soleField "WindowHill$Living" "done") ∈ lw_all := lw_g (lw_at lw_m6 26 rfl) rfl
theorem q1361 : (Jvm.Cond.lays "WindowHill$Living" "WindowHill$Living" "missed" "I") ∈ lw_all := lw_g (lw_at lw_m6 27 rfl) rfl
theorem q1362 : (Jvm.Cond.soleField "WindowHill$Living" "missed") ∈ lw_all := lw_g (lw_at lw_m6 28 rfl) rfl
theorem q1363 : (Jvm.Cond.lays "WindowHill$Living" "WindowHill$Living" "nights" "I") ∈ lw_all := lw_g (lw_at lw_m6 29 rfl) rfl
theorem q1364 : (Jvm.Cond.soleField "WindowHill$Living" "nights") ∈ lw_all := lw_g (lw_at lw_m6 30 rfl) rfl
theorem q1365 : (Jvm.Cond.lays "WindowHill$Living" "WindowHill$Living" "storms" "I") ∈ lw_all := lw_g (lw_at lw_m6 31 rfl) rfl
theorem q1366 : (Jvm.Cond.soleField "WindowHill$Living" "storms") ∈ lw_all := lw_g (lw_at lw_m6 32 rfl) rfl
theorem q1367 : (Jvm.Cond.lays "WindowHill$Living" "WindowHill$Living" "births" "I") ∈ lw_all := lw_g (lw_at lw_m6 33 rfl) rfl
theorem q1368 : (Jvm.Cond.soleField "WindowHill$Living" "births") ∈ lw_all := lw_g (lw_at lw_m6 34 rfl) rfl
theorem q1369 : (Jvm.Cond.lays "WindowHill$Living" "WindowHill$Living" "isOver" "Z") ∈ lw_all := lw_g (lw_at lw_m6 35 rfl) rfl
theorem q1370 : (Jvm.Cond.soleField "WindowHill$Living" "isOver") ∈ lw_all := lw_g (lw_at lw_m6 36 rfl) rfl
theorem q1371 : (Jvm.Cond.lays "WindowHill$Living" "WindowHill$Living" "isLeft" "Z") ∈ lw_all := lw_g (lw_at lw_m6 37 rfl) rfl
theorem q1372 : (Jvm.Cond.soleField "WindowHill$Living" "isLeft") ∈ lw_all := lw_g (lw_at lw_m6 38 rfl) rfl
theorem q1373 : (Jvm.Cond.superclass "WindowHill$Living" "java/lang/Object") ∈ lw_all := lw_g (lw_at lw_m6 39 rfl) rfl
theorem q1406 : (Jvm.Cond.instanceMethod ({ cls := "WindowHill$Living", name := "draw", desc := "(I)I" } : Jvm.MethodName)) ∈ lw_all := lw_g (lw_at lw_m6 72 rfl) rfl
theorem q1407 : (Jvm.Cond.selects "WindowHill$Living" ({ cls := "WindowHill$Living", name := "draw", desc := "(I)I" } : Jvm.MethodName) ({ cls := "WindowHill$Living", name := "draw", desc := "(I)I" } : Jvm.MethodName)) ∈ lw_all := lw_g (lw_at lw_m6 73 rfl) rfl
theorem q1408 : (Jvm.Cond.code ({ cls := "WindowHill$Living", name := "draw", desc := "(I)I" } : Jvm.MethodName) prog_7_method_2_code (2 : Nat) (Option.some Jvm.ClassFile.FieldType.int)) ∈ lw_all := lw_g (lw_at lw_m6 74 rfl) rfl
theorem q1409 : (Jvm.Cond.constant "WindowHill$Living" (17 : Nat) (65536 : Int32)) ∈ lw_all := lw_g (lw_at lw_m6 75 rfl) rfl
theorem in_X14 : ∀ w ∈ wsX140, w ∈ lw_all := lw_in wsX140 [1355, 1357, 1359, 1361, 1363, 1365, 1367, 1369, 1371] (by decide +kernel) (by decide +kernel)
