/-! LastHatchModel -/
set_option maxRecDepth 100000
def RX10 : String := "LastHatchModel"
def TX10 : u_T := fun k => match k with
  | 0 => ("LastHatchModel", "now", "[I", true)
  | 1 => ("LastHatchModel", "kept", "[I", true)
  | 2 => ("LastHatchModel", "aside", "[I", true)
  | 3 => ("LastHatchModel", "images", "I", false)
  | 4 => ("LastHatchModel", "errors", "[I", true)
  | 5 => ("LastHatchModel", "NAMED", "[Ljava/lang/String;", true)
  | 6 => ("LastHatchModel", "at", "I", false)
  | 7 => ("LastHatchModel", "open", "I", false)
  | 8 => ("LastHatchModel", "use", "I", false)
  | 9 => ("LastHatchModel", "isWrong", "Z", false)
  | 10 => ("LastHatchModel", "code", "[I", true)
  | 11 => ("LastHatchModel", "coded", "I", false)
  | 12 => ("LastHatchModel", "pile", "[I", true)
  | 13 => ("LastHatchModel", "who", "[I", true)
  | 14 => ("LastHatchModel", "whoMany", "I", false)
  | 15 => ("LastHatchModel", "turns", "[I", true)
  | 16 => ("LastHatchModel", "more", "[I", true)
  | 17 => ("LastHatchModel", "letters", "[I", true)
  | 18 => ("LastHatchModel", "letterMany", "I", false)
  | 19 => ("LastHatchModel", "stopAt", "I", false)
  | 20 => ("LastHatchModel", "tables", "[J", true)
  | 21 => ("LastHatchModel", "waits", "[Z", true)
  | 22 => ("LastHatchModel", "trace", "[I", true)
  | 23 => ("LastHatchModel", "traced", "I", false)
  | 24 => ("LastHatchModel", "speaker", "I", false)
  | 25 => ("LastHatchModel", "widths", "[I", true)
  | 26 => ("LastHatchModel", "sizes", "[I", true)
  | 27 => ("LastHatchModel", "numbers", "[I", true)
  | _ => ("LastHatchModel", "carried", "[I", true)
def tyX10 : Nat → FieldType := fun k => match k with
  | 0 => .array .int
  | 1 => .array .int
  | 2 => .array .int
  | 3 => .int
  | 4 => .array .int
  | 5 => .array (.object "java/lang/String")
  | 6 => .int
  | 7 => .int
  | 8 => .int
  | 9 => .boolean
  | 10 => .array .int
  | 11 => .int
  | 12 => .array .int
  | 13 => .array .int
  | 14 => .int
  | 15 => .array .int
  | 16 => .array .int
  | 17 => .array .int
  | 18 => .int
  | 19 => .int
  | 20 => .array .long
  | 21 => .array .boolean
  | 22 => .array .int
  | 23 => .int
  | 24 => .int
  | 25 => .array .int
  | 26 => .array .int
  | 27 => .array .int
  | _ => .array .int
abbrev wsX100 : List Cond := u_ws RX10 TX10 29
set_option maxRecDepth 100000 in
theorem nmX10 : ∀ a, a < 29 → ∀ b, b < 29 → a ≠ b → (TX10 a).2.1 ≠ (TX10 b).2.1 := by decide +kernel
set_option maxRecDepth 100000 in
theorem tyX10_ok : ∀ k, k < 29 → parseFieldDescriptor (TX10 k).2.2.1 = some (tyX10 k) := by decide +kernel
abbrev cX10_init : ByteArray := prog_37_method_1_code
def yX10_init : MethodName := ⟨RX10, "<init>", "()V"⟩
def dkwX10_init_10 : List UInt8 := [180, 0, 9, 17, 1, 56, 27, 96, 2, 79, 132, 1, 1, 167, 255, 236, 177]
abbrev dktX10_init_10 : List UInt8 := dkwX10_init_10 ++ []
def dkwX10_init_9 : List UInt8 := [180, 0, 9, 16, 13, 27, 96, 4, 79, 132, 1, 1, 167, 255, 237, 3, 60, 27, 16, 12, 162, 0, 20, 42]
abbrev dktX10_init_9 : List UInt8 := dkwX10_init_9 ++ dktX10_init_10
def dkwX10_init_8 : List UInt8 := [16, 9, 16, 100, 79, 42, 180, 0, 9, 16, 10, 17, 3, 232, 79, 3, 60, 27, 16, 7, 162, 0, 19, 42]
abbrev dktX10_init_8 : List UInt8 := dkwX10_init_8 ++ dktX10_init_9
def dkwX10_init_7 : List UInt8 := [181, 0, 71, 42, 16, 40, 188, 10, 181, 0, 74, 42, 180, 0, 9, 16, 8, 4, 79, 42, 180, 0, 9]
abbrev dktX10_init_7 : List UInt8 := dkwX10_init_7 ++ dktX10_init_8
def dkwX10_init_6 : List UInt8 := [181, 0, 62, 42, 7, 188, 10, 181, 0, 65, 42, 7, 188, 10, 181, 0, 68, 42, 17, 0, 160, 188, 10]
abbrev dktX10_init_6 : List UInt8 := dkwX10_init_6 ++ dktX10_init_7
def dkwX10_init_5 : List UInt8 := [181, 0, 51, 42, 16, 9, 188, 11, 181, 0, 54, 42, 16, 8, 188, 4, 181, 0, 58, 42, 16, 40, 188, 10]
abbrev dktX10_init_5 : List UInt8 := dkwX10_init_5 ++ dktX10_init_6
def dkwX10_init_4 : List UInt8 := [17, 4, 0, 188, 10, 181, 0, 45, 42, 17, 1, 0, 188, 10, 181, 0, 48, 42, 16, 40, 188, 10]
abbrev dktX10_init_4 : List UInt8 := dkwX10_init_4 ++ dktX10_init_5
def dkwX10_init_3 : List UInt8 := [188, 10, 181, 0, 36, 42, 16, 60, 188, 10, 181, 0, 39, 42, 16, 10, 188, 10, 181, 0, 42, 42]
abbrev dktX10_init_3 : List UInt8 := dkwX10_init_3 ++ dktX10_init_4
def dkwX10_init_2 : List UInt8 := [18, 24, 83, 89, 4, 18, 26, 83, 89, 5, 18, 28, 83, 89, 6, 18, 30, 83, 181, 0, 32, 42, 16, 60]
abbrev dktX10_init_2 : List UInt8 := dkwX10_init_2 ++ dktX10_init_3
def dkwX10_init_1 : List UInt8 := [17, 2, 90, 188, 10, 181, 0, 16, 42, 16, 6, 188, 10, 181, 0, 19, 42, 7, 189, 0, 22, 89, 3]
abbrev dktX10_init_1 : List UInt8 := dkwX10_init_1 ++ dktX10_init_2
def dkwX10_init_0 : List UInt8 := [42, 183, 0, 3, 42, 17, 2, 90, 188, 10, 181, 0, 9, 42, 17, 2, 90, 188, 10, 181, 0, 13, 42]
abbrev dktX10_init_0 : List UInt8 := dkwX10_init_0 ++ dktX10_init_1
theorem dksX10_init_0 : cX10_init.data.toList.drop 0 = dktX10_init_0 := by decide +kernel
theorem dksX10_init_1 : cX10_init.data.toList.drop 23 = dktX10_init_1 := dk_seg dksX10_init_0 23 rfl rfl
theorem dksX10_init_2 : cX10_init.data.toList.drop 46 = dktX10_init_2 := dk_seg dksX10_init_1 23 rfl rfl
theorem dksX10_init_3 : cX10_init.data.toList.drop 70 = dktX10_init_3 := dk_seg dksX10_init_2 24 rfl rfl
theorem dksX10_init_4 : cX10_init.data.toList.drop 92 = dktX10_init_4 := dk_seg dksX10_init_3 22 rfl rfl
theorem dksX10_init_5 : cX10_init.data.toList.drop 114 = dktX10_init_5 := dk_seg dksX10_init_4 22 rfl rfl
theorem dksX10_init_6 : cX10_init.data.toList.drop 138 = dktX10_init_6 := dk_seg dksX10_init_5 24 rfl rfl
theorem dksX10_init_7 : cX10_init.data.toList.drop 161 = dktX10_init_7 := dk_seg dksX10_init_6 23 rfl rfl
theorem dksX10_init_8 : cX10_init.data.toList.drop 184 = dktX10_init_8 := dk_seg dksX10_init_7 23 rfl rfl
theorem dksX10_init_9 : cX10_init.data.toList.drop 208 = dktX10_init_9 := dk_seg dksX10_init_8 24 rfl rfl
theorem dksX10_init_10 : cX10_init.data.toList.drop 232 = dktX10_init_10 := dk_seg dksX10_init_9 24 rfl rfl
theorem dX10_init_0 : decode cX10_init 0 = .ok (.aload_n 0, 1) := dk_42 (dk_at dksX10_init_0 0 rfl rfl)
theorem dX10_init_1 : decode cX10_init 1 = .ok (.invokespecial 3, 3) := dk_183 0 3 (dk_at dksX10_init_0 1 rfl rfl)
theorem dX10_init_4 : decode cX10_init 4 = .ok (.aload_n 0, 1) := dk_42 (dk_at dksX10_init_0 4 rfl rfl)
theorem dX10_init_5 : decode cX10_init 5 = .ok (.sipush 602, 3) := dk_17 2 90 (dk_at dksX10_init_0 5 rfl rfl)
theorem dX10_init_8 : decode cX10_init 8 = .ok (.newarray .int, 2) := dk_188_10 (dk_at dksX10_init_0 8 rfl rfl)
theorem dX10_init_10 : decode cX10_init 10 = .ok (.putfield 9, 3) := dk_181 0 9 (dk_at dksX10_init_0 10 rfl rfl)
theorem dX10_init_13 : decode cX10_init 13 = .ok (.aload_n 0, 1) := dk_42 (dk_at dksX10_init_0 13 rfl rfl)
theorem dX10_init_14 : decode cX10_init 14 = .ok (.sipush 602, 3) := dk_17 2 90 (dk_at dksX10_init_0 14 rfl rfl)
theorem dX10_init_17 : decode cX10_init 17 = .ok (.newarray .int, 2) := dk_188_10 (dk_at dksX10_init_0 17 rfl rfl)
theorem dX10_init_19 : decode cX10_init 19 = .ok (.putfield 13, 3) := dk_181 0 13 (dk_at dksX10_init_0 19 rfl rfl)
theorem dX10_init_22 : decode cX10_init 22 = .ok (.aload_n 0, 1) := dk_42 (dk_at dksX10_init_0 22 rfl rfl)
theorem dX10_init_23 : decode cX10_init 23 = .ok (.sipush 602, 3) := dk_17 2 90 (dk_at dksX10_init_1 0 rfl rfl)
theorem dX10_init_26 : decode cX10_init 26 = .ok (.newarray .int, 2) := dk_188_10 (dk_at dksX10_init_1 3 rfl rfl)
theorem dX10_init_28 : decode cX10_init 28 = .ok (.putfield 16, 3) := dk_181 0 16 (dk_at dksX10_init_1 5 rfl rfl)
theorem dX10_init_31 : decode cX10_init 31 = .ok (.aload_n 0, 1) := dk_42 (dk_at dksX10_init_1 8 rfl rfl)
theorem dX10_init_32 : decode cX10_init 32 = .ok (.bipush 6, 2) := dk_16 6 (dk_at dksX10_init_1 9 rfl rfl)
theorem dX10_init_34 : decode cX10_init 34 = .ok (.newarray .int, 2) := dk_188_10 (dk_at dksX10_init_1 11 rfl rfl)
theorem dX10_init_36 : decode cX10_init 36 = .ok (.putfield 19, 3) := dk_181 0 19 (dk_at dksX10_init_1 13 rfl rfl)
theorem dX10_init_39 : decode cX10_init 39 = .ok (.aload_n 0, 1) := dk_42 (dk_at dksX10_init_1 16 rfl rfl)
theorem dX10_init_40 : decode cX10_init 40 = .ok (.iconst 4, 1) := dk_7 (dk_at dksX10_init_1 17 rfl rfl)
theorem dX10_init_41 : decode cX10_init 41 = .ok (.anewarray 22, 3) := dk_189 0 22 (dk_at dksX10_init_1 18 rfl rfl)
theorem dX10_init_44 : decode cX10_init 44 = .ok (.dup, 1) := dk_89 (dk_at dksX10_init_1 21 rfl rfl)
theorem dX10_init_45 : decode cX10_init 45 = .ok (.iconst 0, 1) := dk_3 (dk_at dksX10_init_1 22 rfl rfl)
theorem dX10_init_46 : decode cX10_init 46 = .ok (.ldc 24, 2) := dk_18 24 (dk_at dksX10_init_2 0 rfl rfl)
theorem dX10_init_48 : decode cX10_init 48 = .ok (.aastore, 1) := dk_83 (dk_at dksX10_init_2 2 rfl rfl)
theorem dX10_init_49 : decode cX10_init 49 = .ok (.dup, 1) := dk_89 (dk_at dksX10_init_2 3 rfl rfl)
theorem dX10_init_50 : decode cX10_init 50 = .ok (.iconst 1, 1) := dk_4 (dk_at dksX10_init_2 4 rfl rfl)
theorem dX10_init_51 : decode cX10_init 51 = .ok (.ldc 26, 2) := dk_18 26 (dk_at dksX10_init_2 5 rfl rfl)
theorem dX10_init_53 : decode cX10_init 53 = .ok (.aastore, 1) := dk_83 (dk_at dksX10_init_2 7 rfl rfl)
theorem dX10_init_54 : decode cX10_init 54 = .ok (.dup, 1) := dk_89 (dk_at dksX10_init_2 8 rfl rfl)
theorem dX10_init_55 : decode cX10_init 55 = .ok (.iconst 2, 1) := dk_5 (dk_at dksX10_init_2 9 rfl rfl)
theorem dX10_init_56 : decode cX10_init 56 = .ok (.ldc 28, 2) := dk_18 28 (dk_at dksX10_init_2 10 rfl rfl)
theorem dX10_init_58 : decode cX10_init 58 = .ok (.aastore, 1) := dk_83 (dk_at dksX10_init_2 12 rfl rfl)
theorem dX10_init_59 : decode cX10_init 59 = .ok (.dup, 1) := dk_89 (dk_at dksX10_init_2 13 rfl rfl)
theorem dX10_init_60 : decode cX10_init 60 = .ok (.iconst 3, 1) := dk_6 (dk_at dksX10_init_2 14 rfl rfl)
theorem dX10_init_61 : decode cX10_init 61 = .ok (.ldc 30, 2) := dk_18 30 (dk_at dksX10_init_2 15 rfl rfl)
theorem dX10_init_63 : decode cX10_init 63 = .ok (.aastore, 1) := dk_83 (dk_at dksX10_init_2 17 rfl rfl)
theorem dX10_init_64 : decode cX10_init 64 = .ok (.putfield 32, 3) := dk_181 0 32 (dk_at dksX10_init_2 18 rfl rfl)
theorem dX10_init_67 : decode cX10_init 67 = .ok (.aload_n 0, 1) := dk_42 (dk_at dksX10_init_2 21 rfl rfl)
theorem dX10_init_68 : decode cX10_init 68 = .ok (.bipush 60, 2) := dk_16 60 (dk_at dksX10_init_2 22 rfl rfl)
theorem dX10_init_70 : decode cX10_init 70 = .ok (.newarray .int, 2) := dk_188_10 (dk_at dksX10_init_3 0 rfl rfl)
theorem dX10_init_72 : decode cX10_init 72 = .ok (.putfield 36, 3) := dk_181 0 36 (dk_at dksX10_init_3 2 rfl rfl)
theorem dX10_init_75 : decode cX10_init 75 = .ok (.aload_n 0, 1) := dk_42 (dk_at dksX10_init_3 5 rfl rfl)
theorem dX10_init_76 : decode cX10_init 76 = .ok (.bipush 60, 2) := dk_16 60 (dk_at dksX10_init_3 6 rfl rfl)
theorem dX10_init_78 : decode cX10_init 78 = .ok (.newarray .int, 2) := dk_188_10 (dk_at dksX10_init_3 8 rfl rfl)
theorem dX10_init_80 : decode cX10_init 80 = .ok (.putfield 39, 3) := dk_181 0 39 (dk_at dksX10_init_3 10 rfl rfl)
theorem dX10_init_83 : decode cX10_init 83 = .ok (.aload_n 0, 1) := dk_42 (dk_at dksX10_init_3 13 rfl rfl)
theorem dX10_init_84 : decode cX10_init 84 = .ok (.bipush 10, 2) := dk_16 10 (dk_at dksX10_init_3 14 rfl rfl)
theorem dX10_init_86 : decode cX10_init 86 = .ok (.newarray .int, 2) := dk_188_10 (dk_at dksX10_init_3 16 rfl rfl)
theorem dX10_init_88 : decode cX10_init 88 = .ok (.putfield 42, 3) := dk_181 0 42 (dk_at dksX10_init_3 18 rfl rfl)
theorem dX10_init_91 : decode cX10_init 91 = .ok (.aload_n 0, 1) := dk_42 (dk_at dksX10_init_3 21 rfl rfl)
theorem dX10_init_92 : decode cX10_init 92 = .ok (.sipush 1024, 3) := dk_17 4 0 (dk_at dksX10_init_4 0 rfl rfl)
theorem dX10_init_95 : decode cX10_init 95 = .ok (.newarray .int, 2) := dk_188_10 (dk_at dksX10_init_4 3 rfl rfl)
theorem dX10_init_97 : decode cX10_init 97 = .ok (.putfield 45, 3) := dk_181 0 45 (dk_at dksX10_init_4 5 rfl rfl)
theorem dX10_init_100 : decode cX10_init 100 = .ok (.aload_n 0, 1) := dk_42 (dk_at dksX10_init_4 8 rfl rfl)
theorem dX10_init_101 : decode cX10_init 101 = .ok (.sipush 256, 3) := dk_17 1 0 (dk_at dksX10_init_4 9 rfl rfl)
theorem dX10_init_104 : decode cX10_init 104 = .ok (.newarray .int, 2) := dk_188_10 (dk_at dksX10_init_4 12 rfl rfl)
theorem dX10_init_106 : decode cX10_init 106 = .ok (.putfield 48, 3) := dk_181 0 48 (dk_at dksX10_init_4 14 rfl rfl)
theorem dX10_init_109 : decode cX10_init 109 = .ok (.aload_n 0, 1) := dk_42 (dk_at dksX10_init_4 17 rfl rfl)
theorem dX10_init_110 : decode cX10_init 110 = .ok (.bipush 40, 2) := dk_16 40 (dk_at dksX10_init_4 18 rfl rfl)
theorem dX10_init_112 : decode cX10_init 112 = .ok (.newarray .int, 2) := dk_188_10 (dk_at dksX10_init_4 20 rfl rfl)
theorem dX10_init_114 : decode cX10_init 114 = .ok (.putfield 51, 3) := dk_181 0 51 (dk_at dksX10_init_5 0 rfl rfl)
theorem dX10_init_117 : decode cX10_init 117 = .ok (.aload_n 0, 1) := dk_42 (dk_at dksX10_init_5 3 rfl rfl)
theorem dX10_init_118 : decode cX10_init 118 = .ok (.bipush 9, 2) := dk_16 9 (dk_at dksX10_init_5 4 rfl rfl)
theorem dX10_init_120 : decode cX10_init 120 = .ok (.newarray .long, 2) := dk_188_11 (dk_at dksX10_init_5 6 rfl rfl)
theorem dX10_init_122 : decode cX10_init 122 = .ok (.putfield 54, 3) := dk_181 0 54 (dk_at dksX10_init_5 8 rfl rfl)
theorem dX10_init_125 : decode cX10_init 125 = .ok (.aload_n 0, 1) := dk_42 (dk_at dksX10_init_5 11 rfl rfl)
theorem dX10_init_126 : decode cX10_init 126 = .ok (.bipush 8, 2) := dk_16 8 (dk_at dksX10_init_5 12 rfl rfl)
theorem dX10_init_128 : decode cX10_init 128 = .ok (.newarray .boolean, 2) := dk_188_4 (dk_at dksX10_init_5 14 rfl rfl)
theorem dX10_init_130 : decode cX10_init 130 = .ok (.putfield 58, 3) := dk_181 0 58 (dk_at dksX10_init_5 16 rfl rfl)
theorem dX10_init_133 : decode cX10_init 133 = .ok (.aload_n 0, 1) := dk_42 (dk_at dksX10_init_5 19 rfl rfl)
theorem dX10_init_134 : decode cX10_init 134 = .ok (.bipush 40, 2) := dk_16 40 (dk_at dksX10_init_5 20 rfl rfl)
theorem dX10_init_136 : decode cX10_init 136 = .ok (.newarray .int, 2) := dk_188_10 (dk_at dksX10_init_5 22 rfl rfl)
theorem dX10_init_138 : decode cX10_init 138 = .ok (.putfield 62, 3) := dk_181 0 62 (dk_at dksX10_init_6 0 rfl rfl)
theorem dX10_init_141 : decode cX10_init 141 = .ok (.aload_n 0, 1) := dk_42 (dk_at dksX10_init_6 3 rfl rfl)
theorem dX10_init_142 : decode cX10_init 142 = .ok (.iconst 4, 1) := dk_7 (dk_at dksX10_init_6 4 rfl rfl)
theorem dX10_init_143 : decode cX10_init 143 = .ok (.newarray .int, 2) := dk_188_10 (dk_at dksX10_init_6 5 rfl rfl)
theorem dX10_init_145 : decode cX10_init 145 = .ok (.putfield 65, 3) := dk_181 0 65 (dk_at dksX10_init_6 7 rfl rfl)
theorem dX10_init_148 : decode cX10_init 148 = .ok (.aload_n 0, 1) := dk_42 (dk_at dksX10_init_6 10 rfl rfl)
theorem dX10_init_149 : decode cX10_init 149 = .ok (.iconst 4, 1) := dk_7 (dk_at dksX10_init_6 11 rfl rfl)
theorem dX10_init_150 : decode cX10_init 150 = .ok (.newarray .int, 2) := dk_188_10 (dk_at dksX10_init_6 12 rfl rfl)
theorem dX10_init_152 : decode cX10_init 152 = .ok (.putfield 68, 3) := dk_181 0 68 (dk_at dksX10_init_6 14 rfl rfl)
theorem dX10_init_155 : decode cX10_init 155 = .ok (.aload_n 0, 1) := dk_42 (dk_at dksX10_init_6 17 rfl rfl)
theorem dX10_init_156 : decode cX10_init 156 = .ok (.sipush 160, 3) := dk_17 0 160 (dk_at dksX10_init_6 18 rfl rfl)
theorem dX10_init_159 : decode cX10_init 159 = .ok (.newarray .int, 2) := dk_188_10 (dk_at dksX10_init_6 21 rfl rfl)
theorem dX10_init_161 : decode cX10_init 161 = .ok (.putfield 71, 3) := dk_181 0 71 (dk_at dksX10_init_7 0 rfl rfl)
theorem dX10_init_164 : decode cX10_init 164 = .ok (.aload_n 0, 1) := dk_42 (dk_at dksX10_init_7 3 rfl rfl)
theorem dX10_init_165 : decode cX10_init 165 = .ok (.bipush 40, 2) := dk_16 40 (dk_at dksX10_init_7 4 rfl rfl)
theorem dX10_init_167 : decode cX10_init 167 = .ok (.newarray .int, 2) := dk_188_10 (dk_at dksX10_init_7 6 rfl rfl)
theorem dX10_init_169 : decode cX10_init 169 = .ok (.putfield 74, 3) := dk_181 0 74 (dk_at dksX10_init_7 8 rfl rfl)
theorem dX10_init_172 : decode cX10_init 172 = .ok (.aload_n 0, 1) := dk_42 (dk_at dksX10_init_7 11 rfl rfl)
theorem dX10_init_173 : decode cX10_init 173 = .ok (.getfield 9, 3) := dk_180 0 9 (dk_at dksX10_init_7 12 rfl rfl)
theorem dX10_init_176 : decode cX10_init 176 = .ok (.bipush 8, 2) := dk_16 8 (dk_at dksX10_init_7 15 rfl rfl)
theorem dX10_init_178 : decode cX10_init 178 = .ok (.iconst 1, 1) := dk_4 (dk_at dksX10_init_7 17 rfl rfl)
theorem dX10_init_179 : decode cX10_init 179 = .ok (.iastore, 1) := dk_79 (dk_at dksX10_init_7 18 rfl rfl)
theorem dX10_init_180 : decode cX10_init 180 = .ok (.aload_n 0, 1) := dk_42 (dk_at dksX10_init_7 19 rfl rfl)
theorem dX10_init_181 : decode cX10_init 181 = .ok (.getfield 9, 3) := dk_180 0 9 (dk_at dksX10_init_7 20 rfl rfl)
theorem dX10_init_184 : decode cX10_init 184 = .ok (.bipush 9, 2) := dk_16 9 (dk_at dksX10_init_8 0 rfl rfl)
theorem dX10_init_186 : decode cX10_init 186 = .ok (.bipush 100, 2) := dk_16 100 (dk_at dksX10_init_8 2 rfl rfl)
theorem dX10_init_188 : decode cX10_init 188 = .ok (.iastore, 1) := dk_79 (dk_at dksX10_init_8 4 rfl rfl)
theorem dX10_init_189 : decode cX10_init 189 = .ok (.aload_n 0, 1) := dk_42 (dk_at dksX10_init_8 5 rfl rfl)
theorem dX10_init_190 : decode cX10_init 190 = .ok (.getfield 9, 3) := dk_180 0 9 (dk_at dksX10_init_8 6 rfl rfl)
theorem dX10_init_193 : decode cX10_init 193 = .ok (.bipush 10, 2) := dk_16 10 (dk_at dksX10_init_8 9 rfl rfl)
theorem dX10_init_195 : decode cX10_init 195 = .ok (.sipush 1000, 3) := dk_17 3 232 (dk_at dksX10_init_8 11 rfl rfl)
theorem dX10_init_198 : decode cX10_init 198 = .ok (.iastore, 1) := dk_79 (dk_at dksX10_init_8 14 rfl rfl)
theorem dX10_init_199 : decode cX10_init 199 = .ok (.iconst 0, 1) := dk_3 (dk_at dksX10_init_8 15 rfl rfl)
theorem dX10_init_200 : decode cX10_init 200 = .ok (.istore_n 1, 1) := dk_60 (dk_at dksX10_init_8 16 rfl rfl)
theorem dX10_init_201 : decode cX10_init 201 = .ok (.iload_n 1, 1) := dk_27 (dk_at dksX10_init_8 17 rfl rfl)
theorem dX10_init_202 : decode cX10_init 202 = .ok (.bipush 7, 2) := dk_16 7 (dk_at dksX10_init_8 18 rfl rfl)
theorem dX10_init_204 : decode cX10_init 204 = .ok (.if_icmp .ge 19, 3) := dk_162 0 19 (dk_at dksX10_init_8 20 rfl rfl)
theorem dX10_init_207 : decode cX10_init 207 = .ok (.aload_n 0, 1) := dk_42 (dk_at dksX10_init_8 23 rfl rfl)
theorem dX10_init_208 : decode cX10_init 208 = .ok (.getfield 9, 3) := dk_180 0 9 (dk_at dksX10_init_9 0 rfl rfl)
theorem dX10_init_211 : decode cX10_init 211 = .ok (.bipush 13, 2) := dk_16 13 (dk_at dksX10_init_9 3 rfl rfl)
theorem dX10_init_213 : decode cX10_init 213 = .ok (.iload_n 1, 1) := dk_27 (dk_at dksX10_init_9 5 rfl rfl)
theorem dX10_init_214 : decode cX10_init 214 = .ok (.iadd, 1) := dk_96 (dk_at dksX10_init_9 6 rfl rfl)
theorem dX10_init_215 : decode cX10_init 215 = .ok (.iconst 1, 1) := dk_4 (dk_at dksX10_init_9 7 rfl rfl)
theorem dX10_init_216 : decode cX10_init 216 = .ok (.iastore, 1) := dk_79 (dk_at dksX10_init_9 8 rfl rfl)
theorem dX10_init_217 : decode cX10_init 217 = .ok (.iinc 1 1, 3) := dk_132 1 1 (dk_at dksX10_init_9 9 rfl rfl)
theorem dX10_init_220 : decode cX10_init 220 = .ok (.goto (-19), 3) := dk_167 255 237 (dk_at dksX10_init_9 12 rfl rfl)
theorem dX10_init_223 : decode cX10_init 223 = .ok (.iconst 0, 1) := dk_3 (dk_at dksX10_init_9 15 rfl rfl)
theorem dX10_init_224 : decode cX10_init 224 = .ok (.istore_n 1, 1) := dk_60 (dk_at dksX10_init_9 16 rfl rfl)
theorem dX10_init_225 : decode cX10_init 225 = .ok (.iload_n 1, 1) := dk_27 (dk_at dksX10_init_9 17 rfl rfl)
theorem dX10_init_226 : decode cX10_init 226 = .ok (.bipush 12, 2) := dk_16 12 (dk_at dksX10_init_9 18 rfl rfl)
theorem dX10_init_228 : decode cX10_init 228 = .ok (.if_icmp .ge 20, 3) := dk_162 0 20 (dk_at dksX10_init_9 20 rfl rfl)
theorem dX10_init_231 : decode cX10_init 231 = .ok (.aload_n 0, 1) := dk_42 (dk_at dksX10_init_9 23 rfl rfl)
theorem dX10_init_232 : decode cX10_init 232 = .ok (.getfield 9, 3) := dk_180 0 9 (dk_at dksX10_init_10 0 rfl rfl)
theorem dX10_init_235 : decode cX10_init 235 = .ok (.sipush 312, 3) := dk_17 1 56 (dk_at dksX10_init_10 3 rfl rfl)
theorem dX10_init_238 : decode cX10_init 238 = .ok (.iload_n 1, 1) := dk_27 (dk_at dksX10_init_10 6 rfl rfl)
theorem dX10_init_239 : decode cX10_init 239 = .ok (.iadd, 1) := dk_96 (dk_at dksX10_init_10 7 rfl rfl)
theorem dX10_init_240 : decode cX10_init 240 = .ok (.iconst (-1), 1) := dk_2 (dk_at dksX10_init_10 8 rfl rfl)
theorem dX10_init_241 : decode cX10_init 241 = .ok (.iastore, 1) := dk_79 (dk_at dksX10_init_10 9 rfl rfl)
theorem dX10_init_242 : decode cX10_init 242 = .ok (.iinc 1 1, 3) := dk_132 1 1 (dk_at dksX10_init_10 10 rfl rfl)
theorem dX10_init_245 : decode cX10_init 245 = .ok (.goto (-20), 3) := dk_167 255 236 (dk_at dksX10_init_10 13 rfl rfl)
theorem dX10_init_248 : decode cX10_init 248 = .ok (.return_, 1) := dk_177 (dk_at dksX10_init_10 16 rfl rfl)
abbrev cX10_boat : ByteArray := prog_37_method_10_code
def yX10_boat : MethodName := ⟨RX10, "boat", "(II)I"⟩
def dkwX10_boat_2 : List UInt8 := [182, 0, 83, 167, 0, 9, 42, 18, 87, 182, 0, 88, 172]
abbrev dktX10_boat_2 : List UInt8 := dkwX10_boat_2 ++ []
def dkwX10_boat_1 : List UInt8 := [184, 0, 78, 153, 0, 7, 4, 167, 0, 4, 3, 62, 29, 153, 0, 15, 42, 16, 9, 27, 96, 28]
abbrev dktX10_boat_1 : List UInt8 := dkwX10_boat_1 ++ dktX10_boat_2
def dkwX10_boat_0 : List UInt8 := [27, 154, 0, 14, 28, 4, 17, 1, 44, 184, 0, 78, 167, 0, 23, 27, 4, 160, 0, 17, 28, 4, 18, 82]
abbrev dktX10_boat_0 : List UInt8 := dkwX10_boat_0 ++ dktX10_boat_1
theorem dksX10_boat_0 : cX10_boat.data.toList.drop 0 = dktX10_boat_0 := by decide +kernel
theorem dksX10_boat_1 : cX10_boat.data.toList.drop 24 = dktX10_boat_1 := dk_seg dksX10_boat_0 24 rfl rfl
theorem dksX10_boat_2 : cX10_boat.data.toList.drop 46 = dktX10_boat_2 := dk_seg dksX10_boat_1 22 rfl rfl
theorem dX10_boat_0 : decode cX10_boat 0 = .ok (.iload_n 1, 1) := dk_27 (dk_at dksX10_boat_0 0 rfl rfl)
theorem dX10_boat_1 : decode cX10_boat 1 = .ok (.ifCond .ne 14, 3) := dk_154 0 14 (dk_at dksX10_boat_0 1 rfl rfl)
theorem dX10_boat_4 : decode cX10_boat 4 = .ok (.iload_n 2, 1) := dk_28 (dk_at dksX10_boat_0 4 rfl rfl)
theorem dX10_boat_5 : decode cX10_boat 5 = .ok (.iconst 1, 1) := dk_4 (dk_at dksX10_boat_0 5 rfl rfl)
theorem dX10_boat_6 : decode cX10_boat 6 = .ok (.sipush 300, 3) := dk_17 1 44 (dk_at dksX10_boat_0 6 rfl rfl)
theorem dX10_boat_9 : decode cX10_boat 9 = .ok (.invokestatic 78, 3) := dk_184 0 78 (dk_at dksX10_boat_0 9 rfl rfl)
theorem dX10_boat_12 : decode cX10_boat 12 = .ok (.goto 23, 3) := dk_167 0 23 (dk_at dksX10_boat_0 12 rfl rfl)
theorem dX10_boat_15 : decode cX10_boat 15 = .ok (.iload_n 1, 1) := dk_27 (dk_at dksX10_boat_0 15 rfl rfl)
theorem dX10_boat_16 : decode cX10_boat 16 = .ok (.iconst 1, 1) := dk_4 (dk_at dksX10_boat_0 16 rfl rfl)
theorem dX10_boat_17 : decode cX10_boat 17 = .ok (.if_icmp .ne 17, 3) := dk_160 0 17 (dk_at dksX10_boat_0 17 rfl rfl)
theorem dX10_boat_20 : decode cX10_boat 20 = .ok (.iload_n 2, 1) := dk_28 (dk_at dksX10_boat_0 20 rfl rfl)
theorem dX10_boat_21 : decode cX10_boat 21 = .ok (.iconst 1, 1) := dk_4 (dk_at dksX10_boat_0 21 rfl rfl)
theorem dX10_boat_22 : decode cX10_boat 22 = .ok (.ldc 82, 2) := dk_18 82 (dk_at dksX10_boat_0 22 rfl rfl)
theorem dX10_boat_24 : decode cX10_boat 24 = .ok (.invokestatic 78, 3) := dk_184 0 78 (dk_at dksX10_boat_1 0 rfl rfl)
theorem dX10_boat_27 : decode cX10_boat 27 = .ok (.ifCond .eq 7, 3) := dk_153 0 7 (dk_at dksX10_boat_1 3 rfl rfl)
theorem dX10_boat_30 : decode cX10_boat 30 = .ok (.iconst 1, 1) := dk_4 (dk_at dksX10_boat_1 6 rfl rfl)
theorem dX10_boat_31 : decode cX10_boat 31 = .ok (.goto 4, 3) := dk_167 0 4 (dk_at dksX10_boat_1 7 rfl rfl)
theorem dX10_boat_34 : decode cX10_boat 34 = .ok (.iconst 0, 1) := dk_3 (dk_at dksX10_boat_1 10 rfl rfl)
theorem dX10_boat_35 : decode cX10_boat 35 = .ok (.istore_n 3, 1) := dk_62 (dk_at dksX10_boat_1 11 rfl rfl)
theorem dX10_boat_36 : decode cX10_boat 36 = .ok (.iload_n 3, 1) := dk_29 (dk_at dksX10_boat_1 12 rfl rfl)
theorem dX10_boat_37 : decode cX10_boat 37 = .ok (.ifCond .eq 15, 3) := dk_153 0 15 (dk_at dksX10_boat_1 13 rfl rfl)
theorem dX10_boat_40 : decode cX10_boat 40 = .ok (.aload_n 0, 1) := dk_42 (dk_at dksX10_boat_1 16 rfl rfl)
theorem dX10_boat_41 : decode cX10_boat 41 = .ok (.bipush 9, 2) := dk_16 9 (dk_at dksX10_boat_1 17 rfl rfl)
theorem dX10_boat_43 : decode cX10_boat 43 = .ok (.iload_n 1, 1) := dk_27 (dk_at dksX10_boat_1 19 rfl rfl)
theorem dX10_boat_44 : decode cX10_boat 44 = .ok (.iadd, 1) := dk_96 (dk_at dksX10_boat_1 20 rfl rfl)
theorem dX10_boat_45 : decode cX10_boat 45 = .ok (.iload_n 2, 1) := dk_28 (dk_at dksX10_boat_1 21 rfl rfl)
theorem dX10_boat_46 : decode cX10_boat 46 = .ok (.invokevirtual 83, 3) := dk_182 0 83 (dk_at dksX10_boat_2 0 rfl rfl)
theorem dX10_boat_49 : decode cX10_boat 49 = .ok (.goto 9, 3) := dk_167 0 9 (dk_at dksX10_boat_2 3 rfl rfl)
theorem dX10_boat_52 : decode cX10_boat 52 = .ok (.aload_n 0, 1) := dk_42 (dk_at dksX10_boat_2 6 rfl rfl)
theorem dX10_boat_53 : decode cX10_boat 53 = .ok (.ldc 87, 2) := dk_18 87 (dk_at dksX10_boat_2 7 rfl rfl)
theorem dX10_boat_55 : decode cX10_boat 55 = .ok (.invokevirtual 88, 3) := dk_182 0 88 (dk_at dksX10_boat_2 9 rfl rfl)
theorem dX10_boat_58 : decode cX10_boat 58 = .ok (.ireturn, 1) := dk_172 (dk_at dksX10_boat_2 12 rfl rfl)
abbrev cX10_within : ByteArray := prog_37_method_3_code
def yX10_within : MethodName := ⟨RX10, "within", "(III)Z"⟩
def dkwX10_within_0 : List UInt8 := [26, 27, 161, 0, 12, 26, 28, 163, 0, 7, 4, 167, 0, 4, 3, 172]
abbrev dktX10_within_0 : List UInt8 := dkwX10_within_0 ++ []
theorem dksX10_within_0 : cX10_within.data.toList.drop 0 = dktX10_within_0 := by decide +kernel
theorem dX10_within_0 : decode cX10_within 0 = .ok (.iload_n 0, 1) := dk_26 (dk_at dksX10_within_0 0 rfl rfl)
theorem dX10_within_1 : decode cX10_within 1 = .ok (.iload_n 1, 1) := dk_27 (dk_at dksX10_within_0 1 rfl rfl)
theorem dX10_within_2 : decode cX10_within 2 = .ok (.if_icmp .lt 12, 3) := dk_161 0 12 (dk_at dksX10_within_0 2 rfl rfl)
theorem dX10_within_5 : decode cX10_within 5 = .ok (.iload_n 0, 1) := dk_26 (dk_at dksX10_within_0 5 rfl rfl)
theorem dX10_within_6 : decode cX10_within 6 = .ok (.iload_n 2, 1) := dk_28 (dk_at dksX10_within_0 6 rfl rfl)
theorem dX10_within_7 : decode cX10_within 7 = .ok (.if_icmp .gt 7, 3) := dk_163 0 7 (dk_at dksX10_within_0 7 rfl rfl)
theorem dX10_within_10 : decode cX10_within 10 = .ok (.iconst 1, 1) := dk_4 (dk_at dksX10_within_0 10 rfl rfl)
theorem dX10_within_11 : decode cX10_within 11 = .ok (.goto 4, 3) := dk_167 0 4 (dk_at dksX10_within_0 11 rfl rfl)
theorem dX10_within_14 : decode cX10_within 14 = .ok (.iconst 0, 1) := dk_3 (dk_at dksX10_within_0 14 rfl rfl)
theorem dX10_within_15 : decode cX10_within 15 = .ok (.ireturn, 1) := dk_172 (dk_at dksX10_within_0 15 rfl rfl)
abbrev cX10_become : ByteArray := prog_37_method_8_code
def yX10_become : MethodName := ⟨RX10, "become", "(II)I"⟩
def dkwX10_become_0 : List UInt8 := [42, 180, 0, 9, 27, 46, 62, 42, 180, 0, 9, 27, 28, 79, 29, 172]
abbrev dktX10_become_0 : List UInt8 := dkwX10_become_0 ++ []
theorem dksX10_become_0 : cX10_become.data.toList.drop 0 = dktX10_become_0 := by decide +kernel
theorem dX10_become_0 : decode cX10_become 0 = .ok (.aload_n 0, 1) := dk_42 (dk_at dksX10_become_0 0 rfl rfl)
theorem dX10_become_1 : decode cX10_become 1 = .ok (.getfield 9, 3) := dk_180 0 9 (dk_at dksX10_become_0 1 rfl rfl)
theorem dX10_become_4 : decode cX10_become 4 = .ok (.iload_n 1, 1) := dk_27 (dk_at dksX10_become_0 4 rfl rfl)
theorem dX10_become_5 : decode cX10_become 5 = .ok (.iaload, 1) := dk_46 (dk_at dksX10_become_0 5 rfl rfl)
theorem dX10_become_6 : decode cX10_become 6 = .ok (.istore_n 3, 1) := dk_62 (dk_at dksX10_become_0 6 rfl rfl)
theorem dX10_become_7 : decode cX10_become 7 = .ok (.aload_n 0, 1) := dk_42 (dk_at dksX10_become_0 7 rfl rfl)
theorem dX10_become_8 : decode cX10_become 8 = .ok (.getfield 9, 3) := dk_180 0 9 (dk_at dksX10_become_0 8 rfl rfl)
theorem dX10_become_11 : decode cX10_become 11 = .ok (.iload_n 1, 1) := dk_27 (dk_at dksX10_become_0 11 rfl rfl)
theorem dX10_become_12 : decode cX10_become 12 = .ok (.iload_n 2, 1) := dk_28 (dk_at dksX10_become_0 12 rfl rfl)
theorem dX10_become_13 : decode cX10_become 13 = .ok (.iastore, 1) := dk_79 (dk_at dksX10_become_0 13 rfl rfl)
theorem dX10_become_14 : decode cX10_become 14 = .ok (.iload_n 3, 1) := dk_29 (dk_at dksX10_become_0 14 rfl rfl)
theorem dX10_become_15 : decode cX10_become 15 = .ok (.ireturn, 1) := dk_172 (dk_at dksX10_become_0 15 rfl rfl)
abbrev cX10_finding : ByteArray := prog_37_method_2_code
def yX10_finding : MethodName := ⟨RX10, "finding", "(I)I"⟩
def dkwX10_finding_0 : List UInt8 := [42, 180, 0, 19, 18, 77, 27, 100, 92, 46, 4, 96, 79, 27, 172]
abbrev dktX10_finding_0 : List UInt8 := dkwX10_finding_0 ++ []
theorem dksX10_finding_0 : cX10_finding.data.toList.drop 0 = dktX10_finding_0 := by decide +kernel
theorem dX10_finding_0 : decode cX10_finding 0 = .ok (.aload_n 0, 1) := dk_42 (dk_at dksX10_finding_0 0 rfl rfl)
theorem dX10_finding_1 : decode cX10_finding 1 = .ok (.getfield 19, 3) := dk_180 0 19 (dk_at dksX10_finding_0 1 rfl rfl)
theorem dX10_finding_4 : decode cX10_finding 4 = .ok (.ldc 77, 2) := dk_18 77 (dk_at dksX10_finding_0 4 rfl rfl)
theorem dX10_finding_6 : decode cX10_finding 6 = .ok (.iload_n 1, 1) := dk_27 (dk_at dksX10_finding_0 6 rfl rfl)
theorem dX10_finding_7 : decode cX10_finding 7 = .ok (.isub, 1) := dk_100 (dk_at dksX10_finding_0 7 rfl rfl)
theorem dX10_finding_8 : decode cX10_finding 8 = .ok (.dup2, 1) := dk_92 (dk_at dksX10_finding_0 8 rfl rfl)
theorem dX10_finding_9 : decode cX10_finding 9 = .ok (.iaload, 1) := dk_46 (dk_at dksX10_finding_0 9 rfl rfl)
theorem dX10_finding_10 : decode cX10_finding 10 = .ok (.iconst 1, 1) := dk_4 (dk_at dksX10_finding_0 10 rfl rfl)
theorem dX10_finding_11 : decode cX10_finding 11 = .ok (.iadd, 1) := dk_96 (dk_at dksX10_finding_0 11 rfl rfl)
theorem dX10_finding_12 : decode cX10_finding 12 = .ok (.iastore, 1) := dk_79 (dk_at dksX10_finding_0 12 rfl rfl)
theorem dX10_finding_13 : decode cX10_finding 13 = .ok (.iload_n 1, 1) := dk_27 (dk_at dksX10_finding_0 13 rfl rfl)
theorem dX10_finding_14 : decode cX10_finding 14 = .ok (.ireturn, 1) := dk_172 (dk_at dksX10_finding_0 14 rfl rfl)
abbrev cX10_man : ByteArray := prog_37_method_13_code
def yX10_man : MethodName := ⟨RX10, "man", "(III)I"⟩
def dkwX10_man_2 : List UInt8 := [182, 0, 88, 172, 42, 27, 28, 29, 182, 0, 97, 42, 180, 0, 9, 4, 46, 4, 100, 172]
abbrev dktX10_man_2 : List UInt8 := dkwX10_man_2 ++ []
def dkwX10_man_1 : List UInt8 := [154, 0, 10, 42, 18, 87, 182, 0, 88, 172, 42, 180, 0, 9, 4, 46, 16, 16, 160, 0, 10, 42, 18, 96]
abbrev dktX10_man_1 : List UInt8 := dkwX10_man_1 ++ dktX10_man_2
def dkwX10_man_0 : List UInt8 := [27, 184, 0, 92, 153, 0, 22, 28, 3, 16, 9, 184, 0, 78, 153, 0, 12, 29, 3, 4, 184, 0, 78]
abbrev dktX10_man_0 : List UInt8 := dkwX10_man_0 ++ dktX10_man_1
theorem dksX10_man_0 : cX10_man.data.toList.drop 0 = dktX10_man_0 := by decide +kernel
theorem dksX10_man_1 : cX10_man.data.toList.drop 23 = dktX10_man_1 := dk_seg dksX10_man_0 23 rfl rfl
theorem dksX10_man_2 : cX10_man.data.toList.drop 47 = dktX10_man_2 := dk_seg dksX10_man_1 24 rfl rfl
theorem dX10_man_0 : decode cX10_man 0 = .ok (.iload_n 1, 1) := dk_27 (dk_at dksX10_man_0 0 rfl rfl)
theorem dX10_man_1 : decode cX10_man 1 = .ok (.invokestatic 92, 3) := dk_184 0 92 (dk_at dksX10_man_0 1 rfl rfl)
theorem dX10_man_4 : decode cX10_man 4 = .ok (.ifCond .eq 22, 3) := dk_153 0 22 (dk_at dksX10_man_0 4 rfl rfl)
theorem dX10_man_7 : decode cX10_man 7 = .ok (.iload_n 2, 1) := dk_28 (dk_at dksX10_man_0 7 rfl rfl)
theorem dX10_man_8 : decode cX10_man 8 = .ok (.iconst 0, 1) := dk_3 (dk_at dksX10_man_0 8 rfl rfl)
theorem dX10_man_9 : decode cX10_man 9 = .ok (.bipush 9, 2) := dk_16 9 (dk_at dksX10_man_0 9 rfl rfl)
theorem dX10_man_11 : decode cX10_man 11 = .ok (.invokestatic 78, 3) := dk_184 0 78 (dk_at dksX10_man_0 11 rfl rfl)
theorem dX10_man_14 : decode cX10_man 14 = .ok (.ifCond .eq 12, 3) := dk_153 0 12 (dk_at dksX10_man_0 14 rfl rfl)
theorem dX10_man_17 : decode cX10_man 17 = .ok (.iload_n 3, 1) := dk_29 (dk_at dksX10_man_0 17 rfl rfl)
theorem dX10_man_18 : decode cX10_man 18 = .ok (.iconst 0, 1) := dk_3 (dk_at dksX10_man_0 18 rfl rfl)
theorem dX10_man_19 : decode cX10_man 19 = .ok (.iconst 1, 1) := dk_4 (dk_at dksX10_man_0 19 rfl rfl)
theorem dX10_man_20 : decode cX10_man 20 = .ok (.invokestatic 78, 3) := dk_184 0 78 (dk_at dksX10_man_0 20 rfl rfl)
theorem dX10_man_23 : decode cX10_man 23 = .ok (.ifCond .ne 10, 3) := dk_154 0 10 (dk_at dksX10_man_1 0 rfl rfl)
theorem dX10_man_26 : decode cX10_man 26 = .ok (.aload_n 0, 1) := dk_42 (dk_at dksX10_man_1 3 rfl rfl)
theorem dX10_man_27 : decode cX10_man 27 = .ok (.ldc 87, 2) := dk_18 87 (dk_at dksX10_man_1 4 rfl rfl)
theorem dX10_man_29 : decode cX10_man 29 = .ok (.invokevirtual 88, 3) := dk_182 0 88 (dk_at dksX10_man_1 6 rfl rfl)
theorem dX10_man_32 : decode cX10_man 32 = .ok (.ireturn, 1) := dk_172 (dk_at dksX10_man_1 9 rfl rfl)
theorem dX10_man_33 : decode cX10_man 33 = .ok (.aload_n 0, 1) := dk_42 (dk_at dksX10_man_1 10 rfl rfl)
theorem dX10_man_34 : decode cX10_man 34 = .ok (.getfield 9, 3) := dk_180 0 9 (dk_at dksX10_man_1 11 rfl rfl)
theorem dX10_man_37 : decode cX10_man 37 = .ok (.iconst 1, 1) := dk_4 (dk_at dksX10_man_1 14 rfl rfl)
theorem dX10_man_38 : decode cX10_man 38 = .ok (.iaload, 1) := dk_46 (dk_at dksX10_man_1 15 rfl rfl)
theorem dX10_man_39 : decode cX10_man 39 = .ok (.bipush 16, 2) := dk_16 16 (dk_at dksX10_man_1 16 rfl rfl)
theorem dX10_man_41 : decode cX10_man 41 = .ok (.if_icmp .ne 10, 3) := dk_160 0 10 (dk_at dksX10_man_1 18 rfl rfl)
theorem dX10_man_44 : decode cX10_man 44 = .ok (.aload_n 0, 1) := dk_42 (dk_at dksX10_man_1 21 rfl rfl)
theorem dX10_man_45 : decode cX10_man 45 = .ok (.ldc 96, 2) := dk_18 96 (dk_at dksX10_man_1 22 rfl rfl)
theorem dX10_man_47 : decode cX10_man 47 = .ok (.invokevirtual 88, 3) := dk_182 0 88 (dk_at dksX10_man_2 0 rfl rfl)
theorem dX10_man_50 : decode cX10_man 50 = .ok (.ireturn, 1) := dk_172 (dk_at dksX10_man_2 3 rfl rfl)
theorem dX10_man_51 : decode cX10_man 51 = .ok (.aload_n 0, 1) := dk_42 (dk_at dksX10_man_2 4 rfl rfl)
theorem dX10_man_52 : decode cX10_man 52 = .ok (.iload_n 1, 1) := dk_27 (dk_at dksX10_man_2 5 rfl rfl)
theorem dX10_man_53 : decode cX10_man 53 = .ok (.iload_n 2, 1) := dk_28 (dk_at dksX10_man_2 6 rfl rfl)
theorem dX10_man_54 : decode cX10_man 54 = .ok (.iload_n 3, 1) := dk_29 (dk_at dksX10_man_2 7 rfl rfl)
theorem dX10_man_55 : decode cX10_man 55 = .ok (.invokevirtual 97, 3) := dk_182 0 97 (dk_at dksX10_man_2 8 rfl rfl)
theorem dX10_man_58 : decode cX10_man 58 = .ok (.aload_n 0, 1) := dk_42 (dk_at dksX10_man_2 11 rfl rfl)
theorem dX10_man_59 : decode cX10_man 59 = .ok (.getfield 9, 3) := dk_180 0 9 (dk_at dksX10_man_2 12 rfl rfl)
theorem dX10_man_62 : decode cX10_man 62 = .ok (.iconst 1, 1) := dk_4 (dk_at dksX10_man_2 15 rfl rfl)
theorem dX10_man_63 : decode cX10_man 63 = .ok (.iaload, 1) := dk_46 (dk_at dksX10_man_2 16 rfl rfl)
theorem dX10_man_64 : decode cX10_man 64 = .ok (.iconst 1, 1) := dk_4 (dk_at dksX10_man_2 17 rfl rfl)
theorem dX10_man_65 : decode cX10_man 65 = .ok (.isub, 1) := dk_100 (dk_at dksX10_man_2 18 rfl rfl)
theorem dX10_man_66 : decode cX10_man 66 = .ok (.ireturn, 1) := dk_172 (dk_at dksX10_man_2 19 rfl rfl)
abbrev cX10_isRoom : ByteArray := prog_37_method_5_code
def yX10_isRoom : MethodName := ⟨RX10, "isRoom", "(I)Z"⟩
def dkwX10_isRoom_0 : List UInt8 := [26, 3, 16, 7, 184, 0, 78, 172]
abbrev dktX10_isRoom_0 : List UInt8 := dkwX10_isRoom_0 ++ []
theorem dksX10_isRoom_0 : cX10_isRoom.data.toList.drop 0 = dktX10_isRoom_0 := by decide +kernel
theorem dX10_isRoom_0 : decode cX10_isRoom 0 = .ok (.iload_n 0, 1) := dk_26 (dk_at dksX10_isRoom_0 0 rfl rfl)
theorem dX10_isRoom_1 : decode cX10_isRoom 1 = .ok (.iconst 0, 1) := dk_3 (dk_at dksX10_isRoom_0 1 rfl rfl)
theorem dX10_isRoom_2 : decode cX10_isRoom 2 = .ok (.bipush 7, 2) := dk_16 7 (dk_at dksX10_isRoom_0 2 rfl rfl)
theorem dX10_isRoom_4 : decode cX10_isRoom 4 = .ok (.invokestatic 78, 3) := dk_184 0 78 (dk_at dksX10_isRoom_0 4 rfl rfl)
theorem dX10_isRoom_7 : decode cX10_isRoom 7 = .ok (.ireturn, 1) := dk_172 (dk_at dksX10_isRoom_0 7 rfl rfl)
abbrev cX10_comes : ByteArray := prog_37_method_12_code
def yX10_comes : MethodName := ⟨RX10, "comes", "(III)V"⟩
def dkwX10_comes_3 : List UInt8 := [46, 4, 96, 79, 177]
abbrev dktX10_comes_3 : List UInt8 := dkwX10_comes_3 ++ []
def dkwX10_comes_2 : List UInt8 := [21, 4, 6, 96, 29, 79, 42, 180, 0, 9, 21, 4, 7, 96, 17, 9, 95, 79, 42, 180, 0, 9, 4, 92]
abbrev dktX10_comes_2 : List UInt8 := dkwX10_comes_2 ++ dktX10_comes_3
def dkwX10_comes_1 : List UInt8 := [180, 0, 9, 21, 4, 4, 96, 4, 79, 42, 180, 0, 9, 21, 4, 5, 96, 28, 79, 42, 180, 0, 9]
abbrev dktX10_comes_1 : List UInt8 := dkwX10_comes_1 ++ dktX10_comes_2
def dkwX10_comes_0 : List UInt8 := [16, 36, 8, 42, 180, 0, 9, 4, 46, 104, 96, 54, 4, 42, 180, 0, 9, 21, 4, 3, 96, 27, 79, 42]
abbrev dktX10_comes_0 : List UInt8 := dkwX10_comes_0 ++ dktX10_comes_1
theorem dksX10_comes_0 : cX10_comes.data.toList.drop 0 = dktX10_comes_0 := by decide +kernel
theorem dksX10_comes_1 : cX10_comes.data.toList.drop 24 = dktX10_comes_1 := dk_seg dksX10_comes_0 24 rfl rfl
theorem dksX10_comes_2 : cX10_comes.data.toList.drop 47 = dktX10_comes_2 := dk_seg dksX10_comes_1 23 rfl rfl
theorem dksX10_comes_3 : cX10_comes.data.toList.drop 71 = dktX10_comes_3 := dk_seg dksX10_comes_2 24 rfl rfl
theorem dX10_comes_0 : decode cX10_comes 0 = .ok (.bipush 36, 2) := dk_16 36 (dk_at dksX10_comes_0 0 rfl rfl)
theorem dX10_comes_2 : decode cX10_comes 2 = .ok (.iconst 5, 1) := dk_8 (dk_at dksX10_comes_0 2 rfl rfl)
theorem dX10_comes_3 : decode cX10_comes 3 = .ok (.aload_n 0, 1) := dk_42 (dk_at dksX10_comes_0 3 rfl rfl)
theorem dX10_comes_4 : decode cX10_comes 4 = .ok (.getfield 9, 3) := dk_180 0 9 (dk_at dksX10_comes_0 4 rfl rfl)
theorem dX10_comes_7 : decode cX10_comes 7 = .ok (.iconst 1, 1) := dk_4 (dk_at dksX10_comes_0 7 rfl rfl)
theorem dX10_comes_8 : decode cX10_comes 8 = .ok (.iaload, 1) := dk_46 (dk_at dksX10_comes_0 8 rfl rfl)
theorem dX10_comes_9 : decode cX10_comes 9 = .ok (.imul, 1) := dk_104 (dk_at dksX10_comes_0 9 rfl rfl)
theorem dX10_comes_10 : decode cX10_comes 10 = .ok (.iadd, 1) := dk_96 (dk_at dksX10_comes_0 10 rfl rfl)
theorem dX10_comes_11 : decode cX10_comes 11 = .ok (.istore 4, 2) := dk_54 4 (dk_at dksX10_comes_0 11 rfl rfl)
theorem dX10_comes_13 : decode cX10_comes 13 = .ok (.aload_n 0, 1) := dk_42 (dk_at dksX10_comes_0 13 rfl rfl)
theorem dX10_comes_14 : decode cX10_comes 14 = .ok (.getfield 9, 3) := dk_180 0 9 (dk_at dksX10_comes_0 14 rfl rfl)
theorem dX10_comes_17 : decode cX10_comes 17 = .ok (.iload 4, 2) := dk_21 4 (dk_at dksX10_comes_0 17 rfl rfl)
theorem dX10_comes_19 : decode cX10_comes 19 = .ok (.iconst 0, 1) := dk_3 (dk_at dksX10_comes_0 19 rfl rfl)
theorem dX10_comes_20 : decode cX10_comes 20 = .ok (.iadd, 1) := dk_96 (dk_at dksX10_comes_0 20 rfl rfl)
theorem dX10_comes_21 : decode cX10_comes 21 = .ok (.iload_n 1, 1) := dk_27 (dk_at dksX10_comes_0 21 rfl rfl)
theorem dX10_comes_22 : decode cX10_comes 22 = .ok (.iastore, 1) := dk_79 (dk_at dksX10_comes_0 22 rfl rfl)
theorem dX10_comes_23 : decode cX10_comes 23 = .ok (.aload_n 0, 1) := dk_42 (dk_at dksX10_comes_0 23 rfl rfl)
theorem dX10_comes_24 : decode cX10_comes 24 = .ok (.getfield 9, 3) := dk_180 0 9 (dk_at dksX10_comes_1 0 rfl rfl)
theorem dX10_comes_27 : decode cX10_comes 27 = .ok (.iload 4, 2) := dk_21 4 (dk_at dksX10_comes_1 3 rfl rfl)
theorem dX10_comes_29 : decode cX10_comes 29 = .ok (.iconst 1, 1) := dk_4 (dk_at dksX10_comes_1 5 rfl rfl)
theorem dX10_comes_30 : decode cX10_comes 30 = .ok (.iadd, 1) := dk_96 (dk_at dksX10_comes_1 6 rfl rfl)
theorem dX10_comes_31 : decode cX10_comes 31 = .ok (.iconst 1, 1) := dk_4 (dk_at dksX10_comes_1 7 rfl rfl)
theorem dX10_comes_32 : decode cX10_comes 32 = .ok (.iastore, 1) := dk_79 (dk_at dksX10_comes_1 8 rfl rfl)
theorem dX10_comes_33 : decode cX10_comes 33 = .ok (.aload_n 0, 1) := dk_42 (dk_at dksX10_comes_1 9 rfl rfl)
theorem dX10_comes_34 : decode cX10_comes 34 = .ok (.getfield 9, 3) := dk_180 0 9 (dk_at dksX10_comes_1 10 rfl rfl)
theorem dX10_comes_37 : decode cX10_comes 37 = .ok (.iload 4, 2) := dk_21 4 (dk_at dksX10_comes_1 13 rfl rfl)
theorem dX10_comes_39 : decode cX10_comes 39 = .ok (.iconst 2, 1) := dk_5 (dk_at dksX10_comes_1 15 rfl rfl)
theorem dX10_comes_40 : decode cX10_comes 40 = .ok (.iadd, 1) := dk_96 (dk_at dksX10_comes_1 16 rfl rfl)
theorem dX10_comes_41 : decode cX10_comes 41 = .ok (.iload_n 2, 1) := dk_28 (dk_at dksX10_comes_1 17 rfl rfl)
theorem dX10_comes_42 : decode cX10_comes 42 = .ok (.iastore, 1) := dk_79 (dk_at dksX10_comes_1 18 rfl rfl)
theorem dX10_comes_43 : decode cX10_comes 43 = .ok (.aload_n 0, 1) := dk_42 (dk_at dksX10_comes_1 19 rfl rfl)
theorem dX10_comes_44 : decode cX10_comes 44 = .ok (.getfield 9, 3) := dk_180 0 9 (dk_at dksX10_comes_1 20 rfl rfl)
theorem dX10_comes_47 : decode cX10_comes 47 = .ok (.iload 4, 2) := dk_21 4 (dk_at dksX10_comes_2 0 rfl rfl)
theorem dX10_comes_49 : decode cX10_comes 49 = .ok (.iconst 3, 1) := dk_6 (dk_at dksX10_comes_2 2 rfl rfl)
theorem dX10_comes_50 : decode cX10_comes 50 = .ok (.iadd, 1) := dk_96 (dk_at dksX10_comes_2 3 rfl rfl)
theorem dX10_comes_51 : decode cX10_comes 51 = .ok (.iload_n 3, 1) := dk_29 (dk_at dksX10_comes_2 4 rfl rfl)
theorem dX10_comes_52 : decode cX10_comes 52 = .ok (.iastore, 1) := dk_79 (dk_at dksX10_comes_2 5 rfl rfl)
theorem dX10_comes_53 : decode cX10_comes 53 = .ok (.aload_n 0, 1) := dk_42 (dk_at dksX10_comes_2 6 rfl rfl)
theorem dX10_comes_54 : decode cX10_comes 54 = .ok (.getfield 9, 3) := dk_180 0 9 (dk_at dksX10_comes_2 7 rfl rfl)
theorem dX10_comes_57 : decode cX10_comes 57 = .ok (.iload 4, 2) := dk_21 4 (dk_at dksX10_comes_2 10 rfl rfl)
theorem dX10_comes_59 : decode cX10_comes 59 = .ok (.iconst 4, 1) := dk_7 (dk_at dksX10_comes_2 12 rfl rfl)
theorem dX10_comes_60 : decode cX10_comes 60 = .ok (.iadd, 1) := dk_96 (dk_at dksX10_comes_2 13 rfl rfl)
theorem dX10_comes_61 : decode cX10_comes 61 = .ok (.sipush 2399, 3) := dk_17 9 95 (dk_at dksX10_comes_2 14 rfl rfl)
theorem dX10_comes_64 : decode cX10_comes 64 = .ok (.iastore, 1) := dk_79 (dk_at dksX10_comes_2 17 rfl rfl)
theorem dX10_comes_65 : decode cX10_comes 65 = .ok (.aload_n 0, 1) := dk_42 (dk_at dksX10_comes_2 18 rfl rfl)
theorem dX10_comes_66 : decode cX10_comes 66 = .ok (.getfield 9, 3) := dk_180 0 9 (dk_at dksX10_comes_2 19 rfl rfl)
theorem dX10_comes_69 : decode cX10_comes 69 = .ok (.iconst 1, 1) := dk_4 (dk_at dksX10_comes_2 22 rfl rfl)
theorem dX10_comes_70 : decode cX10_comes 70 = .ok (.dup2, 1) := dk_92 (dk_at dksX10_comes_2 23 rfl rfl)
theorem dX10_comes_71 : decode cX10_comes 71 = .ok (.iaload, 1) := dk_46 (dk_at dksX10_comes_3 0 rfl rfl)
theorem dX10_comes_72 : decode cX10_comes 72 = .ok (.iconst 1, 1) := dk_4 (dk_at dksX10_comes_3 1 rfl rfl)
theorem dX10_comes_73 : decode cX10_comes 73 = .ok (.iadd, 1) := dk_96 (dk_at dksX10_comes_3 2 rfl rfl)
theorem dX10_comes_74 : decode cX10_comes 74 = .ok (.iastore, 1) := dk_79 (dk_at dksX10_comes_3 3 rfl rfl)
theorem dX10_comes_75 : decode cX10_comes 75 = .ok (.return_, 1) := dk_177 (dk_at dksX10_comes_3 4 rfl rfl)
abbrev cX10_does : ByteArray := prog_37_method_14_code
def yX10_does : MethodName := ⟨RX10, "does", "(III)I"⟩
def dkwX10_does_5 : List UInt8 := [182, 0, 83, 172]
abbrev dktX10_does_5 : List UInt8 := dkwX10_does_5 ++ []
def dkwX10_does_4 : List UInt8 := [160, 0, 12, 42, 18, 108, 182, 0, 88, 167, 0, 16, 42, 16, 36, 8, 27, 104, 96, 28, 96, 29]
abbrev dktX10_does_4 : List UInt8 := dkwX10_does_4 ++ dktX10_does_5
def dkwX10_does_3 : List UInt8 := [154, 0, 10, 42, 18, 87, 182, 0, 88, 172, 28, 154, 0, 23, 42, 27, 3, 182, 0, 105, 16, 10]
abbrev dktX10_does_3 : List UInt8 := dkwX10_does_3 ++ dktX10_does_4
def dkwX10_does_2 : List UInt8 := [182, 0, 101, 153, 0, 22, 28, 3, 7, 184, 0, 78, 153, 0, 13, 29, 3, 21, 4, 184, 0, 78]
abbrev dktX10_does_2 : List UInt8 := dkwX10_does_2 ++ dktX10_does_3
def dkwX10_does_1 : List UInt8 := [16, 9, 167, 0, 15, 28, 6, 160, 0, 7, 4, 167, 0, 6, 17, 9, 95, 54, 4, 42, 27, 4]
abbrev dktX10_does_1 : List UInt8 := dkwX10_does_1 ++ dktX10_does_2
def dkwX10_does_0 : List UInt8 := [28, 154, 0, 8, 16, 10, 167, 0, 34, 28, 4, 160, 0, 7, 5, 167, 0, 25, 28, 5, 160, 0, 8]
abbrev dktX10_does_0 : List UInt8 := dkwX10_does_0 ++ dktX10_does_1
theorem dksX10_does_0 : cX10_does.data.toList.drop 0 = dktX10_does_0 := by decide +kernel
theorem dksX10_does_1 : cX10_does.data.toList.drop 23 = dktX10_does_1 := dk_seg dksX10_does_0 23 rfl rfl
theorem dksX10_does_2 : cX10_does.data.toList.drop 45 = dktX10_does_2 := dk_seg dksX10_does_1 22 rfl rfl
theorem dksX10_does_3 : cX10_does.data.toList.drop 67 = dktX10_does_3 := dk_seg dksX10_does_2 22 rfl rfl
theorem dksX10_does_4 : cX10_does.data.toList.drop 89 = dktX10_does_4 := dk_seg dksX10_does_3 22 rfl rfl
theorem dksX10_does_5 : cX10_does.data.toList.drop 111 = dktX10_does_5 := dk_seg dksX10_does_4 22 rfl rfl
theorem dX10_does_0 : decode cX10_does 0 = .ok (.iload_n 2, 1) := dk_28 (dk_at dksX10_does_0 0 rfl rfl)
theorem dX10_does_1 : decode cX10_does 1 = .ok (.ifCond .ne 8, 3) := dk_154 0 8 (dk_at dksX10_does_0 1 rfl rfl)
theorem dX10_does_4 : decode cX10_does 4 = .ok (.bipush 10, 2) := dk_16 10 (dk_at dksX10_does_0 4 rfl rfl)
theorem dX10_does_6 : decode cX10_does 6 = .ok (.goto 34, 3) := dk_167 0 34 (dk_at dksX10_does_0 6 rfl rfl)
theorem dX10_does_9 : decode cX10_does 9 = .ok (.iload_n 2, 1) := dk_28 (dk_at dksX10_does_0 9 rfl rfl)
theorem dX10_does_10 : decode cX10_does 10 = .ok (.iconst 1, 1) := dk_4 (dk_at dksX10_does_0 10 rfl rfl)
theorem dX10_does_11 : decode cX10_does 11 = .ok (.if_icmp .ne 7, 3) := dk_160 0 7 (dk_at dksX10_does_0 11 rfl rfl)
theorem dX10_does_14 : decode cX10_does 14 = .ok (.iconst 2, 1) := dk_5 (dk_at dksX10_does_0 14 rfl rfl)
theorem dX10_does_15 : decode cX10_does 15 = .ok (.goto 25, 3) := dk_167 0 25 (dk_at dksX10_does_0 15 rfl rfl)
theorem dX10_does_18 : decode cX10_does 18 = .ok (.iload_n 2, 1) := dk_28 (dk_at dksX10_does_0 18 rfl rfl)
theorem dX10_does_19 : decode cX10_does 19 = .ok (.iconst 2, 1) := dk_5 (dk_at dksX10_does_0 19 rfl rfl)
theorem dX10_does_20 : decode cX10_does 20 = .ok (.if_icmp .ne 8, 3) := dk_160 0 8 (dk_at dksX10_does_0 20 rfl rfl)
theorem dX10_does_23 : decode cX10_does 23 = .ok (.bipush 9, 2) := dk_16 9 (dk_at dksX10_does_1 0 rfl rfl)
theorem dX10_does_25 : decode cX10_does 25 = .ok (.goto 15, 3) := dk_167 0 15 (dk_at dksX10_does_1 2 rfl rfl)
theorem dX10_does_28 : decode cX10_does 28 = .ok (.iload_n 2, 1) := dk_28 (dk_at dksX10_does_1 5 rfl rfl)
theorem dX10_does_29 : decode cX10_does 29 = .ok (.iconst 3, 1) := dk_6 (dk_at dksX10_does_1 6 rfl rfl)
theorem dX10_does_30 : decode cX10_does 30 = .ok (.if_icmp .ne 7, 3) := dk_160 0 7 (dk_at dksX10_does_1 7 rfl rfl)
theorem dX10_does_33 : decode cX10_does 33 = .ok (.iconst 1, 1) := dk_4 (dk_at dksX10_does_1 10 rfl rfl)
theorem dX10_does_34 : decode cX10_does 34 = .ok (.goto 6, 3) := dk_167 0 6 (dk_at dksX10_does_1 11 rfl rfl)
theorem dX10_does_37 : decode cX10_does 37 = .ok (.sipush 2399, 3) := dk_17 9 95 (dk_at dksX10_does_1 14 rfl rfl)
theorem dX10_does_40 : decode cX10_does 40 = .ok (.istore 4, 2) := dk_54 4 (dk_at dksX10_does_1 17 rfl rfl)
theorem dX10_does_42 : decode cX10_does 42 = .ok (.aload_n 0, 1) := dk_42 (dk_at dksX10_does_1 19 rfl rfl)
theorem dX10_does_43 : decode cX10_does 43 = .ok (.iload_n 1, 1) := dk_27 (dk_at dksX10_does_1 20 rfl rfl)
theorem dX10_does_44 : decode cX10_does 44 = .ok (.iconst 1, 1) := dk_4 (dk_at dksX10_does_1 21 rfl rfl)
theorem dX10_does_45 : decode cX10_does 45 = .ok (.invokevirtual 101, 3) := dk_182 0 101 (dk_at dksX10_does_2 0 rfl rfl)
theorem dX10_does_48 : decode cX10_does 48 = .ok (.ifCond .eq 22, 3) := dk_153 0 22 (dk_at dksX10_does_2 3 rfl rfl)
theorem dX10_does_51 : decode cX10_does 51 = .ok (.iload_n 2, 1) := dk_28 (dk_at dksX10_does_2 6 rfl rfl)
theorem dX10_does_52 : decode cX10_does 52 = .ok (.iconst 0, 1) := dk_3 (dk_at dksX10_does_2 7 rfl rfl)
theorem dX10_does_53 : decode cX10_does 53 = .ok (.iconst 4, 1) := dk_7 (dk_at dksX10_does_2 8 rfl rfl)
theorem dX10_does_54 : decode cX10_does 54 = .ok (.invokestatic 78, 3) := dk_184 0 78 (dk_at dksX10_does_2 9 rfl rfl)
theorem dX10_does_57 : decode cX10_does 57 = .ok (.ifCond .eq 13, 3) := dk_153 0 13 (dk_at dksX10_does_2 12 rfl rfl)
theorem dX10_does_60 : decode cX10_does 60 = .ok (.iload_n 3, 1) := dk_29 (dk_at dksX10_does_2 15 rfl rfl)
theorem dX10_does_61 : decode cX10_does 61 = .ok (.iconst 0, 1) := dk_3 (dk_at dksX10_does_2 16 rfl rfl)
theorem dX10_does_62 : decode cX10_does 62 = .ok (.iload 4, 2) := dk_21 4 (dk_at dksX10_does_2 17 rfl rfl)
theorem dX10_does_64 : decode cX10_does 64 = .ok (.invokestatic 78, 3) := dk_184 0 78 (dk_at dksX10_does_2 19 rfl rfl)
theorem dX10_does_67 : decode cX10_does 67 = .ok (.ifCond .ne 10, 3) := dk_154 0 10 (dk_at dksX10_does_3 0 rfl rfl)
theorem dX10_does_70 : decode cX10_does 70 = .ok (.aload_n 0, 1) := dk_42 (dk_at dksX10_does_3 3 rfl rfl)
theorem dX10_does_71 : decode cX10_does 71 = .ok (.ldc 87, 2) := dk_18 87 (dk_at dksX10_does_3 4 rfl rfl)
theorem dX10_does_73 : decode cX10_does 73 = .ok (.invokevirtual 88, 3) := dk_182 0 88 (dk_at dksX10_does_3 6 rfl rfl)
theorem dX10_does_76 : decode cX10_does 76 = .ok (.ireturn, 1) := dk_172 (dk_at dksX10_does_3 9 rfl rfl)
theorem dX10_does_77 : decode cX10_does 77 = .ok (.iload_n 2, 1) := dk_28 (dk_at dksX10_does_3 10 rfl rfl)
theorem dX10_does_78 : decode cX10_does 78 = .ok (.ifCond .ne 23, 3) := dk_154 0 23 (dk_at dksX10_does_3 11 rfl rfl)
theorem dX10_does_81 : decode cX10_does 81 = .ok (.aload_n 0, 1) := dk_42 (dk_at dksX10_does_3 14 rfl rfl)
theorem dX10_does_82 : decode cX10_does 82 = .ok (.iload_n 1, 1) := dk_27 (dk_at dksX10_does_3 15 rfl rfl)
theorem dX10_does_83 : decode cX10_does 83 = .ok (.iconst 0, 1) := dk_3 (dk_at dksX10_does_3 16 rfl rfl)
theorem dX10_does_84 : decode cX10_does 84 = .ok (.invokevirtual 105, 3) := dk_182 0 105 (dk_at dksX10_does_3 17 rfl rfl)
theorem dX10_does_87 : decode cX10_does 87 = .ok (.bipush 10, 2) := dk_16 10 (dk_at dksX10_does_3 20 rfl rfl)
theorem dX10_does_89 : decode cX10_does 89 = .ok (.if_icmp .ne 12, 3) := dk_160 0 12 (dk_at dksX10_does_4 0 rfl rfl)
theorem dX10_does_92 : decode cX10_does 92 = .ok (.aload_n 0, 1) := dk_42 (dk_at dksX10_does_4 3 rfl rfl)
theorem dX10_does_93 : decode cX10_does 93 = .ok (.ldc 108, 2) := dk_18 108 (dk_at dksX10_does_4 4 rfl rfl)
theorem dX10_does_95 : decode cX10_does 95 = .ok (.invokevirtual 88, 3) := dk_182 0 88 (dk_at dksX10_does_4 6 rfl rfl)
theorem dX10_does_98 : decode cX10_does 98 = .ok (.goto 16, 3) := dk_167 0 16 (dk_at dksX10_does_4 9 rfl rfl)
theorem dX10_does_101 : decode cX10_does 101 = .ok (.aload_n 0, 1) := dk_42 (dk_at dksX10_does_4 12 rfl rfl)
theorem dX10_does_102 : decode cX10_does 102 = .ok (.bipush 36, 2) := dk_16 36 (dk_at dksX10_does_4 13 rfl rfl)
theorem dX10_does_104 : decode cX10_does 104 = .ok (.iconst 5, 1) := dk_8 (dk_at dksX10_does_4 15 rfl rfl)
theorem dX10_does_105 : decode cX10_does 105 = .ok (.iload_n 1, 1) := dk_27 (dk_at dksX10_does_4 16 rfl rfl)
theorem dX10_does_106 : decode cX10_does 106 = .ok (.imul, 1) := dk_104 (dk_at dksX10_does_4 17 rfl rfl)
theorem dX10_does_107 : decode cX10_does 107 = .ok (.iadd, 1) := dk_96 (dk_at dksX10_does_4 18 rfl rfl)
theorem dX10_does_108 : decode cX10_does 108 = .ok (.iload_n 2, 1) := dk_28 (dk_at dksX10_does_4 19 rfl rfl)
theorem dX10_does_109 : decode cX10_does 109 = .ok (.iadd, 1) := dk_96 (dk_at dksX10_does_4 20 rfl rfl)
theorem dX10_does_110 : decode cX10_does 110 = .ok (.iload_n 3, 1) := dk_29 (dk_at dksX10_does_4 21 rfl rfl)
theorem dX10_does_111 : decode cX10_does 111 = .ok (.invokevirtual 83, 3) := dk_182 0 83 (dk_at dksX10_does_5 0 rfl rfl)
theorem dX10_does_114 : decode cX10_does 114 = .ok (.ireturn, 1) := dk_172 (dk_at dksX10_does_5 3 rfl rfl)
abbrev cX10_is : ByteArray := prog_37_method_4_code
def yX10_is : MethodName := ⟨RX10, "is", "(II)Z"⟩
def dkwX10_is_0 : List UInt8 := [27, 3, 42, 180, 0, 9, 28, 46, 4, 100, 184, 0, 78, 172]
abbrev dktX10_is_0 : List UInt8 := dkwX10_is_0 ++ []
theorem dksX10_is_0 : cX10_is.data.toList.drop 0 = dktX10_is_0 := by decide +kernel
theorem dX10_is_0 : decode cX10_is 0 = .ok (.iload_n 1, 1) := dk_27 (dk_at dksX10_is_0 0 rfl rfl)
theorem dX10_is_1 : decode cX10_is 1 = .ok (.iconst 0, 1) := dk_3 (dk_at dksX10_is_0 1 rfl rfl)
theorem dX10_is_2 : decode cX10_is 2 = .ok (.aload_n 0, 1) := dk_42 (dk_at dksX10_is_0 2 rfl rfl)
theorem dX10_is_3 : decode cX10_is 3 = .ok (.getfield 9, 3) := dk_180 0 9 (dk_at dksX10_is_0 3 rfl rfl)
theorem dX10_is_6 : decode cX10_is 6 = .ok (.iload_n 2, 1) := dk_28 (dk_at dksX10_is_0 6 rfl rfl)
theorem dX10_is_7 : decode cX10_is 7 = .ok (.iaload, 1) := dk_46 (dk_at dksX10_is_0 7 rfl rfl)
theorem dX10_is_8 : decode cX10_is 8 = .ok (.iconst 1, 1) := dk_4 (dk_at dksX10_is_0 8 rfl rfl)
theorem dX10_is_9 : decode cX10_is 9 = .ok (.isub, 1) := dk_100 (dk_at dksX10_is_0 9 rfl rfl)
theorem dX10_is_10 : decode cX10_is 10 = .ok (.invokestatic 78, 3) := dk_184 0 78 (dk_at dksX10_is_0 10 rfl rfl)
theorem dX10_is_13 : decode cX10_is 13 = .ok (.ireturn, 1) := dk_172 (dk_at dksX10_is_0 13 rfl rfl)
abbrev cX10_man_2 : ByteArray := prog_37_method_11_code
def yX10_man_2 : MethodName := ⟨RX10, "man", "(II)I"⟩
def dkwX10_man_2_0 : List UInt8 := [42, 180, 0, 9, 16, 36, 8, 27, 104, 96, 28, 96, 46, 172]
abbrev dktX10_man_2_0 : List UInt8 := dkwX10_man_2_0 ++ []
theorem dksX10_man_2_0 : cX10_man_2.data.toList.drop 0 = dktX10_man_2_0 := by decide +kernel
theorem dX10_man_2_0 : decode cX10_man_2 0 = .ok (.aload_n 0, 1) := dk_42 (dk_at dksX10_man_2_0 0 rfl rfl)
theorem dX10_man_2_1 : decode cX10_man_2 1 = .ok (.getfield 9, 3) := dk_180 0 9 (dk_at dksX10_man_2_0 1 rfl rfl)
theorem dX10_man_2_4 : decode cX10_man_2 4 = .ok (.bipush 36, 2) := dk_16 36 (dk_at dksX10_man_2_0 4 rfl rfl)
theorem dX10_man_2_6 : decode cX10_man_2 6 = .ok (.iconst 5, 1) := dk_8 (dk_at dksX10_man_2_0 6 rfl rfl)
theorem dX10_man_2_7 : decode cX10_man_2 7 = .ok (.iload_n 1, 1) := dk_27 (dk_at dksX10_man_2_0 7 rfl rfl)
theorem dX10_man_2_8 : decode cX10_man_2 8 = .ok (.imul, 1) := dk_104 (dk_at dksX10_man_2_0 8 rfl rfl)
theorem dX10_man_2_9 : decode cX10_man_2 9 = .ok (.iadd, 1) := dk_96 (dk_at dksX10_man_2_0 9 rfl rfl)
theorem dX10_man_2_10 : decode cX10_man_2 10 = .ok (.iload_n 2, 1) := dk_28 (dk_at dksX10_man_2_0 10 rfl rfl)
theorem dX10_man_2_11 : decode cX10_man_2 11 = .ok (.iadd, 1) := dk_96 (dk_at dksX10_man_2_0 11 rfl rfl)
theorem dX10_man_2_12 : decode cX10_man_2 12 = .ok (.iaload, 1) := dk_46 (dk_at dksX10_man_2_0 12 rfl rfl)
theorem dX10_man_2_13 : decode cX10_man_2 13 = .ok (.ireturn, 1) := dk_172 (dk_at dksX10_man_2_0 13 rfl rfl)
abbrev cX10_of : ByteArray := prog_37_method_15_code
def yX10_of : MethodName := ⟨RX10, "of", "(II)I"⟩
def dkwX10_of_1 : List UInt8 := [167, 0, 9, 42, 18, 87, 182, 0, 88, 172]
abbrev dktX10_of_1 : List UInt8 := dkwX10_of_1 ++ []
def dkwX10_of_0 : List UInt8 := [42, 27, 4, 182, 0, 101, 153, 0, 21, 28, 3, 7, 184, 0, 78, 153, 0, 12, 42, 27, 28, 182, 0, 105]
abbrev dktX10_of_0 : List UInt8 := dkwX10_of_0 ++ dktX10_of_1
theorem dksX10_of_0 : cX10_of.data.toList.drop 0 = dktX10_of_0 := by decide +kernel
theorem dksX10_of_1 : cX10_of.data.toList.drop 24 = dktX10_of_1 := dk_seg dksX10_of_0 24 rfl rfl
theorem dX10_of_0 : decode cX10_of 0 = .ok (.aload_n 0, 1) := dk_42 (dk_at dksX10_of_0 0 rfl rfl)
theorem dX10_of_1 : decode cX10_of 1 = .ok (.iload_n 1, 1) := dk_27 (dk_at dksX10_of_0 1 rfl rfl)
theorem dX10_of_2 : decode cX10_of 2 = .ok (.iconst 1, 1) := dk_4 (dk_at dksX10_of_0 2 rfl rfl)
theorem dX10_of_3 : decode cX10_of 3 = .ok (.invokevirtual 101, 3) := dk_182 0 101 (dk_at dksX10_of_0 3 rfl rfl)
theorem dX10_of_6 : decode cX10_of 6 = .ok (.ifCond .eq 21, 3) := dk_153 0 21 (dk_at dksX10_of_0 6 rfl rfl)
theorem dX10_of_9 : decode cX10_of 9 = .ok (.iload_n 2, 1) := dk_28 (dk_at dksX10_of_0 9 rfl rfl)
theorem dX10_of_10 : decode cX10_of 10 = .ok (.iconst 0, 1) := dk_3 (dk_at dksX10_of_0 10 rfl rfl)
theorem dX10_of_11 : decode cX10_of 11 = .ok (.iconst 4, 1) := dk_7 (dk_at dksX10_of_0 11 rfl rfl)
theorem dX10_of_12 : decode cX10_of 12 = .ok (.invokestatic 78, 3) := dk_184 0 78 (dk_at dksX10_of_0 12 rfl rfl)
theorem dX10_of_15 : decode cX10_of 15 = .ok (.ifCond .eq 12, 3) := dk_153 0 12 (dk_at dksX10_of_0 15 rfl rfl)
theorem dX10_of_18 : decode cX10_of 18 = .ok (.aload_n 0, 1) := dk_42 (dk_at dksX10_of_0 18 rfl rfl)
theorem dX10_of_19 : decode cX10_of 19 = .ok (.iload_n 1, 1) := dk_27 (dk_at dksX10_of_0 19 rfl rfl)
theorem dX10_of_20 : decode cX10_of 20 = .ok (.iload_n 2, 1) := dk_28 (dk_at dksX10_of_0 20 rfl rfl)
theorem dX10_of_21 : decode cX10_of 21 = .ok (.invokevirtual 105, 3) := dk_182 0 105 (dk_at dksX10_of_0 21 rfl rfl)
theorem dX10_of_24 : decode cX10_of 24 = .ok (.goto 9, 3) := dk_167 0 9 (dk_at dksX10_of_1 0 rfl rfl)
theorem dX10_of_27 : decode cX10_of 27 = .ok (.aload_n 0, 1) := dk_42 (dk_at dksX10_of_1 3 rfl rfl)
theorem dX10_of_28 : decode cX10_of 28 = .ok (.ldc 87, 2) := dk_18 87 (dk_at dksX10_of_1 4 rfl rfl)
theorem dX10_of_30 : decode cX10_of 30 = .ok (.invokevirtual 88, 3) := dk_182 0 88 (dk_at dksX10_of_1 6 rfl rfl)
theorem dX10_of_33 : decode cX10_of 33 = .ok (.ireturn, 1) := dk_172 (dk_at dksX10_of_1 9 rfl rfl)
abbrev cX10_door : ByteArray := prog_37_method_16_code
def yX10_door : MethodName := ⟨RX10, "door", "(II)I"⟩
def dkwX10_door_1 : List UInt8 := [28, 182, 0, 83, 167, 0, 9, 42, 18, 87, 182, 0, 88, 172]
abbrev dktX10_door_1 : List UInt8 := dkwX10_door_1 ++ []
def dkwX10_door_0 : List UInt8 := [27, 3, 16, 6, 184, 0, 78, 153, 0, 24, 28, 3, 4, 184, 0, 78, 153, 0, 15, 42, 16, 13, 27, 96]
abbrev dktX10_door_0 : List UInt8 := dkwX10_door_0 ++ dktX10_door_1
theorem dksX10_door_0 : cX10_door.data.toList.drop 0 = dktX10_door_0 := by decide +kernel
theorem dksX10_door_1 : cX10_door.data.toList.drop 24 = dktX10_door_1 := dk_seg dksX10_door_0 24 rfl rfl
theorem dX10_door_0 : decode cX10_door 0 = .ok (.iload_n 1, 1) := dk_27 (dk_at dksX10_door_0 0 rfl rfl)
theorem dX10_door_1 : decode cX10_door 1 = .ok (.iconst 0, 1) := dk_3 (dk_at dksX10_door_0 1 rfl rfl)
theorem dX10_door_2 : decode cX10_door 2 = .ok (.bipush 6, 2) := dk_16 6 (dk_at dksX10_door_0 2 rfl rfl)
theorem dX10_door_4 : decode cX10_door 4 = .ok (.invokestatic 78, 3) := dk_184 0 78 (dk_at dksX10_door_0 4 rfl rfl)
theorem dX10_door_7 : decode cX10_door 7 = .ok (.ifCond .eq 24, 3) := dk_153 0 24 (dk_at dksX10_door_0 7 rfl rfl)
theorem dX10_door_10 : decode cX10_door 10 = .ok (.iload_n 2, 1) := dk_28 (dk_at dksX10_door_0 10 rfl rfl)
theorem dX10_door_11 : decode cX10_door 11 = .ok (.iconst 0, 1) := dk_3 (dk_at dksX10_door_0 11 rfl rfl)
theorem dX10_door_12 : decode cX10_door 12 = .ok (.iconst 1, 1) := dk_4 (dk_at dksX10_door_0 12 rfl rfl)
theorem dX10_door_13 : decode cX10_door 13 = .ok (.invokestatic 78, 3) := dk_184 0 78 (dk_at dksX10_door_0 13 rfl rfl)
theorem dX10_door_16 : decode cX10_door 16 = .ok (.ifCond .eq 15, 3) := dk_153 0 15 (dk_at dksX10_door_0 16 rfl rfl)
theorem dX10_door_19 : decode cX10_door 19 = .ok (.aload_n 0, 1) := dk_42 (dk_at dksX10_door_0 19 rfl rfl)
theorem dX10_door_20 : decode cX10_door 20 = .ok (.bipush 13, 2) := dk_16 13 (dk_at dksX10_door_0 20 rfl rfl)
theorem dX10_door_22 : decode cX10_door 22 = .ok (.iload_n 1, 1) := dk_27 (dk_at dksX10_door_0 22 rfl rfl)
theorem dX10_door_23 : decode cX10_door 23 = .ok (.iadd, 1) := dk_96 (dk_at dksX10_door_0 23 rfl rfl)
theorem dX10_door_24 : decode cX10_door 24 = .ok (.iload_n 2, 1) := dk_28 (dk_at dksX10_door_1 0 rfl rfl)
theorem dX10_door_25 : decode cX10_door 25 = .ok (.invokevirtual 83, 3) := dk_182 0 83 (dk_at dksX10_door_1 1 rfl rfl)
theorem dX10_door_28 : decode cX10_door 28 = .ok (.goto 9, 3) := dk_167 0 9 (dk_at dksX10_door_1 4 rfl rfl)
theorem dX10_door_31 : decode cX10_door 31 = .ok (.aload_n 0, 1) := dk_42 (dk_at dksX10_door_1 7 rfl rfl)
theorem dX10_door_32 : decode cX10_door 32 = .ok (.ldc 87, 2) := dk_18 87 (dk_at dksX10_door_1 8 rfl rfl)
theorem dX10_door_34 : decode cX10_door 34 = .ok (.invokevirtual 88, 3) := dk_182 0 88 (dk_at dksX10_door_1 10 rfl rfl)
theorem dX10_door_37 : decode cX10_door 37 = .ok (.ireturn, 1) := dk_172 (dk_at dksX10_door_1 13 rfl rfl)
abbrev cX10_valve : ByteArray := prog_37_method_17_code
def yX10_valve : MethodName := ⟨RX10, "valve", "(II)I"⟩
def dkwX10_valve_4 : List UInt8 := [172]
abbrev dktX10_valve_4 : List UInt8 := dkwX10_valve_4 ++ []
def dkwX10_valve_3 : List UInt8 := [180, 0, 9, 16, 116, 6, 29, 104, 96, 5, 96, 3, 79, 42, 180, 0, 9, 5, 92, 46, 4, 96, 79, 29]
abbrev dktX10_valve_3 : List UInt8 := dkwX10_valve_3 ++ dktX10_valve_4
def dkwX10_valve_2 : List UInt8 := [16, 116, 6, 29, 104, 96, 27, 79, 42, 180, 0, 9, 16, 116, 6, 29, 104, 96, 4, 96, 28, 79, 42]
abbrev dktX10_valve_2 : List UInt8 := dkwX10_valve_2 ++ dktX10_valve_3
def dkwX10_valve_1 : List UInt8 := [42, 180, 0, 9, 5, 46, 62, 29, 16, 12, 160, 0, 10, 42, 18, 96, 182, 0, 88, 172, 42, 180, 0, 9]
abbrev dktX10_valve_1 : List UInt8 := dkwX10_valve_1 ++ dktX10_valve_2
def dkwX10_valve_0 : List UInt8 := [27, 184, 0, 92, 153, 0, 13, 28, 4, 16, 20, 184, 0, 78, 154, 0, 10, 42, 18, 87, 182, 0, 88, 172]
abbrev dktX10_valve_0 : List UInt8 := dkwX10_valve_0 ++ dktX10_valve_1
theorem dksX10_valve_0 : cX10_valve.data.toList.drop 0 = dktX10_valve_0 := by decide +kernel
theorem dksX10_valve_1 : cX10_valve.data.toList.drop 24 = dktX10_valve_1 := dk_seg dksX10_valve_0 24 rfl rfl
theorem dksX10_valve_2 : cX10_valve.data.toList.drop 48 = dktX10_valve_2 := dk_seg dksX10_valve_1 24 rfl rfl
theorem dksX10_valve_3 : cX10_valve.data.toList.drop 71 = dktX10_valve_3 := dk_seg dksX10_valve_2 23 rfl rfl
theorem dksX10_valve_4 : cX10_valve.data.toList.drop 95 = dktX10_valve_4 := dk_seg dksX10_valve_3 24 rfl rfl
theorem dX10_valve_0 : decode cX10_valve 0 = .ok (.iload_n 1, 1) := dk_27 (dk_at dksX10_valve_0 0 rfl rfl)
theorem dX10_valve_1 : decode cX10_valve 1 = .ok (.invokestatic 92, 3) := dk_184 0 92 (dk_at dksX10_valve_0 1 rfl rfl)
theorem dX10_valve_4 : decode cX10_valve 4 = .ok (.ifCond .eq 13, 3) := dk_153 0 13 (dk_at dksX10_valve_0 4 rfl rfl)
theorem dX10_valve_7 : decode cX10_valve 7 = .ok (.iload_n 2, 1) := dk_28 (dk_at dksX10_valve_0 7 rfl rfl)
theorem dX10_valve_8 : decode cX10_valve 8 = .ok (.iconst 1, 1) := dk_4 (dk_at dksX10_valve_0 8 rfl rfl)
theorem dX10_valve_9 : decode cX10_valve 9 = .ok (.bipush 20, 2) := dk_16 20 (dk_at dksX10_valve_0 9 rfl rfl)
theorem dX10_valve_11 : decode cX10_valve 11 = .ok (.invokestatic 78, 3) := dk_184 0 78 (dk_at dksX10_valve_0 11 rfl rfl)
theorem dX10_valve_14 : decode cX10_valve 14 = .ok (.ifCond .ne 10, 3) := dk_154 0 10 (dk_at dksX10_valve_0 14 rfl rfl)
theorem dX10_valve_17 : decode cX10_valve 17 = .ok (.aload_n 0, 1) := dk_42 (dk_at dksX10_valve_0 17 rfl rfl)
theorem dX10_valve_18 : decode cX10_valve 18 = .ok (.ldc 87, 2) := dk_18 87 (dk_at dksX10_valve_0 18 rfl rfl)
theorem dX10_valve_20 : decode cX10_valve 20 = .ok (.invokevirtual 88, 3) := dk_182 0 88 (dk_at dksX10_valve_0 20 rfl rfl)
theorem dX10_valve_23 : decode cX10_valve 23 = .ok (.ireturn, 1) := dk_172 (dk_at dksX10_valve_0 23 rfl rfl)
theorem dX10_valve_24 : decode cX10_valve 24 = .ok (.aload_n 0, 1) := dk_42 (dk_at dksX10_valve_1 0 rfl rfl)
theorem dX10_valve_25 : decode cX10_valve 25 = .ok (.getfield 9, 3) := dk_180 0 9 (dk_at dksX10_valve_1 1 rfl rfl)
theorem dX10_valve_28 : decode cX10_valve 28 = .ok (.iconst 2, 1) := dk_5 (dk_at dksX10_valve_1 4 rfl rfl)
theorem dX10_valve_29 : decode cX10_valve 29 = .ok (.iaload, 1) := dk_46 (dk_at dksX10_valve_1 5 rfl rfl)
theorem dX10_valve_30 : decode cX10_valve 30 = .ok (.istore_n 3, 1) := dk_62 (dk_at dksX10_valve_1 6 rfl rfl)
theorem dX10_valve_31 : decode cX10_valve 31 = .ok (.iload_n 3, 1) := dk_29 (dk_at dksX10_valve_1 7 rfl rfl)
theorem dX10_valve_32 : decode cX10_valve 32 = .ok (.bipush 12, 2) := dk_16 12 (dk_at dksX10_valve_1 8 rfl rfl)
theorem dX10_valve_34 : decode cX10_valve 34 = .ok (.if_icmp .ne 10, 3) := dk_160 0 10 (dk_at dksX10_valve_1 10 rfl rfl)
theorem dX10_valve_37 : decode cX10_valve 37 = .ok (.aload_n 0, 1) := dk_42 (dk_at dksX10_valve_1 13 rfl rfl)
theorem dX10_valve_38 : decode cX10_valve 38 = .ok (.ldc 96, 2) := dk_18 96 (dk_at dksX10_valve_1 14 rfl rfl)
theorem dX10_valve_40 : decode cX10_valve 40 = .ok (.invokevirtual 88, 3) := dk_182 0 88 (dk_at dksX10_valve_1 16 rfl rfl)
theorem dX10_valve_43 : decode cX10_valve 43 = .ok (.ireturn, 1) := dk_172 (dk_at dksX10_valve_1 19 rfl rfl)
theorem dX10_valve_44 : decode cX10_valve 44 = .ok (.aload_n 0, 1) := dk_42 (dk_at dksX10_valve_1 20 rfl rfl)
theorem dX10_valve_45 : decode cX10_valve 45 = .ok (.getfield 9, 3) := dk_180 0 9 (dk_at dksX10_valve_1 21 rfl rfl)
theorem dX10_valve_48 : decode cX10_valve 48 = .ok (.bipush 116, 2) := dk_16 116 (dk_at dksX10_valve_2 0 rfl rfl)
theorem dX10_valve_50 : decode cX10_valve 50 = .ok (.iconst 3, 1) := dk_6 (dk_at dksX10_valve_2 2 rfl rfl)
theorem dX10_valve_51 : decode cX10_valve 51 = .ok (.iload_n 3, 1) := dk_29 (dk_at dksX10_valve_2 3 rfl rfl)
theorem dX10_valve_52 : decode cX10_valve 52 = .ok (.imul, 1) := dk_104 (dk_at dksX10_valve_2 4 rfl rfl)
theorem dX10_valve_53 : decode cX10_valve 53 = .ok (.iadd, 1) := dk_96 (dk_at dksX10_valve_2 5 rfl rfl)
theorem dX10_valve_54 : decode cX10_valve 54 = .ok (.iload_n 1, 1) := dk_27 (dk_at dksX10_valve_2 6 rfl rfl)
theorem dX10_valve_55 : decode cX10_valve 55 = .ok (.iastore, 1) := dk_79 (dk_at dksX10_valve_2 7 rfl rfl)
theorem dX10_valve_56 : decode cX10_valve 56 = .ok (.aload_n 0, 1) := dk_42 (dk_at dksX10_valve_2 8 rfl rfl)
theorem dX10_valve_57 : decode cX10_valve 57 = .ok (.getfield 9, 3) := dk_180 0 9 (dk_at dksX10_valve_2 9 rfl rfl)
theorem dX10_valve_60 : decode cX10_valve 60 = .ok (.bipush 116, 2) := dk_16 116 (dk_at dksX10_valve_2 12 rfl rfl)
theorem dX10_valve_62 : decode cX10_valve 62 = .ok (.iconst 3, 1) := dk_6 (dk_at dksX10_valve_2 14 rfl rfl)
theorem dX10_valve_63 : decode cX10_valve 63 = .ok (.iload_n 3, 1) := dk_29 (dk_at dksX10_valve_2 15 rfl rfl)
theorem dX10_valve_64 : decode cX10_valve 64 = .ok (.imul, 1) := dk_104 (dk_at dksX10_valve_2 16 rfl rfl)
theorem dX10_valve_65 : decode cX10_valve 65 = .ok (.iadd, 1) := dk_96 (dk_at dksX10_valve_2 17 rfl rfl)
theorem dX10_valve_66 : decode cX10_valve 66 = .ok (.iconst 1, 1) := dk_4 (dk_at dksX10_valve_2 18 rfl rfl)
theorem dX10_valve_67 : decode cX10_valve 67 = .ok (.iadd, 1) := dk_96 (dk_at dksX10_valve_2 19 rfl rfl)
theorem dX10_valve_68 : decode cX10_valve 68 = .ok (.iload_n 2, 1) := dk_28 (dk_at dksX10_valve_2 20 rfl rfl)
theorem dX10_valve_69 : decode cX10_valve 69 = .ok (.iastore, 1) := dk_79 (dk_at dksX10_valve_2 21 rfl rfl)
theorem dX10_valve_70 : decode cX10_valve 70 = .ok (.aload_n 0, 1) := dk_42 (dk_at dksX10_valve_2 22 rfl rfl)
theorem dX10_valve_71 : decode cX10_valve 71 = .ok (.getfield 9, 3) := dk_180 0 9 (dk_at dksX10_valve_3 0 rfl rfl)
theorem dX10_valve_74 : decode cX10_valve 74 = .ok (.bipush 116, 2) := dk_16 116 (dk_at dksX10_valve_3 3 rfl rfl)
theorem dX10_valve_76 : decode cX10_valve 76 = .ok (.iconst 3, 1) := dk_6 (dk_at dksX10_valve_3 5 rfl rfl)
theorem dX10_valve_77 : decode cX10_valve 77 = .ok (.iload_n 3, 1) := dk_29 (dk_at dksX10_valve_3 6 rfl rfl)
theorem dX10_valve_78 : decode cX10_valve 78 = .ok (.imul, 1) := dk_104 (dk_at dksX10_valve_3 7 rfl rfl)
theorem dX10_valve_79 : decode cX10_valve 79 = .ok (.iadd, 1) := dk_96 (dk_at dksX10_valve_3 8 rfl rfl)
theorem dX10_valve_80 : decode cX10_valve 80 = .ok (.iconst 2, 1) := dk_5 (dk_at dksX10_valve_3 9 rfl rfl)
theorem dX10_valve_81 : decode cX10_valve 81 = .ok (.iadd, 1) := dk_96 (dk_at dksX10_valve_3 10 rfl rfl)
theorem dX10_valve_82 : decode cX10_valve 82 = .ok (.iconst 0, 1) := dk_3 (dk_at dksX10_valve_3 11 rfl rfl)
theorem dX10_valve_83 : decode cX10_valve 83 = .ok (.iastore, 1) := dk_79 (dk_at dksX10_valve_3 12 rfl rfl)
theorem dX10_valve_84 : decode cX10_valve 84 = .ok (.aload_n 0, 1) := dk_42 (dk_at dksX10_valve_3 13 rfl rfl)
theorem dX10_valve_85 : decode cX10_valve 85 = .ok (.getfield 9, 3) := dk_180 0 9 (dk_at dksX10_valve_3 14 rfl rfl)
theorem dX10_valve_88 : decode cX10_valve 88 = .ok (.iconst 2, 1) := dk_5 (dk_at dksX10_valve_3 17 rfl rfl)
theorem dX10_valve_89 : decode cX10_valve 89 = .ok (.dup2, 1) := dk_92 (dk_at dksX10_valve_3 18 rfl rfl)
theorem dX10_valve_90 : decode cX10_valve 90 = .ok (.iaload, 1) := dk_46 (dk_at dksX10_valve_3 19 rfl rfl)
theorem dX10_valve_91 : decode cX10_valve 91 = .ok (.iconst 1, 1) := dk_4 (dk_at dksX10_valve_3 20 rfl rfl)
theorem dX10_valve_92 : decode cX10_valve 92 = .ok (.iadd, 1) := dk_96 (dk_at dksX10_valve_3 21 rfl rfl)
theorem dX10_valve_93 : decode cX10_valve 93 = .ok (.iastore, 1) := dk_79 (dk_at dksX10_valve_3 22 rfl rfl)
theorem dX10_valve_94 : decode cX10_valve 94 = .ok (.iload_n 3, 1) := dk_29 (dk_at dksX10_valve_3 23 rfl rfl)
theorem dX10_valve_95 : decode cX10_valve 95 = .ok (.ireturn, 1) := dk_172 (dk_at dksX10_valve_4 0 rfl rfl)
abbrev cX10_turn : ByteArray := prog_37_method_18_code
def yX10_turn : MethodName := ⟨RX10, "turn", "(II)I"⟩
def dkwX10_turn_1 : List UInt8 := [96, 5, 96, 28, 182, 0, 83, 167, 0, 9, 42, 18, 87, 182, 0, 88, 172]
abbrev dktX10_turn_1 : List UInt8 := dkwX10_turn_1 ++ []
def dkwX10_turn_0 : List UInt8 := [42, 27, 5, 182, 0, 101, 153, 0, 28, 28, 3, 4, 184, 0, 78, 153, 0, 19, 42, 16, 116, 6, 27, 104]
abbrev dktX10_turn_0 : List UInt8 := dkwX10_turn_0 ++ dktX10_turn_1
theorem dksX10_turn_0 : cX10_turn.data.toList.drop 0 = dktX10_turn_0 := by decide +kernel
theorem dksX10_turn_1 : cX10_turn.data.toList.drop 24 = dktX10_turn_1 := dk_seg dksX10_turn_0 24 rfl rfl
theorem dX10_turn_0 : decode cX10_turn 0 = .ok (.aload_n 0, 1) := dk_42 (dk_at dksX10_turn_0 0 rfl rfl)
theorem dX10_turn_1 : decode cX10_turn 1 = .ok (.iload_n 1, 1) := dk_27 (dk_at dksX10_turn_0 1 rfl rfl)
theorem dX10_turn_2 : decode cX10_turn 2 = .ok (.iconst 2, 1) := dk_5 (dk_at dksX10_turn_0 2 rfl rfl)
theorem dX10_turn_3 : decode cX10_turn 3 = .ok (.invokevirtual 101, 3) := dk_182 0 101 (dk_at dksX10_turn_0 3 rfl rfl)
theorem dX10_turn_6 : decode cX10_turn 6 = .ok (.ifCond .eq 28, 3) := dk_153 0 28 (dk_at dksX10_turn_0 6 rfl rfl)
theorem dX10_turn_9 : decode cX10_turn 9 = .ok (.iload_n 2, 1) := dk_28 (dk_at dksX10_turn_0 9 rfl rfl)
theorem dX10_turn_10 : decode cX10_turn 10 = .ok (.iconst 0, 1) := dk_3 (dk_at dksX10_turn_0 10 rfl rfl)
theorem dX10_turn_11 : decode cX10_turn 11 = .ok (.iconst 1, 1) := dk_4 (dk_at dksX10_turn_0 11 rfl rfl)
theorem dX10_turn_12 : decode cX10_turn 12 = .ok (.invokestatic 78, 3) := dk_184 0 78 (dk_at dksX10_turn_0 12 rfl rfl)
theorem dX10_turn_15 : decode cX10_turn 15 = .ok (.ifCond .eq 19, 3) := dk_153 0 19 (dk_at dksX10_turn_0 15 rfl rfl)
theorem dX10_turn_18 : decode cX10_turn 18 = .ok (.aload_n 0, 1) := dk_42 (dk_at dksX10_turn_0 18 rfl rfl)
theorem dX10_turn_19 : decode cX10_turn 19 = .ok (.bipush 116, 2) := dk_16 116 (dk_at dksX10_turn_0 19 rfl rfl)
theorem dX10_turn_21 : decode cX10_turn 21 = .ok (.iconst 3, 1) := dk_6 (dk_at dksX10_turn_0 21 rfl rfl)
theorem dX10_turn_22 : decode cX10_turn 22 = .ok (.iload_n 1, 1) := dk_27 (dk_at dksX10_turn_0 22 rfl rfl)
theorem dX10_turn_23 : decode cX10_turn 23 = .ok (.imul, 1) := dk_104 (dk_at dksX10_turn_0 23 rfl rfl)
theorem dX10_turn_24 : decode cX10_turn 24 = .ok (.iadd, 1) := dk_96 (dk_at dksX10_turn_1 0 rfl rfl)
theorem dX10_turn_25 : decode cX10_turn 25 = .ok (.iconst 2, 1) := dk_5 (dk_at dksX10_turn_1 1 rfl rfl)
theorem dX10_turn_26 : decode cX10_turn 26 = .ok (.iadd, 1) := dk_96 (dk_at dksX10_turn_1 2 rfl rfl)
theorem dX10_turn_27 : decode cX10_turn 27 = .ok (.iload_n 2, 1) := dk_28 (dk_at dksX10_turn_1 3 rfl rfl)
theorem dX10_turn_28 : decode cX10_turn 28 = .ok (.invokevirtual 83, 3) := dk_182 0 83 (dk_at dksX10_turn_1 4 rfl rfl)
theorem dX10_turn_31 : decode cX10_turn 31 = .ok (.goto 9, 3) := dk_167 0 9 (dk_at dksX10_turn_1 7 rfl rfl)
theorem dX10_turn_34 : decode cX10_turn 34 = .ok (.aload_n 0, 1) := dk_42 (dk_at dksX10_turn_1 10 rfl rfl)
theorem dX10_turn_35 : decode cX10_turn 35 = .ok (.ldc 87, 2) := dk_18 87 (dk_at dksX10_turn_1 11 rfl rfl)
theorem dX10_turn_37 : decode cX10_turn 37 = .ok (.invokevirtual 88, 3) := dk_182 0 88 (dk_at dksX10_turn_1 13 rfl rfl)
theorem dX10_turn_40 : decode cX10_turn 40 = .ok (.ireturn, 1) := dk_172 (dk_at dksX10_turn_1 16 rfl rfl)
abbrev cX10_room : ByteArray := prog_37_method_20_code
def yX10_room : MethodName := ⟨RX10, "room", "(II)I"⟩
def dkwX10_room_2 : List UInt8 := [167, 0, 5, 16, 28, 27, 96, 46, 172]
abbrev dktX10_room_2 : List UInt8 := dkwX10_room_2 ++ []
def dkwX10_room_1 : List UInt8 := [5, 160, 0, 11, 42, 27, 182, 0, 109, 167, 0, 21, 42, 180, 0, 9, 28, 154, 0, 8, 16, 20]
abbrev dktX10_room_1 : List UInt8 := dkwX10_room_1 ++ dktX10_room_2
def dkwX10_room_0 : List UInt8 := [27, 184, 0, 92, 153, 0, 12, 28, 3, 5, 184, 0, 78, 154, 0, 10, 42, 18, 87, 182, 0, 88, 172, 28]
abbrev dktX10_room_0 : List UInt8 := dkwX10_room_0 ++ dktX10_room_1
theorem dksX10_room_0 : cX10_room.data.toList.drop 0 = dktX10_room_0 := by decide +kernel
theorem dksX10_room_1 : cX10_room.data.toList.drop 24 = dktX10_room_1 := dk_seg dksX10_room_0 24 rfl rfl
theorem dksX10_room_2 : cX10_room.data.toList.drop 46 = dktX10_room_2 := dk_seg dksX10_room_1 22 rfl rfl
theorem dX10_room_0 : decode cX10_room 0 = .ok (.iload_n 1, 1) := dk_27 (dk_at dksX10_room_0 0 rfl rfl)
theorem dX10_room_1 : decode cX10_room 1 = .ok (.invokestatic 92, 3) := dk_184 0 92 (dk_at dksX10_room_0 1 rfl rfl)
theorem dX10_room_4 : decode cX10_room 4 = .ok (.ifCond .eq 12, 3) := dk_153 0 12 (dk_at dksX10_room_0 4 rfl rfl)
theorem dX10_room_7 : decode cX10_room 7 = .ok (.iload_n 2, 1) := dk_28 (dk_at dksX10_room_0 7 rfl rfl)
theorem dX10_room_8 : decode cX10_room 8 = .ok (.iconst 0, 1) := dk_3 (dk_at dksX10_room_0 8 rfl rfl)
theorem dX10_room_9 : decode cX10_room 9 = .ok (.iconst 2, 1) := dk_5 (dk_at dksX10_room_0 9 rfl rfl)
theorem dX10_room_10 : decode cX10_room 10 = .ok (.invokestatic 78, 3) := dk_184 0 78 (dk_at dksX10_room_0 10 rfl rfl)
theorem dX10_room_13 : decode cX10_room 13 = .ok (.ifCond .ne 10, 3) := dk_154 0 10 (dk_at dksX10_room_0 13 rfl rfl)
theorem dX10_room_16 : decode cX10_room 16 = .ok (.aload_n 0, 1) := dk_42 (dk_at dksX10_room_0 16 rfl rfl)
theorem dX10_room_17 : decode cX10_room 17 = .ok (.ldc 87, 2) := dk_18 87 (dk_at dksX10_room_0 17 rfl rfl)
theorem dX10_room_19 : decode cX10_room 19 = .ok (.invokevirtual 88, 3) := dk_182 0 88 (dk_at dksX10_room_0 19 rfl rfl)
theorem dX10_room_22 : decode cX10_room 22 = .ok (.ireturn, 1) := dk_172 (dk_at dksX10_room_0 22 rfl rfl)
theorem dX10_room_23 : decode cX10_room 23 = .ok (.iload_n 2, 1) := dk_28 (dk_at dksX10_room_0 23 rfl rfl)
theorem dX10_room_24 : decode cX10_room 24 = .ok (.iconst 2, 1) := dk_5 (dk_at dksX10_room_1 0 rfl rfl)
theorem dX10_room_25 : decode cX10_room 25 = .ok (.if_icmp .ne 11, 3) := dk_160 0 11 (dk_at dksX10_room_1 1 rfl rfl)
theorem dX10_room_28 : decode cX10_room 28 = .ok (.aload_n 0, 1) := dk_42 (dk_at dksX10_room_1 4 rfl rfl)
theorem dX10_room_29 : decode cX10_room 29 = .ok (.iload_n 1, 1) := dk_27 (dk_at dksX10_room_1 5 rfl rfl)
theorem dX10_room_30 : decode cX10_room 30 = .ok (.invokevirtual 109, 3) := dk_182 0 109 (dk_at dksX10_room_1 6 rfl rfl)
theorem dX10_room_33 : decode cX10_room 33 = .ok (.goto 21, 3) := dk_167 0 21 (dk_at dksX10_room_1 9 rfl rfl)
theorem dX10_room_36 : decode cX10_room 36 = .ok (.aload_n 0, 1) := dk_42 (dk_at dksX10_room_1 12 rfl rfl)
theorem dX10_room_37 : decode cX10_room 37 = .ok (.getfield 9, 3) := dk_180 0 9 (dk_at dksX10_room_1 13 rfl rfl)
theorem dX10_room_40 : decode cX10_room 40 = .ok (.iload_n 2, 1) := dk_28 (dk_at dksX10_room_1 16 rfl rfl)
theorem dX10_room_41 : decode cX10_room 41 = .ok (.ifCond .ne 8, 3) := dk_154 0 8 (dk_at dksX10_room_1 17 rfl rfl)
theorem dX10_room_44 : decode cX10_room 44 = .ok (.bipush 20, 2) := dk_16 20 (dk_at dksX10_room_1 20 rfl rfl)
theorem dX10_room_46 : decode cX10_room 46 = .ok (.goto 5, 3) := dk_167 0 5 (dk_at dksX10_room_2 0 rfl rfl)
theorem dX10_room_49 : decode cX10_room 49 = .ok (.bipush 28, 2) := dk_16 28 (dk_at dksX10_room_2 3 rfl rfl)
theorem dX10_room_51 : decode cX10_room 51 = .ok (.iload_n 1, 1) := dk_27 (dk_at dksX10_room_2 5 rfl rfl)
theorem dX10_room_52 : decode cX10_room 52 = .ok (.iadd, 1) := dk_96 (dk_at dksX10_room_2 6 rfl rfl)
theorem dX10_room_53 : decode cX10_room 53 = .ok (.iaload, 1) := dk_46 (dk_at dksX10_room_2 7 rfl rfl)
theorem dX10_room_54 : decode cX10_room 54 = .ok (.ireturn, 1) := dk_172 (dk_at dksX10_room_2 8 rfl rfl)
abbrev cX10_menIn : ByteArray := prog_37_method_19_code
def yX10_menIn : MethodName := ⟨RX10, "menIn", "(I)I"⟩
def dkwX10_menIn_1 : List UInt8 := [160, 0, 9, 4, 29, 120, 167, 0, 4, 3, 128, 61, 132, 3, 1, 167, 255, 223, 28, 172]
abbrev dktX10_menIn_1 : List UInt8 := dkwX10_menIn_1 ++ []
def dkwX10_menIn_0 : List UInt8 := [3, 61, 3, 62, 29, 42, 180, 0, 9, 4, 46, 162, 0, 29, 28, 42, 29, 3, 182, 0, 105, 27]
abbrev dktX10_menIn_0 : List UInt8 := dkwX10_menIn_0 ++ dktX10_menIn_1
theorem dksX10_menIn_0 : cX10_menIn.data.toList.drop 0 = dktX10_menIn_0 := by decide +kernel
theorem dksX10_menIn_1 : cX10_menIn.data.toList.drop 22 = dktX10_menIn_1 := dk_seg dksX10_menIn_0 22 rfl rfl
theorem dX10_menIn_0 : decode cX10_menIn 0 = .ok (.iconst 0, 1) := dk_3 (dk_at dksX10_menIn_0 0 rfl rfl)
theorem dX10_menIn_1 : decode cX10_menIn 1 = .ok (.istore_n 2, 1) := dk_61 (dk_at dksX10_menIn_0 1 rfl rfl)
theorem dX10_menIn_2 : decode cX10_menIn 2 = .ok (.iconst 0, 1) := dk_3 (dk_at dksX10_menIn_0 2 rfl rfl)
theorem dX10_menIn_3 : decode cX10_menIn 3 = .ok (.istore_n 3, 1) := dk_62 (dk_at dksX10_menIn_0 3 rfl rfl)
theorem dX10_menIn_4 : decode cX10_menIn 4 = .ok (.iload_n 3, 1) := dk_29 (dk_at dksX10_menIn_0 4 rfl rfl)
theorem dX10_menIn_5 : decode cX10_menIn 5 = .ok (.aload_n 0, 1) := dk_42 (dk_at dksX10_menIn_0 5 rfl rfl)
theorem dX10_menIn_6 : decode cX10_menIn 6 = .ok (.getfield 9, 3) := dk_180 0 9 (dk_at dksX10_menIn_0 6 rfl rfl)
theorem dX10_menIn_9 : decode cX10_menIn 9 = .ok (.iconst 1, 1) := dk_4 (dk_at dksX10_menIn_0 9 rfl rfl)
theorem dX10_menIn_10 : decode cX10_menIn 10 = .ok (.iaload, 1) := dk_46 (dk_at dksX10_menIn_0 10 rfl rfl)
theorem dX10_menIn_11 : decode cX10_menIn 11 = .ok (.if_icmp .ge 29, 3) := dk_162 0 29 (dk_at dksX10_menIn_0 11 rfl rfl)
theorem dX10_menIn_14 : decode cX10_menIn 14 = .ok (.iload_n 2, 1) := dk_28 (dk_at dksX10_menIn_0 14 rfl rfl)
theorem dX10_menIn_15 : decode cX10_menIn 15 = .ok (.aload_n 0, 1) := dk_42 (dk_at dksX10_menIn_0 15 rfl rfl)
theorem dX10_menIn_16 : decode cX10_menIn 16 = .ok (.iload_n 3, 1) := dk_29 (dk_at dksX10_menIn_0 16 rfl rfl)
theorem dX10_menIn_17 : decode cX10_menIn 17 = .ok (.iconst 0, 1) := dk_3 (dk_at dksX10_menIn_0 17 rfl rfl)
theorem dX10_menIn_18 : decode cX10_menIn 18 = .ok (.invokevirtual 105, 3) := dk_182 0 105 (dk_at dksX10_menIn_0 18 rfl rfl)
theorem dX10_menIn_21 : decode cX10_menIn 21 = .ok (.iload_n 1, 1) := dk_27 (dk_at dksX10_menIn_0 21 rfl rfl)
theorem dX10_menIn_22 : decode cX10_menIn 22 = .ok (.if_icmp .ne 9, 3) := dk_160 0 9 (dk_at dksX10_menIn_1 0 rfl rfl)
theorem dX10_menIn_25 : decode cX10_menIn 25 = .ok (.iconst 1, 1) := dk_4 (dk_at dksX10_menIn_1 3 rfl rfl)
theorem dX10_menIn_26 : decode cX10_menIn 26 = .ok (.iload_n 3, 1) := dk_29 (dk_at dksX10_menIn_1 4 rfl rfl)
theorem dX10_menIn_27 : decode cX10_menIn 27 = .ok (.ishl, 1) := dk_120 (dk_at dksX10_menIn_1 5 rfl rfl)
theorem dX10_menIn_28 : decode cX10_menIn 28 = .ok (.goto 4, 3) := dk_167 0 4 (dk_at dksX10_menIn_1 6 rfl rfl)
theorem dX10_menIn_31 : decode cX10_menIn 31 = .ok (.iconst 0, 1) := dk_3 (dk_at dksX10_menIn_1 9 rfl rfl)
theorem dX10_menIn_32 : decode cX10_menIn 32 = .ok (.ior, 1) := dk_128 (dk_at dksX10_menIn_1 10 rfl rfl)
theorem dX10_menIn_33 : decode cX10_menIn 33 = .ok (.istore_n 2, 1) := dk_61 (dk_at dksX10_menIn_1 11 rfl rfl)
theorem dX10_menIn_34 : decode cX10_menIn 34 = .ok (.iinc 3 1, 3) := dk_132 3 1 (dk_at dksX10_menIn_1 12 rfl rfl)
theorem dX10_menIn_37 : decode cX10_menIn 37 = .ok (.goto (-33), 3) := dk_167 255 223 (dk_at dksX10_menIn_1 15 rfl rfl)
theorem dX10_menIn_40 : decode cX10_menIn 40 = .ok (.iload_n 2, 1) := dk_28 (dk_at dksX10_menIn_1 18 rfl rfl)
theorem dX10_menIn_41 : decode cX10_menIn 41 = .ok (.ireturn, 1) := dk_172 (dk_at dksX10_menIn_1 19 rfl rfl)
abbrev cX10_pour : ByteArray := prog_37_method_21_code
def yX10_pour : MethodName := ⟨RX10, "pour", "(III)I"⟩
def dkwX10_pour_3 : List UInt8 := [182, 0, 83, 167, 0, 9, 42, 18, 87, 182, 0, 88, 172]
abbrev dktX10_pour_3 : List UInt8 := dkwX10_pour_3 ++ []
def dkwX10_pour_2 : List UInt8 := [54, 4, 21, 4, 153, 0, 24, 42, 28, 154, 0, 8, 16, 20, 167, 0, 5, 16, 28, 27, 96, 29]
abbrev dktX10_pour_2 : List UInt8 := dkwX10_pour_2 ++ dktX10_pour_3
def dkwX10_pour_1 : List UInt8 := [167, 0, 18, 28, 4, 160, 0, 17, 29, 3, 18, 82, 184, 0, 78, 153, 0, 7, 4, 167, 0, 4, 3]
abbrev dktX10_pour_1 : List UInt8 := dkwX10_pour_1 ++ dktX10_pour_2
def dkwX10_pour_0 : List UInt8 := [27, 184, 0, 92, 153, 0, 40, 28, 154, 0, 17, 29, 3, 17, 3, 232, 184, 0, 78, 153, 0, 25]
abbrev dktX10_pour_0 : List UInt8 := dkwX10_pour_0 ++ dktX10_pour_1
theorem dksX10_pour_0 : cX10_pour.data.toList.drop 0 = dktX10_pour_0 := by decide +kernel
theorem dksX10_pour_1 : cX10_pour.data.toList.drop 22 = dktX10_pour_1 := dk_seg dksX10_pour_0 22 rfl rfl
theorem dksX10_pour_2 : cX10_pour.data.toList.drop 45 = dktX10_pour_2 := dk_seg dksX10_pour_1 23 rfl rfl
theorem dksX10_pour_3 : cX10_pour.data.toList.drop 67 = dktX10_pour_3 := dk_seg dksX10_pour_2 22 rfl rfl
theorem dX10_pour_0 : decode cX10_pour 0 = .ok (.iload_n 1, 1) := dk_27 (dk_at dksX10_pour_0 0 rfl rfl)
theorem dX10_pour_1 : decode cX10_pour 1 = .ok (.invokestatic 92, 3) := dk_184 0 92 (dk_at dksX10_pour_0 1 rfl rfl)
theorem dX10_pour_4 : decode cX10_pour 4 = .ok (.ifCond .eq 40, 3) := dk_153 0 40 (dk_at dksX10_pour_0 4 rfl rfl)
theorem dX10_pour_7 : decode cX10_pour 7 = .ok (.iload_n 2, 1) := dk_28 (dk_at dksX10_pour_0 7 rfl rfl)
theorem dX10_pour_8 : decode cX10_pour 8 = .ok (.ifCond .ne 17, 3) := dk_154 0 17 (dk_at dksX10_pour_0 8 rfl rfl)
theorem dX10_pour_11 : decode cX10_pour 11 = .ok (.iload_n 3, 1) := dk_29 (dk_at dksX10_pour_0 11 rfl rfl)
theorem dX10_pour_12 : decode cX10_pour 12 = .ok (.iconst 0, 1) := dk_3 (dk_at dksX10_pour_0 12 rfl rfl)
theorem dX10_pour_13 : decode cX10_pour 13 = .ok (.sipush 1000, 3) := dk_17 3 232 (dk_at dksX10_pour_0 13 rfl rfl)
theorem dX10_pour_16 : decode cX10_pour 16 = .ok (.invokestatic 78, 3) := dk_184 0 78 (dk_at dksX10_pour_0 16 rfl rfl)
theorem dX10_pour_19 : decode cX10_pour 19 = .ok (.ifCond .eq 25, 3) := dk_153 0 25 (dk_at dksX10_pour_0 19 rfl rfl)
theorem dX10_pour_22 : decode cX10_pour 22 = .ok (.goto 18, 3) := dk_167 0 18 (dk_at dksX10_pour_1 0 rfl rfl)
theorem dX10_pour_25 : decode cX10_pour 25 = .ok (.iload_n 2, 1) := dk_28 (dk_at dksX10_pour_1 3 rfl rfl)
theorem dX10_pour_26 : decode cX10_pour 26 = .ok (.iconst 1, 1) := dk_4 (dk_at dksX10_pour_1 4 rfl rfl)
theorem dX10_pour_27 : decode cX10_pour 27 = .ok (.if_icmp .ne 17, 3) := dk_160 0 17 (dk_at dksX10_pour_1 5 rfl rfl)
theorem dX10_pour_30 : decode cX10_pour 30 = .ok (.iload_n 3, 1) := dk_29 (dk_at dksX10_pour_1 8 rfl rfl)
theorem dX10_pour_31 : decode cX10_pour 31 = .ok (.iconst 0, 1) := dk_3 (dk_at dksX10_pour_1 9 rfl rfl)
theorem dX10_pour_32 : decode cX10_pour 32 = .ok (.ldc 82, 2) := dk_18 82 (dk_at dksX10_pour_1 10 rfl rfl)
theorem dX10_pour_34 : decode cX10_pour 34 = .ok (.invokestatic 78, 3) := dk_184 0 78 (dk_at dksX10_pour_1 12 rfl rfl)
theorem dX10_pour_37 : decode cX10_pour 37 = .ok (.ifCond .eq 7, 3) := dk_153 0 7 (dk_at dksX10_pour_1 15 rfl rfl)
theorem dX10_pour_40 : decode cX10_pour 40 = .ok (.iconst 1, 1) := dk_4 (dk_at dksX10_pour_1 18 rfl rfl)
theorem dX10_pour_41 : decode cX10_pour 41 = .ok (.goto 4, 3) := dk_167 0 4 (dk_at dksX10_pour_1 19 rfl rfl)
theorem dX10_pour_44 : decode cX10_pour 44 = .ok (.iconst 0, 1) := dk_3 (dk_at dksX10_pour_1 22 rfl rfl)
theorem dX10_pour_45 : decode cX10_pour 45 = .ok (.istore 4, 2) := dk_54 4 (dk_at dksX10_pour_2 0 rfl rfl)
theorem dX10_pour_47 : decode cX10_pour 47 = .ok (.iload 4, 2) := dk_21 4 (dk_at dksX10_pour_2 2 rfl rfl)
theorem dX10_pour_49 : decode cX10_pour 49 = .ok (.ifCond .eq 24, 3) := dk_153 0 24 (dk_at dksX10_pour_2 4 rfl rfl)
theorem dX10_pour_52 : decode cX10_pour 52 = .ok (.aload_n 0, 1) := dk_42 (dk_at dksX10_pour_2 7 rfl rfl)
theorem dX10_pour_53 : decode cX10_pour 53 = .ok (.iload_n 2, 1) := dk_28 (dk_at dksX10_pour_2 8 rfl rfl)
theorem dX10_pour_54 : decode cX10_pour 54 = .ok (.ifCond .ne 8, 3) := dk_154 0 8 (dk_at dksX10_pour_2 9 rfl rfl)
theorem dX10_pour_57 : decode cX10_pour 57 = .ok (.bipush 20, 2) := dk_16 20 (dk_at dksX10_pour_2 12 rfl rfl)
theorem dX10_pour_59 : decode cX10_pour 59 = .ok (.goto 5, 3) := dk_167 0 5 (dk_at dksX10_pour_2 14 rfl rfl)
theorem dX10_pour_62 : decode cX10_pour 62 = .ok (.bipush 28, 2) := dk_16 28 (dk_at dksX10_pour_2 17 rfl rfl)
theorem dX10_pour_64 : decode cX10_pour 64 = .ok (.iload_n 1, 1) := dk_27 (dk_at dksX10_pour_2 19 rfl rfl)
theorem dX10_pour_65 : decode cX10_pour 65 = .ok (.iadd, 1) := dk_96 (dk_at dksX10_pour_2 20 rfl rfl)
theorem dX10_pour_66 : decode cX10_pour 66 = .ok (.iload_n 3, 1) := dk_29 (dk_at dksX10_pour_2 21 rfl rfl)
theorem dX10_pour_67 : decode cX10_pour 67 = .ok (.invokevirtual 83, 3) := dk_182 0 83 (dk_at dksX10_pour_3 0 rfl rfl)
theorem dX10_pour_70 : decode cX10_pour 70 = .ok (.goto 9, 3) := dk_167 0 9 (dk_at dksX10_pour_3 3 rfl rfl)
theorem dX10_pour_73 : decode cX10_pour 73 = .ok (.aload_n 0, 1) := dk_42 (dk_at dksX10_pour_3 6 rfl rfl)
theorem dX10_pour_74 : decode cX10_pour 74 = .ok (.ldc 87, 2) := dk_18 87 (dk_at dksX10_pour_3 7 rfl rfl)
theorem dX10_pour_76 : decode cX10_pour 76 = .ok (.invokevirtual 88, 3) := dk_182 0 88 (dk_at dksX10_pour_3 9 rfl rfl)
theorem dX10_pour_79 : decode cX10_pour 79 = .ok (.ireturn, 1) := dk_172 (dk_at dksX10_pour_3 12 rfl rfl)
abbrev cX10_minute : ByteArray := prog_37_method_26_code
def yX10_minute : MethodName := ⟨RX10, "minute", "(I)I"⟩
def dkwX10_minute_2 : List UInt8 := [182, 0, 129, 42, 182, 0, 132, 132, 2, 1, 167, 255, 240, 42, 180, 0, 9, 3, 46, 172]
abbrev dktX10_minute_2 : List UInt8 := dkwX10_minute_2 ++ []
def dkwX10_minute_1 : List UInt8 := [27, 96, 17, 9, 95, 164, 0, 10, 42, 18, 108, 182, 0, 88, 172, 3, 61, 28, 27, 162, 0, 17, 42]
abbrev dktX10_minute_1 : List UInt8 := dkwX10_minute_1 ++ dktX10_minute_2
def dkwX10_minute_0 : List UInt8 := [27, 4, 17, 2, 88, 184, 0, 78, 154, 0, 10, 42, 18, 87, 182, 0, 88, 172, 42, 180, 0, 9, 3, 46]
abbrev dktX10_minute_0 : List UInt8 := dkwX10_minute_0 ++ dktX10_minute_1
theorem dksX10_minute_0 : cX10_minute.data.toList.drop 0 = dktX10_minute_0 := by decide +kernel
theorem dksX10_minute_1 : cX10_minute.data.toList.drop 24 = dktX10_minute_1 := dk_seg dksX10_minute_0 24 rfl rfl
theorem dksX10_minute_2 : cX10_minute.data.toList.drop 47 = dktX10_minute_2 := dk_seg dksX10_minute_1 23 rfl rfl
theorem dX10_minute_0 : decode cX10_minute 0 = .ok (.iload_n 1, 1) := dk_27 (dk_at dksX10_minute_0 0 rfl rfl)
theorem dX10_minute_1 : decode cX10_minute 1 = .ok (.iconst 1, 1) := dk_4 (dk_at dksX10_minute_0 1 rfl rfl)
theorem dX10_minute_2 : decode cX10_minute 2 = .ok (.sipush 600, 3) := dk_17 2 88 (dk_at dksX10_minute_0 2 rfl rfl)
theorem dX10_minute_5 : decode cX10_minute 5 = .ok (.invokestatic 78, 3) := dk_184 0 78 (dk_at dksX10_minute_0 5 rfl rfl)
theorem dX10_minute_8 : decode cX10_minute 8 = .ok (.ifCond .ne 10, 3) := dk_154 0 10 (dk_at dksX10_minute_0 8 rfl rfl)
theorem dX10_minute_11 : decode cX10_minute 11 = .ok (.aload_n 0, 1) := dk_42 (dk_at dksX10_minute_0 11 rfl rfl)
theorem dX10_minute_12 : decode cX10_minute 12 = .ok (.ldc 87, 2) := dk_18 87 (dk_at dksX10_minute_0 12 rfl rfl)
theorem dX10_minute_14 : decode cX10_minute 14 = .ok (.invokevirtual 88, 3) := dk_182 0 88 (dk_at dksX10_minute_0 14 rfl rfl)
theorem dX10_minute_17 : decode cX10_minute 17 = .ok (.ireturn, 1) := dk_172 (dk_at dksX10_minute_0 17 rfl rfl)
theorem dX10_minute_18 : decode cX10_minute 18 = .ok (.aload_n 0, 1) := dk_42 (dk_at dksX10_minute_0 18 rfl rfl)
theorem dX10_minute_19 : decode cX10_minute 19 = .ok (.getfield 9, 3) := dk_180 0 9 (dk_at dksX10_minute_0 19 rfl rfl)
theorem dX10_minute_22 : decode cX10_minute 22 = .ok (.iconst 0, 1) := dk_3 (dk_at dksX10_minute_0 22 rfl rfl)
theorem dX10_minute_23 : decode cX10_minute 23 = .ok (.iaload, 1) := dk_46 (dk_at dksX10_minute_0 23 rfl rfl)
theorem dX10_minute_24 : decode cX10_minute 24 = .ok (.iload_n 1, 1) := dk_27 (dk_at dksX10_minute_1 0 rfl rfl)
theorem dX10_minute_25 : decode cX10_minute 25 = .ok (.iadd, 1) := dk_96 (dk_at dksX10_minute_1 1 rfl rfl)
theorem dX10_minute_26 : decode cX10_minute 26 = .ok (.sipush 2399, 3) := dk_17 9 95 (dk_at dksX10_minute_1 2 rfl rfl)
theorem dX10_minute_29 : decode cX10_minute 29 = .ok (.if_icmp .le 10, 3) := dk_164 0 10 (dk_at dksX10_minute_1 5 rfl rfl)
theorem dX10_minute_32 : decode cX10_minute 32 = .ok (.aload_n 0, 1) := dk_42 (dk_at dksX10_minute_1 8 rfl rfl)
theorem dX10_minute_33 : decode cX10_minute 33 = .ok (.ldc 108, 2) := dk_18 108 (dk_at dksX10_minute_1 9 rfl rfl)
theorem dX10_minute_35 : decode cX10_minute 35 = .ok (.invokevirtual 88, 3) := dk_182 0 88 (dk_at dksX10_minute_1 11 rfl rfl)
theorem dX10_minute_38 : decode cX10_minute 38 = .ok (.ireturn, 1) := dk_172 (dk_at dksX10_minute_1 14 rfl rfl)
theorem dX10_minute_39 : decode cX10_minute 39 = .ok (.iconst 0, 1) := dk_3 (dk_at dksX10_minute_1 15 rfl rfl)
theorem dX10_minute_40 : decode cX10_minute 40 = .ok (.istore_n 2, 1) := dk_61 (dk_at dksX10_minute_1 16 rfl rfl)
theorem dX10_minute_41 : decode cX10_minute 41 = .ok (.iload_n 2, 1) := dk_28 (dk_at dksX10_minute_1 17 rfl rfl)
theorem dX10_minute_42 : decode cX10_minute 42 = .ok (.iload_n 1, 1) := dk_27 (dk_at dksX10_minute_1 18 rfl rfl)
theorem dX10_minute_43 : decode cX10_minute 43 = .ok (.if_icmp .ge 17, 3) := dk_162 0 17 (dk_at dksX10_minute_1 19 rfl rfl)
theorem dX10_minute_46 : decode cX10_minute 46 = .ok (.aload_n 0, 1) := dk_42 (dk_at dksX10_minute_1 22 rfl rfl)
theorem dX10_minute_47 : decode cX10_minute 47 = .ok (.invokevirtual 129, 3) := dk_182 0 129 (dk_at dksX10_minute_2 0 rfl rfl)
theorem dX10_minute_50 : decode cX10_minute 50 = .ok (.aload_n 0, 1) := dk_42 (dk_at dksX10_minute_2 3 rfl rfl)
theorem dX10_minute_51 : decode cX10_minute 51 = .ok (.invokevirtual 132, 3) := dk_182 0 132 (dk_at dksX10_minute_2 4 rfl rfl)
theorem dX10_minute_54 : decode cX10_minute 54 = .ok (.iinc 2 1, 3) := dk_132 2 1 (dk_at dksX10_minute_2 7 rfl rfl)
theorem dX10_minute_57 : decode cX10_minute 57 = .ok (.goto (-16), 3) := dk_167 255 240 (dk_at dksX10_minute_2 10 rfl rfl)
theorem dX10_minute_60 : decode cX10_minute 60 = .ok (.aload_n 0, 1) := dk_42 (dk_at dksX10_minute_2 13 rfl rfl)
theorem dX10_minute_61 : decode cX10_minute 61 = .ok (.getfield 9, 3) := dk_180 0 9 (dk_at dksX10_minute_2 14 rfl rfl)
theorem dX10_minute_64 : decode cX10_minute 64 = .ok (.iconst 0, 1) := dk_3 (dk_at dksX10_minute_2 17 rfl rfl)
theorem dX10_minute_65 : decode cX10_minute 65 = .ok (.iaload, 1) := dk_46 (dk_at dksX10_minute_2 18 rfl rfl)
theorem dX10_minute_66 : decode cX10_minute 66 = .ok (.ireturn, 1) := dk_172 (dk_at dksX10_minute_2 19 rfl rfl)
abbrev cX10_air : ByteArray := prog_37_method_23_code
def yX10_air : MethodName := ⟨RX10, "air", "()V"⟩
def dkwX10_air_3 : List UInt8 := [16, 28, 182, 0, 116, 177]
abbrev dktX10_air_3 : List UInt8 := dkwX10_air_3 ++ []
def dkwX10_air_2 : List UInt8 := [182, 0, 105, 42, 180, 0, 9, 16, 28, 28, 96, 46, 182, 0, 112, 96, 79, 132, 1, 1, 167, 255, 191, 42]
abbrev dktX10_air_2 : List UInt8 := dkwX10_air_2 ++ dktX10_air_3
def dkwX10_air_1 : List UInt8 := [153, 0, 41, 42, 180, 0, 9, 16, 28, 28, 96, 92, 46, 42, 3, 42, 27, 4, 182, 0, 105, 42, 27, 5]
abbrev dktX10_air_1 : List UInt8 := dkwX10_air_1 ++ dktX10_air_2
def dkwX10_air_0 : List UInt8 := [3, 60, 27, 42, 180, 0, 9, 4, 46, 162, 0, 61, 42, 27, 3, 182, 0, 105, 61, 28, 184, 0, 92]
abbrev dktX10_air_0 : List UInt8 := dkwX10_air_0 ++ dktX10_air_1
theorem dksX10_air_0 : cX10_air.data.toList.drop 0 = dktX10_air_0 := by decide +kernel
theorem dksX10_air_1 : cX10_air.data.toList.drop 23 = dktX10_air_1 := dk_seg dksX10_air_0 23 rfl rfl
theorem dksX10_air_2 : cX10_air.data.toList.drop 47 = dktX10_air_2 := dk_seg dksX10_air_1 24 rfl rfl
theorem dksX10_air_3 : cX10_air.data.toList.drop 71 = dktX10_air_3 := dk_seg dksX10_air_2 24 rfl rfl
theorem dX10_air_0 : decode cX10_air 0 = .ok (.iconst 0, 1) := dk_3 (dk_at dksX10_air_0 0 rfl rfl)
theorem dX10_air_1 : decode cX10_air 1 = .ok (.istore_n 1, 1) := dk_60 (dk_at dksX10_air_0 1 rfl rfl)
theorem dX10_air_2 : decode cX10_air 2 = .ok (.iload_n 1, 1) := dk_27 (dk_at dksX10_air_0 2 rfl rfl)
theorem dX10_air_3 : decode cX10_air 3 = .ok (.aload_n 0, 1) := dk_42 (dk_at dksX10_air_0 3 rfl rfl)
theorem dX10_air_4 : decode cX10_air 4 = .ok (.getfield 9, 3) := dk_180 0 9 (dk_at dksX10_air_0 4 rfl rfl)
theorem dX10_air_7 : decode cX10_air 7 = .ok (.iconst 1, 1) := dk_4 (dk_at dksX10_air_0 7 rfl rfl)
theorem dX10_air_8 : decode cX10_air 8 = .ok (.iaload, 1) := dk_46 (dk_at dksX10_air_0 8 rfl rfl)
theorem dX10_air_9 : decode cX10_air 9 = .ok (.if_icmp .ge 61, 3) := dk_162 0 61 (dk_at dksX10_air_0 9 rfl rfl)
theorem dX10_air_12 : decode cX10_air 12 = .ok (.aload_n 0, 1) := dk_42 (dk_at dksX10_air_0 12 rfl rfl)
theorem dX10_air_13 : decode cX10_air 13 = .ok (.iload_n 1, 1) := dk_27 (dk_at dksX10_air_0 13 rfl rfl)
theorem dX10_air_14 : decode cX10_air 14 = .ok (.iconst 0, 1) := dk_3 (dk_at dksX10_air_0 14 rfl rfl)
theorem dX10_air_15 : decode cX10_air 15 = .ok (.invokevirtual 105, 3) := dk_182 0 105 (dk_at dksX10_air_0 15 rfl rfl)
theorem dX10_air_18 : decode cX10_air 18 = .ok (.istore_n 2, 1) := dk_61 (dk_at dksX10_air_0 18 rfl rfl)
theorem dX10_air_19 : decode cX10_air 19 = .ok (.iload_n 2, 1) := dk_28 (dk_at dksX10_air_0 19 rfl rfl)
theorem dX10_air_20 : decode cX10_air 20 = .ok (.invokestatic 92, 3) := dk_184 0 92 (dk_at dksX10_air_0 20 rfl rfl)
theorem dX10_air_23 : decode cX10_air 23 = .ok (.ifCond .eq 41, 3) := dk_153 0 41 (dk_at dksX10_air_1 0 rfl rfl)
theorem dX10_air_26 : decode cX10_air 26 = .ok (.aload_n 0, 1) := dk_42 (dk_at dksX10_air_1 3 rfl rfl)
theorem dX10_air_27 : decode cX10_air 27 = .ok (.getfield 9, 3) := dk_180 0 9 (dk_at dksX10_air_1 4 rfl rfl)
theorem dX10_air_30 : decode cX10_air 30 = .ok (.bipush 28, 2) := dk_16 28 (dk_at dksX10_air_1 7 rfl rfl)
theorem dX10_air_32 : decode cX10_air 32 = .ok (.iload_n 2, 1) := dk_28 (dk_at dksX10_air_1 9 rfl rfl)
theorem dX10_air_33 : decode cX10_air 33 = .ok (.iadd, 1) := dk_96 (dk_at dksX10_air_1 10 rfl rfl)
theorem dX10_air_34 : decode cX10_air 34 = .ok (.dup2, 1) := dk_92 (dk_at dksX10_air_1 11 rfl rfl)
theorem dX10_air_35 : decode cX10_air 35 = .ok (.iaload, 1) := dk_46 (dk_at dksX10_air_1 12 rfl rfl)
theorem dX10_air_36 : decode cX10_air 36 = .ok (.aload_n 0, 1) := dk_42 (dk_at dksX10_air_1 13 rfl rfl)
theorem dX10_air_37 : decode cX10_air 37 = .ok (.iconst 0, 1) := dk_3 (dk_at dksX10_air_1 14 rfl rfl)
theorem dX10_air_38 : decode cX10_air 38 = .ok (.aload_n 0, 1) := dk_42 (dk_at dksX10_air_1 15 rfl rfl)
theorem dX10_air_39 : decode cX10_air 39 = .ok (.iload_n 1, 1) := dk_27 (dk_at dksX10_air_1 16 rfl rfl)
theorem dX10_air_40 : decode cX10_air 40 = .ok (.iconst 1, 1) := dk_4 (dk_at dksX10_air_1 17 rfl rfl)
theorem dX10_air_41 : decode cX10_air 41 = .ok (.invokevirtual 105, 3) := dk_182 0 105 (dk_at dksX10_air_1 18 rfl rfl)
theorem dX10_air_44 : decode cX10_air 44 = .ok (.aload_n 0, 1) := dk_42 (dk_at dksX10_air_1 21 rfl rfl)
theorem dX10_air_45 : decode cX10_air 45 = .ok (.iload_n 1, 1) := dk_27 (dk_at dksX10_air_1 22 rfl rfl)
theorem dX10_air_46 : decode cX10_air 46 = .ok (.iconst 2, 1) := dk_5 (dk_at dksX10_air_1 23 rfl rfl)
theorem dX10_air_47 : decode cX10_air 47 = .ok (.invokevirtual 105, 3) := dk_182 0 105 (dk_at dksX10_air_2 0 rfl rfl)
theorem dX10_air_50 : decode cX10_air 50 = .ok (.aload_n 0, 1) := dk_42 (dk_at dksX10_air_2 3 rfl rfl)
theorem dX10_air_51 : decode cX10_air 51 = .ok (.getfield 9, 3) := dk_180 0 9 (dk_at dksX10_air_2 4 rfl rfl)
theorem dX10_air_54 : decode cX10_air 54 = .ok (.bipush 28, 2) := dk_16 28 (dk_at dksX10_air_2 7 rfl rfl)
theorem dX10_air_56 : decode cX10_air 56 = .ok (.iload_n 2, 1) := dk_28 (dk_at dksX10_air_2 9 rfl rfl)
theorem dX10_air_57 : decode cX10_air 57 = .ok (.iadd, 1) := dk_96 (dk_at dksX10_air_2 10 rfl rfl)
theorem dX10_air_58 : decode cX10_air 58 = .ok (.iaload, 1) := dk_46 (dk_at dksX10_air_2 11 rfl rfl)
theorem dX10_air_59 : decode cX10_air 59 = .ok (.invokevirtual 112, 3) := dk_182 0 112 (dk_at dksX10_air_2 12 rfl rfl)
theorem dX10_air_62 : decode cX10_air 62 = .ok (.iadd, 1) := dk_96 (dk_at dksX10_air_2 15 rfl rfl)
theorem dX10_air_63 : decode cX10_air 63 = .ok (.iastore, 1) := dk_79 (dk_at dksX10_air_2 16 rfl rfl)
theorem dX10_air_64 : decode cX10_air 64 = .ok (.iinc 1 1, 3) := dk_132 1 1 (dk_at dksX10_air_2 17 rfl rfl)
theorem dX10_air_67 : decode cX10_air 67 = .ok (.goto (-65), 3) := dk_167 255 191 (dk_at dksX10_air_2 20 rfl rfl)
theorem dX10_air_70 : decode cX10_air 70 = .ok (.aload_n 0, 1) := dk_42 (dk_at dksX10_air_2 23 rfl rfl)
theorem dX10_air_71 : decode cX10_air 71 = .ok (.bipush 28, 2) := dk_16 28 (dk_at dksX10_air_3 0 rfl rfl)
theorem dX10_air_73 : decode cX10_air 73 = .ok (.invokevirtual 116, 3) := dk_182 0 116 (dk_at dksX10_air_3 2 rfl rfl)
theorem dX10_air_76 : decode cX10_air 76 = .ok (.return_, 1) := dk_177 (dk_at dksX10_air_3 5 rfl rfl)
abbrev cX10_given : ByteArray := prog_37_method_45_code
def yX10_given : MethodName := ⟨RX10, "given", "(IIII)I"⟩
def dkwX10_given_7 : List UInt8 := [167, 0, 4, 3, 172, 21, 6, 153, 0, 8, 21, 7, 167, 0, 4, 29, 16, 24, 184, 0, 214, 172]
abbrev dktX10_given_7 : List UInt8 := dkwX10_given_7 ++ []
def dkwX10_given_6 : List UInt8 := [153, 0, 11, 21, 7, 153, 0, 20, 167, 0, 13, 28, 17, 1, 104, 112, 16, 40, 162, 0, 7, 4]
abbrev dktX10_given_6 : List UInt8 := dkwX10_given_6 ++ dktX10_given_7
def dkwX10_given_5 : List UInt8 := [21, 7, 167, 0, 12, 28, 29, 16, 10, 108, 96, 21, 4, 100, 17, 3, 232, 184, 0, 214, 172, 21, 6]
abbrev dktX10_given_5 : List UInt8 := dkwX10_given_5 ++ dktX10_given_6
def dkwX10_given_4 : List UInt8 := [21, 6, 153, 0, 8, 21, 7, 167, 0, 6, 4, 28, 96, 16, 99, 184, 0, 214, 172, 21, 6, 153, 0, 8]
abbrev dktX10_given_4 : List UInt8 := dkwX10_given_4 ++ dktX10_given_5
def dkwX10_given_3 : List UInt8 := [170, 0, 0, 0, 0, 0, 101, 0, 0, 0, 0, 0, 0, 0, 2, 0, 0, 0, 27, 0, 0, 0, 46, 0, 0, 0, 72]
abbrev dktX10_given_3 : List UInt8 := dkwX10_given_3 ++ dktX10_given_4
def dkwX10_given_2 : List UInt8 := [167, 0, 4, 3, 54, 7, 27]
abbrev dktX10_given_2 : List UInt8 := dkwX10_given_2 ++ dktX10_given_3
def dkwX10_given_1 : List UInt8 := [4, 167, 0, 4, 3, 54, 6, 21, 6, 153, 0, 16, 42, 21, 5, 28, 29, 21, 4, 182, 0, 211]
abbrev dktX10_given_1 : List UInt8 := dkwX10_given_1 ++ dktX10_given_2
def dkwX10_given_0 : List UInt8 := [17, 1, 138, 16, 52, 27, 104, 96, 4, 96, 54, 5, 42, 180, 0, 9, 21, 5, 4, 100, 46, 158, 0, 7]
abbrev dktX10_given_0 : List UInt8 := dkwX10_given_0 ++ dktX10_given_1
theorem dksX10_given_0 : cX10_given.data.toList.drop 0 = dktX10_given_0 := by decide +kernel
theorem dksX10_given_1 : cX10_given.data.toList.drop 24 = dktX10_given_1 := dk_seg dksX10_given_0 24 rfl rfl
theorem dksX10_given_2 : cX10_given.data.toList.drop 46 = dktX10_given_2 := dk_seg dksX10_given_1 22 rfl rfl
theorem dksX10_given_3 : cX10_given.data.toList.drop 53 = dktX10_given_3 := dk_seg dksX10_given_2 7 rfl rfl
theorem dksX10_given_4 : cX10_given.data.toList.drop 80 = dktX10_given_4 := dk_seg dksX10_given_3 27 rfl rfl
theorem dksX10_given_5 : cX10_given.data.toList.drop 104 = dktX10_given_5 := dk_seg dksX10_given_4 24 rfl rfl
theorem dksX10_given_6 : cX10_given.data.toList.drop 127 = dktX10_given_6 := dk_seg dksX10_given_5 23 rfl rfl
theorem dksX10_given_7 : cX10_given.data.toList.drop 149 = dktX10_given_7 := dk_seg dksX10_given_6 22 rfl rfl
theorem dX10_given_0 : decode cX10_given 0 = .ok (.sipush 394, 3) := dk_17 1 138 (dk_at dksX10_given_0 0 rfl rfl)
theorem dX10_given_3 : decode cX10_given 3 = .ok (.bipush 52, 2) := dk_16 52 (dk_at dksX10_given_0 3 rfl rfl)
theorem dX10_given_5 : decode cX10_given 5 = .ok (.iload_n 1, 1) := dk_27 (dk_at dksX10_given_0 5 rfl rfl)
theorem dX10_given_6 : decode cX10_given 6 = .ok (.imul, 1) := dk_104 (dk_at dksX10_given_0 6 rfl rfl)
theorem dX10_given_7 : decode cX10_given 7 = .ok (.iadd, 1) := dk_96 (dk_at dksX10_given_0 7 rfl rfl)
theorem dX10_given_8 : decode cX10_given 8 = .ok (.iconst 1, 1) := dk_4 (dk_at dksX10_given_0 8 rfl rfl)
theorem dX10_given_9 : decode cX10_given 9 = .ok (.iadd, 1) := dk_96 (dk_at dksX10_given_0 9 rfl rfl)
theorem dX10_given_10 : decode cX10_given 10 = .ok (.istore 5, 2) := dk_54 5 (dk_at dksX10_given_0 10 rfl rfl)
theorem dX10_given_12 : decode cX10_given 12 = .ok (.aload_n 0, 1) := dk_42 (dk_at dksX10_given_0 12 rfl rfl)
theorem dX10_given_13 : decode cX10_given 13 = .ok (.getfield 9, 3) := dk_180 0 9 (dk_at dksX10_given_0 13 rfl rfl)
theorem dX10_given_16 : decode cX10_given 16 = .ok (.iload 5, 2) := dk_21 5 (dk_at dksX10_given_0 16 rfl rfl)
theorem dX10_given_18 : decode cX10_given 18 = .ok (.iconst 1, 1) := dk_4 (dk_at dksX10_given_0 18 rfl rfl)
theorem dX10_given_19 : decode cX10_given 19 = .ok (.isub, 1) := dk_100 (dk_at dksX10_given_0 19 rfl rfl)
theorem dX10_given_20 : decode cX10_given 20 = .ok (.iaload, 1) := dk_46 (dk_at dksX10_given_0 20 rfl rfl)
theorem dX10_given_21 : decode cX10_given 21 = .ok (.ifCond .le 7, 3) := dk_158 0 7 (dk_at dksX10_given_0 21 rfl rfl)
theorem dX10_given_24 : decode cX10_given 24 = .ok (.iconst 1, 1) := dk_4 (dk_at dksX10_given_1 0 rfl rfl)
theorem dX10_given_25 : decode cX10_given 25 = .ok (.goto 4, 3) := dk_167 0 4 (dk_at dksX10_given_1 1 rfl rfl)
theorem dX10_given_28 : decode cX10_given 28 = .ok (.iconst 0, 1) := dk_3 (dk_at dksX10_given_1 4 rfl rfl)
theorem dX10_given_29 : decode cX10_given 29 = .ok (.istore 6, 2) := dk_54 6 (dk_at dksX10_given_1 5 rfl rfl)
theorem dX10_given_31 : decode cX10_given 31 = .ok (.iload 6, 2) := dk_21 6 (dk_at dksX10_given_1 7 rfl rfl)
theorem dX10_given_33 : decode cX10_given 33 = .ok (.ifCond .eq 16, 3) := dk_153 0 16 (dk_at dksX10_given_1 9 rfl rfl)
theorem dX10_given_36 : decode cX10_given 36 = .ok (.aload_n 0, 1) := dk_42 (dk_at dksX10_given_1 12 rfl rfl)
theorem dX10_given_37 : decode cX10_given 37 = .ok (.iload 5, 2) := dk_21 5 (dk_at dksX10_given_1 13 rfl rfl)
theorem dX10_given_39 : decode cX10_given 39 = .ok (.iload_n 2, 1) := dk_28 (dk_at dksX10_given_1 15 rfl rfl)
theorem dX10_given_40 : decode cX10_given 40 = .ok (.iload_n 3, 1) := dk_29 (dk_at dksX10_given_1 16 rfl rfl)
theorem dX10_given_41 : decode cX10_given 41 = .ok (.iload 4, 2) := dk_21 4 (dk_at dksX10_given_1 17 rfl rfl)
theorem dX10_given_43 : decode cX10_given 43 = .ok (.invokevirtual 211, 3) := dk_182 0 211 (dk_at dksX10_given_1 19 rfl rfl)
theorem dX10_given_46 : decode cX10_given 46 = .ok (.goto 4, 3) := dk_167 0 4 (dk_at dksX10_given_2 0 rfl rfl)
theorem dX10_given_49 : decode cX10_given 49 = .ok (.iconst 0, 1) := dk_3 (dk_at dksX10_given_2 3 rfl rfl)
theorem dX10_given_50 : decode cX10_given 50 = .ok (.istore 7, 2) := dk_54 7 (dk_at dksX10_given_2 4 rfl rfl)
theorem dX10_given_52 : decode cX10_given 52 = .ok (.iload_n 1, 1) := dk_27 (dk_at dksX10_given_2 6 rfl rfl)
theorem dX10_given_53 : decode cX10_given 53 = .ok (.tableswitch 101 0 2 #[27, 46, 72], 27) := by decide +kernel
theorem dX10_given_80 : decode cX10_given 80 = .ok (.iload 6, 2) := dk_21 6 (dk_at dksX10_given_4 0 rfl rfl)
theorem dX10_given_82 : decode cX10_given 82 = .ok (.ifCond .eq 8, 3) := dk_153 0 8 (dk_at dksX10_given_4 2 rfl rfl)
theorem dX10_given_85 : decode cX10_given 85 = .ok (.iload 7, 2) := dk_21 7 (dk_at dksX10_given_4 5 rfl rfl)
theorem dX10_given_87 : decode cX10_given 87 = .ok (.goto 6, 3) := dk_167 0 6 (dk_at dksX10_given_4 7 rfl rfl)
theorem dX10_given_90 : decode cX10_given 90 = .ok (.iconst 1, 1) := dk_4 (dk_at dksX10_given_4 10 rfl rfl)
theorem dX10_given_91 : decode cX10_given 91 = .ok (.iload_n 2, 1) := dk_28 (dk_at dksX10_given_4 11 rfl rfl)
theorem dX10_given_92 : decode cX10_given 92 = .ok (.iadd, 1) := dk_96 (dk_at dksX10_given_4 12 rfl rfl)
theorem dX10_given_93 : decode cX10_given 93 = .ok (.bipush 99, 2) := dk_16 99 (dk_at dksX10_given_4 13 rfl rfl)
theorem dX10_given_95 : decode cX10_given 95 = .ok (.invokestatic 214, 3) := dk_184 0 214 (dk_at dksX10_given_4 15 rfl rfl)
theorem dX10_given_98 : decode cX10_given 98 = .ok (.ireturn, 1) := dk_172 (dk_at dksX10_given_4 18 rfl rfl)
theorem dX10_given_99 : decode cX10_given 99 = .ok (.iload 6, 2) := dk_21 6 (dk_at dksX10_given_4 19 rfl rfl)
theorem dX10_given_101 : decode cX10_given 101 = .ok (.ifCond .eq 8, 3) := dk_153 0 8 (dk_at dksX10_given_4 21 rfl rfl)
theorem dX10_given_104 : decode cX10_given 104 = .ok (.iload 7, 2) := dk_21 7 (dk_at dksX10_given_5 0 rfl rfl)
theorem dX10_given_106 : decode cX10_given 106 = .ok (.goto 12, 3) := dk_167 0 12 (dk_at dksX10_given_5 2 rfl rfl)
theorem dX10_given_109 : decode cX10_given 109 = .ok (.iload_n 2, 1) := dk_28 (dk_at dksX10_given_5 5 rfl rfl)
theorem dX10_given_110 : decode cX10_given 110 = .ok (.iload_n 3, 1) := dk_29 (dk_at dksX10_given_5 6 rfl rfl)
theorem dX10_given_111 : decode cX10_given 111 = .ok (.bipush 10, 2) := dk_16 10 (dk_at dksX10_given_5 7 rfl rfl)
theorem dX10_given_113 : decode cX10_given 113 = .ok (.idiv, 1) := dk_108 (dk_at dksX10_given_5 9 rfl rfl)
theorem dX10_given_114 : decode cX10_given 114 = .ok (.iadd, 1) := dk_96 (dk_at dksX10_given_5 10 rfl rfl)
theorem dX10_given_115 : decode cX10_given 115 = .ok (.iload 4, 2) := dk_21 4 (dk_at dksX10_given_5 11 rfl rfl)
theorem dX10_given_117 : decode cX10_given 117 = .ok (.isub, 1) := dk_100 (dk_at dksX10_given_5 13 rfl rfl)
theorem dX10_given_118 : decode cX10_given 118 = .ok (.sipush 1000, 3) := dk_17 3 232 (dk_at dksX10_given_5 14 rfl rfl)
theorem dX10_given_121 : decode cX10_given 121 = .ok (.invokestatic 214, 3) := dk_184 0 214 (dk_at dksX10_given_5 17 rfl rfl)
theorem dX10_given_124 : decode cX10_given 124 = .ok (.ireturn, 1) := dk_172 (dk_at dksX10_given_5 20 rfl rfl)
theorem dX10_given_125 : decode cX10_given 125 = .ok (.iload 6, 2) := dk_21 6 (dk_at dksX10_given_5 21 rfl rfl)
theorem dX10_given_127 : decode cX10_given 127 = .ok (.ifCond .eq 11, 3) := dk_153 0 11 (dk_at dksX10_given_6 0 rfl rfl)
theorem dX10_given_130 : decode cX10_given 130 = .ok (.iload 7, 2) := dk_21 7 (dk_at dksX10_given_6 3 rfl rfl)
theorem dX10_given_132 : decode cX10_given 132 = .ok (.ifCond .eq 20, 3) := dk_153 0 20 (dk_at dksX10_given_6 5 rfl rfl)
theorem dX10_given_135 : decode cX10_given 135 = .ok (.goto 13, 3) := dk_167 0 13 (dk_at dksX10_given_6 8 rfl rfl)
theorem dX10_given_138 : decode cX10_given 138 = .ok (.iload_n 2, 1) := dk_28 (dk_at dksX10_given_6 11 rfl rfl)
theorem dX10_given_139 : decode cX10_given 139 = .ok (.sipush 360, 3) := dk_17 1 104 (dk_at dksX10_given_6 12 rfl rfl)
theorem dX10_given_142 : decode cX10_given 142 = .ok (.irem, 1) := dk_112 (dk_at dksX10_given_6 15 rfl rfl)
theorem dX10_given_143 : decode cX10_given 143 = .ok (.bipush 40, 2) := dk_16 40 (dk_at dksX10_given_6 16 rfl rfl)
theorem dX10_given_145 : decode cX10_given 145 = .ok (.if_icmp .ge 7, 3) := dk_162 0 7 (dk_at dksX10_given_6 18 rfl rfl)
theorem dX10_given_148 : decode cX10_given 148 = .ok (.iconst 1, 1) := dk_4 (dk_at dksX10_given_6 21 rfl rfl)
theorem dX10_given_149 : decode cX10_given 149 = .ok (.goto 4, 3) := dk_167 0 4 (dk_at dksX10_given_7 0 rfl rfl)
theorem dX10_given_152 : decode cX10_given 152 = .ok (.iconst 0, 1) := dk_3 (dk_at dksX10_given_7 3 rfl rfl)
theorem dX10_given_153 : decode cX10_given 153 = .ok (.ireturn, 1) := dk_172 (dk_at dksX10_given_7 4 rfl rfl)
theorem dX10_given_154 : decode cX10_given 154 = .ok (.iload 6, 2) := dk_21 6 (dk_at dksX10_given_7 5 rfl rfl)
theorem dX10_given_156 : decode cX10_given 156 = .ok (.ifCond .eq 8, 3) := dk_153 0 8 (dk_at dksX10_given_7 7 rfl rfl)
theorem dX10_given_159 : decode cX10_given 159 = .ok (.iload 7, 2) := dk_21 7 (dk_at dksX10_given_7 10 rfl rfl)
theorem dX10_given_161 : decode cX10_given 161 = .ok (.goto 4, 3) := dk_167 0 4 (dk_at dksX10_given_7 12 rfl rfl)
theorem dX10_given_164 : decode cX10_given 164 = .ok (.iload_n 3, 1) := dk_29 (dk_at dksX10_given_7 15 rfl rfl)
theorem dX10_given_165 : decode cX10_given 165 = .ok (.bipush 24, 2) := dk_16 24 (dk_at dksX10_given_7 16 rfl rfl)
theorem dX10_given_167 : decode cX10_given 167 = .ok (.invokestatic 214, 3) := dk_184 0 214 (dk_at dksX10_given_7 18 rfl rfl)
theorem dX10_given_170 : decode cX10_given 170 = .ok (.ireturn, 1) := dk_172 (dk_at dksX10_given_7 21 rfl rfl)
abbrev cX10_worked : ByteArray := prog_37_method_43_code
def yX10_worked : MethodName := ⟨RX10, "worked", "(IIII)I"⟩
def dkwX10_worked_7 : List UInt8 := [132, 6, 1, 167, 255, 99, 42, 180, 0, 39, 3, 46, 172]
abbrev dktX10_worked_7 : List UInt8 := dkwX10_worked_7 ++ []
def dkwX10_worked_6 : List UInt8 := [21, 7, 42, 180, 0, 39, 21, 5, 4, 100, 46, 42, 180, 0, 39, 21, 5, 46, 184, 0, 204, 79]
abbrev dktX10_worked_6 : List UInt8 := dkwX10_worked_6 ++ dktX10_worked_7
def dkwX10_worked_5 : List UInt8 := [154, 0, 7, 4, 167, 0, 4, 3, 79, 167, 0, 36, 132, 5, 255, 42, 180, 0, 39, 21, 5, 4, 100]
abbrev dktX10_worked_5 : List UInt8 := dkwX10_worked_5 ++ dktX10_worked_6
def dkwX10_worked_4 : List UInt8 := [17, 78, 42, 160, 0, 32, 42, 180, 0, 39, 21, 5, 4, 100, 42, 180, 0, 39, 21, 5, 4, 100, 46]
abbrev dktX10_worked_4 : List UInt8 := dkwX10_worked_4 ++ dktX10_worked_5
def dkwX10_worked_3 : List UInt8 := [21, 7, 17, 39, 17, 160, 0, 7, 29, 167, 0, 5, 21, 4, 79, 132, 5, 1, 167, 0, 73, 21, 7]
abbrev dktX10_worked_3 : List UInt8 := dkwX10_worked_3 ++ dktX10_worked_4
def dkwX10_worked_2 : List UInt8 := [17, 39, 16, 162, 0, 8, 21, 7, 167, 0, 29, 21, 7, 17, 39, 16, 160, 0, 7, 28, 167, 0, 17]
abbrev dktX10_worked_2 : List UInt8 := dkwX10_worked_2 ++ dktX10_worked_3
def dkwX10_worked_1 : List UInt8 := [180, 0, 9, 21, 6, 46, 54, 7, 21, 7, 17, 78, 32, 162, 0, 55, 42, 180, 0, 39, 21, 5, 21, 7]
abbrev dktX10_worked_1 : List UInt8 := dkwX10_worked_1 ++ dktX10_worked_2
def dkwX10_worked_0 : List UInt8 := [3, 54, 5, 27, 54, 6, 21, 6, 27, 42, 180, 0, 9, 27, 4, 100, 46, 96, 162, 0, 148, 42]
abbrev dktX10_worked_0 : List UInt8 := dkwX10_worked_0 ++ dktX10_worked_1
theorem dksX10_worked_0 : cX10_worked.data.toList.drop 0 = dktX10_worked_0 := by decide +kernel
theorem dksX10_worked_1 : cX10_worked.data.toList.drop 22 = dktX10_worked_1 := dk_seg dksX10_worked_0 22 rfl rfl
theorem dksX10_worked_2 : cX10_worked.data.toList.drop 46 = dktX10_worked_2 := dk_seg dksX10_worked_1 24 rfl rfl
theorem dksX10_worked_3 : cX10_worked.data.toList.drop 69 = dktX10_worked_3 := dk_seg dksX10_worked_2 23 rfl rfl
theorem dksX10_worked_4 : cX10_worked.data.toList.drop 92 = dktX10_worked_4 := dk_seg dksX10_worked_3 23 rfl rfl
theorem dksX10_worked_5 : cX10_worked.data.toList.drop 115 = dktX10_worked_5 := dk_seg dksX10_worked_4 23 rfl rfl
theorem dksX10_worked_6 : cX10_worked.data.toList.drop 138 = dktX10_worked_6 := dk_seg dksX10_worked_5 23 rfl rfl
theorem dksX10_worked_7 : cX10_worked.data.toList.drop 160 = dktX10_worked_7 := dk_seg dksX10_worked_6 22 rfl rfl
theorem dX10_worked_0 : decode cX10_worked 0 = .ok (.iconst 0, 1) := dk_3 (dk_at dksX10_worked_0 0 rfl rfl)
theorem dX10_worked_1 : decode cX10_worked 1 = .ok (.istore 5, 2) := dk_54 5 (dk_at dksX10_worked_0 1 rfl rfl)
theorem dX10_worked_3 : decode cX10_worked 3 = .ok (.iload_n 1, 1) := dk_27 (dk_at dksX10_worked_0 3 rfl rfl)
theorem dX10_worked_4 : decode cX10_worked 4 = .ok (.istore 6, 2) := dk_54 6 (dk_at dksX10_worked_0 4 rfl rfl)
theorem dX10_worked_6 : decode cX10_worked 6 = .ok (.iload 6, 2) := dk_21 6 (dk_at dksX10_worked_0 6 rfl rfl)
theorem dX10_worked_8 : decode cX10_worked 8 = .ok (.iload_n 1, 1) := dk_27 (dk_at dksX10_worked_0 8 rfl rfl)
theorem dX10_worked_9 : decode cX10_worked 9 = .ok (.aload_n 0, 1) := dk_42 (dk_at dksX10_worked_0 9 rfl rfl)
theorem dX10_worked_10 : decode cX10_worked 10 = .ok (.getfield 9, 3) := dk_180 0 9 (dk_at dksX10_worked_0 10 rfl rfl)
theorem dX10_worked_13 : decode cX10_worked 13 = .ok (.iload_n 1, 1) := dk_27 (dk_at dksX10_worked_0 13 rfl rfl)
theorem dX10_worked_14 : decode cX10_worked 14 = .ok (.iconst 1, 1) := dk_4 (dk_at dksX10_worked_0 14 rfl rfl)
theorem dX10_worked_15 : decode cX10_worked 15 = .ok (.isub, 1) := dk_100 (dk_at dksX10_worked_0 15 rfl rfl)
theorem dX10_worked_16 : decode cX10_worked 16 = .ok (.iaload, 1) := dk_46 (dk_at dksX10_worked_0 16 rfl rfl)
theorem dX10_worked_17 : decode cX10_worked 17 = .ok (.iadd, 1) := dk_96 (dk_at dksX10_worked_0 17 rfl rfl)
theorem dX10_worked_18 : decode cX10_worked 18 = .ok (.if_icmp .ge 148, 3) := dk_162 0 148 (dk_at dksX10_worked_0 18 rfl rfl)
theorem dX10_worked_21 : decode cX10_worked 21 = .ok (.aload_n 0, 1) := dk_42 (dk_at dksX10_worked_0 21 rfl rfl)
theorem dX10_worked_22 : decode cX10_worked 22 = .ok (.getfield 9, 3) := dk_180 0 9 (dk_at dksX10_worked_1 0 rfl rfl)
theorem dX10_worked_25 : decode cX10_worked 25 = .ok (.iload 6, 2) := dk_21 6 (dk_at dksX10_worked_1 3 rfl rfl)
theorem dX10_worked_27 : decode cX10_worked 27 = .ok (.iaload, 1) := dk_46 (dk_at dksX10_worked_1 5 rfl rfl)
theorem dX10_worked_28 : decode cX10_worked 28 = .ok (.istore 7, 2) := dk_54 7 (dk_at dksX10_worked_1 6 rfl rfl)
theorem dX10_worked_30 : decode cX10_worked 30 = .ok (.iload 7, 2) := dk_21 7 (dk_at dksX10_worked_1 8 rfl rfl)
theorem dX10_worked_32 : decode cX10_worked 32 = .ok (.sipush 20000, 3) := dk_17 78 32 (dk_at dksX10_worked_1 10 rfl rfl)
theorem dX10_worked_35 : decode cX10_worked 35 = .ok (.if_icmp .ge 55, 3) := dk_162 0 55 (dk_at dksX10_worked_1 13 rfl rfl)
theorem dX10_worked_38 : decode cX10_worked 38 = .ok (.aload_n 0, 1) := dk_42 (dk_at dksX10_worked_1 16 rfl rfl)
theorem dX10_worked_39 : decode cX10_worked 39 = .ok (.getfield 39, 3) := dk_180 0 39 (dk_at dksX10_worked_1 17 rfl rfl)
theorem dX10_worked_42 : decode cX10_worked 42 = .ok (.iload 5, 2) := dk_21 5 (dk_at dksX10_worked_1 20 rfl rfl)
theorem dX10_worked_44 : decode cX10_worked 44 = .ok (.iload 7, 2) := dk_21 7 (dk_at dksX10_worked_1 22 rfl rfl)
theorem dX10_worked_46 : decode cX10_worked 46 = .ok (.sipush 10000, 3) := dk_17 39 16 (dk_at dksX10_worked_2 0 rfl rfl)
theorem dX10_worked_49 : decode cX10_worked 49 = .ok (.if_icmp .ge 8, 3) := dk_162 0 8 (dk_at dksX10_worked_2 3 rfl rfl)
theorem dX10_worked_52 : decode cX10_worked 52 = .ok (.iload 7, 2) := dk_21 7 (dk_at dksX10_worked_2 6 rfl rfl)
theorem dX10_worked_54 : decode cX10_worked 54 = .ok (.goto 29, 3) := dk_167 0 29 (dk_at dksX10_worked_2 8 rfl rfl)
theorem dX10_worked_57 : decode cX10_worked 57 = .ok (.iload 7, 2) := dk_21 7 (dk_at dksX10_worked_2 11 rfl rfl)
theorem dX10_worked_59 : decode cX10_worked 59 = .ok (.sipush 10000, 3) := dk_17 39 16 (dk_at dksX10_worked_2 13 rfl rfl)
theorem dX10_worked_62 : decode cX10_worked 62 = .ok (.if_icmp .ne 7, 3) := dk_160 0 7 (dk_at dksX10_worked_2 16 rfl rfl)
theorem dX10_worked_65 : decode cX10_worked 65 = .ok (.iload_n 2, 1) := dk_28 (dk_at dksX10_worked_2 19 rfl rfl)
theorem dX10_worked_66 : decode cX10_worked 66 = .ok (.goto 17, 3) := dk_167 0 17 (dk_at dksX10_worked_2 20 rfl rfl)
theorem dX10_worked_69 : decode cX10_worked 69 = .ok (.iload 7, 2) := dk_21 7 (dk_at dksX10_worked_3 0 rfl rfl)
theorem dX10_worked_71 : decode cX10_worked 71 = .ok (.sipush 10001, 3) := dk_17 39 17 (dk_at dksX10_worked_3 2 rfl rfl)
theorem dX10_worked_74 : decode cX10_worked 74 = .ok (.if_icmp .ne 7, 3) := dk_160 0 7 (dk_at dksX10_worked_3 5 rfl rfl)
theorem dX10_worked_77 : decode cX10_worked 77 = .ok (.iload_n 3, 1) := dk_29 (dk_at dksX10_worked_3 8 rfl rfl)
theorem dX10_worked_78 : decode cX10_worked 78 = .ok (.goto 5, 3) := dk_167 0 5 (dk_at dksX10_worked_3 9 rfl rfl)
theorem dX10_worked_81 : decode cX10_worked 81 = .ok (.iload 4, 2) := dk_21 4 (dk_at dksX10_worked_3 12 rfl rfl)
theorem dX10_worked_83 : decode cX10_worked 83 = .ok (.iastore, 1) := dk_79 (dk_at dksX10_worked_3 14 rfl rfl)
theorem dX10_worked_84 : decode cX10_worked 84 = .ok (.iinc 5 1, 3) := dk_132 5 1 (dk_at dksX10_worked_3 15 rfl rfl)
theorem dX10_worked_87 : decode cX10_worked 87 = .ok (.goto 73, 3) := dk_167 0 73 (dk_at dksX10_worked_3 18 rfl rfl)
theorem dX10_worked_90 : decode cX10_worked 90 = .ok (.iload 7, 2) := dk_21 7 (dk_at dksX10_worked_3 21 rfl rfl)
theorem dX10_worked_92 : decode cX10_worked 92 = .ok (.sipush 20010, 3) := dk_17 78 42 (dk_at dksX10_worked_4 0 rfl rfl)
theorem dX10_worked_95 : decode cX10_worked 95 = .ok (.if_icmp .ne 32, 3) := dk_160 0 32 (dk_at dksX10_worked_4 3 rfl rfl)
theorem dX10_worked_98 : decode cX10_worked 98 = .ok (.aload_n 0, 1) := dk_42 (dk_at dksX10_worked_4 6 rfl rfl)
theorem dX10_worked_99 : decode cX10_worked 99 = .ok (.getfield 39, 3) := dk_180 0 39 (dk_at dksX10_worked_4 7 rfl rfl)
theorem dX10_worked_102 : decode cX10_worked 102 = .ok (.iload 5, 2) := dk_21 5 (dk_at dksX10_worked_4 10 rfl rfl)
theorem dX10_worked_104 : decode cX10_worked 104 = .ok (.iconst 1, 1) := dk_4 (dk_at dksX10_worked_4 12 rfl rfl)
theorem dX10_worked_105 : decode cX10_worked 105 = .ok (.isub, 1) := dk_100 (dk_at dksX10_worked_4 13 rfl rfl)
theorem dX10_worked_106 : decode cX10_worked 106 = .ok (.aload_n 0, 1) := dk_42 (dk_at dksX10_worked_4 14 rfl rfl)
theorem dX10_worked_107 : decode cX10_worked 107 = .ok (.getfield 39, 3) := dk_180 0 39 (dk_at dksX10_worked_4 15 rfl rfl)
theorem dX10_worked_110 : decode cX10_worked 110 = .ok (.iload 5, 2) := dk_21 5 (dk_at dksX10_worked_4 18 rfl rfl)
theorem dX10_worked_112 : decode cX10_worked 112 = .ok (.iconst 1, 1) := dk_4 (dk_at dksX10_worked_4 20 rfl rfl)
theorem dX10_worked_113 : decode cX10_worked 113 = .ok (.isub, 1) := dk_100 (dk_at dksX10_worked_4 21 rfl rfl)
theorem dX10_worked_114 : decode cX10_worked 114 = .ok (.iaload, 1) := dk_46 (dk_at dksX10_worked_4 22 rfl rfl)
theorem dX10_worked_115 : decode cX10_worked 115 = .ok (.ifCond .ne 7, 3) := dk_154 0 7 (dk_at dksX10_worked_5 0 rfl rfl)
theorem dX10_worked_118 : decode cX10_worked 118 = .ok (.iconst 1, 1) := dk_4 (dk_at dksX10_worked_5 3 rfl rfl)
theorem dX10_worked_119 : decode cX10_worked 119 = .ok (.goto 4, 3) := dk_167 0 4 (dk_at dksX10_worked_5 4 rfl rfl)
theorem dX10_worked_122 : decode cX10_worked 122 = .ok (.iconst 0, 1) := dk_3 (dk_at dksX10_worked_5 7 rfl rfl)
theorem dX10_worked_123 : decode cX10_worked 123 = .ok (.iastore, 1) := dk_79 (dk_at dksX10_worked_5 8 rfl rfl)
theorem dX10_worked_124 : decode cX10_worked 124 = .ok (.goto 36, 3) := dk_167 0 36 (dk_at dksX10_worked_5 9 rfl rfl)
theorem dX10_worked_127 : decode cX10_worked 127 = .ok (.iinc 5 (-1), 3) := dk_132 5 255 (dk_at dksX10_worked_5 12 rfl rfl)
theorem dX10_worked_130 : decode cX10_worked 130 = .ok (.aload_n 0, 1) := dk_42 (dk_at dksX10_worked_5 15 rfl rfl)
theorem dX10_worked_131 : decode cX10_worked 131 = .ok (.getfield 39, 3) := dk_180 0 39 (dk_at dksX10_worked_5 16 rfl rfl)
theorem dX10_worked_134 : decode cX10_worked 134 = .ok (.iload 5, 2) := dk_21 5 (dk_at dksX10_worked_5 19 rfl rfl)
theorem dX10_worked_136 : decode cX10_worked 136 = .ok (.iconst 1, 1) := dk_4 (dk_at dksX10_worked_5 21 rfl rfl)
theorem dX10_worked_137 : decode cX10_worked 137 = .ok (.isub, 1) := dk_100 (dk_at dksX10_worked_5 22 rfl rfl)
theorem dX10_worked_138 : decode cX10_worked 138 = .ok (.iload 7, 2) := dk_21 7 (dk_at dksX10_worked_6 0 rfl rfl)
theorem dX10_worked_140 : decode cX10_worked 140 = .ok (.aload_n 0, 1) := dk_42 (dk_at dksX10_worked_6 2 rfl rfl)
theorem dX10_worked_141 : decode cX10_worked 141 = .ok (.getfield 39, 3) := dk_180 0 39 (dk_at dksX10_worked_6 3 rfl rfl)
theorem dX10_worked_144 : decode cX10_worked 144 = .ok (.iload 5, 2) := dk_21 5 (dk_at dksX10_worked_6 6 rfl rfl)
theorem dX10_worked_146 : decode cX10_worked 146 = .ok (.iconst 1, 1) := dk_4 (dk_at dksX10_worked_6 8 rfl rfl)
theorem dX10_worked_147 : decode cX10_worked 147 = .ok (.isub, 1) := dk_100 (dk_at dksX10_worked_6 9 rfl rfl)
theorem dX10_worked_148 : decode cX10_worked 148 = .ok (.iaload, 1) := dk_46 (dk_at dksX10_worked_6 10 rfl rfl)
theorem dX10_worked_149 : decode cX10_worked 149 = .ok (.aload_n 0, 1) := dk_42 (dk_at dksX10_worked_6 11 rfl rfl)
theorem dX10_worked_150 : decode cX10_worked 150 = .ok (.getfield 39, 3) := dk_180 0 39 (dk_at dksX10_worked_6 12 rfl rfl)
theorem dX10_worked_153 : decode cX10_worked 153 = .ok (.iload 5, 2) := dk_21 5 (dk_at dksX10_worked_6 15 rfl rfl)
theorem dX10_worked_155 : decode cX10_worked 155 = .ok (.iaload, 1) := dk_46 (dk_at dksX10_worked_6 17 rfl rfl)
theorem dX10_worked_156 : decode cX10_worked 156 = .ok (.invokestatic 204, 3) := dk_184 0 204 (dk_at dksX10_worked_6 18 rfl rfl)
theorem dX10_worked_159 : decode cX10_worked 159 = .ok (.iastore, 1) := dk_79 (dk_at dksX10_worked_6 21 rfl rfl)
theorem dX10_worked_160 : decode cX10_worked 160 = .ok (.iinc 6 1, 3) := dk_132 6 1 (dk_at dksX10_worked_7 0 rfl rfl)
theorem dX10_worked_163 : decode cX10_worked 163 = .ok (.goto (-157), 3) := dk_167 255 99 (dk_at dksX10_worked_7 3 rfl rfl)
theorem dX10_worked_166 : decode cX10_worked 166 = .ok (.aload_n 0, 1) := dk_42 (dk_at dksX10_worked_7 6 rfl rfl)
theorem dX10_worked_167 : decode cX10_worked 167 = .ok (.getfield 39, 3) := dk_180 0 39 (dk_at dksX10_worked_7 7 rfl rfl)
theorem dX10_worked_170 : decode cX10_worked 170 = .ok (.iconst 0, 1) := dk_3 (dk_at dksX10_worked_7 10 rfl rfl)
theorem dX10_worked_171 : decode cX10_worked 171 = .ok (.iaload, 1) := dk_46 (dk_at dksX10_worked_7 11 rfl rfl)
theorem dX10_worked_172 : decode cX10_worked 172 = .ok (.ireturn, 1) := dk_172 (dk_at dksX10_worked_7 12 rfl rfl)
abbrev cX10_done : ByteArray := prog_37_method_42_code
def yX10_done : MethodName := ⟨RX10, "done", "(III)I"⟩
def dkwX10_done_6 : List UInt8 := [27, 28, 112, 172]
abbrev dktX10_done_6 : List UInt8 := dkwX10_done_6 ++ []
def dkwX10_done_5 : List UInt8 := [27, 28, 104, 172, 28, 154, 0, 7, 3, 167, 0, 6, 27, 28, 108, 172, 28, 154, 0, 7, 3, 167, 0, 6]
abbrev dktX10_done_5 : List UInt8 := dkwX10_done_5 ++ dktX10_done_6
def dkwX10_done_4 : List UInt8 := [167, 0, 4, 3, 172, 27, 28, 164, 0, 7, 4, 167, 0, 4, 3, 172, 27, 28, 96, 172, 27, 28, 100, 172]
abbrev dktX10_done_4 : List UInt8 := dkwX10_done_4 ++ dktX10_done_5
def dkwX10_done_3 : List UInt8 := [167, 0, 4, 3, 172, 27, 28, 162, 0, 7, 4, 167, 0, 4, 3, 172, 27, 28, 160, 0, 7, 4]
abbrev dktX10_done_3 : List UInt8 := dkwX10_done_3 ++ dktX10_done_4
def dkwX10_done_2 : List UInt8 := [27, 154, 0, 7, 28, 153, 0, 7, 4, 167, 0, 4, 3, 172, 27, 153, 0, 11, 28, 153, 0, 7, 4]
abbrev dktX10_done_2 : List UInt8 := dkwX10_done_2 ++ dktX10_done_3
def dkwX10_done_1 : List UInt8 := [170, 0, 0, 0, 0, 0, 136, 0, 0, 78, 32, 0, 0, 78, 40, 0, 0, 0, 51, 0, 0, 0, 65, 0, 0, 0, 79, 0, 0, 0, 90, 0, 0, 0, 101, 0, 0, 0, 112, 0, 0, 0, 116, 0, 0, 0, 120, 0, 0, 0, 124]
abbrev dktX10_done_1 : List UInt8 := dkwX10_done_1 ++ dktX10_done_2
def dkwX10_done_0 : List UInt8 := [26]
abbrev dktX10_done_0 : List UInt8 := dkwX10_done_0 ++ dktX10_done_1
theorem dksX10_done_0 : cX10_done.data.toList.drop 0 = dktX10_done_0 := by decide +kernel
theorem dksX10_done_1 : cX10_done.data.toList.drop 1 = dktX10_done_1 := dk_seg dksX10_done_0 1 rfl rfl
theorem dksX10_done_2 : cX10_done.data.toList.drop 52 = dktX10_done_2 := dk_seg dksX10_done_1 51 rfl rfl
theorem dksX10_done_3 : cX10_done.data.toList.drop 75 = dktX10_done_3 := dk_seg dksX10_done_2 23 rfl rfl
theorem dksX10_done_4 : cX10_done.data.toList.drop 97 = dktX10_done_4 := dk_seg dksX10_done_3 22 rfl rfl
theorem dksX10_done_5 : cX10_done.data.toList.drop 121 = dktX10_done_5 := dk_seg dksX10_done_4 24 rfl rfl
theorem dksX10_done_6 : cX10_done.data.toList.drop 145 = dktX10_done_6 := dk_seg dksX10_done_5 24 rfl rfl
theorem dX10_done_0 : decode cX10_done 0 = .ok (.iload_n 0, 1) := dk_26 (dk_at dksX10_done_0 0 rfl rfl)
theorem dX10_done_1 : decode cX10_done 1 = .ok (.tableswitch 136 20000 20008 #[51, 65, 79, 90, 101, 112, 116, 120, 124], 51) := by decide +kernel
theorem dX10_done_52 : decode cX10_done 52 = .ok (.iload_n 1, 1) := dk_27 (dk_at dksX10_done_2 0 rfl rfl)
theorem dX10_done_53 : decode cX10_done 53 = .ok (.ifCond .ne 7, 3) := dk_154 0 7 (dk_at dksX10_done_2 1 rfl rfl)
theorem dX10_done_56 : decode cX10_done 56 = .ok (.iload_n 2, 1) := dk_28 (dk_at dksX10_done_2 4 rfl rfl)
theorem dX10_done_57 : decode cX10_done 57 = .ok (.ifCond .eq 7, 3) := dk_153 0 7 (dk_at dksX10_done_2 5 rfl rfl)
theorem dX10_done_60 : decode cX10_done 60 = .ok (.iconst 1, 1) := dk_4 (dk_at dksX10_done_2 8 rfl rfl)
theorem dX10_done_61 : decode cX10_done 61 = .ok (.goto 4, 3) := dk_167 0 4 (dk_at dksX10_done_2 9 rfl rfl)
theorem dX10_done_64 : decode cX10_done 64 = .ok (.iconst 0, 1) := dk_3 (dk_at dksX10_done_2 12 rfl rfl)
theorem dX10_done_65 : decode cX10_done 65 = .ok (.ireturn, 1) := dk_172 (dk_at dksX10_done_2 13 rfl rfl)
theorem dX10_done_66 : decode cX10_done 66 = .ok (.iload_n 1, 1) := dk_27 (dk_at dksX10_done_2 14 rfl rfl)
theorem dX10_done_67 : decode cX10_done 67 = .ok (.ifCond .eq 11, 3) := dk_153 0 11 (dk_at dksX10_done_2 15 rfl rfl)
theorem dX10_done_70 : decode cX10_done 70 = .ok (.iload_n 2, 1) := dk_28 (dk_at dksX10_done_2 18 rfl rfl)
theorem dX10_done_71 : decode cX10_done 71 = .ok (.ifCond .eq 7, 3) := dk_153 0 7 (dk_at dksX10_done_2 19 rfl rfl)
theorem dX10_done_74 : decode cX10_done 74 = .ok (.iconst 1, 1) := dk_4 (dk_at dksX10_done_2 22 rfl rfl)
theorem dX10_done_75 : decode cX10_done 75 = .ok (.goto 4, 3) := dk_167 0 4 (dk_at dksX10_done_3 0 rfl rfl)
theorem dX10_done_78 : decode cX10_done 78 = .ok (.iconst 0, 1) := dk_3 (dk_at dksX10_done_3 3 rfl rfl)
theorem dX10_done_79 : decode cX10_done 79 = .ok (.ireturn, 1) := dk_172 (dk_at dksX10_done_3 4 rfl rfl)
theorem dX10_done_80 : decode cX10_done 80 = .ok (.iload_n 1, 1) := dk_27 (dk_at dksX10_done_3 5 rfl rfl)
theorem dX10_done_81 : decode cX10_done 81 = .ok (.iload_n 2, 1) := dk_28 (dk_at dksX10_done_3 6 rfl rfl)
theorem dX10_done_82 : decode cX10_done 82 = .ok (.if_icmp .ge 7, 3) := dk_162 0 7 (dk_at dksX10_done_3 7 rfl rfl)
theorem dX10_done_85 : decode cX10_done 85 = .ok (.iconst 1, 1) := dk_4 (dk_at dksX10_done_3 10 rfl rfl)
theorem dX10_done_86 : decode cX10_done 86 = .ok (.goto 4, 3) := dk_167 0 4 (dk_at dksX10_done_3 11 rfl rfl)
theorem dX10_done_89 : decode cX10_done 89 = .ok (.iconst 0, 1) := dk_3 (dk_at dksX10_done_3 14 rfl rfl)
theorem dX10_done_90 : decode cX10_done 90 = .ok (.ireturn, 1) := dk_172 (dk_at dksX10_done_3 15 rfl rfl)
theorem dX10_done_91 : decode cX10_done 91 = .ok (.iload_n 1, 1) := dk_27 (dk_at dksX10_done_3 16 rfl rfl)
theorem dX10_done_92 : decode cX10_done 92 = .ok (.iload_n 2, 1) := dk_28 (dk_at dksX10_done_3 17 rfl rfl)
theorem dX10_done_93 : decode cX10_done 93 = .ok (.if_icmp .ne 7, 3) := dk_160 0 7 (dk_at dksX10_done_3 18 rfl rfl)
theorem dX10_done_96 : decode cX10_done 96 = .ok (.iconst 1, 1) := dk_4 (dk_at dksX10_done_3 21 rfl rfl)
theorem dX10_done_97 : decode cX10_done 97 = .ok (.goto 4, 3) := dk_167 0 4 (dk_at dksX10_done_4 0 rfl rfl)
theorem dX10_done_100 : decode cX10_done 100 = .ok (.iconst 0, 1) := dk_3 (dk_at dksX10_done_4 3 rfl rfl)
theorem dX10_done_101 : decode cX10_done 101 = .ok (.ireturn, 1) := dk_172 (dk_at dksX10_done_4 4 rfl rfl)
theorem dX10_done_102 : decode cX10_done 102 = .ok (.iload_n 1, 1) := dk_27 (dk_at dksX10_done_4 5 rfl rfl)
theorem dX10_done_103 : decode cX10_done 103 = .ok (.iload_n 2, 1) := dk_28 (dk_at dksX10_done_4 6 rfl rfl)
theorem dX10_done_104 : decode cX10_done 104 = .ok (.if_icmp .le 7, 3) := dk_164 0 7 (dk_at dksX10_done_4 7 rfl rfl)
theorem dX10_done_107 : decode cX10_done 107 = .ok (.iconst 1, 1) := dk_4 (dk_at dksX10_done_4 10 rfl rfl)
theorem dX10_done_108 : decode cX10_done 108 = .ok (.goto 4, 3) := dk_167 0 4 (dk_at dksX10_done_4 11 rfl rfl)
theorem dX10_done_111 : decode cX10_done 111 = .ok (.iconst 0, 1) := dk_3 (dk_at dksX10_done_4 14 rfl rfl)
theorem dX10_done_112 : decode cX10_done 112 = .ok (.ireturn, 1) := dk_172 (dk_at dksX10_done_4 15 rfl rfl)
theorem dX10_done_113 : decode cX10_done 113 = .ok (.iload_n 1, 1) := dk_27 (dk_at dksX10_done_4 16 rfl rfl)
theorem dX10_done_114 : decode cX10_done 114 = .ok (.iload_n 2, 1) := dk_28 (dk_at dksX10_done_4 17 rfl rfl)
theorem dX10_done_115 : decode cX10_done 115 = .ok (.iadd, 1) := dk_96 (dk_at dksX10_done_4 18 rfl rfl)
theorem dX10_done_116 : decode cX10_done 116 = .ok (.ireturn, 1) := dk_172 (dk_at dksX10_done_4 19 rfl rfl)
theorem dX10_done_117 : decode cX10_done 117 = .ok (.iload_n 1, 1) := dk_27 (dk_at dksX10_done_4 20 rfl rfl)
theorem dX10_done_118 : decode cX10_done 118 = .ok (.iload_n 2, 1) := dk_28 (dk_at dksX10_done_4 21 rfl rfl)
theorem dX10_done_119 : decode cX10_done 119 = .ok (.isub, 1) := dk_100 (dk_at dksX10_done_4 22 rfl rfl)
theorem dX10_done_120 : decode cX10_done 120 = .ok (.ireturn, 1) := dk_172 (dk_at dksX10_done_4 23 rfl rfl)
theorem dX10_done_121 : decode cX10_done 121 = .ok (.iload_n 1, 1) := dk_27 (dk_at dksX10_done_5 0 rfl rfl)
theorem dX10_done_122 : decode cX10_done 122 = .ok (.iload_n 2, 1) := dk_28 (dk_at dksX10_done_5 1 rfl rfl)
theorem dX10_done_123 : decode cX10_done 123 = .ok (.imul, 1) := dk_104 (dk_at dksX10_done_5 2 rfl rfl)
theorem dX10_done_124 : decode cX10_done 124 = .ok (.ireturn, 1) := dk_172 (dk_at dksX10_done_5 3 rfl rfl)
theorem dX10_done_125 : decode cX10_done 125 = .ok (.iload_n 2, 1) := dk_28 (dk_at dksX10_done_5 4 rfl rfl)
theorem dX10_done_126 : decode cX10_done 126 = .ok (.ifCond .ne 7, 3) := dk_154 0 7 (dk_at dksX10_done_5 5 rfl rfl)
theorem dX10_done_129 : decode cX10_done 129 = .ok (.iconst 0, 1) := dk_3 (dk_at dksX10_done_5 8 rfl rfl)
theorem dX10_done_130 : decode cX10_done 130 = .ok (.goto 6, 3) := dk_167 0 6 (dk_at dksX10_done_5 9 rfl rfl)
theorem dX10_done_133 : decode cX10_done 133 = .ok (.iload_n 1, 1) := dk_27 (dk_at dksX10_done_5 12 rfl rfl)
theorem dX10_done_134 : decode cX10_done 134 = .ok (.iload_n 2, 1) := dk_28 (dk_at dksX10_done_5 13 rfl rfl)
theorem dX10_done_135 : decode cX10_done 135 = .ok (.idiv, 1) := dk_108 (dk_at dksX10_done_5 14 rfl rfl)
theorem dX10_done_136 : decode cX10_done 136 = .ok (.ireturn, 1) := dk_172 (dk_at dksX10_done_5 15 rfl rfl)
theorem dX10_done_137 : decode cX10_done 137 = .ok (.iload_n 2, 1) := dk_28 (dk_at dksX10_done_5 16 rfl rfl)
theorem dX10_done_138 : decode cX10_done 138 = .ok (.ifCond .ne 7, 3) := dk_154 0 7 (dk_at dksX10_done_5 17 rfl rfl)
theorem dX10_done_141 : decode cX10_done 141 = .ok (.iconst 0, 1) := dk_3 (dk_at dksX10_done_5 20 rfl rfl)
theorem dX10_done_142 : decode cX10_done 142 = .ok (.goto 6, 3) := dk_167 0 6 (dk_at dksX10_done_5 21 rfl rfl)
theorem dX10_done_145 : decode cX10_done 145 = .ok (.iload_n 1, 1) := dk_27 (dk_at dksX10_done_6 0 rfl rfl)
theorem dX10_done_146 : decode cX10_done 146 = .ok (.iload_n 2, 1) := dk_28 (dk_at dksX10_done_6 1 rfl rfl)
theorem dX10_done_147 : decode cX10_done 147 = .ok (.irem, 1) := dk_112 (dk_at dksX10_done_6 2 rfl rfl)
theorem dX10_done_148 : decode cX10_done 148 = .ok (.ireturn, 1) := dk_172 (dk_at dksX10_done_6 3 rfl rfl)
abbrev cX10_hold : ByteArray := prog_37_method_44_code
def yX10_hold : MethodName := ⟨RX10, "hold", "(II)I"⟩
def dkwX10_hold_0 : List UInt8 := [3, 27, 26, 184, 0, 124, 184, 0, 208, 172]
abbrev dktX10_hold_0 : List UInt8 := dkwX10_hold_0 ++ []
theorem dksX10_hold_0 : cX10_hold.data.toList.drop 0 = dktX10_hold_0 := by decide +kernel
theorem dX10_hold_0 : decode cX10_hold 0 = .ok (.iconst 0, 1) := dk_3 (dk_at dksX10_hold_0 0 rfl rfl)
theorem dX10_hold_1 : decode cX10_hold 1 = .ok (.iload_n 1, 1) := dk_27 (dk_at dksX10_hold_0 1 rfl rfl)
theorem dX10_hold_2 : decode cX10_hold 2 = .ok (.iload_n 0, 1) := dk_26 (dk_at dksX10_hold_0 2 rfl rfl)
theorem dX10_hold_3 : decode cX10_hold 3 = .ok (.invokestatic 124, 3) := dk_184 0 124 (dk_at dksX10_hold_0 3 rfl rfl)
theorem dX10_hold_6 : decode cX10_hold 6 = .ok (.invokestatic 208, 3) := dk_184 0 208 (dk_at dksX10_hold_0 6 rfl rfl)
theorem dX10_hold_9 : decode cX10_hold 9 = .ok (.ireturn, 1) := dk_172 (dk_at dksX10_hold_0 9 rfl rfl)
abbrev cX10_even : ByteArray := prog_37_method_22_code
def yX10_even : MethodName := ⟨RX10, "even", "(I)V"⟩
def dkwX10_even_3 : List UInt8 := [167, 255, 188, 177]
abbrev dktX10_even_3 : List UInt8 := dkwX10_even_3 ++ []
def dkwX10_even_2 : List UInt8 := [28, 96, 4, 96, 29, 5, 108, 79, 42, 180, 0, 9, 27, 28, 96, 29, 29, 5, 108, 100, 79, 132, 2, 1]
abbrev dktX10_even_2 : List UInt8 := dkwX10_even_2 ++ dktX10_even_3
def dkwX10_even_1 : List UInt8 := [180, 0, 9, 27, 28, 96, 46, 42, 180, 0, 9, 27, 28, 96, 4, 96, 46, 96, 62, 42, 180, 0, 9, 27]
abbrev dktX10_even_1 : List UInt8 := dkwX10_even_1 ++ dktX10_even_2
def dkwX10_even_0 : List UInt8 := [3, 61, 28, 16, 7, 162, 0, 68, 42, 180, 0, 9, 16, 13, 28, 96, 46, 4, 160, 0, 49, 42]
abbrev dktX10_even_0 : List UInt8 := dkwX10_even_0 ++ dktX10_even_1
theorem dksX10_even_0 : cX10_even.data.toList.drop 0 = dktX10_even_0 := by decide +kernel
theorem dksX10_even_1 : cX10_even.data.toList.drop 22 = dktX10_even_1 := dk_seg dksX10_even_0 22 rfl rfl
theorem dksX10_even_2 : cX10_even.data.toList.drop 46 = dktX10_even_2 := dk_seg dksX10_even_1 24 rfl rfl
theorem dksX10_even_3 : cX10_even.data.toList.drop 70 = dktX10_even_3 := dk_seg dksX10_even_2 24 rfl rfl
theorem dX10_even_0 : decode cX10_even 0 = .ok (.iconst 0, 1) := dk_3 (dk_at dksX10_even_0 0 rfl rfl)
theorem dX10_even_1 : decode cX10_even 1 = .ok (.istore_n 2, 1) := dk_61 (dk_at dksX10_even_0 1 rfl rfl)
theorem dX10_even_2 : decode cX10_even 2 = .ok (.iload_n 2, 1) := dk_28 (dk_at dksX10_even_0 2 rfl rfl)
theorem dX10_even_3 : decode cX10_even 3 = .ok (.bipush 7, 2) := dk_16 7 (dk_at dksX10_even_0 3 rfl rfl)
theorem dX10_even_5 : decode cX10_even 5 = .ok (.if_icmp .ge 68, 3) := dk_162 0 68 (dk_at dksX10_even_0 5 rfl rfl)
theorem dX10_even_8 : decode cX10_even 8 = .ok (.aload_n 0, 1) := dk_42 (dk_at dksX10_even_0 8 rfl rfl)
theorem dX10_even_9 : decode cX10_even 9 = .ok (.getfield 9, 3) := dk_180 0 9 (dk_at dksX10_even_0 9 rfl rfl)
theorem dX10_even_12 : decode cX10_even 12 = .ok (.bipush 13, 2) := dk_16 13 (dk_at dksX10_even_0 12 rfl rfl)
theorem dX10_even_14 : decode cX10_even 14 = .ok (.iload_n 2, 1) := dk_28 (dk_at dksX10_even_0 14 rfl rfl)
theorem dX10_even_15 : decode cX10_even 15 = .ok (.iadd, 1) := dk_96 (dk_at dksX10_even_0 15 rfl rfl)
theorem dX10_even_16 : decode cX10_even 16 = .ok (.iaload, 1) := dk_46 (dk_at dksX10_even_0 16 rfl rfl)
theorem dX10_even_17 : decode cX10_even 17 = .ok (.iconst 1, 1) := dk_4 (dk_at dksX10_even_0 17 rfl rfl)
theorem dX10_even_18 : decode cX10_even 18 = .ok (.if_icmp .ne 49, 3) := dk_160 0 49 (dk_at dksX10_even_0 18 rfl rfl)
theorem dX10_even_21 : decode cX10_even 21 = .ok (.aload_n 0, 1) := dk_42 (dk_at dksX10_even_0 21 rfl rfl)
theorem dX10_even_22 : decode cX10_even 22 = .ok (.getfield 9, 3) := dk_180 0 9 (dk_at dksX10_even_1 0 rfl rfl)
theorem dX10_even_25 : decode cX10_even 25 = .ok (.iload_n 1, 1) := dk_27 (dk_at dksX10_even_1 3 rfl rfl)
theorem dX10_even_26 : decode cX10_even 26 = .ok (.iload_n 2, 1) := dk_28 (dk_at dksX10_even_1 4 rfl rfl)
theorem dX10_even_27 : decode cX10_even 27 = .ok (.iadd, 1) := dk_96 (dk_at dksX10_even_1 5 rfl rfl)
theorem dX10_even_28 : decode cX10_even 28 = .ok (.iaload, 1) := dk_46 (dk_at dksX10_even_1 6 rfl rfl)
theorem dX10_even_29 : decode cX10_even 29 = .ok (.aload_n 0, 1) := dk_42 (dk_at dksX10_even_1 7 rfl rfl)
theorem dX10_even_30 : decode cX10_even 30 = .ok (.getfield 9, 3) := dk_180 0 9 (dk_at dksX10_even_1 8 rfl rfl)
theorem dX10_even_33 : decode cX10_even 33 = .ok (.iload_n 1, 1) := dk_27 (dk_at dksX10_even_1 11 rfl rfl)
theorem dX10_even_34 : decode cX10_even 34 = .ok (.iload_n 2, 1) := dk_28 (dk_at dksX10_even_1 12 rfl rfl)
theorem dX10_even_35 : decode cX10_even 35 = .ok (.iadd, 1) := dk_96 (dk_at dksX10_even_1 13 rfl rfl)
theorem dX10_even_36 : decode cX10_even 36 = .ok (.iconst 1, 1) := dk_4 (dk_at dksX10_even_1 14 rfl rfl)
theorem dX10_even_37 : decode cX10_even 37 = .ok (.iadd, 1) := dk_96 (dk_at dksX10_even_1 15 rfl rfl)
theorem dX10_even_38 : decode cX10_even 38 = .ok (.iaload, 1) := dk_46 (dk_at dksX10_even_1 16 rfl rfl)
theorem dX10_even_39 : decode cX10_even 39 = .ok (.iadd, 1) := dk_96 (dk_at dksX10_even_1 17 rfl rfl)
theorem dX10_even_40 : decode cX10_even 40 = .ok (.istore_n 3, 1) := dk_62 (dk_at dksX10_even_1 18 rfl rfl)
theorem dX10_even_41 : decode cX10_even 41 = .ok (.aload_n 0, 1) := dk_42 (dk_at dksX10_even_1 19 rfl rfl)
theorem dX10_even_42 : decode cX10_even 42 = .ok (.getfield 9, 3) := dk_180 0 9 (dk_at dksX10_even_1 20 rfl rfl)
theorem dX10_even_45 : decode cX10_even 45 = .ok (.iload_n 1, 1) := dk_27 (dk_at dksX10_even_1 23 rfl rfl)
theorem dX10_even_46 : decode cX10_even 46 = .ok (.iload_n 2, 1) := dk_28 (dk_at dksX10_even_2 0 rfl rfl)
theorem dX10_even_47 : decode cX10_even 47 = .ok (.iadd, 1) := dk_96 (dk_at dksX10_even_2 1 rfl rfl)
theorem dX10_even_48 : decode cX10_even 48 = .ok (.iconst 1, 1) := dk_4 (dk_at dksX10_even_2 2 rfl rfl)
theorem dX10_even_49 : decode cX10_even 49 = .ok (.iadd, 1) := dk_96 (dk_at dksX10_even_2 3 rfl rfl)
theorem dX10_even_50 : decode cX10_even 50 = .ok (.iload_n 3, 1) := dk_29 (dk_at dksX10_even_2 4 rfl rfl)
theorem dX10_even_51 : decode cX10_even 51 = .ok (.iconst 2, 1) := dk_5 (dk_at dksX10_even_2 5 rfl rfl)
theorem dX10_even_52 : decode cX10_even 52 = .ok (.idiv, 1) := dk_108 (dk_at dksX10_even_2 6 rfl rfl)
theorem dX10_even_53 : decode cX10_even 53 = .ok (.iastore, 1) := dk_79 (dk_at dksX10_even_2 7 rfl rfl)
theorem dX10_even_54 : decode cX10_even 54 = .ok (.aload_n 0, 1) := dk_42 (dk_at dksX10_even_2 8 rfl rfl)
theorem dX10_even_55 : decode cX10_even 55 = .ok (.getfield 9, 3) := dk_180 0 9 (dk_at dksX10_even_2 9 rfl rfl)
theorem dX10_even_58 : decode cX10_even 58 = .ok (.iload_n 1, 1) := dk_27 (dk_at dksX10_even_2 12 rfl rfl)
theorem dX10_even_59 : decode cX10_even 59 = .ok (.iload_n 2, 1) := dk_28 (dk_at dksX10_even_2 13 rfl rfl)
theorem dX10_even_60 : decode cX10_even 60 = .ok (.iadd, 1) := dk_96 (dk_at dksX10_even_2 14 rfl rfl)
theorem dX10_even_61 : decode cX10_even 61 = .ok (.iload_n 3, 1) := dk_29 (dk_at dksX10_even_2 15 rfl rfl)
theorem dX10_even_62 : decode cX10_even 62 = .ok (.iload_n 3, 1) := dk_29 (dk_at dksX10_even_2 16 rfl rfl)
theorem dX10_even_63 : decode cX10_even 63 = .ok (.iconst 2, 1) := dk_5 (dk_at dksX10_even_2 17 rfl rfl)
theorem dX10_even_64 : decode cX10_even 64 = .ok (.idiv, 1) := dk_108 (dk_at dksX10_even_2 18 rfl rfl)
theorem dX10_even_65 : decode cX10_even 65 = .ok (.isub, 1) := dk_100 (dk_at dksX10_even_2 19 rfl rfl)
theorem dX10_even_66 : decode cX10_even 66 = .ok (.iastore, 1) := dk_79 (dk_at dksX10_even_2 20 rfl rfl)
theorem dX10_even_67 : decode cX10_even 67 = .ok (.iinc 2 1, 3) := dk_132 2 1 (dk_at dksX10_even_2 21 rfl rfl)
theorem dX10_even_70 : decode cX10_even 70 = .ok (.goto (-68), 3) := dk_167 255 188 (dk_at dksX10_even_3 0 rfl rfl)
theorem dX10_even_73 : decode cX10_even 73 = .ok (.return_, 1) := dk_177 (dk_at dksX10_even_3 3 rfl rfl)
abbrev cX10_rest : ByteArray := prog_37_method_25_code
def yX10_rest : MethodName := ⟨RX10, "rest", "()V"⟩
def dkwX10_rest_5 : List UInt8 := [182, 0, 120, 42, 180, 0, 9, 3, 92, 46, 4, 96, 79, 177]
abbrev dktX10_rest_5 : List UInt8 := dkwX10_rest_5 ++ []
def dkwX10_rest_4 : List UInt8 := [184, 0, 124, 79, 132, 1, 3, 167, 255, 172, 42, 16, 20, 182, 0, 116, 42, 16, 20, 17, 3, 232]
abbrev dktX10_rest_4 : List UInt8 := dkwX10_rest_4 ++ dktX10_rest_5
def dkwX10_rest_3 : List UInt8 := [96, 46, 42, 180, 0, 9, 27, 4, 96, 46, 42, 180, 0, 9, 16, 9, 46, 104, 16, 100, 108, 96]
abbrev dktX10_rest_3 : List UInt8 := dkwX10_rest_3 ++ dktX10_rest_4
def dkwX10_rest_2 : List UInt8 := [16, 20, 42, 180, 0, 9, 27, 46, 96, 17, 3, 232, 42, 180, 0, 9, 16, 20, 42, 180, 0, 9, 27, 46]
abbrev dktX10_rest_2 : List UInt8 := dkwX10_rest_2 ++ dktX10_rest_3
def dkwX10_rest_1 : List UInt8 := [5, 46, 104, 96, 162, 0, 75, 42, 180, 0, 9, 27, 5, 96, 46, 4, 160, 0, 57, 42, 180, 0, 9]
abbrev dktX10_rest_1 : List UInt8 := dkwX10_rest_1 ++ dktX10_rest_2
def dkwX10_rest_0 : List UInt8 := [42, 16, 28, 42, 180, 0, 9, 16, 10, 46, 182, 0, 120, 16, 116, 60, 27, 16, 116, 6, 42, 180, 0, 9]
abbrev dktX10_rest_0 : List UInt8 := dkwX10_rest_0 ++ dktX10_rest_1
theorem dksX10_rest_0 : cX10_rest.data.toList.drop 0 = dktX10_rest_0 := by decide +kernel
theorem dksX10_rest_1 : cX10_rest.data.toList.drop 24 = dktX10_rest_1 := dk_seg dksX10_rest_0 24 rfl rfl
theorem dksX10_rest_2 : cX10_rest.data.toList.drop 47 = dktX10_rest_2 := dk_seg dksX10_rest_1 23 rfl rfl
theorem dksX10_rest_3 : cX10_rest.data.toList.drop 71 = dktX10_rest_3 := dk_seg dksX10_rest_2 24 rfl rfl
theorem dksX10_rest_4 : cX10_rest.data.toList.drop 93 = dktX10_rest_4 := dk_seg dksX10_rest_3 22 rfl rfl
theorem dksX10_rest_5 : cX10_rest.data.toList.drop 115 = dktX10_rest_5 := dk_seg dksX10_rest_4 22 rfl rfl
theorem dX10_rest_0 : decode cX10_rest 0 = .ok (.aload_n 0, 1) := dk_42 (dk_at dksX10_rest_0 0 rfl rfl)
theorem dX10_rest_1 : decode cX10_rest 1 = .ok (.bipush 28, 2) := dk_16 28 (dk_at dksX10_rest_0 1 rfl rfl)
theorem dX10_rest_3 : decode cX10_rest 3 = .ok (.aload_n 0, 1) := dk_42 (dk_at dksX10_rest_0 3 rfl rfl)
theorem dX10_rest_4 : decode cX10_rest 4 = .ok (.getfield 9, 3) := dk_180 0 9 (dk_at dksX10_rest_0 4 rfl rfl)
theorem dX10_rest_7 : decode cX10_rest 7 = .ok (.bipush 10, 2) := dk_16 10 (dk_at dksX10_rest_0 7 rfl rfl)
theorem dX10_rest_9 : decode cX10_rest 9 = .ok (.iaload, 1) := dk_46 (dk_at dksX10_rest_0 9 rfl rfl)
theorem dX10_rest_10 : decode cX10_rest 10 = .ok (.invokevirtual 120, 3) := dk_182 0 120 (dk_at dksX10_rest_0 10 rfl rfl)
theorem dX10_rest_13 : decode cX10_rest 13 = .ok (.bipush 116, 2) := dk_16 116 (dk_at dksX10_rest_0 13 rfl rfl)
theorem dX10_rest_15 : decode cX10_rest 15 = .ok (.istore_n 1, 1) := dk_60 (dk_at dksX10_rest_0 15 rfl rfl)
theorem dX10_rest_16 : decode cX10_rest 16 = .ok (.iload_n 1, 1) := dk_27 (dk_at dksX10_rest_0 16 rfl rfl)
theorem dX10_rest_17 : decode cX10_rest 17 = .ok (.bipush 116, 2) := dk_16 116 (dk_at dksX10_rest_0 17 rfl rfl)
theorem dX10_rest_19 : decode cX10_rest 19 = .ok (.iconst 3, 1) := dk_6 (dk_at dksX10_rest_0 19 rfl rfl)
theorem dX10_rest_20 : decode cX10_rest 20 = .ok (.aload_n 0, 1) := dk_42 (dk_at dksX10_rest_0 20 rfl rfl)
theorem dX10_rest_21 : decode cX10_rest 21 = .ok (.getfield 9, 3) := dk_180 0 9 (dk_at dksX10_rest_0 21 rfl rfl)
theorem dX10_rest_24 : decode cX10_rest 24 = .ok (.iconst 2, 1) := dk_5 (dk_at dksX10_rest_1 0 rfl rfl)
theorem dX10_rest_25 : decode cX10_rest 25 = .ok (.iaload, 1) := dk_46 (dk_at dksX10_rest_1 1 rfl rfl)
theorem dX10_rest_26 : decode cX10_rest 26 = .ok (.imul, 1) := dk_104 (dk_at dksX10_rest_1 2 rfl rfl)
theorem dX10_rest_27 : decode cX10_rest 27 = .ok (.iadd, 1) := dk_96 (dk_at dksX10_rest_1 3 rfl rfl)
theorem dX10_rest_28 : decode cX10_rest 28 = .ok (.if_icmp .ge 75, 3) := dk_162 0 75 (dk_at dksX10_rest_1 4 rfl rfl)
theorem dX10_rest_31 : decode cX10_rest 31 = .ok (.aload_n 0, 1) := dk_42 (dk_at dksX10_rest_1 7 rfl rfl)
theorem dX10_rest_32 : decode cX10_rest 32 = .ok (.getfield 9, 3) := dk_180 0 9 (dk_at dksX10_rest_1 8 rfl rfl)
theorem dX10_rest_35 : decode cX10_rest 35 = .ok (.iload_n 1, 1) := dk_27 (dk_at dksX10_rest_1 11 rfl rfl)
theorem dX10_rest_36 : decode cX10_rest 36 = .ok (.iconst 2, 1) := dk_5 (dk_at dksX10_rest_1 12 rfl rfl)
theorem dX10_rest_37 : decode cX10_rest 37 = .ok (.iadd, 1) := dk_96 (dk_at dksX10_rest_1 13 rfl rfl)
theorem dX10_rest_38 : decode cX10_rest 38 = .ok (.iaload, 1) := dk_46 (dk_at dksX10_rest_1 14 rfl rfl)
theorem dX10_rest_39 : decode cX10_rest 39 = .ok (.iconst 1, 1) := dk_4 (dk_at dksX10_rest_1 15 rfl rfl)
theorem dX10_rest_40 : decode cX10_rest 40 = .ok (.if_icmp .ne 57, 3) := dk_160 0 57 (dk_at dksX10_rest_1 16 rfl rfl)
theorem dX10_rest_43 : decode cX10_rest 43 = .ok (.aload_n 0, 1) := dk_42 (dk_at dksX10_rest_1 19 rfl rfl)
theorem dX10_rest_44 : decode cX10_rest 44 = .ok (.getfield 9, 3) := dk_180 0 9 (dk_at dksX10_rest_1 20 rfl rfl)
theorem dX10_rest_47 : decode cX10_rest 47 = .ok (.bipush 20, 2) := dk_16 20 (dk_at dksX10_rest_2 0 rfl rfl)
theorem dX10_rest_49 : decode cX10_rest 49 = .ok (.aload_n 0, 1) := dk_42 (dk_at dksX10_rest_2 2 rfl rfl)
theorem dX10_rest_50 : decode cX10_rest 50 = .ok (.getfield 9, 3) := dk_180 0 9 (dk_at dksX10_rest_2 3 rfl rfl)
theorem dX10_rest_53 : decode cX10_rest 53 = .ok (.iload_n 1, 1) := dk_27 (dk_at dksX10_rest_2 6 rfl rfl)
theorem dX10_rest_54 : decode cX10_rest 54 = .ok (.iaload, 1) := dk_46 (dk_at dksX10_rest_2 7 rfl rfl)
theorem dX10_rest_55 : decode cX10_rest 55 = .ok (.iadd, 1) := dk_96 (dk_at dksX10_rest_2 8 rfl rfl)
theorem dX10_rest_56 : decode cX10_rest 56 = .ok (.sipush 1000, 3) := dk_17 3 232 (dk_at dksX10_rest_2 9 rfl rfl)
theorem dX10_rest_59 : decode cX10_rest 59 = .ok (.aload_n 0, 1) := dk_42 (dk_at dksX10_rest_2 12 rfl rfl)
theorem dX10_rest_60 : decode cX10_rest 60 = .ok (.getfield 9, 3) := dk_180 0 9 (dk_at dksX10_rest_2 13 rfl rfl)
theorem dX10_rest_63 : decode cX10_rest 63 = .ok (.bipush 20, 2) := dk_16 20 (dk_at dksX10_rest_2 16 rfl rfl)
theorem dX10_rest_65 : decode cX10_rest 65 = .ok (.aload_n 0, 1) := dk_42 (dk_at dksX10_rest_2 18 rfl rfl)
theorem dX10_rest_66 : decode cX10_rest 66 = .ok (.getfield 9, 3) := dk_180 0 9 (dk_at dksX10_rest_2 19 rfl rfl)
theorem dX10_rest_69 : decode cX10_rest 69 = .ok (.iload_n 1, 1) := dk_27 (dk_at dksX10_rest_2 22 rfl rfl)
theorem dX10_rest_70 : decode cX10_rest 70 = .ok (.iaload, 1) := dk_46 (dk_at dksX10_rest_2 23 rfl rfl)
theorem dX10_rest_71 : decode cX10_rest 71 = .ok (.iadd, 1) := dk_96 (dk_at dksX10_rest_3 0 rfl rfl)
theorem dX10_rest_72 : decode cX10_rest 72 = .ok (.iaload, 1) := dk_46 (dk_at dksX10_rest_3 1 rfl rfl)
theorem dX10_rest_73 : decode cX10_rest 73 = .ok (.aload_n 0, 1) := dk_42 (dk_at dksX10_rest_3 2 rfl rfl)
theorem dX10_rest_74 : decode cX10_rest 74 = .ok (.getfield 9, 3) := dk_180 0 9 (dk_at dksX10_rest_3 3 rfl rfl)
theorem dX10_rest_77 : decode cX10_rest 77 = .ok (.iload_n 1, 1) := dk_27 (dk_at dksX10_rest_3 6 rfl rfl)
theorem dX10_rest_78 : decode cX10_rest 78 = .ok (.iconst 1, 1) := dk_4 (dk_at dksX10_rest_3 7 rfl rfl)
theorem dX10_rest_79 : decode cX10_rest 79 = .ok (.iadd, 1) := dk_96 (dk_at dksX10_rest_3 8 rfl rfl)
theorem dX10_rest_80 : decode cX10_rest 80 = .ok (.iaload, 1) := dk_46 (dk_at dksX10_rest_3 9 rfl rfl)
theorem dX10_rest_81 : decode cX10_rest 81 = .ok (.aload_n 0, 1) := dk_42 (dk_at dksX10_rest_3 10 rfl rfl)
theorem dX10_rest_82 : decode cX10_rest 82 = .ok (.getfield 9, 3) := dk_180 0 9 (dk_at dksX10_rest_3 11 rfl rfl)
theorem dX10_rest_85 : decode cX10_rest 85 = .ok (.bipush 9, 2) := dk_16 9 (dk_at dksX10_rest_3 14 rfl rfl)
theorem dX10_rest_87 : decode cX10_rest 87 = .ok (.iaload, 1) := dk_46 (dk_at dksX10_rest_3 16 rfl rfl)
theorem dX10_rest_88 : decode cX10_rest 88 = .ok (.imul, 1) := dk_104 (dk_at dksX10_rest_3 17 rfl rfl)
theorem dX10_rest_89 : decode cX10_rest 89 = .ok (.bipush 100, 2) := dk_16 100 (dk_at dksX10_rest_3 18 rfl rfl)
theorem dX10_rest_91 : decode cX10_rest 91 = .ok (.idiv, 1) := dk_108 (dk_at dksX10_rest_3 20 rfl rfl)
theorem dX10_rest_92 : decode cX10_rest 92 = .ok (.iadd, 1) := dk_96 (dk_at dksX10_rest_3 21 rfl rfl)
theorem dX10_rest_93 : decode cX10_rest 93 = .ok (.invokestatic 124, 3) := dk_184 0 124 (dk_at dksX10_rest_4 0 rfl rfl)
theorem dX10_rest_96 : decode cX10_rest 96 = .ok (.iastore, 1) := dk_79 (dk_at dksX10_rest_4 3 rfl rfl)
theorem dX10_rest_97 : decode cX10_rest 97 = .ok (.iinc 1 3, 3) := dk_132 1 3 (dk_at dksX10_rest_4 4 rfl rfl)
theorem dX10_rest_100 : decode cX10_rest 100 = .ok (.goto (-84), 3) := dk_167 255 172 (dk_at dksX10_rest_4 7 rfl rfl)
theorem dX10_rest_103 : decode cX10_rest 103 = .ok (.aload_n 0, 1) := dk_42 (dk_at dksX10_rest_4 10 rfl rfl)
theorem dX10_rest_104 : decode cX10_rest 104 = .ok (.bipush 20, 2) := dk_16 20 (dk_at dksX10_rest_4 11 rfl rfl)
theorem dX10_rest_106 : decode cX10_rest 106 = .ok (.invokevirtual 116, 3) := dk_182 0 116 (dk_at dksX10_rest_4 13 rfl rfl)
theorem dX10_rest_109 : decode cX10_rest 109 = .ok (.aload_n 0, 1) := dk_42 (dk_at dksX10_rest_4 16 rfl rfl)
theorem dX10_rest_110 : decode cX10_rest 110 = .ok (.bipush 20, 2) := dk_16 20 (dk_at dksX10_rest_4 17 rfl rfl)
theorem dX10_rest_112 : decode cX10_rest 112 = .ok (.sipush 1000, 3) := dk_17 3 232 (dk_at dksX10_rest_4 19 rfl rfl)
theorem dX10_rest_115 : decode cX10_rest 115 = .ok (.invokevirtual 120, 3) := dk_182 0 120 (dk_at dksX10_rest_5 0 rfl rfl)
theorem dX10_rest_118 : decode cX10_rest 118 = .ok (.aload_n 0, 1) := dk_42 (dk_at dksX10_rest_5 3 rfl rfl)
theorem dX10_rest_119 : decode cX10_rest 119 = .ok (.getfield 9, 3) := dk_180 0 9 (dk_at dksX10_rest_5 4 rfl rfl)
theorem dX10_rest_122 : decode cX10_rest 122 = .ok (.iconst 0, 1) := dk_3 (dk_at dksX10_rest_5 7 rfl rfl)
theorem dX10_rest_123 : decode cX10_rest 123 = .ok (.dup2, 1) := dk_92 (dk_at dksX10_rest_5 8 rfl rfl)
theorem dX10_rest_124 : decode cX10_rest 124 = .ok (.iaload, 1) := dk_46 (dk_at dksX10_rest_5 9 rfl rfl)
theorem dX10_rest_125 : decode cX10_rest 125 = .ok (.iconst 1, 1) := dk_4 (dk_at dksX10_rest_5 10 rfl rfl)
theorem dX10_rest_126 : decode cX10_rest 126 = .ok (.iadd, 1) := dk_96 (dk_at dksX10_rest_5 11 rfl rfl)
theorem dX10_rest_127 : decode cX10_rest 127 = .ok (.iastore, 1) := dk_79 (dk_at dksX10_rest_5 12 rfl rfl)
theorem dX10_rest_128 : decode cX10_rest 128 = .ok (.return_, 1) := dk_177 (dk_at dksX10_rest_5 13 rfl rfl)
abbrev cX10_kill : ByteArray := prog_37_method_24_code
def yX10_kill : MethodName := ⟨RX10, "kill", "(II)V"⟩
def dkwX10_kill_2 : List UInt8 := [16, 36, 8, 29, 104, 96, 3, 96, 16, 10, 79, 132, 3, 1, 167, 255, 199, 177]
abbrev dktX10_kill_2 : List UInt8 := dkwX10_kill_2 ++ []
def dkwX10_kill_1 : List UInt8 := [184, 0, 92, 153, 0, 31, 42, 180, 0, 9, 27, 21, 4, 96, 46, 28, 161, 0, 18, 42, 180, 0, 9]
abbrev dktX10_kill_1 : List UInt8 := dkwX10_kill_1 ++ dktX10_kill_2
def dkwX10_kill_0 : List UInt8 := [3, 62, 29, 42, 180, 0, 9, 4, 46, 162, 0, 53, 42, 29, 3, 182, 0, 105, 54, 4, 21, 4]
abbrev dktX10_kill_0 : List UInt8 := dkwX10_kill_0 ++ dktX10_kill_1
theorem dksX10_kill_0 : cX10_kill.data.toList.drop 0 = dktX10_kill_0 := by decide +kernel
theorem dksX10_kill_1 : cX10_kill.data.toList.drop 22 = dktX10_kill_1 := dk_seg dksX10_kill_0 22 rfl rfl
theorem dksX10_kill_2 : cX10_kill.data.toList.drop 45 = dktX10_kill_2 := dk_seg dksX10_kill_1 23 rfl rfl
theorem dX10_kill_0 : decode cX10_kill 0 = .ok (.iconst 0, 1) := dk_3 (dk_at dksX10_kill_0 0 rfl rfl)
theorem dX10_kill_1 : decode cX10_kill 1 = .ok (.istore_n 3, 1) := dk_62 (dk_at dksX10_kill_0 1 rfl rfl)
theorem dX10_kill_2 : decode cX10_kill 2 = .ok (.iload_n 3, 1) := dk_29 (dk_at dksX10_kill_0 2 rfl rfl)
theorem dX10_kill_3 : decode cX10_kill 3 = .ok (.aload_n 0, 1) := dk_42 (dk_at dksX10_kill_0 3 rfl rfl)
theorem dX10_kill_4 : decode cX10_kill 4 = .ok (.getfield 9, 3) := dk_180 0 9 (dk_at dksX10_kill_0 4 rfl rfl)
theorem dX10_kill_7 : decode cX10_kill 7 = .ok (.iconst 1, 1) := dk_4 (dk_at dksX10_kill_0 7 rfl rfl)
theorem dX10_kill_8 : decode cX10_kill 8 = .ok (.iaload, 1) := dk_46 (dk_at dksX10_kill_0 8 rfl rfl)
theorem dX10_kill_9 : decode cX10_kill 9 = .ok (.if_icmp .ge 53, 3) := dk_162 0 53 (dk_at dksX10_kill_0 9 rfl rfl)
theorem dX10_kill_12 : decode cX10_kill 12 = .ok (.aload_n 0, 1) := dk_42 (dk_at dksX10_kill_0 12 rfl rfl)
theorem dX10_kill_13 : decode cX10_kill 13 = .ok (.iload_n 3, 1) := dk_29 (dk_at dksX10_kill_0 13 rfl rfl)
theorem dX10_kill_14 : decode cX10_kill 14 = .ok (.iconst 0, 1) := dk_3 (dk_at dksX10_kill_0 14 rfl rfl)
theorem dX10_kill_15 : decode cX10_kill 15 = .ok (.invokevirtual 105, 3) := dk_182 0 105 (dk_at dksX10_kill_0 15 rfl rfl)
theorem dX10_kill_18 : decode cX10_kill 18 = .ok (.istore 4, 2) := dk_54 4 (dk_at dksX10_kill_0 18 rfl rfl)
theorem dX10_kill_20 : decode cX10_kill 20 = .ok (.iload 4, 2) := dk_21 4 (dk_at dksX10_kill_0 20 rfl rfl)
theorem dX10_kill_22 : decode cX10_kill 22 = .ok (.invokestatic 92, 3) := dk_184 0 92 (dk_at dksX10_kill_1 0 rfl rfl)
theorem dX10_kill_25 : decode cX10_kill 25 = .ok (.ifCond .eq 31, 3) := dk_153 0 31 (dk_at dksX10_kill_1 3 rfl rfl)
theorem dX10_kill_28 : decode cX10_kill 28 = .ok (.aload_n 0, 1) := dk_42 (dk_at dksX10_kill_1 6 rfl rfl)
theorem dX10_kill_29 : decode cX10_kill 29 = .ok (.getfield 9, 3) := dk_180 0 9 (dk_at dksX10_kill_1 7 rfl rfl)
theorem dX10_kill_32 : decode cX10_kill 32 = .ok (.iload_n 1, 1) := dk_27 (dk_at dksX10_kill_1 10 rfl rfl)
theorem dX10_kill_33 : decode cX10_kill 33 = .ok (.iload 4, 2) := dk_21 4 (dk_at dksX10_kill_1 11 rfl rfl)
theorem dX10_kill_35 : decode cX10_kill 35 = .ok (.iadd, 1) := dk_96 (dk_at dksX10_kill_1 13 rfl rfl)
theorem dX10_kill_36 : decode cX10_kill 36 = .ok (.iaload, 1) := dk_46 (dk_at dksX10_kill_1 14 rfl rfl)
theorem dX10_kill_37 : decode cX10_kill 37 = .ok (.iload_n 2, 1) := dk_28 (dk_at dksX10_kill_1 15 rfl rfl)
theorem dX10_kill_38 : decode cX10_kill 38 = .ok (.if_icmp .lt 18, 3) := dk_161 0 18 (dk_at dksX10_kill_1 16 rfl rfl)
theorem dX10_kill_41 : decode cX10_kill 41 = .ok (.aload_n 0, 1) := dk_42 (dk_at dksX10_kill_1 19 rfl rfl)
theorem dX10_kill_42 : decode cX10_kill 42 = .ok (.getfield 9, 3) := dk_180 0 9 (dk_at dksX10_kill_1 20 rfl rfl)
theorem dX10_kill_45 : decode cX10_kill 45 = .ok (.bipush 36, 2) := dk_16 36 (dk_at dksX10_kill_2 0 rfl rfl)
theorem dX10_kill_47 : decode cX10_kill 47 = .ok (.iconst 5, 1) := dk_8 (dk_at dksX10_kill_2 2 rfl rfl)
theorem dX10_kill_48 : decode cX10_kill 48 = .ok (.iload_n 3, 1) := dk_29 (dk_at dksX10_kill_2 3 rfl rfl)
theorem dX10_kill_49 : decode cX10_kill 49 = .ok (.imul, 1) := dk_104 (dk_at dksX10_kill_2 4 rfl rfl)
theorem dX10_kill_50 : decode cX10_kill 50 = .ok (.iadd, 1) := dk_96 (dk_at dksX10_kill_2 5 rfl rfl)
theorem dX10_kill_51 : decode cX10_kill 51 = .ok (.iconst 0, 1) := dk_3 (dk_at dksX10_kill_2 6 rfl rfl)
theorem dX10_kill_52 : decode cX10_kill 52 = .ok (.iadd, 1) := dk_96 (dk_at dksX10_kill_2 7 rfl rfl)
theorem dX10_kill_53 : decode cX10_kill 53 = .ok (.bipush 10, 2) := dk_16 10 (dk_at dksX10_kill_2 8 rfl rfl)
theorem dX10_kill_55 : decode cX10_kill 55 = .ok (.iastore, 1) := dk_79 (dk_at dksX10_kill_2 10 rfl rfl)
theorem dX10_kill_56 : decode cX10_kill 56 = .ok (.iinc 3 1, 3) := dk_132 3 1 (dk_at dksX10_kill_2 11 rfl rfl)
theorem dX10_kill_59 : decode cX10_kill 59 = .ok (.goto (-57), 3) := dk_167 255 199 (dk_at dksX10_kill_2 14 rfl rfl)
theorem dX10_kill_62 : decode cX10_kill 62 = .ok (.return_, 1) := dk_177 (dk_at dksX10_kill_2 17 rfl rfl)
abbrev cX10_last : ByteArray := prog_37_method_28_code
def yX10_last : MethodName := ⟨RX10, "last", "(I)I"⟩
def dkwX10_last_6 : List UInt8 := [167, 0, 4, 28, 172]
abbrev dktX10_last_6 : List UInt8 := dkwX10_last_6 ++ []
def dkwX10_last_5 : List UInt8 := [180, 0, 16, 42, 180, 0, 9, 184, 0, 135, 28, 18, 139, 160, 0, 12, 42, 18, 139, 182, 0, 88]
abbrev dktX10_last_5 : List UInt8 := dkwX10_last_5 ++ dktX10_last_6
def dkwX10_last_4 : List UInt8 := [16, 10, 46, 161, 0, 7, 29, 167, 0, 5, 18, 139, 61, 42, 182, 0, 132, 132, 3, 1, 167, 255, 194, 42]
abbrev dktX10_last_4 : List UInt8 := dkwX10_last_4 ++ dktX10_last_5
def dkwX10_last_3 : List UInt8 := [182, 0, 140, 154, 0, 43, 42, 182, 0, 129, 42, 180, 0, 9, 16, 28, 27, 96, 46, 42, 180, 0, 9]
abbrev dktX10_last_3 : List UInt8 := dkwX10_last_3 ++ dktX10_last_4
def dkwX10_last_2 : List UInt8 := [61, 4, 62, 28, 18, 139, 160, 0, 62, 42, 180, 0, 9, 3, 46, 17, 9, 95, 162, 0, 50, 42]
abbrev dktX10_last_2 : List UInt8 := dkwX10_last_2 ++ dktX10_last_3
def dkwX10_last_1 : List UInt8 := [180, 0, 9, 16, 10, 46, 161, 0, 5, 3, 172, 42, 180, 0, 9, 42, 180, 0, 16, 184, 0, 135, 18, 139]
abbrev dktX10_last_1 : List UInt8 := dkwX10_last_1 ++ dktX10_last_2
def dkwX10_last_0 : List UInt8 := [27, 184, 0, 92, 154, 0, 10, 42, 18, 87, 182, 0, 88, 172, 42, 180, 0, 9, 16, 28, 27, 96, 46, 42]
abbrev dktX10_last_0 : List UInt8 := dkwX10_last_0 ++ dktX10_last_1
theorem dksX10_last_0 : cX10_last.data.toList.drop 0 = dktX10_last_0 := by decide +kernel
theorem dksX10_last_1 : cX10_last.data.toList.drop 24 = dktX10_last_1 := dk_seg dksX10_last_0 24 rfl rfl
theorem dksX10_last_2 : cX10_last.data.toList.drop 48 = dktX10_last_2 := dk_seg dksX10_last_1 24 rfl rfl
theorem dksX10_last_3 : cX10_last.data.toList.drop 70 = dktX10_last_3 := dk_seg dksX10_last_2 22 rfl rfl
theorem dksX10_last_4 : cX10_last.data.toList.drop 93 = dktX10_last_4 := dk_seg dksX10_last_3 23 rfl rfl
theorem dksX10_last_5 : cX10_last.data.toList.drop 117 = dktX10_last_5 := dk_seg dksX10_last_4 24 rfl rfl
theorem dksX10_last_6 : cX10_last.data.toList.drop 139 = dktX10_last_6 := dk_seg dksX10_last_5 22 rfl rfl
theorem dX10_last_0 : decode cX10_last 0 = .ok (.iload_n 1, 1) := dk_27 (dk_at dksX10_last_0 0 rfl rfl)
theorem dX10_last_1 : decode cX10_last 1 = .ok (.invokestatic 92, 3) := dk_184 0 92 (dk_at dksX10_last_0 1 rfl rfl)
theorem dX10_last_4 : decode cX10_last 4 = .ok (.ifCond .ne 10, 3) := dk_154 0 10 (dk_at dksX10_last_0 4 rfl rfl)
theorem dX10_last_7 : decode cX10_last 7 = .ok (.aload_n 0, 1) := dk_42 (dk_at dksX10_last_0 7 rfl rfl)
theorem dX10_last_8 : decode cX10_last 8 = .ok (.ldc 87, 2) := dk_18 87 (dk_at dksX10_last_0 8 rfl rfl)
theorem dX10_last_10 : decode cX10_last 10 = .ok (.invokevirtual 88, 3) := dk_182 0 88 (dk_at dksX10_last_0 10 rfl rfl)
theorem dX10_last_13 : decode cX10_last 13 = .ok (.ireturn, 1) := dk_172 (dk_at dksX10_last_0 13 rfl rfl)
theorem dX10_last_14 : decode cX10_last 14 = .ok (.aload_n 0, 1) := dk_42 (dk_at dksX10_last_0 14 rfl rfl)
theorem dX10_last_15 : decode cX10_last 15 = .ok (.getfield 9, 3) := dk_180 0 9 (dk_at dksX10_last_0 15 rfl rfl)
theorem dX10_last_18 : decode cX10_last 18 = .ok (.bipush 28, 2) := dk_16 28 (dk_at dksX10_last_0 18 rfl rfl)
theorem dX10_last_20 : decode cX10_last 20 = .ok (.iload_n 1, 1) := dk_27 (dk_at dksX10_last_0 20 rfl rfl)
theorem dX10_last_21 : decode cX10_last 21 = .ok (.iadd, 1) := dk_96 (dk_at dksX10_last_0 21 rfl rfl)
theorem dX10_last_22 : decode cX10_last 22 = .ok (.iaload, 1) := dk_46 (dk_at dksX10_last_0 22 rfl rfl)
theorem dX10_last_23 : decode cX10_last 23 = .ok (.aload_n 0, 1) := dk_42 (dk_at dksX10_last_0 23 rfl rfl)
theorem dX10_last_24 : decode cX10_last 24 = .ok (.getfield 9, 3) := dk_180 0 9 (dk_at dksX10_last_1 0 rfl rfl)
theorem dX10_last_27 : decode cX10_last 27 = .ok (.bipush 10, 2) := dk_16 10 (dk_at dksX10_last_1 3 rfl rfl)
theorem dX10_last_29 : decode cX10_last 29 = .ok (.iaload, 1) := dk_46 (dk_at dksX10_last_1 5 rfl rfl)
theorem dX10_last_30 : decode cX10_last 30 = .ok (.if_icmp .lt 5, 3) := dk_161 0 5 (dk_at dksX10_last_1 6 rfl rfl)
theorem dX10_last_33 : decode cX10_last 33 = .ok (.iconst 0, 1) := dk_3 (dk_at dksX10_last_1 9 rfl rfl)
theorem dX10_last_34 : decode cX10_last 34 = .ok (.ireturn, 1) := dk_172 (dk_at dksX10_last_1 10 rfl rfl)
theorem dX10_last_35 : decode cX10_last 35 = .ok (.aload_n 0, 1) := dk_42 (dk_at dksX10_last_1 11 rfl rfl)
theorem dX10_last_36 : decode cX10_last 36 = .ok (.getfield 9, 3) := dk_180 0 9 (dk_at dksX10_last_1 12 rfl rfl)
theorem dX10_last_39 : decode cX10_last 39 = .ok (.aload_n 0, 1) := dk_42 (dk_at dksX10_last_1 15 rfl rfl)
theorem dX10_last_40 : decode cX10_last 40 = .ok (.getfield 16, 3) := dk_180 0 16 (dk_at dksX10_last_1 16 rfl rfl)
theorem dX10_last_43 : decode cX10_last 43 = .ok (.invokestatic 135, 3) := dk_184 0 135 (dk_at dksX10_last_1 19 rfl rfl)
theorem dX10_last_46 : decode cX10_last 46 = .ok (.ldc 139, 2) := dk_18 139 (dk_at dksX10_last_1 22 rfl rfl)
theorem dX10_last_48 : decode cX10_last 48 = .ok (.istore_n 2, 1) := dk_61 (dk_at dksX10_last_2 0 rfl rfl)
theorem dX10_last_49 : decode cX10_last 49 = .ok (.iconst 1, 1) := dk_4 (dk_at dksX10_last_2 1 rfl rfl)
theorem dX10_last_50 : decode cX10_last 50 = .ok (.istore_n 3, 1) := dk_62 (dk_at dksX10_last_2 2 rfl rfl)
theorem dX10_last_51 : decode cX10_last 51 = .ok (.iload_n 2, 1) := dk_28 (dk_at dksX10_last_2 3 rfl rfl)
theorem dX10_last_52 : decode cX10_last 52 = .ok (.ldc 139, 2) := dk_18 139 (dk_at dksX10_last_2 4 rfl rfl)
theorem dX10_last_54 : decode cX10_last 54 = .ok (.if_icmp .ne 62, 3) := dk_160 0 62 (dk_at dksX10_last_2 6 rfl rfl)
theorem dX10_last_57 : decode cX10_last 57 = .ok (.aload_n 0, 1) := dk_42 (dk_at dksX10_last_2 9 rfl rfl)
theorem dX10_last_58 : decode cX10_last 58 = .ok (.getfield 9, 3) := dk_180 0 9 (dk_at dksX10_last_2 10 rfl rfl)
theorem dX10_last_61 : decode cX10_last 61 = .ok (.iconst 0, 1) := dk_3 (dk_at dksX10_last_2 13 rfl rfl)
theorem dX10_last_62 : decode cX10_last 62 = .ok (.iaload, 1) := dk_46 (dk_at dksX10_last_2 14 rfl rfl)
theorem dX10_last_63 : decode cX10_last 63 = .ok (.sipush 2399, 3) := dk_17 9 95 (dk_at dksX10_last_2 15 rfl rfl)
theorem dX10_last_66 : decode cX10_last 66 = .ok (.if_icmp .ge 50, 3) := dk_162 0 50 (dk_at dksX10_last_2 18 rfl rfl)
theorem dX10_last_69 : decode cX10_last 69 = .ok (.aload_n 0, 1) := dk_42 (dk_at dksX10_last_2 21 rfl rfl)
theorem dX10_last_70 : decode cX10_last 70 = .ok (.invokevirtual 140, 3) := dk_182 0 140 (dk_at dksX10_last_3 0 rfl rfl)
theorem dX10_last_73 : decode cX10_last 73 = .ok (.ifCond .ne 43, 3) := dk_154 0 43 (dk_at dksX10_last_3 3 rfl rfl)
theorem dX10_last_76 : decode cX10_last 76 = .ok (.aload_n 0, 1) := dk_42 (dk_at dksX10_last_3 6 rfl rfl)
theorem dX10_last_77 : decode cX10_last 77 = .ok (.invokevirtual 129, 3) := dk_182 0 129 (dk_at dksX10_last_3 7 rfl rfl)
theorem dX10_last_80 : decode cX10_last 80 = .ok (.aload_n 0, 1) := dk_42 (dk_at dksX10_last_3 10 rfl rfl)
theorem dX10_last_81 : decode cX10_last 81 = .ok (.getfield 9, 3) := dk_180 0 9 (dk_at dksX10_last_3 11 rfl rfl)
theorem dX10_last_84 : decode cX10_last 84 = .ok (.bipush 28, 2) := dk_16 28 (dk_at dksX10_last_3 14 rfl rfl)
theorem dX10_last_86 : decode cX10_last 86 = .ok (.iload_n 1, 1) := dk_27 (dk_at dksX10_last_3 16 rfl rfl)
theorem dX10_last_87 : decode cX10_last 87 = .ok (.iadd, 1) := dk_96 (dk_at dksX10_last_3 17 rfl rfl)
theorem dX10_last_88 : decode cX10_last 88 = .ok (.iaload, 1) := dk_46 (dk_at dksX10_last_3 18 rfl rfl)
theorem dX10_last_89 : decode cX10_last 89 = .ok (.aload_n 0, 1) := dk_42 (dk_at dksX10_last_3 19 rfl rfl)
theorem dX10_last_90 : decode cX10_last 90 = .ok (.getfield 9, 3) := dk_180 0 9 (dk_at dksX10_last_3 20 rfl rfl)
theorem dX10_last_93 : decode cX10_last 93 = .ok (.bipush 10, 2) := dk_16 10 (dk_at dksX10_last_4 0 rfl rfl)
theorem dX10_last_95 : decode cX10_last 95 = .ok (.iaload, 1) := dk_46 (dk_at dksX10_last_4 2 rfl rfl)
theorem dX10_last_96 : decode cX10_last 96 = .ok (.if_icmp .lt 7, 3) := dk_161 0 7 (dk_at dksX10_last_4 3 rfl rfl)
theorem dX10_last_99 : decode cX10_last 99 = .ok (.iload_n 3, 1) := dk_29 (dk_at dksX10_last_4 6 rfl rfl)
theorem dX10_last_100 : decode cX10_last 100 = .ok (.goto 5, 3) := dk_167 0 5 (dk_at dksX10_last_4 7 rfl rfl)
theorem dX10_last_103 : decode cX10_last 103 = .ok (.ldc 139, 2) := dk_18 139 (dk_at dksX10_last_4 10 rfl rfl)
theorem dX10_last_105 : decode cX10_last 105 = .ok (.istore_n 2, 1) := dk_61 (dk_at dksX10_last_4 12 rfl rfl)
theorem dX10_last_106 : decode cX10_last 106 = .ok (.aload_n 0, 1) := dk_42 (dk_at dksX10_last_4 13 rfl rfl)
theorem dX10_last_107 : decode cX10_last 107 = .ok (.invokevirtual 132, 3) := dk_182 0 132 (dk_at dksX10_last_4 14 rfl rfl)
theorem dX10_last_110 : decode cX10_last 110 = .ok (.iinc 3 1, 3) := dk_132 3 1 (dk_at dksX10_last_4 17 rfl rfl)
theorem dX10_last_113 : decode cX10_last 113 = .ok (.goto (-62), 3) := dk_167 255 194 (dk_at dksX10_last_4 20 rfl rfl)
theorem dX10_last_116 : decode cX10_last 116 = .ok (.aload_n 0, 1) := dk_42 (dk_at dksX10_last_4 23 rfl rfl)
theorem dX10_last_117 : decode cX10_last 117 = .ok (.getfield 16, 3) := dk_180 0 16 (dk_at dksX10_last_5 0 rfl rfl)
theorem dX10_last_120 : decode cX10_last 120 = .ok (.aload_n 0, 1) := dk_42 (dk_at dksX10_last_5 3 rfl rfl)
theorem dX10_last_121 : decode cX10_last 121 = .ok (.getfield 9, 3) := dk_180 0 9 (dk_at dksX10_last_5 4 rfl rfl)
theorem dX10_last_124 : decode cX10_last 124 = .ok (.invokestatic 135, 3) := dk_184 0 135 (dk_at dksX10_last_5 7 rfl rfl)
theorem dX10_last_127 : decode cX10_last 127 = .ok (.iload_n 2, 1) := dk_28 (dk_at dksX10_last_5 10 rfl rfl)
theorem dX10_last_128 : decode cX10_last 128 = .ok (.ldc 139, 2) := dk_18 139 (dk_at dksX10_last_5 11 rfl rfl)
theorem dX10_last_130 : decode cX10_last 130 = .ok (.if_icmp .ne 12, 3) := dk_160 0 12 (dk_at dksX10_last_5 13 rfl rfl)
theorem dX10_last_133 : decode cX10_last 133 = .ok (.aload_n 0, 1) := dk_42 (dk_at dksX10_last_5 16 rfl rfl)
theorem dX10_last_134 : decode cX10_last 134 = .ok (.ldc 139, 2) := dk_18 139 (dk_at dksX10_last_5 17 rfl rfl)
theorem dX10_last_136 : decode cX10_last 136 = .ok (.invokevirtual 88, 3) := dk_182 0 88 (dk_at dksX10_last_5 19 rfl rfl)
theorem dX10_last_139 : decode cX10_last 139 = .ok (.goto 4, 3) := dk_167 0 4 (dk_at dksX10_last_6 0 rfl rfl)
theorem dX10_last_142 : decode cX10_last 142 = .ok (.iload_n 2, 1) := dk_28 (dk_at dksX10_last_6 3 rfl rfl)
theorem dX10_last_143 : decode cX10_last 143 = .ok (.ireturn, 1) := dk_172 (dk_at dksX10_last_6 4 rfl rfl)
abbrev cX10_copy : ByteArray := prog_37_method_9_code
def yX10_copy : MethodName := ⟨RX10, "copy", "([I[I)V"⟩
def dkwX10_copy_0 : List UInt8 := [3, 61, 28, 17, 2, 90, 162, 0, 15, 43, 28, 42, 28, 46, 79, 132, 2, 1, 167, 255, 240, 177]
abbrev dktX10_copy_0 : List UInt8 := dkwX10_copy_0 ++ []
theorem dksX10_copy_0 : cX10_copy.data.toList.drop 0 = dktX10_copy_0 := by decide +kernel
theorem dX10_copy_0 : decode cX10_copy 0 = .ok (.iconst 0, 1) := dk_3 (dk_at dksX10_copy_0 0 rfl rfl)
theorem dX10_copy_1 : decode cX10_copy 1 = .ok (.istore_n 2, 1) := dk_61 (dk_at dksX10_copy_0 1 rfl rfl)
theorem dX10_copy_2 : decode cX10_copy 2 = .ok (.iload_n 2, 1) := dk_28 (dk_at dksX10_copy_0 2 rfl rfl)
theorem dX10_copy_3 : decode cX10_copy 3 = .ok (.sipush 602, 3) := dk_17 2 90 (dk_at dksX10_copy_0 3 rfl rfl)
theorem dX10_copy_6 : decode cX10_copy 6 = .ok (.if_icmp .ge 15, 3) := dk_162 0 15 (dk_at dksX10_copy_0 6 rfl rfl)
theorem dX10_copy_9 : decode cX10_copy 9 = .ok (.aload_n 1, 1) := dk_43 (dk_at dksX10_copy_0 9 rfl rfl)
theorem dX10_copy_10 : decode cX10_copy 10 = .ok (.iload_n 2, 1) := dk_28 (dk_at dksX10_copy_0 10 rfl rfl)
theorem dX10_copy_11 : decode cX10_copy 11 = .ok (.aload_n 0, 1) := dk_42 (dk_at dksX10_copy_0 11 rfl rfl)
theorem dX10_copy_12 : decode cX10_copy 12 = .ok (.iload_n 2, 1) := dk_28 (dk_at dksX10_copy_0 12 rfl rfl)
theorem dX10_copy_13 : decode cX10_copy 13 = .ok (.iaload, 1) := dk_46 (dk_at dksX10_copy_0 13 rfl rfl)
theorem dX10_copy_14 : decode cX10_copy 14 = .ok (.iastore, 1) := dk_79 (dk_at dksX10_copy_0 14 rfl rfl)
theorem dX10_copy_15 : decode cX10_copy 15 = .ok (.iinc 2 1, 3) := dk_132 2 1 (dk_at dksX10_copy_0 15 rfl rfl)
theorem dX10_copy_18 : decode cX10_copy 18 = .ok (.goto (-16), 3) := dk_167 255 240 (dk_at dksX10_copy_0 18 rfl rfl)
theorem dX10_copy_21 : decode cX10_copy 21 = .ok (.return_, 1) := dk_177 (dk_at dksX10_copy_0 21 rfl rfl)
abbrev cX10_isStill : ByteArray := prog_37_method_27_code
def yX10_isStill : MethodName := ⟨RX10, "isStill", "()Z"⟩
def dkwX10_isStill_4 : List UInt8 := [160, 0, 7, 4, 167, 0, 4, 3, 60, 132, 2, 1, 167, 255, 194, 27, 172]
abbrev dktX10_isStill_4 : List UInt8 := dkwX10_isStill_4 ++ []
def dkwX10_isStill_3 : List UInt8 := [62, 27, 153, 0, 28, 42, 180, 0, 9, 16, 13, 28, 96, 46, 153, 0, 12, 29, 153, 0, 8, 29, 4]
abbrev dktX10_isStill_3 : List UInt8 := dkwX10_isStill_3 ++ dktX10_isStill_4
def dkwX10_isStill_2 : List UInt8 := [162, 0, 62, 42, 180, 0, 9, 16, 28, 28, 96, 46, 42, 180, 0, 9, 16, 28, 28, 96, 4, 96, 46, 100]
abbrev dktX10_isStill_2 : List UInt8 := dkwX10_isStill_2 ++ dktX10_isStill_3
def dkwX10_isStill_1 : List UInt8 := [184, 0, 92, 154, 0, 7, 4, 167, 0, 4, 3, 60, 132, 2, 1, 167, 255, 221, 3, 61, 28, 16, 7]
abbrev dktX10_isStill_1 : List UInt8 := dkwX10_isStill_1 ++ dktX10_isStill_2
def dkwX10_isStill_0 : List UInt8 := [4, 60, 3, 61, 28, 42, 180, 0, 9, 4, 46, 162, 0, 31, 27, 153, 0, 19, 42, 28, 3, 182, 0, 105]
abbrev dktX10_isStill_0 : List UInt8 := dkwX10_isStill_0 ++ dktX10_isStill_1
theorem dksX10_isStill_0 : cX10_isStill.data.toList.drop 0 = dktX10_isStill_0 := by decide +kernel
theorem dksX10_isStill_1 : cX10_isStill.data.toList.drop 24 = dktX10_isStill_1 := dk_seg dksX10_isStill_0 24 rfl rfl
theorem dksX10_isStill_2 : cX10_isStill.data.toList.drop 47 = dktX10_isStill_2 := dk_seg dksX10_isStill_1 23 rfl rfl
theorem dksX10_isStill_3 : cX10_isStill.data.toList.drop 71 = dktX10_isStill_3 := dk_seg dksX10_isStill_2 24 rfl rfl
theorem dksX10_isStill_4 : cX10_isStill.data.toList.drop 94 = dktX10_isStill_4 := dk_seg dksX10_isStill_3 23 rfl rfl
theorem dX10_isStill_0 : decode cX10_isStill 0 = .ok (.iconst 1, 1) := dk_4 (dk_at dksX10_isStill_0 0 rfl rfl)
theorem dX10_isStill_1 : decode cX10_isStill 1 = .ok (.istore_n 1, 1) := dk_60 (dk_at dksX10_isStill_0 1 rfl rfl)
theorem dX10_isStill_2 : decode cX10_isStill 2 = .ok (.iconst 0, 1) := dk_3 (dk_at dksX10_isStill_0 2 rfl rfl)
theorem dX10_isStill_3 : decode cX10_isStill 3 = .ok (.istore_n 2, 1) := dk_61 (dk_at dksX10_isStill_0 3 rfl rfl)
theorem dX10_isStill_4 : decode cX10_isStill 4 = .ok (.iload_n 2, 1) := dk_28 (dk_at dksX10_isStill_0 4 rfl rfl)
theorem dX10_isStill_5 : decode cX10_isStill 5 = .ok (.aload_n 0, 1) := dk_42 (dk_at dksX10_isStill_0 5 rfl rfl)
theorem dX10_isStill_6 : decode cX10_isStill 6 = .ok (.getfield 9, 3) := dk_180 0 9 (dk_at dksX10_isStill_0 6 rfl rfl)
theorem dX10_isStill_9 : decode cX10_isStill 9 = .ok (.iconst 1, 1) := dk_4 (dk_at dksX10_isStill_0 9 rfl rfl)
theorem dX10_isStill_10 : decode cX10_isStill 10 = .ok (.iaload, 1) := dk_46 (dk_at dksX10_isStill_0 10 rfl rfl)
theorem dX10_isStill_11 : decode cX10_isStill 11 = .ok (.if_icmp .ge 31, 3) := dk_162 0 31 (dk_at dksX10_isStill_0 11 rfl rfl)
theorem dX10_isStill_14 : decode cX10_isStill 14 = .ok (.iload_n 1, 1) := dk_27 (dk_at dksX10_isStill_0 14 rfl rfl)
theorem dX10_isStill_15 : decode cX10_isStill 15 = .ok (.ifCond .eq 19, 3) := dk_153 0 19 (dk_at dksX10_isStill_0 15 rfl rfl)
theorem dX10_isStill_18 : decode cX10_isStill 18 = .ok (.aload_n 0, 1) := dk_42 (dk_at dksX10_isStill_0 18 rfl rfl)
theorem dX10_isStill_19 : decode cX10_isStill 19 = .ok (.iload_n 2, 1) := dk_28 (dk_at dksX10_isStill_0 19 rfl rfl)
theorem dX10_isStill_20 : decode cX10_isStill 20 = .ok (.iconst 0, 1) := dk_3 (dk_at dksX10_isStill_0 20 rfl rfl)
theorem dX10_isStill_21 : decode cX10_isStill 21 = .ok (.invokevirtual 105, 3) := dk_182 0 105 (dk_at dksX10_isStill_0 21 rfl rfl)
theorem dX10_isStill_24 : decode cX10_isStill 24 = .ok (.invokestatic 92, 3) := dk_184 0 92 (dk_at dksX10_isStill_1 0 rfl rfl)
theorem dX10_isStill_27 : decode cX10_isStill 27 = .ok (.ifCond .ne 7, 3) := dk_154 0 7 (dk_at dksX10_isStill_1 3 rfl rfl)
theorem dX10_isStill_30 : decode cX10_isStill 30 = .ok (.iconst 1, 1) := dk_4 (dk_at dksX10_isStill_1 6 rfl rfl)
theorem dX10_isStill_31 : decode cX10_isStill 31 = .ok (.goto 4, 3) := dk_167 0 4 (dk_at dksX10_isStill_1 7 rfl rfl)
theorem dX10_isStill_34 : decode cX10_isStill 34 = .ok (.iconst 0, 1) := dk_3 (dk_at dksX10_isStill_1 10 rfl rfl)
theorem dX10_isStill_35 : decode cX10_isStill 35 = .ok (.istore_n 1, 1) := dk_60 (dk_at dksX10_isStill_1 11 rfl rfl)
theorem dX10_isStill_36 : decode cX10_isStill 36 = .ok (.iinc 2 1, 3) := dk_132 2 1 (dk_at dksX10_isStill_1 12 rfl rfl)
theorem dX10_isStill_39 : decode cX10_isStill 39 = .ok (.goto (-35), 3) := dk_167 255 221 (dk_at dksX10_isStill_1 15 rfl rfl)
theorem dX10_isStill_42 : decode cX10_isStill 42 = .ok (.iconst 0, 1) := dk_3 (dk_at dksX10_isStill_1 18 rfl rfl)
theorem dX10_isStill_43 : decode cX10_isStill 43 = .ok (.istore_n 2, 1) := dk_61 (dk_at dksX10_isStill_1 19 rfl rfl)
theorem dX10_isStill_44 : decode cX10_isStill 44 = .ok (.iload_n 2, 1) := dk_28 (dk_at dksX10_isStill_1 20 rfl rfl)
theorem dX10_isStill_45 : decode cX10_isStill 45 = .ok (.bipush 7, 2) := dk_16 7 (dk_at dksX10_isStill_1 21 rfl rfl)
theorem dX10_isStill_47 : decode cX10_isStill 47 = .ok (.if_icmp .ge 62, 3) := dk_162 0 62 (dk_at dksX10_isStill_2 0 rfl rfl)
theorem dX10_isStill_50 : decode cX10_isStill 50 = .ok (.aload_n 0, 1) := dk_42 (dk_at dksX10_isStill_2 3 rfl rfl)
theorem dX10_isStill_51 : decode cX10_isStill 51 = .ok (.getfield 9, 3) := dk_180 0 9 (dk_at dksX10_isStill_2 4 rfl rfl)
theorem dX10_isStill_54 : decode cX10_isStill 54 = .ok (.bipush 28, 2) := dk_16 28 (dk_at dksX10_isStill_2 7 rfl rfl)
theorem dX10_isStill_56 : decode cX10_isStill 56 = .ok (.iload_n 2, 1) := dk_28 (dk_at dksX10_isStill_2 9 rfl rfl)
theorem dX10_isStill_57 : decode cX10_isStill 57 = .ok (.iadd, 1) := dk_96 (dk_at dksX10_isStill_2 10 rfl rfl)
theorem dX10_isStill_58 : decode cX10_isStill 58 = .ok (.iaload, 1) := dk_46 (dk_at dksX10_isStill_2 11 rfl rfl)
theorem dX10_isStill_59 : decode cX10_isStill 59 = .ok (.aload_n 0, 1) := dk_42 (dk_at dksX10_isStill_2 12 rfl rfl)
theorem dX10_isStill_60 : decode cX10_isStill 60 = .ok (.getfield 9, 3) := dk_180 0 9 (dk_at dksX10_isStill_2 13 rfl rfl)
theorem dX10_isStill_63 : decode cX10_isStill 63 = .ok (.bipush 28, 2) := dk_16 28 (dk_at dksX10_isStill_2 16 rfl rfl)
theorem dX10_isStill_65 : decode cX10_isStill 65 = .ok (.iload_n 2, 1) := dk_28 (dk_at dksX10_isStill_2 18 rfl rfl)
theorem dX10_isStill_66 : decode cX10_isStill 66 = .ok (.iadd, 1) := dk_96 (dk_at dksX10_isStill_2 19 rfl rfl)
theorem dX10_isStill_67 : decode cX10_isStill 67 = .ok (.iconst 1, 1) := dk_4 (dk_at dksX10_isStill_2 20 rfl rfl)
theorem dX10_isStill_68 : decode cX10_isStill 68 = .ok (.iadd, 1) := dk_96 (dk_at dksX10_isStill_2 21 rfl rfl)
theorem dX10_isStill_69 : decode cX10_isStill 69 = .ok (.iaload, 1) := dk_46 (dk_at dksX10_isStill_2 22 rfl rfl)
theorem dX10_isStill_70 : decode cX10_isStill 70 = .ok (.isub, 1) := dk_100 (dk_at dksX10_isStill_2 23 rfl rfl)
theorem dX10_isStill_71 : decode cX10_isStill 71 = .ok (.istore_n 3, 1) := dk_62 (dk_at dksX10_isStill_3 0 rfl rfl)
theorem dX10_isStill_72 : decode cX10_isStill 72 = .ok (.iload_n 1, 1) := dk_27 (dk_at dksX10_isStill_3 1 rfl rfl)
theorem dX10_isStill_73 : decode cX10_isStill 73 = .ok (.ifCond .eq 28, 3) := dk_153 0 28 (dk_at dksX10_isStill_3 2 rfl rfl)
theorem dX10_isStill_76 : decode cX10_isStill 76 = .ok (.aload_n 0, 1) := dk_42 (dk_at dksX10_isStill_3 5 rfl rfl)
theorem dX10_isStill_77 : decode cX10_isStill 77 = .ok (.getfield 9, 3) := dk_180 0 9 (dk_at dksX10_isStill_3 6 rfl rfl)
theorem dX10_isStill_80 : decode cX10_isStill 80 = .ok (.bipush 13, 2) := dk_16 13 (dk_at dksX10_isStill_3 9 rfl rfl)
theorem dX10_isStill_82 : decode cX10_isStill 82 = .ok (.iload_n 2, 1) := dk_28 (dk_at dksX10_isStill_3 11 rfl rfl)
theorem dX10_isStill_83 : decode cX10_isStill 83 = .ok (.iadd, 1) := dk_96 (dk_at dksX10_isStill_3 12 rfl rfl)
theorem dX10_isStill_84 : decode cX10_isStill 84 = .ok (.iaload, 1) := dk_46 (dk_at dksX10_isStill_3 13 rfl rfl)
theorem dX10_isStill_85 : decode cX10_isStill 85 = .ok (.ifCond .eq 12, 3) := dk_153 0 12 (dk_at dksX10_isStill_3 14 rfl rfl)
theorem dX10_isStill_88 : decode cX10_isStill 88 = .ok (.iload_n 3, 1) := dk_29 (dk_at dksX10_isStill_3 17 rfl rfl)
theorem dX10_isStill_89 : decode cX10_isStill 89 = .ok (.ifCond .eq 8, 3) := dk_153 0 8 (dk_at dksX10_isStill_3 18 rfl rfl)
theorem dX10_isStill_92 : decode cX10_isStill 92 = .ok (.iload_n 3, 1) := dk_29 (dk_at dksX10_isStill_3 21 rfl rfl)
theorem dX10_isStill_93 : decode cX10_isStill 93 = .ok (.iconst 1, 1) := dk_4 (dk_at dksX10_isStill_3 22 rfl rfl)
theorem dX10_isStill_94 : decode cX10_isStill 94 = .ok (.if_icmp .ne 7, 3) := dk_160 0 7 (dk_at dksX10_isStill_4 0 rfl rfl)
theorem dX10_isStill_97 : decode cX10_isStill 97 = .ok (.iconst 1, 1) := dk_4 (dk_at dksX10_isStill_4 3 rfl rfl)
theorem dX10_isStill_98 : decode cX10_isStill 98 = .ok (.goto 4, 3) := dk_167 0 4 (dk_at dksX10_isStill_4 4 rfl rfl)
theorem dX10_isStill_101 : decode cX10_isStill 101 = .ok (.iconst 0, 1) := dk_3 (dk_at dksX10_isStill_4 7 rfl rfl)
theorem dX10_isStill_102 : decode cX10_isStill 102 = .ok (.istore_n 1, 1) := dk_60 (dk_at dksX10_isStill_4 8 rfl rfl)
theorem dX10_isStill_103 : decode cX10_isStill 103 = .ok (.iinc 2 1, 3) := dk_132 2 1 (dk_at dksX10_isStill_4 9 rfl rfl)
theorem dX10_isStill_106 : decode cX10_isStill 106 = .ok (.goto (-62), 3) := dk_167 255 194 (dk_at dksX10_isStill_4 12 rfl rfl)
theorem dX10_isStill_109 : decode cX10_isStill 109 = .ok (.iload_n 1, 1) := dk_27 (dk_at dksX10_isStill_4 15 rfl rfl)
theorem dX10_isStill_110 : decode cX10_isStill 110 = .ok (.ireturn, 1) := dk_172 (dk_at dksX10_isStill_4 16 rfl rfl)
abbrev cX10_dead : ByteArray := prog_37_method_29_code
def yX10_dead : MethodName := ⟨RX10, "dead", "(I)I"⟩
def dkwX10_dead_3 : List UInt8 := [42, 16, 10, 182, 0, 109, 184, 0, 144, 61, 42, 180, 0, 16, 42, 180, 0, 9, 184, 0, 135, 28, 172]
abbrev dktX10_dead_3 : List UInt8 := dkwX10_dead_3 ++ []
def dkwX10_dead_2 : List UInt8 := [184, 0, 135, 3, 61, 28, 27, 162, 0, 17, 42, 182, 0, 129, 42, 182, 0, 132, 132, 2, 1, 167, 255, 240]
abbrev dktX10_dead_2 : List UInt8 := dkwX10_dead_2 ++ dktX10_dead_3
def dkwX10_dead_1 : List UInt8 := [27, 96, 17, 9, 95, 164, 0, 10, 42, 18, 108, 182, 0, 88, 172, 42, 180, 0, 9, 42, 180, 0, 16]
abbrev dktX10_dead_1 : List UInt8 := dkwX10_dead_1 ++ dktX10_dead_2
def dkwX10_dead_0 : List UInt8 := [27, 4, 17, 2, 88, 184, 0, 78, 154, 0, 10, 42, 18, 87, 182, 0, 88, 172, 42, 180, 0, 9, 3, 46]
abbrev dktX10_dead_0 : List UInt8 := dkwX10_dead_0 ++ dktX10_dead_1
theorem dksX10_dead_0 : cX10_dead.data.toList.drop 0 = dktX10_dead_0 := by decide +kernel
theorem dksX10_dead_1 : cX10_dead.data.toList.drop 24 = dktX10_dead_1 := dk_seg dksX10_dead_0 24 rfl rfl
theorem dksX10_dead_2 : cX10_dead.data.toList.drop 47 = dktX10_dead_2 := dk_seg dksX10_dead_1 23 rfl rfl
theorem dksX10_dead_3 : cX10_dead.data.toList.drop 71 = dktX10_dead_3 := dk_seg dksX10_dead_2 24 rfl rfl
theorem dX10_dead_0 : decode cX10_dead 0 = .ok (.iload_n 1, 1) := dk_27 (dk_at dksX10_dead_0 0 rfl rfl)
theorem dX10_dead_1 : decode cX10_dead 1 = .ok (.iconst 1, 1) := dk_4 (dk_at dksX10_dead_0 1 rfl rfl)
theorem dX10_dead_2 : decode cX10_dead 2 = .ok (.sipush 600, 3) := dk_17 2 88 (dk_at dksX10_dead_0 2 rfl rfl)
theorem dX10_dead_5 : decode cX10_dead 5 = .ok (.invokestatic 78, 3) := dk_184 0 78 (dk_at dksX10_dead_0 5 rfl rfl)
theorem dX10_dead_8 : decode cX10_dead 8 = .ok (.ifCond .ne 10, 3) := dk_154 0 10 (dk_at dksX10_dead_0 8 rfl rfl)
theorem dX10_dead_11 : decode cX10_dead 11 = .ok (.aload_n 0, 1) := dk_42 (dk_at dksX10_dead_0 11 rfl rfl)
theorem dX10_dead_12 : decode cX10_dead 12 = .ok (.ldc 87, 2) := dk_18 87 (dk_at dksX10_dead_0 12 rfl rfl)
theorem dX10_dead_14 : decode cX10_dead 14 = .ok (.invokevirtual 88, 3) := dk_182 0 88 (dk_at dksX10_dead_0 14 rfl rfl)
theorem dX10_dead_17 : decode cX10_dead 17 = .ok (.ireturn, 1) := dk_172 (dk_at dksX10_dead_0 17 rfl rfl)
theorem dX10_dead_18 : decode cX10_dead 18 = .ok (.aload_n 0, 1) := dk_42 (dk_at dksX10_dead_0 18 rfl rfl)
theorem dX10_dead_19 : decode cX10_dead 19 = .ok (.getfield 9, 3) := dk_180 0 9 (dk_at dksX10_dead_0 19 rfl rfl)
theorem dX10_dead_22 : decode cX10_dead 22 = .ok (.iconst 0, 1) := dk_3 (dk_at dksX10_dead_0 22 rfl rfl)
theorem dX10_dead_23 : decode cX10_dead 23 = .ok (.iaload, 1) := dk_46 (dk_at dksX10_dead_0 23 rfl rfl)
theorem dX10_dead_24 : decode cX10_dead 24 = .ok (.iload_n 1, 1) := dk_27 (dk_at dksX10_dead_1 0 rfl rfl)
theorem dX10_dead_25 : decode cX10_dead 25 = .ok (.iadd, 1) := dk_96 (dk_at dksX10_dead_1 1 rfl rfl)
theorem dX10_dead_26 : decode cX10_dead 26 = .ok (.sipush 2399, 3) := dk_17 9 95 (dk_at dksX10_dead_1 2 rfl rfl)
theorem dX10_dead_29 : decode cX10_dead 29 = .ok (.if_icmp .le 10, 3) := dk_164 0 10 (dk_at dksX10_dead_1 5 rfl rfl)
theorem dX10_dead_32 : decode cX10_dead 32 = .ok (.aload_n 0, 1) := dk_42 (dk_at dksX10_dead_1 8 rfl rfl)
theorem dX10_dead_33 : decode cX10_dead 33 = .ok (.ldc 108, 2) := dk_18 108 (dk_at dksX10_dead_1 9 rfl rfl)
theorem dX10_dead_35 : decode cX10_dead 35 = .ok (.invokevirtual 88, 3) := dk_182 0 88 (dk_at dksX10_dead_1 11 rfl rfl)
theorem dX10_dead_38 : decode cX10_dead 38 = .ok (.ireturn, 1) := dk_172 (dk_at dksX10_dead_1 14 rfl rfl)
theorem dX10_dead_39 : decode cX10_dead 39 = .ok (.aload_n 0, 1) := dk_42 (dk_at dksX10_dead_1 15 rfl rfl)
theorem dX10_dead_40 : decode cX10_dead 40 = .ok (.getfield 9, 3) := dk_180 0 9 (dk_at dksX10_dead_1 16 rfl rfl)
theorem dX10_dead_43 : decode cX10_dead 43 = .ok (.aload_n 0, 1) := dk_42 (dk_at dksX10_dead_1 19 rfl rfl)
theorem dX10_dead_44 : decode cX10_dead 44 = .ok (.getfield 16, 3) := dk_180 0 16 (dk_at dksX10_dead_1 20 rfl rfl)
theorem dX10_dead_47 : decode cX10_dead 47 = .ok (.invokestatic 135, 3) := dk_184 0 135 (dk_at dksX10_dead_2 0 rfl rfl)
theorem dX10_dead_50 : decode cX10_dead 50 = .ok (.iconst 0, 1) := dk_3 (dk_at dksX10_dead_2 3 rfl rfl)
theorem dX10_dead_51 : decode cX10_dead 51 = .ok (.istore_n 2, 1) := dk_61 (dk_at dksX10_dead_2 4 rfl rfl)
theorem dX10_dead_52 : decode cX10_dead 52 = .ok (.iload_n 2, 1) := dk_28 (dk_at dksX10_dead_2 5 rfl rfl)
theorem dX10_dead_53 : decode cX10_dead 53 = .ok (.iload_n 1, 1) := dk_27 (dk_at dksX10_dead_2 6 rfl rfl)
theorem dX10_dead_54 : decode cX10_dead 54 = .ok (.if_icmp .ge 17, 3) := dk_162 0 17 (dk_at dksX10_dead_2 7 rfl rfl)
theorem dX10_dead_57 : decode cX10_dead 57 = .ok (.aload_n 0, 1) := dk_42 (dk_at dksX10_dead_2 10 rfl rfl)
theorem dX10_dead_58 : decode cX10_dead 58 = .ok (.invokevirtual 129, 3) := dk_182 0 129 (dk_at dksX10_dead_2 11 rfl rfl)
theorem dX10_dead_61 : decode cX10_dead 61 = .ok (.aload_n 0, 1) := dk_42 (dk_at dksX10_dead_2 14 rfl rfl)
theorem dX10_dead_62 : decode cX10_dead 62 = .ok (.invokevirtual 132, 3) := dk_182 0 132 (dk_at dksX10_dead_2 15 rfl rfl)
theorem dX10_dead_65 : decode cX10_dead 65 = .ok (.iinc 2 1, 3) := dk_132 2 1 (dk_at dksX10_dead_2 18 rfl rfl)
theorem dX10_dead_68 : decode cX10_dead 68 = .ok (.goto (-16), 3) := dk_167 255 240 (dk_at dksX10_dead_2 21 rfl rfl)
theorem dX10_dead_71 : decode cX10_dead 71 = .ok (.aload_n 0, 1) := dk_42 (dk_at dksX10_dead_3 0 rfl rfl)
theorem dX10_dead_72 : decode cX10_dead 72 = .ok (.bipush 10, 2) := dk_16 10 (dk_at dksX10_dead_3 1 rfl rfl)
theorem dX10_dead_74 : decode cX10_dead 74 = .ok (.invokevirtual 109, 3) := dk_182 0 109 (dk_at dksX10_dead_3 3 rfl rfl)
theorem dX10_dead_77 : decode cX10_dead 77 = .ok (.invokestatic 144, 3) := dk_184 0 144 (dk_at dksX10_dead_3 6 rfl rfl)
theorem dX10_dead_80 : decode cX10_dead 80 = .ok (.istore_n 2, 1) := dk_61 (dk_at dksX10_dead_3 9 rfl rfl)
theorem dX10_dead_81 : decode cX10_dead 81 = .ok (.aload_n 0, 1) := dk_42 (dk_at dksX10_dead_3 10 rfl rfl)
theorem dX10_dead_82 : decode cX10_dead 82 = .ok (.getfield 16, 3) := dk_180 0 16 (dk_at dksX10_dead_3 11 rfl rfl)
theorem dX10_dead_85 : decode cX10_dead 85 = .ok (.aload_n 0, 1) := dk_42 (dk_at dksX10_dead_3 14 rfl rfl)
theorem dX10_dead_86 : decode cX10_dead 86 = .ok (.getfield 9, 3) := dk_180 0 9 (dk_at dksX10_dead_3 15 rfl rfl)
theorem dX10_dead_89 : decode cX10_dead 89 = .ok (.invokestatic 135, 3) := dk_184 0 135 (dk_at dksX10_dead_3 18 rfl rfl)
theorem dX10_dead_92 : decode cX10_dead 92 = .ok (.iload_n 2, 1) := dk_28 (dk_at dksX10_dead_3 21 rfl rfl)
theorem dX10_dead_93 : decode cX10_dead 93 = .ok (.ireturn, 1) := dk_172 (dk_at dksX10_dead_3 22 rfl rfl)
abbrev cX10_bits : ByteArray := prog_37_method_7_code
def yX10_bits : MethodName := ⟨RX10, "bits", "(I)I"⟩
def dkwX10_bits_1 : List UInt8 := [27, 172]
abbrev dktX10_bits_1 : List UInt8 := dkwX10_bits_1 ++ []
def dkwX10_bits_0 : List UInt8 := [3, 60, 3, 61, 28, 16, 16, 162, 0, 17, 27, 26, 28, 122, 4, 126, 96, 60, 132, 2, 1, 167, 255, 239]
abbrev dktX10_bits_0 : List UInt8 := dkwX10_bits_0 ++ dktX10_bits_1
theorem dksX10_bits_0 : cX10_bits.data.toList.drop 0 = dktX10_bits_0 := by decide +kernel
theorem dksX10_bits_1 : cX10_bits.data.toList.drop 24 = dktX10_bits_1 := dk_seg dksX10_bits_0 24 rfl rfl
theorem dX10_bits_0 : decode cX10_bits 0 = .ok (.iconst 0, 1) := dk_3 (dk_at dksX10_bits_0 0 rfl rfl)
theorem dX10_bits_1 : decode cX10_bits 1 = .ok (.istore_n 1, 1) := dk_60 (dk_at dksX10_bits_0 1 rfl rfl)
theorem dX10_bits_2 : decode cX10_bits 2 = .ok (.iconst 0, 1) := dk_3 (dk_at dksX10_bits_0 2 rfl rfl)
theorem dX10_bits_3 : decode cX10_bits 3 = .ok (.istore_n 2, 1) := dk_61 (dk_at dksX10_bits_0 3 rfl rfl)
theorem dX10_bits_4 : decode cX10_bits 4 = .ok (.iload_n 2, 1) := dk_28 (dk_at dksX10_bits_0 4 rfl rfl)
theorem dX10_bits_5 : decode cX10_bits 5 = .ok (.bipush 16, 2) := dk_16 16 (dk_at dksX10_bits_0 5 rfl rfl)
theorem dX10_bits_7 : decode cX10_bits 7 = .ok (.if_icmp .ge 17, 3) := dk_162 0 17 (dk_at dksX10_bits_0 7 rfl rfl)
theorem dX10_bits_10 : decode cX10_bits 10 = .ok (.iload_n 1, 1) := dk_27 (dk_at dksX10_bits_0 10 rfl rfl)
theorem dX10_bits_11 : decode cX10_bits 11 = .ok (.iload_n 0, 1) := dk_26 (dk_at dksX10_bits_0 11 rfl rfl)
theorem dX10_bits_12 : decode cX10_bits 12 = .ok (.iload_n 2, 1) := dk_28 (dk_at dksX10_bits_0 12 rfl rfl)
theorem dX10_bits_13 : decode cX10_bits 13 = .ok (.ishr, 1) := dk_122 (dk_at dksX10_bits_0 13 rfl rfl)
theorem dX10_bits_14 : decode cX10_bits 14 = .ok (.iconst 1, 1) := dk_4 (dk_at dksX10_bits_0 14 rfl rfl)
theorem dX10_bits_15 : decode cX10_bits 15 = .ok (.iand, 1) := dk_126 (dk_at dksX10_bits_0 15 rfl rfl)
theorem dX10_bits_16 : decode cX10_bits 16 = .ok (.iadd, 1) := dk_96 (dk_at dksX10_bits_0 16 rfl rfl)
theorem dX10_bits_17 : decode cX10_bits 17 = .ok (.istore_n 1, 1) := dk_60 (dk_at dksX10_bits_0 17 rfl rfl)
theorem dX10_bits_18 : decode cX10_bits 18 = .ok (.iinc 2 1, 3) := dk_132 2 1 (dk_at dksX10_bits_0 18 rfl rfl)
theorem dX10_bits_21 : decode cX10_bits 21 = .ok (.goto (-17), 3) := dk_167 255 239 (dk_at dksX10_bits_0 21 rfl rfl)
theorem dX10_bits_24 : decode cX10_bits 24 = .ok (.iload_n 1, 1) := dk_27 (dk_at dksX10_bits_1 0 rfl rfl)
theorem dX10_bits_25 : decode cX10_bits 25 = .ok (.ireturn, 1) := dk_172 (dk_at dksX10_bits_1 1 rfl rfl)
abbrev cX10_feed : ByteArray := prog_37_method_30_code
def yX10_feed : MethodName := ⟨RX10, "feed", "(JI)I"⟩
def dkwX10_feed_4 : List UInt8 := [16, 6, 46, 172]
abbrev dktX10_feed_4 : List UInt8 := dkwX10_feed_4 ++ []
def dkwX10_feed_3 : List UInt8 := [127, 136, 79, 42, 180, 0, 9, 16, 6, 92, 46, 4, 96, 79, 132, 4, 1, 167, 255, 208, 42, 180, 0, 9]
abbrev dktX10_feed_3 : List UInt8 := dkwX10_feed_3 ++ dktX10_feed_4
def dkwX10_feed_2 : List UInt8 := [180, 0, 9, 17, 1, 68, 42, 180, 0, 9, 16, 6, 46, 96, 31, 16, 8, 21, 4, 104, 123, 20, 0, 147]
abbrev dktX10_feed_2 : List UInt8 := dkwX10_feed_2 ++ dktX10_feed_3
def dkwX10_feed_1 : List UInt8 := [29, 96, 16, 50, 164, 0, 10, 42, 18, 96, 182, 0, 88, 172, 3, 54, 4, 21, 4, 29, 162, 0, 48, 42]
abbrev dktX10_feed_1 : List UInt8 := dkwX10_feed_1 ++ dktX10_feed_2
def dkwX10_feed_0 : List UInt8 := [29, 4, 16, 8, 184, 0, 78, 154, 0, 10, 42, 18, 87, 182, 0, 88, 172, 42, 180, 0, 9, 16, 6, 46]
abbrev dktX10_feed_0 : List UInt8 := dkwX10_feed_0 ++ dktX10_feed_1
theorem dksX10_feed_0 : cX10_feed.data.toList.drop 0 = dktX10_feed_0 := by decide +kernel
theorem dksX10_feed_1 : cX10_feed.data.toList.drop 24 = dktX10_feed_1 := dk_seg dksX10_feed_0 24 rfl rfl
theorem dksX10_feed_2 : cX10_feed.data.toList.drop 48 = dktX10_feed_2 := dk_seg dksX10_feed_1 24 rfl rfl
theorem dksX10_feed_3 : cX10_feed.data.toList.drop 72 = dktX10_feed_3 := dk_seg dksX10_feed_2 24 rfl rfl
theorem dksX10_feed_4 : cX10_feed.data.toList.drop 96 = dktX10_feed_4 := dk_seg dksX10_feed_3 24 rfl rfl
theorem dX10_feed_0 : decode cX10_feed 0 = .ok (.iload_n 3, 1) := dk_29 (dk_at dksX10_feed_0 0 rfl rfl)
theorem dX10_feed_1 : decode cX10_feed 1 = .ok (.iconst 1, 1) := dk_4 (dk_at dksX10_feed_0 1 rfl rfl)
theorem dX10_feed_2 : decode cX10_feed 2 = .ok (.bipush 8, 2) := dk_16 8 (dk_at dksX10_feed_0 2 rfl rfl)
theorem dX10_feed_4 : decode cX10_feed 4 = .ok (.invokestatic 78, 3) := dk_184 0 78 (dk_at dksX10_feed_0 4 rfl rfl)
theorem dX10_feed_7 : decode cX10_feed 7 = .ok (.ifCond .ne 10, 3) := dk_154 0 10 (dk_at dksX10_feed_0 7 rfl rfl)
theorem dX10_feed_10 : decode cX10_feed 10 = .ok (.aload_n 0, 1) := dk_42 (dk_at dksX10_feed_0 10 rfl rfl)
theorem dX10_feed_11 : decode cX10_feed 11 = .ok (.ldc 87, 2) := dk_18 87 (dk_at dksX10_feed_0 11 rfl rfl)
theorem dX10_feed_13 : decode cX10_feed 13 = .ok (.invokevirtual 88, 3) := dk_182 0 88 (dk_at dksX10_feed_0 13 rfl rfl)
theorem dX10_feed_16 : decode cX10_feed 16 = .ok (.ireturn, 1) := dk_172 (dk_at dksX10_feed_0 16 rfl rfl)
theorem dX10_feed_17 : decode cX10_feed 17 = .ok (.aload_n 0, 1) := dk_42 (dk_at dksX10_feed_0 17 rfl rfl)
theorem dX10_feed_18 : decode cX10_feed 18 = .ok (.getfield 9, 3) := dk_180 0 9 (dk_at dksX10_feed_0 18 rfl rfl)
theorem dX10_feed_21 : decode cX10_feed 21 = .ok (.bipush 6, 2) := dk_16 6 (dk_at dksX10_feed_0 21 rfl rfl)
theorem dX10_feed_23 : decode cX10_feed 23 = .ok (.iaload, 1) := dk_46 (dk_at dksX10_feed_0 23 rfl rfl)
theorem dX10_feed_24 : decode cX10_feed 24 = .ok (.iload_n 3, 1) := dk_29 (dk_at dksX10_feed_1 0 rfl rfl)
theorem dX10_feed_25 : decode cX10_feed 25 = .ok (.iadd, 1) := dk_96 (dk_at dksX10_feed_1 1 rfl rfl)
theorem dX10_feed_26 : decode cX10_feed 26 = .ok (.bipush 50, 2) := dk_16 50 (dk_at dksX10_feed_1 2 rfl rfl)
theorem dX10_feed_28 : decode cX10_feed 28 = .ok (.if_icmp .le 10, 3) := dk_164 0 10 (dk_at dksX10_feed_1 4 rfl rfl)
theorem dX10_feed_31 : decode cX10_feed 31 = .ok (.aload_n 0, 1) := dk_42 (dk_at dksX10_feed_1 7 rfl rfl)
theorem dX10_feed_32 : decode cX10_feed 32 = .ok (.ldc 96, 2) := dk_18 96 (dk_at dksX10_feed_1 8 rfl rfl)
theorem dX10_feed_34 : decode cX10_feed 34 = .ok (.invokevirtual 88, 3) := dk_182 0 88 (dk_at dksX10_feed_1 10 rfl rfl)
theorem dX10_feed_37 : decode cX10_feed 37 = .ok (.ireturn, 1) := dk_172 (dk_at dksX10_feed_1 13 rfl rfl)
theorem dX10_feed_38 : decode cX10_feed 38 = .ok (.iconst 0, 1) := dk_3 (dk_at dksX10_feed_1 14 rfl rfl)
theorem dX10_feed_39 : decode cX10_feed 39 = .ok (.istore 4, 2) := dk_54 4 (dk_at dksX10_feed_1 15 rfl rfl)
theorem dX10_feed_41 : decode cX10_feed 41 = .ok (.iload 4, 2) := dk_21 4 (dk_at dksX10_feed_1 17 rfl rfl)
theorem dX10_feed_43 : decode cX10_feed 43 = .ok (.iload_n 3, 1) := dk_29 (dk_at dksX10_feed_1 19 rfl rfl)
theorem dX10_feed_44 : decode cX10_feed 44 = .ok (.if_icmp .ge 48, 3) := dk_162 0 48 (dk_at dksX10_feed_1 20 rfl rfl)
theorem dX10_feed_47 : decode cX10_feed 47 = .ok (.aload_n 0, 1) := dk_42 (dk_at dksX10_feed_1 23 rfl rfl)
theorem dX10_feed_48 : decode cX10_feed 48 = .ok (.getfield 9, 3) := dk_180 0 9 (dk_at dksX10_feed_2 0 rfl rfl)
theorem dX10_feed_51 : decode cX10_feed 51 = .ok (.sipush 324, 3) := dk_17 1 68 (dk_at dksX10_feed_2 3 rfl rfl)
theorem dX10_feed_54 : decode cX10_feed 54 = .ok (.aload_n 0, 1) := dk_42 (dk_at dksX10_feed_2 6 rfl rfl)
theorem dX10_feed_55 : decode cX10_feed 55 = .ok (.getfield 9, 3) := dk_180 0 9 (dk_at dksX10_feed_2 7 rfl rfl)
theorem dX10_feed_58 : decode cX10_feed 58 = .ok (.bipush 6, 2) := dk_16 6 (dk_at dksX10_feed_2 10 rfl rfl)
theorem dX10_feed_60 : decode cX10_feed 60 = .ok (.iaload, 1) := dk_46 (dk_at dksX10_feed_2 12 rfl rfl)
theorem dX10_feed_61 : decode cX10_feed 61 = .ok (.iadd, 1) := dk_96 (dk_at dksX10_feed_2 13 rfl rfl)
theorem dX10_feed_62 : decode cX10_feed 62 = .ok (.lload_n 1, 1) := dk_31 (dk_at dksX10_feed_2 14 rfl rfl)
theorem dX10_feed_63 : decode cX10_feed 63 = .ok (.bipush 8, 2) := dk_16 8 (dk_at dksX10_feed_2 15 rfl rfl)
theorem dX10_feed_65 : decode cX10_feed 65 = .ok (.iload 4, 2) := dk_21 4 (dk_at dksX10_feed_2 17 rfl rfl)
theorem dX10_feed_67 : decode cX10_feed 67 = .ok (.imul, 1) := dk_104 (dk_at dksX10_feed_2 19 rfl rfl)
theorem dX10_feed_68 : decode cX10_feed 68 = .ok (.lshr, 1) := dk_123 (dk_at dksX10_feed_2 20 rfl rfl)
theorem dX10_feed_69 : decode cX10_feed 69 = .ok (.ldc2_w 147, 3) := dk_20 0 147 (dk_at dksX10_feed_2 21 rfl rfl)
theorem dX10_feed_72 : decode cX10_feed 72 = .ok (.land, 1) := dk_127 (dk_at dksX10_feed_3 0 rfl rfl)
theorem dX10_feed_73 : decode cX10_feed 73 = .ok (.l2i, 1) := dk_136 (dk_at dksX10_feed_3 1 rfl rfl)
theorem dX10_feed_74 : decode cX10_feed 74 = .ok (.iastore, 1) := dk_79 (dk_at dksX10_feed_3 2 rfl rfl)
theorem dX10_feed_75 : decode cX10_feed 75 = .ok (.aload_n 0, 1) := dk_42 (dk_at dksX10_feed_3 3 rfl rfl)
theorem dX10_feed_76 : decode cX10_feed 76 = .ok (.getfield 9, 3) := dk_180 0 9 (dk_at dksX10_feed_3 4 rfl rfl)
theorem dX10_feed_79 : decode cX10_feed 79 = .ok (.bipush 6, 2) := dk_16 6 (dk_at dksX10_feed_3 7 rfl rfl)
theorem dX10_feed_81 : decode cX10_feed 81 = .ok (.dup2, 1) := dk_92 (dk_at dksX10_feed_3 9 rfl rfl)
theorem dX10_feed_82 : decode cX10_feed 82 = .ok (.iaload, 1) := dk_46 (dk_at dksX10_feed_3 10 rfl rfl)
theorem dX10_feed_83 : decode cX10_feed 83 = .ok (.iconst 1, 1) := dk_4 (dk_at dksX10_feed_3 11 rfl rfl)
theorem dX10_feed_84 : decode cX10_feed 84 = .ok (.iadd, 1) := dk_96 (dk_at dksX10_feed_3 12 rfl rfl)
theorem dX10_feed_85 : decode cX10_feed 85 = .ok (.iastore, 1) := dk_79 (dk_at dksX10_feed_3 13 rfl rfl)
theorem dX10_feed_86 : decode cX10_feed 86 = .ok (.iinc 4 1, 3) := dk_132 4 1 (dk_at dksX10_feed_3 14 rfl rfl)
theorem dX10_feed_89 : decode cX10_feed 89 = .ok (.goto (-48), 3) := dk_167 255 208 (dk_at dksX10_feed_3 17 rfl rfl)
theorem dX10_feed_92 : decode cX10_feed 92 = .ok (.aload_n 0, 1) := dk_42 (dk_at dksX10_feed_3 20 rfl rfl)
theorem dX10_feed_93 : decode cX10_feed 93 = .ok (.getfield 9, 3) := dk_180 0 9 (dk_at dksX10_feed_3 21 rfl rfl)
theorem dX10_feed_96 : decode cX10_feed 96 = .ok (.bipush 6, 2) := dk_16 6 (dk_at dksX10_feed_4 0 rfl rfl)
theorem dX10_feed_98 : decode cX10_feed 98 = .ok (.iaload, 1) := dk_46 (dk_at dksX10_feed_4 2 rfl rfl)
theorem dX10_feed_99 : decode cX10_feed 99 = .ok (.ireturn, 1) := dk_172 (dk_at dksX10_feed_4 3 rfl rfl)
abbrev cX10_text : ByteArray := prog_37_method_41_code
def yX10_text : MethodName := ⟨RX10, "text", "(I)I"⟩
def dkwX10_text_6 : List UInt8 := [104, 96, 4, 96, 28, 96, 42, 180, 0, 36, 28, 46, 79, 132, 2, 1, 167, 255, 219, 4, 172]
abbrev dktX10_text_6 : List UInt8 := dkwX10_text_6 ++ []
def dkwX10_text_5 : List UInt8 := [79, 3, 61, 28, 42, 180, 0, 161, 162, 0, 35, 42, 180, 0, 9, 17, 1, 138, 16, 52, 42, 180, 0, 185]
abbrev dktX10_text_5 : List UInt8 := dkwX10_text_5 ++ dktX10_text_6
def dkwX10_text_4 : List UInt8 := [180, 0, 153, 100, 172, 42, 180, 0, 9, 17, 1, 138, 16, 52, 42, 180, 0, 185, 104, 96, 42, 180, 0, 161]
abbrev dktX10_text_4 : List UInt8 := dkwX10_text_4 ++ dktX10_text_5
def dkwX10_text_3 : List UInt8 := [3, 181, 0, 149, 42, 180, 0, 9, 16, 6, 3, 79, 42, 180, 0, 149, 153, 0, 11, 16, 246, 42]
abbrev dktX10_text_3 : List UInt8 := dkwX10_text_3 ++ dktX10_text_4
def dkwX10_text_2 : List UInt8 := [180, 0, 149, 154, 0, 17, 42, 180, 0, 153, 42, 180, 0, 9, 16, 6, 46, 162, 0, 7, 4, 167, 0, 4]
abbrev dktX10_text_2 : List UInt8 := dkwX10_text_2 ++ dktX10_text_3
def dkwX10_text_1 : List UInt8 := [181, 0, 153, 42, 3, 181, 0, 195, 42, 3, 181, 0, 149, 42, 3, 181, 0, 161, 42, 182, 0, 198, 42, 42]
abbrev dktX10_text_1 : List UInt8 := dkwX10_text_1 ++ dktX10_text_2
def dkwX10_text_0 : List UInt8 := [27, 3, 6, 184, 0, 78, 154, 0, 10, 42, 18, 87, 182, 0, 88, 172, 42, 27, 181, 0, 185, 42, 3]
abbrev dktX10_text_0 : List UInt8 := dkwX10_text_0 ++ dktX10_text_1
theorem dksX10_text_0 : cX10_text.data.toList.drop 0 = dktX10_text_0 := by decide +kernel
theorem dksX10_text_1 : cX10_text.data.toList.drop 23 = dktX10_text_1 := dk_seg dksX10_text_0 23 rfl rfl
theorem dksX10_text_2 : cX10_text.data.toList.drop 47 = dktX10_text_2 := dk_seg dksX10_text_1 24 rfl rfl
theorem dksX10_text_3 : cX10_text.data.toList.drop 71 = dktX10_text_3 := dk_seg dksX10_text_2 24 rfl rfl
theorem dksX10_text_4 : cX10_text.data.toList.drop 93 = dktX10_text_4 := dk_seg dksX10_text_3 22 rfl rfl
theorem dksX10_text_5 : cX10_text.data.toList.drop 117 = dktX10_text_5 := dk_seg dksX10_text_4 24 rfl rfl
theorem dksX10_text_6 : cX10_text.data.toList.drop 141 = dktX10_text_6 := dk_seg dksX10_text_5 24 rfl rfl
theorem dX10_text_0 : decode cX10_text 0 = .ok (.iload_n 1, 1) := dk_27 (dk_at dksX10_text_0 0 rfl rfl)
theorem dX10_text_1 : decode cX10_text 1 = .ok (.iconst 0, 1) := dk_3 (dk_at dksX10_text_0 1 rfl rfl)
theorem dX10_text_2 : decode cX10_text 2 = .ok (.iconst 3, 1) := dk_6 (dk_at dksX10_text_0 2 rfl rfl)
theorem dX10_text_3 : decode cX10_text 3 = .ok (.invokestatic 78, 3) := dk_184 0 78 (dk_at dksX10_text_0 3 rfl rfl)
theorem dX10_text_6 : decode cX10_text 6 = .ok (.ifCond .ne 10, 3) := dk_154 0 10 (dk_at dksX10_text_0 6 rfl rfl)
theorem dX10_text_9 : decode cX10_text 9 = .ok (.aload_n 0, 1) := dk_42 (dk_at dksX10_text_0 9 rfl rfl)
theorem dX10_text_10 : decode cX10_text 10 = .ok (.ldc 87, 2) := dk_18 87 (dk_at dksX10_text_0 10 rfl rfl)
theorem dX10_text_12 : decode cX10_text 12 = .ok (.invokevirtual 88, 3) := dk_182 0 88 (dk_at dksX10_text_0 12 rfl rfl)
theorem dX10_text_15 : decode cX10_text 15 = .ok (.ireturn, 1) := dk_172 (dk_at dksX10_text_0 15 rfl rfl)
theorem dX10_text_16 : decode cX10_text 16 = .ok (.aload_n 0, 1) := dk_42 (dk_at dksX10_text_0 16 rfl rfl)
theorem dX10_text_17 : decode cX10_text 17 = .ok (.iload_n 1, 1) := dk_27 (dk_at dksX10_text_0 17 rfl rfl)
theorem dX10_text_18 : decode cX10_text 18 = .ok (.putfield 185, 3) := dk_181 0 185 (dk_at dksX10_text_0 18 rfl rfl)
theorem dX10_text_21 : decode cX10_text 21 = .ok (.aload_n 0, 1) := dk_42 (dk_at dksX10_text_0 21 rfl rfl)
theorem dX10_text_22 : decode cX10_text 22 = .ok (.iconst 0, 1) := dk_3 (dk_at dksX10_text_0 22 rfl rfl)
theorem dX10_text_23 : decode cX10_text 23 = .ok (.putfield 153, 3) := dk_181 0 153 (dk_at dksX10_text_1 0 rfl rfl)
theorem dX10_text_26 : decode cX10_text 26 = .ok (.aload_n 0, 1) := dk_42 (dk_at dksX10_text_1 3 rfl rfl)
theorem dX10_text_27 : decode cX10_text 27 = .ok (.iconst 0, 1) := dk_3 (dk_at dksX10_text_1 4 rfl rfl)
theorem dX10_text_28 : decode cX10_text 28 = .ok (.putfield 195, 3) := dk_181 0 195 (dk_at dksX10_text_1 5 rfl rfl)
theorem dX10_text_31 : decode cX10_text 31 = .ok (.aload_n 0, 1) := dk_42 (dk_at dksX10_text_1 8 rfl rfl)
theorem dX10_text_32 : decode cX10_text 32 = .ok (.iconst 0, 1) := dk_3 (dk_at dksX10_text_1 9 rfl rfl)
theorem dX10_text_33 : decode cX10_text 33 = .ok (.putfield 149, 3) := dk_181 0 149 (dk_at dksX10_text_1 10 rfl rfl)
theorem dX10_text_36 : decode cX10_text 36 = .ok (.aload_n 0, 1) := dk_42 (dk_at dksX10_text_1 13 rfl rfl)
theorem dX10_text_37 : decode cX10_text 37 = .ok (.iconst 0, 1) := dk_3 (dk_at dksX10_text_1 14 rfl rfl)
theorem dX10_text_38 : decode cX10_text 38 = .ok (.putfield 161, 3) := dk_181 0 161 (dk_at dksX10_text_1 15 rfl rfl)
theorem dX10_text_41 : decode cX10_text 41 = .ok (.aload_n 0, 1) := dk_42 (dk_at dksX10_text_1 18 rfl rfl)
theorem dX10_text_42 : decode cX10_text 42 = .ok (.invokevirtual 198, 3) := dk_182 0 198 (dk_at dksX10_text_1 19 rfl rfl)
theorem dX10_text_45 : decode cX10_text 45 = .ok (.aload_n 0, 1) := dk_42 (dk_at dksX10_text_1 22 rfl rfl)
theorem dX10_text_46 : decode cX10_text 46 = .ok (.aload_n 0, 1) := dk_42 (dk_at dksX10_text_1 23 rfl rfl)
theorem dX10_text_47 : decode cX10_text 47 = .ok (.getfield 149, 3) := dk_180 0 149 (dk_at dksX10_text_2 0 rfl rfl)
theorem dX10_text_50 : decode cX10_text 50 = .ok (.ifCond .ne 17, 3) := dk_154 0 17 (dk_at dksX10_text_2 3 rfl rfl)
theorem dX10_text_53 : decode cX10_text 53 = .ok (.aload_n 0, 1) := dk_42 (dk_at dksX10_text_2 6 rfl rfl)
theorem dX10_text_54 : decode cX10_text 54 = .ok (.getfield 153, 3) := dk_180 0 153 (dk_at dksX10_text_2 7 rfl rfl)
theorem dX10_text_57 : decode cX10_text 57 = .ok (.aload_n 0, 1) := dk_42 (dk_at dksX10_text_2 10 rfl rfl)
theorem dX10_text_58 : decode cX10_text 58 = .ok (.getfield 9, 3) := dk_180 0 9 (dk_at dksX10_text_2 11 rfl rfl)
theorem dX10_text_61 : decode cX10_text 61 = .ok (.bipush 6, 2) := dk_16 6 (dk_at dksX10_text_2 14 rfl rfl)
theorem dX10_text_63 : decode cX10_text 63 = .ok (.iaload, 1) := dk_46 (dk_at dksX10_text_2 16 rfl rfl)
theorem dX10_text_64 : decode cX10_text 64 = .ok (.if_icmp .ge 7, 3) := dk_162 0 7 (dk_at dksX10_text_2 17 rfl rfl)
theorem dX10_text_67 : decode cX10_text 67 = .ok (.iconst 1, 1) := dk_4 (dk_at dksX10_text_2 20 rfl rfl)
theorem dX10_text_68 : decode cX10_text 68 = .ok (.goto 4, 3) := dk_167 0 4 (dk_at dksX10_text_2 21 rfl rfl)
theorem dX10_text_71 : decode cX10_text 71 = .ok (.iconst 0, 1) := dk_3 (dk_at dksX10_text_3 0 rfl rfl)
theorem dX10_text_72 : decode cX10_text 72 = .ok (.putfield 149, 3) := dk_181 0 149 (dk_at dksX10_text_3 1 rfl rfl)
theorem dX10_text_75 : decode cX10_text 75 = .ok (.aload_n 0, 1) := dk_42 (dk_at dksX10_text_3 4 rfl rfl)
theorem dX10_text_76 : decode cX10_text 76 = .ok (.getfield 9, 3) := dk_180 0 9 (dk_at dksX10_text_3 5 rfl rfl)
theorem dX10_text_79 : decode cX10_text 79 = .ok (.bipush 6, 2) := dk_16 6 (dk_at dksX10_text_3 8 rfl rfl)
theorem dX10_text_81 : decode cX10_text 81 = .ok (.iconst 0, 1) := dk_3 (dk_at dksX10_text_3 10 rfl rfl)
theorem dX10_text_82 : decode cX10_text 82 = .ok (.iastore, 1) := dk_79 (dk_at dksX10_text_3 11 rfl rfl)
theorem dX10_text_83 : decode cX10_text 83 = .ok (.aload_n 0, 1) := dk_42 (dk_at dksX10_text_3 12 rfl rfl)
theorem dX10_text_84 : decode cX10_text 84 = .ok (.getfield 149, 3) := dk_180 0 149 (dk_at dksX10_text_3 13 rfl rfl)
theorem dX10_text_87 : decode cX10_text 87 = .ok (.ifCond .eq 11, 3) := dk_153 0 11 (dk_at dksX10_text_3 16 rfl rfl)
theorem dX10_text_90 : decode cX10_text 90 = .ok (.bipush (-10), 2) := dk_16 246 (dk_at dksX10_text_3 19 rfl rfl)
theorem dX10_text_92 : decode cX10_text 92 = .ok (.aload_n 0, 1) := dk_42 (dk_at dksX10_text_3 21 rfl rfl)
theorem dX10_text_93 : decode cX10_text 93 = .ok (.getfield 153, 3) := dk_180 0 153 (dk_at dksX10_text_4 0 rfl rfl)
theorem dX10_text_96 : decode cX10_text 96 = .ok (.isub, 1) := dk_100 (dk_at dksX10_text_4 3 rfl rfl)
theorem dX10_text_97 : decode cX10_text 97 = .ok (.ireturn, 1) := dk_172 (dk_at dksX10_text_4 4 rfl rfl)
theorem dX10_text_98 : decode cX10_text 98 = .ok (.aload_n 0, 1) := dk_42 (dk_at dksX10_text_4 5 rfl rfl)
theorem dX10_text_99 : decode cX10_text 99 = .ok (.getfield 9, 3) := dk_180 0 9 (dk_at dksX10_text_4 6 rfl rfl)
theorem dX10_text_102 : decode cX10_text 102 = .ok (.sipush 394, 3) := dk_17 1 138 (dk_at dksX10_text_4 9 rfl rfl)
theorem dX10_text_105 : decode cX10_text 105 = .ok (.bipush 52, 2) := dk_16 52 (dk_at dksX10_text_4 12 rfl rfl)
theorem dX10_text_107 : decode cX10_text 107 = .ok (.aload_n 0, 1) := dk_42 (dk_at dksX10_text_4 14 rfl rfl)
theorem dX10_text_108 : decode cX10_text 108 = .ok (.getfield 185, 3) := dk_180 0 185 (dk_at dksX10_text_4 15 rfl rfl)
theorem dX10_text_111 : decode cX10_text 111 = .ok (.imul, 1) := dk_104 (dk_at dksX10_text_4 18 rfl rfl)
theorem dX10_text_112 : decode cX10_text 112 = .ok (.iadd, 1) := dk_96 (dk_at dksX10_text_4 19 rfl rfl)
theorem dX10_text_113 : decode cX10_text 113 = .ok (.aload_n 0, 1) := dk_42 (dk_at dksX10_text_4 20 rfl rfl)
theorem dX10_text_114 : decode cX10_text 114 = .ok (.getfield 161, 3) := dk_180 0 161 (dk_at dksX10_text_4 21 rfl rfl)
theorem dX10_text_117 : decode cX10_text 117 = .ok (.iastore, 1) := dk_79 (dk_at dksX10_text_5 0 rfl rfl)
theorem dX10_text_118 : decode cX10_text 118 = .ok (.iconst 0, 1) := dk_3 (dk_at dksX10_text_5 1 rfl rfl)
theorem dX10_text_119 : decode cX10_text 119 = .ok (.istore_n 2, 1) := dk_61 (dk_at dksX10_text_5 2 rfl rfl)
theorem dX10_text_120 : decode cX10_text 120 = .ok (.iload_n 2, 1) := dk_28 (dk_at dksX10_text_5 3 rfl rfl)
theorem dX10_text_121 : decode cX10_text 121 = .ok (.aload_n 0, 1) := dk_42 (dk_at dksX10_text_5 4 rfl rfl)
theorem dX10_text_122 : decode cX10_text 122 = .ok (.getfield 161, 3) := dk_180 0 161 (dk_at dksX10_text_5 5 rfl rfl)
theorem dX10_text_125 : decode cX10_text 125 = .ok (.if_icmp .ge 35, 3) := dk_162 0 35 (dk_at dksX10_text_5 8 rfl rfl)
theorem dX10_text_128 : decode cX10_text 128 = .ok (.aload_n 0, 1) := dk_42 (dk_at dksX10_text_5 11 rfl rfl)
theorem dX10_text_129 : decode cX10_text 129 = .ok (.getfield 9, 3) := dk_180 0 9 (dk_at dksX10_text_5 12 rfl rfl)
theorem dX10_text_132 : decode cX10_text 132 = .ok (.sipush 394, 3) := dk_17 1 138 (dk_at dksX10_text_5 15 rfl rfl)
theorem dX10_text_135 : decode cX10_text 135 = .ok (.bipush 52, 2) := dk_16 52 (dk_at dksX10_text_5 18 rfl rfl)
theorem dX10_text_137 : decode cX10_text 137 = .ok (.aload_n 0, 1) := dk_42 (dk_at dksX10_text_5 20 rfl rfl)
theorem dX10_text_138 : decode cX10_text 138 = .ok (.getfield 185, 3) := dk_180 0 185 (dk_at dksX10_text_5 21 rfl rfl)
theorem dX10_text_141 : decode cX10_text 141 = .ok (.imul, 1) := dk_104 (dk_at dksX10_text_6 0 rfl rfl)
theorem dX10_text_142 : decode cX10_text 142 = .ok (.iadd, 1) := dk_96 (dk_at dksX10_text_6 1 rfl rfl)
theorem dX10_text_143 : decode cX10_text 143 = .ok (.iconst 1, 1) := dk_4 (dk_at dksX10_text_6 2 rfl rfl)
theorem dX10_text_144 : decode cX10_text 144 = .ok (.iadd, 1) := dk_96 (dk_at dksX10_text_6 3 rfl rfl)
theorem dX10_text_145 : decode cX10_text 145 = .ok (.iload_n 2, 1) := dk_28 (dk_at dksX10_text_6 4 rfl rfl)
theorem dX10_text_146 : decode cX10_text 146 = .ok (.iadd, 1) := dk_96 (dk_at dksX10_text_6 5 rfl rfl)
theorem dX10_text_147 : decode cX10_text 147 = .ok (.aload_n 0, 1) := dk_42 (dk_at dksX10_text_6 6 rfl rfl)
theorem dX10_text_148 : decode cX10_text 148 = .ok (.getfield 36, 3) := dk_180 0 36 (dk_at dksX10_text_6 7 rfl rfl)
theorem dX10_text_151 : decode cX10_text 151 = .ok (.iload_n 2, 1) := dk_28 (dk_at dksX10_text_6 10 rfl rfl)
theorem dX10_text_152 : decode cX10_text 152 = .ok (.iaload, 1) := dk_46 (dk_at dksX10_text_6 11 rfl rfl)
theorem dX10_text_153 : decode cX10_text 153 = .ok (.iastore, 1) := dk_79 (dk_at dksX10_text_6 12 rfl rfl)
theorem dX10_text_154 : decode cX10_text 154 = .ok (.iinc 2 1, 3) := dk_132 2 1 (dk_at dksX10_text_6 13 rfl rfl)
theorem dX10_text_157 : decode cX10_text 157 = .ok (.goto (-37), 3) := dk_167 255 219 (dk_at dksX10_text_6 16 rfl rfl)
theorem dX10_text_160 : decode cX10_text 160 = .ok (.iconst 1, 1) := dk_4 (dk_at dksX10_text_6 19 rfl rfl)
theorem dX10_text_161 : decode cX10_text 161 = .ok (.ireturn, 1) := dk_172 (dk_at dksX10_text_6 20 rfl rfl)
abbrev cX10_either : ByteArray := prog_37_method_34_code
def yX10_either : MethodName := ⟨RX10, "either", "()V"⟩
def dkwX10_either_1 : List UInt8 := [167, 255, 236, 177]
abbrev dktX10_either_1 : List UInt8 := dkwX10_either_1 ++ []
def dkwX10_either_0 : List UInt8 := [42, 182, 0, 164, 42, 16, 124, 182, 0, 167, 153, 0, 17, 42, 182, 0, 164, 42, 17, 78, 32, 182, 0, 170]
abbrev dktX10_either_0 : List UInt8 := dkwX10_either_0 ++ dktX10_either_1
theorem dksX10_either_0 : cX10_either.data.toList.drop 0 = dktX10_either_0 := by decide +kernel
theorem dksX10_either_1 : cX10_either.data.toList.drop 24 = dktX10_either_1 := dk_seg dksX10_either_0 24 rfl rfl
theorem dX10_either_0 : decode cX10_either 0 = .ok (.aload_n 0, 1) := dk_42 (dk_at dksX10_either_0 0 rfl rfl)
theorem dX10_either_1 : decode cX10_either 1 = .ok (.invokevirtual 164, 3) := dk_182 0 164 (dk_at dksX10_either_0 1 rfl rfl)
theorem dX10_either_4 : decode cX10_either 4 = .ok (.aload_n 0, 1) := dk_42 (dk_at dksX10_either_0 4 rfl rfl)
theorem dX10_either_5 : decode cX10_either 5 = .ok (.bipush 124, 2) := dk_16 124 (dk_at dksX10_either_0 5 rfl rfl)
theorem dX10_either_7 : decode cX10_either 7 = .ok (.invokevirtual 167, 3) := dk_182 0 167 (dk_at dksX10_either_0 7 rfl rfl)
theorem dX10_either_10 : decode cX10_either 10 = .ok (.ifCond .eq 17, 3) := dk_153 0 17 (dk_at dksX10_either_0 10 rfl rfl)
theorem dX10_either_13 : decode cX10_either 13 = .ok (.aload_n 0, 1) := dk_42 (dk_at dksX10_either_0 13 rfl rfl)
theorem dX10_either_14 : decode cX10_either 14 = .ok (.invokevirtual 164, 3) := dk_182 0 164 (dk_at dksX10_either_0 14 rfl rfl)
theorem dX10_either_17 : decode cX10_either 17 = .ok (.aload_n 0, 1) := dk_42 (dk_at dksX10_either_0 17 rfl rfl)
theorem dX10_either_18 : decode cX10_either 18 = .ok (.sipush 20000, 3) := dk_17 78 32 (dk_at dksX10_either_0 18 rfl rfl)
theorem dX10_either_21 : decode cX10_either 21 = .ok (.invokevirtual 170, 3) := dk_182 0 170 (dk_at dksX10_either_0 21 rfl rfl)
theorem dX10_either_24 : decode cX10_either 24 = .ok (.goto (-20), 3) := dk_167 255 236 (dk_at dksX10_either_1 0 rfl rfl)
theorem dX10_either_27 : decode cX10_either 27 = .ok (.return_, 1) := dk_177 (dk_at dksX10_either_1 3 rfl rfl)
abbrev cX10_both : ByteArray := prog_37_method_35_code
def yX10_both : MethodName := ⟨RX10, "both", "()V"⟩
def dkwX10_both_1 : List UInt8 := [167, 255, 236, 177]
abbrev dktX10_both_1 : List UInt8 := dkwX10_both_1 ++ []
def dkwX10_both_0 : List UInt8 := [42, 182, 0, 173, 42, 16, 38, 182, 0, 167, 153, 0, 17, 42, 182, 0, 173, 42, 17, 78, 33, 182, 0, 170]
abbrev dktX10_both_0 : List UInt8 := dkwX10_both_0 ++ dktX10_both_1
theorem dksX10_both_0 : cX10_both.data.toList.drop 0 = dktX10_both_0 := by decide +kernel
theorem dksX10_both_1 : cX10_both.data.toList.drop 24 = dktX10_both_1 := dk_seg dksX10_both_0 24 rfl rfl
theorem dX10_both_0 : decode cX10_both 0 = .ok (.aload_n 0, 1) := dk_42 (dk_at dksX10_both_0 0 rfl rfl)
theorem dX10_both_1 : decode cX10_both 1 = .ok (.invokevirtual 173, 3) := dk_182 0 173 (dk_at dksX10_both_0 1 rfl rfl)
theorem dX10_both_4 : decode cX10_both 4 = .ok (.aload_n 0, 1) := dk_42 (dk_at dksX10_both_0 4 rfl rfl)
theorem dX10_both_5 : decode cX10_both 5 = .ok (.bipush 38, 2) := dk_16 38 (dk_at dksX10_both_0 5 rfl rfl)
theorem dX10_both_7 : decode cX10_both 7 = .ok (.invokevirtual 167, 3) := dk_182 0 167 (dk_at dksX10_both_0 7 rfl rfl)
theorem dX10_both_10 : decode cX10_both 10 = .ok (.ifCond .eq 17, 3) := dk_153 0 17 (dk_at dksX10_both_0 10 rfl rfl)
theorem dX10_both_13 : decode cX10_both 13 = .ok (.aload_n 0, 1) := dk_42 (dk_at dksX10_both_0 13 rfl rfl)
theorem dX10_both_14 : decode cX10_both 14 = .ok (.invokevirtual 173, 3) := dk_182 0 173 (dk_at dksX10_both_0 14 rfl rfl)
theorem dX10_both_17 : decode cX10_both 17 = .ok (.aload_n 0, 1) := dk_42 (dk_at dksX10_both_0 17 rfl rfl)
theorem dX10_both_18 : decode cX10_both 18 = .ok (.sipush 20001, 3) := dk_17 78 33 (dk_at dksX10_both_0 18 rfl rfl)
theorem dX10_both_21 : decode cX10_both 21 = .ok (.invokevirtual 170, 3) := dk_182 0 170 (dk_at dksX10_both_0 21 rfl rfl)
theorem dX10_both_24 : decode cX10_both 24 = .ok (.goto (-20), 3) := dk_167 255 236 (dk_at dksX10_both_1 0 rfl rfl)
theorem dX10_both_27 : decode cX10_both 27 = .ok (.return_, 1) := dk_177 (dk_at dksX10_both_1 3 rfl rfl)
abbrev cX10_compared : ByteArray := prog_37_method_36_code
def yX10_compared : MethodName := ⟨RX10, "compared", "()V"⟩
def dkwX10_compared_2 : List UInt8 := [167, 0, 4, 3, 60, 27, 158, 0, 12, 42, 182, 0, 176, 42, 27, 182, 0, 170, 177]
abbrev dktX10_compared_2 : List UInt8 := dkwX10_compared_2 ++ []
def dkwX10_compared_1 : List UInt8 := [182, 0, 167, 153, 0, 9, 17, 78, 35, 167, 0, 19, 42, 16, 62, 182, 0, 167, 153, 0, 9, 17, 78, 36]
abbrev dktX10_compared_1 : List UInt8 := dkwX10_compared_1 ++ dktX10_compared_2
def dkwX10_compared_0 : List UInt8 := [42, 182, 0, 176, 42, 16, 60, 182, 0, 167, 153, 0, 9, 17, 78, 34, 167, 0, 34, 42, 16, 61]
abbrev dktX10_compared_0 : List UInt8 := dkwX10_compared_0 ++ dktX10_compared_1
theorem dksX10_compared_0 : cX10_compared.data.toList.drop 0 = dktX10_compared_0 := by decide +kernel
theorem dksX10_compared_1 : cX10_compared.data.toList.drop 22 = dktX10_compared_1 := dk_seg dksX10_compared_0 22 rfl rfl
theorem dksX10_compared_2 : cX10_compared.data.toList.drop 46 = dktX10_compared_2 := dk_seg dksX10_compared_1 24 rfl rfl
theorem dX10_compared_0 : decode cX10_compared 0 = .ok (.aload_n 0, 1) := dk_42 (dk_at dksX10_compared_0 0 rfl rfl)
theorem dX10_compared_1 : decode cX10_compared 1 = .ok (.invokevirtual 176, 3) := dk_182 0 176 (dk_at dksX10_compared_0 1 rfl rfl)
theorem dX10_compared_4 : decode cX10_compared 4 = .ok (.aload_n 0, 1) := dk_42 (dk_at dksX10_compared_0 4 rfl rfl)
theorem dX10_compared_5 : decode cX10_compared 5 = .ok (.bipush 60, 2) := dk_16 60 (dk_at dksX10_compared_0 5 rfl rfl)
theorem dX10_compared_7 : decode cX10_compared 7 = .ok (.invokevirtual 167, 3) := dk_182 0 167 (dk_at dksX10_compared_0 7 rfl rfl)
theorem dX10_compared_10 : decode cX10_compared 10 = .ok (.ifCond .eq 9, 3) := dk_153 0 9 (dk_at dksX10_compared_0 10 rfl rfl)
theorem dX10_compared_13 : decode cX10_compared 13 = .ok (.sipush 20002, 3) := dk_17 78 34 (dk_at dksX10_compared_0 13 rfl rfl)
theorem dX10_compared_16 : decode cX10_compared 16 = .ok (.goto 34, 3) := dk_167 0 34 (dk_at dksX10_compared_0 16 rfl rfl)
theorem dX10_compared_19 : decode cX10_compared 19 = .ok (.aload_n 0, 1) := dk_42 (dk_at dksX10_compared_0 19 rfl rfl)
theorem dX10_compared_20 : decode cX10_compared 20 = .ok (.bipush 61, 2) := dk_16 61 (dk_at dksX10_compared_0 20 rfl rfl)
theorem dX10_compared_22 : decode cX10_compared 22 = .ok (.invokevirtual 167, 3) := dk_182 0 167 (dk_at dksX10_compared_1 0 rfl rfl)
theorem dX10_compared_25 : decode cX10_compared 25 = .ok (.ifCond .eq 9, 3) := dk_153 0 9 (dk_at dksX10_compared_1 3 rfl rfl)
theorem dX10_compared_28 : decode cX10_compared 28 = .ok (.sipush 20003, 3) := dk_17 78 35 (dk_at dksX10_compared_1 6 rfl rfl)
theorem dX10_compared_31 : decode cX10_compared 31 = .ok (.goto 19, 3) := dk_167 0 19 (dk_at dksX10_compared_1 9 rfl rfl)
theorem dX10_compared_34 : decode cX10_compared 34 = .ok (.aload_n 0, 1) := dk_42 (dk_at dksX10_compared_1 12 rfl rfl)
theorem dX10_compared_35 : decode cX10_compared 35 = .ok (.bipush 62, 2) := dk_16 62 (dk_at dksX10_compared_1 13 rfl rfl)
theorem dX10_compared_37 : decode cX10_compared 37 = .ok (.invokevirtual 167, 3) := dk_182 0 167 (dk_at dksX10_compared_1 15 rfl rfl)
theorem dX10_compared_40 : decode cX10_compared 40 = .ok (.ifCond .eq 9, 3) := dk_153 0 9 (dk_at dksX10_compared_1 18 rfl rfl)
theorem dX10_compared_43 : decode cX10_compared 43 = .ok (.sipush 20004, 3) := dk_17 78 36 (dk_at dksX10_compared_1 21 rfl rfl)
theorem dX10_compared_46 : decode cX10_compared 46 = .ok (.goto 4, 3) := dk_167 0 4 (dk_at dksX10_compared_2 0 rfl rfl)
theorem dX10_compared_49 : decode cX10_compared 49 = .ok (.iconst 0, 1) := dk_3 (dk_at dksX10_compared_2 3 rfl rfl)
theorem dX10_compared_50 : decode cX10_compared 50 = .ok (.istore_n 1, 1) := dk_60 (dk_at dksX10_compared_2 4 rfl rfl)
theorem dX10_compared_51 : decode cX10_compared 51 = .ok (.iload_n 1, 1) := dk_27 (dk_at dksX10_compared_2 5 rfl rfl)
theorem dX10_compared_52 : decode cX10_compared 52 = .ok (.ifCond .le 12, 3) := dk_158 0 12 (dk_at dksX10_compared_2 6 rfl rfl)
theorem dX10_compared_55 : decode cX10_compared 55 = .ok (.aload_n 0, 1) := dk_42 (dk_at dksX10_compared_2 9 rfl rfl)
theorem dX10_compared_56 : decode cX10_compared 56 = .ok (.invokevirtual 176, 3) := dk_182 0 176 (dk_at dksX10_compared_2 10 rfl rfl)
theorem dX10_compared_59 : decode cX10_compared 59 = .ok (.aload_n 0, 1) := dk_42 (dk_at dksX10_compared_2 13 rfl rfl)
theorem dX10_compared_60 : decode cX10_compared 60 = .ok (.iload_n 1, 1) := dk_27 (dk_at dksX10_compared_2 14 rfl rfl)
theorem dX10_compared_61 : decode cX10_compared 61 = .ok (.invokevirtual 170, 3) := dk_182 0 170 (dk_at dksX10_compared_2 15 rfl rfl)
theorem dX10_compared_64 : decode cX10_compared 64 = .ok (.return_, 1) := dk_177 (dk_at dksX10_compared_2 18 rfl rfl)
abbrev cX10_sum : ByteArray := prog_37_method_37_code
def yX10_sum : MethodName := ⟨RX10, "sum", "()V"⟩
def dkwX10_sum_3 : List UInt8 := [153, 0, 9, 17, 78, 38, 167, 0, 4, 3, 60, 167, 255, 211, 177]
abbrev dktX10_sum_3 : List UInt8 := dkwX10_sum_3 ++ []
def dkwX10_sum_2 : List UInt8 := [182, 0, 170, 42, 16, 43, 182, 0, 167, 153, 0, 9, 17, 78, 37, 167, 0, 19, 42, 16, 45, 182, 0, 167]
abbrev dktX10_sum_2 : List UInt8 := dkwX10_sum_2 ++ dktX10_sum_3
def dkwX10_sum_1 : List UInt8 := [182, 0, 167, 153, 0, 9, 17, 78, 38, 167, 0, 4, 3, 60, 27, 158, 0, 47, 42, 182, 0, 179, 42, 27]
abbrev dktX10_sum_1 : List UInt8 := dkwX10_sum_1 ++ dktX10_sum_2
def dkwX10_sum_0 : List UInt8 := [42, 182, 0, 179, 42, 16, 43, 182, 0, 167, 153, 0, 9, 17, 78, 37, 167, 0, 19, 42, 16, 45]
abbrev dktX10_sum_0 : List UInt8 := dkwX10_sum_0 ++ dktX10_sum_1
theorem dksX10_sum_0 : cX10_sum.data.toList.drop 0 = dktX10_sum_0 := by decide +kernel
theorem dksX10_sum_1 : cX10_sum.data.toList.drop 22 = dktX10_sum_1 := dk_seg dksX10_sum_0 22 rfl rfl
theorem dksX10_sum_2 : cX10_sum.data.toList.drop 46 = dktX10_sum_2 := dk_seg dksX10_sum_1 24 rfl rfl
theorem dksX10_sum_3 : cX10_sum.data.toList.drop 70 = dktX10_sum_3 := dk_seg dksX10_sum_2 24 rfl rfl
theorem dX10_sum_0 : decode cX10_sum 0 = .ok (.aload_n 0, 1) := dk_42 (dk_at dksX10_sum_0 0 rfl rfl)
theorem dX10_sum_1 : decode cX10_sum 1 = .ok (.invokevirtual 179, 3) := dk_182 0 179 (dk_at dksX10_sum_0 1 rfl rfl)
theorem dX10_sum_4 : decode cX10_sum 4 = .ok (.aload_n 0, 1) := dk_42 (dk_at dksX10_sum_0 4 rfl rfl)
theorem dX10_sum_5 : decode cX10_sum 5 = .ok (.bipush 43, 2) := dk_16 43 (dk_at dksX10_sum_0 5 rfl rfl)
theorem dX10_sum_7 : decode cX10_sum 7 = .ok (.invokevirtual 167, 3) := dk_182 0 167 (dk_at dksX10_sum_0 7 rfl rfl)
theorem dX10_sum_10 : decode cX10_sum 10 = .ok (.ifCond .eq 9, 3) := dk_153 0 9 (dk_at dksX10_sum_0 10 rfl rfl)
theorem dX10_sum_13 : decode cX10_sum 13 = .ok (.sipush 20005, 3) := dk_17 78 37 (dk_at dksX10_sum_0 13 rfl rfl)
theorem dX10_sum_16 : decode cX10_sum 16 = .ok (.goto 19, 3) := dk_167 0 19 (dk_at dksX10_sum_0 16 rfl rfl)
theorem dX10_sum_19 : decode cX10_sum 19 = .ok (.aload_n 0, 1) := dk_42 (dk_at dksX10_sum_0 19 rfl rfl)
theorem dX10_sum_20 : decode cX10_sum 20 = .ok (.bipush 45, 2) := dk_16 45 (dk_at dksX10_sum_0 20 rfl rfl)
theorem dX10_sum_22 : decode cX10_sum 22 = .ok (.invokevirtual 167, 3) := dk_182 0 167 (dk_at dksX10_sum_1 0 rfl rfl)
theorem dX10_sum_25 : decode cX10_sum 25 = .ok (.ifCond .eq 9, 3) := dk_153 0 9 (dk_at dksX10_sum_1 3 rfl rfl)
theorem dX10_sum_28 : decode cX10_sum 28 = .ok (.sipush 20006, 3) := dk_17 78 38 (dk_at dksX10_sum_1 6 rfl rfl)
theorem dX10_sum_31 : decode cX10_sum 31 = .ok (.goto 4, 3) := dk_167 0 4 (dk_at dksX10_sum_1 9 rfl rfl)
theorem dX10_sum_34 : decode cX10_sum 34 = .ok (.iconst 0, 1) := dk_3 (dk_at dksX10_sum_1 12 rfl rfl)
theorem dX10_sum_35 : decode cX10_sum 35 = .ok (.istore_n 1, 1) := dk_60 (dk_at dksX10_sum_1 13 rfl rfl)
theorem dX10_sum_36 : decode cX10_sum 36 = .ok (.iload_n 1, 1) := dk_27 (dk_at dksX10_sum_1 14 rfl rfl)
theorem dX10_sum_37 : decode cX10_sum 37 = .ok (.ifCond .le 47, 3) := dk_158 0 47 (dk_at dksX10_sum_1 15 rfl rfl)
theorem dX10_sum_40 : decode cX10_sum 40 = .ok (.aload_n 0, 1) := dk_42 (dk_at dksX10_sum_1 18 rfl rfl)
theorem dX10_sum_41 : decode cX10_sum 41 = .ok (.invokevirtual 179, 3) := dk_182 0 179 (dk_at dksX10_sum_1 19 rfl rfl)
theorem dX10_sum_44 : decode cX10_sum 44 = .ok (.aload_n 0, 1) := dk_42 (dk_at dksX10_sum_1 22 rfl rfl)
theorem dX10_sum_45 : decode cX10_sum 45 = .ok (.iload_n 1, 1) := dk_27 (dk_at dksX10_sum_1 23 rfl rfl)
theorem dX10_sum_46 : decode cX10_sum 46 = .ok (.invokevirtual 170, 3) := dk_182 0 170 (dk_at dksX10_sum_2 0 rfl rfl)
theorem dX10_sum_49 : decode cX10_sum 49 = .ok (.aload_n 0, 1) := dk_42 (dk_at dksX10_sum_2 3 rfl rfl)
theorem dX10_sum_50 : decode cX10_sum 50 = .ok (.bipush 43, 2) := dk_16 43 (dk_at dksX10_sum_2 4 rfl rfl)
theorem dX10_sum_52 : decode cX10_sum 52 = .ok (.invokevirtual 167, 3) := dk_182 0 167 (dk_at dksX10_sum_2 6 rfl rfl)
theorem dX10_sum_55 : decode cX10_sum 55 = .ok (.ifCond .eq 9, 3) := dk_153 0 9 (dk_at dksX10_sum_2 9 rfl rfl)
theorem dX10_sum_58 : decode cX10_sum 58 = .ok (.sipush 20005, 3) := dk_17 78 37 (dk_at dksX10_sum_2 12 rfl rfl)
theorem dX10_sum_61 : decode cX10_sum 61 = .ok (.goto 19, 3) := dk_167 0 19 (dk_at dksX10_sum_2 15 rfl rfl)
theorem dX10_sum_64 : decode cX10_sum 64 = .ok (.aload_n 0, 1) := dk_42 (dk_at dksX10_sum_2 18 rfl rfl)
theorem dX10_sum_65 : decode cX10_sum 65 = .ok (.bipush 45, 2) := dk_16 45 (dk_at dksX10_sum_2 19 rfl rfl)
theorem dX10_sum_67 : decode cX10_sum 67 = .ok (.invokevirtual 167, 3) := dk_182 0 167 (dk_at dksX10_sum_2 21 rfl rfl)
theorem dX10_sum_70 : decode cX10_sum 70 = .ok (.ifCond .eq 9, 3) := dk_153 0 9 (dk_at dksX10_sum_3 0 rfl rfl)
theorem dX10_sum_73 : decode cX10_sum 73 = .ok (.sipush 20006, 3) := dk_17 78 38 (dk_at dksX10_sum_3 3 rfl rfl)
theorem dX10_sum_76 : decode cX10_sum 76 = .ok (.goto 4, 3) := dk_167 0 4 (dk_at dksX10_sum_3 6 rfl rfl)
theorem dX10_sum_79 : decode cX10_sum 79 = .ok (.iconst 0, 1) := dk_3 (dk_at dksX10_sum_3 9 rfl rfl)
theorem dX10_sum_80 : decode cX10_sum 80 = .ok (.istore_n 1, 1) := dk_60 (dk_at dksX10_sum_3 10 rfl rfl)
theorem dX10_sum_81 : decode cX10_sum 81 = .ok (.goto (-45), 3) := dk_167 255 211 (dk_at dksX10_sum_3 11 rfl rfl)
theorem dX10_sum_84 : decode cX10_sum 84 = .ok (.return_, 1) := dk_177 (dk_at dksX10_sum_3 14 rfl rfl)
abbrev cX10_product : ByteArray := prog_37_method_38_code
def yX10_product : MethodName := ⟨RX10, "product", "()V"⟩
def dkwX10_product_4 : List UInt8 := [42, 16, 37, 182, 0, 167, 153, 0, 9, 17, 78, 41, 167, 0, 4, 3, 60, 167, 255, 196, 177]
abbrev dktX10_product_4 : List UInt8 := dkwX10_product_4 ++ []
def dkwX10_product_3 : List UInt8 := [153, 0, 9, 17, 78, 39, 167, 0, 34, 42, 16, 47, 182, 0, 167, 153, 0, 9, 17, 78, 40, 167, 0, 19]
abbrev dktX10_product_3 : List UInt8 := dkwX10_product_3 ++ dktX10_product_4
def dkwX10_product_2 : List UInt8 := [167, 0, 4, 3, 60, 27, 158, 0, 62, 42, 182, 0, 182, 42, 27, 182, 0, 170, 42, 16, 42, 182, 0, 167]
abbrev dktX10_product_2 : List UInt8 := dkwX10_product_2 ++ dktX10_product_3
def dkwX10_product_1 : List UInt8 := [182, 0, 167, 153, 0, 9, 17, 78, 40, 167, 0, 19, 42, 16, 37, 182, 0, 167, 153, 0, 9, 17, 78, 41]
abbrev dktX10_product_1 : List UInt8 := dkwX10_product_1 ++ dktX10_product_2
def dkwX10_product_0 : List UInt8 := [42, 182, 0, 182, 42, 16, 42, 182, 0, 167, 153, 0, 9, 17, 78, 39, 167, 0, 34, 42, 16, 47]
abbrev dktX10_product_0 : List UInt8 := dkwX10_product_0 ++ dktX10_product_1
theorem dksX10_product_0 : cX10_product.data.toList.drop 0 = dktX10_product_0 := by decide +kernel
theorem dksX10_product_1 : cX10_product.data.toList.drop 22 = dktX10_product_1 := dk_seg dksX10_product_0 22 rfl rfl
theorem dksX10_product_2 : cX10_product.data.toList.drop 46 = dktX10_product_2 := dk_seg dksX10_product_1 24 rfl rfl
theorem dksX10_product_3 : cX10_product.data.toList.drop 70 = dktX10_product_3 := dk_seg dksX10_product_2 24 rfl rfl
theorem dksX10_product_4 : cX10_product.data.toList.drop 94 = dktX10_product_4 := dk_seg dksX10_product_3 24 rfl rfl
theorem dX10_product_0 : decode cX10_product 0 = .ok (.aload_n 0, 1) := dk_42 (dk_at dksX10_product_0 0 rfl rfl)
theorem dX10_product_1 : decode cX10_product 1 = .ok (.invokevirtual 182, 3) := dk_182 0 182 (dk_at dksX10_product_0 1 rfl rfl)
theorem dX10_product_4 : decode cX10_product 4 = .ok (.aload_n 0, 1) := dk_42 (dk_at dksX10_product_0 4 rfl rfl)
theorem dX10_product_5 : decode cX10_product 5 = .ok (.bipush 42, 2) := dk_16 42 (dk_at dksX10_product_0 5 rfl rfl)
theorem dX10_product_7 : decode cX10_product 7 = .ok (.invokevirtual 167, 3) := dk_182 0 167 (dk_at dksX10_product_0 7 rfl rfl)
theorem dX10_product_10 : decode cX10_product 10 = .ok (.ifCond .eq 9, 3) := dk_153 0 9 (dk_at dksX10_product_0 10 rfl rfl)
theorem dX10_product_13 : decode cX10_product 13 = .ok (.sipush 20007, 3) := dk_17 78 39 (dk_at dksX10_product_0 13 rfl rfl)
theorem dX10_product_16 : decode cX10_product 16 = .ok (.goto 34, 3) := dk_167 0 34 (dk_at dksX10_product_0 16 rfl rfl)
theorem dX10_product_19 : decode cX10_product 19 = .ok (.aload_n 0, 1) := dk_42 (dk_at dksX10_product_0 19 rfl rfl)
theorem dX10_product_20 : decode cX10_product 20 = .ok (.bipush 47, 2) := dk_16 47 (dk_at dksX10_product_0 20 rfl rfl)
theorem dX10_product_22 : decode cX10_product 22 = .ok (.invokevirtual 167, 3) := dk_182 0 167 (dk_at dksX10_product_1 0 rfl rfl)
theorem dX10_product_25 : decode cX10_product 25 = .ok (.ifCond .eq 9, 3) := dk_153 0 9 (dk_at dksX10_product_1 3 rfl rfl)
theorem dX10_product_28 : decode cX10_product 28 = .ok (.sipush 20008, 3) := dk_17 78 40 (dk_at dksX10_product_1 6 rfl rfl)
theorem dX10_product_31 : decode cX10_product 31 = .ok (.goto 19, 3) := dk_167 0 19 (dk_at dksX10_product_1 9 rfl rfl)
theorem dX10_product_34 : decode cX10_product 34 = .ok (.aload_n 0, 1) := dk_42 (dk_at dksX10_product_1 12 rfl rfl)
theorem dX10_product_35 : decode cX10_product 35 = .ok (.bipush 37, 2) := dk_16 37 (dk_at dksX10_product_1 13 rfl rfl)
theorem dX10_product_37 : decode cX10_product 37 = .ok (.invokevirtual 167, 3) := dk_182 0 167 (dk_at dksX10_product_1 15 rfl rfl)
theorem dX10_product_40 : decode cX10_product 40 = .ok (.ifCond .eq 9, 3) := dk_153 0 9 (dk_at dksX10_product_1 18 rfl rfl)
theorem dX10_product_43 : decode cX10_product 43 = .ok (.sipush 20009, 3) := dk_17 78 41 (dk_at dksX10_product_1 21 rfl rfl)
theorem dX10_product_46 : decode cX10_product 46 = .ok (.goto 4, 3) := dk_167 0 4 (dk_at dksX10_product_2 0 rfl rfl)
theorem dX10_product_49 : decode cX10_product 49 = .ok (.iconst 0, 1) := dk_3 (dk_at dksX10_product_2 3 rfl rfl)
theorem dX10_product_50 : decode cX10_product 50 = .ok (.istore_n 1, 1) := dk_60 (dk_at dksX10_product_2 4 rfl rfl)
theorem dX10_product_51 : decode cX10_product 51 = .ok (.iload_n 1, 1) := dk_27 (dk_at dksX10_product_2 5 rfl rfl)
theorem dX10_product_52 : decode cX10_product 52 = .ok (.ifCond .le 62, 3) := dk_158 0 62 (dk_at dksX10_product_2 6 rfl rfl)
theorem dX10_product_55 : decode cX10_product 55 = .ok (.aload_n 0, 1) := dk_42 (dk_at dksX10_product_2 9 rfl rfl)
theorem dX10_product_56 : decode cX10_product 56 = .ok (.invokevirtual 182, 3) := dk_182 0 182 (dk_at dksX10_product_2 10 rfl rfl)
theorem dX10_product_59 : decode cX10_product 59 = .ok (.aload_n 0, 1) := dk_42 (dk_at dksX10_product_2 13 rfl rfl)
theorem dX10_product_60 : decode cX10_product 60 = .ok (.iload_n 1, 1) := dk_27 (dk_at dksX10_product_2 14 rfl rfl)
theorem dX10_product_61 : decode cX10_product 61 = .ok (.invokevirtual 170, 3) := dk_182 0 170 (dk_at dksX10_product_2 15 rfl rfl)
theorem dX10_product_64 : decode cX10_product 64 = .ok (.aload_n 0, 1) := dk_42 (dk_at dksX10_product_2 18 rfl rfl)
theorem dX10_product_65 : decode cX10_product 65 = .ok (.bipush 42, 2) := dk_16 42 (dk_at dksX10_product_2 19 rfl rfl)
theorem dX10_product_67 : decode cX10_product 67 = .ok (.invokevirtual 167, 3) := dk_182 0 167 (dk_at dksX10_product_2 21 rfl rfl)
theorem dX10_product_70 : decode cX10_product 70 = .ok (.ifCond .eq 9, 3) := dk_153 0 9 (dk_at dksX10_product_3 0 rfl rfl)
theorem dX10_product_73 : decode cX10_product 73 = .ok (.sipush 20007, 3) := dk_17 78 39 (dk_at dksX10_product_3 3 rfl rfl)
theorem dX10_product_76 : decode cX10_product 76 = .ok (.goto 34, 3) := dk_167 0 34 (dk_at dksX10_product_3 6 rfl rfl)
theorem dX10_product_79 : decode cX10_product 79 = .ok (.aload_n 0, 1) := dk_42 (dk_at dksX10_product_3 9 rfl rfl)
theorem dX10_product_80 : decode cX10_product 80 = .ok (.bipush 47, 2) := dk_16 47 (dk_at dksX10_product_3 10 rfl rfl)
theorem dX10_product_82 : decode cX10_product 82 = .ok (.invokevirtual 167, 3) := dk_182 0 167 (dk_at dksX10_product_3 12 rfl rfl)
theorem dX10_product_85 : decode cX10_product 85 = .ok (.ifCond .eq 9, 3) := dk_153 0 9 (dk_at dksX10_product_3 15 rfl rfl)
theorem dX10_product_88 : decode cX10_product 88 = .ok (.sipush 20008, 3) := dk_17 78 40 (dk_at dksX10_product_3 18 rfl rfl)
theorem dX10_product_91 : decode cX10_product 91 = .ok (.goto 19, 3) := dk_167 0 19 (dk_at dksX10_product_3 21 rfl rfl)
theorem dX10_product_94 : decode cX10_product 94 = .ok (.aload_n 0, 1) := dk_42 (dk_at dksX10_product_4 0 rfl rfl)
theorem dX10_product_95 : decode cX10_product 95 = .ok (.bipush 37, 2) := dk_16 37 (dk_at dksX10_product_4 1 rfl rfl)
theorem dX10_product_97 : decode cX10_product 97 = .ok (.invokevirtual 167, 3) := dk_182 0 167 (dk_at dksX10_product_4 3 rfl rfl)
theorem dX10_product_100 : decode cX10_product 100 = .ok (.ifCond .eq 9, 3) := dk_153 0 9 (dk_at dksX10_product_4 6 rfl rfl)
theorem dX10_product_103 : decode cX10_product 103 = .ok (.sipush 20009, 3) := dk_17 78 41 (dk_at dksX10_product_4 9 rfl rfl)
theorem dX10_product_106 : decode cX10_product 106 = .ok (.goto 4, 3) := dk_167 0 4 (dk_at dksX10_product_4 12 rfl rfl)
theorem dX10_product_109 : decode cX10_product 109 = .ok (.iconst 0, 1) := dk_3 (dk_at dksX10_product_4 15 rfl rfl)
theorem dX10_product_110 : decode cX10_product 110 = .ok (.istore_n 1, 1) := dk_60 (dk_at dksX10_product_4 16 rfl rfl)
theorem dX10_product_111 : decode cX10_product 111 = .ok (.goto (-60), 3) := dk_167 255 196 (dk_at dksX10_product_4 17 rfl rfl)
theorem dX10_product_114 : decode cX10_product 114 = .ok (.return_, 1) := dk_177 (dk_at dksX10_product_4 20 rfl rfl)
abbrev cX10_one : ByteArray := prog_37_method_40_code
def yX10_one : MethodName := ⟨RX10, "one", "()V"⟩
def dkwX10_one_10 : List UInt8 := [182, 0, 170, 42, 89, 180, 0, 153, 4, 96, 181, 0, 153, 177]
abbrev dktX10_one_10 : List UInt8 := dkwX10_one_10 ++ []
def dkwX10_one_9 : List UInt8 := [156, 0, 7, 4, 167, 0, 4, 3, 181, 0, 149, 42, 180, 0, 149, 154, 0, 22, 42, 17, 39, 16, 28, 96]
abbrev dktX10_one_9 : List UInt8 := dkwX10_one_9 ++ dktX10_one_10
def dkwX10_one_8 : List UInt8 := [156, 0, 7, 2, 167, 0, 8, 42, 27, 182, 0, 201, 61, 42, 42, 180, 0, 149, 154, 0, 7, 28]
abbrev dktX10_one_8 : List UInt8 := dkwX10_one_8 ++ dktX10_one_9
def dkwX10_one_7 : List UInt8 := [180, 0, 153, 4, 96, 181, 0, 153, 132, 3, 1, 167, 255, 211, 42, 28, 182, 0, 170, 167, 0, 63, 27]
abbrev dktX10_one_7 : List UInt8 := dkwX10_one_7 ++ dktX10_one_8
def dkwX10_one_6 : List UInt8 := [16, 57, 184, 0, 78, 153, 0, 32, 16, 10, 28, 104, 42, 182, 0, 157, 96, 16, 48, 100, 61, 42, 89]
abbrev dktX10_one_6 : List UInt8 := dkwX10_one_6 ++ dktX10_one_7
def dkwX10_one_5 : List UInt8 := [16, 57, 184, 0, 78, 153, 0, 63, 3, 61, 3, 62, 29, 7, 162, 0, 46, 42, 182, 0, 157, 16, 48]
abbrev dktX10_one_5 : List UInt8 := dkwX10_one_5 ++ dktX10_one_6
def dkwX10_one_4 : List UInt8 := [4, 167, 0, 4, 3, 181, 0, 149, 42, 89, 180, 0, 195, 4, 100, 181, 0, 195, 167, 0, 134, 27, 16, 48]
abbrev dktX10_one_4 : List UInt8 := dkwX10_one_4 ++ dktX10_one_5
def dkwX10_one_3 : List UInt8 := [42, 17, 78, 42, 182, 0, 170, 167, 0, 25, 42, 182, 0, 198, 42, 42, 16, 41, 182, 0, 167, 154, 0, 7]
abbrev dktX10_one_3 : List UInt8 := dkwX10_one_3 ++ dktX10_one_4
def dkwX10_one_2 : List UInt8 := [96, 181, 0, 195, 42, 89, 180, 0, 153, 4, 96, 181, 0, 153, 27, 16, 33, 160, 0, 17, 42, 182, 0, 182]
abbrev dktX10_one_2 : List UInt8 := dkwX10_one_2 ++ dktX10_one_3
def dkwX10_one_1 : List UInt8 := [160, 0, 7, 4, 167, 0, 4, 3, 181, 0, 149, 42, 180, 0, 149, 154, 0, 209, 42, 89, 180, 0, 195, 4]
abbrev dktX10_one_1 : List UInt8 := dkwX10_one_1 ++ dktX10_one_2
def dkwX10_one_0 : List UInt8 := [42, 182, 0, 157, 60, 27, 16, 33, 159, 0, 9, 27, 16, 40, 160, 0, 102, 42, 42, 180, 0, 195, 8]
abbrev dktX10_one_0 : List UInt8 := dkwX10_one_0 ++ dktX10_one_1
theorem dksX10_one_0 : cX10_one.data.toList.drop 0 = dktX10_one_0 := by decide +kernel
theorem dksX10_one_1 : cX10_one.data.toList.drop 23 = dktX10_one_1 := dk_seg dksX10_one_0 23 rfl rfl
theorem dksX10_one_2 : cX10_one.data.toList.drop 47 = dktX10_one_2 := dk_seg dksX10_one_1 24 rfl rfl
theorem dksX10_one_3 : cX10_one.data.toList.drop 71 = dktX10_one_3 := dk_seg dksX10_one_2 24 rfl rfl
theorem dksX10_one_4 : cX10_one.data.toList.drop 95 = dktX10_one_4 := dk_seg dksX10_one_3 24 rfl rfl
theorem dksX10_one_5 : cX10_one.data.toList.drop 119 = dktX10_one_5 := dk_seg dksX10_one_4 24 rfl rfl
theorem dksX10_one_6 : cX10_one.data.toList.drop 142 = dktX10_one_6 := dk_seg dksX10_one_5 23 rfl rfl
theorem dksX10_one_7 : cX10_one.data.toList.drop 165 = dktX10_one_7 := dk_seg dksX10_one_6 23 rfl rfl
theorem dksX10_one_8 : cX10_one.data.toList.drop 188 = dktX10_one_8 := dk_seg dksX10_one_7 23 rfl rfl
theorem dksX10_one_9 : cX10_one.data.toList.drop 210 = dktX10_one_9 := dk_seg dksX10_one_8 22 rfl rfl
theorem dksX10_one_10 : cX10_one.data.toList.drop 234 = dktX10_one_10 := dk_seg dksX10_one_9 24 rfl rfl
theorem dX10_one_0 : decode cX10_one 0 = .ok (.aload_n 0, 1) := dk_42 (dk_at dksX10_one_0 0 rfl rfl)
theorem dX10_one_1 : decode cX10_one 1 = .ok (.invokevirtual 157, 3) := dk_182 0 157 (dk_at dksX10_one_0 1 rfl rfl)
theorem dX10_one_4 : decode cX10_one 4 = .ok (.istore_n 1, 1) := dk_60 (dk_at dksX10_one_0 4 rfl rfl)
theorem dX10_one_5 : decode cX10_one 5 = .ok (.iload_n 1, 1) := dk_27 (dk_at dksX10_one_0 5 rfl rfl)
theorem dX10_one_6 : decode cX10_one 6 = .ok (.bipush 33, 2) := dk_16 33 (dk_at dksX10_one_0 6 rfl rfl)
theorem dX10_one_8 : decode cX10_one 8 = .ok (.if_icmp .eq 9, 3) := dk_159 0 9 (dk_at dksX10_one_0 8 rfl rfl)
theorem dX10_one_11 : decode cX10_one 11 = .ok (.iload_n 1, 1) := dk_27 (dk_at dksX10_one_0 11 rfl rfl)
theorem dX10_one_12 : decode cX10_one 12 = .ok (.bipush 40, 2) := dk_16 40 (dk_at dksX10_one_0 12 rfl rfl)
theorem dX10_one_14 : decode cX10_one 14 = .ok (.if_icmp .ne 102, 3) := dk_160 0 102 (dk_at dksX10_one_0 14 rfl rfl)
theorem dX10_one_17 : decode cX10_one 17 = .ok (.aload_n 0, 1) := dk_42 (dk_at dksX10_one_0 17 rfl rfl)
theorem dX10_one_18 : decode cX10_one 18 = .ok (.aload_n 0, 1) := dk_42 (dk_at dksX10_one_0 18 rfl rfl)
theorem dX10_one_19 : decode cX10_one 19 = .ok (.getfield 195, 3) := dk_180 0 195 (dk_at dksX10_one_0 19 rfl rfl)
theorem dX10_one_22 : decode cX10_one 22 = .ok (.iconst 5, 1) := dk_8 (dk_at dksX10_one_0 22 rfl rfl)
theorem dX10_one_23 : decode cX10_one 23 = .ok (.if_icmp .ne 7, 3) := dk_160 0 7 (dk_at dksX10_one_1 0 rfl rfl)
theorem dX10_one_26 : decode cX10_one 26 = .ok (.iconst 1, 1) := dk_4 (dk_at dksX10_one_1 3 rfl rfl)
theorem dX10_one_27 : decode cX10_one 27 = .ok (.goto 4, 3) := dk_167 0 4 (dk_at dksX10_one_1 4 rfl rfl)
theorem dX10_one_30 : decode cX10_one 30 = .ok (.iconst 0, 1) := dk_3 (dk_at dksX10_one_1 7 rfl rfl)
theorem dX10_one_31 : decode cX10_one 31 = .ok (.putfield 149, 3) := dk_181 0 149 (dk_at dksX10_one_1 8 rfl rfl)
theorem dX10_one_34 : decode cX10_one 34 = .ok (.aload_n 0, 1) := dk_42 (dk_at dksX10_one_1 11 rfl rfl)
theorem dX10_one_35 : decode cX10_one 35 = .ok (.getfield 149, 3) := dk_180 0 149 (dk_at dksX10_one_1 12 rfl rfl)
theorem dX10_one_38 : decode cX10_one 38 = .ok (.ifCond .ne 209, 3) := dk_154 0 209 (dk_at dksX10_one_1 15 rfl rfl)
theorem dX10_one_41 : decode cX10_one 41 = .ok (.aload_n 0, 1) := dk_42 (dk_at dksX10_one_1 18 rfl rfl)
theorem dX10_one_42 : decode cX10_one 42 = .ok (.dup, 1) := dk_89 (dk_at dksX10_one_1 19 rfl rfl)
theorem dX10_one_43 : decode cX10_one 43 = .ok (.getfield 195, 3) := dk_180 0 195 (dk_at dksX10_one_1 20 rfl rfl)
theorem dX10_one_46 : decode cX10_one 46 = .ok (.iconst 1, 1) := dk_4 (dk_at dksX10_one_1 23 rfl rfl)
theorem dX10_one_47 : decode cX10_one 47 = .ok (.iadd, 1) := dk_96 (dk_at dksX10_one_2 0 rfl rfl)
theorem dX10_one_48 : decode cX10_one 48 = .ok (.putfield 195, 3) := dk_181 0 195 (dk_at dksX10_one_2 1 rfl rfl)
theorem dX10_one_51 : decode cX10_one 51 = .ok (.aload_n 0, 1) := dk_42 (dk_at dksX10_one_2 4 rfl rfl)
theorem dX10_one_52 : decode cX10_one 52 = .ok (.dup, 1) := dk_89 (dk_at dksX10_one_2 5 rfl rfl)
theorem dX10_one_53 : decode cX10_one 53 = .ok (.getfield 153, 3) := dk_180 0 153 (dk_at dksX10_one_2 6 rfl rfl)
theorem dX10_one_56 : decode cX10_one 56 = .ok (.iconst 1, 1) := dk_4 (dk_at dksX10_one_2 9 rfl rfl)
theorem dX10_one_57 : decode cX10_one 57 = .ok (.iadd, 1) := dk_96 (dk_at dksX10_one_2 10 rfl rfl)
theorem dX10_one_58 : decode cX10_one 58 = .ok (.putfield 153, 3) := dk_181 0 153 (dk_at dksX10_one_2 11 rfl rfl)
theorem dX10_one_61 : decode cX10_one 61 = .ok (.iload_n 1, 1) := dk_27 (dk_at dksX10_one_2 14 rfl rfl)
theorem dX10_one_62 : decode cX10_one 62 = .ok (.bipush 33, 2) := dk_16 33 (dk_at dksX10_one_2 15 rfl rfl)
theorem dX10_one_64 : decode cX10_one 64 = .ok (.if_icmp .ne 17, 3) := dk_160 0 17 (dk_at dksX10_one_2 17 rfl rfl)
theorem dX10_one_67 : decode cX10_one 67 = .ok (.aload_n 0, 1) := dk_42 (dk_at dksX10_one_2 20 rfl rfl)
theorem dX10_one_68 : decode cX10_one 68 = .ok (.invokevirtual 182, 3) := dk_182 0 182 (dk_at dksX10_one_2 21 rfl rfl)
theorem dX10_one_71 : decode cX10_one 71 = .ok (.aload_n 0, 1) := dk_42 (dk_at dksX10_one_3 0 rfl rfl)
theorem dX10_one_72 : decode cX10_one 72 = .ok (.sipush 20010, 3) := dk_17 78 42 (dk_at dksX10_one_3 1 rfl rfl)
theorem dX10_one_75 : decode cX10_one 75 = .ok (.invokevirtual 170, 3) := dk_182 0 170 (dk_at dksX10_one_3 4 rfl rfl)
theorem dX10_one_78 : decode cX10_one 78 = .ok (.goto 25, 3) := dk_167 0 25 (dk_at dksX10_one_3 7 rfl rfl)
theorem dX10_one_81 : decode cX10_one 81 = .ok (.aload_n 0, 1) := dk_42 (dk_at dksX10_one_3 10 rfl rfl)
theorem dX10_one_82 : decode cX10_one 82 = .ok (.invokevirtual 198, 3) := dk_182 0 198 (dk_at dksX10_one_3 11 rfl rfl)
theorem dX10_one_85 : decode cX10_one 85 = .ok (.aload_n 0, 1) := dk_42 (dk_at dksX10_one_3 14 rfl rfl)
theorem dX10_one_86 : decode cX10_one 86 = .ok (.aload_n 0, 1) := dk_42 (dk_at dksX10_one_3 15 rfl rfl)
theorem dX10_one_87 : decode cX10_one 87 = .ok (.bipush 41, 2) := dk_16 41 (dk_at dksX10_one_3 16 rfl rfl)
theorem dX10_one_89 : decode cX10_one 89 = .ok (.invokevirtual 167, 3) := dk_182 0 167 (dk_at dksX10_one_3 18 rfl rfl)
theorem dX10_one_92 : decode cX10_one 92 = .ok (.ifCond .ne 7, 3) := dk_154 0 7 (dk_at dksX10_one_3 21 rfl rfl)
theorem dX10_one_95 : decode cX10_one 95 = .ok (.iconst 1, 1) := dk_4 (dk_at dksX10_one_4 0 rfl rfl)
theorem dX10_one_96 : decode cX10_one 96 = .ok (.goto 4, 3) := dk_167 0 4 (dk_at dksX10_one_4 1 rfl rfl)
theorem dX10_one_99 : decode cX10_one 99 = .ok (.iconst 0, 1) := dk_3 (dk_at dksX10_one_4 4 rfl rfl)
theorem dX10_one_100 : decode cX10_one 100 = .ok (.putfield 149, 3) := dk_181 0 149 (dk_at dksX10_one_4 5 rfl rfl)
theorem dX10_one_103 : decode cX10_one 103 = .ok (.aload_n 0, 1) := dk_42 (dk_at dksX10_one_4 8 rfl rfl)
theorem dX10_one_104 : decode cX10_one 104 = .ok (.dup, 1) := dk_89 (dk_at dksX10_one_4 9 rfl rfl)
theorem dX10_one_105 : decode cX10_one 105 = .ok (.getfield 195, 3) := dk_180 0 195 (dk_at dksX10_one_4 10 rfl rfl)
theorem dX10_one_108 : decode cX10_one 108 = .ok (.iconst 1, 1) := dk_4 (dk_at dksX10_one_4 13 rfl rfl)
theorem dX10_one_109 : decode cX10_one 109 = .ok (.isub, 1) := dk_100 (dk_at dksX10_one_4 14 rfl rfl)
theorem dX10_one_110 : decode cX10_one 110 = .ok (.putfield 195, 3) := dk_181 0 195 (dk_at dksX10_one_4 15 rfl rfl)
theorem dX10_one_113 : decode cX10_one 113 = .ok (.goto 134, 3) := dk_167 0 134 (dk_at dksX10_one_4 18 rfl rfl)
theorem dX10_one_116 : decode cX10_one 116 = .ok (.iload_n 1, 1) := dk_27 (dk_at dksX10_one_4 21 rfl rfl)
theorem dX10_one_117 : decode cX10_one 117 = .ok (.bipush 48, 2) := dk_16 48 (dk_at dksX10_one_4 22 rfl rfl)
theorem dX10_one_119 : decode cX10_one 119 = .ok (.bipush 57, 2) := dk_16 57 (dk_at dksX10_one_5 0 rfl rfl)
theorem dX10_one_121 : decode cX10_one 121 = .ok (.invokestatic 78, 3) := dk_184 0 78 (dk_at dksX10_one_5 2 rfl rfl)
theorem dX10_one_124 : decode cX10_one 124 = .ok (.ifCond .eq 63, 3) := dk_153 0 63 (dk_at dksX10_one_5 5 rfl rfl)
theorem dX10_one_127 : decode cX10_one 127 = .ok (.iconst 0, 1) := dk_3 (dk_at dksX10_one_5 8 rfl rfl)
theorem dX10_one_128 : decode cX10_one 128 = .ok (.istore_n 2, 1) := dk_61 (dk_at dksX10_one_5 9 rfl rfl)
theorem dX10_one_129 : decode cX10_one 129 = .ok (.iconst 0, 1) := dk_3 (dk_at dksX10_one_5 10 rfl rfl)
theorem dX10_one_130 : decode cX10_one 130 = .ok (.istore_n 3, 1) := dk_62 (dk_at dksX10_one_5 11 rfl rfl)
theorem dX10_one_131 : decode cX10_one 131 = .ok (.iload_n 3, 1) := dk_29 (dk_at dksX10_one_5 12 rfl rfl)
theorem dX10_one_132 : decode cX10_one 132 = .ok (.iconst 4, 1) := dk_7 (dk_at dksX10_one_5 13 rfl rfl)
theorem dX10_one_133 : decode cX10_one 133 = .ok (.if_icmp .ge 46, 3) := dk_162 0 46 (dk_at dksX10_one_5 14 rfl rfl)
theorem dX10_one_136 : decode cX10_one 136 = .ok (.aload_n 0, 1) := dk_42 (dk_at dksX10_one_5 17 rfl rfl)
theorem dX10_one_137 : decode cX10_one 137 = .ok (.invokevirtual 157, 3) := dk_182 0 157 (dk_at dksX10_one_5 18 rfl rfl)
theorem dX10_one_140 : decode cX10_one 140 = .ok (.bipush 48, 2) := dk_16 48 (dk_at dksX10_one_5 21 rfl rfl)
theorem dX10_one_142 : decode cX10_one 142 = .ok (.bipush 57, 2) := dk_16 57 (dk_at dksX10_one_6 0 rfl rfl)
theorem dX10_one_144 : decode cX10_one 144 = .ok (.invokestatic 78, 3) := dk_184 0 78 (dk_at dksX10_one_6 2 rfl rfl)
theorem dX10_one_147 : decode cX10_one 147 = .ok (.ifCond .eq 32, 3) := dk_153 0 32 (dk_at dksX10_one_6 5 rfl rfl)
theorem dX10_one_150 : decode cX10_one 150 = .ok (.bipush 10, 2) := dk_16 10 (dk_at dksX10_one_6 8 rfl rfl)
theorem dX10_one_152 : decode cX10_one 152 = .ok (.iload_n 2, 1) := dk_28 (dk_at dksX10_one_6 10 rfl rfl)
theorem dX10_one_153 : decode cX10_one 153 = .ok (.imul, 1) := dk_104 (dk_at dksX10_one_6 11 rfl rfl)
theorem dX10_one_154 : decode cX10_one 154 = .ok (.aload_n 0, 1) := dk_42 (dk_at dksX10_one_6 12 rfl rfl)
theorem dX10_one_155 : decode cX10_one 155 = .ok (.invokevirtual 157, 3) := dk_182 0 157 (dk_at dksX10_one_6 13 rfl rfl)
theorem dX10_one_158 : decode cX10_one 158 = .ok (.iadd, 1) := dk_96 (dk_at dksX10_one_6 16 rfl rfl)
theorem dX10_one_159 : decode cX10_one 159 = .ok (.bipush 48, 2) := dk_16 48 (dk_at dksX10_one_6 17 rfl rfl)
theorem dX10_one_161 : decode cX10_one 161 = .ok (.isub, 1) := dk_100 (dk_at dksX10_one_6 19 rfl rfl)
theorem dX10_one_162 : decode cX10_one 162 = .ok (.istore_n 2, 1) := dk_61 (dk_at dksX10_one_6 20 rfl rfl)
theorem dX10_one_163 : decode cX10_one 163 = .ok (.aload_n 0, 1) := dk_42 (dk_at dksX10_one_6 21 rfl rfl)
theorem dX10_one_164 : decode cX10_one 164 = .ok (.dup, 1) := dk_89 (dk_at dksX10_one_6 22 rfl rfl)
theorem dX10_one_165 : decode cX10_one 165 = .ok (.getfield 153, 3) := dk_180 0 153 (dk_at dksX10_one_7 0 rfl rfl)
theorem dX10_one_168 : decode cX10_one 168 = .ok (.iconst 1, 1) := dk_4 (dk_at dksX10_one_7 3 rfl rfl)
theorem dX10_one_169 : decode cX10_one 169 = .ok (.iadd, 1) := dk_96 (dk_at dksX10_one_7 4 rfl rfl)
theorem dX10_one_170 : decode cX10_one 170 = .ok (.putfield 153, 3) := dk_181 0 153 (dk_at dksX10_one_7 5 rfl rfl)
theorem dX10_one_173 : decode cX10_one 173 = .ok (.iinc 3 1, 3) := dk_132 3 1 (dk_at dksX10_one_7 8 rfl rfl)
theorem dX10_one_176 : decode cX10_one 176 = .ok (.goto (-45), 3) := dk_167 255 211 (dk_at dksX10_one_7 11 rfl rfl)
theorem dX10_one_179 : decode cX10_one 179 = .ok (.aload_n 0, 1) := dk_42 (dk_at dksX10_one_7 14 rfl rfl)
theorem dX10_one_180 : decode cX10_one 180 = .ok (.iload_n 2, 1) := dk_28 (dk_at dksX10_one_7 15 rfl rfl)
theorem dX10_one_181 : decode cX10_one 181 = .ok (.invokevirtual 170, 3) := dk_182 0 170 (dk_at dksX10_one_7 16 rfl rfl)
theorem dX10_one_184 : decode cX10_one 184 = .ok (.goto 63, 3) := dk_167 0 63 (dk_at dksX10_one_7 19 rfl rfl)
theorem dX10_one_187 : decode cX10_one 187 = .ok (.iload_n 1, 1) := dk_27 (dk_at dksX10_one_7 22 rfl rfl)
theorem dX10_one_188 : decode cX10_one 188 = .ok (.ifCond .ge 7, 3) := dk_156 0 7 (dk_at dksX10_one_8 0 rfl rfl)
theorem dX10_one_191 : decode cX10_one 191 = .ok (.iconst (-1), 1) := dk_2 (dk_at dksX10_one_8 3 rfl rfl)
theorem dX10_one_192 : decode cX10_one 192 = .ok (.goto 8, 3) := dk_167 0 8 (dk_at dksX10_one_8 4 rfl rfl)
theorem dX10_one_195 : decode cX10_one 195 = .ok (.aload_n 0, 1) := dk_42 (dk_at dksX10_one_8 7 rfl rfl)
theorem dX10_one_196 : decode cX10_one 196 = .ok (.iload_n 1, 1) := dk_27 (dk_at dksX10_one_8 8 rfl rfl)
theorem dX10_one_197 : decode cX10_one 197 = .ok (.invokevirtual 201, 3) := dk_182 0 201 (dk_at dksX10_one_8 9 rfl rfl)
theorem dX10_one_200 : decode cX10_one 200 = .ok (.istore_n 2, 1) := dk_61 (dk_at dksX10_one_8 12 rfl rfl)
theorem dX10_one_201 : decode cX10_one 201 = .ok (.aload_n 0, 1) := dk_42 (dk_at dksX10_one_8 13 rfl rfl)
theorem dX10_one_202 : decode cX10_one 202 = .ok (.aload_n 0, 1) := dk_42 (dk_at dksX10_one_8 14 rfl rfl)
theorem dX10_one_203 : decode cX10_one 203 = .ok (.getfield 149, 3) := dk_180 0 149 (dk_at dksX10_one_8 15 rfl rfl)
theorem dX10_one_206 : decode cX10_one 206 = .ok (.ifCond .ne 7, 3) := dk_154 0 7 (dk_at dksX10_one_8 18 rfl rfl)
theorem dX10_one_209 : decode cX10_one 209 = .ok (.iload_n 2, 1) := dk_28 (dk_at dksX10_one_8 21 rfl rfl)
theorem dX10_one_210 : decode cX10_one 210 = .ok (.ifCond .ge 7, 3) := dk_156 0 7 (dk_at dksX10_one_9 0 rfl rfl)
theorem dX10_one_213 : decode cX10_one 213 = .ok (.iconst 1, 1) := dk_4 (dk_at dksX10_one_9 3 rfl rfl)
theorem dX10_one_214 : decode cX10_one 214 = .ok (.goto 4, 3) := dk_167 0 4 (dk_at dksX10_one_9 4 rfl rfl)
theorem dX10_one_217 : decode cX10_one 217 = .ok (.iconst 0, 1) := dk_3 (dk_at dksX10_one_9 7 rfl rfl)
theorem dX10_one_218 : decode cX10_one 218 = .ok (.putfield 149, 3) := dk_181 0 149 (dk_at dksX10_one_9 8 rfl rfl)
theorem dX10_one_221 : decode cX10_one 221 = .ok (.aload_n 0, 1) := dk_42 (dk_at dksX10_one_9 11 rfl rfl)
theorem dX10_one_222 : decode cX10_one 222 = .ok (.getfield 149, 3) := dk_180 0 149 (dk_at dksX10_one_9 12 rfl rfl)
theorem dX10_one_225 : decode cX10_one 225 = .ok (.ifCond .ne 22, 3) := dk_154 0 22 (dk_at dksX10_one_9 15 rfl rfl)
theorem dX10_one_228 : decode cX10_one 228 = .ok (.aload_n 0, 1) := dk_42 (dk_at dksX10_one_9 18 rfl rfl)
theorem dX10_one_229 : decode cX10_one 229 = .ok (.sipush 10000, 3) := dk_17 39 16 (dk_at dksX10_one_9 19 rfl rfl)
theorem dX10_one_232 : decode cX10_one 232 = .ok (.iload_n 2, 1) := dk_28 (dk_at dksX10_one_9 22 rfl rfl)
theorem dX10_one_233 : decode cX10_one 233 = .ok (.iadd, 1) := dk_96 (dk_at dksX10_one_9 23 rfl rfl)
theorem dX10_one_234 : decode cX10_one 234 = .ok (.invokevirtual 170, 3) := dk_182 0 170 (dk_at dksX10_one_10 0 rfl rfl)
theorem dX10_one_237 : decode cX10_one 237 = .ok (.aload_n 0, 1) := dk_42 (dk_at dksX10_one_10 3 rfl rfl)
theorem dX10_one_238 : decode cX10_one 238 = .ok (.dup, 1) := dk_89 (dk_at dksX10_one_10 4 rfl rfl)
theorem dX10_one_239 : decode cX10_one 239 = .ok (.getfield 153, 3) := dk_180 0 153 (dk_at dksX10_one_10 5 rfl rfl)
theorem dX10_one_242 : decode cX10_one 242 = .ok (.iconst 1, 1) := dk_4 (dk_at dksX10_one_10 8 rfl rfl)
theorem dX10_one_243 : decode cX10_one 243 = .ok (.iadd, 1) := dk_96 (dk_at dksX10_one_10 9 rfl rfl)
theorem dX10_one_244 : decode cX10_one 244 = .ok (.putfield 153, 3) := dk_181 0 153 (dk_at dksX10_one_10 10 rfl rfl)
theorem dX10_one_247 : decode cX10_one 247 = .ok (.return_, 1) := dk_177 (dk_at dksX10_one_10 13 rfl rfl)
abbrev cX10_here : ByteArray := prog_37_method_31_code
def yX10_here : MethodName := ⟨RX10, "here", "()I"⟩
def dkwX10_here_1 : List UInt8 := [180, 0, 9, 17, 1, 68, 42, 180, 0, 153, 96, 46, 167, 0, 4, 2, 172]
abbrev dktX10_here_1 : List UInt8 := dkwX10_here_1 ++ []
def dkwX10_here_0 : List UInt8 := [42, 180, 0, 149, 154, 0, 33, 42, 180, 0, 153, 42, 180, 0, 9, 16, 6, 46, 162, 0, 19, 42]
abbrev dktX10_here_0 : List UInt8 := dkwX10_here_0 ++ dktX10_here_1
theorem dksX10_here_0 : cX10_here.data.toList.drop 0 = dktX10_here_0 := by decide +kernel
theorem dksX10_here_1 : cX10_here.data.toList.drop 22 = dktX10_here_1 := dk_seg dksX10_here_0 22 rfl rfl
theorem dX10_here_0 : decode cX10_here 0 = .ok (.aload_n 0, 1) := dk_42 (dk_at dksX10_here_0 0 rfl rfl)
theorem dX10_here_1 : decode cX10_here 1 = .ok (.getfield 149, 3) := dk_180 0 149 (dk_at dksX10_here_0 1 rfl rfl)
theorem dX10_here_4 : decode cX10_here 4 = .ok (.ifCond .ne 33, 3) := dk_154 0 33 (dk_at dksX10_here_0 4 rfl rfl)
theorem dX10_here_7 : decode cX10_here 7 = .ok (.aload_n 0, 1) := dk_42 (dk_at dksX10_here_0 7 rfl rfl)
theorem dX10_here_8 : decode cX10_here 8 = .ok (.getfield 153, 3) := dk_180 0 153 (dk_at dksX10_here_0 8 rfl rfl)
theorem dX10_here_11 : decode cX10_here 11 = .ok (.aload_n 0, 1) := dk_42 (dk_at dksX10_here_0 11 rfl rfl)
theorem dX10_here_12 : decode cX10_here 12 = .ok (.getfield 9, 3) := dk_180 0 9 (dk_at dksX10_here_0 12 rfl rfl)
theorem dX10_here_15 : decode cX10_here 15 = .ok (.bipush 6, 2) := dk_16 6 (dk_at dksX10_here_0 15 rfl rfl)
theorem dX10_here_17 : decode cX10_here 17 = .ok (.iaload, 1) := dk_46 (dk_at dksX10_here_0 17 rfl rfl)
theorem dX10_here_18 : decode cX10_here 18 = .ok (.if_icmp .ge 19, 3) := dk_162 0 19 (dk_at dksX10_here_0 18 rfl rfl)
theorem dX10_here_21 : decode cX10_here 21 = .ok (.aload_n 0, 1) := dk_42 (dk_at dksX10_here_0 21 rfl rfl)
theorem dX10_here_22 : decode cX10_here 22 = .ok (.getfield 9, 3) := dk_180 0 9 (dk_at dksX10_here_1 0 rfl rfl)
theorem dX10_here_25 : decode cX10_here 25 = .ok (.sipush 324, 3) := dk_17 1 68 (dk_at dksX10_here_1 3 rfl rfl)
theorem dX10_here_28 : decode cX10_here 28 = .ok (.aload_n 0, 1) := dk_42 (dk_at dksX10_here_1 6 rfl rfl)
theorem dX10_here_29 : decode cX10_here 29 = .ok (.getfield 153, 3) := dk_180 0 153 (dk_at dksX10_here_1 7 rfl rfl)
theorem dX10_here_32 : decode cX10_here 32 = .ok (.iadd, 1) := dk_96 (dk_at dksX10_here_1 10 rfl rfl)
theorem dX10_here_33 : decode cX10_here 33 = .ok (.iaload, 1) := dk_46 (dk_at dksX10_here_1 11 rfl rfl)
theorem dX10_here_34 : decode cX10_here 34 = .ok (.goto 4, 3) := dk_167 0 4 (dk_at dksX10_here_1 12 rfl rfl)
theorem dX10_here_37 : decode cX10_here 37 = .ok (.iconst (-1), 1) := dk_2 (dk_at dksX10_here_1 15 rfl rfl)
theorem dX10_here_38 : decode cX10_here 38 = .ok (.ireturn, 1) := dk_172 (dk_at dksX10_here_1 16 rfl rfl)
abbrev cX10_codes : ByteArray := prog_37_method_33_code
def yX10_codes : MethodName := ⟨RX10, "codes", "(I)V"⟩
def dkwX10_codes_1 : List UInt8 := [181, 0, 161, 177]
abbrev dktX10_codes_1 : List UInt8 := dkwX10_codes_1 ++ []
def dkwX10_codes_0 : List UInt8 := [42, 180, 0, 149, 154, 0, 23, 42, 180, 0, 36, 42, 180, 0, 161, 27, 79, 42, 89, 180, 0, 161, 4, 96]
abbrev dktX10_codes_0 : List UInt8 := dkwX10_codes_0 ++ dktX10_codes_1
theorem dksX10_codes_0 : cX10_codes.data.toList.drop 0 = dktX10_codes_0 := by decide +kernel
theorem dksX10_codes_1 : cX10_codes.data.toList.drop 24 = dktX10_codes_1 := dk_seg dksX10_codes_0 24 rfl rfl
theorem dX10_codes_0 : decode cX10_codes 0 = .ok (.aload_n 0, 1) := dk_42 (dk_at dksX10_codes_0 0 rfl rfl)
theorem dX10_codes_1 : decode cX10_codes 1 = .ok (.getfield 149, 3) := dk_180 0 149 (dk_at dksX10_codes_0 1 rfl rfl)
theorem dX10_codes_4 : decode cX10_codes 4 = .ok (.ifCond .ne 23, 3) := dk_154 0 23 (dk_at dksX10_codes_0 4 rfl rfl)
theorem dX10_codes_7 : decode cX10_codes 7 = .ok (.aload_n 0, 1) := dk_42 (dk_at dksX10_codes_0 7 rfl rfl)
theorem dX10_codes_8 : decode cX10_codes 8 = .ok (.getfield 36, 3) := dk_180 0 36 (dk_at dksX10_codes_0 8 rfl rfl)
theorem dX10_codes_11 : decode cX10_codes 11 = .ok (.aload_n 0, 1) := dk_42 (dk_at dksX10_codes_0 11 rfl rfl)
theorem dX10_codes_12 : decode cX10_codes 12 = .ok (.getfield 161, 3) := dk_180 0 161 (dk_at dksX10_codes_0 12 rfl rfl)
theorem dX10_codes_15 : decode cX10_codes 15 = .ok (.iload_n 1, 1) := dk_27 (dk_at dksX10_codes_0 15 rfl rfl)
theorem dX10_codes_16 : decode cX10_codes 16 = .ok (.iastore, 1) := dk_79 (dk_at dksX10_codes_0 16 rfl rfl)
theorem dX10_codes_17 : decode cX10_codes 17 = .ok (.aload_n 0, 1) := dk_42 (dk_at dksX10_codes_0 17 rfl rfl)
theorem dX10_codes_18 : decode cX10_codes 18 = .ok (.dup, 1) := dk_89 (dk_at dksX10_codes_0 18 rfl rfl)
theorem dX10_codes_19 : decode cX10_codes 19 = .ok (.getfield 161, 3) := dk_180 0 161 (dk_at dksX10_codes_0 19 rfl rfl)
theorem dX10_codes_22 : decode cX10_codes 22 = .ok (.iconst 1, 1) := dk_4 (dk_at dksX10_codes_0 22 rfl rfl)
theorem dX10_codes_23 : decode cX10_codes 23 = .ok (.iadd, 1) := dk_96 (dk_at dksX10_codes_0 23 rfl rfl)
theorem dX10_codes_24 : decode cX10_codes 24 = .ok (.putfield 161, 3) := dk_181 0 161 (dk_at dksX10_codes_1 0 rfl rfl)
theorem dX10_codes_27 : decode cX10_codes 27 = .ok (.return_, 1) := dk_177 (dk_at dksX10_codes_1 3 rfl rfl)
abbrev cX10_takes : ByteArray := prog_37_method_32_code
def yX10_takes : MethodName := ⟨RX10, "takes", "(I)Z"⟩
def dkwX10_takes_1 : List UInt8 := [167, 0, 4, 3, 96, 181, 0, 153, 28, 172]
abbrev dktX10_takes_1 : List UInt8 := dkwX10_takes_1 ++ []
def dkwX10_takes_0 : List UInt8 := [42, 182, 0, 157, 27, 160, 0, 7, 4, 167, 0, 4, 3, 61, 42, 89, 180, 0, 153, 28, 153, 0, 7, 4]
abbrev dktX10_takes_0 : List UInt8 := dkwX10_takes_0 ++ dktX10_takes_1
theorem dksX10_takes_0 : cX10_takes.data.toList.drop 0 = dktX10_takes_0 := by decide +kernel
theorem dksX10_takes_1 : cX10_takes.data.toList.drop 24 = dktX10_takes_1 := dk_seg dksX10_takes_0 24 rfl rfl
theorem dX10_takes_0 : decode cX10_takes 0 = .ok (.aload_n 0, 1) := dk_42 (dk_at dksX10_takes_0 0 rfl rfl)
theorem dX10_takes_1 : decode cX10_takes 1 = .ok (.invokevirtual 157, 3) := dk_182 0 157 (dk_at dksX10_takes_0 1 rfl rfl)
theorem dX10_takes_4 : decode cX10_takes 4 = .ok (.iload_n 1, 1) := dk_27 (dk_at dksX10_takes_0 4 rfl rfl)
theorem dX10_takes_5 : decode cX10_takes 5 = .ok (.if_icmp .ne 7, 3) := dk_160 0 7 (dk_at dksX10_takes_0 5 rfl rfl)
theorem dX10_takes_8 : decode cX10_takes 8 = .ok (.iconst 1, 1) := dk_4 (dk_at dksX10_takes_0 8 rfl rfl)
theorem dX10_takes_9 : decode cX10_takes 9 = .ok (.goto 4, 3) := dk_167 0 4 (dk_at dksX10_takes_0 9 rfl rfl)
theorem dX10_takes_12 : decode cX10_takes 12 = .ok (.iconst 0, 1) := dk_3 (dk_at dksX10_takes_0 12 rfl rfl)
theorem dX10_takes_13 : decode cX10_takes 13 = .ok (.istore_n 2, 1) := dk_61 (dk_at dksX10_takes_0 13 rfl rfl)
theorem dX10_takes_14 : decode cX10_takes 14 = .ok (.aload_n 0, 1) := dk_42 (dk_at dksX10_takes_0 14 rfl rfl)
theorem dX10_takes_15 : decode cX10_takes 15 = .ok (.dup, 1) := dk_89 (dk_at dksX10_takes_0 15 rfl rfl)
theorem dX10_takes_16 : decode cX10_takes 16 = .ok (.getfield 153, 3) := dk_180 0 153 (dk_at dksX10_takes_0 16 rfl rfl)
theorem dX10_takes_19 : decode cX10_takes 19 = .ok (.iload_n 2, 1) := dk_28 (dk_at dksX10_takes_0 19 rfl rfl)
theorem dX10_takes_20 : decode cX10_takes 20 = .ok (.ifCond .eq 7, 3) := dk_153 0 7 (dk_at dksX10_takes_0 20 rfl rfl)
theorem dX10_takes_23 : decode cX10_takes 23 = .ok (.iconst 1, 1) := dk_4 (dk_at dksX10_takes_0 23 rfl rfl)
theorem dX10_takes_24 : decode cX10_takes 24 = .ok (.goto 4, 3) := dk_167 0 4 (dk_at dksX10_takes_1 0 rfl rfl)
theorem dX10_takes_27 : decode cX10_takes 27 = .ok (.iconst 0, 1) := dk_3 (dk_at dksX10_takes_1 3 rfl rfl)
theorem dX10_takes_28 : decode cX10_takes 28 = .ok (.iadd, 1) := dk_96 (dk_at dksX10_takes_1 4 rfl rfl)
theorem dX10_takes_29 : decode cX10_takes 29 = .ok (.putfield 153, 3) := dk_181 0 153 (dk_at dksX10_takes_1 5 rfl rfl)
theorem dX10_takes_32 : decode cX10_takes 32 = .ok (.iload_n 2, 1) := dk_28 (dk_at dksX10_takes_1 8 rfl rfl)
theorem dX10_takes_33 : decode cX10_takes 33 = .ok (.ireturn, 1) := dk_172 (dk_at dksX10_takes_1 9 rfl rfl)
abbrev cX10_nameOf : ByteArray := prog_37_method_39_code
def yX10_nameOf : MethodName := ⟨RX10, "nameOf", "(I)I"⟩
def dkwX10_nameOf_2 : List UInt8 := [167, 255, 214, 28, 172]
abbrev dktX10_nameOf_2 : List UInt8 := dkwX10_nameOf_2 ++ []
def dkwX10_nameOf_1 : List UInt8 := [42, 180, 0, 185, 50, 29, 182, 0, 191, 27, 160, 0, 7, 29, 167, 0, 4, 28, 61, 132, 3, 1]
abbrev dktX10_nameOf_1 : List UInt8 := dkwX10_nameOf_1 ++ dktX10_nameOf_2
def dkwX10_nameOf_0 : List UInt8 := [2, 61, 3, 62, 29, 42, 180, 0, 32, 42, 180, 0, 185, 50, 182, 0, 188, 162, 0, 32, 42, 180, 0, 32]
abbrev dktX10_nameOf_0 : List UInt8 := dkwX10_nameOf_0 ++ dktX10_nameOf_1
theorem dksX10_nameOf_0 : cX10_nameOf.data.toList.drop 0 = dktX10_nameOf_0 := by decide +kernel
theorem dksX10_nameOf_1 : cX10_nameOf.data.toList.drop 24 = dktX10_nameOf_1 := dk_seg dksX10_nameOf_0 24 rfl rfl
theorem dksX10_nameOf_2 : cX10_nameOf.data.toList.drop 46 = dktX10_nameOf_2 := dk_seg dksX10_nameOf_1 22 rfl rfl
theorem dX10_nameOf_0 : decode cX10_nameOf 0 = .ok (.iconst (-1), 1) := dk_2 (dk_at dksX10_nameOf_0 0 rfl rfl)
theorem dX10_nameOf_1 : decode cX10_nameOf 1 = .ok (.istore_n 2, 1) := dk_61 (dk_at dksX10_nameOf_0 1 rfl rfl)
theorem dX10_nameOf_2 : decode cX10_nameOf 2 = .ok (.iconst 0, 1) := dk_3 (dk_at dksX10_nameOf_0 2 rfl rfl)
theorem dX10_nameOf_3 : decode cX10_nameOf 3 = .ok (.istore_n 3, 1) := dk_62 (dk_at dksX10_nameOf_0 3 rfl rfl)
theorem dX10_nameOf_4 : decode cX10_nameOf 4 = .ok (.iload_n 3, 1) := dk_29 (dk_at dksX10_nameOf_0 4 rfl rfl)
theorem dX10_nameOf_5 : decode cX10_nameOf 5 = .ok (.aload_n 0, 1) := dk_42 (dk_at dksX10_nameOf_0 5 rfl rfl)
theorem dX10_nameOf_6 : decode cX10_nameOf 6 = .ok (.getfield 32, 3) := dk_180 0 32 (dk_at dksX10_nameOf_0 6 rfl rfl)
theorem dX10_nameOf_9 : decode cX10_nameOf 9 = .ok (.aload_n 0, 1) := dk_42 (dk_at dksX10_nameOf_0 9 rfl rfl)
theorem dX10_nameOf_10 : decode cX10_nameOf 10 = .ok (.getfield 185, 3) := dk_180 0 185 (dk_at dksX10_nameOf_0 10 rfl rfl)
theorem dX10_nameOf_13 : decode cX10_nameOf 13 = .ok (.aaload, 1) := dk_50 (dk_at dksX10_nameOf_0 13 rfl rfl)
theorem dX10_nameOf_14 : decode cX10_nameOf 14 = .ok (.invokevirtual 188, 3) := dk_182 0 188 (dk_at dksX10_nameOf_0 14 rfl rfl)
theorem dX10_nameOf_17 : decode cX10_nameOf 17 = .ok (.if_icmp .ge 32, 3) := dk_162 0 32 (dk_at dksX10_nameOf_0 17 rfl rfl)
theorem dX10_nameOf_20 : decode cX10_nameOf 20 = .ok (.aload_n 0, 1) := dk_42 (dk_at dksX10_nameOf_0 20 rfl rfl)
theorem dX10_nameOf_21 : decode cX10_nameOf 21 = .ok (.getfield 32, 3) := dk_180 0 32 (dk_at dksX10_nameOf_0 21 rfl rfl)
theorem dX10_nameOf_24 : decode cX10_nameOf 24 = .ok (.aload_n 0, 1) := dk_42 (dk_at dksX10_nameOf_1 0 rfl rfl)
theorem dX10_nameOf_25 : decode cX10_nameOf 25 = .ok (.getfield 185, 3) := dk_180 0 185 (dk_at dksX10_nameOf_1 1 rfl rfl)
theorem dX10_nameOf_28 : decode cX10_nameOf 28 = .ok (.aaload, 1) := dk_50 (dk_at dksX10_nameOf_1 4 rfl rfl)
theorem dX10_nameOf_29 : decode cX10_nameOf 29 = .ok (.iload_n 3, 1) := dk_29 (dk_at dksX10_nameOf_1 5 rfl rfl)
theorem dX10_nameOf_30 : decode cX10_nameOf 30 = .ok (.invokevirtual 191, 3) := dk_182 0 191 (dk_at dksX10_nameOf_1 6 rfl rfl)
theorem dX10_nameOf_33 : decode cX10_nameOf 33 = .ok (.iload_n 1, 1) := dk_27 (dk_at dksX10_nameOf_1 9 rfl rfl)
theorem dX10_nameOf_34 : decode cX10_nameOf 34 = .ok (.if_icmp .ne 7, 3) := dk_160 0 7 (dk_at dksX10_nameOf_1 10 rfl rfl)
theorem dX10_nameOf_37 : decode cX10_nameOf 37 = .ok (.iload_n 3, 1) := dk_29 (dk_at dksX10_nameOf_1 13 rfl rfl)
theorem dX10_nameOf_38 : decode cX10_nameOf 38 = .ok (.goto 4, 3) := dk_167 0 4 (dk_at dksX10_nameOf_1 14 rfl rfl)
theorem dX10_nameOf_41 : decode cX10_nameOf 41 = .ok (.iload_n 2, 1) := dk_28 (dk_at dksX10_nameOf_1 17 rfl rfl)
theorem dX10_nameOf_42 : decode cX10_nameOf 42 = .ok (.istore_n 2, 1) := dk_61 (dk_at dksX10_nameOf_1 18 rfl rfl)
theorem dX10_nameOf_43 : decode cX10_nameOf 43 = .ok (.iinc 3 1, 3) := dk_132 3 1 (dk_at dksX10_nameOf_1 19 rfl rfl)
theorem dX10_nameOf_46 : decode cX10_nameOf 46 = .ok (.goto (-42), 3) := dk_167 255 214 (dk_at dksX10_nameOf_2 0 rfl rfl)
theorem dX10_nameOf_49 : decode cX10_nameOf 49 = .ok (.iload_n 2, 1) := dk_28 (dk_at dksX10_nameOf_2 3 rfl rfl)
theorem dX10_nameOf_50 : decode cX10_nameOf 50 = .ok (.ireturn, 1) := dk_172 (dk_at dksX10_nameOf_2 4 rfl rfl)
abbrev cX10_law : ByteArray := prog_37_method_46_code
def yX10_law : MethodName := ⟨RX10, "law", "(IIII)I"⟩
def dkwX10_law_1 : List UInt8 := [182, 0, 88, 172]
abbrev dktX10_law_1 : List UInt8 := dkwX10_law_1 ++ []
def dkwX10_law_0 : List UInt8 := [27, 3, 6, 184, 0, 78, 153, 0, 15, 42, 27, 28, 29, 21, 4, 182, 0, 112, 167, 0, 9, 42, 18, 87]
abbrev dktX10_law_0 : List UInt8 := dkwX10_law_0 ++ dktX10_law_1
theorem dksX10_law_0 : cX10_law.data.toList.drop 0 = dktX10_law_0 := by decide +kernel
theorem dksX10_law_1 : cX10_law.data.toList.drop 24 = dktX10_law_1 := dk_seg dksX10_law_0 24 rfl rfl
theorem dX10_law_0 : decode cX10_law 0 = .ok (.iload_n 1, 1) := dk_27 (dk_at dksX10_law_0 0 rfl rfl)
theorem dX10_law_1 : decode cX10_law 1 = .ok (.iconst 0, 1) := dk_3 (dk_at dksX10_law_0 1 rfl rfl)
theorem dX10_law_2 : decode cX10_law 2 = .ok (.iconst 3, 1) := dk_6 (dk_at dksX10_law_0 2 rfl rfl)
theorem dX10_law_3 : decode cX10_law 3 = .ok (.invokestatic 78, 3) := dk_184 0 78 (dk_at dksX10_law_0 3 rfl rfl)
theorem dX10_law_6 : decode cX10_law 6 = .ok (.ifCond .eq 15, 3) := dk_153 0 15 (dk_at dksX10_law_0 6 rfl rfl)
theorem dX10_law_9 : decode cX10_law 9 = .ok (.aload_n 0, 1) := dk_42 (dk_at dksX10_law_0 9 rfl rfl)
theorem dX10_law_10 : decode cX10_law 10 = .ok (.iload_n 1, 1) := dk_27 (dk_at dksX10_law_0 10 rfl rfl)
theorem dX10_law_11 : decode cX10_law 11 = .ok (.iload_n 2, 1) := dk_28 (dk_at dksX10_law_0 11 rfl rfl)
theorem dX10_law_12 : decode cX10_law 12 = .ok (.iload_n 3, 1) := dk_29 (dk_at dksX10_law_0 12 rfl rfl)
theorem dX10_law_13 : decode cX10_law 13 = .ok (.iload 4, 2) := dk_21 4 (dk_at dksX10_law_0 13 rfl rfl)
theorem dX10_law_15 : decode cX10_law 15 = .ok (.invokevirtual 112, 3) := dk_182 0 112 (dk_at dksX10_law_0 15 rfl rfl)
theorem dX10_law_18 : decode cX10_law 18 = .ok (.goto 9, 3) := dk_167 0 9 (dk_at dksX10_law_0 18 rfl rfl)
theorem dX10_law_21 : decode cX10_law 21 = .ok (.aload_n 0, 1) := dk_42 (dk_at dksX10_law_0 21 rfl rfl)
theorem dX10_law_22 : decode cX10_law 22 = .ok (.ldc 87, 2) := dk_18 87 (dk_at dksX10_law_0 22 rfl rfl)
theorem dX10_law_24 : decode cX10_law 24 = .ok (.invokevirtual 88, 3) := dk_182 0 88 (dk_at dksX10_law_1 0 rfl rfl)
theorem dX10_law_27 : decode cX10_law 27 = .ok (.ireturn, 1) := dk_172 (dk_at dksX10_law_1 3 rfl rfl)
abbrev cX10_way : ByteArray := prog_37_method_47_code
def yX10_way : MethodName := ⟨RX10, "way", "(IIII)I"⟩
def dkwX10_way_5 : List UInt8 := [21, 6, 6, 96, 21, 4, 79, 42, 180, 0, 9, 6, 92, 46, 4, 96, 79, 21, 5, 172]
abbrev dktX10_way_5 : List UInt8 := dkwX10_way_5 ++ []
def dkwX10_way_4 : List UInt8 := [42, 180, 0, 9, 21, 6, 4, 96, 28, 79, 42, 180, 0, 9, 21, 6, 5, 96, 29, 79, 42, 180, 0, 9]
abbrev dktX10_way_4 : List UInt8 := dkwX10_way_4 ++ dktX10_way_5
def dkwX10_way_3 : List UInt8 := [182, 0, 88, 172, 17, 0, 152, 7, 21, 5, 104, 96, 54, 6, 42, 180, 0, 9, 21, 6, 3, 96, 27, 79]
abbrev dktX10_way_3 : List UInt8 := dkwX10_way_3 ++ dktX10_way_4
def dkwX10_way_2 : List UInt8 := [182, 0, 88, 172, 42, 180, 0, 9, 6, 46, 54, 5, 21, 5, 16, 12, 160, 0, 10, 42, 18, 96]
abbrev dktX10_way_2 : List UInt8 := dkwX10_way_2 ++ dktX10_way_3
def dkwX10_way_1 : List UInt8 := [16, 9, 184, 0, 78, 153, 0, 14, 21, 4, 3, 16, 100, 184, 0, 78, 154, 0, 10, 42, 18, 87]
abbrev dktX10_way_1 : List UInt8 := dkwX10_way_1 ++ dktX10_way_2
def dkwX10_way_0 : List UInt8 := [27, 3, 16, 7, 184, 0, 78, 153, 0, 35, 28, 4, 17, 2, 88, 184, 0, 78, 153, 0, 24, 29, 4]
abbrev dktX10_way_0 : List UInt8 := dkwX10_way_0 ++ dktX10_way_1
theorem dksX10_way_0 : cX10_way.data.toList.drop 0 = dktX10_way_0 := by decide +kernel
theorem dksX10_way_1 : cX10_way.data.toList.drop 23 = dktX10_way_1 := dk_seg dksX10_way_0 23 rfl rfl
theorem dksX10_way_2 : cX10_way.data.toList.drop 45 = dktX10_way_2 := dk_seg dksX10_way_1 22 rfl rfl
theorem dksX10_way_3 : cX10_way.data.toList.drop 67 = dktX10_way_3 := dk_seg dksX10_way_2 22 rfl rfl
theorem dksX10_way_4 : cX10_way.data.toList.drop 91 = dktX10_way_4 := dk_seg dksX10_way_3 24 rfl rfl
theorem dksX10_way_5 : cX10_way.data.toList.drop 115 = dktX10_way_5 := dk_seg dksX10_way_4 24 rfl rfl
theorem dX10_way_0 : decode cX10_way 0 = .ok (.iload_n 1, 1) := dk_27 (dk_at dksX10_way_0 0 rfl rfl)
theorem dX10_way_1 : decode cX10_way 1 = .ok (.iconst 0, 1) := dk_3 (dk_at dksX10_way_0 1 rfl rfl)
theorem dX10_way_2 : decode cX10_way 2 = .ok (.bipush 7, 2) := dk_16 7 (dk_at dksX10_way_0 2 rfl rfl)
theorem dX10_way_4 : decode cX10_way 4 = .ok (.invokestatic 78, 3) := dk_184 0 78 (dk_at dksX10_way_0 4 rfl rfl)
theorem dX10_way_7 : decode cX10_way 7 = .ok (.ifCond .eq 35, 3) := dk_153 0 35 (dk_at dksX10_way_0 7 rfl rfl)
theorem dX10_way_10 : decode cX10_way 10 = .ok (.iload_n 2, 1) := dk_28 (dk_at dksX10_way_0 10 rfl rfl)
theorem dX10_way_11 : decode cX10_way 11 = .ok (.iconst 1, 1) := dk_4 (dk_at dksX10_way_0 11 rfl rfl)
theorem dX10_way_12 : decode cX10_way 12 = .ok (.sipush 600, 3) := dk_17 2 88 (dk_at dksX10_way_0 12 rfl rfl)
theorem dX10_way_15 : decode cX10_way 15 = .ok (.invokestatic 78, 3) := dk_184 0 78 (dk_at dksX10_way_0 15 rfl rfl)
theorem dX10_way_18 : decode cX10_way 18 = .ok (.ifCond .eq 24, 3) := dk_153 0 24 (dk_at dksX10_way_0 18 rfl rfl)
theorem dX10_way_21 : decode cX10_way 21 = .ok (.iload_n 3, 1) := dk_29 (dk_at dksX10_way_0 21 rfl rfl)
theorem dX10_way_22 : decode cX10_way 22 = .ok (.iconst 1, 1) := dk_4 (dk_at dksX10_way_0 22 rfl rfl)
theorem dX10_way_23 : decode cX10_way 23 = .ok (.bipush 9, 2) := dk_16 9 (dk_at dksX10_way_1 0 rfl rfl)
theorem dX10_way_25 : decode cX10_way 25 = .ok (.invokestatic 78, 3) := dk_184 0 78 (dk_at dksX10_way_1 2 rfl rfl)
theorem dX10_way_28 : decode cX10_way 28 = .ok (.ifCond .eq 14, 3) := dk_153 0 14 (dk_at dksX10_way_1 5 rfl rfl)
theorem dX10_way_31 : decode cX10_way 31 = .ok (.iload 4, 2) := dk_21 4 (dk_at dksX10_way_1 8 rfl rfl)
theorem dX10_way_33 : decode cX10_way 33 = .ok (.iconst 0, 1) := dk_3 (dk_at dksX10_way_1 10 rfl rfl)
theorem dX10_way_34 : decode cX10_way 34 = .ok (.bipush 100, 2) := dk_16 100 (dk_at dksX10_way_1 11 rfl rfl)
theorem dX10_way_36 : decode cX10_way 36 = .ok (.invokestatic 78, 3) := dk_184 0 78 (dk_at dksX10_way_1 13 rfl rfl)
theorem dX10_way_39 : decode cX10_way 39 = .ok (.ifCond .ne 10, 3) := dk_154 0 10 (dk_at dksX10_way_1 16 rfl rfl)
theorem dX10_way_42 : decode cX10_way 42 = .ok (.aload_n 0, 1) := dk_42 (dk_at dksX10_way_1 19 rfl rfl)
theorem dX10_way_43 : decode cX10_way 43 = .ok (.ldc 87, 2) := dk_18 87 (dk_at dksX10_way_1 20 rfl rfl)
theorem dX10_way_45 : decode cX10_way 45 = .ok (.invokevirtual 88, 3) := dk_182 0 88 (dk_at dksX10_way_2 0 rfl rfl)
theorem dX10_way_48 : decode cX10_way 48 = .ok (.ireturn, 1) := dk_172 (dk_at dksX10_way_2 3 rfl rfl)
theorem dX10_way_49 : decode cX10_way 49 = .ok (.aload_n 0, 1) := dk_42 (dk_at dksX10_way_2 4 rfl rfl)
theorem dX10_way_50 : decode cX10_way 50 = .ok (.getfield 9, 3) := dk_180 0 9 (dk_at dksX10_way_2 5 rfl rfl)
theorem dX10_way_53 : decode cX10_way 53 = .ok (.iconst 3, 1) := dk_6 (dk_at dksX10_way_2 8 rfl rfl)
theorem dX10_way_54 : decode cX10_way 54 = .ok (.iaload, 1) := dk_46 (dk_at dksX10_way_2 9 rfl rfl)
theorem dX10_way_55 : decode cX10_way 55 = .ok (.istore 5, 2) := dk_54 5 (dk_at dksX10_way_2 10 rfl rfl)
theorem dX10_way_57 : decode cX10_way 57 = .ok (.iload 5, 2) := dk_21 5 (dk_at dksX10_way_2 12 rfl rfl)
theorem dX10_way_59 : decode cX10_way 59 = .ok (.bipush 12, 2) := dk_16 12 (dk_at dksX10_way_2 14 rfl rfl)
theorem dX10_way_61 : decode cX10_way 61 = .ok (.if_icmp .ne 10, 3) := dk_160 0 10 (dk_at dksX10_way_2 16 rfl rfl)
theorem dX10_way_64 : decode cX10_way 64 = .ok (.aload_n 0, 1) := dk_42 (dk_at dksX10_way_2 19 rfl rfl)
theorem dX10_way_65 : decode cX10_way 65 = .ok (.ldc 96, 2) := dk_18 96 (dk_at dksX10_way_2 20 rfl rfl)
theorem dX10_way_67 : decode cX10_way 67 = .ok (.invokevirtual 88, 3) := dk_182 0 88 (dk_at dksX10_way_3 0 rfl rfl)
theorem dX10_way_70 : decode cX10_way 70 = .ok (.ireturn, 1) := dk_172 (dk_at dksX10_way_3 3 rfl rfl)
theorem dX10_way_71 : decode cX10_way 71 = .ok (.sipush 152, 3) := dk_17 0 152 (dk_at dksX10_way_3 4 rfl rfl)
theorem dX10_way_74 : decode cX10_way 74 = .ok (.iconst 4, 1) := dk_7 (dk_at dksX10_way_3 7 rfl rfl)
theorem dX10_way_75 : decode cX10_way 75 = .ok (.iload 5, 2) := dk_21 5 (dk_at dksX10_way_3 8 rfl rfl)
theorem dX10_way_77 : decode cX10_way 77 = .ok (.imul, 1) := dk_104 (dk_at dksX10_way_3 10 rfl rfl)
theorem dX10_way_78 : decode cX10_way 78 = .ok (.iadd, 1) := dk_96 (dk_at dksX10_way_3 11 rfl rfl)
theorem dX10_way_79 : decode cX10_way 79 = .ok (.istore 6, 2) := dk_54 6 (dk_at dksX10_way_3 12 rfl rfl)
theorem dX10_way_81 : decode cX10_way 81 = .ok (.aload_n 0, 1) := dk_42 (dk_at dksX10_way_3 14 rfl rfl)
theorem dX10_way_82 : decode cX10_way 82 = .ok (.getfield 9, 3) := dk_180 0 9 (dk_at dksX10_way_3 15 rfl rfl)
theorem dX10_way_85 : decode cX10_way 85 = .ok (.iload 6, 2) := dk_21 6 (dk_at dksX10_way_3 18 rfl rfl)
theorem dX10_way_87 : decode cX10_way 87 = .ok (.iconst 0, 1) := dk_3 (dk_at dksX10_way_3 20 rfl rfl)
theorem dX10_way_88 : decode cX10_way 88 = .ok (.iadd, 1) := dk_96 (dk_at dksX10_way_3 21 rfl rfl)
theorem dX10_way_89 : decode cX10_way 89 = .ok (.iload_n 1, 1) := dk_27 (dk_at dksX10_way_3 22 rfl rfl)
theorem dX10_way_90 : decode cX10_way 90 = .ok (.iastore, 1) := dk_79 (dk_at dksX10_way_3 23 rfl rfl)
theorem dX10_way_91 : decode cX10_way 91 = .ok (.aload_n 0, 1) := dk_42 (dk_at dksX10_way_4 0 rfl rfl)
theorem dX10_way_92 : decode cX10_way 92 = .ok (.getfield 9, 3) := dk_180 0 9 (dk_at dksX10_way_4 1 rfl rfl)
theorem dX10_way_95 : decode cX10_way 95 = .ok (.iload 6, 2) := dk_21 6 (dk_at dksX10_way_4 4 rfl rfl)
theorem dX10_way_97 : decode cX10_way 97 = .ok (.iconst 1, 1) := dk_4 (dk_at dksX10_way_4 6 rfl rfl)
theorem dX10_way_98 : decode cX10_way 98 = .ok (.iadd, 1) := dk_96 (dk_at dksX10_way_4 7 rfl rfl)
theorem dX10_way_99 : decode cX10_way 99 = .ok (.iload_n 2, 1) := dk_28 (dk_at dksX10_way_4 8 rfl rfl)
theorem dX10_way_100 : decode cX10_way 100 = .ok (.iastore, 1) := dk_79 (dk_at dksX10_way_4 9 rfl rfl)
theorem dX10_way_101 : decode cX10_way 101 = .ok (.aload_n 0, 1) := dk_42 (dk_at dksX10_way_4 10 rfl rfl)
theorem dX10_way_102 : decode cX10_way 102 = .ok (.getfield 9, 3) := dk_180 0 9 (dk_at dksX10_way_4 11 rfl rfl)
theorem dX10_way_105 : decode cX10_way 105 = .ok (.iload 6, 2) := dk_21 6 (dk_at dksX10_way_4 14 rfl rfl)
theorem dX10_way_107 : decode cX10_way 107 = .ok (.iconst 2, 1) := dk_5 (dk_at dksX10_way_4 16 rfl rfl)
theorem dX10_way_108 : decode cX10_way 108 = .ok (.iadd, 1) := dk_96 (dk_at dksX10_way_4 17 rfl rfl)
theorem dX10_way_109 : decode cX10_way 109 = .ok (.iload_n 3, 1) := dk_29 (dk_at dksX10_way_4 18 rfl rfl)
theorem dX10_way_110 : decode cX10_way 110 = .ok (.iastore, 1) := dk_79 (dk_at dksX10_way_4 19 rfl rfl)
theorem dX10_way_111 : decode cX10_way 111 = .ok (.aload_n 0, 1) := dk_42 (dk_at dksX10_way_4 20 rfl rfl)
theorem dX10_way_112 : decode cX10_way 112 = .ok (.getfield 9, 3) := dk_180 0 9 (dk_at dksX10_way_4 21 rfl rfl)
theorem dX10_way_115 : decode cX10_way 115 = .ok (.iload 6, 2) := dk_21 6 (dk_at dksX10_way_5 0 rfl rfl)
theorem dX10_way_117 : decode cX10_way 117 = .ok (.iconst 3, 1) := dk_6 (dk_at dksX10_way_5 2 rfl rfl)
theorem dX10_way_118 : decode cX10_way 118 = .ok (.iadd, 1) := dk_96 (dk_at dksX10_way_5 3 rfl rfl)
theorem dX10_way_119 : decode cX10_way 119 = .ok (.iload 4, 2) := dk_21 4 (dk_at dksX10_way_5 4 rfl rfl)
theorem dX10_way_121 : decode cX10_way 121 = .ok (.iastore, 1) := dk_79 (dk_at dksX10_way_5 6 rfl rfl)
theorem dX10_way_122 : decode cX10_way 122 = .ok (.aload_n 0, 1) := dk_42 (dk_at dksX10_way_5 7 rfl rfl)
theorem dX10_way_123 : decode cX10_way 123 = .ok (.getfield 9, 3) := dk_180 0 9 (dk_at dksX10_way_5 8 rfl rfl)
theorem dX10_way_126 : decode cX10_way 126 = .ok (.iconst 3, 1) := dk_6 (dk_at dksX10_way_5 11 rfl rfl)
theorem dX10_way_127 : decode cX10_way 127 = .ok (.dup2, 1) := dk_92 (dk_at dksX10_way_5 12 rfl rfl)
theorem dX10_way_128 : decode cX10_way 128 = .ok (.iaload, 1) := dk_46 (dk_at dksX10_way_5 13 rfl rfl)
theorem dX10_way_129 : decode cX10_way 129 = .ok (.iconst 1, 1) := dk_4 (dk_at dksX10_way_5 14 rfl rfl)
theorem dX10_way_130 : decode cX10_way 130 = .ok (.iadd, 1) := dk_96 (dk_at dksX10_way_5 15 rfl rfl)
theorem dX10_way_131 : decode cX10_way 131 = .ok (.iastore, 1) := dk_79 (dk_at dksX10_way_5 16 rfl rfl)
theorem dX10_way_132 : decode cX10_way 132 = .ok (.iload 5, 2) := dk_21 5 (dk_at dksX10_way_5 17 rfl rfl)
theorem dX10_way_134 : decode cX10_way 134 = .ok (.ireturn, 1) := dk_172 (dk_at dksX10_way_5 19 rfl rfl)
abbrev cX10_as : ByteArray := prog_37_method_50_code
def yX10_as : MethodName := ⟨RX10, "as", "(II)I"⟩
def dkwX10_as_2 : List UInt8 := [62, 167, 255, 242, 29, 156, 0, 12, 42, 18, 223, 182, 0, 88, 167, 0, 9, 42, 27, 4, 182, 0, 217, 172]
abbrev dktX10_as_2 : List UInt8 := dkwX10_as_2 ++ []
def dkwX10_as_1 : List UInt8 := [182, 0, 88, 172, 42, 27, 3, 182, 0, 217, 62, 29, 155, 0, 16, 29, 28, 159, 0, 11, 29, 184, 0, 220]
abbrev dktX10_as_1 : List UInt8 := dkwX10_as_1 ++ dktX10_as_2
def dkwX10_as_0 : List UInt8 := [42, 27, 6, 182, 0, 101, 153, 0, 13, 28, 3, 16, 7, 184, 0, 78, 154, 0, 10, 42, 18, 87]
abbrev dktX10_as_0 : List UInt8 := dkwX10_as_0 ++ dktX10_as_1
theorem dksX10_as_0 : cX10_as.data.toList.drop 0 = dktX10_as_0 := by decide +kernel
theorem dksX10_as_1 : cX10_as.data.toList.drop 22 = dktX10_as_1 := dk_seg dksX10_as_0 22 rfl rfl
theorem dksX10_as_2 : cX10_as.data.toList.drop 46 = dktX10_as_2 := dk_seg dksX10_as_1 24 rfl rfl
theorem dX10_as_0 : decode cX10_as 0 = .ok (.aload_n 0, 1) := dk_42 (dk_at dksX10_as_0 0 rfl rfl)
theorem dX10_as_1 : decode cX10_as 1 = .ok (.iload_n 1, 1) := dk_27 (dk_at dksX10_as_0 1 rfl rfl)
theorem dX10_as_2 : decode cX10_as 2 = .ok (.iconst 3, 1) := dk_6 (dk_at dksX10_as_0 2 rfl rfl)
theorem dX10_as_3 : decode cX10_as 3 = .ok (.invokevirtual 101, 3) := dk_182 0 101 (dk_at dksX10_as_0 3 rfl rfl)
theorem dX10_as_6 : decode cX10_as 6 = .ok (.ifCond .eq 13, 3) := dk_153 0 13 (dk_at dksX10_as_0 6 rfl rfl)
theorem dX10_as_9 : decode cX10_as 9 = .ok (.iload_n 2, 1) := dk_28 (dk_at dksX10_as_0 9 rfl rfl)
theorem dX10_as_10 : decode cX10_as 10 = .ok (.iconst 0, 1) := dk_3 (dk_at dksX10_as_0 10 rfl rfl)
theorem dX10_as_11 : decode cX10_as 11 = .ok (.bipush 7, 2) := dk_16 7 (dk_at dksX10_as_0 11 rfl rfl)
theorem dX10_as_13 : decode cX10_as 13 = .ok (.invokestatic 78, 3) := dk_184 0 78 (dk_at dksX10_as_0 13 rfl rfl)
theorem dX10_as_16 : decode cX10_as 16 = .ok (.ifCond .ne 10, 3) := dk_154 0 10 (dk_at dksX10_as_0 16 rfl rfl)
theorem dX10_as_19 : decode cX10_as 19 = .ok (.aload_n 0, 1) := dk_42 (dk_at dksX10_as_0 19 rfl rfl)
theorem dX10_as_20 : decode cX10_as 20 = .ok (.ldc 87, 2) := dk_18 87 (dk_at dksX10_as_0 20 rfl rfl)
theorem dX10_as_22 : decode cX10_as 22 = .ok (.invokevirtual 88, 3) := dk_182 0 88 (dk_at dksX10_as_1 0 rfl rfl)
theorem dX10_as_25 : decode cX10_as 25 = .ok (.ireturn, 1) := dk_172 (dk_at dksX10_as_1 3 rfl rfl)
theorem dX10_as_26 : decode cX10_as 26 = .ok (.aload_n 0, 1) := dk_42 (dk_at dksX10_as_1 4 rfl rfl)
theorem dX10_as_27 : decode cX10_as 27 = .ok (.iload_n 1, 1) := dk_27 (dk_at dksX10_as_1 5 rfl rfl)
theorem dX10_as_28 : decode cX10_as 28 = .ok (.iconst 0, 1) := dk_3 (dk_at dksX10_as_1 6 rfl rfl)
theorem dX10_as_29 : decode cX10_as 29 = .ok (.invokevirtual 217, 3) := dk_182 0 217 (dk_at dksX10_as_1 7 rfl rfl)
theorem dX10_as_32 : decode cX10_as 32 = .ok (.istore_n 3, 1) := dk_62 (dk_at dksX10_as_1 10 rfl rfl)
theorem dX10_as_33 : decode cX10_as 33 = .ok (.iload_n 3, 1) := dk_29 (dk_at dksX10_as_1 11 rfl rfl)
theorem dX10_as_34 : decode cX10_as 34 = .ok (.ifCond .lt 16, 3) := dk_155 0 16 (dk_at dksX10_as_1 12 rfl rfl)
theorem dX10_as_37 : decode cX10_as 37 = .ok (.iload_n 3, 1) := dk_29 (dk_at dksX10_as_1 15 rfl rfl)
theorem dX10_as_38 : decode cX10_as 38 = .ok (.iload_n 2, 1) := dk_28 (dk_at dksX10_as_1 16 rfl rfl)
theorem dX10_as_39 : decode cX10_as 39 = .ok (.if_icmp .eq 11, 3) := dk_159 0 11 (dk_at dksX10_as_1 17 rfl rfl)
theorem dX10_as_42 : decode cX10_as 42 = .ok (.iload_n 3, 1) := dk_29 (dk_at dksX10_as_1 20 rfl rfl)
theorem dX10_as_43 : decode cX10_as 43 = .ok (.invokestatic 220, 3) := dk_184 0 220 (dk_at dksX10_as_1 21 rfl rfl)
theorem dX10_as_46 : decode cX10_as 46 = .ok (.istore_n 3, 1) := dk_62 (dk_at dksX10_as_2 0 rfl rfl)
theorem dX10_as_47 : decode cX10_as 47 = .ok (.goto (-14), 3) := dk_167 255 242 (dk_at dksX10_as_2 1 rfl rfl)
theorem dX10_as_50 : decode cX10_as 50 = .ok (.iload_n 3, 1) := dk_29 (dk_at dksX10_as_2 4 rfl rfl)
theorem dX10_as_51 : decode cX10_as 51 = .ok (.ifCond .ge 12, 3) := dk_156 0 12 (dk_at dksX10_as_2 5 rfl rfl)
theorem dX10_as_54 : decode cX10_as 54 = .ok (.aload_n 0, 1) := dk_42 (dk_at dksX10_as_2 8 rfl rfl)
theorem dX10_as_55 : decode cX10_as 55 = .ok (.ldc 223, 2) := dk_18 223 (dk_at dksX10_as_2 9 rfl rfl)
theorem dX10_as_57 : decode cX10_as 57 = .ok (.invokevirtual 88, 3) := dk_182 0 88 (dk_at dksX10_as_2 11 rfl rfl)
theorem dX10_as_60 : decode cX10_as 60 = .ok (.goto 9, 3) := dk_167 0 9 (dk_at dksX10_as_2 14 rfl rfl)
theorem dX10_as_63 : decode cX10_as 63 = .ok (.aload_n 0, 1) := dk_42 (dk_at dksX10_as_2 17 rfl rfl)
theorem dX10_as_64 : decode cX10_as 64 = .ok (.iload_n 1, 1) := dk_27 (dk_at dksX10_as_2 18 rfl rfl)
theorem dX10_as_65 : decode cX10_as 65 = .ok (.iconst 1, 1) := dk_4 (dk_at dksX10_as_2 19 rfl rfl)
theorem dX10_as_66 : decode cX10_as 66 = .ok (.invokevirtual 217, 3) := dk_182 0 217 (dk_at dksX10_as_2 20 rfl rfl)
theorem dX10_as_69 : decode cX10_as 69 = .ok (.ireturn, 1) := dk_172 (dk_at dksX10_as_2 23 rfl rfl)
abbrev cX10_way_2 : ByteArray := prog_37_method_48_code
def yX10_way_2 : MethodName := ⟨RX10, "way", "(II)I"⟩
def dkwX10_way_2_0 : List UInt8 := [42, 180, 0, 9, 17, 0, 152, 7, 27, 104, 96, 28, 96, 46, 172]
abbrev dktX10_way_2_0 : List UInt8 := dkwX10_way_2_0 ++ []
theorem dksX10_way_2_0 : cX10_way_2.data.toList.drop 0 = dktX10_way_2_0 := by decide +kernel
theorem dX10_way_2_0 : decode cX10_way_2 0 = .ok (.aload_n 0, 1) := dk_42 (dk_at dksX10_way_2_0 0 rfl rfl)
theorem dX10_way_2_1 : decode cX10_way_2 1 = .ok (.getfield 9, 3) := dk_180 0 9 (dk_at dksX10_way_2_0 1 rfl rfl)
theorem dX10_way_2_4 : decode cX10_way_2 4 = .ok (.sipush 152, 3) := dk_17 0 152 (dk_at dksX10_way_2_0 4 rfl rfl)
theorem dX10_way_2_7 : decode cX10_way_2 7 = .ok (.iconst 4, 1) := dk_7 (dk_at dksX10_way_2_0 7 rfl rfl)
theorem dX10_way_2_8 : decode cX10_way_2 8 = .ok (.iload_n 1, 1) := dk_27 (dk_at dksX10_way_2_0 8 rfl rfl)
theorem dX10_way_2_9 : decode cX10_way_2 9 = .ok (.imul, 1) := dk_104 (dk_at dksX10_way_2_0 9 rfl rfl)
theorem dX10_way_2_10 : decode cX10_way_2 10 = .ok (.iadd, 1) := dk_96 (dk_at dksX10_way_2_0 10 rfl rfl)
theorem dX10_way_2_11 : decode cX10_way_2 11 = .ok (.iload_n 2, 1) := dk_28 (dk_at dksX10_way_2_0 11 rfl rfl)
theorem dX10_way_2_12 : decode cX10_way_2 12 = .ok (.iadd, 1) := dk_96 (dk_at dksX10_way_2_0 12 rfl rfl)
theorem dX10_way_2_13 : decode cX10_way_2 13 = .ok (.iaload, 1) := dk_46 (dk_at dksX10_way_2_0 13 rfl rfl)
theorem dX10_way_2_14 : decode cX10_way_2 14 = .ok (.ireturn, 1) := dk_172 (dk_at dksX10_way_2_0 14 rfl rfl)
abbrev cX10_above : ByteArray := prog_37_method_49_code
def yX10_above : MethodName := ⟨RX10, "above", "(I)I"⟩
def dkwX10_above_1 : List UInt8 := [16, 7, 160, 0, 7, 8, 167, 0, 4, 3, 172]
abbrev dktX10_above_1 : List UInt8 := dkwX10_above_1 ++ []
def dkwX10_above_0 : List UInt8 := [26, 154, 0, 7, 2, 167, 0, 29, 26, 6, 159, 0, 9, 26, 16, 6, 160, 0, 7, 4, 167, 0, 14, 26]
abbrev dktX10_above_0 : List UInt8 := dkwX10_above_0 ++ dktX10_above_1
theorem dksX10_above_0 : cX10_above.data.toList.drop 0 = dktX10_above_0 := by decide +kernel
theorem dksX10_above_1 : cX10_above.data.toList.drop 24 = dktX10_above_1 := dk_seg dksX10_above_0 24 rfl rfl
theorem dX10_above_0 : decode cX10_above 0 = .ok (.iload_n 0, 1) := dk_26 (dk_at dksX10_above_0 0 rfl rfl)
theorem dX10_above_1 : decode cX10_above 1 = .ok (.ifCond .ne 7, 3) := dk_154 0 7 (dk_at dksX10_above_0 1 rfl rfl)
theorem dX10_above_4 : decode cX10_above 4 = .ok (.iconst (-1), 1) := dk_2 (dk_at dksX10_above_0 4 rfl rfl)
theorem dX10_above_5 : decode cX10_above 5 = .ok (.goto 29, 3) := dk_167 0 29 (dk_at dksX10_above_0 5 rfl rfl)
theorem dX10_above_8 : decode cX10_above 8 = .ok (.iload_n 0, 1) := dk_26 (dk_at dksX10_above_0 8 rfl rfl)
theorem dX10_above_9 : decode cX10_above 9 = .ok (.iconst 3, 1) := dk_6 (dk_at dksX10_above_0 9 rfl rfl)
theorem dX10_above_10 : decode cX10_above 10 = .ok (.if_icmp .eq 9, 3) := dk_159 0 9 (dk_at dksX10_above_0 10 rfl rfl)
theorem dX10_above_13 : decode cX10_above 13 = .ok (.iload_n 0, 1) := dk_26 (dk_at dksX10_above_0 13 rfl rfl)
theorem dX10_above_14 : decode cX10_above 14 = .ok (.bipush 6, 2) := dk_16 6 (dk_at dksX10_above_0 14 rfl rfl)
theorem dX10_above_16 : decode cX10_above 16 = .ok (.if_icmp .ne 7, 3) := dk_160 0 7 (dk_at dksX10_above_0 16 rfl rfl)
theorem dX10_above_19 : decode cX10_above 19 = .ok (.iconst 1, 1) := dk_4 (dk_at dksX10_above_0 19 rfl rfl)
theorem dX10_above_20 : decode cX10_above 20 = .ok (.goto 14, 3) := dk_167 0 14 (dk_at dksX10_above_0 20 rfl rfl)
theorem dX10_above_23 : decode cX10_above 23 = .ok (.iload_n 0, 1) := dk_26 (dk_at dksX10_above_0 23 rfl rfl)
theorem dX10_above_24 : decode cX10_above 24 = .ok (.bipush 7, 2) := dk_16 7 (dk_at dksX10_above_1 0 rfl rfl)
theorem dX10_above_26 : decode cX10_above 26 = .ok (.if_icmp .ne 7, 3) := dk_160 0 7 (dk_at dksX10_above_1 2 rfl rfl)
theorem dX10_above_29 : decode cX10_above 29 = .ok (.iconst 5, 1) := dk_8 (dk_at dksX10_above_1 5 rfl rfl)
theorem dX10_above_30 : decode cX10_above 30 = .ok (.goto 4, 3) := dk_167 0 4 (dk_at dksX10_above_1 6 rfl rfl)
theorem dX10_above_33 : decode cX10_above 33 = .ok (.iconst 0, 1) := dk_3 (dk_at dksX10_above_1 9 rfl rfl)
theorem dX10_above_34 : decode cX10_above 34 = .ok (.ireturn, 1) := dk_172 (dk_at dksX10_above_1 10 rfl rfl)
abbrev cX10_out : ByteArray := prog_37_method_55_code
def yX10_out : MethodName := ⟨RX10, "out", "(III)I"⟩
def dkwX10_out_1 : List UInt8 := [167, 0, 9, 42, 18, 87, 182, 0, 88, 172]
abbrev dktX10_out_1 : List UInt8 := dkwX10_out_1 ++ []
def dkwX10_out_0 : List UInt8 := [42, 27, 6, 182, 0, 101, 153, 0, 21, 28, 29, 184, 0, 230, 153, 0, 13, 42, 27, 28, 29, 182, 0, 233]
abbrev dktX10_out_0 : List UInt8 := dkwX10_out_0 ++ dktX10_out_1
theorem dksX10_out_0 : cX10_out.data.toList.drop 0 = dktX10_out_0 := by decide +kernel
theorem dksX10_out_1 : cX10_out.data.toList.drop 24 = dktX10_out_1 := dk_seg dksX10_out_0 24 rfl rfl
theorem dX10_out_0 : decode cX10_out 0 = .ok (.aload_n 0, 1) := dk_42 (dk_at dksX10_out_0 0 rfl rfl)
theorem dX10_out_1 : decode cX10_out 1 = .ok (.iload_n 1, 1) := dk_27 (dk_at dksX10_out_0 1 rfl rfl)
theorem dX10_out_2 : decode cX10_out 2 = .ok (.iconst 3, 1) := dk_6 (dk_at dksX10_out_0 2 rfl rfl)
theorem dX10_out_3 : decode cX10_out 3 = .ok (.invokevirtual 101, 3) := dk_182 0 101 (dk_at dksX10_out_0 3 rfl rfl)
theorem dX10_out_6 : decode cX10_out 6 = .ok (.ifCond .eq 21, 3) := dk_153 0 21 (dk_at dksX10_out_0 6 rfl rfl)
theorem dX10_out_9 : decode cX10_out 9 = .ok (.iload_n 2, 1) := dk_28 (dk_at dksX10_out_0 9 rfl rfl)
theorem dX10_out_10 : decode cX10_out 10 = .ok (.iload_n 3, 1) := dk_29 (dk_at dksX10_out_0 10 rfl rfl)
theorem dX10_out_11 : decode cX10_out 11 = .ok (.invokestatic 230, 3) := dk_184 0 230 (dk_at dksX10_out_0 11 rfl rfl)
theorem dX10_out_14 : decode cX10_out 14 = .ok (.ifCond .eq 13, 3) := dk_153 0 13 (dk_at dksX10_out_0 14 rfl rfl)
theorem dX10_out_17 : decode cX10_out 17 = .ok (.aload_n 0, 1) := dk_42 (dk_at dksX10_out_0 17 rfl rfl)
theorem dX10_out_18 : decode cX10_out 18 = .ok (.iload_n 1, 1) := dk_27 (dk_at dksX10_out_0 18 rfl rfl)
theorem dX10_out_19 : decode cX10_out 19 = .ok (.iload_n 2, 1) := dk_28 (dk_at dksX10_out_0 19 rfl rfl)
theorem dX10_out_20 : decode cX10_out 20 = .ok (.iload_n 3, 1) := dk_29 (dk_at dksX10_out_0 20 rfl rfl)
theorem dX10_out_21 : decode cX10_out 21 = .ok (.invokevirtual 233, 3) := dk_182 0 233 (dk_at dksX10_out_0 21 rfl rfl)
theorem dX10_out_24 : decode cX10_out 24 = .ok (.goto 9, 3) := dk_167 0 9 (dk_at dksX10_out_1 0 rfl rfl)
theorem dX10_out_27 : decode cX10_out 27 = .ok (.aload_n 0, 1) := dk_42 (dk_at dksX10_out_1 3 rfl rfl)
theorem dX10_out_28 : decode cX10_out 28 = .ok (.ldc 87, 2) := dk_18 87 (dk_at dksX10_out_1 4 rfl rfl)
theorem dX10_out_30 : decode cX10_out 30 = .ok (.invokevirtual 88, 3) := dk_182 0 88 (dk_at dksX10_out_1 6 rfl rfl)
theorem dX10_out_33 : decode cX10_out 33 = .ok (.ireturn, 1) := dk_172 (dk_at dksX10_out_1 9 rfl rfl)
abbrev cX10_areOut : ByteArray := prog_37_method_54_code
def yX10_areOut : MethodName := ⟨RX10, "areOut", "(II)Z"⟩
def dkwX10_areOut_1 : List UInt8 := [167, 0, 4, 3, 172]
abbrev dktX10_areOut_1 : List UInt8 := dkwX10_areOut_1 ++ []
def dkwX10_areOut_0 : List UInt8 := [26, 3, 16, 99, 184, 0, 78, 153, 0, 18, 27, 3, 17, 9, 96, 184, 0, 78, 153, 0, 7, 4]
abbrev dktX10_areOut_0 : List UInt8 := dkwX10_areOut_0 ++ dktX10_areOut_1
theorem dksX10_areOut_0 : cX10_areOut.data.toList.drop 0 = dktX10_areOut_0 := by decide +kernel
theorem dksX10_areOut_1 : cX10_areOut.data.toList.drop 22 = dktX10_areOut_1 := dk_seg dksX10_areOut_0 22 rfl rfl
theorem dX10_areOut_0 : decode cX10_areOut 0 = .ok (.iload_n 0, 1) := dk_26 (dk_at dksX10_areOut_0 0 rfl rfl)
theorem dX10_areOut_1 : decode cX10_areOut 1 = .ok (.iconst 0, 1) := dk_3 (dk_at dksX10_areOut_0 1 rfl rfl)
theorem dX10_areOut_2 : decode cX10_areOut 2 = .ok (.bipush 99, 2) := dk_16 99 (dk_at dksX10_areOut_0 2 rfl rfl)
theorem dX10_areOut_4 : decode cX10_areOut 4 = .ok (.invokestatic 78, 3) := dk_184 0 78 (dk_at dksX10_areOut_0 4 rfl rfl)
theorem dX10_areOut_7 : decode cX10_areOut 7 = .ok (.ifCond .eq 18, 3) := dk_153 0 18 (dk_at dksX10_areOut_0 7 rfl rfl)
theorem dX10_areOut_10 : decode cX10_areOut 10 = .ok (.iload_n 1, 1) := dk_27 (dk_at dksX10_areOut_0 10 rfl rfl)
theorem dX10_areOut_11 : decode cX10_areOut 11 = .ok (.iconst 0, 1) := dk_3 (dk_at dksX10_areOut_0 11 rfl rfl)
theorem dX10_areOut_12 : decode cX10_areOut 12 = .ok (.sipush 2400, 3) := dk_17 9 96 (dk_at dksX10_areOut_0 12 rfl rfl)
theorem dX10_areOut_15 : decode cX10_areOut 15 = .ok (.invokestatic 78, 3) := dk_184 0 78 (dk_at dksX10_areOut_0 15 rfl rfl)
theorem dX10_areOut_18 : decode cX10_areOut 18 = .ok (.ifCond .eq 7, 3) := dk_153 0 7 (dk_at dksX10_areOut_0 18 rfl rfl)
theorem dX10_areOut_21 : decode cX10_areOut 21 = .ok (.iconst 1, 1) := dk_4 (dk_at dksX10_areOut_0 21 rfl rfl)
theorem dX10_areOut_22 : decode cX10_areOut 22 = .ok (.goto 4, 3) := dk_167 0 4 (dk_at dksX10_areOut_1 0 rfl rfl)
theorem dX10_areOut_25 : decode cX10_areOut 25 = .ok (.iconst 0, 1) := dk_3 (dk_at dksX10_areOut_1 3 rfl rfl)
theorem dX10_areOut_26 : decode cX10_areOut 26 = .ok (.ireturn, 1) := dk_172 (dk_at dksX10_areOut_1 4 rfl rfl)
abbrev cX10_outOf : ByteArray := prog_37_method_53_code
def yX10_outOf : MethodName := ⟨RX10, "outOf", "(III)I"⟩
def dkwX10_outOf_5 : List UInt8 := [184, 0, 208, 172, 21, 4, 153, 0, 11, 28, 158, 0, 7, 4, 167, 0, 4, 3, 172, 3, 172]
abbrev dktX10_outOf_5 : List UInt8 := dkwX10_outOf_5 ++ []
def dkwX10_outOf_4 : List UInt8 := [172, 21, 4, 153, 0, 7, 28, 167, 0, 4, 3, 172, 3, 42, 27, 28, 29, 182, 0, 224, 4, 100]
abbrev dktX10_outOf_4 : List UInt8 := dkwX10_outOf_4 ++ dktX10_outOf_5
def dkwX10_outOf_3 : List UInt8 := [108, 100, 167, 0, 4, 3, 172, 42, 27, 28, 42, 42, 180, 0, 9, 3, 46, 29, 182, 0, 227, 182, 0, 224]
abbrev dktX10_outOf_3 : List UInt8 := dkwX10_outOf_3 ++ dktX10_outOf_4
def dkwX10_outOf_2 : List UInt8 := [42, 27, 28, 29, 182, 0, 224, 172, 21, 4, 153, 0, 19, 28, 28, 42, 27, 6, 182, 0, 217, 104, 16, 100]
abbrev dktX10_outOf_2 : List UInt8 := dkwX10_outOf_2 ++ dktX10_outOf_3
def dkwX10_outOf_1 : List UInt8 := [170, 0, 0, 0, 130, 0, 0, 0, 1, 0, 0, 0, 7, 0, 0, 0, 41, 0, 0, 0, 49, 0, 0, 0, 72, 0, 0, 0, 90, 0, 0, 0, 130, 0, 0, 0, 101, 0, 0, 0, 115]
abbrev dktX10_outOf_1 : List UInt8 := dkwX10_outOf_1 ++ dktX10_outOf_2
def dkwX10_outOf_0 : List UInt8 := [29, 42, 27, 4, 182, 0, 217, 161, 0, 7, 4, 167, 0, 4, 3, 54, 4, 42, 27, 3, 182, 0, 217]
abbrev dktX10_outOf_0 : List UInt8 := dkwX10_outOf_0 ++ dktX10_outOf_1
theorem dksX10_outOf_0 : cX10_outOf.data.toList.drop 0 = dktX10_outOf_0 := by decide +kernel
theorem dksX10_outOf_1 : cX10_outOf.data.toList.drop 23 = dktX10_outOf_1 := dk_seg dksX10_outOf_0 23 rfl rfl
theorem dksX10_outOf_2 : cX10_outOf.data.toList.drop 64 = dktX10_outOf_2 := dk_seg dksX10_outOf_1 41 rfl rfl
theorem dksX10_outOf_3 : cX10_outOf.data.toList.drop 88 = dktX10_outOf_3 := dk_seg dksX10_outOf_2 24 rfl rfl
theorem dksX10_outOf_4 : cX10_outOf.data.toList.drop 112 = dktX10_outOf_4 := dk_seg dksX10_outOf_3 24 rfl rfl
theorem dksX10_outOf_5 : cX10_outOf.data.toList.drop 134 = dktX10_outOf_5 := dk_seg dksX10_outOf_4 22 rfl rfl
theorem dX10_outOf_0 : decode cX10_outOf 0 = .ok (.iload_n 3, 1) := dk_29 (dk_at dksX10_outOf_0 0 rfl rfl)
theorem dX10_outOf_1 : decode cX10_outOf 1 = .ok (.aload_n 0, 1) := dk_42 (dk_at dksX10_outOf_0 1 rfl rfl)
theorem dX10_outOf_2 : decode cX10_outOf 2 = .ok (.iload_n 1, 1) := dk_27 (dk_at dksX10_outOf_0 2 rfl rfl)
theorem dX10_outOf_3 : decode cX10_outOf 3 = .ok (.iconst 1, 1) := dk_4 (dk_at dksX10_outOf_0 3 rfl rfl)
theorem dX10_outOf_4 : decode cX10_outOf 4 = .ok (.invokevirtual 217, 3) := dk_182 0 217 (dk_at dksX10_outOf_0 4 rfl rfl)
theorem dX10_outOf_7 : decode cX10_outOf 7 = .ok (.if_icmp .lt 7, 3) := dk_161 0 7 (dk_at dksX10_outOf_0 7 rfl rfl)
theorem dX10_outOf_10 : decode cX10_outOf 10 = .ok (.iconst 1, 1) := dk_4 (dk_at dksX10_outOf_0 10 rfl rfl)
theorem dX10_outOf_11 : decode cX10_outOf 11 = .ok (.goto 4, 3) := dk_167 0 4 (dk_at dksX10_outOf_0 11 rfl rfl)
theorem dX10_outOf_14 : decode cX10_outOf 14 = .ok (.iconst 0, 1) := dk_3 (dk_at dksX10_outOf_0 14 rfl rfl)
theorem dX10_outOf_15 : decode cX10_outOf 15 = .ok (.istore 4, 2) := dk_54 4 (dk_at dksX10_outOf_0 15 rfl rfl)
theorem dX10_outOf_17 : decode cX10_outOf 17 = .ok (.aload_n 0, 1) := dk_42 (dk_at dksX10_outOf_0 17 rfl rfl)
theorem dX10_outOf_18 : decode cX10_outOf 18 = .ok (.iload_n 1, 1) := dk_27 (dk_at dksX10_outOf_0 18 rfl rfl)
theorem dX10_outOf_19 : decode cX10_outOf 19 = .ok (.iconst 0, 1) := dk_3 (dk_at dksX10_outOf_0 19 rfl rfl)
theorem dX10_outOf_20 : decode cX10_outOf 20 = .ok (.invokevirtual 217, 3) := dk_182 0 217 (dk_at dksX10_outOf_0 20 rfl rfl)
theorem dX10_outOf_23 : decode cX10_outOf 23 = .ok (.tableswitch 130 1 7 #[41, 49, 72, 90, 130, 101, 115], 41) := by decide +kernel
theorem dX10_outOf_64 : decode cX10_outOf 64 = .ok (.aload_n 0, 1) := dk_42 (dk_at dksX10_outOf_2 0 rfl rfl)
theorem dX10_outOf_65 : decode cX10_outOf 65 = .ok (.iload_n 1, 1) := dk_27 (dk_at dksX10_outOf_2 1 rfl rfl)
theorem dX10_outOf_66 : decode cX10_outOf 66 = .ok (.iload_n 2, 1) := dk_28 (dk_at dksX10_outOf_2 2 rfl rfl)
theorem dX10_outOf_67 : decode cX10_outOf 67 = .ok (.iload_n 3, 1) := dk_29 (dk_at dksX10_outOf_2 3 rfl rfl)
theorem dX10_outOf_68 : decode cX10_outOf 68 = .ok (.invokevirtual 224, 3) := dk_182 0 224 (dk_at dksX10_outOf_2 4 rfl rfl)
theorem dX10_outOf_71 : decode cX10_outOf 71 = .ok (.ireturn, 1) := dk_172 (dk_at dksX10_outOf_2 7 rfl rfl)
theorem dX10_outOf_72 : decode cX10_outOf 72 = .ok (.iload 4, 2) := dk_21 4 (dk_at dksX10_outOf_2 8 rfl rfl)
theorem dX10_outOf_74 : decode cX10_outOf 74 = .ok (.ifCond .eq 19, 3) := dk_153 0 19 (dk_at dksX10_outOf_2 10 rfl rfl)
theorem dX10_outOf_77 : decode cX10_outOf 77 = .ok (.iload_n 2, 1) := dk_28 (dk_at dksX10_outOf_2 13 rfl rfl)
theorem dX10_outOf_78 : decode cX10_outOf 78 = .ok (.iload_n 2, 1) := dk_28 (dk_at dksX10_outOf_2 14 rfl rfl)
theorem dX10_outOf_79 : decode cX10_outOf 79 = .ok (.aload_n 0, 1) := dk_42 (dk_at dksX10_outOf_2 15 rfl rfl)
theorem dX10_outOf_80 : decode cX10_outOf 80 = .ok (.iload_n 1, 1) := dk_27 (dk_at dksX10_outOf_2 16 rfl rfl)
theorem dX10_outOf_81 : decode cX10_outOf 81 = .ok (.iconst 3, 1) := dk_6 (dk_at dksX10_outOf_2 17 rfl rfl)
theorem dX10_outOf_82 : decode cX10_outOf 82 = .ok (.invokevirtual 217, 3) := dk_182 0 217 (dk_at dksX10_outOf_2 18 rfl rfl)
theorem dX10_outOf_85 : decode cX10_outOf 85 = .ok (.imul, 1) := dk_104 (dk_at dksX10_outOf_2 21 rfl rfl)
theorem dX10_outOf_86 : decode cX10_outOf 86 = .ok (.bipush 100, 2) := dk_16 100 (dk_at dksX10_outOf_2 22 rfl rfl)
theorem dX10_outOf_88 : decode cX10_outOf 88 = .ok (.idiv, 1) := dk_108 (dk_at dksX10_outOf_3 0 rfl rfl)
theorem dX10_outOf_89 : decode cX10_outOf 89 = .ok (.isub, 1) := dk_100 (dk_at dksX10_outOf_3 1 rfl rfl)
theorem dX10_outOf_90 : decode cX10_outOf 90 = .ok (.goto 4, 3) := dk_167 0 4 (dk_at dksX10_outOf_3 2 rfl rfl)
theorem dX10_outOf_93 : decode cX10_outOf 93 = .ok (.iconst 0, 1) := dk_3 (dk_at dksX10_outOf_3 5 rfl rfl)
theorem dX10_outOf_94 : decode cX10_outOf 94 = .ok (.ireturn, 1) := dk_172 (dk_at dksX10_outOf_3 6 rfl rfl)
theorem dX10_outOf_95 : decode cX10_outOf 95 = .ok (.aload_n 0, 1) := dk_42 (dk_at dksX10_outOf_3 7 rfl rfl)
theorem dX10_outOf_96 : decode cX10_outOf 96 = .ok (.iload_n 1, 1) := dk_27 (dk_at dksX10_outOf_3 8 rfl rfl)
theorem dX10_outOf_97 : decode cX10_outOf 97 = .ok (.iload_n 2, 1) := dk_28 (dk_at dksX10_outOf_3 9 rfl rfl)
theorem dX10_outOf_98 : decode cX10_outOf 98 = .ok (.aload_n 0, 1) := dk_42 (dk_at dksX10_outOf_3 10 rfl rfl)
theorem dX10_outOf_99 : decode cX10_outOf 99 = .ok (.aload_n 0, 1) := dk_42 (dk_at dksX10_outOf_3 11 rfl rfl)
theorem dX10_outOf_100 : decode cX10_outOf 100 = .ok (.getfield 9, 3) := dk_180 0 9 (dk_at dksX10_outOf_3 12 rfl rfl)
theorem dX10_outOf_103 : decode cX10_outOf 103 = .ok (.iconst 0, 1) := dk_3 (dk_at dksX10_outOf_3 15 rfl rfl)
theorem dX10_outOf_104 : decode cX10_outOf 104 = .ok (.iaload, 1) := dk_46 (dk_at dksX10_outOf_3 16 rfl rfl)
theorem dX10_outOf_105 : decode cX10_outOf 105 = .ok (.iload_n 3, 1) := dk_29 (dk_at dksX10_outOf_3 17 rfl rfl)
theorem dX10_outOf_106 : decode cX10_outOf 106 = .ok (.invokevirtual 227, 3) := dk_182 0 227 (dk_at dksX10_outOf_3 18 rfl rfl)
theorem dX10_outOf_109 : decode cX10_outOf 109 = .ok (.invokevirtual 224, 3) := dk_182 0 224 (dk_at dksX10_outOf_3 21 rfl rfl)
theorem dX10_outOf_112 : decode cX10_outOf 112 = .ok (.ireturn, 1) := dk_172 (dk_at dksX10_outOf_4 0 rfl rfl)
theorem dX10_outOf_113 : decode cX10_outOf 113 = .ok (.iload 4, 2) := dk_21 4 (dk_at dksX10_outOf_4 1 rfl rfl)
theorem dX10_outOf_115 : decode cX10_outOf 115 = .ok (.ifCond .eq 7, 3) := dk_153 0 7 (dk_at dksX10_outOf_4 3 rfl rfl)
theorem dX10_outOf_118 : decode cX10_outOf 118 = .ok (.iload_n 2, 1) := dk_28 (dk_at dksX10_outOf_4 6 rfl rfl)
theorem dX10_outOf_119 : decode cX10_outOf 119 = .ok (.goto 4, 3) := dk_167 0 4 (dk_at dksX10_outOf_4 7 rfl rfl)
theorem dX10_outOf_122 : decode cX10_outOf 122 = .ok (.iconst 0, 1) := dk_3 (dk_at dksX10_outOf_4 10 rfl rfl)
theorem dX10_outOf_123 : decode cX10_outOf 123 = .ok (.ireturn, 1) := dk_172 (dk_at dksX10_outOf_4 11 rfl rfl)
theorem dX10_outOf_124 : decode cX10_outOf 124 = .ok (.iconst 0, 1) := dk_3 (dk_at dksX10_outOf_4 12 rfl rfl)
theorem dX10_outOf_125 : decode cX10_outOf 125 = .ok (.aload_n 0, 1) := dk_42 (dk_at dksX10_outOf_4 13 rfl rfl)
theorem dX10_outOf_126 : decode cX10_outOf 126 = .ok (.iload_n 1, 1) := dk_27 (dk_at dksX10_outOf_4 14 rfl rfl)
theorem dX10_outOf_127 : decode cX10_outOf 127 = .ok (.iload_n 2, 1) := dk_28 (dk_at dksX10_outOf_4 15 rfl rfl)
theorem dX10_outOf_128 : decode cX10_outOf 128 = .ok (.iload_n 3, 1) := dk_29 (dk_at dksX10_outOf_4 16 rfl rfl)
theorem dX10_outOf_129 : decode cX10_outOf 129 = .ok (.invokevirtual 224, 3) := dk_182 0 224 (dk_at dksX10_outOf_4 17 rfl rfl)
theorem dX10_outOf_132 : decode cX10_outOf 132 = .ok (.iconst 1, 1) := dk_4 (dk_at dksX10_outOf_4 20 rfl rfl)
theorem dX10_outOf_133 : decode cX10_outOf 133 = .ok (.isub, 1) := dk_100 (dk_at dksX10_outOf_4 21 rfl rfl)
theorem dX10_outOf_134 : decode cX10_outOf 134 = .ok (.invokestatic 208, 3) := dk_184 0 208 (dk_at dksX10_outOf_5 0 rfl rfl)
theorem dX10_outOf_137 : decode cX10_outOf 137 = .ok (.ireturn, 1) := dk_172 (dk_at dksX10_outOf_5 3 rfl rfl)
theorem dX10_outOf_138 : decode cX10_outOf 138 = .ok (.iload 4, 2) := dk_21 4 (dk_at dksX10_outOf_5 4 rfl rfl)
theorem dX10_outOf_140 : decode cX10_outOf 140 = .ok (.ifCond .eq 11, 3) := dk_153 0 11 (dk_at dksX10_outOf_5 6 rfl rfl)
theorem dX10_outOf_143 : decode cX10_outOf 143 = .ok (.iload_n 2, 1) := dk_28 (dk_at dksX10_outOf_5 9 rfl rfl)
theorem dX10_outOf_144 : decode cX10_outOf 144 = .ok (.ifCond .le 7, 3) := dk_158 0 7 (dk_at dksX10_outOf_5 10 rfl rfl)
theorem dX10_outOf_147 : decode cX10_outOf 147 = .ok (.iconst 1, 1) := dk_4 (dk_at dksX10_outOf_5 13 rfl rfl)
theorem dX10_outOf_148 : decode cX10_outOf 148 = .ok (.goto 4, 3) := dk_167 0 4 (dk_at dksX10_outOf_5 14 rfl rfl)
theorem dX10_outOf_151 : decode cX10_outOf 151 = .ok (.iconst 0, 1) := dk_3 (dk_at dksX10_outOf_5 17 rfl rfl)
theorem dX10_outOf_152 : decode cX10_outOf 152 = .ok (.ireturn, 1) := dk_172 (dk_at dksX10_outOf_5 18 rfl rfl)
theorem dX10_outOf_153 : decode cX10_outOf 153 = .ok (.iconst 0, 1) := dk_3 (dk_at dksX10_outOf_5 19 rfl rfl)
theorem dX10_outOf_154 : decode cX10_outOf 154 = .ok (.ireturn, 1) := dk_172 (dk_at dksX10_outOf_5 20 rfl rfl)
abbrev cX10_locked : ByteArray := prog_37_method_52_code
def yX10_locked : MethodName := ⟨RX10, "locked", "(III)I"⟩
def dkwX10_locked_0 : List UInt8 := [28, 29, 42, 27, 4, 182, 0, 217, 108, 42, 27, 5, 182, 0, 217, 104, 184, 0, 124, 172]
abbrev dktX10_locked_0 : List UInt8 := dkwX10_locked_0 ++ []
theorem dksX10_locked_0 : cX10_locked.data.toList.drop 0 = dktX10_locked_0 := by decide +kernel
theorem dX10_locked_0 : decode cX10_locked 0 = .ok (.iload_n 2, 1) := dk_28 (dk_at dksX10_locked_0 0 rfl rfl)
theorem dX10_locked_1 : decode cX10_locked 1 = .ok (.iload_n 3, 1) := dk_29 (dk_at dksX10_locked_0 1 rfl rfl)
theorem dX10_locked_2 : decode cX10_locked 2 = .ok (.aload_n 0, 1) := dk_42 (dk_at dksX10_locked_0 2 rfl rfl)
theorem dX10_locked_3 : decode cX10_locked 3 = .ok (.iload_n 1, 1) := dk_27 (dk_at dksX10_locked_0 3 rfl rfl)
theorem dX10_locked_4 : decode cX10_locked 4 = .ok (.iconst 1, 1) := dk_4 (dk_at dksX10_locked_0 4 rfl rfl)
theorem dX10_locked_5 : decode cX10_locked 5 = .ok (.invokevirtual 217, 3) := dk_182 0 217 (dk_at dksX10_locked_0 5 rfl rfl)
theorem dX10_locked_8 : decode cX10_locked 8 = .ok (.idiv, 1) := dk_108 (dk_at dksX10_locked_0 8 rfl rfl)
theorem dX10_locked_9 : decode cX10_locked 9 = .ok (.aload_n 0, 1) := dk_42 (dk_at dksX10_locked_0 9 rfl rfl)
theorem dX10_locked_10 : decode cX10_locked 10 = .ok (.iload_n 1, 1) := dk_27 (dk_at dksX10_locked_0 10 rfl rfl)
theorem dX10_locked_11 : decode cX10_locked 11 = .ok (.iconst 2, 1) := dk_5 (dk_at dksX10_locked_0 11 rfl rfl)
theorem dX10_locked_12 : decode cX10_locked 12 = .ok (.invokevirtual 217, 3) := dk_182 0 217 (dk_at dksX10_locked_0 12 rfl rfl)
theorem dX10_locked_15 : decode cX10_locked 15 = .ok (.imul, 1) := dk_104 (dk_at dksX10_locked_0 15 rfl rfl)
theorem dX10_locked_16 : decode cX10_locked 16 = .ok (.invokestatic 124, 3) := dk_184 0 124 (dk_at dksX10_locked_0 16 rfl rfl)
theorem dX10_locked_19 : decode cX10_locked 19 = .ok (.ireturn, 1) := dk_172 (dk_at dksX10_locked_0 19 rfl rfl)
abbrev cX10_tides : ByteArray := prog_37_method_51_code
def yX10_tides : MethodName := ⟨RX10, "tides", "(II)I"⟩
def dkwX10_tides_1 : List UInt8 := [62, 132, 4, 1, 167, 255, 233, 29, 172]
abbrev dktX10_tides_1 : List UInt8 := dkwX10_tides_1 ++ []
def dkwX10_tides_0 : List UInt8 := [3, 62, 27, 54, 4, 21, 4, 27, 28, 96, 162, 0, 21, 29, 42, 5, 21, 4, 3, 3, 182, 0, 112, 96]
abbrev dktX10_tides_0 : List UInt8 := dkwX10_tides_0 ++ dktX10_tides_1
theorem dksX10_tides_0 : cX10_tides.data.toList.drop 0 = dktX10_tides_0 := by decide +kernel
theorem dksX10_tides_1 : cX10_tides.data.toList.drop 24 = dktX10_tides_1 := dk_seg dksX10_tides_0 24 rfl rfl
theorem dX10_tides_0 : decode cX10_tides 0 = .ok (.iconst 0, 1) := dk_3 (dk_at dksX10_tides_0 0 rfl rfl)
theorem dX10_tides_1 : decode cX10_tides 1 = .ok (.istore_n 3, 1) := dk_62 (dk_at dksX10_tides_0 1 rfl rfl)
theorem dX10_tides_2 : decode cX10_tides 2 = .ok (.iload_n 1, 1) := dk_27 (dk_at dksX10_tides_0 2 rfl rfl)
theorem dX10_tides_3 : decode cX10_tides 3 = .ok (.istore 4, 2) := dk_54 4 (dk_at dksX10_tides_0 3 rfl rfl)
theorem dX10_tides_5 : decode cX10_tides 5 = .ok (.iload 4, 2) := dk_21 4 (dk_at dksX10_tides_0 5 rfl rfl)
theorem dX10_tides_7 : decode cX10_tides 7 = .ok (.iload_n 1, 1) := dk_27 (dk_at dksX10_tides_0 7 rfl rfl)
theorem dX10_tides_8 : decode cX10_tides 8 = .ok (.iload_n 2, 1) := dk_28 (dk_at dksX10_tides_0 8 rfl rfl)
theorem dX10_tides_9 : decode cX10_tides 9 = .ok (.iadd, 1) := dk_96 (dk_at dksX10_tides_0 9 rfl rfl)
theorem dX10_tides_10 : decode cX10_tides 10 = .ok (.if_icmp .ge 21, 3) := dk_162 0 21 (dk_at dksX10_tides_0 10 rfl rfl)
theorem dX10_tides_13 : decode cX10_tides 13 = .ok (.iload_n 3, 1) := dk_29 (dk_at dksX10_tides_0 13 rfl rfl)
theorem dX10_tides_14 : decode cX10_tides 14 = .ok (.aload_n 0, 1) := dk_42 (dk_at dksX10_tides_0 14 rfl rfl)
theorem dX10_tides_15 : decode cX10_tides 15 = .ok (.iconst 2, 1) := dk_5 (dk_at dksX10_tides_0 15 rfl rfl)
theorem dX10_tides_16 : decode cX10_tides 16 = .ok (.iload 4, 2) := dk_21 4 (dk_at dksX10_tides_0 16 rfl rfl)
theorem dX10_tides_18 : decode cX10_tides 18 = .ok (.iconst 0, 1) := dk_3 (dk_at dksX10_tides_0 18 rfl rfl)
theorem dX10_tides_19 : decode cX10_tides 19 = .ok (.iconst 0, 1) := dk_3 (dk_at dksX10_tides_0 19 rfl rfl)
theorem dX10_tides_20 : decode cX10_tides 20 = .ok (.invokevirtual 112, 3) := dk_182 0 112 (dk_at dksX10_tides_0 20 rfl rfl)
theorem dX10_tides_23 : decode cX10_tides 23 = .ok (.iadd, 1) := dk_96 (dk_at dksX10_tides_0 23 rfl rfl)
theorem dX10_tides_24 : decode cX10_tides 24 = .ok (.istore_n 3, 1) := dk_62 (dk_at dksX10_tides_1 0 rfl rfl)
theorem dX10_tides_25 : decode cX10_tides 25 = .ok (.iinc 4 1, 3) := dk_132 4 1 (dk_at dksX10_tides_1 1 rfl rfl)
theorem dX10_tides_28 : decode cX10_tides 28 = .ok (.goto (-23), 3) := dk_167 255 233 (dk_at dksX10_tides_1 4 rfl rfl)
theorem dX10_tides_31 : decode cX10_tides 31 = .ok (.iload_n 3, 1) := dk_29 (dk_at dksX10_tides_1 7 rfl rfl)
theorem dX10_tides_32 : decode cX10_tides 32 = .ok (.ireturn, 1) := dk_172 (dk_at dksX10_tides_1 8 rfl rfl)
abbrev cX10_best : ByteArray := prog_37_method_56_code
def yX10_best : MethodName := ⟨RX10, "best", "(II)I"⟩
def dkwX10_best_3 : List UInt8 := [18, 139, 182, 0, 88, 167, 0, 4, 29, 172]
abbrev dktX10_best_3 : List UInt8 := dkwX10_best_3 ++ []
def dkwX10_best_2 : List UInt8 := [21, 4, 164, 0, 10, 21, 5, 62, 21, 6, 54, 4, 132, 5, 1, 167, 255, 218, 29, 156, 0, 12, 42]
abbrev dktX10_best_2 : List UInt8 := dkwX10_best_2 ++ dktX10_best_3
def dkwX10_best_1 : List UInt8 := [21, 5, 42, 180, 0, 9, 6, 46, 162, 0, 33, 42, 21, 5, 27, 28, 182, 0, 233, 54, 6, 21, 6]
abbrev dktX10_best_1 : List UInt8 := dkwX10_best_1 ++ dktX10_best_2
def dkwX10_best_0 : List UInt8 := [27, 28, 184, 0, 230, 154, 0, 10, 42, 18, 87, 182, 0, 88, 172, 18, 139, 62, 2, 54, 4, 3, 54, 5]
abbrev dktX10_best_0 : List UInt8 := dkwX10_best_0 ++ dktX10_best_1
theorem dksX10_best_0 : cX10_best.data.toList.drop 0 = dktX10_best_0 := by decide +kernel
theorem dksX10_best_1 : cX10_best.data.toList.drop 24 = dktX10_best_1 := dk_seg dksX10_best_0 24 rfl rfl
theorem dksX10_best_2 : cX10_best.data.toList.drop 47 = dktX10_best_2 := dk_seg dksX10_best_1 23 rfl rfl
theorem dksX10_best_3 : cX10_best.data.toList.drop 70 = dktX10_best_3 := dk_seg dksX10_best_2 23 rfl rfl
theorem dX10_best_0 : decode cX10_best 0 = .ok (.iload_n 1, 1) := dk_27 (dk_at dksX10_best_0 0 rfl rfl)
theorem dX10_best_1 : decode cX10_best 1 = .ok (.iload_n 2, 1) := dk_28 (dk_at dksX10_best_0 1 rfl rfl)
theorem dX10_best_2 : decode cX10_best 2 = .ok (.invokestatic 230, 3) := dk_184 0 230 (dk_at dksX10_best_0 2 rfl rfl)
theorem dX10_best_5 : decode cX10_best 5 = .ok (.ifCond .ne 10, 3) := dk_154 0 10 (dk_at dksX10_best_0 5 rfl rfl)
theorem dX10_best_8 : decode cX10_best 8 = .ok (.aload_n 0, 1) := dk_42 (dk_at dksX10_best_0 8 rfl rfl)
theorem dX10_best_9 : decode cX10_best 9 = .ok (.ldc 87, 2) := dk_18 87 (dk_at dksX10_best_0 9 rfl rfl)
theorem dX10_best_11 : decode cX10_best 11 = .ok (.invokevirtual 88, 3) := dk_182 0 88 (dk_at dksX10_best_0 11 rfl rfl)
theorem dX10_best_14 : decode cX10_best 14 = .ok (.ireturn, 1) := dk_172 (dk_at dksX10_best_0 14 rfl rfl)
theorem dX10_best_15 : decode cX10_best 15 = .ok (.ldc 139, 2) := dk_18 139 (dk_at dksX10_best_0 15 rfl rfl)
theorem dX10_best_17 : decode cX10_best 17 = .ok (.istore_n 3, 1) := dk_62 (dk_at dksX10_best_0 17 rfl rfl)
theorem dX10_best_18 : decode cX10_best 18 = .ok (.iconst (-1), 1) := dk_2 (dk_at dksX10_best_0 18 rfl rfl)
theorem dX10_best_19 : decode cX10_best 19 = .ok (.istore 4, 2) := dk_54 4 (dk_at dksX10_best_0 19 rfl rfl)
theorem dX10_best_21 : decode cX10_best 21 = .ok (.iconst 0, 1) := dk_3 (dk_at dksX10_best_0 21 rfl rfl)
theorem dX10_best_22 : decode cX10_best 22 = .ok (.istore 5, 2) := dk_54 5 (dk_at dksX10_best_0 22 rfl rfl)
theorem dX10_best_24 : decode cX10_best 24 = .ok (.iload 5, 2) := dk_21 5 (dk_at dksX10_best_1 0 rfl rfl)
theorem dX10_best_26 : decode cX10_best 26 = .ok (.aload_n 0, 1) := dk_42 (dk_at dksX10_best_1 2 rfl rfl)
theorem dX10_best_27 : decode cX10_best 27 = .ok (.getfield 9, 3) := dk_180 0 9 (dk_at dksX10_best_1 3 rfl rfl)
theorem dX10_best_30 : decode cX10_best 30 = .ok (.iconst 3, 1) := dk_6 (dk_at dksX10_best_1 6 rfl rfl)
theorem dX10_best_31 : decode cX10_best 31 = .ok (.iaload, 1) := dk_46 (dk_at dksX10_best_1 7 rfl rfl)
theorem dX10_best_32 : decode cX10_best 32 = .ok (.if_icmp .ge 33, 3) := dk_162 0 33 (dk_at dksX10_best_1 8 rfl rfl)
theorem dX10_best_35 : decode cX10_best 35 = .ok (.aload_n 0, 1) := dk_42 (dk_at dksX10_best_1 11 rfl rfl)
theorem dX10_best_36 : decode cX10_best 36 = .ok (.iload 5, 2) := dk_21 5 (dk_at dksX10_best_1 12 rfl rfl)
theorem dX10_best_38 : decode cX10_best 38 = .ok (.iload_n 1, 1) := dk_27 (dk_at dksX10_best_1 14 rfl rfl)
theorem dX10_best_39 : decode cX10_best 39 = .ok (.iload_n 2, 1) := dk_28 (dk_at dksX10_best_1 15 rfl rfl)
theorem dX10_best_40 : decode cX10_best 40 = .ok (.invokevirtual 233, 3) := dk_182 0 233 (dk_at dksX10_best_1 16 rfl rfl)
theorem dX10_best_43 : decode cX10_best 43 = .ok (.istore 6, 2) := dk_54 6 (dk_at dksX10_best_1 19 rfl rfl)
theorem dX10_best_45 : decode cX10_best 45 = .ok (.iload 6, 2) := dk_21 6 (dk_at dksX10_best_1 21 rfl rfl)
theorem dX10_best_47 : decode cX10_best 47 = .ok (.iload 4, 2) := dk_21 4 (dk_at dksX10_best_2 0 rfl rfl)
theorem dX10_best_49 : decode cX10_best 49 = .ok (.if_icmp .le 10, 3) := dk_164 0 10 (dk_at dksX10_best_2 2 rfl rfl)
theorem dX10_best_52 : decode cX10_best 52 = .ok (.iload 5, 2) := dk_21 5 (dk_at dksX10_best_2 5 rfl rfl)
theorem dX10_best_54 : decode cX10_best 54 = .ok (.istore_n 3, 1) := dk_62 (dk_at dksX10_best_2 7 rfl rfl)
theorem dX10_best_55 : decode cX10_best 55 = .ok (.iload 6, 2) := dk_21 6 (dk_at dksX10_best_2 8 rfl rfl)
theorem dX10_best_57 : decode cX10_best 57 = .ok (.istore 4, 2) := dk_54 4 (dk_at dksX10_best_2 10 rfl rfl)
theorem dX10_best_59 : decode cX10_best 59 = .ok (.iinc 5 1, 3) := dk_132 5 1 (dk_at dksX10_best_2 12 rfl rfl)
theorem dX10_best_62 : decode cX10_best 62 = .ok (.goto (-38), 3) := dk_167 255 218 (dk_at dksX10_best_2 15 rfl rfl)
theorem dX10_best_65 : decode cX10_best 65 = .ok (.iload_n 3, 1) := dk_29 (dk_at dksX10_best_2 18 rfl rfl)
theorem dX10_best_66 : decode cX10_best 66 = .ok (.ifCond .ge 12, 3) := dk_156 0 12 (dk_at dksX10_best_2 19 rfl rfl)
theorem dX10_best_69 : decode cX10_best 69 = .ok (.aload_n 0, 1) := dk_42 (dk_at dksX10_best_2 22 rfl rfl)
theorem dX10_best_70 : decode cX10_best 70 = .ok (.ldc 139, 2) := dk_18 139 (dk_at dksX10_best_3 0 rfl rfl)
theorem dX10_best_72 : decode cX10_best 72 = .ok (.invokevirtual 88, 3) := dk_182 0 88 (dk_at dksX10_best_3 2 rfl rfl)
theorem dX10_best_75 : decode cX10_best 75 = .ok (.goto 4, 3) := dk_167 0 4 (dk_at dksX10_best_3 5 rfl rfl)
theorem dX10_best_78 : decode cX10_best 78 = .ok (.iload_n 3, 1) := dk_29 (dk_at dksX10_best_3 8 rfl rfl)
theorem dX10_best_79 : decode cX10_best 79 = .ok (.ireturn, 1) := dk_172 (dk_at dksX10_best_3 9 rfl rfl)
abbrev cX10_most : ByteArray := prog_37_method_63_code
def yX10_most : MethodName := ⟨RX10, "most", "(III)I"⟩
def dkwX10_most_2 : List UInt8 := [167, 0, 23, 29, 4, 160, 0, 11, 21, 4, 184, 0, 144, 167, 0, 10, 42, 180, 0, 45, 21, 4, 46, 172]
abbrev dktX10_most_2 : List UInt8 := dkwX10_most_2 ++ []
def dkwX10_most_1 : List UInt8 := [42, 27, 28, 182, 0, 253, 42, 182, 1, 0, 54, 4, 29, 154, 0, 12, 42, 21, 4, 182, 1, 3]
abbrev dktX10_most_1 : List UInt8 := dkwX10_most_1 ++ dktX10_most_2
def dkwX10_most_0 : List UInt8 := [27, 28, 184, 0, 250, 153, 0, 12, 29, 3, 5, 184, 0, 78, 154, 0, 10, 42, 18, 87, 182, 0, 88, 172]
abbrev dktX10_most_0 : List UInt8 := dkwX10_most_0 ++ dktX10_most_1
theorem dksX10_most_0 : cX10_most.data.toList.drop 0 = dktX10_most_0 := by decide +kernel
theorem dksX10_most_1 : cX10_most.data.toList.drop 24 = dktX10_most_1 := dk_seg dksX10_most_0 24 rfl rfl
theorem dksX10_most_2 : cX10_most.data.toList.drop 46 = dktX10_most_2 := dk_seg dksX10_most_1 22 rfl rfl
theorem dX10_most_0 : decode cX10_most 0 = .ok (.iload_n 1, 1) := dk_27 (dk_at dksX10_most_0 0 rfl rfl)
theorem dX10_most_1 : decode cX10_most 1 = .ok (.iload_n 2, 1) := dk_28 (dk_at dksX10_most_0 1 rfl rfl)
theorem dX10_most_2 : decode cX10_most 2 = .ok (.invokestatic 250, 3) := dk_184 0 250 (dk_at dksX10_most_0 2 rfl rfl)
theorem dX10_most_5 : decode cX10_most 5 = .ok (.ifCond .eq 12, 3) := dk_153 0 12 (dk_at dksX10_most_0 5 rfl rfl)
theorem dX10_most_8 : decode cX10_most 8 = .ok (.iload_n 3, 1) := dk_29 (dk_at dksX10_most_0 8 rfl rfl)
theorem dX10_most_9 : decode cX10_most 9 = .ok (.iconst 0, 1) := dk_3 (dk_at dksX10_most_0 9 rfl rfl)
theorem dX10_most_10 : decode cX10_most 10 = .ok (.iconst 2, 1) := dk_5 (dk_at dksX10_most_0 10 rfl rfl)
theorem dX10_most_11 : decode cX10_most 11 = .ok (.invokestatic 78, 3) := dk_184 0 78 (dk_at dksX10_most_0 11 rfl rfl)
theorem dX10_most_14 : decode cX10_most 14 = .ok (.ifCond .ne 10, 3) := dk_154 0 10 (dk_at dksX10_most_0 14 rfl rfl)
theorem dX10_most_17 : decode cX10_most 17 = .ok (.aload_n 0, 1) := dk_42 (dk_at dksX10_most_0 17 rfl rfl)
theorem dX10_most_18 : decode cX10_most 18 = .ok (.ldc 87, 2) := dk_18 87 (dk_at dksX10_most_0 18 rfl rfl)
theorem dX10_most_20 : decode cX10_most 20 = .ok (.invokevirtual 88, 3) := dk_182 0 88 (dk_at dksX10_most_0 20 rfl rfl)
theorem dX10_most_23 : decode cX10_most 23 = .ok (.ireturn, 1) := dk_172 (dk_at dksX10_most_0 23 rfl rfl)
theorem dX10_most_24 : decode cX10_most 24 = .ok (.aload_n 0, 1) := dk_42 (dk_at dksX10_most_1 0 rfl rfl)
theorem dX10_most_25 : decode cX10_most 25 = .ok (.iload_n 1, 1) := dk_27 (dk_at dksX10_most_1 1 rfl rfl)
theorem dX10_most_26 : decode cX10_most 26 = .ok (.iload_n 2, 1) := dk_28 (dk_at dksX10_most_1 2 rfl rfl)
theorem dX10_most_27 : decode cX10_most 27 = .ok (.invokevirtual 253, 3) := dk_182 0 253 (dk_at dksX10_most_1 3 rfl rfl)
theorem dX10_most_30 : decode cX10_most 30 = .ok (.aload_n 0, 1) := dk_42 (dk_at dksX10_most_1 6 rfl rfl)
theorem dX10_most_31 : decode cX10_most 31 = .ok (.invokevirtual 256, 3) := dk_182 1 0 (dk_at dksX10_most_1 7 rfl rfl)
theorem dX10_most_34 : decode cX10_most 34 = .ok (.istore 4, 2) := dk_54 4 (dk_at dksX10_most_1 10 rfl rfl)
theorem dX10_most_36 : decode cX10_most 36 = .ok (.iload_n 3, 1) := dk_29 (dk_at dksX10_most_1 12 rfl rfl)
theorem dX10_most_37 : decode cX10_most 37 = .ok (.ifCond .ne 12, 3) := dk_154 0 12 (dk_at dksX10_most_1 13 rfl rfl)
theorem dX10_most_40 : decode cX10_most 40 = .ok (.aload_n 0, 1) := dk_42 (dk_at dksX10_most_1 16 rfl rfl)
theorem dX10_most_41 : decode cX10_most 41 = .ok (.iload 4, 2) := dk_21 4 (dk_at dksX10_most_1 17 rfl rfl)
theorem dX10_most_43 : decode cX10_most 43 = .ok (.invokevirtual 259, 3) := dk_182 1 3 (dk_at dksX10_most_1 19 rfl rfl)
theorem dX10_most_46 : decode cX10_most 46 = .ok (.goto 23, 3) := dk_167 0 23 (dk_at dksX10_most_2 0 rfl rfl)
theorem dX10_most_49 : decode cX10_most 49 = .ok (.iload_n 3, 1) := dk_29 (dk_at dksX10_most_2 3 rfl rfl)
theorem dX10_most_50 : decode cX10_most 50 = .ok (.iconst 1, 1) := dk_4 (dk_at dksX10_most_2 4 rfl rfl)
theorem dX10_most_51 : decode cX10_most 51 = .ok (.if_icmp .ne 11, 3) := dk_160 0 11 (dk_at dksX10_most_2 5 rfl rfl)
theorem dX10_most_54 : decode cX10_most 54 = .ok (.iload 4, 2) := dk_21 4 (dk_at dksX10_most_2 8 rfl rfl)
theorem dX10_most_56 : decode cX10_most 56 = .ok (.invokestatic 144, 3) := dk_184 0 144 (dk_at dksX10_most_2 10 rfl rfl)
theorem dX10_most_59 : decode cX10_most 59 = .ok (.goto 10, 3) := dk_167 0 10 (dk_at dksX10_most_2 13 rfl rfl)
theorem dX10_most_62 : decode cX10_most 62 = .ok (.aload_n 0, 1) := dk_42 (dk_at dksX10_most_2 16 rfl rfl)
theorem dX10_most_63 : decode cX10_most 63 = .ok (.getfield 45, 3) := dk_180 0 45 (dk_at dksX10_most_2 17 rfl rfl)
theorem dX10_most_66 : decode cX10_most 66 = .ok (.iload 4, 2) := dk_21 4 (dk_at dksX10_most_2 20 rfl rfl)
theorem dX10_most_68 : decode cX10_most 68 = .ok (.iaload, 1) := dk_46 (dk_at dksX10_most_2 22 rfl rfl)
theorem dX10_most_69 : decode cX10_most 69 = .ok (.ireturn, 1) := dk_172 (dk_at dksX10_most_2 23 rfl rfl)
abbrev cX10_isHatch : ByteArray := prog_37_method_62_code
def yX10_isHatch : MethodName := ⟨RX10, "isHatch", "(II)Z"⟩
def dkwX10_isHatch_0 : List UInt8 := [26, 184, 0, 92, 153, 0, 18, 27, 4, 17, 2, 88, 184, 0, 78, 153, 0, 7, 4, 167, 0, 4, 3, 172]
abbrev dktX10_isHatch_0 : List UInt8 := dkwX10_isHatch_0 ++ []
theorem dksX10_isHatch_0 : cX10_isHatch.data.toList.drop 0 = dktX10_isHatch_0 := by decide +kernel
theorem dX10_isHatch_0 : decode cX10_isHatch 0 = .ok (.iload_n 0, 1) := dk_26 (dk_at dksX10_isHatch_0 0 rfl rfl)
theorem dX10_isHatch_1 : decode cX10_isHatch 1 = .ok (.invokestatic 92, 3) := dk_184 0 92 (dk_at dksX10_isHatch_0 1 rfl rfl)
theorem dX10_isHatch_4 : decode cX10_isHatch 4 = .ok (.ifCond .eq 18, 3) := dk_153 0 18 (dk_at dksX10_isHatch_0 4 rfl rfl)
theorem dX10_isHatch_7 : decode cX10_isHatch 7 = .ok (.iload_n 1, 1) := dk_27 (dk_at dksX10_isHatch_0 7 rfl rfl)
theorem dX10_isHatch_8 : decode cX10_isHatch 8 = .ok (.iconst 1, 1) := dk_4 (dk_at dksX10_isHatch_0 8 rfl rfl)
theorem dX10_isHatch_9 : decode cX10_isHatch 9 = .ok (.sipush 600, 3) := dk_17 2 88 (dk_at dksX10_isHatch_0 9 rfl rfl)
theorem dX10_isHatch_12 : decode cX10_isHatch 12 = .ok (.invokestatic 78, 3) := dk_184 0 78 (dk_at dksX10_isHatch_0 12 rfl rfl)
theorem dX10_isHatch_15 : decode cX10_isHatch 15 = .ok (.ifCond .eq 7, 3) := dk_153 0 7 (dk_at dksX10_isHatch_0 15 rfl rfl)
theorem dX10_isHatch_18 : decode cX10_isHatch 18 = .ok (.iconst 1, 1) := dk_4 (dk_at dksX10_isHatch_0 18 rfl rfl)
theorem dX10_isHatch_19 : decode cX10_isHatch 19 = .ok (.goto 4, 3) := dk_167 0 4 (dk_at dksX10_isHatch_0 19 rfl rfl)
theorem dX10_isHatch_22 : decode cX10_isHatch 22 = .ok (.iconst 0, 1) := dk_3 (dk_at dksX10_isHatch_0 22 rfl rfl)
theorem dX10_isHatch_23 : decode cX10_isHatch 23 = .ok (.ireturn, 1) := dk_172 (dk_at dksX10_isHatch_0 23 rfl rfl)
abbrev cX10_findTurns : ByteArray := prog_37_method_59_code
def yX10_findTurns : MethodName := ⟨RX10, "findTurns", "(II)V"⟩
def dkwX10_findTurns_6 : List UInt8 := [132, 4, 1, 167, 255, 148, 132, 3, 1, 167, 255, 121, 177]
abbrev dktX10_findTurns_6 : List UInt8 := dkwX10_findTurns_6 ++ []
def dkwX10_findTurns_5 : List UInt8 := [182, 0, 246, 153, 0, 13, 42, 180, 0, 45, 29, 21, 6, 4, 96, 79, 132, 5, 1, 167, 255, 167]
abbrev dktX10_findTurns_5 : List UInt8 := dkwX10_findTurns_5 ++ dktX10_findTurns_6
def dkwX10_findTurns_4 : List UInt8 := [21, 6, 4, 96, 42, 180, 0, 45, 29, 46, 162, 0, 29, 42, 21, 4, 21, 5, 21, 6, 4, 96, 28]
abbrev dktX10_findTurns_4 : List UInt8 := dkwX10_findTurns_4 ++ dktX10_findTurns_5
def dkwX10_findTurns_3 : List UInt8 := [21, 4, 120, 4, 21, 5, 120, 128, 2, 130, 126, 46, 54, 6, 29, 21, 5, 184, 0, 243, 153, 0, 42]
abbrev dktX10_findTurns_3 : List UInt8 := dkwX10_findTurns_3 ++ dktX10_findTurns_4
def dkwX10_findTurns_2 : List UInt8 := [21, 5, 42, 180, 0, 236, 162, 0, 86, 29, 21, 4, 184, 0, 243, 153, 0, 77, 42, 180, 0, 45, 29, 4]
abbrev dktX10_findTurns_2 : List UInt8 := dkwX10_findTurns_2 ++ dktX10_findTurns_3
def dkwX10_findTurns_1 : List UInt8 := [42, 180, 0, 45, 29, 18, 242, 79, 3, 54, 4, 21, 4, 42, 180, 0, 236, 162, 0, 105, 21, 4, 54, 5]
abbrev dktX10_findTurns_1 : List UInt8 := dkwX10_findTurns_1 ++ dktX10_findTurns_2
def dkwX10_findTurns_0 : List UInt8 := [42, 27, 182, 0, 239, 42, 180, 0, 45, 3, 3, 79, 4, 62, 29, 4, 42, 180, 0, 236, 120, 162, 0, 131]
abbrev dktX10_findTurns_0 : List UInt8 := dkwX10_findTurns_0 ++ dktX10_findTurns_1
theorem dksX10_findTurns_0 : cX10_findTurns.data.toList.drop 0 = dktX10_findTurns_0 := by decide +kernel
theorem dksX10_findTurns_1 : cX10_findTurns.data.toList.drop 24 = dktX10_findTurns_1 := dk_seg dksX10_findTurns_0 24 rfl rfl
theorem dksX10_findTurns_2 : cX10_findTurns.data.toList.drop 48 = dktX10_findTurns_2 := dk_seg dksX10_findTurns_1 24 rfl rfl
theorem dksX10_findTurns_3 : cX10_findTurns.data.toList.drop 72 = dktX10_findTurns_3 := dk_seg dksX10_findTurns_2 24 rfl rfl
theorem dksX10_findTurns_4 : cX10_findTurns.data.toList.drop 95 = dktX10_findTurns_4 := dk_seg dksX10_findTurns_3 23 rfl rfl
theorem dksX10_findTurns_5 : cX10_findTurns.data.toList.drop 118 = dktX10_findTurns_5 := dk_seg dksX10_findTurns_4 23 rfl rfl
theorem dksX10_findTurns_6 : cX10_findTurns.data.toList.drop 140 = dktX10_findTurns_6 := dk_seg dksX10_findTurns_5 22 rfl rfl
theorem dX10_findTurns_0 : decode cX10_findTurns 0 = .ok (.aload_n 0, 1) := dk_42 (dk_at dksX10_findTurns_0 0 rfl rfl)
theorem dX10_findTurns_1 : decode cX10_findTurns 1 = .ok (.iload_n 1, 1) := dk_27 (dk_at dksX10_findTurns_0 1 rfl rfl)
theorem dX10_findTurns_2 : decode cX10_findTurns 2 = .ok (.invokevirtual 239, 3) := dk_182 0 239 (dk_at dksX10_findTurns_0 2 rfl rfl)
theorem dX10_findTurns_5 : decode cX10_findTurns 5 = .ok (.aload_n 0, 1) := dk_42 (dk_at dksX10_findTurns_0 5 rfl rfl)
theorem dX10_findTurns_6 : decode cX10_findTurns 6 = .ok (.getfield 45, 3) := dk_180 0 45 (dk_at dksX10_findTurns_0 6 rfl rfl)
theorem dX10_findTurns_9 : decode cX10_findTurns 9 = .ok (.iconst 0, 1) := dk_3 (dk_at dksX10_findTurns_0 9 rfl rfl)
theorem dX10_findTurns_10 : decode cX10_findTurns 10 = .ok (.iconst 0, 1) := dk_3 (dk_at dksX10_findTurns_0 10 rfl rfl)
theorem dX10_findTurns_11 : decode cX10_findTurns 11 = .ok (.iastore, 1) := dk_79 (dk_at dksX10_findTurns_0 11 rfl rfl)
theorem dX10_findTurns_12 : decode cX10_findTurns 12 = .ok (.iconst 1, 1) := dk_4 (dk_at dksX10_findTurns_0 12 rfl rfl)
theorem dX10_findTurns_13 : decode cX10_findTurns 13 = .ok (.istore_n 3, 1) := dk_62 (dk_at dksX10_findTurns_0 13 rfl rfl)
theorem dX10_findTurns_14 : decode cX10_findTurns 14 = .ok (.iload_n 3, 1) := dk_29 (dk_at dksX10_findTurns_0 14 rfl rfl)
theorem dX10_findTurns_15 : decode cX10_findTurns 15 = .ok (.iconst 1, 1) := dk_4 (dk_at dksX10_findTurns_0 15 rfl rfl)
theorem dX10_findTurns_16 : decode cX10_findTurns 16 = .ok (.aload_n 0, 1) := dk_42 (dk_at dksX10_findTurns_0 16 rfl rfl)
theorem dX10_findTurns_17 : decode cX10_findTurns 17 = .ok (.getfield 236, 3) := dk_180 0 236 (dk_at dksX10_findTurns_0 17 rfl rfl)
theorem dX10_findTurns_20 : decode cX10_findTurns 20 = .ok (.ishl, 1) := dk_120 (dk_at dksX10_findTurns_0 20 rfl rfl)
theorem dX10_findTurns_21 : decode cX10_findTurns 21 = .ok (.if_icmp .ge 131, 3) := dk_162 0 131 (dk_at dksX10_findTurns_0 21 rfl rfl)
theorem dX10_findTurns_24 : decode cX10_findTurns 24 = .ok (.aload_n 0, 1) := dk_42 (dk_at dksX10_findTurns_1 0 rfl rfl)
theorem dX10_findTurns_25 : decode cX10_findTurns 25 = .ok (.getfield 45, 3) := dk_180 0 45 (dk_at dksX10_findTurns_1 1 rfl rfl)
theorem dX10_findTurns_28 : decode cX10_findTurns 28 = .ok (.iload_n 3, 1) := dk_29 (dk_at dksX10_findTurns_1 4 rfl rfl)
theorem dX10_findTurns_29 : decode cX10_findTurns 29 = .ok (.ldc 242, 2) := dk_18 242 (dk_at dksX10_findTurns_1 5 rfl rfl)
theorem dX10_findTurns_31 : decode cX10_findTurns 31 = .ok (.iastore, 1) := dk_79 (dk_at dksX10_findTurns_1 7 rfl rfl)
theorem dX10_findTurns_32 : decode cX10_findTurns 32 = .ok (.iconst 0, 1) := dk_3 (dk_at dksX10_findTurns_1 8 rfl rfl)
theorem dX10_findTurns_33 : decode cX10_findTurns 33 = .ok (.istore 4, 2) := dk_54 4 (dk_at dksX10_findTurns_1 9 rfl rfl)
theorem dX10_findTurns_35 : decode cX10_findTurns 35 = .ok (.iload 4, 2) := dk_21 4 (dk_at dksX10_findTurns_1 11 rfl rfl)
theorem dX10_findTurns_37 : decode cX10_findTurns 37 = .ok (.aload_n 0, 1) := dk_42 (dk_at dksX10_findTurns_1 13 rfl rfl)
theorem dX10_findTurns_38 : decode cX10_findTurns 38 = .ok (.getfield 236, 3) := dk_180 0 236 (dk_at dksX10_findTurns_1 14 rfl rfl)
theorem dX10_findTurns_41 : decode cX10_findTurns 41 = .ok (.if_icmp .ge 105, 3) := dk_162 0 105 (dk_at dksX10_findTurns_1 17 rfl rfl)
theorem dX10_findTurns_44 : decode cX10_findTurns 44 = .ok (.iload 4, 2) := dk_21 4 (dk_at dksX10_findTurns_1 20 rfl rfl)
theorem dX10_findTurns_46 : decode cX10_findTurns 46 = .ok (.istore 5, 2) := dk_54 5 (dk_at dksX10_findTurns_1 22 rfl rfl)
theorem dX10_findTurns_48 : decode cX10_findTurns 48 = .ok (.iload 5, 2) := dk_21 5 (dk_at dksX10_findTurns_2 0 rfl rfl)
theorem dX10_findTurns_50 : decode cX10_findTurns 50 = .ok (.aload_n 0, 1) := dk_42 (dk_at dksX10_findTurns_2 2 rfl rfl)
theorem dX10_findTurns_51 : decode cX10_findTurns 51 = .ok (.getfield 236, 3) := dk_180 0 236 (dk_at dksX10_findTurns_2 3 rfl rfl)
theorem dX10_findTurns_54 : decode cX10_findTurns 54 = .ok (.if_icmp .ge 86, 3) := dk_162 0 86 (dk_at dksX10_findTurns_2 6 rfl rfl)
theorem dX10_findTurns_57 : decode cX10_findTurns 57 = .ok (.iload_n 3, 1) := dk_29 (dk_at dksX10_findTurns_2 9 rfl rfl)
theorem dX10_findTurns_58 : decode cX10_findTurns 58 = .ok (.iload 4, 2) := dk_21 4 (dk_at dksX10_findTurns_2 10 rfl rfl)
theorem dX10_findTurns_60 : decode cX10_findTurns 60 = .ok (.invokestatic 243, 3) := dk_184 0 243 (dk_at dksX10_findTurns_2 12 rfl rfl)
theorem dX10_findTurns_63 : decode cX10_findTurns 63 = .ok (.ifCond .eq 77, 3) := dk_153 0 77 (dk_at dksX10_findTurns_2 15 rfl rfl)
theorem dX10_findTurns_66 : decode cX10_findTurns 66 = .ok (.aload_n 0, 1) := dk_42 (dk_at dksX10_findTurns_2 18 rfl rfl)
theorem dX10_findTurns_67 : decode cX10_findTurns 67 = .ok (.getfield 45, 3) := dk_180 0 45 (dk_at dksX10_findTurns_2 19 rfl rfl)
theorem dX10_findTurns_70 : decode cX10_findTurns 70 = .ok (.iload_n 3, 1) := dk_29 (dk_at dksX10_findTurns_2 22 rfl rfl)
theorem dX10_findTurns_71 : decode cX10_findTurns 71 = .ok (.iconst 1, 1) := dk_4 (dk_at dksX10_findTurns_2 23 rfl rfl)
theorem dX10_findTurns_72 : decode cX10_findTurns 72 = .ok (.iload 4, 2) := dk_21 4 (dk_at dksX10_findTurns_3 0 rfl rfl)
theorem dX10_findTurns_74 : decode cX10_findTurns 74 = .ok (.ishl, 1) := dk_120 (dk_at dksX10_findTurns_3 2 rfl rfl)
theorem dX10_findTurns_75 : decode cX10_findTurns 75 = .ok (.iconst 1, 1) := dk_4 (dk_at dksX10_findTurns_3 3 rfl rfl)
theorem dX10_findTurns_76 : decode cX10_findTurns 76 = .ok (.iload 5, 2) := dk_21 5 (dk_at dksX10_findTurns_3 4 rfl rfl)
theorem dX10_findTurns_78 : decode cX10_findTurns 78 = .ok (.ishl, 1) := dk_120 (dk_at dksX10_findTurns_3 6 rfl rfl)
theorem dX10_findTurns_79 : decode cX10_findTurns 79 = .ok (.ior, 1) := dk_128 (dk_at dksX10_findTurns_3 7 rfl rfl)
theorem dX10_findTurns_80 : decode cX10_findTurns 80 = .ok (.iconst (-1), 1) := dk_2 (dk_at dksX10_findTurns_3 8 rfl rfl)
theorem dX10_findTurns_81 : decode cX10_findTurns 81 = .ok (.ixor, 1) := dk_130 (dk_at dksX10_findTurns_3 9 rfl rfl)
theorem dX10_findTurns_82 : decode cX10_findTurns 82 = .ok (.iand, 1) := dk_126 (dk_at dksX10_findTurns_3 10 rfl rfl)
theorem dX10_findTurns_83 : decode cX10_findTurns 83 = .ok (.iaload, 1) := dk_46 (dk_at dksX10_findTurns_3 11 rfl rfl)
theorem dX10_findTurns_84 : decode cX10_findTurns 84 = .ok (.istore 6, 2) := dk_54 6 (dk_at dksX10_findTurns_3 12 rfl rfl)
theorem dX10_findTurns_86 : decode cX10_findTurns 86 = .ok (.iload_n 3, 1) := dk_29 (dk_at dksX10_findTurns_3 14 rfl rfl)
theorem dX10_findTurns_87 : decode cX10_findTurns 87 = .ok (.iload 5, 2) := dk_21 5 (dk_at dksX10_findTurns_3 15 rfl rfl)
theorem dX10_findTurns_89 : decode cX10_findTurns 89 = .ok (.invokestatic 243, 3) := dk_184 0 243 (dk_at dksX10_findTurns_3 17 rfl rfl)
theorem dX10_findTurns_92 : decode cX10_findTurns 92 = .ok (.ifCond .eq 42, 3) := dk_153 0 42 (dk_at dksX10_findTurns_3 20 rfl rfl)
theorem dX10_findTurns_95 : decode cX10_findTurns 95 = .ok (.iload 6, 2) := dk_21 6 (dk_at dksX10_findTurns_4 0 rfl rfl)
theorem dX10_findTurns_97 : decode cX10_findTurns 97 = .ok (.iconst 1, 1) := dk_4 (dk_at dksX10_findTurns_4 2 rfl rfl)
theorem dX10_findTurns_98 : decode cX10_findTurns 98 = .ok (.iadd, 1) := dk_96 (dk_at dksX10_findTurns_4 3 rfl rfl)
theorem dX10_findTurns_99 : decode cX10_findTurns 99 = .ok (.aload_n 0, 1) := dk_42 (dk_at dksX10_findTurns_4 4 rfl rfl)
theorem dX10_findTurns_100 : decode cX10_findTurns 100 = .ok (.getfield 45, 3) := dk_180 0 45 (dk_at dksX10_findTurns_4 5 rfl rfl)
theorem dX10_findTurns_103 : decode cX10_findTurns 103 = .ok (.iload_n 3, 1) := dk_29 (dk_at dksX10_findTurns_4 8 rfl rfl)
theorem dX10_findTurns_104 : decode cX10_findTurns 104 = .ok (.iaload, 1) := dk_46 (dk_at dksX10_findTurns_4 9 rfl rfl)
theorem dX10_findTurns_105 : decode cX10_findTurns 105 = .ok (.if_icmp .ge 29, 3) := dk_162 0 29 (dk_at dksX10_findTurns_4 10 rfl rfl)
theorem dX10_findTurns_108 : decode cX10_findTurns 108 = .ok (.aload_n 0, 1) := dk_42 (dk_at dksX10_findTurns_4 13 rfl rfl)
theorem dX10_findTurns_109 : decode cX10_findTurns 109 = .ok (.iload 4, 2) := dk_21 4 (dk_at dksX10_findTurns_4 14 rfl rfl)
theorem dX10_findTurns_111 : decode cX10_findTurns 111 = .ok (.iload 5, 2) := dk_21 5 (dk_at dksX10_findTurns_4 16 rfl rfl)
theorem dX10_findTurns_113 : decode cX10_findTurns 113 = .ok (.iload 6, 2) := dk_21 6 (dk_at dksX10_findTurns_4 18 rfl rfl)
theorem dX10_findTurns_115 : decode cX10_findTurns 115 = .ok (.iconst 1, 1) := dk_4 (dk_at dksX10_findTurns_4 20 rfl rfl)
theorem dX10_findTurns_116 : decode cX10_findTurns 116 = .ok (.iadd, 1) := dk_96 (dk_at dksX10_findTurns_4 21 rfl rfl)
theorem dX10_findTurns_117 : decode cX10_findTurns 117 = .ok (.iload_n 2, 1) := dk_28 (dk_at dksX10_findTurns_4 22 rfl rfl)
theorem dX10_findTurns_118 : decode cX10_findTurns 118 = .ok (.invokevirtual 246, 3) := dk_182 0 246 (dk_at dksX10_findTurns_5 0 rfl rfl)
theorem dX10_findTurns_121 : decode cX10_findTurns 121 = .ok (.ifCond .eq 13, 3) := dk_153 0 13 (dk_at dksX10_findTurns_5 3 rfl rfl)
theorem dX10_findTurns_124 : decode cX10_findTurns 124 = .ok (.aload_n 0, 1) := dk_42 (dk_at dksX10_findTurns_5 6 rfl rfl)
theorem dX10_findTurns_125 : decode cX10_findTurns 125 = .ok (.getfield 45, 3) := dk_180 0 45 (dk_at dksX10_findTurns_5 7 rfl rfl)
theorem dX10_findTurns_128 : decode cX10_findTurns 128 = .ok (.iload_n 3, 1) := dk_29 (dk_at dksX10_findTurns_5 10 rfl rfl)
theorem dX10_findTurns_129 : decode cX10_findTurns 129 = .ok (.iload 6, 2) := dk_21 6 (dk_at dksX10_findTurns_5 11 rfl rfl)
theorem dX10_findTurns_131 : decode cX10_findTurns 131 = .ok (.iconst 1, 1) := dk_4 (dk_at dksX10_findTurns_5 13 rfl rfl)
theorem dX10_findTurns_132 : decode cX10_findTurns 132 = .ok (.iadd, 1) := dk_96 (dk_at dksX10_findTurns_5 14 rfl rfl)
theorem dX10_findTurns_133 : decode cX10_findTurns 133 = .ok (.iastore, 1) := dk_79 (dk_at dksX10_findTurns_5 15 rfl rfl)
theorem dX10_findTurns_134 : decode cX10_findTurns 134 = .ok (.iinc 5 1, 3) := dk_132 5 1 (dk_at dksX10_findTurns_5 16 rfl rfl)
theorem dX10_findTurns_137 : decode cX10_findTurns 137 = .ok (.goto (-89), 3) := dk_167 255 167 (dk_at dksX10_findTurns_5 19 rfl rfl)
theorem dX10_findTurns_140 : decode cX10_findTurns 140 = .ok (.iinc 4 1, 3) := dk_132 4 1 (dk_at dksX10_findTurns_6 0 rfl rfl)
theorem dX10_findTurns_143 : decode cX10_findTurns 143 = .ok (.goto (-108), 3) := dk_167 255 148 (dk_at dksX10_findTurns_6 3 rfl rfl)
theorem dX10_findTurns_146 : decode cX10_findTurns 146 = .ok (.iinc 3 1, 3) := dk_132 3 1 (dk_at dksX10_findTurns_6 6 rfl rfl)
theorem dX10_findTurns_149 : decode cX10_findTurns 149 = .ok (.goto (-135), 3) := dk_167 255 121 (dk_at dksX10_findTurns_6 9 rfl rfl)
theorem dX10_findTurns_152 : decode cX10_findTurns 152 = .ok (.return_, 1) := dk_177 (dk_at dksX10_findTurns_6 12 rfl rfl)
abbrev cX10_findWho : ByteArray := prog_37_method_57_code
def yX10_findWho : MethodName := ⟨RX10, "findWho", "(I)V"⟩
def dkwX10_findWho_2 : List UInt8 := [89, 180, 0, 236, 4, 96, 181, 0, 236, 132, 2, 1, 167, 255, 204, 177]
abbrev dktX10_findWho_2 : List UInt8 := dkwX10_findWho_2 ++ []
def dkwX10_findWho_1 : List UInt8 := [162, 0, 39, 42, 28, 3, 182, 0, 105, 27, 160, 0, 23, 42, 180, 0, 42, 42, 180, 0, 236, 28, 79, 42]
abbrev dktX10_findWho_1 : List UInt8 := dkwX10_findWho_1 ++ dktX10_findWho_2
def dkwX10_findWho_0 : List UInt8 := [42, 3, 181, 0, 236, 3, 61, 28, 42, 180, 0, 9, 4, 46, 162, 0, 48, 42, 180, 0, 236, 16, 10]
abbrev dktX10_findWho_0 : List UInt8 := dkwX10_findWho_0 ++ dktX10_findWho_1
theorem dksX10_findWho_0 : cX10_findWho.data.toList.drop 0 = dktX10_findWho_0 := by decide +kernel
theorem dksX10_findWho_1 : cX10_findWho.data.toList.drop 23 = dktX10_findWho_1 := dk_seg dksX10_findWho_0 23 rfl rfl
theorem dksX10_findWho_2 : cX10_findWho.data.toList.drop 47 = dktX10_findWho_2 := dk_seg dksX10_findWho_1 24 rfl rfl
theorem dX10_findWho_0 : decode cX10_findWho 0 = .ok (.aload_n 0, 1) := dk_42 (dk_at dksX10_findWho_0 0 rfl rfl)
theorem dX10_findWho_1 : decode cX10_findWho 1 = .ok (.iconst 0, 1) := dk_3 (dk_at dksX10_findWho_0 1 rfl rfl)
theorem dX10_findWho_2 : decode cX10_findWho 2 = .ok (.putfield 236, 3) := dk_181 0 236 (dk_at dksX10_findWho_0 2 rfl rfl)
theorem dX10_findWho_5 : decode cX10_findWho 5 = .ok (.iconst 0, 1) := dk_3 (dk_at dksX10_findWho_0 5 rfl rfl)
theorem dX10_findWho_6 : decode cX10_findWho 6 = .ok (.istore_n 2, 1) := dk_61 (dk_at dksX10_findWho_0 6 rfl rfl)
theorem dX10_findWho_7 : decode cX10_findWho 7 = .ok (.iload_n 2, 1) := dk_28 (dk_at dksX10_findWho_0 7 rfl rfl)
theorem dX10_findWho_8 : decode cX10_findWho 8 = .ok (.aload_n 0, 1) := dk_42 (dk_at dksX10_findWho_0 8 rfl rfl)
theorem dX10_findWho_9 : decode cX10_findWho 9 = .ok (.getfield 9, 3) := dk_180 0 9 (dk_at dksX10_findWho_0 9 rfl rfl)
theorem dX10_findWho_12 : decode cX10_findWho 12 = .ok (.iconst 1, 1) := dk_4 (dk_at dksX10_findWho_0 12 rfl rfl)
theorem dX10_findWho_13 : decode cX10_findWho 13 = .ok (.iaload, 1) := dk_46 (dk_at dksX10_findWho_0 13 rfl rfl)
theorem dX10_findWho_14 : decode cX10_findWho 14 = .ok (.if_icmp .ge 48, 3) := dk_162 0 48 (dk_at dksX10_findWho_0 14 rfl rfl)
theorem dX10_findWho_17 : decode cX10_findWho 17 = .ok (.aload_n 0, 1) := dk_42 (dk_at dksX10_findWho_0 17 rfl rfl)
theorem dX10_findWho_18 : decode cX10_findWho 18 = .ok (.getfield 236, 3) := dk_180 0 236 (dk_at dksX10_findWho_0 18 rfl rfl)
theorem dX10_findWho_21 : decode cX10_findWho 21 = .ok (.bipush 10, 2) := dk_16 10 (dk_at dksX10_findWho_0 21 rfl rfl)
theorem dX10_findWho_23 : decode cX10_findWho 23 = .ok (.if_icmp .ge 39, 3) := dk_162 0 39 (dk_at dksX10_findWho_1 0 rfl rfl)
theorem dX10_findWho_26 : decode cX10_findWho 26 = .ok (.aload_n 0, 1) := dk_42 (dk_at dksX10_findWho_1 3 rfl rfl)
theorem dX10_findWho_27 : decode cX10_findWho 27 = .ok (.iload_n 2, 1) := dk_28 (dk_at dksX10_findWho_1 4 rfl rfl)
theorem dX10_findWho_28 : decode cX10_findWho 28 = .ok (.iconst 0, 1) := dk_3 (dk_at dksX10_findWho_1 5 rfl rfl)
theorem dX10_findWho_29 : decode cX10_findWho 29 = .ok (.invokevirtual 105, 3) := dk_182 0 105 (dk_at dksX10_findWho_1 6 rfl rfl)
theorem dX10_findWho_32 : decode cX10_findWho 32 = .ok (.iload_n 1, 1) := dk_27 (dk_at dksX10_findWho_1 9 rfl rfl)
theorem dX10_findWho_33 : decode cX10_findWho 33 = .ok (.if_icmp .ne 23, 3) := dk_160 0 23 (dk_at dksX10_findWho_1 10 rfl rfl)
theorem dX10_findWho_36 : decode cX10_findWho 36 = .ok (.aload_n 0, 1) := dk_42 (dk_at dksX10_findWho_1 13 rfl rfl)
theorem dX10_findWho_37 : decode cX10_findWho 37 = .ok (.getfield 42, 3) := dk_180 0 42 (dk_at dksX10_findWho_1 14 rfl rfl)
theorem dX10_findWho_40 : decode cX10_findWho 40 = .ok (.aload_n 0, 1) := dk_42 (dk_at dksX10_findWho_1 17 rfl rfl)
theorem dX10_findWho_41 : decode cX10_findWho 41 = .ok (.getfield 236, 3) := dk_180 0 236 (dk_at dksX10_findWho_1 18 rfl rfl)
theorem dX10_findWho_44 : decode cX10_findWho 44 = .ok (.iload_n 2, 1) := dk_28 (dk_at dksX10_findWho_1 21 rfl rfl)
theorem dX10_findWho_45 : decode cX10_findWho 45 = .ok (.iastore, 1) := dk_79 (dk_at dksX10_findWho_1 22 rfl rfl)
theorem dX10_findWho_46 : decode cX10_findWho 46 = .ok (.aload_n 0, 1) := dk_42 (dk_at dksX10_findWho_1 23 rfl rfl)
theorem dX10_findWho_47 : decode cX10_findWho 47 = .ok (.dup, 1) := dk_89 (dk_at dksX10_findWho_2 0 rfl rfl)
theorem dX10_findWho_48 : decode cX10_findWho 48 = .ok (.getfield 236, 3) := dk_180 0 236 (dk_at dksX10_findWho_2 1 rfl rfl)
theorem dX10_findWho_51 : decode cX10_findWho 51 = .ok (.iconst 1, 1) := dk_4 (dk_at dksX10_findWho_2 4 rfl rfl)
theorem dX10_findWho_52 : decode cX10_findWho 52 = .ok (.iadd, 1) := dk_96 (dk_at dksX10_findWho_2 5 rfl rfl)
theorem dX10_findWho_53 : decode cX10_findWho 53 = .ok (.putfield 236, 3) := dk_181 0 236 (dk_at dksX10_findWho_2 6 rfl rfl)
theorem dX10_findWho_56 : decode cX10_findWho 56 = .ok (.iinc 2 1, 3) := dk_132 2 1 (dk_at dksX10_findWho_2 9 rfl rfl)
theorem dX10_findWho_59 : decode cX10_findWho 59 = .ok (.goto (-52), 3) := dk_167 255 204 (dk_at dksX10_findWho_2 12 rfl rfl)
theorem dX10_findWho_62 : decode cX10_findWho 62 = .ok (.return_, 1) := dk_177 (dk_at dksX10_findWho_2 15 rfl rfl)
abbrev cX10_has : ByteArray := prog_37_method_6_code
def yX10_has : MethodName := ⟨RX10, "has", "(II)Z"⟩
def dkwX10_has_0 : List UInt8 := [26, 27, 122, 4, 126, 4, 160, 0, 7, 4, 167, 0, 4, 3, 172]
abbrev dktX10_has_0 : List UInt8 := dkwX10_has_0 ++ []
theorem dksX10_has_0 : cX10_has.data.toList.drop 0 = dktX10_has_0 := by decide +kernel
theorem dX10_has_0 : decode cX10_has 0 = .ok (.iload_n 0, 1) := dk_26 (dk_at dksX10_has_0 0 rfl rfl)
theorem dX10_has_1 : decode cX10_has 1 = .ok (.iload_n 1, 1) := dk_27 (dk_at dksX10_has_0 1 rfl rfl)
theorem dX10_has_2 : decode cX10_has 2 = .ok (.ishr, 1) := dk_122 (dk_at dksX10_has_0 2 rfl rfl)
theorem dX10_has_3 : decode cX10_has 3 = .ok (.iconst 1, 1) := dk_4 (dk_at dksX10_has_0 3 rfl rfl)
theorem dX10_has_4 : decode cX10_has 4 = .ok (.iand, 1) := dk_126 (dk_at dksX10_has_0 4 rfl rfl)
theorem dX10_has_5 : decode cX10_has 5 = .ok (.iconst 1, 1) := dk_4 (dk_at dksX10_has_0 5 rfl rfl)
theorem dX10_has_6 : decode cX10_has 6 = .ok (.if_icmp .ne 7, 3) := dk_160 0 7 (dk_at dksX10_has_0 6 rfl rfl)
theorem dX10_has_9 : decode cX10_has 9 = .ok (.iconst 1, 1) := dk_4 (dk_at dksX10_has_0 9 rfl rfl)
theorem dX10_has_10 : decode cX10_has 10 = .ok (.goto 4, 3) := dk_167 0 4 (dk_at dksX10_has_0 10 rfl rfl)
theorem dX10_has_13 : decode cX10_has 13 = .ok (.iconst 0, 1) := dk_3 (dk_at dksX10_has_0 13 rfl rfl)
theorem dX10_has_14 : decode cX10_has 14 = .ok (.ireturn, 1) := dk_172 (dk_at dksX10_has_0 14 rfl rfl)
abbrev cX10_canGo : ByteArray := prog_37_method_58_code
def yX10_canGo : MethodName := ⟨RX10, "canGo", "(IIII)Z"⟩
def dkwX10_canGo_3 : List UInt8 := [4, 167, 0, 4, 3, 172]
abbrev dktX10_canGo_3 : List UInt8 := dkwX10_canGo_3 ++ []
def dkwX10_canGo_2 : List UInt8 := [180, 0, 42, 27, 46, 6, 182, 0, 105, 42, 42, 180, 0, 42, 28, 46, 6, 182, 0, 105, 96, 158, 0, 7]
abbrev dktX10_canGo_2 : List UInt8 := dkwX10_canGo_2 ++ dktX10_canGo_3
def dkwX10_canGo_1 : List UInt8 := [21, 5, 161, 0, 49, 42, 42, 180, 0, 42, 28, 46, 7, 182, 0, 105, 21, 5, 161, 0, 33, 42, 42]
abbrev dktX10_canGo_1 : List UInt8 := dkwX10_canGo_1 ++ dktX10_canGo_2
def dkwX10_canGo_0 : List UInt8 := [42, 180, 0, 9, 3, 46, 29, 21, 4, 104, 96, 54, 5, 42, 42, 180, 0, 42, 27, 46, 7, 182, 0, 105]
abbrev dktX10_canGo_0 : List UInt8 := dkwX10_canGo_0 ++ dktX10_canGo_1
theorem dksX10_canGo_0 : cX10_canGo.data.toList.drop 0 = dktX10_canGo_0 := by decide +kernel
theorem dksX10_canGo_1 : cX10_canGo.data.toList.drop 24 = dktX10_canGo_1 := dk_seg dksX10_canGo_0 24 rfl rfl
theorem dksX10_canGo_2 : cX10_canGo.data.toList.drop 47 = dktX10_canGo_2 := dk_seg dksX10_canGo_1 23 rfl rfl
theorem dksX10_canGo_3 : cX10_canGo.data.toList.drop 71 = dktX10_canGo_3 := dk_seg dksX10_canGo_2 24 rfl rfl
theorem dX10_canGo_0 : decode cX10_canGo 0 = .ok (.aload_n 0, 1) := dk_42 (dk_at dksX10_canGo_0 0 rfl rfl)
theorem dX10_canGo_1 : decode cX10_canGo 1 = .ok (.getfield 9, 3) := dk_180 0 9 (dk_at dksX10_canGo_0 1 rfl rfl)
theorem dX10_canGo_4 : decode cX10_canGo 4 = .ok (.iconst 0, 1) := dk_3 (dk_at dksX10_canGo_0 4 rfl rfl)
theorem dX10_canGo_5 : decode cX10_canGo 5 = .ok (.iaload, 1) := dk_46 (dk_at dksX10_canGo_0 5 rfl rfl)
theorem dX10_canGo_6 : decode cX10_canGo 6 = .ok (.iload_n 3, 1) := dk_29 (dk_at dksX10_canGo_0 6 rfl rfl)
theorem dX10_canGo_7 : decode cX10_canGo 7 = .ok (.iload 4, 2) := dk_21 4 (dk_at dksX10_canGo_0 7 rfl rfl)
theorem dX10_canGo_9 : decode cX10_canGo 9 = .ok (.imul, 1) := dk_104 (dk_at dksX10_canGo_0 9 rfl rfl)
theorem dX10_canGo_10 : decode cX10_canGo 10 = .ok (.iadd, 1) := dk_96 (dk_at dksX10_canGo_0 10 rfl rfl)
theorem dX10_canGo_11 : decode cX10_canGo 11 = .ok (.istore 5, 2) := dk_54 5 (dk_at dksX10_canGo_0 11 rfl rfl)
theorem dX10_canGo_13 : decode cX10_canGo 13 = .ok (.aload_n 0, 1) := dk_42 (dk_at dksX10_canGo_0 13 rfl rfl)
theorem dX10_canGo_14 : decode cX10_canGo 14 = .ok (.aload_n 0, 1) := dk_42 (dk_at dksX10_canGo_0 14 rfl rfl)
theorem dX10_canGo_15 : decode cX10_canGo 15 = .ok (.getfield 42, 3) := dk_180 0 42 (dk_at dksX10_canGo_0 15 rfl rfl)
theorem dX10_canGo_18 : decode cX10_canGo 18 = .ok (.iload_n 1, 1) := dk_27 (dk_at dksX10_canGo_0 18 rfl rfl)
theorem dX10_canGo_19 : decode cX10_canGo 19 = .ok (.iaload, 1) := dk_46 (dk_at dksX10_canGo_0 19 rfl rfl)
theorem dX10_canGo_20 : decode cX10_canGo 20 = .ok (.iconst 4, 1) := dk_7 (dk_at dksX10_canGo_0 20 rfl rfl)
theorem dX10_canGo_21 : decode cX10_canGo 21 = .ok (.invokevirtual 105, 3) := dk_182 0 105 (dk_at dksX10_canGo_0 21 rfl rfl)
theorem dX10_canGo_24 : decode cX10_canGo 24 = .ok (.iload 5, 2) := dk_21 5 (dk_at dksX10_canGo_1 0 rfl rfl)
theorem dX10_canGo_26 : decode cX10_canGo 26 = .ok (.if_icmp .lt 49, 3) := dk_161 0 49 (dk_at dksX10_canGo_1 2 rfl rfl)
theorem dX10_canGo_29 : decode cX10_canGo 29 = .ok (.aload_n 0, 1) := dk_42 (dk_at dksX10_canGo_1 5 rfl rfl)
theorem dX10_canGo_30 : decode cX10_canGo 30 = .ok (.aload_n 0, 1) := dk_42 (dk_at dksX10_canGo_1 6 rfl rfl)
theorem dX10_canGo_31 : decode cX10_canGo 31 = .ok (.getfield 42, 3) := dk_180 0 42 (dk_at dksX10_canGo_1 7 rfl rfl)
theorem dX10_canGo_34 : decode cX10_canGo 34 = .ok (.iload_n 2, 1) := dk_28 (dk_at dksX10_canGo_1 10 rfl rfl)
theorem dX10_canGo_35 : decode cX10_canGo 35 = .ok (.iaload, 1) := dk_46 (dk_at dksX10_canGo_1 11 rfl rfl)
theorem dX10_canGo_36 : decode cX10_canGo 36 = .ok (.iconst 4, 1) := dk_7 (dk_at dksX10_canGo_1 12 rfl rfl)
theorem dX10_canGo_37 : decode cX10_canGo 37 = .ok (.invokevirtual 105, 3) := dk_182 0 105 (dk_at dksX10_canGo_1 13 rfl rfl)
theorem dX10_canGo_40 : decode cX10_canGo 40 = .ok (.iload 5, 2) := dk_21 5 (dk_at dksX10_canGo_1 16 rfl rfl)
theorem dX10_canGo_42 : decode cX10_canGo 42 = .ok (.if_icmp .lt 33, 3) := dk_161 0 33 (dk_at dksX10_canGo_1 18 rfl rfl)
theorem dX10_canGo_45 : decode cX10_canGo 45 = .ok (.aload_n 0, 1) := dk_42 (dk_at dksX10_canGo_1 21 rfl rfl)
theorem dX10_canGo_46 : decode cX10_canGo 46 = .ok (.aload_n 0, 1) := dk_42 (dk_at dksX10_canGo_1 22 rfl rfl)
theorem dX10_canGo_47 : decode cX10_canGo 47 = .ok (.getfield 42, 3) := dk_180 0 42 (dk_at dksX10_canGo_2 0 rfl rfl)
theorem dX10_canGo_50 : decode cX10_canGo 50 = .ok (.iload_n 1, 1) := dk_27 (dk_at dksX10_canGo_2 3 rfl rfl)
theorem dX10_canGo_51 : decode cX10_canGo 51 = .ok (.iaload, 1) := dk_46 (dk_at dksX10_canGo_2 4 rfl rfl)
theorem dX10_canGo_52 : decode cX10_canGo 52 = .ok (.iconst 3, 1) := dk_6 (dk_at dksX10_canGo_2 5 rfl rfl)
theorem dX10_canGo_53 : decode cX10_canGo 53 = .ok (.invokevirtual 105, 3) := dk_182 0 105 (dk_at dksX10_canGo_2 6 rfl rfl)
theorem dX10_canGo_56 : decode cX10_canGo 56 = .ok (.aload_n 0, 1) := dk_42 (dk_at dksX10_canGo_2 9 rfl rfl)
theorem dX10_canGo_57 : decode cX10_canGo 57 = .ok (.aload_n 0, 1) := dk_42 (dk_at dksX10_canGo_2 10 rfl rfl)
theorem dX10_canGo_58 : decode cX10_canGo 58 = .ok (.getfield 42, 3) := dk_180 0 42 (dk_at dksX10_canGo_2 11 rfl rfl)
theorem dX10_canGo_61 : decode cX10_canGo 61 = .ok (.iload_n 2, 1) := dk_28 (dk_at dksX10_canGo_2 14 rfl rfl)
theorem dX10_canGo_62 : decode cX10_canGo 62 = .ok (.iaload, 1) := dk_46 (dk_at dksX10_canGo_2 15 rfl rfl)
theorem dX10_canGo_63 : decode cX10_canGo 63 = .ok (.iconst 3, 1) := dk_6 (dk_at dksX10_canGo_2 16 rfl rfl)
theorem dX10_canGo_64 : decode cX10_canGo 64 = .ok (.invokevirtual 105, 3) := dk_182 0 105 (dk_at dksX10_canGo_2 17 rfl rfl)
theorem dX10_canGo_67 : decode cX10_canGo 67 = .ok (.iadd, 1) := dk_96 (dk_at dksX10_canGo_2 20 rfl rfl)
theorem dX10_canGo_68 : decode cX10_canGo 68 = .ok (.ifCond .le 7, 3) := dk_158 0 7 (dk_at dksX10_canGo_2 21 rfl rfl)
theorem dX10_canGo_71 : decode cX10_canGo 71 = .ok (.iconst 1, 1) := dk_4 (dk_at dksX10_canGo_3 0 rfl rfl)
theorem dX10_canGo_72 : decode cX10_canGo 72 = .ok (.goto 4, 3) := dk_167 0 4 (dk_at dksX10_canGo_3 1 rfl rfl)
theorem dX10_canGo_75 : decode cX10_canGo 75 = .ok (.iconst 0, 1) := dk_3 (dk_at dksX10_canGo_3 4 rfl rfl)
theorem dX10_canGo_76 : decode cX10_canGo 76 = .ok (.ireturn, 1) := dk_172 (dk_at dksX10_canGo_3 5 rfl rfl)
abbrev cX10_mostOf : ByteArray := prog_37_method_60_code
def yX10_mostOf : MethodName := ⟨RX10, "mostOf", "()I"⟩
def dkwX10_mostOf_2 : List UInt8 := [46, 42, 180, 0, 45, 27, 46, 162, 0, 5, 28, 60, 132, 2, 1, 167, 255, 197, 27, 172]
abbrev dktX10_mostOf_2 : List UInt8 := dkwX10_mostOf_2 ++ []
def dkwX10_mostOf_1 : List UInt8 := [42, 180, 0, 45, 28, 46, 18, 242, 162, 0, 28, 29, 157, 0, 22, 29, 154, 0, 20, 42, 180, 0, 45, 28]
abbrev dktX10_mostOf_1 : List UInt8 := dkwX10_mostOf_1 ++ dktX10_mostOf_2
def dkwX10_mostOf_0 : List UInt8 := [3, 60, 4, 61, 28, 4, 42, 180, 0, 236, 120, 162, 0, 55, 28, 184, 0, 144, 27, 184, 0, 144, 100, 62]
abbrev dktX10_mostOf_0 : List UInt8 := dkwX10_mostOf_0 ++ dktX10_mostOf_1
theorem dksX10_mostOf_0 : cX10_mostOf.data.toList.drop 0 = dktX10_mostOf_0 := by decide +kernel
theorem dksX10_mostOf_1 : cX10_mostOf.data.toList.drop 24 = dktX10_mostOf_1 := dk_seg dksX10_mostOf_0 24 rfl rfl
theorem dksX10_mostOf_2 : cX10_mostOf.data.toList.drop 48 = dktX10_mostOf_2 := dk_seg dksX10_mostOf_1 24 rfl rfl
theorem dX10_mostOf_0 : decode cX10_mostOf 0 = .ok (.iconst 0, 1) := dk_3 (dk_at dksX10_mostOf_0 0 rfl rfl)
theorem dX10_mostOf_1 : decode cX10_mostOf 1 = .ok (.istore_n 1, 1) := dk_60 (dk_at dksX10_mostOf_0 1 rfl rfl)
theorem dX10_mostOf_2 : decode cX10_mostOf 2 = .ok (.iconst 1, 1) := dk_4 (dk_at dksX10_mostOf_0 2 rfl rfl)
theorem dX10_mostOf_3 : decode cX10_mostOf 3 = .ok (.istore_n 2, 1) := dk_61 (dk_at dksX10_mostOf_0 3 rfl rfl)
theorem dX10_mostOf_4 : decode cX10_mostOf 4 = .ok (.iload_n 2, 1) := dk_28 (dk_at dksX10_mostOf_0 4 rfl rfl)
theorem dX10_mostOf_5 : decode cX10_mostOf 5 = .ok (.iconst 1, 1) := dk_4 (dk_at dksX10_mostOf_0 5 rfl rfl)
theorem dX10_mostOf_6 : decode cX10_mostOf 6 = .ok (.aload_n 0, 1) := dk_42 (dk_at dksX10_mostOf_0 6 rfl rfl)
theorem dX10_mostOf_7 : decode cX10_mostOf 7 = .ok (.getfield 236, 3) := dk_180 0 236 (dk_at dksX10_mostOf_0 7 rfl rfl)
theorem dX10_mostOf_10 : decode cX10_mostOf 10 = .ok (.ishl, 1) := dk_120 (dk_at dksX10_mostOf_0 10 rfl rfl)
theorem dX10_mostOf_11 : decode cX10_mostOf 11 = .ok (.if_icmp .ge 55, 3) := dk_162 0 55 (dk_at dksX10_mostOf_0 11 rfl rfl)
theorem dX10_mostOf_14 : decode cX10_mostOf 14 = .ok (.iload_n 2, 1) := dk_28 (dk_at dksX10_mostOf_0 14 rfl rfl)
theorem dX10_mostOf_15 : decode cX10_mostOf 15 = .ok (.invokestatic 144, 3) := dk_184 0 144 (dk_at dksX10_mostOf_0 15 rfl rfl)
theorem dX10_mostOf_18 : decode cX10_mostOf 18 = .ok (.iload_n 1, 1) := dk_27 (dk_at dksX10_mostOf_0 18 rfl rfl)
theorem dX10_mostOf_19 : decode cX10_mostOf 19 = .ok (.invokestatic 144, 3) := dk_184 0 144 (dk_at dksX10_mostOf_0 19 rfl rfl)
theorem dX10_mostOf_22 : decode cX10_mostOf 22 = .ok (.isub, 1) := dk_100 (dk_at dksX10_mostOf_0 22 rfl rfl)
theorem dX10_mostOf_23 : decode cX10_mostOf 23 = .ok (.istore_n 3, 1) := dk_62 (dk_at dksX10_mostOf_0 23 rfl rfl)
theorem dX10_mostOf_24 : decode cX10_mostOf 24 = .ok (.aload_n 0, 1) := dk_42 (dk_at dksX10_mostOf_1 0 rfl rfl)
theorem dX10_mostOf_25 : decode cX10_mostOf 25 = .ok (.getfield 45, 3) := dk_180 0 45 (dk_at dksX10_mostOf_1 1 rfl rfl)
theorem dX10_mostOf_28 : decode cX10_mostOf 28 = .ok (.iload_n 2, 1) := dk_28 (dk_at dksX10_mostOf_1 4 rfl rfl)
theorem dX10_mostOf_29 : decode cX10_mostOf 29 = .ok (.iaload, 1) := dk_46 (dk_at dksX10_mostOf_1 5 rfl rfl)
theorem dX10_mostOf_30 : decode cX10_mostOf 30 = .ok (.ldc 242, 2) := dk_18 242 (dk_at dksX10_mostOf_1 6 rfl rfl)
theorem dX10_mostOf_32 : decode cX10_mostOf 32 = .ok (.if_icmp .ge 28, 3) := dk_162 0 28 (dk_at dksX10_mostOf_1 8 rfl rfl)
theorem dX10_mostOf_35 : decode cX10_mostOf 35 = .ok (.iload_n 3, 1) := dk_29 (dk_at dksX10_mostOf_1 11 rfl rfl)
theorem dX10_mostOf_36 : decode cX10_mostOf 36 = .ok (.ifCond .gt 22, 3) := dk_157 0 22 (dk_at dksX10_mostOf_1 12 rfl rfl)
theorem dX10_mostOf_39 : decode cX10_mostOf 39 = .ok (.iload_n 3, 1) := dk_29 (dk_at dksX10_mostOf_1 15 rfl rfl)
theorem dX10_mostOf_40 : decode cX10_mostOf 40 = .ok (.ifCond .ne 20, 3) := dk_154 0 20 (dk_at dksX10_mostOf_1 16 rfl rfl)
theorem dX10_mostOf_43 : decode cX10_mostOf 43 = .ok (.aload_n 0, 1) := dk_42 (dk_at dksX10_mostOf_1 19 rfl rfl)
theorem dX10_mostOf_44 : decode cX10_mostOf 44 = .ok (.getfield 45, 3) := dk_180 0 45 (dk_at dksX10_mostOf_1 20 rfl rfl)
theorem dX10_mostOf_47 : decode cX10_mostOf 47 = .ok (.iload_n 2, 1) := dk_28 (dk_at dksX10_mostOf_1 23 rfl rfl)
theorem dX10_mostOf_48 : decode cX10_mostOf 48 = .ok (.iaload, 1) := dk_46 (dk_at dksX10_mostOf_2 0 rfl rfl)
theorem dX10_mostOf_49 : decode cX10_mostOf 49 = .ok (.aload_n 0, 1) := dk_42 (dk_at dksX10_mostOf_2 1 rfl rfl)
theorem dX10_mostOf_50 : decode cX10_mostOf 50 = .ok (.getfield 45, 3) := dk_180 0 45 (dk_at dksX10_mostOf_2 2 rfl rfl)
theorem dX10_mostOf_53 : decode cX10_mostOf 53 = .ok (.iload_n 1, 1) := dk_27 (dk_at dksX10_mostOf_2 5 rfl rfl)
theorem dX10_mostOf_54 : decode cX10_mostOf 54 = .ok (.iaload, 1) := dk_46 (dk_at dksX10_mostOf_2 6 rfl rfl)
theorem dX10_mostOf_55 : decode cX10_mostOf 55 = .ok (.if_icmp .ge 5, 3) := dk_162 0 5 (dk_at dksX10_mostOf_2 7 rfl rfl)
theorem dX10_mostOf_58 : decode cX10_mostOf 58 = .ok (.iload_n 2, 1) := dk_28 (dk_at dksX10_mostOf_2 10 rfl rfl)
theorem dX10_mostOf_59 : decode cX10_mostOf 59 = .ok (.istore_n 1, 1) := dk_60 (dk_at dksX10_mostOf_2 11 rfl rfl)
theorem dX10_mostOf_60 : decode cX10_mostOf 60 = .ok (.iinc 2 1, 3) := dk_132 2 1 (dk_at dksX10_mostOf_2 12 rfl rfl)
theorem dX10_mostOf_63 : decode cX10_mostOf 63 = .ok (.goto (-59), 3) := dk_167 255 197 (dk_at dksX10_mostOf_2 15 rfl rfl)
theorem dX10_mostOf_66 : decode cX10_mostOf 66 = .ok (.iload_n 1, 1) := dk_27 (dk_at dksX10_mostOf_2 18 rfl rfl)
theorem dX10_mostOf_67 : decode cX10_mostOf 67 = .ok (.ireturn, 1) := dk_172 (dk_at dksX10_mostOf_2 19 rfl rfl)
abbrev cX10_asMen : ByteArray := prog_37_method_61_code
def yX10_asMen : MethodName := ⟨RX10, "asMen", "(I)I"⟩
def dkwX10_asMen_1 : List UInt8 := [180, 0, 42, 29, 46, 120, 167, 0, 4, 3, 128, 61, 132, 3, 1, 167, 255, 222, 28, 172]
abbrev dktX10_asMen_1 : List UInt8 := dkwX10_asMen_1 ++ []
def dkwX10_asMen_0 : List UInt8 := [3, 61, 3, 62, 29, 42, 180, 0, 236, 162, 0, 32, 28, 27, 29, 184, 0, 243, 153, 0, 14, 4, 42]
abbrev dktX10_asMen_0 : List UInt8 := dkwX10_asMen_0 ++ dktX10_asMen_1
theorem dksX10_asMen_0 : cX10_asMen.data.toList.drop 0 = dktX10_asMen_0 := by decide +kernel
theorem dksX10_asMen_1 : cX10_asMen.data.toList.drop 23 = dktX10_asMen_1 := dk_seg dksX10_asMen_0 23 rfl rfl
theorem dX10_asMen_0 : decode cX10_asMen 0 = .ok (.iconst 0, 1) := dk_3 (dk_at dksX10_asMen_0 0 rfl rfl)
theorem dX10_asMen_1 : decode cX10_asMen 1 = .ok (.istore_n 2, 1) := dk_61 (dk_at dksX10_asMen_0 1 rfl rfl)
theorem dX10_asMen_2 : decode cX10_asMen 2 = .ok (.iconst 0, 1) := dk_3 (dk_at dksX10_asMen_0 2 rfl rfl)
theorem dX10_asMen_3 : decode cX10_asMen 3 = .ok (.istore_n 3, 1) := dk_62 (dk_at dksX10_asMen_0 3 rfl rfl)
theorem dX10_asMen_4 : decode cX10_asMen 4 = .ok (.iload_n 3, 1) := dk_29 (dk_at dksX10_asMen_0 4 rfl rfl)
theorem dX10_asMen_5 : decode cX10_asMen 5 = .ok (.aload_n 0, 1) := dk_42 (dk_at dksX10_asMen_0 5 rfl rfl)
theorem dX10_asMen_6 : decode cX10_asMen 6 = .ok (.getfield 236, 3) := dk_180 0 236 (dk_at dksX10_asMen_0 6 rfl rfl)
theorem dX10_asMen_9 : decode cX10_asMen 9 = .ok (.if_icmp .ge 32, 3) := dk_162 0 32 (dk_at dksX10_asMen_0 9 rfl rfl)
theorem dX10_asMen_12 : decode cX10_asMen 12 = .ok (.iload_n 2, 1) := dk_28 (dk_at dksX10_asMen_0 12 rfl rfl)
theorem dX10_asMen_13 : decode cX10_asMen 13 = .ok (.iload_n 1, 1) := dk_27 (dk_at dksX10_asMen_0 13 rfl rfl)
theorem dX10_asMen_14 : decode cX10_asMen 14 = .ok (.iload_n 3, 1) := dk_29 (dk_at dksX10_asMen_0 14 rfl rfl)
theorem dX10_asMen_15 : decode cX10_asMen 15 = .ok (.invokestatic 243, 3) := dk_184 0 243 (dk_at dksX10_asMen_0 15 rfl rfl)
theorem dX10_asMen_18 : decode cX10_asMen 18 = .ok (.ifCond .eq 14, 3) := dk_153 0 14 (dk_at dksX10_asMen_0 18 rfl rfl)
theorem dX10_asMen_21 : decode cX10_asMen 21 = .ok (.iconst 1, 1) := dk_4 (dk_at dksX10_asMen_0 21 rfl rfl)
theorem dX10_asMen_22 : decode cX10_asMen 22 = .ok (.aload_n 0, 1) := dk_42 (dk_at dksX10_asMen_0 22 rfl rfl)
theorem dX10_asMen_23 : decode cX10_asMen 23 = .ok (.getfield 42, 3) := dk_180 0 42 (dk_at dksX10_asMen_1 0 rfl rfl)
theorem dX10_asMen_26 : decode cX10_asMen 26 = .ok (.iload_n 3, 1) := dk_29 (dk_at dksX10_asMen_1 3 rfl rfl)
theorem dX10_asMen_27 : decode cX10_asMen 27 = .ok (.iaload, 1) := dk_46 (dk_at dksX10_asMen_1 4 rfl rfl)
theorem dX10_asMen_28 : decode cX10_asMen 28 = .ok (.ishl, 1) := dk_120 (dk_at dksX10_asMen_1 5 rfl rfl)
theorem dX10_asMen_29 : decode cX10_asMen 29 = .ok (.goto 4, 3) := dk_167 0 4 (dk_at dksX10_asMen_1 6 rfl rfl)
theorem dX10_asMen_32 : decode cX10_asMen 32 = .ok (.iconst 0, 1) := dk_3 (dk_at dksX10_asMen_1 9 rfl rfl)
theorem dX10_asMen_33 : decode cX10_asMen 33 = .ok (.ior, 1) := dk_128 (dk_at dksX10_asMen_1 10 rfl rfl)
theorem dX10_asMen_34 : decode cX10_asMen 34 = .ok (.istore_n 2, 1) := dk_61 (dk_at dksX10_asMen_1 11 rfl rfl)
theorem dX10_asMen_35 : decode cX10_asMen 35 = .ok (.iinc 3 1, 3) := dk_132 3 1 (dk_at dksX10_asMen_1 12 rfl rfl)
theorem dX10_asMen_38 : decode cX10_asMen 38 = .ok (.goto (-34), 3) := dk_167 255 222 (dk_at dksX10_asMen_1 15 rfl rfl)
theorem dX10_asMen_41 : decode cX10_asMen 41 = .ok (.iload_n 2, 1) := dk_28 (dk_at dksX10_asMen_1 18 rfl rfl)
theorem dX10_asMen_42 : decode cX10_asMen 42 = .ok (.ireturn, 1) := dk_172 (dk_at dksX10_asMen_1 19 rfl rfl)
abbrev cX10_row : ByteArray := prog_37_method_65_code
def yX10_row : MethodName := ⟨RX10, "row", "(III)I"⟩
def dkwX10_row_4 : List UInt8 := [42, 21, 5, 182, 1, 3, 172]
abbrev dktX10_row_4 : List UInt8 := dkwX10_row_4 ++ []
def dkwX10_row_3 : List UInt8 := [164, 0, 24, 21, 4, 21, 5, 2, 130, 126, 54, 4, 42, 21, 4, 28, 182, 1, 6, 54, 5, 167, 255, 225]
abbrev dktX10_row_3 : List UInt8 := dkwX10_row_3 ++ dktX10_row_4
def dkwX10_row_2 : List UInt8 := [182, 0, 88, 172, 42, 21, 4, 28, 182, 1, 6, 54, 5, 42, 180, 0, 45, 21, 4, 46, 29, 4, 96]
abbrev dktX10_row_2 : List UInt8 := dkwX10_row_2 ++ dktX10_row_3
def dkwX10_row_1 : List UInt8 := [182, 0, 253, 42, 182, 1, 0, 54, 4, 29, 42, 180, 0, 45, 21, 4, 46, 161, 0, 10, 42, 18, 139]
abbrev dktX10_row_1 : List UInt8 := dkwX10_row_1 ++ dktX10_row_2
def dkwX10_row_0 : List UInt8 := [27, 28, 184, 0, 250, 153, 0, 7, 29, 156, 0, 10, 42, 18, 87, 182, 0, 88, 172, 42, 27, 28]
abbrev dktX10_row_0 : List UInt8 := dkwX10_row_0 ++ dktX10_row_1
theorem dksX10_row_0 : cX10_row.data.toList.drop 0 = dktX10_row_0 := by decide +kernel
theorem dksX10_row_1 : cX10_row.data.toList.drop 22 = dktX10_row_1 := dk_seg dksX10_row_0 22 rfl rfl
theorem dksX10_row_2 : cX10_row.data.toList.drop 45 = dktX10_row_2 := dk_seg dksX10_row_1 23 rfl rfl
theorem dksX10_row_3 : cX10_row.data.toList.drop 68 = dktX10_row_3 := dk_seg dksX10_row_2 23 rfl rfl
theorem dksX10_row_4 : cX10_row.data.toList.drop 92 = dktX10_row_4 := dk_seg dksX10_row_3 24 rfl rfl
theorem dX10_row_0 : decode cX10_row 0 = .ok (.iload_n 1, 1) := dk_27 (dk_at dksX10_row_0 0 rfl rfl)
theorem dX10_row_1 : decode cX10_row 1 = .ok (.iload_n 2, 1) := dk_28 (dk_at dksX10_row_0 1 rfl rfl)
theorem dX10_row_2 : decode cX10_row 2 = .ok (.invokestatic 250, 3) := dk_184 0 250 (dk_at dksX10_row_0 2 rfl rfl)
theorem dX10_row_5 : decode cX10_row 5 = .ok (.ifCond .eq 7, 3) := dk_153 0 7 (dk_at dksX10_row_0 5 rfl rfl)
theorem dX10_row_8 : decode cX10_row 8 = .ok (.iload_n 3, 1) := dk_29 (dk_at dksX10_row_0 8 rfl rfl)
theorem dX10_row_9 : decode cX10_row 9 = .ok (.ifCond .ge 10, 3) := dk_156 0 10 (dk_at dksX10_row_0 9 rfl rfl)
theorem dX10_row_12 : decode cX10_row 12 = .ok (.aload_n 0, 1) := dk_42 (dk_at dksX10_row_0 12 rfl rfl)
theorem dX10_row_13 : decode cX10_row 13 = .ok (.ldc 87, 2) := dk_18 87 (dk_at dksX10_row_0 13 rfl rfl)
theorem dX10_row_15 : decode cX10_row 15 = .ok (.invokevirtual 88, 3) := dk_182 0 88 (dk_at dksX10_row_0 15 rfl rfl)
theorem dX10_row_18 : decode cX10_row 18 = .ok (.ireturn, 1) := dk_172 (dk_at dksX10_row_0 18 rfl rfl)
theorem dX10_row_19 : decode cX10_row 19 = .ok (.aload_n 0, 1) := dk_42 (dk_at dksX10_row_0 19 rfl rfl)
theorem dX10_row_20 : decode cX10_row 20 = .ok (.iload_n 1, 1) := dk_27 (dk_at dksX10_row_0 20 rfl rfl)
theorem dX10_row_21 : decode cX10_row 21 = .ok (.iload_n 2, 1) := dk_28 (dk_at dksX10_row_0 21 rfl rfl)
theorem dX10_row_22 : decode cX10_row 22 = .ok (.invokevirtual 253, 3) := dk_182 0 253 (dk_at dksX10_row_1 0 rfl rfl)
theorem dX10_row_25 : decode cX10_row 25 = .ok (.aload_n 0, 1) := dk_42 (dk_at dksX10_row_1 3 rfl rfl)
theorem dX10_row_26 : decode cX10_row 26 = .ok (.invokevirtual 256, 3) := dk_182 1 0 (dk_at dksX10_row_1 4 rfl rfl)
theorem dX10_row_29 : decode cX10_row 29 = .ok (.istore 4, 2) := dk_54 4 (dk_at dksX10_row_1 7 rfl rfl)
theorem dX10_row_31 : decode cX10_row 31 = .ok (.iload_n 3, 1) := dk_29 (dk_at dksX10_row_1 9 rfl rfl)
theorem dX10_row_32 : decode cX10_row 32 = .ok (.aload_n 0, 1) := dk_42 (dk_at dksX10_row_1 10 rfl rfl)
theorem dX10_row_33 : decode cX10_row 33 = .ok (.getfield 45, 3) := dk_180 0 45 (dk_at dksX10_row_1 11 rfl rfl)
theorem dX10_row_36 : decode cX10_row 36 = .ok (.iload 4, 2) := dk_21 4 (dk_at dksX10_row_1 14 rfl rfl)
theorem dX10_row_38 : decode cX10_row 38 = .ok (.iaload, 1) := dk_46 (dk_at dksX10_row_1 16 rfl rfl)
theorem dX10_row_39 : decode cX10_row 39 = .ok (.if_icmp .lt 10, 3) := dk_161 0 10 (dk_at dksX10_row_1 17 rfl rfl)
theorem dX10_row_42 : decode cX10_row 42 = .ok (.aload_n 0, 1) := dk_42 (dk_at dksX10_row_1 20 rfl rfl)
theorem dX10_row_43 : decode cX10_row 43 = .ok (.ldc 139, 2) := dk_18 139 (dk_at dksX10_row_1 21 rfl rfl)
theorem dX10_row_45 : decode cX10_row 45 = .ok (.invokevirtual 88, 3) := dk_182 0 88 (dk_at dksX10_row_2 0 rfl rfl)
theorem dX10_row_48 : decode cX10_row 48 = .ok (.ireturn, 1) := dk_172 (dk_at dksX10_row_2 3 rfl rfl)
theorem dX10_row_49 : decode cX10_row 49 = .ok (.aload_n 0, 1) := dk_42 (dk_at dksX10_row_2 4 rfl rfl)
theorem dX10_row_50 : decode cX10_row 50 = .ok (.iload 4, 2) := dk_21 4 (dk_at dksX10_row_2 5 rfl rfl)
theorem dX10_row_52 : decode cX10_row 52 = .ok (.iload_n 2, 1) := dk_28 (dk_at dksX10_row_2 7 rfl rfl)
theorem dX10_row_53 : decode cX10_row 53 = .ok (.invokevirtual 262, 3) := dk_182 1 6 (dk_at dksX10_row_2 8 rfl rfl)
theorem dX10_row_56 : decode cX10_row 56 = .ok (.istore 5, 2) := dk_54 5 (dk_at dksX10_row_2 11 rfl rfl)
theorem dX10_row_58 : decode cX10_row 58 = .ok (.aload_n 0, 1) := dk_42 (dk_at dksX10_row_2 13 rfl rfl)
theorem dX10_row_59 : decode cX10_row 59 = .ok (.getfield 45, 3) := dk_180 0 45 (dk_at dksX10_row_2 14 rfl rfl)
theorem dX10_row_62 : decode cX10_row 62 = .ok (.iload 4, 2) := dk_21 4 (dk_at dksX10_row_2 17 rfl rfl)
theorem dX10_row_64 : decode cX10_row 64 = .ok (.iaload, 1) := dk_46 (dk_at dksX10_row_2 19 rfl rfl)
theorem dX10_row_65 : decode cX10_row 65 = .ok (.iload_n 3, 1) := dk_29 (dk_at dksX10_row_2 20 rfl rfl)
theorem dX10_row_66 : decode cX10_row 66 = .ok (.iconst 1, 1) := dk_4 (dk_at dksX10_row_2 21 rfl rfl)
theorem dX10_row_67 : decode cX10_row 67 = .ok (.iadd, 1) := dk_96 (dk_at dksX10_row_2 22 rfl rfl)
theorem dX10_row_68 : decode cX10_row 68 = .ok (.if_icmp .le 24, 3) := dk_164 0 24 (dk_at dksX10_row_3 0 rfl rfl)
theorem dX10_row_71 : decode cX10_row 71 = .ok (.iload 4, 2) := dk_21 4 (dk_at dksX10_row_3 3 rfl rfl)
theorem dX10_row_73 : decode cX10_row 73 = .ok (.iload 5, 2) := dk_21 5 (dk_at dksX10_row_3 5 rfl rfl)
theorem dX10_row_75 : decode cX10_row 75 = .ok (.iconst (-1), 1) := dk_2 (dk_at dksX10_row_3 7 rfl rfl)
theorem dX10_row_76 : decode cX10_row 76 = .ok (.ixor, 1) := dk_130 (dk_at dksX10_row_3 8 rfl rfl)
theorem dX10_row_77 : decode cX10_row 77 = .ok (.iand, 1) := dk_126 (dk_at dksX10_row_3 9 rfl rfl)
theorem dX10_row_78 : decode cX10_row 78 = .ok (.istore 4, 2) := dk_54 4 (dk_at dksX10_row_3 10 rfl rfl)
theorem dX10_row_80 : decode cX10_row 80 = .ok (.aload_n 0, 1) := dk_42 (dk_at dksX10_row_3 12 rfl rfl)
theorem dX10_row_81 : decode cX10_row 81 = .ok (.iload 4, 2) := dk_21 4 (dk_at dksX10_row_3 13 rfl rfl)
theorem dX10_row_83 : decode cX10_row 83 = .ok (.iload_n 2, 1) := dk_28 (dk_at dksX10_row_3 15 rfl rfl)
theorem dX10_row_84 : decode cX10_row 84 = .ok (.invokevirtual 262, 3) := dk_182 1 6 (dk_at dksX10_row_3 16 rfl rfl)
theorem dX10_row_87 : decode cX10_row 87 = .ok (.istore 5, 2) := dk_54 5 (dk_at dksX10_row_3 19 rfl rfl)
theorem dX10_row_89 : decode cX10_row 89 = .ok (.goto (-31), 3) := dk_167 255 225 (dk_at dksX10_row_3 21 rfl rfl)
theorem dX10_row_92 : decode cX10_row 92 = .ok (.aload_n 0, 1) := dk_42 (dk_at dksX10_row_4 0 rfl rfl)
theorem dX10_row_93 : decode cX10_row 93 = .ok (.iload 5, 2) := dk_21 5 (dk_at dksX10_row_4 1 rfl rfl)
theorem dX10_row_95 : decode cX10_row 95 = .ok (.invokevirtual 259, 3) := dk_182 1 3 (dk_at dksX10_row_4 3 rfl rfl)
theorem dX10_row_98 : decode cX10_row 98 = .ok (.ireturn, 1) := dk_172 (dk_at dksX10_row_4 6 rfl rfl)
abbrev cX10_lastOf : ByteArray := prog_37_method_64_code
def yX10_lastOf : MethodName := ⟨RX10, "lastOf", "(II)I"⟩
def dkwX10_lastOf_5 : List UInt8 := [132, 4, 1, 167, 255, 139, 29, 172]
abbrev dktX10_lastOf_5 : List UInt8 := dkwX10_lastOf_5 ++ []
def dkwX10_lastOf_4 : List UInt8 := [29, 153, 0, 9, 21, 6, 29, 162, 0, 8, 21, 6, 167, 0, 4, 29, 62, 132, 5, 1, 167, 255, 157]
abbrev dktX10_lastOf_4 : List UInt8 := dkwX10_lastOf_4 ++ dktX10_lastOf_5
def dkwX10_lastOf_3 : List UInt8 := [180, 0, 45, 27, 46, 28, 182, 0, 246, 153, 0, 7, 4, 167, 0, 4, 3, 54, 7, 21, 7, 153, 0, 18]
abbrev dktX10_lastOf_3 : List UInt8 := dkwX10_lastOf_3 ++ dktX10_lastOf_4
def dkwX10_lastOf_2 : List UInt8 := [27, 21, 6, 2, 130, 126, 46, 42, 180, 0, 45, 27, 46, 4, 100, 160, 0, 25, 42, 21, 4, 21, 5, 42]
abbrev dktX10_lastOf_2 : List UInt8 := dkwX10_lastOf_2 ++ dktX10_lastOf_3
def dkwX10_lastOf_1 : List UInt8 := [4, 21, 4, 120, 4, 21, 5, 120, 128, 54, 6, 27, 21, 6, 126, 21, 6, 160, 0, 47, 42, 180, 0, 45]
abbrev dktX10_lastOf_1 : List UInt8 := dkwX10_lastOf_1 ++ dktX10_lastOf_2
def dkwX10_lastOf_0 : List UInt8 := [3, 62, 3, 54, 4, 21, 4, 42, 180, 0, 236, 162, 0, 114, 3, 54, 5, 21, 5, 21, 4, 163, 0, 98]
abbrev dktX10_lastOf_0 : List UInt8 := dkwX10_lastOf_0 ++ dktX10_lastOf_1
theorem dksX10_lastOf_0 : cX10_lastOf.data.toList.drop 0 = dktX10_lastOf_0 := by decide +kernel
theorem dksX10_lastOf_1 : cX10_lastOf.data.toList.drop 24 = dktX10_lastOf_1 := dk_seg dksX10_lastOf_0 24 rfl rfl
theorem dksX10_lastOf_2 : cX10_lastOf.data.toList.drop 48 = dktX10_lastOf_2 := dk_seg dksX10_lastOf_1 24 rfl rfl
theorem dksX10_lastOf_3 : cX10_lastOf.data.toList.drop 72 = dktX10_lastOf_3 := dk_seg dksX10_lastOf_2 24 rfl rfl
theorem dksX10_lastOf_4 : cX10_lastOf.data.toList.drop 96 = dktX10_lastOf_4 := dk_seg dksX10_lastOf_3 24 rfl rfl
theorem dksX10_lastOf_5 : cX10_lastOf.data.toList.drop 119 = dktX10_lastOf_5 := dk_seg dksX10_lastOf_4 23 rfl rfl
theorem dX10_lastOf_0 : decode cX10_lastOf 0 = .ok (.iconst 0, 1) := dk_3 (dk_at dksX10_lastOf_0 0 rfl rfl)
theorem dX10_lastOf_1 : decode cX10_lastOf 1 = .ok (.istore_n 3, 1) := dk_62 (dk_at dksX10_lastOf_0 1 rfl rfl)
theorem dX10_lastOf_2 : decode cX10_lastOf 2 = .ok (.iconst 0, 1) := dk_3 (dk_at dksX10_lastOf_0 2 rfl rfl)
theorem dX10_lastOf_3 : decode cX10_lastOf 3 = .ok (.istore 4, 2) := dk_54 4 (dk_at dksX10_lastOf_0 3 rfl rfl)
theorem dX10_lastOf_5 : decode cX10_lastOf 5 = .ok (.iload 4, 2) := dk_21 4 (dk_at dksX10_lastOf_0 5 rfl rfl)
theorem dX10_lastOf_7 : decode cX10_lastOf 7 = .ok (.aload_n 0, 1) := dk_42 (dk_at dksX10_lastOf_0 7 rfl rfl)
theorem dX10_lastOf_8 : decode cX10_lastOf 8 = .ok (.getfield 236, 3) := dk_180 0 236 (dk_at dksX10_lastOf_0 8 rfl rfl)
theorem dX10_lastOf_11 : decode cX10_lastOf 11 = .ok (.if_icmp .ge 114, 3) := dk_162 0 114 (dk_at dksX10_lastOf_0 11 rfl rfl)
theorem dX10_lastOf_14 : decode cX10_lastOf 14 = .ok (.iconst 0, 1) := dk_3 (dk_at dksX10_lastOf_0 14 rfl rfl)
theorem dX10_lastOf_15 : decode cX10_lastOf 15 = .ok (.istore 5, 2) := dk_54 5 (dk_at dksX10_lastOf_0 15 rfl rfl)
theorem dX10_lastOf_17 : decode cX10_lastOf 17 = .ok (.iload 5, 2) := dk_21 5 (dk_at dksX10_lastOf_0 17 rfl rfl)
theorem dX10_lastOf_19 : decode cX10_lastOf 19 = .ok (.iload 4, 2) := dk_21 4 (dk_at dksX10_lastOf_0 19 rfl rfl)
theorem dX10_lastOf_21 : decode cX10_lastOf 21 = .ok (.if_icmp .gt 98, 3) := dk_163 0 98 (dk_at dksX10_lastOf_0 21 rfl rfl)
theorem dX10_lastOf_24 : decode cX10_lastOf 24 = .ok (.iconst 1, 1) := dk_4 (dk_at dksX10_lastOf_1 0 rfl rfl)
theorem dX10_lastOf_25 : decode cX10_lastOf 25 = .ok (.iload 4, 2) := dk_21 4 (dk_at dksX10_lastOf_1 1 rfl rfl)
theorem dX10_lastOf_27 : decode cX10_lastOf 27 = .ok (.ishl, 1) := dk_120 (dk_at dksX10_lastOf_1 3 rfl rfl)
theorem dX10_lastOf_28 : decode cX10_lastOf 28 = .ok (.iconst 1, 1) := dk_4 (dk_at dksX10_lastOf_1 4 rfl rfl)
theorem dX10_lastOf_29 : decode cX10_lastOf 29 = .ok (.iload 5, 2) := dk_21 5 (dk_at dksX10_lastOf_1 5 rfl rfl)
theorem dX10_lastOf_31 : decode cX10_lastOf 31 = .ok (.ishl, 1) := dk_120 (dk_at dksX10_lastOf_1 7 rfl rfl)
theorem dX10_lastOf_32 : decode cX10_lastOf 32 = .ok (.ior, 1) := dk_128 (dk_at dksX10_lastOf_1 8 rfl rfl)
theorem dX10_lastOf_33 : decode cX10_lastOf 33 = .ok (.istore 6, 2) := dk_54 6 (dk_at dksX10_lastOf_1 9 rfl rfl)
theorem dX10_lastOf_35 : decode cX10_lastOf 35 = .ok (.iload_n 1, 1) := dk_27 (dk_at dksX10_lastOf_1 11 rfl rfl)
theorem dX10_lastOf_36 : decode cX10_lastOf 36 = .ok (.iload 6, 2) := dk_21 6 (dk_at dksX10_lastOf_1 12 rfl rfl)
theorem dX10_lastOf_38 : decode cX10_lastOf 38 = .ok (.iand, 1) := dk_126 (dk_at dksX10_lastOf_1 14 rfl rfl)
theorem dX10_lastOf_39 : decode cX10_lastOf 39 = .ok (.iload 6, 2) := dk_21 6 (dk_at dksX10_lastOf_1 15 rfl rfl)
theorem dX10_lastOf_41 : decode cX10_lastOf 41 = .ok (.if_icmp .ne 47, 3) := dk_160 0 47 (dk_at dksX10_lastOf_1 17 rfl rfl)
theorem dX10_lastOf_44 : decode cX10_lastOf 44 = .ok (.aload_n 0, 1) := dk_42 (dk_at dksX10_lastOf_1 20 rfl rfl)
theorem dX10_lastOf_45 : decode cX10_lastOf 45 = .ok (.getfield 45, 3) := dk_180 0 45 (dk_at dksX10_lastOf_1 21 rfl rfl)
theorem dX10_lastOf_48 : decode cX10_lastOf 48 = .ok (.iload_n 1, 1) := dk_27 (dk_at dksX10_lastOf_2 0 rfl rfl)
theorem dX10_lastOf_49 : decode cX10_lastOf 49 = .ok (.iload 6, 2) := dk_21 6 (dk_at dksX10_lastOf_2 1 rfl rfl)
theorem dX10_lastOf_51 : decode cX10_lastOf 51 = .ok (.iconst (-1), 1) := dk_2 (dk_at dksX10_lastOf_2 3 rfl rfl)
theorem dX10_lastOf_52 : decode cX10_lastOf 52 = .ok (.ixor, 1) := dk_130 (dk_at dksX10_lastOf_2 4 rfl rfl)
theorem dX10_lastOf_53 : decode cX10_lastOf 53 = .ok (.iand, 1) := dk_126 (dk_at dksX10_lastOf_2 5 rfl rfl)
theorem dX10_lastOf_54 : decode cX10_lastOf 54 = .ok (.iaload, 1) := dk_46 (dk_at dksX10_lastOf_2 6 rfl rfl)
theorem dX10_lastOf_55 : decode cX10_lastOf 55 = .ok (.aload_n 0, 1) := dk_42 (dk_at dksX10_lastOf_2 7 rfl rfl)
theorem dX10_lastOf_56 : decode cX10_lastOf 56 = .ok (.getfield 45, 3) := dk_180 0 45 (dk_at dksX10_lastOf_2 8 rfl rfl)
theorem dX10_lastOf_59 : decode cX10_lastOf 59 = .ok (.iload_n 1, 1) := dk_27 (dk_at dksX10_lastOf_2 11 rfl rfl)
theorem dX10_lastOf_60 : decode cX10_lastOf 60 = .ok (.iaload, 1) := dk_46 (dk_at dksX10_lastOf_2 12 rfl rfl)
theorem dX10_lastOf_61 : decode cX10_lastOf 61 = .ok (.iconst 1, 1) := dk_4 (dk_at dksX10_lastOf_2 13 rfl rfl)
theorem dX10_lastOf_62 : decode cX10_lastOf 62 = .ok (.isub, 1) := dk_100 (dk_at dksX10_lastOf_2 14 rfl rfl)
theorem dX10_lastOf_63 : decode cX10_lastOf 63 = .ok (.if_icmp .ne 25, 3) := dk_160 0 25 (dk_at dksX10_lastOf_2 15 rfl rfl)
theorem dX10_lastOf_66 : decode cX10_lastOf 66 = .ok (.aload_n 0, 1) := dk_42 (dk_at dksX10_lastOf_2 18 rfl rfl)
theorem dX10_lastOf_67 : decode cX10_lastOf 67 = .ok (.iload 4, 2) := dk_21 4 (dk_at dksX10_lastOf_2 19 rfl rfl)
theorem dX10_lastOf_69 : decode cX10_lastOf 69 = .ok (.iload 5, 2) := dk_21 5 (dk_at dksX10_lastOf_2 21 rfl rfl)
theorem dX10_lastOf_71 : decode cX10_lastOf 71 = .ok (.aload_n 0, 1) := dk_42 (dk_at dksX10_lastOf_2 23 rfl rfl)
theorem dX10_lastOf_72 : decode cX10_lastOf 72 = .ok (.getfield 45, 3) := dk_180 0 45 (dk_at dksX10_lastOf_3 0 rfl rfl)
theorem dX10_lastOf_75 : decode cX10_lastOf 75 = .ok (.iload_n 1, 1) := dk_27 (dk_at dksX10_lastOf_3 3 rfl rfl)
theorem dX10_lastOf_76 : decode cX10_lastOf 76 = .ok (.iaload, 1) := dk_46 (dk_at dksX10_lastOf_3 4 rfl rfl)
theorem dX10_lastOf_77 : decode cX10_lastOf 77 = .ok (.iload_n 2, 1) := dk_28 (dk_at dksX10_lastOf_3 5 rfl rfl)
theorem dX10_lastOf_78 : decode cX10_lastOf 78 = .ok (.invokevirtual 246, 3) := dk_182 0 246 (dk_at dksX10_lastOf_3 6 rfl rfl)
theorem dX10_lastOf_81 : decode cX10_lastOf 81 = .ok (.ifCond .eq 7, 3) := dk_153 0 7 (dk_at dksX10_lastOf_3 9 rfl rfl)
theorem dX10_lastOf_84 : decode cX10_lastOf 84 = .ok (.iconst 1, 1) := dk_4 (dk_at dksX10_lastOf_3 12 rfl rfl)
theorem dX10_lastOf_85 : decode cX10_lastOf 85 = .ok (.goto 4, 3) := dk_167 0 4 (dk_at dksX10_lastOf_3 13 rfl rfl)
theorem dX10_lastOf_88 : decode cX10_lastOf 88 = .ok (.iconst 0, 1) := dk_3 (dk_at dksX10_lastOf_3 16 rfl rfl)
theorem dX10_lastOf_89 : decode cX10_lastOf 89 = .ok (.istore 7, 2) := dk_54 7 (dk_at dksX10_lastOf_3 17 rfl rfl)
theorem dX10_lastOf_91 : decode cX10_lastOf 91 = .ok (.iload 7, 2) := dk_21 7 (dk_at dksX10_lastOf_3 19 rfl rfl)
theorem dX10_lastOf_93 : decode cX10_lastOf 93 = .ok (.ifCond .eq 18, 3) := dk_153 0 18 (dk_at dksX10_lastOf_3 21 rfl rfl)
theorem dX10_lastOf_96 : decode cX10_lastOf 96 = .ok (.iload_n 3, 1) := dk_29 (dk_at dksX10_lastOf_4 0 rfl rfl)
theorem dX10_lastOf_97 : decode cX10_lastOf 97 = .ok (.ifCond .eq 9, 3) := dk_153 0 9 (dk_at dksX10_lastOf_4 1 rfl rfl)
theorem dX10_lastOf_100 : decode cX10_lastOf 100 = .ok (.iload 6, 2) := dk_21 6 (dk_at dksX10_lastOf_4 4 rfl rfl)
theorem dX10_lastOf_102 : decode cX10_lastOf 102 = .ok (.iload_n 3, 1) := dk_29 (dk_at dksX10_lastOf_4 6 rfl rfl)
theorem dX10_lastOf_103 : decode cX10_lastOf 103 = .ok (.if_icmp .ge 8, 3) := dk_162 0 8 (dk_at dksX10_lastOf_4 7 rfl rfl)
theorem dX10_lastOf_106 : decode cX10_lastOf 106 = .ok (.iload 6, 2) := dk_21 6 (dk_at dksX10_lastOf_4 10 rfl rfl)
theorem dX10_lastOf_108 : decode cX10_lastOf 108 = .ok (.goto 4, 3) := dk_167 0 4 (dk_at dksX10_lastOf_4 12 rfl rfl)
theorem dX10_lastOf_111 : decode cX10_lastOf 111 = .ok (.iload_n 3, 1) := dk_29 (dk_at dksX10_lastOf_4 15 rfl rfl)
theorem dX10_lastOf_112 : decode cX10_lastOf 112 = .ok (.istore_n 3, 1) := dk_62 (dk_at dksX10_lastOf_4 16 rfl rfl)
theorem dX10_lastOf_113 : decode cX10_lastOf 113 = .ok (.iinc 5 1, 3) := dk_132 5 1 (dk_at dksX10_lastOf_4 17 rfl rfl)
theorem dX10_lastOf_116 : decode cX10_lastOf 116 = .ok (.goto (-99), 3) := dk_167 255 157 (dk_at dksX10_lastOf_4 20 rfl rfl)
theorem dX10_lastOf_119 : decode cX10_lastOf 119 = .ok (.iinc 4 1, 3) := dk_132 4 1 (dk_at dksX10_lastOf_5 0 rfl rfl)
theorem dX10_lastOf_122 : decode cX10_lastOf 122 = .ok (.goto (-117), 3) := dk_167 255 139 (dk_at dksX10_lastOf_5 3 rfl rfl)
theorem dX10_lastOf_125 : decode cX10_lastOf 125 = .ok (.iload_n 3, 1) := dk_29 (dk_at dksX10_lastOf_5 6 rfl rfl)
theorem dX10_lastOf_126 : decode cX10_lastOf 126 = .ok (.ireturn, 1) := dk_172 (dk_at dksX10_lastOf_5 7 rfl rfl)
abbrev cX10_goes : ByteArray := prog_37_method_66_code
def yX10_goes : MethodName := ⟨RX10, "goes", "(II)I"⟩
def dkwX10_goes_9 : List UInt8 := [21, 5, 21, 7, 128, 54, 5, 132, 6, 1, 167, 255, 93, 3, 172]
abbrev dktX10_goes_9 : List UInt8 := dkwX10_goes_9 ++ []
def dkwX10_goes_8 : List UInt8 := [54, 8, 132, 10, 1, 167, 255, 185, 21, 8, 153, 0, 8, 21, 9, 154, 0, 8, 4, 21, 6, 96, 172]
abbrev dktX10_goes_8 : List UInt8 := dkwX10_goes_8 ++ dktX10_goes_9
def dkwX10_goes_7 : List UInt8 := [182, 0, 105, 42, 180, 0, 9, 3, 46, 21, 6, 4, 96, 28, 104, 96, 161, 0, 7, 4, 167, 0, 4, 3]
abbrev dktX10_goes_7 : List UInt8 := dkwX10_goes_7 ++ dktX10_goes_8
def dkwX10_goes_6 : List UInt8 := [184, 0, 243, 153, 0, 45, 21, 9, 42, 21, 10, 6, 182, 0, 105, 96, 54, 9, 42, 21, 10, 7]
abbrev dktX10_goes_6 : List UInt8 := dkwX10_goes_6 ++ dktX10_goes_7
def dkwX10_goes_5 : List UInt8 := [54, 10, 21, 10, 42, 180, 0, 9, 4, 46, 162, 0, 66, 21, 8, 153, 0, 55, 21, 7, 21, 10]
abbrev dktX10_goes_5 : List UInt8 := dkwX10_goes_5 ++ dktX10_goes_6
def dkwX10_goes_4 : List UInt8 := [154, 0, 16, 21, 7, 184, 0, 144, 6, 162, 0, 7, 4, 167, 0, 4, 3, 54, 8, 3, 54, 9, 3]
abbrev dktX10_goes_4 : List UInt8 := dkwX10_goes_4 ++ dktX10_goes_5
def dkwX10_goes_3 : List UInt8 := [46, 54, 7, 21, 7, 158, 0, 34, 21, 7, 21, 4, 2, 130, 126, 154, 0, 24, 21, 7, 21, 5, 126]
abbrev dktX10_goes_3 : List UInt8 := dkwX10_goes_3 ++ dktX10_goes_4
def dkwX10_goes_2 : List UInt8 := [54, 4, 3, 54, 5, 3, 54, 6, 21, 6, 29, 162, 0, 163, 42, 180, 0, 9, 17, 1, 118, 21, 6, 96]
abbrev dktX10_goes_2 : List UInt8 := dkwX10_goes_2 ++ dktX10_goes_3
def dkwX10_goes_1 : List UInt8 := [42, 18, 87, 182, 0, 88, 172, 42, 27, 182, 0, 239, 42, 4, 42, 180, 0, 236, 120, 4, 100, 182, 1, 3]
abbrev dktX10_goes_1 : List UInt8 := dkwX10_goes_1 ++ dktX10_goes_2
def dkwX10_goes_0 : List UInt8 := [42, 180, 0, 9, 16, 7, 46, 62, 42, 180, 0, 9, 16, 7, 3, 79, 27, 28, 184, 0, 250, 154, 0, 10]
abbrev dktX10_goes_0 : List UInt8 := dkwX10_goes_0 ++ dktX10_goes_1
theorem dksX10_goes_0 : cX10_goes.data.toList.drop 0 = dktX10_goes_0 := by decide +kernel
theorem dksX10_goes_1 : cX10_goes.data.toList.drop 24 = dktX10_goes_1 := dk_seg dksX10_goes_0 24 rfl rfl
theorem dksX10_goes_2 : cX10_goes.data.toList.drop 48 = dktX10_goes_2 := dk_seg dksX10_goes_1 24 rfl rfl
theorem dksX10_goes_3 : cX10_goes.data.toList.drop 72 = dktX10_goes_3 := dk_seg dksX10_goes_2 24 rfl rfl
theorem dksX10_goes_4 : cX10_goes.data.toList.drop 95 = dktX10_goes_4 := dk_seg dksX10_goes_3 23 rfl rfl
theorem dksX10_goes_5 : cX10_goes.data.toList.drop 118 = dktX10_goes_5 := dk_seg dksX10_goes_4 23 rfl rfl
theorem dksX10_goes_6 : cX10_goes.data.toList.drop 140 = dktX10_goes_6 := dk_seg dksX10_goes_5 22 rfl rfl
theorem dksX10_goes_7 : cX10_goes.data.toList.drop 162 = dktX10_goes_7 := dk_seg dksX10_goes_6 22 rfl rfl
theorem dksX10_goes_8 : cX10_goes.data.toList.drop 186 = dktX10_goes_8 := dk_seg dksX10_goes_7 24 rfl rfl
theorem dksX10_goes_9 : cX10_goes.data.toList.drop 209 = dktX10_goes_9 := dk_seg dksX10_goes_8 23 rfl rfl
theorem dX10_goes_0 : decode cX10_goes 0 = .ok (.aload_n 0, 1) := dk_42 (dk_at dksX10_goes_0 0 rfl rfl)
theorem dX10_goes_1 : decode cX10_goes 1 = .ok (.getfield 9, 3) := dk_180 0 9 (dk_at dksX10_goes_0 1 rfl rfl)
theorem dX10_goes_4 : decode cX10_goes 4 = .ok (.bipush 7, 2) := dk_16 7 (dk_at dksX10_goes_0 4 rfl rfl)
theorem dX10_goes_6 : decode cX10_goes 6 = .ok (.iaload, 1) := dk_46 (dk_at dksX10_goes_0 6 rfl rfl)
theorem dX10_goes_7 : decode cX10_goes 7 = .ok (.istore_n 3, 1) := dk_62 (dk_at dksX10_goes_0 7 rfl rfl)
theorem dX10_goes_8 : decode cX10_goes 8 = .ok (.aload_n 0, 1) := dk_42 (dk_at dksX10_goes_0 8 rfl rfl)
theorem dX10_goes_9 : decode cX10_goes 9 = .ok (.getfield 9, 3) := dk_180 0 9 (dk_at dksX10_goes_0 9 rfl rfl)
theorem dX10_goes_12 : decode cX10_goes 12 = .ok (.bipush 7, 2) := dk_16 7 (dk_at dksX10_goes_0 12 rfl rfl)
theorem dX10_goes_14 : decode cX10_goes 14 = .ok (.iconst 0, 1) := dk_3 (dk_at dksX10_goes_0 14 rfl rfl)
theorem dX10_goes_15 : decode cX10_goes 15 = .ok (.iastore, 1) := dk_79 (dk_at dksX10_goes_0 15 rfl rfl)
theorem dX10_goes_16 : decode cX10_goes 16 = .ok (.iload_n 1, 1) := dk_27 (dk_at dksX10_goes_0 16 rfl rfl)
theorem dX10_goes_17 : decode cX10_goes 17 = .ok (.iload_n 2, 1) := dk_28 (dk_at dksX10_goes_0 17 rfl rfl)
theorem dX10_goes_18 : decode cX10_goes 18 = .ok (.invokestatic 250, 3) := dk_184 0 250 (dk_at dksX10_goes_0 18 rfl rfl)
theorem dX10_goes_21 : decode cX10_goes 21 = .ok (.ifCond .ne 10, 3) := dk_154 0 10 (dk_at dksX10_goes_0 21 rfl rfl)
theorem dX10_goes_24 : decode cX10_goes 24 = .ok (.aload_n 0, 1) := dk_42 (dk_at dksX10_goes_1 0 rfl rfl)
theorem dX10_goes_25 : decode cX10_goes 25 = .ok (.ldc 87, 2) := dk_18 87 (dk_at dksX10_goes_1 1 rfl rfl)
theorem dX10_goes_27 : decode cX10_goes 27 = .ok (.invokevirtual 88, 3) := dk_182 0 88 (dk_at dksX10_goes_1 3 rfl rfl)
theorem dX10_goes_30 : decode cX10_goes 30 = .ok (.ireturn, 1) := dk_172 (dk_at dksX10_goes_1 6 rfl rfl)
theorem dX10_goes_31 : decode cX10_goes 31 = .ok (.aload_n 0, 1) := dk_42 (dk_at dksX10_goes_1 7 rfl rfl)
theorem dX10_goes_32 : decode cX10_goes 32 = .ok (.iload_n 1, 1) := dk_27 (dk_at dksX10_goes_1 8 rfl rfl)
theorem dX10_goes_33 : decode cX10_goes 33 = .ok (.invokevirtual 239, 3) := dk_182 0 239 (dk_at dksX10_goes_1 9 rfl rfl)
theorem dX10_goes_36 : decode cX10_goes 36 = .ok (.aload_n 0, 1) := dk_42 (dk_at dksX10_goes_1 12 rfl rfl)
theorem dX10_goes_37 : decode cX10_goes 37 = .ok (.iconst 1, 1) := dk_4 (dk_at dksX10_goes_1 13 rfl rfl)
theorem dX10_goes_38 : decode cX10_goes 38 = .ok (.aload_n 0, 1) := dk_42 (dk_at dksX10_goes_1 14 rfl rfl)
theorem dX10_goes_39 : decode cX10_goes 39 = .ok (.getfield 236, 3) := dk_180 0 236 (dk_at dksX10_goes_1 15 rfl rfl)
theorem dX10_goes_42 : decode cX10_goes 42 = .ok (.ishl, 1) := dk_120 (dk_at dksX10_goes_1 18 rfl rfl)
theorem dX10_goes_43 : decode cX10_goes 43 = .ok (.iconst 1, 1) := dk_4 (dk_at dksX10_goes_1 19 rfl rfl)
theorem dX10_goes_44 : decode cX10_goes 44 = .ok (.isub, 1) := dk_100 (dk_at dksX10_goes_1 20 rfl rfl)
theorem dX10_goes_45 : decode cX10_goes 45 = .ok (.invokevirtual 259, 3) := dk_182 1 3 (dk_at dksX10_goes_1 21 rfl rfl)
theorem dX10_goes_48 : decode cX10_goes 48 = .ok (.istore 4, 2) := dk_54 4 (dk_at dksX10_goes_2 0 rfl rfl)
theorem dX10_goes_50 : decode cX10_goes 50 = .ok (.iconst 0, 1) := dk_3 (dk_at dksX10_goes_2 2 rfl rfl)
theorem dX10_goes_51 : decode cX10_goes 51 = .ok (.istore 5, 2) := dk_54 5 (dk_at dksX10_goes_2 3 rfl rfl)
theorem dX10_goes_53 : decode cX10_goes 53 = .ok (.iconst 0, 1) := dk_3 (dk_at dksX10_goes_2 5 rfl rfl)
theorem dX10_goes_54 : decode cX10_goes 54 = .ok (.istore 6, 2) := dk_54 6 (dk_at dksX10_goes_2 6 rfl rfl)
theorem dX10_goes_56 : decode cX10_goes 56 = .ok (.iload 6, 2) := dk_21 6 (dk_at dksX10_goes_2 8 rfl rfl)
theorem dX10_goes_58 : decode cX10_goes 58 = .ok (.iload_n 3, 1) := dk_29 (dk_at dksX10_goes_2 10 rfl rfl)
theorem dX10_goes_59 : decode cX10_goes 59 = .ok (.if_icmp .ge 163, 3) := dk_162 0 163 (dk_at dksX10_goes_2 11 rfl rfl)
theorem dX10_goes_62 : decode cX10_goes 62 = .ok (.aload_n 0, 1) := dk_42 (dk_at dksX10_goes_2 14 rfl rfl)
theorem dX10_goes_63 : decode cX10_goes 63 = .ok (.getfield 9, 3) := dk_180 0 9 (dk_at dksX10_goes_2 15 rfl rfl)
theorem dX10_goes_66 : decode cX10_goes 66 = .ok (.sipush 374, 3) := dk_17 1 118 (dk_at dksX10_goes_2 18 rfl rfl)
theorem dX10_goes_69 : decode cX10_goes 69 = .ok (.iload 6, 2) := dk_21 6 (dk_at dksX10_goes_2 21 rfl rfl)
theorem dX10_goes_71 : decode cX10_goes 71 = .ok (.iadd, 1) := dk_96 (dk_at dksX10_goes_2 23 rfl rfl)
theorem dX10_goes_72 : decode cX10_goes 72 = .ok (.iaload, 1) := dk_46 (dk_at dksX10_goes_3 0 rfl rfl)
theorem dX10_goes_73 : decode cX10_goes 73 = .ok (.istore 7, 2) := dk_54 7 (dk_at dksX10_goes_3 1 rfl rfl)
theorem dX10_goes_75 : decode cX10_goes 75 = .ok (.iload 7, 2) := dk_21 7 (dk_at dksX10_goes_3 3 rfl rfl)
theorem dX10_goes_77 : decode cX10_goes 77 = .ok (.ifCond .le 34, 3) := dk_158 0 34 (dk_at dksX10_goes_3 5 rfl rfl)
theorem dX10_goes_80 : decode cX10_goes 80 = .ok (.iload 7, 2) := dk_21 7 (dk_at dksX10_goes_3 8 rfl rfl)
theorem dX10_goes_82 : decode cX10_goes 82 = .ok (.iload 4, 2) := dk_21 4 (dk_at dksX10_goes_3 10 rfl rfl)
theorem dX10_goes_84 : decode cX10_goes 84 = .ok (.iconst (-1), 1) := dk_2 (dk_at dksX10_goes_3 12 rfl rfl)
theorem dX10_goes_85 : decode cX10_goes 85 = .ok (.ixor, 1) := dk_130 (dk_at dksX10_goes_3 13 rfl rfl)
theorem dX10_goes_86 : decode cX10_goes 86 = .ok (.iand, 1) := dk_126 (dk_at dksX10_goes_3 14 rfl rfl)
theorem dX10_goes_87 : decode cX10_goes 87 = .ok (.ifCond .ne 24, 3) := dk_154 0 24 (dk_at dksX10_goes_3 15 rfl rfl)
theorem dX10_goes_90 : decode cX10_goes 90 = .ok (.iload 7, 2) := dk_21 7 (dk_at dksX10_goes_3 18 rfl rfl)
theorem dX10_goes_92 : decode cX10_goes 92 = .ok (.iload 5, 2) := dk_21 5 (dk_at dksX10_goes_3 20 rfl rfl)
theorem dX10_goes_94 : decode cX10_goes 94 = .ok (.iand, 1) := dk_126 (dk_at dksX10_goes_3 22 rfl rfl)
theorem dX10_goes_95 : decode cX10_goes 95 = .ok (.ifCond .ne 16, 3) := dk_154 0 16 (dk_at dksX10_goes_4 0 rfl rfl)
theorem dX10_goes_98 : decode cX10_goes 98 = .ok (.iload 7, 2) := dk_21 7 (dk_at dksX10_goes_4 3 rfl rfl)
theorem dX10_goes_100 : decode cX10_goes 100 = .ok (.invokestatic 144, 3) := dk_184 0 144 (dk_at dksX10_goes_4 5 rfl rfl)
theorem dX10_goes_103 : decode cX10_goes 103 = .ok (.iconst 3, 1) := dk_6 (dk_at dksX10_goes_4 8 rfl rfl)
theorem dX10_goes_104 : decode cX10_goes 104 = .ok (.if_icmp .ge 7, 3) := dk_162 0 7 (dk_at dksX10_goes_4 9 rfl rfl)
theorem dX10_goes_107 : decode cX10_goes 107 = .ok (.iconst 1, 1) := dk_4 (dk_at dksX10_goes_4 12 rfl rfl)
theorem dX10_goes_108 : decode cX10_goes 108 = .ok (.goto 4, 3) := dk_167 0 4 (dk_at dksX10_goes_4 13 rfl rfl)
theorem dX10_goes_111 : decode cX10_goes 111 = .ok (.iconst 0, 1) := dk_3 (dk_at dksX10_goes_4 16 rfl rfl)
theorem dX10_goes_112 : decode cX10_goes 112 = .ok (.istore 8, 2) := dk_54 8 (dk_at dksX10_goes_4 17 rfl rfl)
theorem dX10_goes_114 : decode cX10_goes 114 = .ok (.iconst 0, 1) := dk_3 (dk_at dksX10_goes_4 19 rfl rfl)
theorem dX10_goes_115 : decode cX10_goes 115 = .ok (.istore 9, 2) := dk_54 9 (dk_at dksX10_goes_4 20 rfl rfl)
theorem dX10_goes_117 : decode cX10_goes 117 = .ok (.iconst 0, 1) := dk_3 (dk_at dksX10_goes_4 22 rfl rfl)
theorem dX10_goes_118 : decode cX10_goes 118 = .ok (.istore 10, 2) := dk_54 10 (dk_at dksX10_goes_5 0 rfl rfl)
theorem dX10_goes_120 : decode cX10_goes 120 = .ok (.iload 10, 2) := dk_21 10 (dk_at dksX10_goes_5 2 rfl rfl)
theorem dX10_goes_122 : decode cX10_goes 122 = .ok (.aload_n 0, 1) := dk_42 (dk_at dksX10_goes_5 4 rfl rfl)
theorem dX10_goes_123 : decode cX10_goes 123 = .ok (.getfield 9, 3) := dk_180 0 9 (dk_at dksX10_goes_5 5 rfl rfl)
theorem dX10_goes_126 : decode cX10_goes 126 = .ok (.iconst 1, 1) := dk_4 (dk_at dksX10_goes_5 8 rfl rfl)
theorem dX10_goes_127 : decode cX10_goes 127 = .ok (.iaload, 1) := dk_46 (dk_at dksX10_goes_5 9 rfl rfl)
theorem dX10_goes_128 : decode cX10_goes 128 = .ok (.if_icmp .ge 66, 3) := dk_162 0 66 (dk_at dksX10_goes_5 10 rfl rfl)
theorem dX10_goes_131 : decode cX10_goes 131 = .ok (.iload 8, 2) := dk_21 8 (dk_at dksX10_goes_5 13 rfl rfl)
theorem dX10_goes_133 : decode cX10_goes 133 = .ok (.ifCond .eq 55, 3) := dk_153 0 55 (dk_at dksX10_goes_5 15 rfl rfl)
theorem dX10_goes_136 : decode cX10_goes 136 = .ok (.iload 7, 2) := dk_21 7 (dk_at dksX10_goes_5 18 rfl rfl)
theorem dX10_goes_138 : decode cX10_goes 138 = .ok (.iload 10, 2) := dk_21 10 (dk_at dksX10_goes_5 20 rfl rfl)
theorem dX10_goes_140 : decode cX10_goes 140 = .ok (.invokestatic 243, 3) := dk_184 0 243 (dk_at dksX10_goes_6 0 rfl rfl)
theorem dX10_goes_143 : decode cX10_goes 143 = .ok (.ifCond .eq 45, 3) := dk_153 0 45 (dk_at dksX10_goes_6 3 rfl rfl)
theorem dX10_goes_146 : decode cX10_goes 146 = .ok (.iload 9, 2) := dk_21 9 (dk_at dksX10_goes_6 6 rfl rfl)
theorem dX10_goes_148 : decode cX10_goes 148 = .ok (.aload_n 0, 1) := dk_42 (dk_at dksX10_goes_6 8 rfl rfl)
theorem dX10_goes_149 : decode cX10_goes 149 = .ok (.iload 10, 2) := dk_21 10 (dk_at dksX10_goes_6 9 rfl rfl)
theorem dX10_goes_151 : decode cX10_goes 151 = .ok (.iconst 3, 1) := dk_6 (dk_at dksX10_goes_6 11 rfl rfl)
theorem dX10_goes_152 : decode cX10_goes 152 = .ok (.invokevirtual 105, 3) := dk_182 0 105 (dk_at dksX10_goes_6 12 rfl rfl)
theorem dX10_goes_155 : decode cX10_goes 155 = .ok (.iadd, 1) := dk_96 (dk_at dksX10_goes_6 15 rfl rfl)
theorem dX10_goes_156 : decode cX10_goes 156 = .ok (.istore 9, 2) := dk_54 9 (dk_at dksX10_goes_6 16 rfl rfl)
theorem dX10_goes_158 : decode cX10_goes 158 = .ok (.aload_n 0, 1) := dk_42 (dk_at dksX10_goes_6 18 rfl rfl)
theorem dX10_goes_159 : decode cX10_goes 159 = .ok (.iload 10, 2) := dk_21 10 (dk_at dksX10_goes_6 19 rfl rfl)
theorem dX10_goes_161 : decode cX10_goes 161 = .ok (.iconst 4, 1) := dk_7 (dk_at dksX10_goes_6 21 rfl rfl)
theorem dX10_goes_162 : decode cX10_goes 162 = .ok (.invokevirtual 105, 3) := dk_182 0 105 (dk_at dksX10_goes_7 0 rfl rfl)
theorem dX10_goes_165 : decode cX10_goes 165 = .ok (.aload_n 0, 1) := dk_42 (dk_at dksX10_goes_7 3 rfl rfl)
theorem dX10_goes_166 : decode cX10_goes 166 = .ok (.getfield 9, 3) := dk_180 0 9 (dk_at dksX10_goes_7 4 rfl rfl)
theorem dX10_goes_169 : decode cX10_goes 169 = .ok (.iconst 0, 1) := dk_3 (dk_at dksX10_goes_7 7 rfl rfl)
theorem dX10_goes_170 : decode cX10_goes 170 = .ok (.iaload, 1) := dk_46 (dk_at dksX10_goes_7 8 rfl rfl)
theorem dX10_goes_171 : decode cX10_goes 171 = .ok (.iload 6, 2) := dk_21 6 (dk_at dksX10_goes_7 9 rfl rfl)
theorem dX10_goes_173 : decode cX10_goes 173 = .ok (.iconst 1, 1) := dk_4 (dk_at dksX10_goes_7 11 rfl rfl)
theorem dX10_goes_174 : decode cX10_goes 174 = .ok (.iadd, 1) := dk_96 (dk_at dksX10_goes_7 12 rfl rfl)
theorem dX10_goes_175 : decode cX10_goes 175 = .ok (.iload_n 2, 1) := dk_28 (dk_at dksX10_goes_7 13 rfl rfl)
theorem dX10_goes_176 : decode cX10_goes 176 = .ok (.imul, 1) := dk_104 (dk_at dksX10_goes_7 14 rfl rfl)
theorem dX10_goes_177 : decode cX10_goes 177 = .ok (.iadd, 1) := dk_96 (dk_at dksX10_goes_7 15 rfl rfl)
theorem dX10_goes_178 : decode cX10_goes 178 = .ok (.if_icmp .lt 7, 3) := dk_161 0 7 (dk_at dksX10_goes_7 16 rfl rfl)
theorem dX10_goes_181 : decode cX10_goes 181 = .ok (.iconst 1, 1) := dk_4 (dk_at dksX10_goes_7 19 rfl rfl)
theorem dX10_goes_182 : decode cX10_goes 182 = .ok (.goto 4, 3) := dk_167 0 4 (dk_at dksX10_goes_7 20 rfl rfl)
theorem dX10_goes_185 : decode cX10_goes 185 = .ok (.iconst 0, 1) := dk_3 (dk_at dksX10_goes_7 23 rfl rfl)
theorem dX10_goes_186 : decode cX10_goes 186 = .ok (.istore 8, 2) := dk_54 8 (dk_at dksX10_goes_8 0 rfl rfl)
theorem dX10_goes_188 : decode cX10_goes 188 = .ok (.iinc 10 1, 3) := dk_132 10 1 (dk_at dksX10_goes_8 2 rfl rfl)
theorem dX10_goes_191 : decode cX10_goes 191 = .ok (.goto (-71), 3) := dk_167 255 185 (dk_at dksX10_goes_8 5 rfl rfl)
theorem dX10_goes_194 : decode cX10_goes 194 = .ok (.iload 8, 2) := dk_21 8 (dk_at dksX10_goes_8 8 rfl rfl)
theorem dX10_goes_196 : decode cX10_goes 196 = .ok (.ifCond .eq 8, 3) := dk_153 0 8 (dk_at dksX10_goes_8 10 rfl rfl)
theorem dX10_goes_199 : decode cX10_goes 199 = .ok (.iload 9, 2) := dk_21 9 (dk_at dksX10_goes_8 13 rfl rfl)
theorem dX10_goes_201 : decode cX10_goes 201 = .ok (.ifCond .ne 8, 3) := dk_154 0 8 (dk_at dksX10_goes_8 15 rfl rfl)
theorem dX10_goes_204 : decode cX10_goes 204 = .ok (.iconst 1, 1) := dk_4 (dk_at dksX10_goes_8 18 rfl rfl)
theorem dX10_goes_205 : decode cX10_goes 205 = .ok (.iload 6, 2) := dk_21 6 (dk_at dksX10_goes_8 19 rfl rfl)
theorem dX10_goes_207 : decode cX10_goes 207 = .ok (.iadd, 1) := dk_96 (dk_at dksX10_goes_8 21 rfl rfl)
theorem dX10_goes_208 : decode cX10_goes 208 = .ok (.ireturn, 1) := dk_172 (dk_at dksX10_goes_8 22 rfl rfl)
theorem dX10_goes_209 : decode cX10_goes 209 = .ok (.iload 5, 2) := dk_21 5 (dk_at dksX10_goes_9 0 rfl rfl)
theorem dX10_goes_211 : decode cX10_goes 211 = .ok (.iload 7, 2) := dk_21 7 (dk_at dksX10_goes_9 2 rfl rfl)
theorem dX10_goes_213 : decode cX10_goes 213 = .ok (.ior, 1) := dk_128 (dk_at dksX10_goes_9 4 rfl rfl)
theorem dX10_goes_214 : decode cX10_goes 214 = .ok (.istore 5, 2) := dk_54 5 (dk_at dksX10_goes_9 5 rfl rfl)
theorem dX10_goes_216 : decode cX10_goes 216 = .ok (.iinc 6 1, 3) := dk_132 6 1 (dk_at dksX10_goes_9 7 rfl rfl)
theorem dX10_goes_219 : decode cX10_goes 219 = .ok (.goto (-163), 3) := dk_167 255 93 (dk_at dksX10_goes_9 10 rfl rfl)
theorem dX10_goes_222 : decode cX10_goes 222 = .ok (.iconst 0, 1) := dk_3 (dk_at dksX10_goes_9 13 rfl rfl)
theorem dX10_goes_223 : decode cX10_goes 223 = .ok (.ireturn, 1) := dk_172 (dk_at dksX10_goes_9 14 rfl rfl)
abbrev cX10_odds : ByteArray := prog_37_method_69_code
def yX10_odds : MethodName := ⟨RX10, "odds", "(IIII)J"⟩
def dkwX10_odds_8 : List UInt8 := [55, 11, 21, 4, 154, 0, 8, 22, 9, 167, 0, 5, 22, 7, 22, 11, 109, 173]
abbrev dktX10_odds_8 : List UInt8 := dkwX10_odds_8 ++ []
def dkwX10_odds_7 : List UInt8 := [167, 255, 223, 22, 9, 22, 12, 97, 55, 9, 132, 11, 1, 167, 255, 166, 22, 7, 22, 9, 184, 1, 9]
abbrev dktX10_odds_7 : List UInt8 := dkwX10_odds_7 ++ dktX10_odds_8
def dkwX10_odds_6 : List UInt8 := [21, 11, 162, 0, 9, 21, 5, 133, 167, 0, 9, 21, 6, 21, 5, 100, 133, 105, 55, 12, 132, 14, 1]
abbrev dktX10_odds_6 : List UInt8 := dkwX10_odds_6 ++ dktX10_odds_7
def dkwX10_odds_5 : List UInt8 := [133, 109, 55, 12, 132, 14, 1, 167, 255, 230, 3, 54, 14, 21, 14, 27, 162, 0, 33, 22, 12, 21, 14]
abbrev dktX10_odds_5 : List UInt8 := dkwX10_odds_5 ++ dktX10_odds_6
def dkwX10_odds_4 : List UInt8 := [55, 12, 3, 54, 14, 21, 14, 21, 11, 162, 0, 25, 22, 12, 27, 21, 14, 100, 133, 105, 21, 14, 4, 96]
abbrev dktX10_odds_4 : List UInt8 := dkwX10_odds_4 ++ dktX10_odds_5
def dkwX10_odds_3 : List UInt8 := [22, 7, 21, 6, 133, 105, 55, 7, 132, 11, 1, 167, 255, 239, 28, 54, 11, 21, 11, 27, 163, 0, 90, 10]
abbrev dktX10_odds_3 : List UInt8 := dkwX10_odds_3 ++ dktX10_odds_4
def dkwX10_odds_2 : List UInt8 := [108, 54, 5, 29, 16, 10, 112, 54, 6, 10, 55, 7, 9, 55, 9, 3, 54, 11, 21, 11, 27, 162, 0, 17]
abbrev dktX10_odds_2 : List UInt8 := dkwX10_odds_2 ++ dktX10_odds_3
def dkwX10_odds_1 : List UInt8 := [153, 0, 13, 21, 4, 3, 4, 184, 0, 78, 154, 0, 11, 42, 18, 87, 182, 0, 88, 133, 173, 29, 16, 10]
abbrev dktX10_odds_1 : List UInt8 := dkwX10_odds_1 ++ dktX10_odds_2
def dkwX10_odds_0 : List UInt8 := [27, 4, 16, 12, 184, 0, 78, 153, 0, 30, 28, 3, 16, 12, 184, 0, 78, 153, 0, 20, 29, 184, 1, 13]
abbrev dktX10_odds_0 : List UInt8 := dkwX10_odds_0 ++ dktX10_odds_1
theorem dksX10_odds_0 : cX10_odds.data.toList.drop 0 = dktX10_odds_0 := by decide +kernel
theorem dksX10_odds_1 : cX10_odds.data.toList.drop 24 = dktX10_odds_1 := dk_seg dksX10_odds_0 24 rfl rfl
theorem dksX10_odds_2 : cX10_odds.data.toList.drop 48 = dktX10_odds_2 := dk_seg dksX10_odds_1 24 rfl rfl
theorem dksX10_odds_3 : cX10_odds.data.toList.drop 72 = dktX10_odds_3 := dk_seg dksX10_odds_2 24 rfl rfl
theorem dksX10_odds_4 : cX10_odds.data.toList.drop 96 = dktX10_odds_4 := dk_seg dksX10_odds_3 24 rfl rfl
theorem dksX10_odds_5 : cX10_odds.data.toList.drop 120 = dktX10_odds_5 := dk_seg dksX10_odds_4 24 rfl rfl
theorem dksX10_odds_6 : cX10_odds.data.toList.drop 143 = dktX10_odds_6 := dk_seg dksX10_odds_5 23 rfl rfl
theorem dksX10_odds_7 : cX10_odds.data.toList.drop 166 = dktX10_odds_7 := dk_seg dksX10_odds_6 23 rfl rfl
theorem dksX10_odds_8 : cX10_odds.data.toList.drop 189 = dktX10_odds_8 := dk_seg dksX10_odds_7 23 rfl rfl
theorem dX10_odds_0 : decode cX10_odds 0 = .ok (.iload_n 1, 1) := dk_27 (dk_at dksX10_odds_0 0 rfl rfl)
theorem dX10_odds_1 : decode cX10_odds 1 = .ok (.iconst 1, 1) := dk_4 (dk_at dksX10_odds_0 1 rfl rfl)
theorem dX10_odds_2 : decode cX10_odds 2 = .ok (.bipush 12, 2) := dk_16 12 (dk_at dksX10_odds_0 2 rfl rfl)
theorem dX10_odds_4 : decode cX10_odds 4 = .ok (.invokestatic 78, 3) := dk_184 0 78 (dk_at dksX10_odds_0 4 rfl rfl)
theorem dX10_odds_7 : decode cX10_odds 7 = .ok (.ifCond .eq 30, 3) := dk_153 0 30 (dk_at dksX10_odds_0 7 rfl rfl)
theorem dX10_odds_10 : decode cX10_odds 10 = .ok (.iload_n 2, 1) := dk_28 (dk_at dksX10_odds_0 10 rfl rfl)
theorem dX10_odds_11 : decode cX10_odds 11 = .ok (.iconst 0, 1) := dk_3 (dk_at dksX10_odds_0 11 rfl rfl)
theorem dX10_odds_12 : decode cX10_odds 12 = .ok (.bipush 12, 2) := dk_16 12 (dk_at dksX10_odds_0 12 rfl rfl)
theorem dX10_odds_14 : decode cX10_odds 14 = .ok (.invokestatic 78, 3) := dk_184 0 78 (dk_at dksX10_odds_0 14 rfl rfl)
theorem dX10_odds_17 : decode cX10_odds 17 = .ok (.ifCond .eq 20, 3) := dk_153 0 20 (dk_at dksX10_odds_0 17 rfl rfl)
theorem dX10_odds_20 : decode cX10_odds 20 = .ok (.iload_n 3, 1) := dk_29 (dk_at dksX10_odds_0 20 rfl rfl)
theorem dX10_odds_21 : decode cX10_odds 21 = .ok (.invokestatic 269, 3) := dk_184 1 13 (dk_at dksX10_odds_0 21 rfl rfl)
theorem dX10_odds_24 : decode cX10_odds 24 = .ok (.ifCond .eq 13, 3) := dk_153 0 13 (dk_at dksX10_odds_1 0 rfl rfl)
theorem dX10_odds_27 : decode cX10_odds 27 = .ok (.iload 4, 2) := dk_21 4 (dk_at dksX10_odds_1 3 rfl rfl)
theorem dX10_odds_29 : decode cX10_odds 29 = .ok (.iconst 0, 1) := dk_3 (dk_at dksX10_odds_1 5 rfl rfl)
theorem dX10_odds_30 : decode cX10_odds 30 = .ok (.iconst 1, 1) := dk_4 (dk_at dksX10_odds_1 6 rfl rfl)
theorem dX10_odds_31 : decode cX10_odds 31 = .ok (.invokestatic 78, 3) := dk_184 0 78 (dk_at dksX10_odds_1 7 rfl rfl)
theorem dX10_odds_34 : decode cX10_odds 34 = .ok (.ifCond .ne 11, 3) := dk_154 0 11 (dk_at dksX10_odds_1 10 rfl rfl)
theorem dX10_odds_37 : decode cX10_odds 37 = .ok (.aload_n 0, 1) := dk_42 (dk_at dksX10_odds_1 13 rfl rfl)
theorem dX10_odds_38 : decode cX10_odds 38 = .ok (.ldc 87, 2) := dk_18 87 (dk_at dksX10_odds_1 14 rfl rfl)
theorem dX10_odds_40 : decode cX10_odds 40 = .ok (.invokevirtual 88, 3) := dk_182 0 88 (dk_at dksX10_odds_1 16 rfl rfl)
theorem dX10_odds_43 : decode cX10_odds 43 = .ok (.i2l, 1) := dk_133 (dk_at dksX10_odds_1 19 rfl rfl)
theorem dX10_odds_44 : decode cX10_odds 44 = .ok (.lreturn, 1) := dk_173 (dk_at dksX10_odds_1 20 rfl rfl)
theorem dX10_odds_45 : decode cX10_odds 45 = .ok (.iload_n 3, 1) := dk_29 (dk_at dksX10_odds_1 21 rfl rfl)
theorem dX10_odds_46 : decode cX10_odds 46 = .ok (.bipush 10, 2) := dk_16 10 (dk_at dksX10_odds_1 22 rfl rfl)
theorem dX10_odds_48 : decode cX10_odds 48 = .ok (.idiv, 1) := dk_108 (dk_at dksX10_odds_2 0 rfl rfl)
theorem dX10_odds_49 : decode cX10_odds 49 = .ok (.istore 5, 2) := dk_54 5 (dk_at dksX10_odds_2 1 rfl rfl)
theorem dX10_odds_51 : decode cX10_odds 51 = .ok (.iload_n 3, 1) := dk_29 (dk_at dksX10_odds_2 3 rfl rfl)
theorem dX10_odds_52 : decode cX10_odds 52 = .ok (.bipush 10, 2) := dk_16 10 (dk_at dksX10_odds_2 4 rfl rfl)
theorem dX10_odds_54 : decode cX10_odds 54 = .ok (.irem, 1) := dk_112 (dk_at dksX10_odds_2 6 rfl rfl)
theorem dX10_odds_55 : decode cX10_odds 55 = .ok (.istore 6, 2) := dk_54 6 (dk_at dksX10_odds_2 7 rfl rfl)
theorem dX10_odds_57 : decode cX10_odds 57 = .ok (.lconst 1, 1) := dk_10 (dk_at dksX10_odds_2 9 rfl rfl)
theorem dX10_odds_58 : decode cX10_odds 58 = .ok (.lstore 7, 2) := dk_55 7 (dk_at dksX10_odds_2 10 rfl rfl)
theorem dX10_odds_60 : decode cX10_odds 60 = .ok (.lconst 0, 1) := dk_9 (dk_at dksX10_odds_2 12 rfl rfl)
theorem dX10_odds_61 : decode cX10_odds 61 = .ok (.lstore 9, 2) := dk_55 9 (dk_at dksX10_odds_2 13 rfl rfl)
theorem dX10_odds_63 : decode cX10_odds 63 = .ok (.iconst 0, 1) := dk_3 (dk_at dksX10_odds_2 15 rfl rfl)
theorem dX10_odds_64 : decode cX10_odds 64 = .ok (.istore 11, 2) := dk_54 11 (dk_at dksX10_odds_2 16 rfl rfl)
theorem dX10_odds_66 : decode cX10_odds 66 = .ok (.iload 11, 2) := dk_21 11 (dk_at dksX10_odds_2 18 rfl rfl)
theorem dX10_odds_68 : decode cX10_odds 68 = .ok (.iload_n 1, 1) := dk_27 (dk_at dksX10_odds_2 20 rfl rfl)
theorem dX10_odds_69 : decode cX10_odds 69 = .ok (.if_icmp .ge 17, 3) := dk_162 0 17 (dk_at dksX10_odds_2 21 rfl rfl)
theorem dX10_odds_72 : decode cX10_odds 72 = .ok (.lload 7, 2) := dk_22 7 (dk_at dksX10_odds_3 0 rfl rfl)
theorem dX10_odds_74 : decode cX10_odds 74 = .ok (.iload 6, 2) := dk_21 6 (dk_at dksX10_odds_3 2 rfl rfl)
theorem dX10_odds_76 : decode cX10_odds 76 = .ok (.i2l, 1) := dk_133 (dk_at dksX10_odds_3 4 rfl rfl)
theorem dX10_odds_77 : decode cX10_odds 77 = .ok (.lmul, 1) := dk_105 (dk_at dksX10_odds_3 5 rfl rfl)
theorem dX10_odds_78 : decode cX10_odds 78 = .ok (.lstore 7, 2) := dk_55 7 (dk_at dksX10_odds_3 6 rfl rfl)
theorem dX10_odds_80 : decode cX10_odds 80 = .ok (.iinc 11 1, 3) := dk_132 11 1 (dk_at dksX10_odds_3 8 rfl rfl)
theorem dX10_odds_83 : decode cX10_odds 83 = .ok (.goto (-17), 3) := dk_167 255 239 (dk_at dksX10_odds_3 11 rfl rfl)
theorem dX10_odds_86 : decode cX10_odds 86 = .ok (.iload_n 2, 1) := dk_28 (dk_at dksX10_odds_3 14 rfl rfl)
theorem dX10_odds_87 : decode cX10_odds 87 = .ok (.istore 11, 2) := dk_54 11 (dk_at dksX10_odds_3 15 rfl rfl)
theorem dX10_odds_89 : decode cX10_odds 89 = .ok (.iload 11, 2) := dk_21 11 (dk_at dksX10_odds_3 17 rfl rfl)
theorem dX10_odds_91 : decode cX10_odds 91 = .ok (.iload_n 1, 1) := dk_27 (dk_at dksX10_odds_3 19 rfl rfl)
theorem dX10_odds_92 : decode cX10_odds 92 = .ok (.if_icmp .gt 90, 3) := dk_163 0 90 (dk_at dksX10_odds_3 20 rfl rfl)
theorem dX10_odds_95 : decode cX10_odds 95 = .ok (.lconst 1, 1) := dk_10 (dk_at dksX10_odds_3 23 rfl rfl)
theorem dX10_odds_96 : decode cX10_odds 96 = .ok (.lstore 12, 2) := dk_55 12 (dk_at dksX10_odds_4 0 rfl rfl)
theorem dX10_odds_98 : decode cX10_odds 98 = .ok (.iconst 0, 1) := dk_3 (dk_at dksX10_odds_4 2 rfl rfl)
theorem dX10_odds_99 : decode cX10_odds 99 = .ok (.istore 14, 2) := dk_54 14 (dk_at dksX10_odds_4 3 rfl rfl)
theorem dX10_odds_101 : decode cX10_odds 101 = .ok (.iload 14, 2) := dk_21 14 (dk_at dksX10_odds_4 5 rfl rfl)
theorem dX10_odds_103 : decode cX10_odds 103 = .ok (.iload 11, 2) := dk_21 11 (dk_at dksX10_odds_4 7 rfl rfl)
theorem dX10_odds_105 : decode cX10_odds 105 = .ok (.if_icmp .ge 25, 3) := dk_162 0 25 (dk_at dksX10_odds_4 9 rfl rfl)
theorem dX10_odds_108 : decode cX10_odds 108 = .ok (.lload 12, 2) := dk_22 12 (dk_at dksX10_odds_4 12 rfl rfl)
theorem dX10_odds_110 : decode cX10_odds 110 = .ok (.iload_n 1, 1) := dk_27 (dk_at dksX10_odds_4 14 rfl rfl)
theorem dX10_odds_111 : decode cX10_odds 111 = .ok (.iload 14, 2) := dk_21 14 (dk_at dksX10_odds_4 15 rfl rfl)
theorem dX10_odds_113 : decode cX10_odds 113 = .ok (.isub, 1) := dk_100 (dk_at dksX10_odds_4 17 rfl rfl)
theorem dX10_odds_114 : decode cX10_odds 114 = .ok (.i2l, 1) := dk_133 (dk_at dksX10_odds_4 18 rfl rfl)
theorem dX10_odds_115 : decode cX10_odds 115 = .ok (.lmul, 1) := dk_105 (dk_at dksX10_odds_4 19 rfl rfl)
theorem dX10_odds_116 : decode cX10_odds 116 = .ok (.iload 14, 2) := dk_21 14 (dk_at dksX10_odds_4 20 rfl rfl)
theorem dX10_odds_118 : decode cX10_odds 118 = .ok (.iconst 1, 1) := dk_4 (dk_at dksX10_odds_4 22 rfl rfl)
theorem dX10_odds_119 : decode cX10_odds 119 = .ok (.iadd, 1) := dk_96 (dk_at dksX10_odds_4 23 rfl rfl)
theorem dX10_odds_120 : decode cX10_odds 120 = .ok (.i2l, 1) := dk_133 (dk_at dksX10_odds_5 0 rfl rfl)
theorem dX10_odds_121 : decode cX10_odds 121 = .ok (.ldiv, 1) := dk_109 (dk_at dksX10_odds_5 1 rfl rfl)
theorem dX10_odds_122 : decode cX10_odds 122 = .ok (.lstore 12, 2) := dk_55 12 (dk_at dksX10_odds_5 2 rfl rfl)
theorem dX10_odds_124 : decode cX10_odds 124 = .ok (.iinc 14 1, 3) := dk_132 14 1 (dk_at dksX10_odds_5 4 rfl rfl)
theorem dX10_odds_127 : decode cX10_odds 127 = .ok (.goto (-26), 3) := dk_167 255 230 (dk_at dksX10_odds_5 7 rfl rfl)
theorem dX10_odds_130 : decode cX10_odds 130 = .ok (.iconst 0, 1) := dk_3 (dk_at dksX10_odds_5 10 rfl rfl)
theorem dX10_odds_131 : decode cX10_odds 131 = .ok (.istore 14, 2) := dk_54 14 (dk_at dksX10_odds_5 11 rfl rfl)
theorem dX10_odds_133 : decode cX10_odds 133 = .ok (.iload 14, 2) := dk_21 14 (dk_at dksX10_odds_5 13 rfl rfl)
theorem dX10_odds_135 : decode cX10_odds 135 = .ok (.iload_n 1, 1) := dk_27 (dk_at dksX10_odds_5 15 rfl rfl)
theorem dX10_odds_136 : decode cX10_odds 136 = .ok (.if_icmp .ge 33, 3) := dk_162 0 33 (dk_at dksX10_odds_5 16 rfl rfl)
theorem dX10_odds_139 : decode cX10_odds 139 = .ok (.lload 12, 2) := dk_22 12 (dk_at dksX10_odds_5 19 rfl rfl)
theorem dX10_odds_141 : decode cX10_odds 141 = .ok (.iload 14, 2) := dk_21 14 (dk_at dksX10_odds_5 21 rfl rfl)
theorem dX10_odds_143 : decode cX10_odds 143 = .ok (.iload 11, 2) := dk_21 11 (dk_at dksX10_odds_6 0 rfl rfl)
theorem dX10_odds_145 : decode cX10_odds 145 = .ok (.if_icmp .ge 9, 3) := dk_162 0 9 (dk_at dksX10_odds_6 2 rfl rfl)
theorem dX10_odds_148 : decode cX10_odds 148 = .ok (.iload 5, 2) := dk_21 5 (dk_at dksX10_odds_6 5 rfl rfl)
theorem dX10_odds_150 : decode cX10_odds 150 = .ok (.i2l, 1) := dk_133 (dk_at dksX10_odds_6 7 rfl rfl)
theorem dX10_odds_151 : decode cX10_odds 151 = .ok (.goto 9, 3) := dk_167 0 9 (dk_at dksX10_odds_6 8 rfl rfl)
theorem dX10_odds_154 : decode cX10_odds 154 = .ok (.iload 6, 2) := dk_21 6 (dk_at dksX10_odds_6 11 rfl rfl)
theorem dX10_odds_156 : decode cX10_odds 156 = .ok (.iload 5, 2) := dk_21 5 (dk_at dksX10_odds_6 13 rfl rfl)
theorem dX10_odds_158 : decode cX10_odds 158 = .ok (.isub, 1) := dk_100 (dk_at dksX10_odds_6 15 rfl rfl)
theorem dX10_odds_159 : decode cX10_odds 159 = .ok (.i2l, 1) := dk_133 (dk_at dksX10_odds_6 16 rfl rfl)
theorem dX10_odds_160 : decode cX10_odds 160 = .ok (.lmul, 1) := dk_105 (dk_at dksX10_odds_6 17 rfl rfl)
theorem dX10_odds_161 : decode cX10_odds 161 = .ok (.lstore 12, 2) := dk_55 12 (dk_at dksX10_odds_6 18 rfl rfl)
theorem dX10_odds_163 : decode cX10_odds 163 = .ok (.iinc 14 1, 3) := dk_132 14 1 (dk_at dksX10_odds_6 20 rfl rfl)
theorem dX10_odds_166 : decode cX10_odds 166 = .ok (.goto (-33), 3) := dk_167 255 223 (dk_at dksX10_odds_7 0 rfl rfl)
theorem dX10_odds_169 : decode cX10_odds 169 = .ok (.lload 9, 2) := dk_22 9 (dk_at dksX10_odds_7 3 rfl rfl)
theorem dX10_odds_171 : decode cX10_odds 171 = .ok (.lload 12, 2) := dk_22 12 (dk_at dksX10_odds_7 5 rfl rfl)
theorem dX10_odds_173 : decode cX10_odds 173 = .ok (.ladd, 1) := dk_97 (dk_at dksX10_odds_7 7 rfl rfl)
theorem dX10_odds_174 : decode cX10_odds 174 = .ok (.lstore 9, 2) := dk_55 9 (dk_at dksX10_odds_7 8 rfl rfl)
theorem dX10_odds_176 : decode cX10_odds 176 = .ok (.iinc 11 1, 3) := dk_132 11 1 (dk_at dksX10_odds_7 10 rfl rfl)
theorem dX10_odds_179 : decode cX10_odds 179 = .ok (.goto (-90), 3) := dk_167 255 166 (dk_at dksX10_odds_7 13 rfl rfl)
theorem dX10_odds_182 : decode cX10_odds 182 = .ok (.lload 7, 2) := dk_22 7 (dk_at dksX10_odds_7 16 rfl rfl)
theorem dX10_odds_184 : decode cX10_odds 184 = .ok (.lload 9, 2) := dk_22 9 (dk_at dksX10_odds_7 18 rfl rfl)
theorem dX10_odds_186 : decode cX10_odds 186 = .ok (.invokestatic 265, 3) := dk_184 1 9 (dk_at dksX10_odds_7 20 rfl rfl)
theorem dX10_odds_189 : decode cX10_odds 189 = .ok (.lstore 11, 2) := dk_55 11 (dk_at dksX10_odds_8 0 rfl rfl)
theorem dX10_odds_191 : decode cX10_odds 191 = .ok (.iload 4, 2) := dk_21 4 (dk_at dksX10_odds_8 2 rfl rfl)
theorem dX10_odds_193 : decode cX10_odds 193 = .ok (.ifCond .ne 8, 3) := dk_154 0 8 (dk_at dksX10_odds_8 4 rfl rfl)
theorem dX10_odds_196 : decode cX10_odds 196 = .ok (.lload 9, 2) := dk_22 9 (dk_at dksX10_odds_8 7 rfl rfl)
theorem dX10_odds_198 : decode cX10_odds 198 = .ok (.goto 5, 3) := dk_167 0 5 (dk_at dksX10_odds_8 9 rfl rfl)
theorem dX10_odds_201 : decode cX10_odds 201 = .ok (.lload 7, 2) := dk_22 7 (dk_at dksX10_odds_8 12 rfl rfl)
theorem dX10_odds_203 : decode cX10_odds 203 = .ok (.lload 11, 2) := dk_22 11 (dk_at dksX10_odds_8 14 rfl rfl)
theorem dX10_odds_205 : decode cX10_odds 205 = .ok (.ldiv, 1) := dk_109 (dk_at dksX10_odds_8 16 rfl rfl)
theorem dX10_odds_206 : decode cX10_odds 206 = .ok (.lreturn, 1) := dk_173 (dk_at dksX10_odds_8 17 rfl rfl)
abbrev cX10_isPart : ByteArray := prog_37_method_68_code
def yX10_isPart : MethodName := ⟨RX10, "isPart", "(I)Z"⟩
def dkwX10_isPart_1 : List UInt8 := [112, 163, 0, 7, 4, 167, 0, 4, 3, 172]
abbrev dktX10_isPart_1 : List UInt8 := dkwX10_isPart_1 ++ []
def dkwX10_isPart_0 : List UInt8 := [26, 155, 0, 31, 26, 16, 10, 112, 4, 16, 6, 184, 0, 78, 153, 0, 18, 26, 16, 10, 108, 26, 16, 10]
abbrev dktX10_isPart_0 : List UInt8 := dkwX10_isPart_0 ++ dktX10_isPart_1
theorem dksX10_isPart_0 : cX10_isPart.data.toList.drop 0 = dktX10_isPart_0 := by decide +kernel
theorem dksX10_isPart_1 : cX10_isPart.data.toList.drop 24 = dktX10_isPart_1 := dk_seg dksX10_isPart_0 24 rfl rfl
theorem dX10_isPart_0 : decode cX10_isPart 0 = .ok (.iload_n 0, 1) := dk_26 (dk_at dksX10_isPart_0 0 rfl rfl)
theorem dX10_isPart_1 : decode cX10_isPart 1 = .ok (.ifCond .lt 31, 3) := dk_155 0 31 (dk_at dksX10_isPart_0 1 rfl rfl)
theorem dX10_isPart_4 : decode cX10_isPart 4 = .ok (.iload_n 0, 1) := dk_26 (dk_at dksX10_isPart_0 4 rfl rfl)
theorem dX10_isPart_5 : decode cX10_isPart 5 = .ok (.bipush 10, 2) := dk_16 10 (dk_at dksX10_isPart_0 5 rfl rfl)
theorem dX10_isPart_7 : decode cX10_isPart 7 = .ok (.irem, 1) := dk_112 (dk_at dksX10_isPart_0 7 rfl rfl)
theorem dX10_isPart_8 : decode cX10_isPart 8 = .ok (.iconst 1, 1) := dk_4 (dk_at dksX10_isPart_0 8 rfl rfl)
theorem dX10_isPart_9 : decode cX10_isPart 9 = .ok (.bipush 6, 2) := dk_16 6 (dk_at dksX10_isPart_0 9 rfl rfl)
theorem dX10_isPart_11 : decode cX10_isPart 11 = .ok (.invokestatic 78, 3) := dk_184 0 78 (dk_at dksX10_isPart_0 11 rfl rfl)
theorem dX10_isPart_14 : decode cX10_isPart 14 = .ok (.ifCond .eq 18, 3) := dk_153 0 18 (dk_at dksX10_isPart_0 14 rfl rfl)
theorem dX10_isPart_17 : decode cX10_isPart 17 = .ok (.iload_n 0, 1) := dk_26 (dk_at dksX10_isPart_0 17 rfl rfl)
theorem dX10_isPart_18 : decode cX10_isPart 18 = .ok (.bipush 10, 2) := dk_16 10 (dk_at dksX10_isPart_0 18 rfl rfl)
theorem dX10_isPart_20 : decode cX10_isPart 20 = .ok (.idiv, 1) := dk_108 (dk_at dksX10_isPart_0 20 rfl rfl)
theorem dX10_isPart_21 : decode cX10_isPart 21 = .ok (.iload_n 0, 1) := dk_26 (dk_at dksX10_isPart_0 21 rfl rfl)
theorem dX10_isPart_22 : decode cX10_isPart 22 = .ok (.bipush 10, 2) := dk_16 10 (dk_at dksX10_isPart_0 22 rfl rfl)
theorem dX10_isPart_24 : decode cX10_isPart 24 = .ok (.irem, 1) := dk_112 (dk_at dksX10_isPart_1 0 rfl rfl)
theorem dX10_isPart_25 : decode cX10_isPart 25 = .ok (.if_icmp .gt 7, 3) := dk_163 0 7 (dk_at dksX10_isPart_1 1 rfl rfl)
theorem dX10_isPart_28 : decode cX10_isPart 28 = .ok (.iconst 1, 1) := dk_4 (dk_at dksX10_isPart_1 4 rfl rfl)
theorem dX10_isPart_29 : decode cX10_isPart 29 = .ok (.goto 4, 3) := dk_167 0 4 (dk_at dksX10_isPart_1 5 rfl rfl)
theorem dX10_isPart_32 : decode cX10_isPart 32 = .ok (.iconst 0, 1) := dk_3 (dk_at dksX10_isPart_1 8 rfl rfl)
theorem dX10_isPart_33 : decode cX10_isPart 33 = .ok (.ireturn, 1) := dk_172 (dk_at dksX10_isPart_1 9 rfl rfl)
abbrev cX10_divisor : ByteArray := prog_37_method_67_code
def yX10_divisor : MethodName := ⟨RX10, "divisor", "(JJ)J"⟩
def dkwX10_divisor_0 : List UInt8 := [32, 9, 148, 154, 0, 7, 30, 167, 0, 10, 32, 30, 32, 113, 184, 1, 9, 173]
abbrev dktX10_divisor_0 : List UInt8 := dkwX10_divisor_0 ++ []
theorem dksX10_divisor_0 : cX10_divisor.data.toList.drop 0 = dktX10_divisor_0 := by decide +kernel
theorem dX10_divisor_0 : decode cX10_divisor 0 = .ok (.lload_n 2, 1) := dk_32 (dk_at dksX10_divisor_0 0 rfl rfl)
theorem dX10_divisor_1 : decode cX10_divisor 1 = .ok (.lconst 0, 1) := dk_9 (dk_at dksX10_divisor_0 1 rfl rfl)
theorem dX10_divisor_2 : decode cX10_divisor 2 = .ok (.lcmp, 1) := dk_148 (dk_at dksX10_divisor_0 2 rfl rfl)
theorem dX10_divisor_3 : decode cX10_divisor 3 = .ok (.ifCond .ne 7, 3) := dk_154 0 7 (dk_at dksX10_divisor_0 3 rfl rfl)
theorem dX10_divisor_6 : decode cX10_divisor 6 = .ok (.lload_n 0, 1) := dk_30 (dk_at dksX10_divisor_0 6 rfl rfl)
theorem dX10_divisor_7 : decode cX10_divisor 7 = .ok (.goto 10, 3) := dk_167 0 10 (dk_at dksX10_divisor_0 7 rfl rfl)
theorem dX10_divisor_10 : decode cX10_divisor 10 = .ok (.lload_n 2, 1) := dk_32 (dk_at dksX10_divisor_0 10 rfl rfl)
theorem dX10_divisor_11 : decode cX10_divisor 11 = .ok (.lload_n 0, 1) := dk_30 (dk_at dksX10_divisor_0 11 rfl rfl)
theorem dX10_divisor_12 : decode cX10_divisor 12 = .ok (.lload_n 2, 1) := dk_32 (dk_at dksX10_divisor_0 12 rfl rfl)
theorem dX10_divisor_13 : decode cX10_divisor 13 = .ok (.lrem, 1) := dk_113 (dk_at dksX10_divisor_0 13 rfl rfl)
theorem dX10_divisor_14 : decode cX10_divisor 14 = .ok (.invokestatic 265, 3) := dk_184 1 9 (dk_at dksX10_divisor_0 14 rfl rfl)
theorem dX10_divisor_17 : decode cX10_divisor 17 = .ok (.lreturn, 1) := dk_173 (dk_at dksX10_divisor_0 17 rfl rfl)
abbrev cX10_beside : ByteArray := prog_37_method_70_code
def yX10_beside : MethodName := ⟨RX10, "beside", "(III)I"⟩
def dkwX10_beside_3 : List UInt8 := [5, 172]
abbrev dktX10_beside_3 : List UInt8 := dkwX10_beside_3 ++ []
def dkwX10_beside_2 : List UInt8 := [54, 5, 21, 4, 21, 5, 164, 0, 7, 3, 167, 0, 15, 21, 5, 21, 4, 164, 0, 7, 4, 167, 0, 4]
abbrev dktX10_beside_2 : List UInt8 := dkwX10_beside_2 ++ dktX10_beside_3
def dkwX10_beside_1 : List UInt8 := [154, 0, 10, 42, 18, 87, 182, 0, 88, 172, 28, 29, 16, 10, 112, 104, 54, 4, 27, 29, 16, 10, 108, 104]
abbrev dktX10_beside_1 : List UInt8 := dkwX10_beside_1 ++ dktX10_beside_2
def dkwX10_beside_0 : List UInt8 := [27, 4, 16, 12, 184, 0, 78, 153, 0, 19, 28, 3, 27, 184, 0, 78, 153, 0, 10, 29, 184, 1, 13]
abbrev dktX10_beside_0 : List UInt8 := dkwX10_beside_0 ++ dktX10_beside_1
theorem dksX10_beside_0 : cX10_beside.data.toList.drop 0 = dktX10_beside_0 := by decide +kernel
theorem dksX10_beside_1 : cX10_beside.data.toList.drop 23 = dktX10_beside_1 := dk_seg dksX10_beside_0 23 rfl rfl
theorem dksX10_beside_2 : cX10_beside.data.toList.drop 47 = dktX10_beside_2 := dk_seg dksX10_beside_1 24 rfl rfl
theorem dksX10_beside_3 : cX10_beside.data.toList.drop 71 = dktX10_beside_3 := dk_seg dksX10_beside_2 24 rfl rfl
theorem dX10_beside_0 : decode cX10_beside 0 = .ok (.iload_n 1, 1) := dk_27 (dk_at dksX10_beside_0 0 rfl rfl)
theorem dX10_beside_1 : decode cX10_beside 1 = .ok (.iconst 1, 1) := dk_4 (dk_at dksX10_beside_0 1 rfl rfl)
theorem dX10_beside_2 : decode cX10_beside 2 = .ok (.bipush 12, 2) := dk_16 12 (dk_at dksX10_beside_0 2 rfl rfl)
theorem dX10_beside_4 : decode cX10_beside 4 = .ok (.invokestatic 78, 3) := dk_184 0 78 (dk_at dksX10_beside_0 4 rfl rfl)
theorem dX10_beside_7 : decode cX10_beside 7 = .ok (.ifCond .eq 19, 3) := dk_153 0 19 (dk_at dksX10_beside_0 7 rfl rfl)
theorem dX10_beside_10 : decode cX10_beside 10 = .ok (.iload_n 2, 1) := dk_28 (dk_at dksX10_beside_0 10 rfl rfl)
theorem dX10_beside_11 : decode cX10_beside 11 = .ok (.iconst 0, 1) := dk_3 (dk_at dksX10_beside_0 11 rfl rfl)
theorem dX10_beside_12 : decode cX10_beside 12 = .ok (.iload_n 1, 1) := dk_27 (dk_at dksX10_beside_0 12 rfl rfl)
theorem dX10_beside_13 : decode cX10_beside 13 = .ok (.invokestatic 78, 3) := dk_184 0 78 (dk_at dksX10_beside_0 13 rfl rfl)
theorem dX10_beside_16 : decode cX10_beside 16 = .ok (.ifCond .eq 10, 3) := dk_153 0 10 (dk_at dksX10_beside_0 16 rfl rfl)
theorem dX10_beside_19 : decode cX10_beside 19 = .ok (.iload_n 3, 1) := dk_29 (dk_at dksX10_beside_0 19 rfl rfl)
theorem dX10_beside_20 : decode cX10_beside 20 = .ok (.invokestatic 269, 3) := dk_184 1 13 (dk_at dksX10_beside_0 20 rfl rfl)
theorem dX10_beside_23 : decode cX10_beside 23 = .ok (.ifCond .ne 10, 3) := dk_154 0 10 (dk_at dksX10_beside_1 0 rfl rfl)
theorem dX10_beside_26 : decode cX10_beside 26 = .ok (.aload_n 0, 1) := dk_42 (dk_at dksX10_beside_1 3 rfl rfl)
theorem dX10_beside_27 : decode cX10_beside 27 = .ok (.ldc 87, 2) := dk_18 87 (dk_at dksX10_beside_1 4 rfl rfl)
theorem dX10_beside_29 : decode cX10_beside 29 = .ok (.invokevirtual 88, 3) := dk_182 0 88 (dk_at dksX10_beside_1 6 rfl rfl)
theorem dX10_beside_32 : decode cX10_beside 32 = .ok (.ireturn, 1) := dk_172 (dk_at dksX10_beside_1 9 rfl rfl)
theorem dX10_beside_33 : decode cX10_beside 33 = .ok (.iload_n 2, 1) := dk_28 (dk_at dksX10_beside_1 10 rfl rfl)
theorem dX10_beside_34 : decode cX10_beside 34 = .ok (.iload_n 3, 1) := dk_29 (dk_at dksX10_beside_1 11 rfl rfl)
theorem dX10_beside_35 : decode cX10_beside 35 = .ok (.bipush 10, 2) := dk_16 10 (dk_at dksX10_beside_1 12 rfl rfl)
theorem dX10_beside_37 : decode cX10_beside 37 = .ok (.irem, 1) := dk_112 (dk_at dksX10_beside_1 14 rfl rfl)
theorem dX10_beside_38 : decode cX10_beside 38 = .ok (.imul, 1) := dk_104 (dk_at dksX10_beside_1 15 rfl rfl)
theorem dX10_beside_39 : decode cX10_beside 39 = .ok (.istore 4, 2) := dk_54 4 (dk_at dksX10_beside_1 16 rfl rfl)
theorem dX10_beside_41 : decode cX10_beside 41 = .ok (.iload_n 1, 1) := dk_27 (dk_at dksX10_beside_1 18 rfl rfl)
theorem dX10_beside_42 : decode cX10_beside 42 = .ok (.iload_n 3, 1) := dk_29 (dk_at dksX10_beside_1 19 rfl rfl)
theorem dX10_beside_43 : decode cX10_beside 43 = .ok (.bipush 10, 2) := dk_16 10 (dk_at dksX10_beside_1 20 rfl rfl)
theorem dX10_beside_45 : decode cX10_beside 45 = .ok (.idiv, 1) := dk_108 (dk_at dksX10_beside_1 22 rfl rfl)
theorem dX10_beside_46 : decode cX10_beside 46 = .ok (.imul, 1) := dk_104 (dk_at dksX10_beside_1 23 rfl rfl)
theorem dX10_beside_47 : decode cX10_beside 47 = .ok (.istore 5, 2) := dk_54 5 (dk_at dksX10_beside_2 0 rfl rfl)
theorem dX10_beside_49 : decode cX10_beside 49 = .ok (.iload 4, 2) := dk_21 4 (dk_at dksX10_beside_2 2 rfl rfl)
theorem dX10_beside_51 : decode cX10_beside 51 = .ok (.iload 5, 2) := dk_21 5 (dk_at dksX10_beside_2 4 rfl rfl)
theorem dX10_beside_53 : decode cX10_beside 53 = .ok (.if_icmp .le 7, 3) := dk_164 0 7 (dk_at dksX10_beside_2 6 rfl rfl)
theorem dX10_beside_56 : decode cX10_beside 56 = .ok (.iconst 0, 1) := dk_3 (dk_at dksX10_beside_2 9 rfl rfl)
theorem dX10_beside_57 : decode cX10_beside 57 = .ok (.goto 15, 3) := dk_167 0 15 (dk_at dksX10_beside_2 10 rfl rfl)
theorem dX10_beside_60 : decode cX10_beside 60 = .ok (.iload 5, 2) := dk_21 5 (dk_at dksX10_beside_2 13 rfl rfl)
theorem dX10_beside_62 : decode cX10_beside 62 = .ok (.iload 4, 2) := dk_21 4 (dk_at dksX10_beside_2 15 rfl rfl)
theorem dX10_beside_64 : decode cX10_beside 64 = .ok (.if_icmp .le 7, 3) := dk_164 0 7 (dk_at dksX10_beside_2 17 rfl rfl)
theorem dX10_beside_67 : decode cX10_beside 67 = .ok (.iconst 1, 1) := dk_4 (dk_at dksX10_beside_2 20 rfl rfl)
theorem dX10_beside_68 : decode cX10_beside 68 = .ok (.goto 4, 3) := dk_167 0 4 (dk_at dksX10_beside_2 21 rfl rfl)
theorem dX10_beside_71 : decode cX10_beside 71 = .ok (.iconst 2, 1) := dk_5 (dk_at dksX10_beside_3 0 rfl rfl)
theorem dX10_beside_72 : decode cX10_beside 72 = .ok (.ireturn, 1) := dk_172 (dk_at dksX10_beside_3 1 rfl rfl)
abbrev cX10_stop : ByteArray := prog_37_method_71_code
def yX10_stop : MethodName := ⟨RX10, "stop", "(III)I"⟩
def dkwX10_stop_3 : List UInt8 := [167, 255, 229, 42, 18, 139, 182, 0, 88, 172]
abbrev dktX10_stop_3 : List UInt8 := dkwX10_stop_3 ++ []
def dkwX10_stop_2 : List UInt8 := [163, 0, 25, 42, 4, 27, 28, 21, 4, 182, 0, 112, 29, 163, 0, 6, 21, 4, 172, 132, 4, 1]
abbrev dktX10_stop_2 : List UInt8 := dkwX10_stop_2 ++ dktX10_stop_3
def dkwX10_stop_1 : List UInt8 := [17, 3, 232, 184, 0, 78, 154, 0, 10, 42, 18, 87, 182, 0, 88, 172, 3, 54, 4, 21, 4, 17, 2, 88]
abbrev dktX10_stop_1 : List UInt8 := dkwX10_stop_1 ++ dktX10_stop_2
def dkwX10_stop_0 : List UInt8 := [27, 4, 17, 1, 44, 184, 0, 78, 153, 0, 25, 28, 3, 17, 9, 96, 184, 0, 78, 153, 0, 14, 29, 3]
abbrev dktX10_stop_0 : List UInt8 := dkwX10_stop_0 ++ dktX10_stop_1
theorem dksX10_stop_0 : cX10_stop.data.toList.drop 0 = dktX10_stop_0 := by decide +kernel
theorem dksX10_stop_1 : cX10_stop.data.toList.drop 24 = dktX10_stop_1 := dk_seg dksX10_stop_0 24 rfl rfl
theorem dksX10_stop_2 : cX10_stop.data.toList.drop 48 = dktX10_stop_2 := dk_seg dksX10_stop_1 24 rfl rfl
theorem dksX10_stop_3 : cX10_stop.data.toList.drop 70 = dktX10_stop_3 := dk_seg dksX10_stop_2 22 rfl rfl
theorem dX10_stop_0 : decode cX10_stop 0 = .ok (.iload_n 1, 1) := dk_27 (dk_at dksX10_stop_0 0 rfl rfl)
theorem dX10_stop_1 : decode cX10_stop 1 = .ok (.iconst 1, 1) := dk_4 (dk_at dksX10_stop_0 1 rfl rfl)
theorem dX10_stop_2 : decode cX10_stop 2 = .ok (.sipush 300, 3) := dk_17 1 44 (dk_at dksX10_stop_0 2 rfl rfl)
theorem dX10_stop_5 : decode cX10_stop 5 = .ok (.invokestatic 78, 3) := dk_184 0 78 (dk_at dksX10_stop_0 5 rfl rfl)
theorem dX10_stop_8 : decode cX10_stop 8 = .ok (.ifCond .eq 25, 3) := dk_153 0 25 (dk_at dksX10_stop_0 8 rfl rfl)
theorem dX10_stop_11 : decode cX10_stop 11 = .ok (.iload_n 2, 1) := dk_28 (dk_at dksX10_stop_0 11 rfl rfl)
theorem dX10_stop_12 : decode cX10_stop 12 = .ok (.iconst 0, 1) := dk_3 (dk_at dksX10_stop_0 12 rfl rfl)
theorem dX10_stop_13 : decode cX10_stop 13 = .ok (.sipush 2400, 3) := dk_17 9 96 (dk_at dksX10_stop_0 13 rfl rfl)
theorem dX10_stop_16 : decode cX10_stop 16 = .ok (.invokestatic 78, 3) := dk_184 0 78 (dk_at dksX10_stop_0 16 rfl rfl)
theorem dX10_stop_19 : decode cX10_stop 19 = .ok (.ifCond .eq 14, 3) := dk_153 0 14 (dk_at dksX10_stop_0 19 rfl rfl)
theorem dX10_stop_22 : decode cX10_stop 22 = .ok (.iload_n 3, 1) := dk_29 (dk_at dksX10_stop_0 22 rfl rfl)
theorem dX10_stop_23 : decode cX10_stop 23 = .ok (.iconst 0, 1) := dk_3 (dk_at dksX10_stop_0 23 rfl rfl)
theorem dX10_stop_24 : decode cX10_stop 24 = .ok (.sipush 1000, 3) := dk_17 3 232 (dk_at dksX10_stop_1 0 rfl rfl)
theorem dX10_stop_27 : decode cX10_stop 27 = .ok (.invokestatic 78, 3) := dk_184 0 78 (dk_at dksX10_stop_1 3 rfl rfl)
theorem dX10_stop_30 : decode cX10_stop 30 = .ok (.ifCond .ne 10, 3) := dk_154 0 10 (dk_at dksX10_stop_1 6 rfl rfl)
theorem dX10_stop_33 : decode cX10_stop 33 = .ok (.aload_n 0, 1) := dk_42 (dk_at dksX10_stop_1 9 rfl rfl)
theorem dX10_stop_34 : decode cX10_stop 34 = .ok (.ldc 87, 2) := dk_18 87 (dk_at dksX10_stop_1 10 rfl rfl)
theorem dX10_stop_36 : decode cX10_stop 36 = .ok (.invokevirtual 88, 3) := dk_182 0 88 (dk_at dksX10_stop_1 12 rfl rfl)
theorem dX10_stop_39 : decode cX10_stop 39 = .ok (.ireturn, 1) := dk_172 (dk_at dksX10_stop_1 15 rfl rfl)
theorem dX10_stop_40 : decode cX10_stop 40 = .ok (.iconst 0, 1) := dk_3 (dk_at dksX10_stop_1 16 rfl rfl)
theorem dX10_stop_41 : decode cX10_stop 41 = .ok (.istore 4, 2) := dk_54 4 (dk_at dksX10_stop_1 17 rfl rfl)
theorem dX10_stop_43 : decode cX10_stop 43 = .ok (.iload 4, 2) := dk_21 4 (dk_at dksX10_stop_1 19 rfl rfl)
theorem dX10_stop_45 : decode cX10_stop 45 = .ok (.sipush 600, 3) := dk_17 2 88 (dk_at dksX10_stop_1 21 rfl rfl)
theorem dX10_stop_48 : decode cX10_stop 48 = .ok (.if_icmp .gt 25, 3) := dk_163 0 25 (dk_at dksX10_stop_2 0 rfl rfl)
theorem dX10_stop_51 : decode cX10_stop 51 = .ok (.aload_n 0, 1) := dk_42 (dk_at dksX10_stop_2 3 rfl rfl)
theorem dX10_stop_52 : decode cX10_stop 52 = .ok (.iconst 1, 1) := dk_4 (dk_at dksX10_stop_2 4 rfl rfl)
theorem dX10_stop_53 : decode cX10_stop 53 = .ok (.iload_n 1, 1) := dk_27 (dk_at dksX10_stop_2 5 rfl rfl)
theorem dX10_stop_54 : decode cX10_stop 54 = .ok (.iload_n 2, 1) := dk_28 (dk_at dksX10_stop_2 6 rfl rfl)
theorem dX10_stop_55 : decode cX10_stop 55 = .ok (.iload 4, 2) := dk_21 4 (dk_at dksX10_stop_2 7 rfl rfl)
theorem dX10_stop_57 : decode cX10_stop 57 = .ok (.invokevirtual 112, 3) := dk_182 0 112 (dk_at dksX10_stop_2 9 rfl rfl)
theorem dX10_stop_60 : decode cX10_stop 60 = .ok (.iload_n 3, 1) := dk_29 (dk_at dksX10_stop_2 12 rfl rfl)
theorem dX10_stop_61 : decode cX10_stop 61 = .ok (.if_icmp .gt 6, 3) := dk_163 0 6 (dk_at dksX10_stop_2 13 rfl rfl)
theorem dX10_stop_64 : decode cX10_stop 64 = .ok (.iload 4, 2) := dk_21 4 (dk_at dksX10_stop_2 16 rfl rfl)
theorem dX10_stop_66 : decode cX10_stop 66 = .ok (.ireturn, 1) := dk_172 (dk_at dksX10_stop_2 18 rfl rfl)
theorem dX10_stop_67 : decode cX10_stop 67 = .ok (.iinc 4 1, 3) := dk_132 4 1 (dk_at dksX10_stop_2 19 rfl rfl)
theorem dX10_stop_70 : decode cX10_stop 70 = .ok (.goto (-27), 3) := dk_167 255 229 (dk_at dksX10_stop_3 0 rfl rfl)
theorem dX10_stop_73 : decode cX10_stop 73 = .ok (.aload_n 0, 1) := dk_42 (dk_at dksX10_stop_3 3 rfl rfl)
theorem dX10_stop_74 : decode cX10_stop 74 = .ok (.ldc 139, 2) := dk_18 139 (dk_at dksX10_stop_3 4 rfl rfl)
theorem dX10_stop_76 : decode cX10_stop 76 = .ok (.invokevirtual 88, 3) := dk_182 0 88 (dk_at dksX10_stop_3 6 rfl rfl)
theorem dX10_stop_79 : decode cX10_stop 79 = .ok (.ireturn, 1) := dk_172 (dk_at dksX10_stop_3 9 rfl rfl)
abbrev cX10_tank : ByteArray := prog_37_method_72_code
def yX10_tank : MethodName := ⟨RX10, "tank", "(II)I"⟩
def dkwX10_tank_4 : List UInt8 := [180, 0, 9, 7, 92, 46, 4, 96, 79, 29, 172]
abbrev dktX10_tank_4 : List UInt8 := dkwX10_tank_4 ++ []
def dkwX10_tank_3 : List UInt8 := [104, 96, 4, 96, 28, 79, 42, 180, 0, 9, 17, 0, 200, 6, 29, 104, 96, 5, 96, 3, 79, 42]
abbrev dktX10_tank_3 : List UInt8 := dkwX10_tank_3 ++ dktX10_tank_4
def dkwX10_tank_2 : List UInt8 := [42, 180, 0, 9, 17, 0, 200, 6, 29, 104, 96, 3, 96, 27, 79, 42, 180, 0, 9, 17, 0, 200, 6, 29]
abbrev dktX10_tank_2 : List UInt8 := dkwX10_tank_2 ++ dktX10_tank_3
def dkwX10_tank_1 : List UInt8 := [182, 0, 88, 172, 42, 180, 0, 9, 7, 46, 62, 29, 16, 8, 160, 0, 10, 42, 18, 96, 182, 0, 88, 172]
abbrev dktX10_tank_1 : List UInt8 := dkwX10_tank_1 ++ dktX10_tank_2
def dkwX10_tank_0 : List UInt8 := [27, 16, 206, 16, 50, 184, 0, 78, 153, 0, 13, 28, 4, 16, 50, 184, 0, 78, 154, 0, 10, 42, 18, 87]
abbrev dktX10_tank_0 : List UInt8 := dkwX10_tank_0 ++ dktX10_tank_1
theorem dksX10_tank_0 : cX10_tank.data.toList.drop 0 = dktX10_tank_0 := by decide +kernel
theorem dksX10_tank_1 : cX10_tank.data.toList.drop 24 = dktX10_tank_1 := dk_seg dksX10_tank_0 24 rfl rfl
theorem dksX10_tank_2 : cX10_tank.data.toList.drop 48 = dktX10_tank_2 := dk_seg dksX10_tank_1 24 rfl rfl
theorem dksX10_tank_3 : cX10_tank.data.toList.drop 72 = dktX10_tank_3 := dk_seg dksX10_tank_2 24 rfl rfl
theorem dksX10_tank_4 : cX10_tank.data.toList.drop 94 = dktX10_tank_4 := dk_seg dksX10_tank_3 22 rfl rfl
theorem dX10_tank_0 : decode cX10_tank 0 = .ok (.iload_n 1, 1) := dk_27 (dk_at dksX10_tank_0 0 rfl rfl)
theorem dX10_tank_1 : decode cX10_tank 1 = .ok (.bipush (-50), 2) := dk_16 206 (dk_at dksX10_tank_0 1 rfl rfl)
theorem dX10_tank_3 : decode cX10_tank 3 = .ok (.bipush 50, 2) := dk_16 50 (dk_at dksX10_tank_0 3 rfl rfl)
theorem dX10_tank_5 : decode cX10_tank 5 = .ok (.invokestatic 78, 3) := dk_184 0 78 (dk_at dksX10_tank_0 5 rfl rfl)
theorem dX10_tank_8 : decode cX10_tank 8 = .ok (.ifCond .eq 13, 3) := dk_153 0 13 (dk_at dksX10_tank_0 8 rfl rfl)
theorem dX10_tank_11 : decode cX10_tank 11 = .ok (.iload_n 2, 1) := dk_28 (dk_at dksX10_tank_0 11 rfl rfl)
theorem dX10_tank_12 : decode cX10_tank 12 = .ok (.iconst 1, 1) := dk_4 (dk_at dksX10_tank_0 12 rfl rfl)
theorem dX10_tank_13 : decode cX10_tank 13 = .ok (.bipush 50, 2) := dk_16 50 (dk_at dksX10_tank_0 13 rfl rfl)
theorem dX10_tank_15 : decode cX10_tank 15 = .ok (.invokestatic 78, 3) := dk_184 0 78 (dk_at dksX10_tank_0 15 rfl rfl)
theorem dX10_tank_18 : decode cX10_tank 18 = .ok (.ifCond .ne 10, 3) := dk_154 0 10 (dk_at dksX10_tank_0 18 rfl rfl)
theorem dX10_tank_21 : decode cX10_tank 21 = .ok (.aload_n 0, 1) := dk_42 (dk_at dksX10_tank_0 21 rfl rfl)
theorem dX10_tank_22 : decode cX10_tank 22 = .ok (.ldc 87, 2) := dk_18 87 (dk_at dksX10_tank_0 22 rfl rfl)
theorem dX10_tank_24 : decode cX10_tank 24 = .ok (.invokevirtual 88, 3) := dk_182 0 88 (dk_at dksX10_tank_1 0 rfl rfl)
theorem dX10_tank_27 : decode cX10_tank 27 = .ok (.ireturn, 1) := dk_172 (dk_at dksX10_tank_1 3 rfl rfl)
theorem dX10_tank_28 : decode cX10_tank 28 = .ok (.aload_n 0, 1) := dk_42 (dk_at dksX10_tank_1 4 rfl rfl)
theorem dX10_tank_29 : decode cX10_tank 29 = .ok (.getfield 9, 3) := dk_180 0 9 (dk_at dksX10_tank_1 5 rfl rfl)
theorem dX10_tank_32 : decode cX10_tank 32 = .ok (.iconst 4, 1) := dk_7 (dk_at dksX10_tank_1 8 rfl rfl)
theorem dX10_tank_33 : decode cX10_tank 33 = .ok (.iaload, 1) := dk_46 (dk_at dksX10_tank_1 9 rfl rfl)
theorem dX10_tank_34 : decode cX10_tank 34 = .ok (.istore_n 3, 1) := dk_62 (dk_at dksX10_tank_1 10 rfl rfl)
theorem dX10_tank_35 : decode cX10_tank 35 = .ok (.iload_n 3, 1) := dk_29 (dk_at dksX10_tank_1 11 rfl rfl)
theorem dX10_tank_36 : decode cX10_tank 36 = .ok (.bipush 8, 2) := dk_16 8 (dk_at dksX10_tank_1 12 rfl rfl)
theorem dX10_tank_38 : decode cX10_tank 38 = .ok (.if_icmp .ne 10, 3) := dk_160 0 10 (dk_at dksX10_tank_1 14 rfl rfl)
theorem dX10_tank_41 : decode cX10_tank 41 = .ok (.aload_n 0, 1) := dk_42 (dk_at dksX10_tank_1 17 rfl rfl)
theorem dX10_tank_42 : decode cX10_tank 42 = .ok (.ldc 96, 2) := dk_18 96 (dk_at dksX10_tank_1 18 rfl rfl)
theorem dX10_tank_44 : decode cX10_tank 44 = .ok (.invokevirtual 88, 3) := dk_182 0 88 (dk_at dksX10_tank_1 20 rfl rfl)
theorem dX10_tank_47 : decode cX10_tank 47 = .ok (.ireturn, 1) := dk_172 (dk_at dksX10_tank_1 23 rfl rfl)
theorem dX10_tank_48 : decode cX10_tank 48 = .ok (.aload_n 0, 1) := dk_42 (dk_at dksX10_tank_2 0 rfl rfl)
theorem dX10_tank_49 : decode cX10_tank 49 = .ok (.getfield 9, 3) := dk_180 0 9 (dk_at dksX10_tank_2 1 rfl rfl)
theorem dX10_tank_52 : decode cX10_tank 52 = .ok (.sipush 200, 3) := dk_17 0 200 (dk_at dksX10_tank_2 4 rfl rfl)
theorem dX10_tank_55 : decode cX10_tank 55 = .ok (.iconst 3, 1) := dk_6 (dk_at dksX10_tank_2 7 rfl rfl)
theorem dX10_tank_56 : decode cX10_tank 56 = .ok (.iload_n 3, 1) := dk_29 (dk_at dksX10_tank_2 8 rfl rfl)
theorem dX10_tank_57 : decode cX10_tank 57 = .ok (.imul, 1) := dk_104 (dk_at dksX10_tank_2 9 rfl rfl)
theorem dX10_tank_58 : decode cX10_tank 58 = .ok (.iadd, 1) := dk_96 (dk_at dksX10_tank_2 10 rfl rfl)
theorem dX10_tank_59 : decode cX10_tank 59 = .ok (.iconst 0, 1) := dk_3 (dk_at dksX10_tank_2 11 rfl rfl)
theorem dX10_tank_60 : decode cX10_tank 60 = .ok (.iadd, 1) := dk_96 (dk_at dksX10_tank_2 12 rfl rfl)
theorem dX10_tank_61 : decode cX10_tank 61 = .ok (.iload_n 1, 1) := dk_27 (dk_at dksX10_tank_2 13 rfl rfl)
theorem dX10_tank_62 : decode cX10_tank 62 = .ok (.iastore, 1) := dk_79 (dk_at dksX10_tank_2 14 rfl rfl)
theorem dX10_tank_63 : decode cX10_tank 63 = .ok (.aload_n 0, 1) := dk_42 (dk_at dksX10_tank_2 15 rfl rfl)
theorem dX10_tank_64 : decode cX10_tank 64 = .ok (.getfield 9, 3) := dk_180 0 9 (dk_at dksX10_tank_2 16 rfl rfl)
theorem dX10_tank_67 : decode cX10_tank 67 = .ok (.sipush 200, 3) := dk_17 0 200 (dk_at dksX10_tank_2 19 rfl rfl)
theorem dX10_tank_70 : decode cX10_tank 70 = .ok (.iconst 3, 1) := dk_6 (dk_at dksX10_tank_2 22 rfl rfl)
theorem dX10_tank_71 : decode cX10_tank 71 = .ok (.iload_n 3, 1) := dk_29 (dk_at dksX10_tank_2 23 rfl rfl)
theorem dX10_tank_72 : decode cX10_tank 72 = .ok (.imul, 1) := dk_104 (dk_at dksX10_tank_3 0 rfl rfl)
theorem dX10_tank_73 : decode cX10_tank 73 = .ok (.iadd, 1) := dk_96 (dk_at dksX10_tank_3 1 rfl rfl)
theorem dX10_tank_74 : decode cX10_tank 74 = .ok (.iconst 1, 1) := dk_4 (dk_at dksX10_tank_3 2 rfl rfl)
theorem dX10_tank_75 : decode cX10_tank 75 = .ok (.iadd, 1) := dk_96 (dk_at dksX10_tank_3 3 rfl rfl)
theorem dX10_tank_76 : decode cX10_tank 76 = .ok (.iload_n 2, 1) := dk_28 (dk_at dksX10_tank_3 4 rfl rfl)
theorem dX10_tank_77 : decode cX10_tank 77 = .ok (.iastore, 1) := dk_79 (dk_at dksX10_tank_3 5 rfl rfl)
theorem dX10_tank_78 : decode cX10_tank 78 = .ok (.aload_n 0, 1) := dk_42 (dk_at dksX10_tank_3 6 rfl rfl)
theorem dX10_tank_79 : decode cX10_tank 79 = .ok (.getfield 9, 3) := dk_180 0 9 (dk_at dksX10_tank_3 7 rfl rfl)
theorem dX10_tank_82 : decode cX10_tank 82 = .ok (.sipush 200, 3) := dk_17 0 200 (dk_at dksX10_tank_3 10 rfl rfl)
theorem dX10_tank_85 : decode cX10_tank 85 = .ok (.iconst 3, 1) := dk_6 (dk_at dksX10_tank_3 13 rfl rfl)
theorem dX10_tank_86 : decode cX10_tank 86 = .ok (.iload_n 3, 1) := dk_29 (dk_at dksX10_tank_3 14 rfl rfl)
theorem dX10_tank_87 : decode cX10_tank 87 = .ok (.imul, 1) := dk_104 (dk_at dksX10_tank_3 15 rfl rfl)
theorem dX10_tank_88 : decode cX10_tank 88 = .ok (.iadd, 1) := dk_96 (dk_at dksX10_tank_3 16 rfl rfl)
theorem dX10_tank_89 : decode cX10_tank 89 = .ok (.iconst 2, 1) := dk_5 (dk_at dksX10_tank_3 17 rfl rfl)
theorem dX10_tank_90 : decode cX10_tank 90 = .ok (.iadd, 1) := dk_96 (dk_at dksX10_tank_3 18 rfl rfl)
theorem dX10_tank_91 : decode cX10_tank 91 = .ok (.iconst 0, 1) := dk_3 (dk_at dksX10_tank_3 19 rfl rfl)
theorem dX10_tank_92 : decode cX10_tank 92 = .ok (.iastore, 1) := dk_79 (dk_at dksX10_tank_3 20 rfl rfl)
theorem dX10_tank_93 : decode cX10_tank 93 = .ok (.aload_n 0, 1) := dk_42 (dk_at dksX10_tank_3 21 rfl rfl)
theorem dX10_tank_94 : decode cX10_tank 94 = .ok (.getfield 9, 3) := dk_180 0 9 (dk_at dksX10_tank_4 0 rfl rfl)
theorem dX10_tank_97 : decode cX10_tank 97 = .ok (.iconst 4, 1) := dk_7 (dk_at dksX10_tank_4 3 rfl rfl)
theorem dX10_tank_98 : decode cX10_tank 98 = .ok (.dup2, 1) := dk_92 (dk_at dksX10_tank_4 4 rfl rfl)
theorem dX10_tank_99 : decode cX10_tank 99 = .ok (.iaload, 1) := dk_46 (dk_at dksX10_tank_4 5 rfl rfl)
theorem dX10_tank_100 : decode cX10_tank 100 = .ok (.iconst 1, 1) := dk_4 (dk_at dksX10_tank_4 6 rfl rfl)
theorem dX10_tank_101 : decode cX10_tank 101 = .ok (.iadd, 1) := dk_96 (dk_at dksX10_tank_4 7 rfl rfl)
theorem dX10_tank_102 : decode cX10_tank 102 = .ok (.iastore, 1) := dk_79 (dk_at dksX10_tank_4 8 rfl rfl)
theorem dX10_tank_103 : decode cX10_tank 103 = .ok (.iload_n 3, 1) := dk_29 (dk_at dksX10_tank_4 9 rfl rfl)
theorem dX10_tank_104 : decode cX10_tank 104 = .ok (.ireturn, 1) := dk_172 (dk_at dksX10_tank_4 10 rfl rfl)
abbrev cX10_blow : ByteArray := prog_37_method_73_code
def yX10_blow : MethodName := ⟨RX10, "blow", "(II)I"⟩
def dkwX10_blow_1 : List UInt8 := [104, 96, 5, 96, 28, 182, 0, 83, 167, 0, 9, 42, 18, 87, 182, 0, 88, 172]
abbrev dktX10_blow_1 : List UInt8 := dkwX10_blow_1 ++ []
def dkwX10_blow_0 : List UInt8 := [42, 27, 7, 182, 0, 101, 153, 0, 29, 28, 3, 4, 184, 0, 78, 153, 0, 20, 42, 17, 0, 200, 6, 27]
abbrev dktX10_blow_0 : List UInt8 := dkwX10_blow_0 ++ dktX10_blow_1
theorem dksX10_blow_0 : cX10_blow.data.toList.drop 0 = dktX10_blow_0 := by decide +kernel
theorem dksX10_blow_1 : cX10_blow.data.toList.drop 24 = dktX10_blow_1 := dk_seg dksX10_blow_0 24 rfl rfl
theorem dX10_blow_0 : decode cX10_blow 0 = .ok (.aload_n 0, 1) := dk_42 (dk_at dksX10_blow_0 0 rfl rfl)
theorem dX10_blow_1 : decode cX10_blow 1 = .ok (.iload_n 1, 1) := dk_27 (dk_at dksX10_blow_0 1 rfl rfl)
theorem dX10_blow_2 : decode cX10_blow 2 = .ok (.iconst 4, 1) := dk_7 (dk_at dksX10_blow_0 2 rfl rfl)
theorem dX10_blow_3 : decode cX10_blow 3 = .ok (.invokevirtual 101, 3) := dk_182 0 101 (dk_at dksX10_blow_0 3 rfl rfl)
theorem dX10_blow_6 : decode cX10_blow 6 = .ok (.ifCond .eq 29, 3) := dk_153 0 29 (dk_at dksX10_blow_0 6 rfl rfl)
theorem dX10_blow_9 : decode cX10_blow 9 = .ok (.iload_n 2, 1) := dk_28 (dk_at dksX10_blow_0 9 rfl rfl)
theorem dX10_blow_10 : decode cX10_blow 10 = .ok (.iconst 0, 1) := dk_3 (dk_at dksX10_blow_0 10 rfl rfl)
theorem dX10_blow_11 : decode cX10_blow 11 = .ok (.iconst 1, 1) := dk_4 (dk_at dksX10_blow_0 11 rfl rfl)
theorem dX10_blow_12 : decode cX10_blow 12 = .ok (.invokestatic 78, 3) := dk_184 0 78 (dk_at dksX10_blow_0 12 rfl rfl)
theorem dX10_blow_15 : decode cX10_blow 15 = .ok (.ifCond .eq 20, 3) := dk_153 0 20 (dk_at dksX10_blow_0 15 rfl rfl)
theorem dX10_blow_18 : decode cX10_blow 18 = .ok (.aload_n 0, 1) := dk_42 (dk_at dksX10_blow_0 18 rfl rfl)
theorem dX10_blow_19 : decode cX10_blow 19 = .ok (.sipush 200, 3) := dk_17 0 200 (dk_at dksX10_blow_0 19 rfl rfl)
theorem dX10_blow_22 : decode cX10_blow 22 = .ok (.iconst 3, 1) := dk_6 (dk_at dksX10_blow_0 22 rfl rfl)
theorem dX10_blow_23 : decode cX10_blow 23 = .ok (.iload_n 1, 1) := dk_27 (dk_at dksX10_blow_0 23 rfl rfl)
theorem dX10_blow_24 : decode cX10_blow 24 = .ok (.imul, 1) := dk_104 (dk_at dksX10_blow_1 0 rfl rfl)
theorem dX10_blow_25 : decode cX10_blow 25 = .ok (.iadd, 1) := dk_96 (dk_at dksX10_blow_1 1 rfl rfl)
theorem dX10_blow_26 : decode cX10_blow 26 = .ok (.iconst 2, 1) := dk_5 (dk_at dksX10_blow_1 2 rfl rfl)
theorem dX10_blow_27 : decode cX10_blow 27 = .ok (.iadd, 1) := dk_96 (dk_at dksX10_blow_1 3 rfl rfl)
theorem dX10_blow_28 : decode cX10_blow 28 = .ok (.iload_n 2, 1) := dk_28 (dk_at dksX10_blow_1 4 rfl rfl)
theorem dX10_blow_29 : decode cX10_blow 29 = .ok (.invokevirtual 83, 3) := dk_182 0 83 (dk_at dksX10_blow_1 5 rfl rfl)
theorem dX10_blow_32 : decode cX10_blow 32 = .ok (.goto 9, 3) := dk_167 0 9 (dk_at dksX10_blow_1 8 rfl rfl)
theorem dX10_blow_35 : decode cX10_blow 35 = .ok (.aload_n 0, 1) := dk_42 (dk_at dksX10_blow_1 11 rfl rfl)
theorem dX10_blow_36 : decode cX10_blow 36 = .ok (.ldc 87, 2) := dk_18 87 (dk_at dksX10_blow_1 12 rfl rfl)
theorem dX10_blow_38 : decode cX10_blow 38 = .ok (.invokevirtual 88, 3) := dk_182 0 88 (dk_at dksX10_blow_1 14 rfl rfl)
theorem dX10_blow_41 : decode cX10_blow 41 = .ok (.ireturn, 1) := dk_172 (dk_at dksX10_blow_1 17 rfl rfl)
abbrev cX10_lift : ByteArray := prog_37_method_76_code
def yX10_lift : MethodName := ⟨RX10, "lift", "(II)I"⟩
def dkwX10_lift_2 : List UInt8 := [182, 1, 19, 172]
abbrev dktX10_lift_2 : List UInt8 := dkwX10_lift_2 ++ []
def dkwX10_lift_1 : List UInt8 := [154, 0, 10, 42, 18, 87, 182, 0, 88, 172, 42, 27, 156, 0, 10, 42, 182, 1, 16, 167, 0, 4, 27, 28]
abbrev dktX10_lift_1 : List UInt8 := dkwX10_lift_1 ++ dktX10_lift_2
def dkwX10_lift_0 : List UInt8 := [27, 2, 4, 42, 180, 0, 9, 7, 46, 120, 4, 100, 184, 0, 78, 153, 0, 12, 28, 3, 4, 184, 0, 78]
abbrev dktX10_lift_0 : List UInt8 := dkwX10_lift_0 ++ dktX10_lift_1
theorem dksX10_lift_0 : cX10_lift.data.toList.drop 0 = dktX10_lift_0 := by decide +kernel
theorem dksX10_lift_1 : cX10_lift.data.toList.drop 24 = dktX10_lift_1 := dk_seg dksX10_lift_0 24 rfl rfl
theorem dksX10_lift_2 : cX10_lift.data.toList.drop 48 = dktX10_lift_2 := dk_seg dksX10_lift_1 24 rfl rfl
theorem dX10_lift_0 : decode cX10_lift 0 = .ok (.iload_n 1, 1) := dk_27 (dk_at dksX10_lift_0 0 rfl rfl)
theorem dX10_lift_1 : decode cX10_lift 1 = .ok (.iconst (-1), 1) := dk_2 (dk_at dksX10_lift_0 1 rfl rfl)
theorem dX10_lift_2 : decode cX10_lift 2 = .ok (.iconst 1, 1) := dk_4 (dk_at dksX10_lift_0 2 rfl rfl)
theorem dX10_lift_3 : decode cX10_lift 3 = .ok (.aload_n 0, 1) := dk_42 (dk_at dksX10_lift_0 3 rfl rfl)
theorem dX10_lift_4 : decode cX10_lift 4 = .ok (.getfield 9, 3) := dk_180 0 9 (dk_at dksX10_lift_0 4 rfl rfl)
theorem dX10_lift_7 : decode cX10_lift 7 = .ok (.iconst 4, 1) := dk_7 (dk_at dksX10_lift_0 7 rfl rfl)
theorem dX10_lift_8 : decode cX10_lift 8 = .ok (.iaload, 1) := dk_46 (dk_at dksX10_lift_0 8 rfl rfl)
theorem dX10_lift_9 : decode cX10_lift 9 = .ok (.ishl, 1) := dk_120 (dk_at dksX10_lift_0 9 rfl rfl)
theorem dX10_lift_10 : decode cX10_lift 10 = .ok (.iconst 1, 1) := dk_4 (dk_at dksX10_lift_0 10 rfl rfl)
theorem dX10_lift_11 : decode cX10_lift 11 = .ok (.isub, 1) := dk_100 (dk_at dksX10_lift_0 11 rfl rfl)
theorem dX10_lift_12 : decode cX10_lift 12 = .ok (.invokestatic 78, 3) := dk_184 0 78 (dk_at dksX10_lift_0 12 rfl rfl)
theorem dX10_lift_15 : decode cX10_lift 15 = .ok (.ifCond .eq 12, 3) := dk_153 0 12 (dk_at dksX10_lift_0 15 rfl rfl)
theorem dX10_lift_18 : decode cX10_lift 18 = .ok (.iload_n 2, 1) := dk_28 (dk_at dksX10_lift_0 18 rfl rfl)
theorem dX10_lift_19 : decode cX10_lift 19 = .ok (.iconst 0, 1) := dk_3 (dk_at dksX10_lift_0 19 rfl rfl)
theorem dX10_lift_20 : decode cX10_lift 20 = .ok (.iconst 1, 1) := dk_4 (dk_at dksX10_lift_0 20 rfl rfl)
theorem dX10_lift_21 : decode cX10_lift 21 = .ok (.invokestatic 78, 3) := dk_184 0 78 (dk_at dksX10_lift_0 21 rfl rfl)
theorem dX10_lift_24 : decode cX10_lift 24 = .ok (.ifCond .ne 10, 3) := dk_154 0 10 (dk_at dksX10_lift_1 0 rfl rfl)
theorem dX10_lift_27 : decode cX10_lift 27 = .ok (.aload_n 0, 1) := dk_42 (dk_at dksX10_lift_1 3 rfl rfl)
theorem dX10_lift_28 : decode cX10_lift 28 = .ok (.ldc 87, 2) := dk_18 87 (dk_at dksX10_lift_1 4 rfl rfl)
theorem dX10_lift_30 : decode cX10_lift 30 = .ok (.invokevirtual 88, 3) := dk_182 0 88 (dk_at dksX10_lift_1 6 rfl rfl)
theorem dX10_lift_33 : decode cX10_lift 33 = .ok (.ireturn, 1) := dk_172 (dk_at dksX10_lift_1 9 rfl rfl)
theorem dX10_lift_34 : decode cX10_lift 34 = .ok (.aload_n 0, 1) := dk_42 (dk_at dksX10_lift_1 10 rfl rfl)
theorem dX10_lift_35 : decode cX10_lift 35 = .ok (.iload_n 1, 1) := dk_27 (dk_at dksX10_lift_1 11 rfl rfl)
theorem dX10_lift_36 : decode cX10_lift 36 = .ok (.ifCond .ge 10, 3) := dk_156 0 10 (dk_at dksX10_lift_1 12 rfl rfl)
theorem dX10_lift_39 : decode cX10_lift 39 = .ok (.aload_n 0, 1) := dk_42 (dk_at dksX10_lift_1 15 rfl rfl)
theorem dX10_lift_40 : decode cX10_lift 40 = .ok (.invokevirtual 272, 3) := dk_182 1 16 (dk_at dksX10_lift_1 16 rfl rfl)
theorem dX10_lift_43 : decode cX10_lift 43 = .ok (.goto 4, 3) := dk_167 0 4 (dk_at dksX10_lift_1 19 rfl rfl)
theorem dX10_lift_46 : decode cX10_lift 46 = .ok (.iload_n 1, 1) := dk_27 (dk_at dksX10_lift_1 22 rfl rfl)
theorem dX10_lift_47 : decode cX10_lift 47 = .ok (.iload_n 2, 1) := dk_28 (dk_at dksX10_lift_1 23 rfl rfl)
theorem dX10_lift_48 : decode cX10_lift 48 = .ok (.invokevirtual 275, 3) := dk_182 1 19 (dk_at dksX10_lift_2 0 rfl rfl)
theorem dX10_lift_51 : decode cX10_lift 51 = .ok (.ireturn, 1) := dk_172 (dk_at dksX10_lift_2 3 rfl rfl)
abbrev cX10_blown : ByteArray := prog_37_method_74_code
def yX10_blown : MethodName := ⟨RX10, "blown", "()I"⟩
def dkwX10_blown_1 : List UInt8 := [104, 96, 5, 96, 46, 28, 120, 128, 60, 132, 2, 1, 167, 255, 224, 27, 172]
abbrev dktX10_blown_1 : List UInt8 := dkwX10_blown_1 ++ []
def dkwX10_blown_0 : List UInt8 := [3, 60, 3, 61, 28, 42, 180, 0, 9, 7, 46, 162, 0, 28, 27, 42, 180, 0, 9, 17, 0, 200, 6, 28]
abbrev dktX10_blown_0 : List UInt8 := dkwX10_blown_0 ++ dktX10_blown_1
theorem dksX10_blown_0 : cX10_blown.data.toList.drop 0 = dktX10_blown_0 := by decide +kernel
theorem dksX10_blown_1 : cX10_blown.data.toList.drop 24 = dktX10_blown_1 := dk_seg dksX10_blown_0 24 rfl rfl
theorem dX10_blown_0 : decode cX10_blown 0 = .ok (.iconst 0, 1) := dk_3 (dk_at dksX10_blown_0 0 rfl rfl)
theorem dX10_blown_1 : decode cX10_blown 1 = .ok (.istore_n 1, 1) := dk_60 (dk_at dksX10_blown_0 1 rfl rfl)
theorem dX10_blown_2 : decode cX10_blown 2 = .ok (.iconst 0, 1) := dk_3 (dk_at dksX10_blown_0 2 rfl rfl)
theorem dX10_blown_3 : decode cX10_blown 3 = .ok (.istore_n 2, 1) := dk_61 (dk_at dksX10_blown_0 3 rfl rfl)
theorem dX10_blown_4 : decode cX10_blown 4 = .ok (.iload_n 2, 1) := dk_28 (dk_at dksX10_blown_0 4 rfl rfl)
theorem dX10_blown_5 : decode cX10_blown 5 = .ok (.aload_n 0, 1) := dk_42 (dk_at dksX10_blown_0 5 rfl rfl)
theorem dX10_blown_6 : decode cX10_blown 6 = .ok (.getfield 9, 3) := dk_180 0 9 (dk_at dksX10_blown_0 6 rfl rfl)
theorem dX10_blown_9 : decode cX10_blown 9 = .ok (.iconst 4, 1) := dk_7 (dk_at dksX10_blown_0 9 rfl rfl)
theorem dX10_blown_10 : decode cX10_blown 10 = .ok (.iaload, 1) := dk_46 (dk_at dksX10_blown_0 10 rfl rfl)
theorem dX10_blown_11 : decode cX10_blown 11 = .ok (.if_icmp .ge 28, 3) := dk_162 0 28 (dk_at dksX10_blown_0 11 rfl rfl)
theorem dX10_blown_14 : decode cX10_blown 14 = .ok (.iload_n 1, 1) := dk_27 (dk_at dksX10_blown_0 14 rfl rfl)
theorem dX10_blown_15 : decode cX10_blown 15 = .ok (.aload_n 0, 1) := dk_42 (dk_at dksX10_blown_0 15 rfl rfl)
theorem dX10_blown_16 : decode cX10_blown 16 = .ok (.getfield 9, 3) := dk_180 0 9 (dk_at dksX10_blown_0 16 rfl rfl)
theorem dX10_blown_19 : decode cX10_blown 19 = .ok (.sipush 200, 3) := dk_17 0 200 (dk_at dksX10_blown_0 19 rfl rfl)
theorem dX10_blown_22 : decode cX10_blown 22 = .ok (.iconst 3, 1) := dk_6 (dk_at dksX10_blown_0 22 rfl rfl)
theorem dX10_blown_23 : decode cX10_blown 23 = .ok (.iload_n 2, 1) := dk_28 (dk_at dksX10_blown_0 23 rfl rfl)
theorem dX10_blown_24 : decode cX10_blown 24 = .ok (.imul, 1) := dk_104 (dk_at dksX10_blown_1 0 rfl rfl)
theorem dX10_blown_25 : decode cX10_blown 25 = .ok (.iadd, 1) := dk_96 (dk_at dksX10_blown_1 1 rfl rfl)
theorem dX10_blown_26 : decode cX10_blown 26 = .ok (.iconst 2, 1) := dk_5 (dk_at dksX10_blown_1 2 rfl rfl)
theorem dX10_blown_27 : decode cX10_blown 27 = .ok (.iadd, 1) := dk_96 (dk_at dksX10_blown_1 3 rfl rfl)
theorem dX10_blown_28 : decode cX10_blown 28 = .ok (.iaload, 1) := dk_46 (dk_at dksX10_blown_1 4 rfl rfl)
theorem dX10_blown_29 : decode cX10_blown 29 = .ok (.iload_n 2, 1) := dk_28 (dk_at dksX10_blown_1 5 rfl rfl)
theorem dX10_blown_30 : decode cX10_blown 30 = .ok (.ishl, 1) := dk_120 (dk_at dksX10_blown_1 6 rfl rfl)
theorem dX10_blown_31 : decode cX10_blown 31 = .ok (.ior, 1) := dk_128 (dk_at dksX10_blown_1 7 rfl rfl)
theorem dX10_blown_32 : decode cX10_blown 32 = .ok (.istore_n 1, 1) := dk_60 (dk_at dksX10_blown_1 8 rfl rfl)
theorem dX10_blown_33 : decode cX10_blown 33 = .ok (.iinc 2 1, 3) := dk_132 2 1 (dk_at dksX10_blown_1 9 rfl rfl)
theorem dX10_blown_36 : decode cX10_blown 36 = .ok (.goto (-32), 3) := dk_167 255 224 (dk_at dksX10_blown_1 12 rfl rfl)
theorem dX10_blown_39 : decode cX10_blown 39 = .ok (.iload_n 1, 1) := dk_27 (dk_at dksX10_blown_1 15 rfl rfl)
theorem dX10_blown_40 : decode cX10_blown 40 = .ok (.ireturn, 1) := dk_172 (dk_at dksX10_blown_1 16 rfl rfl)
abbrev cX10_liftOf : ByteArray := prog_37_method_75_code
def yX10_liftOf : MethodName := ⟨RX10, "liftOf", "(II)I"⟩
def dkwX10_liftOf_3 : List UInt8 := [46, 104, 96, 62, 132, 4, 1, 167, 255, 182, 29, 172]
abbrev dktX10_liftOf_3 : List UInt8 := dkwX10_liftOf_3 ++ []
def dkwX10_liftOf_2 : List UInt8 := [154, 0, 8, 21, 5, 167, 0, 21, 21, 5, 42, 180, 0, 9, 17, 0, 200, 6, 21, 4, 104, 96, 3, 96]
abbrev dktX10_liftOf_2 : List UInt8 := dkwX10_liftOf_2 ++ dktX10_liftOf_3
def dkwX10_liftOf_1 : List UInt8 := [21, 4, 104, 96, 4, 96, 46, 54, 5, 29, 27, 21, 4, 184, 0, 243, 154, 0, 7, 3, 167, 0, 30, 28]
abbrev dktX10_liftOf_1 : List UInt8 := dkwX10_liftOf_1 ++ dktX10_liftOf_2
def dkwX10_liftOf_0 : List UInt8 := [3, 62, 3, 54, 4, 21, 4, 42, 180, 0, 9, 7, 46, 162, 0, 69, 42, 180, 0, 9, 17, 0, 200, 6]
abbrev dktX10_liftOf_0 : List UInt8 := dkwX10_liftOf_0 ++ dktX10_liftOf_1
theorem dksX10_liftOf_0 : cX10_liftOf.data.toList.drop 0 = dktX10_liftOf_0 := by decide +kernel
theorem dksX10_liftOf_1 : cX10_liftOf.data.toList.drop 24 = dktX10_liftOf_1 := dk_seg dksX10_liftOf_0 24 rfl rfl
theorem dksX10_liftOf_2 : cX10_liftOf.data.toList.drop 48 = dktX10_liftOf_2 := dk_seg dksX10_liftOf_1 24 rfl rfl
theorem dksX10_liftOf_3 : cX10_liftOf.data.toList.drop 72 = dktX10_liftOf_3 := dk_seg dksX10_liftOf_2 24 rfl rfl
theorem dX10_liftOf_0 : decode cX10_liftOf 0 = .ok (.iconst 0, 1) := dk_3 (dk_at dksX10_liftOf_0 0 rfl rfl)
theorem dX10_liftOf_1 : decode cX10_liftOf 1 = .ok (.istore_n 3, 1) := dk_62 (dk_at dksX10_liftOf_0 1 rfl rfl)
theorem dX10_liftOf_2 : decode cX10_liftOf 2 = .ok (.iconst 0, 1) := dk_3 (dk_at dksX10_liftOf_0 2 rfl rfl)
theorem dX10_liftOf_3 : decode cX10_liftOf 3 = .ok (.istore 4, 2) := dk_54 4 (dk_at dksX10_liftOf_0 3 rfl rfl)
theorem dX10_liftOf_5 : decode cX10_liftOf 5 = .ok (.iload 4, 2) := dk_21 4 (dk_at dksX10_liftOf_0 5 rfl rfl)
theorem dX10_liftOf_7 : decode cX10_liftOf 7 = .ok (.aload_n 0, 1) := dk_42 (dk_at dksX10_liftOf_0 7 rfl rfl)
theorem dX10_liftOf_8 : decode cX10_liftOf 8 = .ok (.getfield 9, 3) := dk_180 0 9 (dk_at dksX10_liftOf_0 8 rfl rfl)
theorem dX10_liftOf_11 : decode cX10_liftOf 11 = .ok (.iconst 4, 1) := dk_7 (dk_at dksX10_liftOf_0 11 rfl rfl)
theorem dX10_liftOf_12 : decode cX10_liftOf 12 = .ok (.iaload, 1) := dk_46 (dk_at dksX10_liftOf_0 12 rfl rfl)
theorem dX10_liftOf_13 : decode cX10_liftOf 13 = .ok (.if_icmp .ge 69, 3) := dk_162 0 69 (dk_at dksX10_liftOf_0 13 rfl rfl)
theorem dX10_liftOf_16 : decode cX10_liftOf 16 = .ok (.aload_n 0, 1) := dk_42 (dk_at dksX10_liftOf_0 16 rfl rfl)
theorem dX10_liftOf_17 : decode cX10_liftOf 17 = .ok (.getfield 9, 3) := dk_180 0 9 (dk_at dksX10_liftOf_0 17 rfl rfl)
theorem dX10_liftOf_20 : decode cX10_liftOf 20 = .ok (.sipush 200, 3) := dk_17 0 200 (dk_at dksX10_liftOf_0 20 rfl rfl)
theorem dX10_liftOf_23 : decode cX10_liftOf 23 = .ok (.iconst 3, 1) := dk_6 (dk_at dksX10_liftOf_0 23 rfl rfl)
theorem dX10_liftOf_24 : decode cX10_liftOf 24 = .ok (.iload 4, 2) := dk_21 4 (dk_at dksX10_liftOf_1 0 rfl rfl)
theorem dX10_liftOf_26 : decode cX10_liftOf 26 = .ok (.imul, 1) := dk_104 (dk_at dksX10_liftOf_1 2 rfl rfl)
theorem dX10_liftOf_27 : decode cX10_liftOf 27 = .ok (.iadd, 1) := dk_96 (dk_at dksX10_liftOf_1 3 rfl rfl)
theorem dX10_liftOf_28 : decode cX10_liftOf 28 = .ok (.iconst 1, 1) := dk_4 (dk_at dksX10_liftOf_1 4 rfl rfl)
theorem dX10_liftOf_29 : decode cX10_liftOf 29 = .ok (.iadd, 1) := dk_96 (dk_at dksX10_liftOf_1 5 rfl rfl)
theorem dX10_liftOf_30 : decode cX10_liftOf 30 = .ok (.iaload, 1) := dk_46 (dk_at dksX10_liftOf_1 6 rfl rfl)
theorem dX10_liftOf_31 : decode cX10_liftOf 31 = .ok (.istore 5, 2) := dk_54 5 (dk_at dksX10_liftOf_1 7 rfl rfl)
theorem dX10_liftOf_33 : decode cX10_liftOf 33 = .ok (.iload_n 3, 1) := dk_29 (dk_at dksX10_liftOf_1 9 rfl rfl)
theorem dX10_liftOf_34 : decode cX10_liftOf 34 = .ok (.iload_n 1, 1) := dk_27 (dk_at dksX10_liftOf_1 10 rfl rfl)
theorem dX10_liftOf_35 : decode cX10_liftOf 35 = .ok (.iload 4, 2) := dk_21 4 (dk_at dksX10_liftOf_1 11 rfl rfl)
theorem dX10_liftOf_37 : decode cX10_liftOf 37 = .ok (.invokestatic 243, 3) := dk_184 0 243 (dk_at dksX10_liftOf_1 13 rfl rfl)
theorem dX10_liftOf_40 : decode cX10_liftOf 40 = .ok (.ifCond .ne 7, 3) := dk_154 0 7 (dk_at dksX10_liftOf_1 16 rfl rfl)
theorem dX10_liftOf_43 : decode cX10_liftOf 43 = .ok (.iconst 0, 1) := dk_3 (dk_at dksX10_liftOf_1 19 rfl rfl)
theorem dX10_liftOf_44 : decode cX10_liftOf 44 = .ok (.goto 30, 3) := dk_167 0 30 (dk_at dksX10_liftOf_1 20 rfl rfl)
theorem dX10_liftOf_47 : decode cX10_liftOf 47 = .ok (.iload_n 2, 1) := dk_28 (dk_at dksX10_liftOf_1 23 rfl rfl)
theorem dX10_liftOf_48 : decode cX10_liftOf 48 = .ok (.ifCond .ne 8, 3) := dk_154 0 8 (dk_at dksX10_liftOf_2 0 rfl rfl)
theorem dX10_liftOf_51 : decode cX10_liftOf 51 = .ok (.iload 5, 2) := dk_21 5 (dk_at dksX10_liftOf_2 3 rfl rfl)
theorem dX10_liftOf_53 : decode cX10_liftOf 53 = .ok (.goto 21, 3) := dk_167 0 21 (dk_at dksX10_liftOf_2 5 rfl rfl)
theorem dX10_liftOf_56 : decode cX10_liftOf 56 = .ok (.iload 5, 2) := dk_21 5 (dk_at dksX10_liftOf_2 8 rfl rfl)
theorem dX10_liftOf_58 : decode cX10_liftOf 58 = .ok (.aload_n 0, 1) := dk_42 (dk_at dksX10_liftOf_2 10 rfl rfl)
theorem dX10_liftOf_59 : decode cX10_liftOf 59 = .ok (.getfield 9, 3) := dk_180 0 9 (dk_at dksX10_liftOf_2 11 rfl rfl)
theorem dX10_liftOf_62 : decode cX10_liftOf 62 = .ok (.sipush 200, 3) := dk_17 0 200 (dk_at dksX10_liftOf_2 14 rfl rfl)
theorem dX10_liftOf_65 : decode cX10_liftOf 65 = .ok (.iconst 3, 1) := dk_6 (dk_at dksX10_liftOf_2 17 rfl rfl)
theorem dX10_liftOf_66 : decode cX10_liftOf 66 = .ok (.iload 4, 2) := dk_21 4 (dk_at dksX10_liftOf_2 18 rfl rfl)
theorem dX10_liftOf_68 : decode cX10_liftOf 68 = .ok (.imul, 1) := dk_104 (dk_at dksX10_liftOf_2 20 rfl rfl)
theorem dX10_liftOf_69 : decode cX10_liftOf 69 = .ok (.iadd, 1) := dk_96 (dk_at dksX10_liftOf_2 21 rfl rfl)
theorem dX10_liftOf_70 : decode cX10_liftOf 70 = .ok (.iconst 0, 1) := dk_3 (dk_at dksX10_liftOf_2 22 rfl rfl)
theorem dX10_liftOf_71 : decode cX10_liftOf 71 = .ok (.iadd, 1) := dk_96 (dk_at dksX10_liftOf_2 23 rfl rfl)
theorem dX10_liftOf_72 : decode cX10_liftOf 72 = .ok (.iaload, 1) := dk_46 (dk_at dksX10_liftOf_3 0 rfl rfl)
theorem dX10_liftOf_73 : decode cX10_liftOf 73 = .ok (.imul, 1) := dk_104 (dk_at dksX10_liftOf_3 1 rfl rfl)
theorem dX10_liftOf_74 : decode cX10_liftOf 74 = .ok (.iadd, 1) := dk_96 (dk_at dksX10_liftOf_3 2 rfl rfl)
theorem dX10_liftOf_75 : decode cX10_liftOf 75 = .ok (.istore_n 3, 1) := dk_62 (dk_at dksX10_liftOf_3 3 rfl rfl)
theorem dX10_liftOf_76 : decode cX10_liftOf 76 = .ok (.iinc 4 1, 3) := dk_132 4 1 (dk_at dksX10_liftOf_3 4 rfl rfl)
theorem dX10_liftOf_79 : decode cX10_liftOf 79 = .ok (.goto (-74), 3) := dk_167 255 182 (dk_at dksX10_liftOf_3 7 rfl rfl)
theorem dX10_liftOf_82 : decode cX10_liftOf 82 = .ok (.iload_n 3, 1) := dk_29 (dk_at dksX10_liftOf_3 10 rfl rfl)
theorem dX10_liftOf_83 : decode cX10_liftOf 83 = .ok (.ireturn, 1) := dk_172 (dk_at dksX10_liftOf_3 11 rfl rfl)
abbrev cX10_raise : ByteArray := prog_37_method_78_code
def yX10_raise : MethodName := ⟨RX10, "raise", "(III)I"⟩
def dkwX10_raise_7 : List UInt8 := [21, 5, 120, 128, 54, 4, 132, 6, 1, 167, 255, 176, 21, 5, 172]
abbrev dktX10_raise_7 : List UInt8 := dkwX10_raise_7 ++ []
def dkwX10_raise_6 : List UInt8 := [120, 128, 46, 42, 180, 0, 48, 21, 4, 46, 4, 100, 159, 0, 9, 132, 5, 1, 167, 255, 200, 21, 4, 4]
abbrev dktX10_raise_6 : List UInt8 := dkwX10_raise_6 ++ dktX10_raise_7
def dkwX10_raise_5 : List UInt8 := [21, 5, 120, 128, 4, 182, 1, 19, 184, 1, 22, 28, 163, 0, 27, 42, 180, 0, 48, 21, 4, 4, 21, 5]
abbrev dktX10_raise_5 : List UInt8 := dkwX10_raise_5 ++ dktX10_raise_6
def dkwX10_raise_4 : List UInt8 := [21, 6, 29, 163, 0, 80, 3, 54, 5, 21, 4, 21, 5, 184, 0, 243, 154, 0, 46, 42, 21, 4, 4]
abbrev dktX10_raise_4 : List UInt8 := dkwX10_raise_4 ++ dktX10_raise_5
def dkwX10_raise_3 : List UInt8 := [18, 139, 182, 0, 88, 172, 29, 156, 0, 11, 42, 180, 0, 48, 21, 4, 46, 172, 3, 54, 5, 3, 54, 6]
abbrev dktX10_raise_3 : List UInt8 := dkwX10_raise_3 ++ dktX10_raise_4
def dkwX10_raise_2 : List UInt8 := [180, 0, 48, 21, 4, 46, 18, 242, 162, 0, 14, 29, 42, 180, 0, 48, 21, 4, 46, 161, 0, 10, 42]
abbrev dktX10_raise_2 : List UInt8 := dkwX10_raise_2 ++ dktX10_raise_3
def dkwX10_raise_1 : List UInt8 := [162, 0, 10, 42, 18, 87, 182, 0, 88, 172, 42, 27, 28, 182, 1, 25, 42, 182, 1, 16, 54, 4, 42]
abbrev dktX10_raise_1 : List UInt8 := dkwX10_raise_1 ++ dktX10_raise_2
def dkwX10_raise_0 : List UInt8 := [27, 3, 17, 1, 144, 184, 0, 78, 153, 0, 19, 28, 3, 17, 78, 32, 184, 0, 78, 153, 0, 8, 29, 2]
abbrev dktX10_raise_0 : List UInt8 := dkwX10_raise_0 ++ dktX10_raise_1
theorem dksX10_raise_0 : cX10_raise.data.toList.drop 0 = dktX10_raise_0 := by decide +kernel
theorem dksX10_raise_1 : cX10_raise.data.toList.drop 24 = dktX10_raise_1 := dk_seg dksX10_raise_0 24 rfl rfl
theorem dksX10_raise_2 : cX10_raise.data.toList.drop 47 = dktX10_raise_2 := dk_seg dksX10_raise_1 23 rfl rfl
theorem dksX10_raise_3 : cX10_raise.data.toList.drop 70 = dktX10_raise_3 := dk_seg dksX10_raise_2 23 rfl rfl
theorem dksX10_raise_4 : cX10_raise.data.toList.drop 94 = dktX10_raise_4 := dk_seg dksX10_raise_3 24 rfl rfl
theorem dksX10_raise_5 : cX10_raise.data.toList.drop 117 = dktX10_raise_5 := dk_seg dksX10_raise_4 23 rfl rfl
theorem dksX10_raise_6 : cX10_raise.data.toList.drop 141 = dktX10_raise_6 := dk_seg dksX10_raise_5 24 rfl rfl
theorem dksX10_raise_7 : cX10_raise.data.toList.drop 165 = dktX10_raise_7 := dk_seg dksX10_raise_6 24 rfl rfl
theorem dX10_raise_0 : decode cX10_raise 0 = .ok (.iload_n 1, 1) := dk_27 (dk_at dksX10_raise_0 0 rfl rfl)
theorem dX10_raise_1 : decode cX10_raise 1 = .ok (.iconst 0, 1) := dk_3 (dk_at dksX10_raise_0 1 rfl rfl)
theorem dX10_raise_2 : decode cX10_raise 2 = .ok (.sipush 400, 3) := dk_17 1 144 (dk_at dksX10_raise_0 2 rfl rfl)
theorem dX10_raise_5 : decode cX10_raise 5 = .ok (.invokestatic 78, 3) := dk_184 0 78 (dk_at dksX10_raise_0 5 rfl rfl)
theorem dX10_raise_8 : decode cX10_raise 8 = .ok (.ifCond .eq 19, 3) := dk_153 0 19 (dk_at dksX10_raise_0 8 rfl rfl)
theorem dX10_raise_11 : decode cX10_raise 11 = .ok (.iload_n 2, 1) := dk_28 (dk_at dksX10_raise_0 11 rfl rfl)
theorem dX10_raise_12 : decode cX10_raise 12 = .ok (.iconst 0, 1) := dk_3 (dk_at dksX10_raise_0 12 rfl rfl)
theorem dX10_raise_13 : decode cX10_raise 13 = .ok (.sipush 20000, 3) := dk_17 78 32 (dk_at dksX10_raise_0 13 rfl rfl)
theorem dX10_raise_16 : decode cX10_raise 16 = .ok (.invokestatic 78, 3) := dk_184 0 78 (dk_at dksX10_raise_0 16 rfl rfl)
theorem dX10_raise_19 : decode cX10_raise 19 = .ok (.ifCond .eq 8, 3) := dk_153 0 8 (dk_at dksX10_raise_0 19 rfl rfl)
theorem dX10_raise_22 : decode cX10_raise 22 = .ok (.iload_n 3, 1) := dk_29 (dk_at dksX10_raise_0 22 rfl rfl)
theorem dX10_raise_23 : decode cX10_raise 23 = .ok (.iconst (-1), 1) := dk_2 (dk_at dksX10_raise_0 23 rfl rfl)
theorem dX10_raise_24 : decode cX10_raise 24 = .ok (.if_icmp .ge 10, 3) := dk_162 0 10 (dk_at dksX10_raise_1 0 rfl rfl)
theorem dX10_raise_27 : decode cX10_raise 27 = .ok (.aload_n 0, 1) := dk_42 (dk_at dksX10_raise_1 3 rfl rfl)
theorem dX10_raise_28 : decode cX10_raise 28 = .ok (.ldc 87, 2) := dk_18 87 (dk_at dksX10_raise_1 4 rfl rfl)
theorem dX10_raise_30 : decode cX10_raise 30 = .ok (.invokevirtual 88, 3) := dk_182 0 88 (dk_at dksX10_raise_1 6 rfl rfl)
theorem dX10_raise_33 : decode cX10_raise 33 = .ok (.ireturn, 1) := dk_172 (dk_at dksX10_raise_1 9 rfl rfl)
theorem dX10_raise_34 : decode cX10_raise 34 = .ok (.aload_n 0, 1) := dk_42 (dk_at dksX10_raise_1 10 rfl rfl)
theorem dX10_raise_35 : decode cX10_raise 35 = .ok (.iload_n 1, 1) := dk_27 (dk_at dksX10_raise_1 11 rfl rfl)
theorem dX10_raise_36 : decode cX10_raise 36 = .ok (.iload_n 2, 1) := dk_28 (dk_at dksX10_raise_1 12 rfl rfl)
theorem dX10_raise_37 : decode cX10_raise 37 = .ok (.invokevirtual 281, 3) := dk_182 1 25 (dk_at dksX10_raise_1 13 rfl rfl)
theorem dX10_raise_40 : decode cX10_raise 40 = .ok (.aload_n 0, 1) := dk_42 (dk_at dksX10_raise_1 16 rfl rfl)
theorem dX10_raise_41 : decode cX10_raise 41 = .ok (.invokevirtual 272, 3) := dk_182 1 16 (dk_at dksX10_raise_1 17 rfl rfl)
theorem dX10_raise_44 : decode cX10_raise 44 = .ok (.istore 4, 2) := dk_54 4 (dk_at dksX10_raise_1 20 rfl rfl)
theorem dX10_raise_46 : decode cX10_raise 46 = .ok (.aload_n 0, 1) := dk_42 (dk_at dksX10_raise_1 22 rfl rfl)
theorem dX10_raise_47 : decode cX10_raise 47 = .ok (.getfield 48, 3) := dk_180 0 48 (dk_at dksX10_raise_2 0 rfl rfl)
theorem dX10_raise_50 : decode cX10_raise 50 = .ok (.iload 4, 2) := dk_21 4 (dk_at dksX10_raise_2 3 rfl rfl)
theorem dX10_raise_52 : decode cX10_raise 52 = .ok (.iaload, 1) := dk_46 (dk_at dksX10_raise_2 5 rfl rfl)
theorem dX10_raise_53 : decode cX10_raise 53 = .ok (.ldc 242, 2) := dk_18 242 (dk_at dksX10_raise_2 6 rfl rfl)
theorem dX10_raise_55 : decode cX10_raise 55 = .ok (.if_icmp .ge 14, 3) := dk_162 0 14 (dk_at dksX10_raise_2 8 rfl rfl)
theorem dX10_raise_58 : decode cX10_raise 58 = .ok (.iload_n 3, 1) := dk_29 (dk_at dksX10_raise_2 11 rfl rfl)
theorem dX10_raise_59 : decode cX10_raise 59 = .ok (.aload_n 0, 1) := dk_42 (dk_at dksX10_raise_2 12 rfl rfl)
theorem dX10_raise_60 : decode cX10_raise 60 = .ok (.getfield 48, 3) := dk_180 0 48 (dk_at dksX10_raise_2 13 rfl rfl)
theorem dX10_raise_63 : decode cX10_raise 63 = .ok (.iload 4, 2) := dk_21 4 (dk_at dksX10_raise_2 16 rfl rfl)
theorem dX10_raise_65 : decode cX10_raise 65 = .ok (.iaload, 1) := dk_46 (dk_at dksX10_raise_2 18 rfl rfl)
theorem dX10_raise_66 : decode cX10_raise 66 = .ok (.if_icmp .lt 10, 3) := dk_161 0 10 (dk_at dksX10_raise_2 19 rfl rfl)
theorem dX10_raise_69 : decode cX10_raise 69 = .ok (.aload_n 0, 1) := dk_42 (dk_at dksX10_raise_2 22 rfl rfl)
theorem dX10_raise_70 : decode cX10_raise 70 = .ok (.ldc 139, 2) := dk_18 139 (dk_at dksX10_raise_3 0 rfl rfl)
theorem dX10_raise_72 : decode cX10_raise 72 = .ok (.invokevirtual 88, 3) := dk_182 0 88 (dk_at dksX10_raise_3 2 rfl rfl)
theorem dX10_raise_75 : decode cX10_raise 75 = .ok (.ireturn, 1) := dk_172 (dk_at dksX10_raise_3 5 rfl rfl)
theorem dX10_raise_76 : decode cX10_raise 76 = .ok (.iload_n 3, 1) := dk_29 (dk_at dksX10_raise_3 6 rfl rfl)
theorem dX10_raise_77 : decode cX10_raise 77 = .ok (.ifCond .ge 11, 3) := dk_156 0 11 (dk_at dksX10_raise_3 7 rfl rfl)
theorem dX10_raise_80 : decode cX10_raise 80 = .ok (.aload_n 0, 1) := dk_42 (dk_at dksX10_raise_3 10 rfl rfl)
theorem dX10_raise_81 : decode cX10_raise 81 = .ok (.getfield 48, 3) := dk_180 0 48 (dk_at dksX10_raise_3 11 rfl rfl)
theorem dX10_raise_84 : decode cX10_raise 84 = .ok (.iload 4, 2) := dk_21 4 (dk_at dksX10_raise_3 14 rfl rfl)
theorem dX10_raise_86 : decode cX10_raise 86 = .ok (.iaload, 1) := dk_46 (dk_at dksX10_raise_3 16 rfl rfl)
theorem dX10_raise_87 : decode cX10_raise 87 = .ok (.ireturn, 1) := dk_172 (dk_at dksX10_raise_3 17 rfl rfl)
theorem dX10_raise_88 : decode cX10_raise 88 = .ok (.iconst 0, 1) := dk_3 (dk_at dksX10_raise_3 18 rfl rfl)
theorem dX10_raise_89 : decode cX10_raise 89 = .ok (.istore 5, 2) := dk_54 5 (dk_at dksX10_raise_3 19 rfl rfl)
theorem dX10_raise_91 : decode cX10_raise 91 = .ok (.iconst 0, 1) := dk_3 (dk_at dksX10_raise_3 21 rfl rfl)
theorem dX10_raise_92 : decode cX10_raise 92 = .ok (.istore 6, 2) := dk_54 6 (dk_at dksX10_raise_3 22 rfl rfl)
theorem dX10_raise_94 : decode cX10_raise 94 = .ok (.iload 6, 2) := dk_21 6 (dk_at dksX10_raise_4 0 rfl rfl)
theorem dX10_raise_96 : decode cX10_raise 96 = .ok (.iload_n 3, 1) := dk_29 (dk_at dksX10_raise_4 2 rfl rfl)
theorem dX10_raise_97 : decode cX10_raise 97 = .ok (.if_icmp .gt 80, 3) := dk_163 0 80 (dk_at dksX10_raise_4 3 rfl rfl)
theorem dX10_raise_100 : decode cX10_raise 100 = .ok (.iconst 0, 1) := dk_3 (dk_at dksX10_raise_4 6 rfl rfl)
theorem dX10_raise_101 : decode cX10_raise 101 = .ok (.istore 5, 2) := dk_54 5 (dk_at dksX10_raise_4 7 rfl rfl)
theorem dX10_raise_103 : decode cX10_raise 103 = .ok (.iload 4, 2) := dk_21 4 (dk_at dksX10_raise_4 9 rfl rfl)
theorem dX10_raise_105 : decode cX10_raise 105 = .ok (.iload 5, 2) := dk_21 5 (dk_at dksX10_raise_4 11 rfl rfl)
theorem dX10_raise_107 : decode cX10_raise 107 = .ok (.invokestatic 243, 3) := dk_184 0 243 (dk_at dksX10_raise_4 13 rfl rfl)
theorem dX10_raise_110 : decode cX10_raise 110 = .ok (.ifCond .ne 46, 3) := dk_154 0 46 (dk_at dksX10_raise_4 16 rfl rfl)
theorem dX10_raise_113 : decode cX10_raise 113 = .ok (.aload_n 0, 1) := dk_42 (dk_at dksX10_raise_4 19 rfl rfl)
theorem dX10_raise_114 : decode cX10_raise 114 = .ok (.iload 4, 2) := dk_21 4 (dk_at dksX10_raise_4 20 rfl rfl)
theorem dX10_raise_116 : decode cX10_raise 116 = .ok (.iconst 1, 1) := dk_4 (dk_at dksX10_raise_4 22 rfl rfl)
theorem dX10_raise_117 : decode cX10_raise 117 = .ok (.iload 5, 2) := dk_21 5 (dk_at dksX10_raise_5 0 rfl rfl)
theorem dX10_raise_119 : decode cX10_raise 119 = .ok (.ishl, 1) := dk_120 (dk_at dksX10_raise_5 2 rfl rfl)
theorem dX10_raise_120 : decode cX10_raise 120 = .ok (.ior, 1) := dk_128 (dk_at dksX10_raise_5 3 rfl rfl)
theorem dX10_raise_121 : decode cX10_raise 121 = .ok (.iconst 1, 1) := dk_4 (dk_at dksX10_raise_5 4 rfl rfl)
theorem dX10_raise_122 : decode cX10_raise 122 = .ok (.invokevirtual 275, 3) := dk_182 1 19 (dk_at dksX10_raise_5 5 rfl rfl)
theorem dX10_raise_125 : decode cX10_raise 125 = .ok (.invokestatic 278, 3) := dk_184 1 22 (dk_at dksX10_raise_5 8 rfl rfl)
theorem dX10_raise_128 : decode cX10_raise 128 = .ok (.iload_n 2, 1) := dk_28 (dk_at dksX10_raise_5 11 rfl rfl)
theorem dX10_raise_129 : decode cX10_raise 129 = .ok (.if_icmp .gt 27, 3) := dk_163 0 27 (dk_at dksX10_raise_5 12 rfl rfl)
theorem dX10_raise_132 : decode cX10_raise 132 = .ok (.aload_n 0, 1) := dk_42 (dk_at dksX10_raise_5 15 rfl rfl)
theorem dX10_raise_133 : decode cX10_raise 133 = .ok (.getfield 48, 3) := dk_180 0 48 (dk_at dksX10_raise_5 16 rfl rfl)
theorem dX10_raise_136 : decode cX10_raise 136 = .ok (.iload 4, 2) := dk_21 4 (dk_at dksX10_raise_5 19 rfl rfl)
theorem dX10_raise_138 : decode cX10_raise 138 = .ok (.iconst 1, 1) := dk_4 (dk_at dksX10_raise_5 21 rfl rfl)
theorem dX10_raise_139 : decode cX10_raise 139 = .ok (.iload 5, 2) := dk_21 5 (dk_at dksX10_raise_5 22 rfl rfl)
theorem dX10_raise_141 : decode cX10_raise 141 = .ok (.ishl, 1) := dk_120 (dk_at dksX10_raise_6 0 rfl rfl)
theorem dX10_raise_142 : decode cX10_raise 142 = .ok (.ior, 1) := dk_128 (dk_at dksX10_raise_6 1 rfl rfl)
theorem dX10_raise_143 : decode cX10_raise 143 = .ok (.iaload, 1) := dk_46 (dk_at dksX10_raise_6 2 rfl rfl)
theorem dX10_raise_144 : decode cX10_raise 144 = .ok (.aload_n 0, 1) := dk_42 (dk_at dksX10_raise_6 3 rfl rfl)
theorem dX10_raise_145 : decode cX10_raise 145 = .ok (.getfield 48, 3) := dk_180 0 48 (dk_at dksX10_raise_6 4 rfl rfl)
theorem dX10_raise_148 : decode cX10_raise 148 = .ok (.iload 4, 2) := dk_21 4 (dk_at dksX10_raise_6 7 rfl rfl)
theorem dX10_raise_150 : decode cX10_raise 150 = .ok (.iaload, 1) := dk_46 (dk_at dksX10_raise_6 9 rfl rfl)
theorem dX10_raise_151 : decode cX10_raise 151 = .ok (.iconst 1, 1) := dk_4 (dk_at dksX10_raise_6 10 rfl rfl)
theorem dX10_raise_152 : decode cX10_raise 152 = .ok (.isub, 1) := dk_100 (dk_at dksX10_raise_6 11 rfl rfl)
theorem dX10_raise_153 : decode cX10_raise 153 = .ok (.if_icmp .eq 9, 3) := dk_159 0 9 (dk_at dksX10_raise_6 12 rfl rfl)
theorem dX10_raise_156 : decode cX10_raise 156 = .ok (.iinc 5 1, 3) := dk_132 5 1 (dk_at dksX10_raise_6 15 rfl rfl)
theorem dX10_raise_159 : decode cX10_raise 159 = .ok (.goto (-56), 3) := dk_167 255 200 (dk_at dksX10_raise_6 18 rfl rfl)
theorem dX10_raise_162 : decode cX10_raise 162 = .ok (.iload 4, 2) := dk_21 4 (dk_at dksX10_raise_6 21 rfl rfl)
theorem dX10_raise_164 : decode cX10_raise 164 = .ok (.iconst 1, 1) := dk_4 (dk_at dksX10_raise_6 23 rfl rfl)
theorem dX10_raise_165 : decode cX10_raise 165 = .ok (.iload 5, 2) := dk_21 5 (dk_at dksX10_raise_7 0 rfl rfl)
theorem dX10_raise_167 : decode cX10_raise 167 = .ok (.ishl, 1) := dk_120 (dk_at dksX10_raise_7 2 rfl rfl)
theorem dX10_raise_168 : decode cX10_raise 168 = .ok (.ior, 1) := dk_128 (dk_at dksX10_raise_7 3 rfl rfl)
theorem dX10_raise_169 : decode cX10_raise 169 = .ok (.istore 4, 2) := dk_54 4 (dk_at dksX10_raise_7 4 rfl rfl)
theorem dX10_raise_171 : decode cX10_raise 171 = .ok (.iinc 6 1, 3) := dk_132 6 1 (dk_at dksX10_raise_7 6 rfl rfl)
theorem dX10_raise_174 : decode cX10_raise 174 = .ok (.goto (-80), 3) := dk_167 255 176 (dk_at dksX10_raise_7 9 rfl rfl)
theorem dX10_raise_177 : decode cX10_raise 177 = .ok (.iload 5, 2) := dk_21 5 (dk_at dksX10_raise_7 12 rfl rfl)
theorem dX10_raise_179 : decode cX10_raise 179 = .ok (.ireturn, 1) := dk_172 (dk_at dksX10_raise_7 14 rfl rfl)
abbrev cX10_findMore : ByteArray := prog_37_method_77_code
def yX10_findMore : MethodName := ⟨RX10, "findMore", "(II)V"⟩
def dkwX10_findMore_6 : List UInt8 := [167, 255, 125, 177]
abbrev dktX10_findMore_6 : List UInt8 := dkwX10_findMore_6 ++ []
def dkwX10_findMore_5 : List UInt8 := [96, 184, 0, 124, 167, 0, 9, 42, 180, 0, 48, 29, 46, 79, 132, 4, 1, 167, 255, 160, 132, 3, 255]
abbrev dktX10_findMore_5 : List UInt8 := dkwX10_findMore_5 ++ dktX10_findMore_6
def dkwX10_findMore_4 : List UInt8 := [42, 180, 0, 48, 29, 21, 6, 153, 0, 24, 42, 180, 0, 48, 29, 46, 42, 180, 0, 48, 21, 5, 46, 4]
abbrev dktX10_findMore_4 : List UInt8 := dkwX10_findMore_4 ++ dktX10_findMore_5
def dkwX10_findMore_3 : List UInt8 := [159, 0, 21, 42, 21, 5, 4, 182, 1, 19, 184, 1, 22, 28, 163, 0, 7, 4, 167, 0, 4, 3, 54, 6]
abbrev dktX10_findMore_3 : List UInt8 := dkwX10_findMore_3 ++ dktX10_findMore_4
def dkwX10_findMore_2 : List UInt8 := [46, 162, 0, 91, 42, 180, 0, 48, 29, 46, 158, 0, 82, 29, 4, 21, 4, 120, 128, 54, 5, 21, 5, 29]
abbrev dktX10_findMore_2 : List UInt8 := dkwX10_findMore_2 ++ dktX10_findMore_3
def dkwX10_findMore_1 : List UInt8 := [182, 1, 19, 27, 161, 0, 7, 3, 167, 0, 5, 18, 242, 79, 3, 54, 4, 21, 4, 42, 180, 0, 9, 7]
abbrev dktX10_findMore_1 : List UInt8 := dkwX10_findMore_1 ++ dktX10_findMore_2
def dkwX10_findMore_0 : List UInt8 := [4, 42, 180, 0, 9, 7, 46, 120, 4, 100, 62, 29, 155, 0, 133, 42, 180, 0, 48, 29, 42, 29, 3]
abbrev dktX10_findMore_0 : List UInt8 := dkwX10_findMore_0 ++ dktX10_findMore_1
theorem dksX10_findMore_0 : cX10_findMore.data.toList.drop 0 = dktX10_findMore_0 := by decide +kernel
theorem dksX10_findMore_1 : cX10_findMore.data.toList.drop 23 = dktX10_findMore_1 := dk_seg dksX10_findMore_0 23 rfl rfl
theorem dksX10_findMore_2 : cX10_findMore.data.toList.drop 47 = dktX10_findMore_2 := dk_seg dksX10_findMore_1 24 rfl rfl
theorem dksX10_findMore_3 : cX10_findMore.data.toList.drop 71 = dktX10_findMore_3 := dk_seg dksX10_findMore_2 24 rfl rfl
theorem dksX10_findMore_4 : cX10_findMore.data.toList.drop 95 = dktX10_findMore_4 := dk_seg dksX10_findMore_3 24 rfl rfl
theorem dksX10_findMore_5 : cX10_findMore.data.toList.drop 119 = dktX10_findMore_5 := dk_seg dksX10_findMore_4 24 rfl rfl
theorem dksX10_findMore_6 : cX10_findMore.data.toList.drop 142 = dktX10_findMore_6 := dk_seg dksX10_findMore_5 23 rfl rfl
theorem dX10_findMore_0 : decode cX10_findMore 0 = .ok (.iconst 1, 1) := dk_4 (dk_at dksX10_findMore_0 0 rfl rfl)
theorem dX10_findMore_1 : decode cX10_findMore 1 = .ok (.aload_n 0, 1) := dk_42 (dk_at dksX10_findMore_0 1 rfl rfl)
theorem dX10_findMore_2 : decode cX10_findMore 2 = .ok (.getfield 9, 3) := dk_180 0 9 (dk_at dksX10_findMore_0 2 rfl rfl)
theorem dX10_findMore_5 : decode cX10_findMore 5 = .ok (.iconst 4, 1) := dk_7 (dk_at dksX10_findMore_0 5 rfl rfl)
theorem dX10_findMore_6 : decode cX10_findMore 6 = .ok (.iaload, 1) := dk_46 (dk_at dksX10_findMore_0 6 rfl rfl)
theorem dX10_findMore_7 : decode cX10_findMore 7 = .ok (.ishl, 1) := dk_120 (dk_at dksX10_findMore_0 7 rfl rfl)
theorem dX10_findMore_8 : decode cX10_findMore 8 = .ok (.iconst 1, 1) := dk_4 (dk_at dksX10_findMore_0 8 rfl rfl)
theorem dX10_findMore_9 : decode cX10_findMore 9 = .ok (.isub, 1) := dk_100 (dk_at dksX10_findMore_0 9 rfl rfl)
theorem dX10_findMore_10 : decode cX10_findMore 10 = .ok (.istore_n 3, 1) := dk_62 (dk_at dksX10_findMore_0 10 rfl rfl)
theorem dX10_findMore_11 : decode cX10_findMore 11 = .ok (.iload_n 3, 1) := dk_29 (dk_at dksX10_findMore_0 11 rfl rfl)
theorem dX10_findMore_12 : decode cX10_findMore 12 = .ok (.ifCond .lt 133, 3) := dk_155 0 133 (dk_at dksX10_findMore_0 12 rfl rfl)
theorem dX10_findMore_15 : decode cX10_findMore 15 = .ok (.aload_n 0, 1) := dk_42 (dk_at dksX10_findMore_0 15 rfl rfl)
theorem dX10_findMore_16 : decode cX10_findMore 16 = .ok (.getfield 48, 3) := dk_180 0 48 (dk_at dksX10_findMore_0 16 rfl rfl)
theorem dX10_findMore_19 : decode cX10_findMore 19 = .ok (.iload_n 3, 1) := dk_29 (dk_at dksX10_findMore_0 19 rfl rfl)
theorem dX10_findMore_20 : decode cX10_findMore 20 = .ok (.aload_n 0, 1) := dk_42 (dk_at dksX10_findMore_0 20 rfl rfl)
theorem dX10_findMore_21 : decode cX10_findMore 21 = .ok (.iload_n 3, 1) := dk_29 (dk_at dksX10_findMore_0 21 rfl rfl)
theorem dX10_findMore_22 : decode cX10_findMore 22 = .ok (.iconst 0, 1) := dk_3 (dk_at dksX10_findMore_0 22 rfl rfl)
theorem dX10_findMore_23 : decode cX10_findMore 23 = .ok (.invokevirtual 275, 3) := dk_182 1 19 (dk_at dksX10_findMore_1 0 rfl rfl)
theorem dX10_findMore_26 : decode cX10_findMore 26 = .ok (.iload_n 1, 1) := dk_27 (dk_at dksX10_findMore_1 3 rfl rfl)
theorem dX10_findMore_27 : decode cX10_findMore 27 = .ok (.if_icmp .lt 7, 3) := dk_161 0 7 (dk_at dksX10_findMore_1 4 rfl rfl)
theorem dX10_findMore_30 : decode cX10_findMore 30 = .ok (.iconst 0, 1) := dk_3 (dk_at dksX10_findMore_1 7 rfl rfl)
theorem dX10_findMore_31 : decode cX10_findMore 31 = .ok (.goto 5, 3) := dk_167 0 5 (dk_at dksX10_findMore_1 8 rfl rfl)
theorem dX10_findMore_34 : decode cX10_findMore 34 = .ok (.ldc 242, 2) := dk_18 242 (dk_at dksX10_findMore_1 11 rfl rfl)
theorem dX10_findMore_36 : decode cX10_findMore 36 = .ok (.iastore, 1) := dk_79 (dk_at dksX10_findMore_1 13 rfl rfl)
theorem dX10_findMore_37 : decode cX10_findMore 37 = .ok (.iconst 0, 1) := dk_3 (dk_at dksX10_findMore_1 14 rfl rfl)
theorem dX10_findMore_38 : decode cX10_findMore 38 = .ok (.istore 4, 2) := dk_54 4 (dk_at dksX10_findMore_1 15 rfl rfl)
theorem dX10_findMore_40 : decode cX10_findMore 40 = .ok (.iload 4, 2) := dk_21 4 (dk_at dksX10_findMore_1 17 rfl rfl)
theorem dX10_findMore_42 : decode cX10_findMore 42 = .ok (.aload_n 0, 1) := dk_42 (dk_at dksX10_findMore_1 19 rfl rfl)
theorem dX10_findMore_43 : decode cX10_findMore 43 = .ok (.getfield 9, 3) := dk_180 0 9 (dk_at dksX10_findMore_1 20 rfl rfl)
theorem dX10_findMore_46 : decode cX10_findMore 46 = .ok (.iconst 4, 1) := dk_7 (dk_at dksX10_findMore_1 23 rfl rfl)
theorem dX10_findMore_47 : decode cX10_findMore 47 = .ok (.iaload, 1) := dk_46 (dk_at dksX10_findMore_2 0 rfl rfl)
theorem dX10_findMore_48 : decode cX10_findMore 48 = .ok (.if_icmp .ge 91, 3) := dk_162 0 91 (dk_at dksX10_findMore_2 1 rfl rfl)
theorem dX10_findMore_51 : decode cX10_findMore 51 = .ok (.aload_n 0, 1) := dk_42 (dk_at dksX10_findMore_2 4 rfl rfl)
theorem dX10_findMore_52 : decode cX10_findMore 52 = .ok (.getfield 48, 3) := dk_180 0 48 (dk_at dksX10_findMore_2 5 rfl rfl)
theorem dX10_findMore_55 : decode cX10_findMore 55 = .ok (.iload_n 3, 1) := dk_29 (dk_at dksX10_findMore_2 8 rfl rfl)
theorem dX10_findMore_56 : decode cX10_findMore 56 = .ok (.iaload, 1) := dk_46 (dk_at dksX10_findMore_2 9 rfl rfl)
theorem dX10_findMore_57 : decode cX10_findMore 57 = .ok (.ifCond .le 82, 3) := dk_158 0 82 (dk_at dksX10_findMore_2 10 rfl rfl)
theorem dX10_findMore_60 : decode cX10_findMore 60 = .ok (.iload_n 3, 1) := dk_29 (dk_at dksX10_findMore_2 13 rfl rfl)
theorem dX10_findMore_61 : decode cX10_findMore 61 = .ok (.iconst 1, 1) := dk_4 (dk_at dksX10_findMore_2 14 rfl rfl)
theorem dX10_findMore_62 : decode cX10_findMore 62 = .ok (.iload 4, 2) := dk_21 4 (dk_at dksX10_findMore_2 15 rfl rfl)
theorem dX10_findMore_64 : decode cX10_findMore 64 = .ok (.ishl, 1) := dk_120 (dk_at dksX10_findMore_2 17 rfl rfl)
theorem dX10_findMore_65 : decode cX10_findMore 65 = .ok (.ior, 1) := dk_128 (dk_at dksX10_findMore_2 18 rfl rfl)
theorem dX10_findMore_66 : decode cX10_findMore 66 = .ok (.istore 5, 2) := dk_54 5 (dk_at dksX10_findMore_2 19 rfl rfl)
theorem dX10_findMore_68 : decode cX10_findMore 68 = .ok (.iload 5, 2) := dk_21 5 (dk_at dksX10_findMore_2 21 rfl rfl)
theorem dX10_findMore_70 : decode cX10_findMore 70 = .ok (.iload_n 3, 1) := dk_29 (dk_at dksX10_findMore_2 23 rfl rfl)
theorem dX10_findMore_71 : decode cX10_findMore 71 = .ok (.if_icmp .eq 21, 3) := dk_159 0 21 (dk_at dksX10_findMore_3 0 rfl rfl)
theorem dX10_findMore_74 : decode cX10_findMore 74 = .ok (.aload_n 0, 1) := dk_42 (dk_at dksX10_findMore_3 3 rfl rfl)
theorem dX10_findMore_75 : decode cX10_findMore 75 = .ok (.iload 5, 2) := dk_21 5 (dk_at dksX10_findMore_3 4 rfl rfl)
theorem dX10_findMore_77 : decode cX10_findMore 77 = .ok (.iconst 1, 1) := dk_4 (dk_at dksX10_findMore_3 6 rfl rfl)
theorem dX10_findMore_78 : decode cX10_findMore 78 = .ok (.invokevirtual 275, 3) := dk_182 1 19 (dk_at dksX10_findMore_3 7 rfl rfl)
theorem dX10_findMore_81 : decode cX10_findMore 81 = .ok (.invokestatic 278, 3) := dk_184 1 22 (dk_at dksX10_findMore_3 10 rfl rfl)
theorem dX10_findMore_84 : decode cX10_findMore 84 = .ok (.iload_n 2, 1) := dk_28 (dk_at dksX10_findMore_3 13 rfl rfl)
theorem dX10_findMore_85 : decode cX10_findMore 85 = .ok (.if_icmp .gt 7, 3) := dk_163 0 7 (dk_at dksX10_findMore_3 14 rfl rfl)
theorem dX10_findMore_88 : decode cX10_findMore 88 = .ok (.iconst 1, 1) := dk_4 (dk_at dksX10_findMore_3 17 rfl rfl)
theorem dX10_findMore_89 : decode cX10_findMore 89 = .ok (.goto 4, 3) := dk_167 0 4 (dk_at dksX10_findMore_3 18 rfl rfl)
theorem dX10_findMore_92 : decode cX10_findMore 92 = .ok (.iconst 0, 1) := dk_3 (dk_at dksX10_findMore_3 21 rfl rfl)
theorem dX10_findMore_93 : decode cX10_findMore 93 = .ok (.istore 6, 2) := dk_54 6 (dk_at dksX10_findMore_3 22 rfl rfl)
theorem dX10_findMore_95 : decode cX10_findMore 95 = .ok (.aload_n 0, 1) := dk_42 (dk_at dksX10_findMore_4 0 rfl rfl)
theorem dX10_findMore_96 : decode cX10_findMore 96 = .ok (.getfield 48, 3) := dk_180 0 48 (dk_at dksX10_findMore_4 1 rfl rfl)
theorem dX10_findMore_99 : decode cX10_findMore 99 = .ok (.iload_n 3, 1) := dk_29 (dk_at dksX10_findMore_4 4 rfl rfl)
theorem dX10_findMore_100 : decode cX10_findMore 100 = .ok (.iload 6, 2) := dk_21 6 (dk_at dksX10_findMore_4 5 rfl rfl)
theorem dX10_findMore_102 : decode cX10_findMore 102 = .ok (.ifCond .eq 24, 3) := dk_153 0 24 (dk_at dksX10_findMore_4 7 rfl rfl)
theorem dX10_findMore_105 : decode cX10_findMore 105 = .ok (.aload_n 0, 1) := dk_42 (dk_at dksX10_findMore_4 10 rfl rfl)
theorem dX10_findMore_106 : decode cX10_findMore 106 = .ok (.getfield 48, 3) := dk_180 0 48 (dk_at dksX10_findMore_4 11 rfl rfl)
theorem dX10_findMore_109 : decode cX10_findMore 109 = .ok (.iload_n 3, 1) := dk_29 (dk_at dksX10_findMore_4 14 rfl rfl)
theorem dX10_findMore_110 : decode cX10_findMore 110 = .ok (.iaload, 1) := dk_46 (dk_at dksX10_findMore_4 15 rfl rfl)
theorem dX10_findMore_111 : decode cX10_findMore 111 = .ok (.aload_n 0, 1) := dk_42 (dk_at dksX10_findMore_4 16 rfl rfl)
theorem dX10_findMore_112 : decode cX10_findMore 112 = .ok (.getfield 48, 3) := dk_180 0 48 (dk_at dksX10_findMore_4 17 rfl rfl)
theorem dX10_findMore_115 : decode cX10_findMore 115 = .ok (.iload 5, 2) := dk_21 5 (dk_at dksX10_findMore_4 20 rfl rfl)
theorem dX10_findMore_117 : decode cX10_findMore 117 = .ok (.iaload, 1) := dk_46 (dk_at dksX10_findMore_4 22 rfl rfl)
theorem dX10_findMore_118 : decode cX10_findMore 118 = .ok (.iconst 1, 1) := dk_4 (dk_at dksX10_findMore_4 23 rfl rfl)
theorem dX10_findMore_119 : decode cX10_findMore 119 = .ok (.iadd, 1) := dk_96 (dk_at dksX10_findMore_5 0 rfl rfl)
theorem dX10_findMore_120 : decode cX10_findMore 120 = .ok (.invokestatic 124, 3) := dk_184 0 124 (dk_at dksX10_findMore_5 1 rfl rfl)
theorem dX10_findMore_123 : decode cX10_findMore 123 = .ok (.goto 9, 3) := dk_167 0 9 (dk_at dksX10_findMore_5 4 rfl rfl)
theorem dX10_findMore_126 : decode cX10_findMore 126 = .ok (.aload_n 0, 1) := dk_42 (dk_at dksX10_findMore_5 7 rfl rfl)
theorem dX10_findMore_127 : decode cX10_findMore 127 = .ok (.getfield 48, 3) := dk_180 0 48 (dk_at dksX10_findMore_5 8 rfl rfl)
theorem dX10_findMore_130 : decode cX10_findMore 130 = .ok (.iload_n 3, 1) := dk_29 (dk_at dksX10_findMore_5 11 rfl rfl)
theorem dX10_findMore_131 : decode cX10_findMore 131 = .ok (.iaload, 1) := dk_46 (dk_at dksX10_findMore_5 12 rfl rfl)
theorem dX10_findMore_132 : decode cX10_findMore 132 = .ok (.iastore, 1) := dk_79 (dk_at dksX10_findMore_5 13 rfl rfl)
theorem dX10_findMore_133 : decode cX10_findMore 133 = .ok (.iinc 4 1, 3) := dk_132 4 1 (dk_at dksX10_findMore_5 14 rfl rfl)
theorem dX10_findMore_136 : decode cX10_findMore 136 = .ok (.goto (-96), 3) := dk_167 255 160 (dk_at dksX10_findMore_5 17 rfl rfl)
theorem dX10_findMore_139 : decode cX10_findMore 139 = .ok (.iinc 3 (-1), 3) := dk_132 3 255 (dk_at dksX10_findMore_5 20 rfl rfl)
theorem dX10_findMore_142 : decode cX10_findMore 142 = .ok (.goto (-131), 3) := dk_167 255 125 (dk_at dksX10_findMore_6 0 rfl rfl)
theorem dX10_findMore_145 : decode cX10_findMore 145 = .ok (.return_, 1) := dk_177 (dk_at dksX10_findMore_6 3 rfl rfl)
abbrev cX10_tide : ByteArray := prog_37_method_79_code
def yX10_tide : MethodName := ⟨RX10, "tide", "(II)I"⟩
def dkwX10_tide_1 : List UInt8 := [18, 87, 182, 0, 88, 172, 42, 27, 28, 27, 100, 4, 96, 182, 0, 227, 172]
abbrev dktX10_tide_1 : List UInt8 := dkwX10_tide_1 ++ []
def dkwX10_tide_0 : List UInt8 := [27, 3, 17, 9, 95, 184, 0, 78, 153, 0, 14, 28, 27, 17, 9, 95, 184, 0, 78, 154, 0, 10, 42]
abbrev dktX10_tide_0 : List UInt8 := dkwX10_tide_0 ++ dktX10_tide_1
theorem dksX10_tide_0 : cX10_tide.data.toList.drop 0 = dktX10_tide_0 := by decide +kernel
theorem dksX10_tide_1 : cX10_tide.data.toList.drop 23 = dktX10_tide_1 := dk_seg dksX10_tide_0 23 rfl rfl
theorem dX10_tide_0 : decode cX10_tide 0 = .ok (.iload_n 1, 1) := dk_27 (dk_at dksX10_tide_0 0 rfl rfl)
theorem dX10_tide_1 : decode cX10_tide 1 = .ok (.iconst 0, 1) := dk_3 (dk_at dksX10_tide_0 1 rfl rfl)
theorem dX10_tide_2 : decode cX10_tide 2 = .ok (.sipush 2399, 3) := dk_17 9 95 (dk_at dksX10_tide_0 2 rfl rfl)
theorem dX10_tide_5 : decode cX10_tide 5 = .ok (.invokestatic 78, 3) := dk_184 0 78 (dk_at dksX10_tide_0 5 rfl rfl)
theorem dX10_tide_8 : decode cX10_tide 8 = .ok (.ifCond .eq 14, 3) := dk_153 0 14 (dk_at dksX10_tide_0 8 rfl rfl)
theorem dX10_tide_11 : decode cX10_tide 11 = .ok (.iload_n 2, 1) := dk_28 (dk_at dksX10_tide_0 11 rfl rfl)
theorem dX10_tide_12 : decode cX10_tide 12 = .ok (.iload_n 1, 1) := dk_27 (dk_at dksX10_tide_0 12 rfl rfl)
theorem dX10_tide_13 : decode cX10_tide 13 = .ok (.sipush 2399, 3) := dk_17 9 95 (dk_at dksX10_tide_0 13 rfl rfl)
theorem dX10_tide_16 : decode cX10_tide 16 = .ok (.invokestatic 78, 3) := dk_184 0 78 (dk_at dksX10_tide_0 16 rfl rfl)
theorem dX10_tide_19 : decode cX10_tide 19 = .ok (.ifCond .ne 10, 3) := dk_154 0 10 (dk_at dksX10_tide_0 19 rfl rfl)
theorem dX10_tide_22 : decode cX10_tide 22 = .ok (.aload_n 0, 1) := dk_42 (dk_at dksX10_tide_0 22 rfl rfl)
theorem dX10_tide_23 : decode cX10_tide 23 = .ok (.ldc 87, 2) := dk_18 87 (dk_at dksX10_tide_1 0 rfl rfl)
theorem dX10_tide_25 : decode cX10_tide 25 = .ok (.invokevirtual 88, 3) := dk_182 0 88 (dk_at dksX10_tide_1 2 rfl rfl)
theorem dX10_tide_28 : decode cX10_tide 28 = .ok (.ireturn, 1) := dk_172 (dk_at dksX10_tide_1 5 rfl rfl)
theorem dX10_tide_29 : decode cX10_tide 29 = .ok (.aload_n 0, 1) := dk_42 (dk_at dksX10_tide_1 6 rfl rfl)
theorem dX10_tide_30 : decode cX10_tide 30 = .ok (.iload_n 1, 1) := dk_27 (dk_at dksX10_tide_1 7 rfl rfl)
theorem dX10_tide_31 : decode cX10_tide 31 = .ok (.iload_n 2, 1) := dk_28 (dk_at dksX10_tide_1 8 rfl rfl)
theorem dX10_tide_32 : decode cX10_tide 32 = .ok (.iload_n 1, 1) := dk_27 (dk_at dksX10_tide_1 9 rfl rfl)
theorem dX10_tide_33 : decode cX10_tide 33 = .ok (.isub, 1) := dk_100 (dk_at dksX10_tide_1 10 rfl rfl)
theorem dX10_tide_34 : decode cX10_tide 34 = .ok (.iconst 1, 1) := dk_4 (dk_at dksX10_tide_1 11 rfl rfl)
theorem dX10_tide_35 : decode cX10_tide 35 = .ok (.iadd, 1) := dk_96 (dk_at dksX10_tide_1 12 rfl rfl)
theorem dX10_tide_36 : decode cX10_tide 36 = .ok (.invokevirtual 227, 3) := dk_182 0 227 (dk_at dksX10_tide_1 13 rfl rfl)
theorem dX10_tide_39 : decode cX10_tide 39 = .ok (.ireturn, 1) := dk_172 (dk_at dksX10_tide_1 16 rfl rfl)
abbrev cX10_say : ByteArray := prog_37_method_80_code
def yX10_say : MethodName := ⟨RX10, "say", "(I)I"⟩
def dkwX10_say_9 : List UInt8 := [132, 4, 1, 132, 7, 255, 167, 255, 237, 132, 4, 1, 132, 5, 1, 167, 255, 185, 29, 172]
abbrev dktX10_say_9 : List UInt8 := dkwX10_say_9 ++ []
def dkwX10_say_8 : List UInt8 := [108, 167, 0, 7, 21, 6, 8, 112, 54, 7, 21, 7, 155, 0, 20, 42, 180, 0, 71, 21, 4, 4, 79]
abbrev dktX10_say_8 : List UInt8 := dkwX10_say_8 ++ dktX10_say_9
def dkwX10_say_7 : List UInt8 := [180, 0, 9, 17, 1, 118, 21, 5, 5, 108, 96, 46, 54, 6, 21, 5, 5, 112, 154, 0, 10, 21, 6, 8]
abbrev dktX10_say_7 : List UInt8 := dkwX10_say_7 ++ dktX10_say_8
def dkwX10_say_6 : List UInt8 := [132, 4, 1, 167, 255, 233, 16, 40, 27, 104, 54, 4, 3, 54, 5, 21, 5, 5, 28, 104, 162, 0, 69, 42]
abbrev dktX10_say_6 : List UInt8 := dkwX10_say_6 ++ dktX10_say_7
def dkwX10_say_5 : List UInt8 := [79, 3, 54, 4, 21, 4, 16, 40, 162, 0, 22, 42, 180, 0, 71, 16, 40, 27, 104, 21, 4, 96, 3, 79]
abbrev dktX10_say_5 : List UInt8 := dkwX10_say_5 ++ dktX10_say_6
def dkwX10_say_4 : List UInt8 := [164, 0, 10, 42, 18, 108, 182, 0, 88, 172, 42, 180, 0, 65, 27, 16, 8, 79, 42, 180, 0, 68, 27, 29]
abbrev dktX10_say_4 : List UInt8 := dkwX10_say_4 ++ dktX10_say_5
def dkwX10_say_3 : List UInt8 := [29, 21, 5, 8, 108, 21, 5, 8, 112, 96, 7, 96, 96, 62, 132, 4, 1, 167, 255, 202, 29, 16, 40]
abbrev dktX10_say_3 : List UInt8 := dkwX10_say_3 ++ dktX10_say_4
def dkwX10_say_2 : List UInt8 := [21, 4, 96, 46, 54, 5, 21, 5, 3, 16, 24, 184, 0, 78, 154, 0, 10, 42, 18, 108, 182, 0, 88, 172]
abbrev dktX10_say_2 : List UInt8 := dkwX10_say_2 ++ dktX10_say_3
def dkwX10_say_1 : List UInt8 := [18, 87, 182, 0, 88, 172, 3, 62, 3, 54, 4, 21, 4, 28, 162, 0, 54, 42, 180, 0, 9, 17, 1, 118]
abbrev dktX10_say_1 : List UInt8 := dkwX10_say_1 ++ dktX10_say_2
def dkwX10_say_0 : List UInt8 := [42, 180, 0, 9, 16, 7, 46, 61, 42, 180, 0, 9, 16, 7, 3, 79, 27, 184, 1, 28, 154, 0, 10, 42]
abbrev dktX10_say_0 : List UInt8 := dkwX10_say_0 ++ dktX10_say_1
theorem dksX10_say_0 : cX10_say.data.toList.drop 0 = dktX10_say_0 := by decide +kernel
theorem dksX10_say_1 : cX10_say.data.toList.drop 24 = dktX10_say_1 := dk_seg dksX10_say_0 24 rfl rfl
theorem dksX10_say_2 : cX10_say.data.toList.drop 48 = dktX10_say_2 := dk_seg dksX10_say_1 24 rfl rfl
theorem dksX10_say_3 : cX10_say.data.toList.drop 72 = dktX10_say_3 := dk_seg dksX10_say_2 24 rfl rfl
theorem dksX10_say_4 : cX10_say.data.toList.drop 95 = dktX10_say_4 := dk_seg dksX10_say_3 23 rfl rfl
theorem dksX10_say_5 : cX10_say.data.toList.drop 119 = dktX10_say_5 := dk_seg dksX10_say_4 24 rfl rfl
theorem dksX10_say_6 : cX10_say.data.toList.drop 143 = dktX10_say_6 := dk_seg dksX10_say_5 24 rfl rfl
theorem dksX10_say_7 : cX10_say.data.toList.drop 167 = dktX10_say_7 := dk_seg dksX10_say_6 24 rfl rfl
theorem dksX10_say_8 : cX10_say.data.toList.drop 191 = dktX10_say_8 := dk_seg dksX10_say_7 24 rfl rfl
theorem dksX10_say_9 : cX10_say.data.toList.drop 214 = dktX10_say_9 := dk_seg dksX10_say_8 23 rfl rfl
theorem dX10_say_0 : decode cX10_say 0 = .ok (.aload_n 0, 1) := dk_42 (dk_at dksX10_say_0 0 rfl rfl)
theorem dX10_say_1 : decode cX10_say 1 = .ok (.getfield 9, 3) := dk_180 0 9 (dk_at dksX10_say_0 1 rfl rfl)
theorem dX10_say_4 : decode cX10_say 4 = .ok (.bipush 7, 2) := dk_16 7 (dk_at dksX10_say_0 4 rfl rfl)
theorem dX10_say_6 : decode cX10_say 6 = .ok (.iaload, 1) := dk_46 (dk_at dksX10_say_0 6 rfl rfl)
theorem dX10_say_7 : decode cX10_say 7 = .ok (.istore_n 2, 1) := dk_61 (dk_at dksX10_say_0 7 rfl rfl)
theorem dX10_say_8 : decode cX10_say 8 = .ok (.aload_n 0, 1) := dk_42 (dk_at dksX10_say_0 8 rfl rfl)
theorem dX10_say_9 : decode cX10_say 9 = .ok (.getfield 9, 3) := dk_180 0 9 (dk_at dksX10_say_0 9 rfl rfl)
theorem dX10_say_12 : decode cX10_say 12 = .ok (.bipush 7, 2) := dk_16 7 (dk_at dksX10_say_0 12 rfl rfl)
theorem dX10_say_14 : decode cX10_say 14 = .ok (.iconst 0, 1) := dk_3 (dk_at dksX10_say_0 14 rfl rfl)
theorem dX10_say_15 : decode cX10_say 15 = .ok (.iastore, 1) := dk_79 (dk_at dksX10_say_0 15 rfl rfl)
theorem dX10_say_16 : decode cX10_say 16 = .ok (.iload_n 1, 1) := dk_27 (dk_at dksX10_say_0 16 rfl rfl)
theorem dX10_say_17 : decode cX10_say 17 = .ok (.invokestatic 284, 3) := dk_184 1 28 (dk_at dksX10_say_0 17 rfl rfl)
theorem dX10_say_20 : decode cX10_say 20 = .ok (.ifCond .ne 10, 3) := dk_154 0 10 (dk_at dksX10_say_0 20 rfl rfl)
theorem dX10_say_23 : decode cX10_say 23 = .ok (.aload_n 0, 1) := dk_42 (dk_at dksX10_say_0 23 rfl rfl)
theorem dX10_say_24 : decode cX10_say 24 = .ok (.ldc 87, 2) := dk_18 87 (dk_at dksX10_say_1 0 rfl rfl)
theorem dX10_say_26 : decode cX10_say 26 = .ok (.invokevirtual 88, 3) := dk_182 0 88 (dk_at dksX10_say_1 2 rfl rfl)
theorem dX10_say_29 : decode cX10_say 29 = .ok (.ireturn, 1) := dk_172 (dk_at dksX10_say_1 5 rfl rfl)
theorem dX10_say_30 : decode cX10_say 30 = .ok (.iconst 0, 1) := dk_3 (dk_at dksX10_say_1 6 rfl rfl)
theorem dX10_say_31 : decode cX10_say 31 = .ok (.istore_n 3, 1) := dk_62 (dk_at dksX10_say_1 7 rfl rfl)
theorem dX10_say_32 : decode cX10_say 32 = .ok (.iconst 0, 1) := dk_3 (dk_at dksX10_say_1 8 rfl rfl)
theorem dX10_say_33 : decode cX10_say 33 = .ok (.istore 4, 2) := dk_54 4 (dk_at dksX10_say_1 9 rfl rfl)
theorem dX10_say_35 : decode cX10_say 35 = .ok (.iload 4, 2) := dk_21 4 (dk_at dksX10_say_1 11 rfl rfl)
theorem dX10_say_37 : decode cX10_say 37 = .ok (.iload_n 2, 1) := dk_28 (dk_at dksX10_say_1 13 rfl rfl)
theorem dX10_say_38 : decode cX10_say 38 = .ok (.if_icmp .ge 54, 3) := dk_162 0 54 (dk_at dksX10_say_1 14 rfl rfl)
theorem dX10_say_41 : decode cX10_say 41 = .ok (.aload_n 0, 1) := dk_42 (dk_at dksX10_say_1 17 rfl rfl)
theorem dX10_say_42 : decode cX10_say 42 = .ok (.getfield 9, 3) := dk_180 0 9 (dk_at dksX10_say_1 18 rfl rfl)
theorem dX10_say_45 : decode cX10_say 45 = .ok (.sipush 374, 3) := dk_17 1 118 (dk_at dksX10_say_1 21 rfl rfl)
theorem dX10_say_48 : decode cX10_say 48 = .ok (.iload 4, 2) := dk_21 4 (dk_at dksX10_say_2 0 rfl rfl)
theorem dX10_say_50 : decode cX10_say 50 = .ok (.iadd, 1) := dk_96 (dk_at dksX10_say_2 2 rfl rfl)
theorem dX10_say_51 : decode cX10_say 51 = .ok (.iaload, 1) := dk_46 (dk_at dksX10_say_2 3 rfl rfl)
theorem dX10_say_52 : decode cX10_say 52 = .ok (.istore 5, 2) := dk_54 5 (dk_at dksX10_say_2 4 rfl rfl)
theorem dX10_say_54 : decode cX10_say 54 = .ok (.iload 5, 2) := dk_21 5 (dk_at dksX10_say_2 6 rfl rfl)
theorem dX10_say_56 : decode cX10_say 56 = .ok (.iconst 0, 1) := dk_3 (dk_at dksX10_say_2 8 rfl rfl)
theorem dX10_say_57 : decode cX10_say 57 = .ok (.bipush 24, 2) := dk_16 24 (dk_at dksX10_say_2 9 rfl rfl)
theorem dX10_say_59 : decode cX10_say 59 = .ok (.invokestatic 78, 3) := dk_184 0 78 (dk_at dksX10_say_2 11 rfl rfl)
theorem dX10_say_62 : decode cX10_say 62 = .ok (.ifCond .ne 10, 3) := dk_154 0 10 (dk_at dksX10_say_2 14 rfl rfl)
theorem dX10_say_65 : decode cX10_say 65 = .ok (.aload_n 0, 1) := dk_42 (dk_at dksX10_say_2 17 rfl rfl)
theorem dX10_say_66 : decode cX10_say 66 = .ok (.ldc 108, 2) := dk_18 108 (dk_at dksX10_say_2 18 rfl rfl)
theorem dX10_say_68 : decode cX10_say 68 = .ok (.invokevirtual 88, 3) := dk_182 0 88 (dk_at dksX10_say_2 20 rfl rfl)
theorem dX10_say_71 : decode cX10_say 71 = .ok (.ireturn, 1) := dk_172 (dk_at dksX10_say_2 23 rfl rfl)
theorem dX10_say_72 : decode cX10_say 72 = .ok (.iload_n 3, 1) := dk_29 (dk_at dksX10_say_3 0 rfl rfl)
theorem dX10_say_73 : decode cX10_say 73 = .ok (.iload 5, 2) := dk_21 5 (dk_at dksX10_say_3 1 rfl rfl)
theorem dX10_say_75 : decode cX10_say 75 = .ok (.iconst 5, 1) := dk_8 (dk_at dksX10_say_3 3 rfl rfl)
theorem dX10_say_76 : decode cX10_say 76 = .ok (.idiv, 1) := dk_108 (dk_at dksX10_say_3 4 rfl rfl)
theorem dX10_say_77 : decode cX10_say 77 = .ok (.iload 5, 2) := dk_21 5 (dk_at dksX10_say_3 5 rfl rfl)
theorem dX10_say_79 : decode cX10_say 79 = .ok (.iconst 5, 1) := dk_8 (dk_at dksX10_say_3 7 rfl rfl)
theorem dX10_say_80 : decode cX10_say 80 = .ok (.irem, 1) := dk_112 (dk_at dksX10_say_3 8 rfl rfl)
theorem dX10_say_81 : decode cX10_say 81 = .ok (.iadd, 1) := dk_96 (dk_at dksX10_say_3 9 rfl rfl)
theorem dX10_say_82 : decode cX10_say 82 = .ok (.iconst 4, 1) := dk_7 (dk_at dksX10_say_3 10 rfl rfl)
theorem dX10_say_83 : decode cX10_say 83 = .ok (.iadd, 1) := dk_96 (dk_at dksX10_say_3 11 rfl rfl)
theorem dX10_say_84 : decode cX10_say 84 = .ok (.iadd, 1) := dk_96 (dk_at dksX10_say_3 12 rfl rfl)
theorem dX10_say_85 : decode cX10_say 85 = .ok (.istore_n 3, 1) := dk_62 (dk_at dksX10_say_3 13 rfl rfl)
theorem dX10_say_86 : decode cX10_say 86 = .ok (.iinc 4 1, 3) := dk_132 4 1 (dk_at dksX10_say_3 14 rfl rfl)
theorem dX10_say_89 : decode cX10_say 89 = .ok (.goto (-54), 3) := dk_167 255 202 (dk_at dksX10_say_3 17 rfl rfl)
theorem dX10_say_92 : decode cX10_say 92 = .ok (.iload_n 3, 1) := dk_29 (dk_at dksX10_say_3 20 rfl rfl)
theorem dX10_say_93 : decode cX10_say 93 = .ok (.bipush 40, 2) := dk_16 40 (dk_at dksX10_say_3 21 rfl rfl)
theorem dX10_say_95 : decode cX10_say 95 = .ok (.if_icmp .le 10, 3) := dk_164 0 10 (dk_at dksX10_say_4 0 rfl rfl)
theorem dX10_say_98 : decode cX10_say 98 = .ok (.aload_n 0, 1) := dk_42 (dk_at dksX10_say_4 3 rfl rfl)
theorem dX10_say_99 : decode cX10_say 99 = .ok (.ldc 108, 2) := dk_18 108 (dk_at dksX10_say_4 4 rfl rfl)
theorem dX10_say_101 : decode cX10_say 101 = .ok (.invokevirtual 88, 3) := dk_182 0 88 (dk_at dksX10_say_4 6 rfl rfl)
theorem dX10_say_104 : decode cX10_say 104 = .ok (.ireturn, 1) := dk_172 (dk_at dksX10_say_4 9 rfl rfl)
theorem dX10_say_105 : decode cX10_say 105 = .ok (.aload_n 0, 1) := dk_42 (dk_at dksX10_say_4 10 rfl rfl)
theorem dX10_say_106 : decode cX10_say 106 = .ok (.getfield 65, 3) := dk_180 0 65 (dk_at dksX10_say_4 11 rfl rfl)
theorem dX10_say_109 : decode cX10_say 109 = .ok (.iload_n 1, 1) := dk_27 (dk_at dksX10_say_4 14 rfl rfl)
theorem dX10_say_110 : decode cX10_say 110 = .ok (.bipush 8, 2) := dk_16 8 (dk_at dksX10_say_4 15 rfl rfl)
theorem dX10_say_112 : decode cX10_say 112 = .ok (.iastore, 1) := dk_79 (dk_at dksX10_say_4 17 rfl rfl)
theorem dX10_say_113 : decode cX10_say 113 = .ok (.aload_n 0, 1) := dk_42 (dk_at dksX10_say_4 18 rfl rfl)
theorem dX10_say_114 : decode cX10_say 114 = .ok (.getfield 68, 3) := dk_180 0 68 (dk_at dksX10_say_4 19 rfl rfl)
theorem dX10_say_117 : decode cX10_say 117 = .ok (.iload_n 1, 1) := dk_27 (dk_at dksX10_say_4 22 rfl rfl)
theorem dX10_say_118 : decode cX10_say 118 = .ok (.iload_n 3, 1) := dk_29 (dk_at dksX10_say_4 23 rfl rfl)
theorem dX10_say_119 : decode cX10_say 119 = .ok (.iastore, 1) := dk_79 (dk_at dksX10_say_5 0 rfl rfl)
theorem dX10_say_120 : decode cX10_say 120 = .ok (.iconst 0, 1) := dk_3 (dk_at dksX10_say_5 1 rfl rfl)
theorem dX10_say_121 : decode cX10_say 121 = .ok (.istore 4, 2) := dk_54 4 (dk_at dksX10_say_5 2 rfl rfl)
theorem dX10_say_123 : decode cX10_say 123 = .ok (.iload 4, 2) := dk_21 4 (dk_at dksX10_say_5 4 rfl rfl)
theorem dX10_say_125 : decode cX10_say 125 = .ok (.bipush 40, 2) := dk_16 40 (dk_at dksX10_say_5 6 rfl rfl)
theorem dX10_say_127 : decode cX10_say 127 = .ok (.if_icmp .ge 22, 3) := dk_162 0 22 (dk_at dksX10_say_5 8 rfl rfl)
theorem dX10_say_130 : decode cX10_say 130 = .ok (.aload_n 0, 1) := dk_42 (dk_at dksX10_say_5 11 rfl rfl)
theorem dX10_say_131 : decode cX10_say 131 = .ok (.getfield 71, 3) := dk_180 0 71 (dk_at dksX10_say_5 12 rfl rfl)
theorem dX10_say_134 : decode cX10_say 134 = .ok (.bipush 40, 2) := dk_16 40 (dk_at dksX10_say_5 15 rfl rfl)
theorem dX10_say_136 : decode cX10_say 136 = .ok (.iload_n 1, 1) := dk_27 (dk_at dksX10_say_5 17 rfl rfl)
theorem dX10_say_137 : decode cX10_say 137 = .ok (.imul, 1) := dk_104 (dk_at dksX10_say_5 18 rfl rfl)
theorem dX10_say_138 : decode cX10_say 138 = .ok (.iload 4, 2) := dk_21 4 (dk_at dksX10_say_5 19 rfl rfl)
theorem dX10_say_140 : decode cX10_say 140 = .ok (.iadd, 1) := dk_96 (dk_at dksX10_say_5 21 rfl rfl)
theorem dX10_say_141 : decode cX10_say 141 = .ok (.iconst 0, 1) := dk_3 (dk_at dksX10_say_5 22 rfl rfl)
theorem dX10_say_142 : decode cX10_say 142 = .ok (.iastore, 1) := dk_79 (dk_at dksX10_say_5 23 rfl rfl)
theorem dX10_say_143 : decode cX10_say 143 = .ok (.iinc 4 1, 3) := dk_132 4 1 (dk_at dksX10_say_6 0 rfl rfl)
theorem dX10_say_146 : decode cX10_say 146 = .ok (.goto (-23), 3) := dk_167 255 233 (dk_at dksX10_say_6 3 rfl rfl)
theorem dX10_say_149 : decode cX10_say 149 = .ok (.bipush 40, 2) := dk_16 40 (dk_at dksX10_say_6 6 rfl rfl)
theorem dX10_say_151 : decode cX10_say 151 = .ok (.iload_n 1, 1) := dk_27 (dk_at dksX10_say_6 8 rfl rfl)
theorem dX10_say_152 : decode cX10_say 152 = .ok (.imul, 1) := dk_104 (dk_at dksX10_say_6 9 rfl rfl)
theorem dX10_say_153 : decode cX10_say 153 = .ok (.istore 4, 2) := dk_54 4 (dk_at dksX10_say_6 10 rfl rfl)
theorem dX10_say_155 : decode cX10_say 155 = .ok (.iconst 0, 1) := dk_3 (dk_at dksX10_say_6 12 rfl rfl)
theorem dX10_say_156 : decode cX10_say 156 = .ok (.istore 5, 2) := dk_54 5 (dk_at dksX10_say_6 13 rfl rfl)
theorem dX10_say_158 : decode cX10_say 158 = .ok (.iload 5, 2) := dk_21 5 (dk_at dksX10_say_6 15 rfl rfl)
theorem dX10_say_160 : decode cX10_say 160 = .ok (.iconst 2, 1) := dk_5 (dk_at dksX10_say_6 17 rfl rfl)
theorem dX10_say_161 : decode cX10_say 161 = .ok (.iload_n 2, 1) := dk_28 (dk_at dksX10_say_6 18 rfl rfl)
theorem dX10_say_162 : decode cX10_say 162 = .ok (.imul, 1) := dk_104 (dk_at dksX10_say_6 19 rfl rfl)
theorem dX10_say_163 : decode cX10_say 163 = .ok (.if_icmp .ge 69, 3) := dk_162 0 69 (dk_at dksX10_say_6 20 rfl rfl)
theorem dX10_say_166 : decode cX10_say 166 = .ok (.aload_n 0, 1) := dk_42 (dk_at dksX10_say_6 23 rfl rfl)
theorem dX10_say_167 : decode cX10_say 167 = .ok (.getfield 9, 3) := dk_180 0 9 (dk_at dksX10_say_7 0 rfl rfl)
theorem dX10_say_170 : decode cX10_say 170 = .ok (.sipush 374, 3) := dk_17 1 118 (dk_at dksX10_say_7 3 rfl rfl)
theorem dX10_say_173 : decode cX10_say 173 = .ok (.iload 5, 2) := dk_21 5 (dk_at dksX10_say_7 6 rfl rfl)
theorem dX10_say_175 : decode cX10_say 175 = .ok (.iconst 2, 1) := dk_5 (dk_at dksX10_say_7 8 rfl rfl)
theorem dX10_say_176 : decode cX10_say 176 = .ok (.idiv, 1) := dk_108 (dk_at dksX10_say_7 9 rfl rfl)
theorem dX10_say_177 : decode cX10_say 177 = .ok (.iadd, 1) := dk_96 (dk_at dksX10_say_7 10 rfl rfl)
theorem dX10_say_178 : decode cX10_say 178 = .ok (.iaload, 1) := dk_46 (dk_at dksX10_say_7 11 rfl rfl)
theorem dX10_say_179 : decode cX10_say 179 = .ok (.istore 6, 2) := dk_54 6 (dk_at dksX10_say_7 12 rfl rfl)
theorem dX10_say_181 : decode cX10_say 181 = .ok (.iload 5, 2) := dk_21 5 (dk_at dksX10_say_7 14 rfl rfl)
theorem dX10_say_183 : decode cX10_say 183 = .ok (.iconst 2, 1) := dk_5 (dk_at dksX10_say_7 16 rfl rfl)
theorem dX10_say_184 : decode cX10_say 184 = .ok (.irem, 1) := dk_112 (dk_at dksX10_say_7 17 rfl rfl)
theorem dX10_say_185 : decode cX10_say 185 = .ok (.ifCond .ne 10, 3) := dk_154 0 10 (dk_at dksX10_say_7 18 rfl rfl)
theorem dX10_say_188 : decode cX10_say 188 = .ok (.iload 6, 2) := dk_21 6 (dk_at dksX10_say_7 21 rfl rfl)
theorem dX10_say_190 : decode cX10_say 190 = .ok (.iconst 5, 1) := dk_8 (dk_at dksX10_say_7 23 rfl rfl)
theorem dX10_say_191 : decode cX10_say 191 = .ok (.idiv, 1) := dk_108 (dk_at dksX10_say_8 0 rfl rfl)
theorem dX10_say_192 : decode cX10_say 192 = .ok (.goto 7, 3) := dk_167 0 7 (dk_at dksX10_say_8 1 rfl rfl)
theorem dX10_say_195 : decode cX10_say 195 = .ok (.iload 6, 2) := dk_21 6 (dk_at dksX10_say_8 4 rfl rfl)
theorem dX10_say_197 : decode cX10_say 197 = .ok (.iconst 5, 1) := dk_8 (dk_at dksX10_say_8 6 rfl rfl)
theorem dX10_say_198 : decode cX10_say 198 = .ok (.irem, 1) := dk_112 (dk_at dksX10_say_8 7 rfl rfl)
theorem dX10_say_199 : decode cX10_say 199 = .ok (.istore 7, 2) := dk_54 7 (dk_at dksX10_say_8 8 rfl rfl)
theorem dX10_say_201 : decode cX10_say 201 = .ok (.iload 7, 2) := dk_21 7 (dk_at dksX10_say_8 10 rfl rfl)
theorem dX10_say_203 : decode cX10_say 203 = .ok (.ifCond .lt 20, 3) := dk_155 0 20 (dk_at dksX10_say_8 12 rfl rfl)
theorem dX10_say_206 : decode cX10_say 206 = .ok (.aload_n 0, 1) := dk_42 (dk_at dksX10_say_8 15 rfl rfl)
theorem dX10_say_207 : decode cX10_say 207 = .ok (.getfield 71, 3) := dk_180 0 71 (dk_at dksX10_say_8 16 rfl rfl)
theorem dX10_say_210 : decode cX10_say 210 = .ok (.iload 4, 2) := dk_21 4 (dk_at dksX10_say_8 19 rfl rfl)
theorem dX10_say_212 : decode cX10_say 212 = .ok (.iconst 1, 1) := dk_4 (dk_at dksX10_say_8 21 rfl rfl)
theorem dX10_say_213 : decode cX10_say 213 = .ok (.iastore, 1) := dk_79 (dk_at dksX10_say_8 22 rfl rfl)
theorem dX10_say_214 : decode cX10_say 214 = .ok (.iinc 4 1, 3) := dk_132 4 1 (dk_at dksX10_say_9 0 rfl rfl)
theorem dX10_say_217 : decode cX10_say 217 = .ok (.iinc 7 (-1), 3) := dk_132 7 255 (dk_at dksX10_say_9 3 rfl rfl)
theorem dX10_say_220 : decode cX10_say 220 = .ok (.goto (-19), 3) := dk_167 255 237 (dk_at dksX10_say_9 6 rfl rfl)
theorem dX10_say_223 : decode cX10_say 223 = .ok (.iinc 4 1, 3) := dk_132 4 1 (dk_at dksX10_say_9 9 rfl rfl)
theorem dX10_say_226 : decode cX10_say 226 = .ok (.iinc 5 1, 3) := dk_132 5 1 (dk_at dksX10_say_9 12 rfl rfl)
theorem dX10_say_229 : decode cX10_say 229 = .ok (.goto (-71), 3) := dk_167 255 185 (dk_at dksX10_say_9 15 rfl rfl)
theorem dX10_say_232 : decode cX10_say 232 = .ok (.iload_n 3, 1) := dk_29 (dk_at dksX10_say_9 18 rfl rfl)
theorem dX10_say_233 : decode cX10_say 233 = .ok (.ireturn, 1) := dk_172 (dk_at dksX10_say_9 19 rfl rfl)
abbrev cX10_isSheet : ByteArray := prog_37_method_104_code
def yX10_isSheet : MethodName := ⟨RX10, "isSheet", "(I)Z"⟩
def dkwX10_isSheet_0 : List UInt8 := [26, 3, 6, 184, 0, 78, 172]
abbrev dktX10_isSheet_0 : List UInt8 := dkwX10_isSheet_0 ++ []
theorem dksX10_isSheet_0 : cX10_isSheet.data.toList.drop 0 = dktX10_isSheet_0 := by decide +kernel
theorem dX10_isSheet_0 : decode cX10_isSheet 0 = .ok (.iload_n 0, 1) := dk_26 (dk_at dksX10_isSheet_0 0 rfl rfl)
theorem dX10_isSheet_1 : decode cX10_isSheet 1 = .ok (.iconst 0, 1) := dk_3 (dk_at dksX10_isSheet_0 1 rfl rfl)
theorem dX10_isSheet_2 : decode cX10_isSheet 2 = .ok (.iconst 3, 1) := dk_6 (dk_at dksX10_isSheet_0 2 rfl rfl)
theorem dX10_isSheet_3 : decode cX10_isSheet 3 = .ok (.invokestatic 78, 3) := dk_184 0 78 (dk_at dksX10_isSheet_0 3 rfl rfl)
theorem dX10_isSheet_6 : decode cX10_isSheet 6 = .ok (.ireturn, 1) := dk_172 (dk_at dksX10_isSheet_0 6 rfl rfl)
abbrev cX10_read : ByteArray := prog_37_method_82_code
def yX10_read : MethodName := ⟨RX10, "read", "(II)I"⟩
def dkwX10_read_4 : List UInt8 := [167, 0, 4, 29, 172]
abbrev dktX10_read_4 : List UInt8 := dkwX10_read_4 ++ []
def dkwX10_read_3 : List UInt8 := [162, 0, 12, 42, 180, 0, 51, 28, 46, 167, 0, 4, 2, 62, 29, 156, 0, 12, 42, 18, 139, 182, 0, 88]
abbrev dktX10_read_3 : List UInt8 := dkwX10_read_3 ++ dktX10_read_4
def dkwX10_read_2 : List UInt8 := [180, 1, 31, 172, 28, 16, 254, 160, 0, 10, 42, 180, 1, 34, 167, 0, 21, 28, 42, 180, 1, 31]
abbrev dktX10_read_2 : List UInt8 := dkwX10_read_2 ++ dktX10_read_3
def dkwX10_read_1 : List UInt8 := [27, 46, 154, 0, 10, 42, 18, 139, 182, 0, 88, 172, 42, 27, 182, 1, 37, 28, 2, 160, 0, 8, 42]
abbrev dktX10_read_1 : List UInt8 := dkwX10_read_1 ++ dktX10_read_2
def dkwX10_read_0 : List UInt8 := [27, 184, 1, 28, 153, 0, 9, 28, 16, 254, 162, 0, 10, 42, 18, 87, 182, 0, 88, 172, 42, 180, 0, 65]
abbrev dktX10_read_0 : List UInt8 := dkwX10_read_0 ++ dktX10_read_1
theorem dksX10_read_0 : cX10_read.data.toList.drop 0 = dktX10_read_0 := by decide +kernel
theorem dksX10_read_1 : cX10_read.data.toList.drop 24 = dktX10_read_1 := dk_seg dksX10_read_0 24 rfl rfl
theorem dksX10_read_2 : cX10_read.data.toList.drop 47 = dktX10_read_2 := dk_seg dksX10_read_1 23 rfl rfl
theorem dksX10_read_3 : cX10_read.data.toList.drop 69 = dktX10_read_3 := dk_seg dksX10_read_2 22 rfl rfl
theorem dksX10_read_4 : cX10_read.data.toList.drop 93 = dktX10_read_4 := dk_seg dksX10_read_3 24 rfl rfl
theorem dX10_read_0 : decode cX10_read 0 = .ok (.iload_n 1, 1) := dk_27 (dk_at dksX10_read_0 0 rfl rfl)
theorem dX10_read_1 : decode cX10_read 1 = .ok (.invokestatic 284, 3) := dk_184 1 28 (dk_at dksX10_read_0 1 rfl rfl)
theorem dX10_read_4 : decode cX10_read 4 = .ok (.ifCond .eq 9, 3) := dk_153 0 9 (dk_at dksX10_read_0 4 rfl rfl)
theorem dX10_read_7 : decode cX10_read 7 = .ok (.iload_n 2, 1) := dk_28 (dk_at dksX10_read_0 7 rfl rfl)
theorem dX10_read_8 : decode cX10_read 8 = .ok (.bipush (-2), 2) := dk_16 254 (dk_at dksX10_read_0 8 rfl rfl)
theorem dX10_read_10 : decode cX10_read 10 = .ok (.if_icmp .ge 10, 3) := dk_162 0 10 (dk_at dksX10_read_0 10 rfl rfl)
theorem dX10_read_13 : decode cX10_read 13 = .ok (.aload_n 0, 1) := dk_42 (dk_at dksX10_read_0 13 rfl rfl)
theorem dX10_read_14 : decode cX10_read 14 = .ok (.ldc 87, 2) := dk_18 87 (dk_at dksX10_read_0 14 rfl rfl)
theorem dX10_read_16 : decode cX10_read 16 = .ok (.invokevirtual 88, 3) := dk_182 0 88 (dk_at dksX10_read_0 16 rfl rfl)
theorem dX10_read_19 : decode cX10_read 19 = .ok (.ireturn, 1) := dk_172 (dk_at dksX10_read_0 19 rfl rfl)
theorem dX10_read_20 : decode cX10_read 20 = .ok (.aload_n 0, 1) := dk_42 (dk_at dksX10_read_0 20 rfl rfl)
theorem dX10_read_21 : decode cX10_read 21 = .ok (.getfield 65, 3) := dk_180 0 65 (dk_at dksX10_read_0 21 rfl rfl)
theorem dX10_read_24 : decode cX10_read 24 = .ok (.iload_n 1, 1) := dk_27 (dk_at dksX10_read_1 0 rfl rfl)
theorem dX10_read_25 : decode cX10_read 25 = .ok (.iaload, 1) := dk_46 (dk_at dksX10_read_1 1 rfl rfl)
theorem dX10_read_26 : decode cX10_read 26 = .ok (.ifCond .ne 10, 3) := dk_154 0 10 (dk_at dksX10_read_1 2 rfl rfl)
theorem dX10_read_29 : decode cX10_read 29 = .ok (.aload_n 0, 1) := dk_42 (dk_at dksX10_read_1 5 rfl rfl)
theorem dX10_read_30 : decode cX10_read 30 = .ok (.ldc 139, 2) := dk_18 139 (dk_at dksX10_read_1 6 rfl rfl)
theorem dX10_read_32 : decode cX10_read 32 = .ok (.invokevirtual 88, 3) := dk_182 0 88 (dk_at dksX10_read_1 8 rfl rfl)
theorem dX10_read_35 : decode cX10_read 35 = .ok (.ireturn, 1) := dk_172 (dk_at dksX10_read_1 11 rfl rfl)
theorem dX10_read_36 : decode cX10_read 36 = .ok (.aload_n 0, 1) := dk_42 (dk_at dksX10_read_1 12 rfl rfl)
theorem dX10_read_37 : decode cX10_read 37 = .ok (.iload_n 1, 1) := dk_27 (dk_at dksX10_read_1 13 rfl rfl)
theorem dX10_read_38 : decode cX10_read 38 = .ok (.invokevirtual 293, 3) := dk_182 1 37 (dk_at dksX10_read_1 14 rfl rfl)
theorem dX10_read_41 : decode cX10_read 41 = .ok (.iload_n 2, 1) := dk_28 (dk_at dksX10_read_1 17 rfl rfl)
theorem dX10_read_42 : decode cX10_read 42 = .ok (.iconst (-1), 1) := dk_2 (dk_at dksX10_read_1 18 rfl rfl)
theorem dX10_read_43 : decode cX10_read 43 = .ok (.if_icmp .ne 8, 3) := dk_160 0 8 (dk_at dksX10_read_1 19 rfl rfl)
theorem dX10_read_46 : decode cX10_read 46 = .ok (.aload_n 0, 1) := dk_42 (dk_at dksX10_read_1 22 rfl rfl)
theorem dX10_read_47 : decode cX10_read 47 = .ok (.getfield 287, 3) := dk_180 1 31 (dk_at dksX10_read_2 0 rfl rfl)
theorem dX10_read_50 : decode cX10_read 50 = .ok (.ireturn, 1) := dk_172 (dk_at dksX10_read_2 3 rfl rfl)
theorem dX10_read_51 : decode cX10_read 51 = .ok (.iload_n 2, 1) := dk_28 (dk_at dksX10_read_2 4 rfl rfl)
theorem dX10_read_52 : decode cX10_read 52 = .ok (.bipush (-2), 2) := dk_16 254 (dk_at dksX10_read_2 5 rfl rfl)
theorem dX10_read_54 : decode cX10_read 54 = .ok (.if_icmp .ne 10, 3) := dk_160 0 10 (dk_at dksX10_read_2 7 rfl rfl)
theorem dX10_read_57 : decode cX10_read 57 = .ok (.aload_n 0, 1) := dk_42 (dk_at dksX10_read_2 10 rfl rfl)
theorem dX10_read_58 : decode cX10_read 58 = .ok (.getfield 290, 3) := dk_180 1 34 (dk_at dksX10_read_2 11 rfl rfl)
theorem dX10_read_61 : decode cX10_read 61 = .ok (.goto 21, 3) := dk_167 0 21 (dk_at dksX10_read_2 14 rfl rfl)
theorem dX10_read_64 : decode cX10_read 64 = .ok (.iload_n 2, 1) := dk_28 (dk_at dksX10_read_2 17 rfl rfl)
theorem dX10_read_65 : decode cX10_read 65 = .ok (.aload_n 0, 1) := dk_42 (dk_at dksX10_read_2 18 rfl rfl)
theorem dX10_read_66 : decode cX10_read 66 = .ok (.getfield 287, 3) := dk_180 1 31 (dk_at dksX10_read_2 19 rfl rfl)
theorem dX10_read_69 : decode cX10_read 69 = .ok (.if_icmp .ge 12, 3) := dk_162 0 12 (dk_at dksX10_read_3 0 rfl rfl)
theorem dX10_read_72 : decode cX10_read 72 = .ok (.aload_n 0, 1) := dk_42 (dk_at dksX10_read_3 3 rfl rfl)
theorem dX10_read_73 : decode cX10_read 73 = .ok (.getfield 51, 3) := dk_180 0 51 (dk_at dksX10_read_3 4 rfl rfl)
theorem dX10_read_76 : decode cX10_read 76 = .ok (.iload_n 2, 1) := dk_28 (dk_at dksX10_read_3 7 rfl rfl)
theorem dX10_read_77 : decode cX10_read 77 = .ok (.iaload, 1) := dk_46 (dk_at dksX10_read_3 8 rfl rfl)
theorem dX10_read_78 : decode cX10_read 78 = .ok (.goto 4, 3) := dk_167 0 4 (dk_at dksX10_read_3 9 rfl rfl)
theorem dX10_read_81 : decode cX10_read 81 = .ok (.iconst (-1), 1) := dk_2 (dk_at dksX10_read_3 12 rfl rfl)
theorem dX10_read_82 : decode cX10_read 82 = .ok (.istore_n 3, 1) := dk_62 (dk_at dksX10_read_3 13 rfl rfl)
theorem dX10_read_83 : decode cX10_read 83 = .ok (.iload_n 3, 1) := dk_29 (dk_at dksX10_read_3 14 rfl rfl)
theorem dX10_read_84 : decode cX10_read 84 = .ok (.ifCond .ge 12, 3) := dk_156 0 12 (dk_at dksX10_read_3 15 rfl rfl)
theorem dX10_read_87 : decode cX10_read 87 = .ok (.aload_n 0, 1) := dk_42 (dk_at dksX10_read_3 18 rfl rfl)
theorem dX10_read_88 : decode cX10_read 88 = .ok (.ldc 139, 2) := dk_18 139 (dk_at dksX10_read_3 19 rfl rfl)
theorem dX10_read_90 : decode cX10_read 90 = .ok (.invokevirtual 88, 3) := dk_182 0 88 (dk_at dksX10_read_3 21 rfl rfl)
theorem dX10_read_93 : decode cX10_read 93 = .ok (.goto 4, 3) := dk_167 0 4 (dk_at dksX10_read_4 0 rfl rfl)
theorem dX10_read_96 : decode cX10_read 96 = .ok (.iload_n 3, 1) := dk_29 (dk_at dksX10_read_4 3 rfl rfl)
theorem dX10_read_97 : decode cX10_read 97 = .ok (.ireturn, 1) := dk_172 (dk_at dksX10_read_4 4 rfl rfl)
abbrev cX10_findLetters : ByteArray := prog_37_method_81_code
def yX10_findLetters : MethodName := ⟨RX10, "findLetters", "(I)V"⟩
def dkwX10_findLetters_6 : List UInt8 := [158, 0, 12, 42, 180, 0, 68, 27, 46, 167, 0, 7, 42, 180, 1, 34, 181, 1, 34, 177]
abbrev dktX10_findLetters_6 : List UInt8 := dkwX10_findLetters_6 ++ []
def dkwX10_findLetters_5 : List UInt8 := [181, 1, 31, 3, 62, 3, 61, 132, 4, 1, 167, 255, 144, 42, 42, 180, 1, 34, 156, 0, 18, 29, 28, 96]
abbrev dktX10_findLetters_5 : List UInt8 := dkwX10_findLetters_5 ++ dktX10_findLetters_6
def dkwX10_findLetters_4 : List UInt8 := [42, 180, 0, 51, 42, 180, 1, 31, 8, 29, 104, 28, 96, 16, 6, 100, 79, 42, 89, 180, 1, 31, 4, 96]
abbrev dktX10_findLetters_4 : List UInt8 := dkwX10_findLetters_4 ++ dktX10_findLetters_5
def dkwX10_findLetters_3 : List UInt8 := [28, 154, 0, 12, 42, 21, 4, 181, 1, 34, 167, 0, 45, 29, 154, 0, 10, 28, 62, 3, 61, 167, 0, 34]
abbrev dktX10_findLetters_3 : List UInt8 := dkwX10_findLetters_3 ++ dktX10_findLetters_4
def dkwX10_findLetters_2 : List UInt8 := [54, 5, 21, 5, 4, 160, 0, 14, 28, 8, 162, 0, 9, 132, 2, 1, 167, 0, 63, 21, 5, 154, 0, 7]
abbrev dktX10_findLetters_2 : List UInt8 := dkwX10_findLetters_2 ++ dktX10_findLetters_3
def dkwX10_findLetters_1 : List UInt8 := [46, 162, 0, 107, 42, 180, 1, 34, 156, 0, 100, 42, 180, 0, 71, 16, 40, 27, 104, 21, 4, 96, 46]
abbrev dktX10_findLetters_1 : List UInt8 := dkwX10_findLetters_1 ++ dktX10_findLetters_2
def dkwX10_findLetters_0 : List UInt8 := [42, 3, 181, 1, 31, 42, 2, 181, 1, 34, 3, 61, 3, 62, 3, 54, 4, 21, 4, 42, 180, 0, 68, 27]
abbrev dktX10_findLetters_0 : List UInt8 := dkwX10_findLetters_0 ++ dktX10_findLetters_1
theorem dksX10_findLetters_0 : cX10_findLetters.data.toList.drop 0 = dktX10_findLetters_0 := by decide +kernel
theorem dksX10_findLetters_1 : cX10_findLetters.data.toList.drop 24 = dktX10_findLetters_1 := dk_seg dksX10_findLetters_0 24 rfl rfl
theorem dksX10_findLetters_2 : cX10_findLetters.data.toList.drop 47 = dktX10_findLetters_2 := dk_seg dksX10_findLetters_1 23 rfl rfl
theorem dksX10_findLetters_3 : cX10_findLetters.data.toList.drop 71 = dktX10_findLetters_3 := dk_seg dksX10_findLetters_2 24 rfl rfl
theorem dksX10_findLetters_4 : cX10_findLetters.data.toList.drop 95 = dktX10_findLetters_4 := dk_seg dksX10_findLetters_3 24 rfl rfl
theorem dksX10_findLetters_5 : cX10_findLetters.data.toList.drop 119 = dktX10_findLetters_5 := dk_seg dksX10_findLetters_4 24 rfl rfl
theorem dksX10_findLetters_6 : cX10_findLetters.data.toList.drop 143 = dktX10_findLetters_6 := dk_seg dksX10_findLetters_5 24 rfl rfl
theorem dX10_findLetters_0 : decode cX10_findLetters 0 = .ok (.aload_n 0, 1) := dk_42 (dk_at dksX10_findLetters_0 0 rfl rfl)
theorem dX10_findLetters_1 : decode cX10_findLetters 1 = .ok (.iconst 0, 1) := dk_3 (dk_at dksX10_findLetters_0 1 rfl rfl)
theorem dX10_findLetters_2 : decode cX10_findLetters 2 = .ok (.putfield 287, 3) := dk_181 1 31 (dk_at dksX10_findLetters_0 2 rfl rfl)
theorem dX10_findLetters_5 : decode cX10_findLetters 5 = .ok (.aload_n 0, 1) := dk_42 (dk_at dksX10_findLetters_0 5 rfl rfl)
theorem dX10_findLetters_6 : decode cX10_findLetters 6 = .ok (.iconst (-1), 1) := dk_2 (dk_at dksX10_findLetters_0 6 rfl rfl)
theorem dX10_findLetters_7 : decode cX10_findLetters 7 = .ok (.putfield 290, 3) := dk_181 1 34 (dk_at dksX10_findLetters_0 7 rfl rfl)
theorem dX10_findLetters_10 : decode cX10_findLetters 10 = .ok (.iconst 0, 1) := dk_3 (dk_at dksX10_findLetters_0 10 rfl rfl)
theorem dX10_findLetters_11 : decode cX10_findLetters 11 = .ok (.istore_n 2, 1) := dk_61 (dk_at dksX10_findLetters_0 11 rfl rfl)
theorem dX10_findLetters_12 : decode cX10_findLetters 12 = .ok (.iconst 0, 1) := dk_3 (dk_at dksX10_findLetters_0 12 rfl rfl)
theorem dX10_findLetters_13 : decode cX10_findLetters 13 = .ok (.istore_n 3, 1) := dk_62 (dk_at dksX10_findLetters_0 13 rfl rfl)
theorem dX10_findLetters_14 : decode cX10_findLetters 14 = .ok (.iconst 0, 1) := dk_3 (dk_at dksX10_findLetters_0 14 rfl rfl)
theorem dX10_findLetters_15 : decode cX10_findLetters 15 = .ok (.istore 4, 2) := dk_54 4 (dk_at dksX10_findLetters_0 15 rfl rfl)
theorem dX10_findLetters_17 : decode cX10_findLetters 17 = .ok (.iload 4, 2) := dk_21 4 (dk_at dksX10_findLetters_0 17 rfl rfl)
theorem dX10_findLetters_19 : decode cX10_findLetters 19 = .ok (.aload_n 0, 1) := dk_42 (dk_at dksX10_findLetters_0 19 rfl rfl)
theorem dX10_findLetters_20 : decode cX10_findLetters 20 = .ok (.getfield 68, 3) := dk_180 0 68 (dk_at dksX10_findLetters_0 20 rfl rfl)
theorem dX10_findLetters_23 : decode cX10_findLetters 23 = .ok (.iload_n 1, 1) := dk_27 (dk_at dksX10_findLetters_0 23 rfl rfl)
theorem dX10_findLetters_24 : decode cX10_findLetters 24 = .ok (.iaload, 1) := dk_46 (dk_at dksX10_findLetters_1 0 rfl rfl)
theorem dX10_findLetters_25 : decode cX10_findLetters 25 = .ok (.if_icmp .ge 107, 3) := dk_162 0 107 (dk_at dksX10_findLetters_1 1 rfl rfl)
theorem dX10_findLetters_28 : decode cX10_findLetters 28 = .ok (.aload_n 0, 1) := dk_42 (dk_at dksX10_findLetters_1 4 rfl rfl)
theorem dX10_findLetters_29 : decode cX10_findLetters 29 = .ok (.getfield 290, 3) := dk_180 1 34 (dk_at dksX10_findLetters_1 5 rfl rfl)
theorem dX10_findLetters_32 : decode cX10_findLetters 32 = .ok (.ifCond .ge 100, 3) := dk_156 0 100 (dk_at dksX10_findLetters_1 8 rfl rfl)
theorem dX10_findLetters_35 : decode cX10_findLetters 35 = .ok (.aload_n 0, 1) := dk_42 (dk_at dksX10_findLetters_1 11 rfl rfl)
theorem dX10_findLetters_36 : decode cX10_findLetters 36 = .ok (.getfield 71, 3) := dk_180 0 71 (dk_at dksX10_findLetters_1 12 rfl rfl)
theorem dX10_findLetters_39 : decode cX10_findLetters 39 = .ok (.bipush 40, 2) := dk_16 40 (dk_at dksX10_findLetters_1 15 rfl rfl)
theorem dX10_findLetters_41 : decode cX10_findLetters 41 = .ok (.iload_n 1, 1) := dk_27 (dk_at dksX10_findLetters_1 17 rfl rfl)
theorem dX10_findLetters_42 : decode cX10_findLetters 42 = .ok (.imul, 1) := dk_104 (dk_at dksX10_findLetters_1 18 rfl rfl)
theorem dX10_findLetters_43 : decode cX10_findLetters 43 = .ok (.iload 4, 2) := dk_21 4 (dk_at dksX10_findLetters_1 19 rfl rfl)
theorem dX10_findLetters_45 : decode cX10_findLetters 45 = .ok (.iadd, 1) := dk_96 (dk_at dksX10_findLetters_1 21 rfl rfl)
theorem dX10_findLetters_46 : decode cX10_findLetters 46 = .ok (.iaload, 1) := dk_46 (dk_at dksX10_findLetters_1 22 rfl rfl)
theorem dX10_findLetters_47 : decode cX10_findLetters 47 = .ok (.istore 5, 2) := dk_54 5 (dk_at dksX10_findLetters_2 0 rfl rfl)
theorem dX10_findLetters_49 : decode cX10_findLetters 49 = .ok (.iload 5, 2) := dk_21 5 (dk_at dksX10_findLetters_2 2 rfl rfl)
theorem dX10_findLetters_51 : decode cX10_findLetters 51 = .ok (.iconst 1, 1) := dk_4 (dk_at dksX10_findLetters_2 4 rfl rfl)
theorem dX10_findLetters_52 : decode cX10_findLetters 52 = .ok (.if_icmp .ne 14, 3) := dk_160 0 14 (dk_at dksX10_findLetters_2 5 rfl rfl)
theorem dX10_findLetters_55 : decode cX10_findLetters 55 = .ok (.iload_n 2, 1) := dk_28 (dk_at dksX10_findLetters_2 8 rfl rfl)
theorem dX10_findLetters_56 : decode cX10_findLetters 56 = .ok (.iconst 5, 1) := dk_8 (dk_at dksX10_findLetters_2 9 rfl rfl)
theorem dX10_findLetters_57 : decode cX10_findLetters 57 = .ok (.if_icmp .ge 9, 3) := dk_162 0 9 (dk_at dksX10_findLetters_2 10 rfl rfl)
theorem dX10_findLetters_60 : decode cX10_findLetters 60 = .ok (.iinc 2 1, 3) := dk_132 2 1 (dk_at dksX10_findLetters_2 13 rfl rfl)
theorem dX10_findLetters_63 : decode cX10_findLetters 63 = .ok (.goto 63, 3) := dk_167 0 63 (dk_at dksX10_findLetters_2 16 rfl rfl)
theorem dX10_findLetters_66 : decode cX10_findLetters 66 = .ok (.iload 5, 2) := dk_21 5 (dk_at dksX10_findLetters_2 19 rfl rfl)
theorem dX10_findLetters_68 : decode cX10_findLetters 68 = .ok (.ifCond .ne 7, 3) := dk_154 0 7 (dk_at dksX10_findLetters_2 21 rfl rfl)
theorem dX10_findLetters_71 : decode cX10_findLetters 71 = .ok (.iload_n 2, 1) := dk_28 (dk_at dksX10_findLetters_3 0 rfl rfl)
theorem dX10_findLetters_72 : decode cX10_findLetters 72 = .ok (.ifCond .ne 12, 3) := dk_154 0 12 (dk_at dksX10_findLetters_3 1 rfl rfl)
theorem dX10_findLetters_75 : decode cX10_findLetters 75 = .ok (.aload_n 0, 1) := dk_42 (dk_at dksX10_findLetters_3 4 rfl rfl)
theorem dX10_findLetters_76 : decode cX10_findLetters 76 = .ok (.iload 4, 2) := dk_21 4 (dk_at dksX10_findLetters_3 5 rfl rfl)
theorem dX10_findLetters_78 : decode cX10_findLetters 78 = .ok (.putfield 290, 3) := dk_181 1 34 (dk_at dksX10_findLetters_3 7 rfl rfl)
theorem dX10_findLetters_81 : decode cX10_findLetters 81 = .ok (.goto 45, 3) := dk_167 0 45 (dk_at dksX10_findLetters_3 10 rfl rfl)
theorem dX10_findLetters_84 : decode cX10_findLetters 84 = .ok (.iload_n 3, 1) := dk_29 (dk_at dksX10_findLetters_3 13 rfl rfl)
theorem dX10_findLetters_85 : decode cX10_findLetters 85 = .ok (.ifCond .ne 10, 3) := dk_154 0 10 (dk_at dksX10_findLetters_3 14 rfl rfl)
theorem dX10_findLetters_88 : decode cX10_findLetters 88 = .ok (.iload_n 2, 1) := dk_28 (dk_at dksX10_findLetters_3 17 rfl rfl)
theorem dX10_findLetters_89 : decode cX10_findLetters 89 = .ok (.istore_n 3, 1) := dk_62 (dk_at dksX10_findLetters_3 18 rfl rfl)
theorem dX10_findLetters_90 : decode cX10_findLetters 90 = .ok (.iconst 0, 1) := dk_3 (dk_at dksX10_findLetters_3 19 rfl rfl)
theorem dX10_findLetters_91 : decode cX10_findLetters 91 = .ok (.istore_n 2, 1) := dk_61 (dk_at dksX10_findLetters_3 20 rfl rfl)
theorem dX10_findLetters_92 : decode cX10_findLetters 92 = .ok (.goto 34, 3) := dk_167 0 34 (dk_at dksX10_findLetters_3 21 rfl rfl)
theorem dX10_findLetters_95 : decode cX10_findLetters 95 = .ok (.aload_n 0, 1) := dk_42 (dk_at dksX10_findLetters_4 0 rfl rfl)
theorem dX10_findLetters_96 : decode cX10_findLetters 96 = .ok (.getfield 51, 3) := dk_180 0 51 (dk_at dksX10_findLetters_4 1 rfl rfl)
theorem dX10_findLetters_99 : decode cX10_findLetters 99 = .ok (.aload_n 0, 1) := dk_42 (dk_at dksX10_findLetters_4 4 rfl rfl)
theorem dX10_findLetters_100 : decode cX10_findLetters 100 = .ok (.getfield 287, 3) := dk_180 1 31 (dk_at dksX10_findLetters_4 5 rfl rfl)
theorem dX10_findLetters_103 : decode cX10_findLetters 103 = .ok (.iconst 5, 1) := dk_8 (dk_at dksX10_findLetters_4 8 rfl rfl)
theorem dX10_findLetters_104 : decode cX10_findLetters 104 = .ok (.iload_n 3, 1) := dk_29 (dk_at dksX10_findLetters_4 9 rfl rfl)
theorem dX10_findLetters_105 : decode cX10_findLetters 105 = .ok (.imul, 1) := dk_104 (dk_at dksX10_findLetters_4 10 rfl rfl)
theorem dX10_findLetters_106 : decode cX10_findLetters 106 = .ok (.iload_n 2, 1) := dk_28 (dk_at dksX10_findLetters_4 11 rfl rfl)
theorem dX10_findLetters_107 : decode cX10_findLetters 107 = .ok (.iadd, 1) := dk_96 (dk_at dksX10_findLetters_4 12 rfl rfl)
theorem dX10_findLetters_108 : decode cX10_findLetters 108 = .ok (.bipush 6, 2) := dk_16 6 (dk_at dksX10_findLetters_4 13 rfl rfl)
theorem dX10_findLetters_110 : decode cX10_findLetters 110 = .ok (.isub, 1) := dk_100 (dk_at dksX10_findLetters_4 15 rfl rfl)
theorem dX10_findLetters_111 : decode cX10_findLetters 111 = .ok (.iastore, 1) := dk_79 (dk_at dksX10_findLetters_4 16 rfl rfl)
theorem dX10_findLetters_112 : decode cX10_findLetters 112 = .ok (.aload_n 0, 1) := dk_42 (dk_at dksX10_findLetters_4 17 rfl rfl)
theorem dX10_findLetters_113 : decode cX10_findLetters 113 = .ok (.dup, 1) := dk_89 (dk_at dksX10_findLetters_4 18 rfl rfl)
theorem dX10_findLetters_114 : decode cX10_findLetters 114 = .ok (.getfield 287, 3) := dk_180 1 31 (dk_at dksX10_findLetters_4 19 rfl rfl)
theorem dX10_findLetters_117 : decode cX10_findLetters 117 = .ok (.iconst 1, 1) := dk_4 (dk_at dksX10_findLetters_4 22 rfl rfl)
theorem dX10_findLetters_118 : decode cX10_findLetters 118 = .ok (.iadd, 1) := dk_96 (dk_at dksX10_findLetters_4 23 rfl rfl)
theorem dX10_findLetters_119 : decode cX10_findLetters 119 = .ok (.putfield 287, 3) := dk_181 1 31 (dk_at dksX10_findLetters_5 0 rfl rfl)
theorem dX10_findLetters_122 : decode cX10_findLetters 122 = .ok (.iconst 0, 1) := dk_3 (dk_at dksX10_findLetters_5 3 rfl rfl)
theorem dX10_findLetters_123 : decode cX10_findLetters 123 = .ok (.istore_n 3, 1) := dk_62 (dk_at dksX10_findLetters_5 4 rfl rfl)
theorem dX10_findLetters_124 : decode cX10_findLetters 124 = .ok (.iconst 0, 1) := dk_3 (dk_at dksX10_findLetters_5 5 rfl rfl)
theorem dX10_findLetters_125 : decode cX10_findLetters 125 = .ok (.istore_n 2, 1) := dk_61 (dk_at dksX10_findLetters_5 6 rfl rfl)
theorem dX10_findLetters_126 : decode cX10_findLetters 126 = .ok (.iinc 4 1, 3) := dk_132 4 1 (dk_at dksX10_findLetters_5 7 rfl rfl)
theorem dX10_findLetters_129 : decode cX10_findLetters 129 = .ok (.goto (-112), 3) := dk_167 255 144 (dk_at dksX10_findLetters_5 10 rfl rfl)
theorem dX10_findLetters_132 : decode cX10_findLetters 132 = .ok (.aload_n 0, 1) := dk_42 (dk_at dksX10_findLetters_5 13 rfl rfl)
theorem dX10_findLetters_133 : decode cX10_findLetters 133 = .ok (.aload_n 0, 1) := dk_42 (dk_at dksX10_findLetters_5 14 rfl rfl)
theorem dX10_findLetters_134 : decode cX10_findLetters 134 = .ok (.getfield 290, 3) := dk_180 1 34 (dk_at dksX10_findLetters_5 15 rfl rfl)
theorem dX10_findLetters_137 : decode cX10_findLetters 137 = .ok (.ifCond .ge 18, 3) := dk_156 0 18 (dk_at dksX10_findLetters_5 18 rfl rfl)
theorem dX10_findLetters_140 : decode cX10_findLetters 140 = .ok (.iload_n 3, 1) := dk_29 (dk_at dksX10_findLetters_5 21 rfl rfl)
theorem dX10_findLetters_141 : decode cX10_findLetters 141 = .ok (.iload_n 2, 1) := dk_28 (dk_at dksX10_findLetters_5 22 rfl rfl)
theorem dX10_findLetters_142 : decode cX10_findLetters 142 = .ok (.iadd, 1) := dk_96 (dk_at dksX10_findLetters_5 23 rfl rfl)
theorem dX10_findLetters_143 : decode cX10_findLetters 143 = .ok (.ifCond .le 12, 3) := dk_158 0 12 (dk_at dksX10_findLetters_6 0 rfl rfl)
theorem dX10_findLetters_146 : decode cX10_findLetters 146 = .ok (.aload_n 0, 1) := dk_42 (dk_at dksX10_findLetters_6 3 rfl rfl)
theorem dX10_findLetters_147 : decode cX10_findLetters 147 = .ok (.getfield 68, 3) := dk_180 0 68 (dk_at dksX10_findLetters_6 4 rfl rfl)
theorem dX10_findLetters_150 : decode cX10_findLetters 150 = .ok (.iload_n 1, 1) := dk_27 (dk_at dksX10_findLetters_6 7 rfl rfl)
theorem dX10_findLetters_151 : decode cX10_findLetters 151 = .ok (.iaload, 1) := dk_46 (dk_at dksX10_findLetters_6 8 rfl rfl)
theorem dX10_findLetters_152 : decode cX10_findLetters 152 = .ok (.goto 7, 3) := dk_167 0 7 (dk_at dksX10_findLetters_6 9 rfl rfl)
theorem dX10_findLetters_155 : decode cX10_findLetters 155 = .ok (.aload_n 0, 1) := dk_42 (dk_at dksX10_findLetters_6 12 rfl rfl)
theorem dX10_findLetters_156 : decode cX10_findLetters 156 = .ok (.getfield 290, 3) := dk_180 1 34 (dk_at dksX10_findLetters_6 13 rfl rfl)
theorem dX10_findLetters_159 : decode cX10_findLetters 159 = .ok (.putfield 290, 3) := dk_181 1 34 (dk_at dksX10_findLetters_6 16 rfl rfl)
theorem dX10_findLetters_162 : decode cX10_findLetters 162 = .ok (.return_, 1) := dk_177 (dk_at dksX10_findLetters_6 19 rfl rfl)
abbrev cX10_plan : ByteArray := prog_37_method_83_code
def yX10_plan : MethodName := ⟨RX10, "plan", "(IIII)I"⟩
def dkwX10_plan_6 : List UInt8 := [96, 46, 172]
abbrev dktX10_plan_6 : List UInt8 := dkwX10_plan_6 ++ []
def dkwX10_plan_5 : List UInt8 := [96, 21, 4, 79, 42, 180, 0, 9, 16, 11, 27, 96, 92, 46, 4, 96, 79, 42, 180, 0, 9, 16, 11, 27]
abbrev dktX10_plan_5 : List UInt8 := dkwX10_plan_5 ++ dktX10_plan_6
def dkwX10_plan_4 : List UInt8 := [180, 0, 9, 21, 6, 28, 79, 42, 180, 0, 9, 21, 6, 4, 96, 29, 79, 42, 180, 0, 9, 21, 6, 5]
abbrev dktX10_plan_4 : List UInt8 := dkwX10_plan_4 ++ dktX10_plan_5
def dkwX10_plan_3 : List UInt8 := [18, 96, 182, 0, 88, 172, 17, 0, 224, 6, 16, 10, 27, 104, 21, 5, 96, 104, 96, 54, 6, 42]
abbrev dktX10_plan_3 : List UInt8 := dkwX10_plan_3 ++ dktX10_plan_4
def dkwX10_plan_2 : List UInt8 := [182, 0, 88, 172, 42, 180, 0, 9, 16, 11, 27, 96, 46, 54, 5, 21, 5, 16, 10, 160, 0, 10, 42]
abbrev dktX10_plan_2 : List UInt8 := dkwX10_plan_2 ++ dktX10_plan_3
def dkwX10_plan_1 : List UInt8 := [17, 9, 95, 184, 0, 78, 153, 0, 14, 21, 4, 3, 16, 8, 184, 0, 78, 154, 0, 10, 42, 18, 87]
abbrev dktX10_plan_1 : List UInt8 := dkwX10_plan_1 ++ dktX10_plan_2
def dkwX10_plan_0 : List UInt8 := [27, 3, 4, 184, 0, 78, 153, 0, 36, 28, 3, 17, 9, 95, 184, 0, 78, 153, 0, 25, 29, 28]
abbrev dktX10_plan_0 : List UInt8 := dkwX10_plan_0 ++ dktX10_plan_1
theorem dksX10_plan_0 : cX10_plan.data.toList.drop 0 = dktX10_plan_0 := by decide +kernel
theorem dksX10_plan_1 : cX10_plan.data.toList.drop 22 = dktX10_plan_1 := dk_seg dksX10_plan_0 22 rfl rfl
theorem dksX10_plan_2 : cX10_plan.data.toList.drop 45 = dktX10_plan_2 := dk_seg dksX10_plan_1 23 rfl rfl
theorem dksX10_plan_3 : cX10_plan.data.toList.drop 68 = dktX10_plan_3 := dk_seg dksX10_plan_2 23 rfl rfl
theorem dksX10_plan_4 : cX10_plan.data.toList.drop 90 = dktX10_plan_4 := dk_seg dksX10_plan_3 22 rfl rfl
theorem dksX10_plan_5 : cX10_plan.data.toList.drop 114 = dktX10_plan_5 := dk_seg dksX10_plan_4 24 rfl rfl
theorem dksX10_plan_6 : cX10_plan.data.toList.drop 138 = dktX10_plan_6 := dk_seg dksX10_plan_5 24 rfl rfl
theorem dX10_plan_0 : decode cX10_plan 0 = .ok (.iload_n 1, 1) := dk_27 (dk_at dksX10_plan_0 0 rfl rfl)
theorem dX10_plan_1 : decode cX10_plan 1 = .ok (.iconst 0, 1) := dk_3 (dk_at dksX10_plan_0 1 rfl rfl)
theorem dX10_plan_2 : decode cX10_plan 2 = .ok (.iconst 1, 1) := dk_4 (dk_at dksX10_plan_0 2 rfl rfl)
theorem dX10_plan_3 : decode cX10_plan 3 = .ok (.invokestatic 78, 3) := dk_184 0 78 (dk_at dksX10_plan_0 3 rfl rfl)
theorem dX10_plan_6 : decode cX10_plan 6 = .ok (.ifCond .eq 36, 3) := dk_153 0 36 (dk_at dksX10_plan_0 6 rfl rfl)
theorem dX10_plan_9 : decode cX10_plan 9 = .ok (.iload_n 2, 1) := dk_28 (dk_at dksX10_plan_0 9 rfl rfl)
theorem dX10_plan_10 : decode cX10_plan 10 = .ok (.iconst 0, 1) := dk_3 (dk_at dksX10_plan_0 10 rfl rfl)
theorem dX10_plan_11 : decode cX10_plan 11 = .ok (.sipush 2399, 3) := dk_17 9 95 (dk_at dksX10_plan_0 11 rfl rfl)
theorem dX10_plan_14 : decode cX10_plan 14 = .ok (.invokestatic 78, 3) := dk_184 0 78 (dk_at dksX10_plan_0 14 rfl rfl)
theorem dX10_plan_17 : decode cX10_plan 17 = .ok (.ifCond .eq 25, 3) := dk_153 0 25 (dk_at dksX10_plan_0 17 rfl rfl)
theorem dX10_plan_20 : decode cX10_plan 20 = .ok (.iload_n 3, 1) := dk_29 (dk_at dksX10_plan_0 20 rfl rfl)
theorem dX10_plan_21 : decode cX10_plan 21 = .ok (.iload_n 2, 1) := dk_28 (dk_at dksX10_plan_0 21 rfl rfl)
theorem dX10_plan_22 : decode cX10_plan 22 = .ok (.sipush 2399, 3) := dk_17 9 95 (dk_at dksX10_plan_1 0 rfl rfl)
theorem dX10_plan_25 : decode cX10_plan 25 = .ok (.invokestatic 78, 3) := dk_184 0 78 (dk_at dksX10_plan_1 3 rfl rfl)
theorem dX10_plan_28 : decode cX10_plan 28 = .ok (.ifCond .eq 14, 3) := dk_153 0 14 (dk_at dksX10_plan_1 6 rfl rfl)
theorem dX10_plan_31 : decode cX10_plan 31 = .ok (.iload 4, 2) := dk_21 4 (dk_at dksX10_plan_1 9 rfl rfl)
theorem dX10_plan_33 : decode cX10_plan 33 = .ok (.iconst 0, 1) := dk_3 (dk_at dksX10_plan_1 11 rfl rfl)
theorem dX10_plan_34 : decode cX10_plan 34 = .ok (.bipush 8, 2) := dk_16 8 (dk_at dksX10_plan_1 12 rfl rfl)
theorem dX10_plan_36 : decode cX10_plan 36 = .ok (.invokestatic 78, 3) := dk_184 0 78 (dk_at dksX10_plan_1 14 rfl rfl)
theorem dX10_plan_39 : decode cX10_plan 39 = .ok (.ifCond .ne 10, 3) := dk_154 0 10 (dk_at dksX10_plan_1 17 rfl rfl)
theorem dX10_plan_42 : decode cX10_plan 42 = .ok (.aload_n 0, 1) := dk_42 (dk_at dksX10_plan_1 20 rfl rfl)
theorem dX10_plan_43 : decode cX10_plan 43 = .ok (.ldc 87, 2) := dk_18 87 (dk_at dksX10_plan_1 21 rfl rfl)
theorem dX10_plan_45 : decode cX10_plan 45 = .ok (.invokevirtual 88, 3) := dk_182 0 88 (dk_at dksX10_plan_2 0 rfl rfl)
theorem dX10_plan_48 : decode cX10_plan 48 = .ok (.ireturn, 1) := dk_172 (dk_at dksX10_plan_2 3 rfl rfl)
theorem dX10_plan_49 : decode cX10_plan 49 = .ok (.aload_n 0, 1) := dk_42 (dk_at dksX10_plan_2 4 rfl rfl)
theorem dX10_plan_50 : decode cX10_plan 50 = .ok (.getfield 9, 3) := dk_180 0 9 (dk_at dksX10_plan_2 5 rfl rfl)
theorem dX10_plan_53 : decode cX10_plan 53 = .ok (.bipush 11, 2) := dk_16 11 (dk_at dksX10_plan_2 8 rfl rfl)
theorem dX10_plan_55 : decode cX10_plan 55 = .ok (.iload_n 1, 1) := dk_27 (dk_at dksX10_plan_2 10 rfl rfl)
theorem dX10_plan_56 : decode cX10_plan 56 = .ok (.iadd, 1) := dk_96 (dk_at dksX10_plan_2 11 rfl rfl)
theorem dX10_plan_57 : decode cX10_plan 57 = .ok (.iaload, 1) := dk_46 (dk_at dksX10_plan_2 12 rfl rfl)
theorem dX10_plan_58 : decode cX10_plan 58 = .ok (.istore 5, 2) := dk_54 5 (dk_at dksX10_plan_2 13 rfl rfl)
theorem dX10_plan_60 : decode cX10_plan 60 = .ok (.iload 5, 2) := dk_21 5 (dk_at dksX10_plan_2 15 rfl rfl)
theorem dX10_plan_62 : decode cX10_plan 62 = .ok (.bipush 10, 2) := dk_16 10 (dk_at dksX10_plan_2 17 rfl rfl)
theorem dX10_plan_64 : decode cX10_plan 64 = .ok (.if_icmp .ne 10, 3) := dk_160 0 10 (dk_at dksX10_plan_2 19 rfl rfl)
theorem dX10_plan_67 : decode cX10_plan 67 = .ok (.aload_n 0, 1) := dk_42 (dk_at dksX10_plan_2 22 rfl rfl)
theorem dX10_plan_68 : decode cX10_plan 68 = .ok (.ldc 96, 2) := dk_18 96 (dk_at dksX10_plan_3 0 rfl rfl)
theorem dX10_plan_70 : decode cX10_plan 70 = .ok (.invokevirtual 88, 3) := dk_182 0 88 (dk_at dksX10_plan_3 2 rfl rfl)
theorem dX10_plan_73 : decode cX10_plan 73 = .ok (.ireturn, 1) := dk_172 (dk_at dksX10_plan_3 5 rfl rfl)
theorem dX10_plan_74 : decode cX10_plan 74 = .ok (.sipush 224, 3) := dk_17 0 224 (dk_at dksX10_plan_3 6 rfl rfl)
theorem dX10_plan_77 : decode cX10_plan 77 = .ok (.iconst 3, 1) := dk_6 (dk_at dksX10_plan_3 9 rfl rfl)
theorem dX10_plan_78 : decode cX10_plan 78 = .ok (.bipush 10, 2) := dk_16 10 (dk_at dksX10_plan_3 10 rfl rfl)
theorem dX10_plan_80 : decode cX10_plan 80 = .ok (.iload_n 1, 1) := dk_27 (dk_at dksX10_plan_3 12 rfl rfl)
theorem dX10_plan_81 : decode cX10_plan 81 = .ok (.imul, 1) := dk_104 (dk_at dksX10_plan_3 13 rfl rfl)
theorem dX10_plan_82 : decode cX10_plan 82 = .ok (.iload 5, 2) := dk_21 5 (dk_at dksX10_plan_3 14 rfl rfl)
theorem dX10_plan_84 : decode cX10_plan 84 = .ok (.iadd, 1) := dk_96 (dk_at dksX10_plan_3 16 rfl rfl)
theorem dX10_plan_85 : decode cX10_plan 85 = .ok (.imul, 1) := dk_104 (dk_at dksX10_plan_3 17 rfl rfl)
theorem dX10_plan_86 : decode cX10_plan 86 = .ok (.iadd, 1) := dk_96 (dk_at dksX10_plan_3 18 rfl rfl)
theorem dX10_plan_87 : decode cX10_plan 87 = .ok (.istore 6, 2) := dk_54 6 (dk_at dksX10_plan_3 19 rfl rfl)
theorem dX10_plan_89 : decode cX10_plan 89 = .ok (.aload_n 0, 1) := dk_42 (dk_at dksX10_plan_3 21 rfl rfl)
theorem dX10_plan_90 : decode cX10_plan 90 = .ok (.getfield 9, 3) := dk_180 0 9 (dk_at dksX10_plan_4 0 rfl rfl)
theorem dX10_plan_93 : decode cX10_plan 93 = .ok (.iload 6, 2) := dk_21 6 (dk_at dksX10_plan_4 3 rfl rfl)
theorem dX10_plan_95 : decode cX10_plan 95 = .ok (.iload_n 2, 1) := dk_28 (dk_at dksX10_plan_4 5 rfl rfl)
theorem dX10_plan_96 : decode cX10_plan 96 = .ok (.iastore, 1) := dk_79 (dk_at dksX10_plan_4 6 rfl rfl)
theorem dX10_plan_97 : decode cX10_plan 97 = .ok (.aload_n 0, 1) := dk_42 (dk_at dksX10_plan_4 7 rfl rfl)
theorem dX10_plan_98 : decode cX10_plan 98 = .ok (.getfield 9, 3) := dk_180 0 9 (dk_at dksX10_plan_4 8 rfl rfl)
theorem dX10_plan_101 : decode cX10_plan 101 = .ok (.iload 6, 2) := dk_21 6 (dk_at dksX10_plan_4 11 rfl rfl)
theorem dX10_plan_103 : decode cX10_plan 103 = .ok (.iconst 1, 1) := dk_4 (dk_at dksX10_plan_4 13 rfl rfl)
theorem dX10_plan_104 : decode cX10_plan 104 = .ok (.iadd, 1) := dk_96 (dk_at dksX10_plan_4 14 rfl rfl)
theorem dX10_plan_105 : decode cX10_plan 105 = .ok (.iload_n 3, 1) := dk_29 (dk_at dksX10_plan_4 15 rfl rfl)
theorem dX10_plan_106 : decode cX10_plan 106 = .ok (.iastore, 1) := dk_79 (dk_at dksX10_plan_4 16 rfl rfl)
theorem dX10_plan_107 : decode cX10_plan 107 = .ok (.aload_n 0, 1) := dk_42 (dk_at dksX10_plan_4 17 rfl rfl)
theorem dX10_plan_108 : decode cX10_plan 108 = .ok (.getfield 9, 3) := dk_180 0 9 (dk_at dksX10_plan_4 18 rfl rfl)
theorem dX10_plan_111 : decode cX10_plan 111 = .ok (.iload 6, 2) := dk_21 6 (dk_at dksX10_plan_4 21 rfl rfl)
theorem dX10_plan_113 : decode cX10_plan 113 = .ok (.iconst 2, 1) := dk_5 (dk_at dksX10_plan_4 23 rfl rfl)
theorem dX10_plan_114 : decode cX10_plan 114 = .ok (.iadd, 1) := dk_96 (dk_at dksX10_plan_5 0 rfl rfl)
theorem dX10_plan_115 : decode cX10_plan 115 = .ok (.iload 4, 2) := dk_21 4 (dk_at dksX10_plan_5 1 rfl rfl)
theorem dX10_plan_117 : decode cX10_plan 117 = .ok (.iastore, 1) := dk_79 (dk_at dksX10_plan_5 3 rfl rfl)
theorem dX10_plan_118 : decode cX10_plan 118 = .ok (.aload_n 0, 1) := dk_42 (dk_at dksX10_plan_5 4 rfl rfl)
theorem dX10_plan_119 : decode cX10_plan 119 = .ok (.getfield 9, 3) := dk_180 0 9 (dk_at dksX10_plan_5 5 rfl rfl)
theorem dX10_plan_122 : decode cX10_plan 122 = .ok (.bipush 11, 2) := dk_16 11 (dk_at dksX10_plan_5 8 rfl rfl)
theorem dX10_plan_124 : decode cX10_plan 124 = .ok (.iload_n 1, 1) := dk_27 (dk_at dksX10_plan_5 10 rfl rfl)
theorem dX10_plan_125 : decode cX10_plan 125 = .ok (.iadd, 1) := dk_96 (dk_at dksX10_plan_5 11 rfl rfl)
theorem dX10_plan_126 : decode cX10_plan 126 = .ok (.dup2, 1) := dk_92 (dk_at dksX10_plan_5 12 rfl rfl)
theorem dX10_plan_127 : decode cX10_plan 127 = .ok (.iaload, 1) := dk_46 (dk_at dksX10_plan_5 13 rfl rfl)
theorem dX10_plan_128 : decode cX10_plan 128 = .ok (.iconst 1, 1) := dk_4 (dk_at dksX10_plan_5 14 rfl rfl)
theorem dX10_plan_129 : decode cX10_plan 129 = .ok (.iadd, 1) := dk_96 (dk_at dksX10_plan_5 15 rfl rfl)
theorem dX10_plan_130 : decode cX10_plan 130 = .ok (.iastore, 1) := dk_79 (dk_at dksX10_plan_5 16 rfl rfl)
theorem dX10_plan_131 : decode cX10_plan 131 = .ok (.aload_n 0, 1) := dk_42 (dk_at dksX10_plan_5 17 rfl rfl)
theorem dX10_plan_132 : decode cX10_plan 132 = .ok (.getfield 9, 3) := dk_180 0 9 (dk_at dksX10_plan_5 18 rfl rfl)
theorem dX10_plan_135 : decode cX10_plan 135 = .ok (.bipush 11, 2) := dk_16 11 (dk_at dksX10_plan_5 21 rfl rfl)
theorem dX10_plan_137 : decode cX10_plan 137 = .ok (.iload_n 1, 1) := dk_27 (dk_at dksX10_plan_5 23 rfl rfl)
theorem dX10_plan_138 : decode cX10_plan 138 = .ok (.iadd, 1) := dk_96 (dk_at dksX10_plan_6 0 rfl rfl)
theorem dX10_plan_139 : decode cX10_plan 139 = .ok (.iaload, 1) := dk_46 (dk_at dksX10_plan_6 1 rfl rfl)
theorem dX10_plan_140 : decode cX10_plan 140 = .ok (.ireturn, 1) := dk_172 (dk_at dksX10_plan_6 2 rfl rfl)
abbrev cX10_cross : ByteArray := prog_37_method_84_code
def yX10_cross : MethodName := ⟨RX10, "cross", "(I)I"⟩
def dkwX10_cross_9 : List UInt8 := [167, 0, 12, 27, 154, 0, 7, 28, 167, 0, 4, 29, 172]
abbrev dktX10_cross_9 : List UInt8 := dkwX10_cross_9 ++ []
def dkwX10_cross_8 : List UInt8 := [132, 5, 3, 167, 255, 114, 132, 4, 3, 167, 255, 85, 28, 18, 242, 160, 0, 12, 42, 18, 139, 182, 0, 88]
abbrev dktX10_cross_8 : List UInt8 := dkwX10_cross_8 ++ dktX10_cross_9
def dkwX10_cross_7 : List UInt8 := [21, 4, 5, 96, 46, 29, 162, 0, 16, 21, 6, 61, 42, 180, 0, 9, 21, 4, 5, 96, 46, 62]
abbrev dktX10_cross_7 : List UInt8 := dkwX10_cross_7 ++ dktX10_cross_8
def dkwX10_cross_6 : List UInt8 := [54, 7, 21, 7, 153, 0, 41, 21, 6, 28, 161, 0, 22, 21, 6, 28, 160, 0, 29, 42, 180, 0, 9]
abbrev dktX10_cross_6 : List UInt8 := dkwX10_cross_6 ++ dktX10_cross_7
def dkwX10_cross_5 : List UInt8 := [96, 46, 163, 0, 21, 21, 6, 42, 180, 0, 9, 21, 5, 4, 96, 46, 163, 0, 7, 4, 167, 0, 4, 3]
abbrev dktX10_cross_5 : List UInt8 := dkwX10_cross_5 ++ dktX10_cross_6
def dkwX10_cross_4 : List UInt8 := [5, 96, 46, 42, 180, 0, 9, 21, 5, 5, 96, 46, 160, 0, 35, 21, 6, 42, 180, 0, 9, 21, 4, 4]
abbrev dktX10_cross_4 : List UInt8 := dkwX10_cross_4 ++ dktX10_cross_5
def dkwX10_cross_3 : List UInt8 := [180, 0, 9, 21, 4, 46, 42, 180, 0, 9, 21, 5, 46, 184, 0, 208, 54, 6, 42, 180, 0, 9, 21, 4]
abbrev dktX10_cross_3 : List UInt8 := dkwX10_cross_3 ++ dktX10_cross_4
def dkwX10_cross_2 : List UInt8 := [54, 5, 21, 5, 17, 0, 224, 6, 16, 10, 42, 180, 0, 9, 16, 12, 46, 96, 104, 96, 162, 0, 127, 42]
abbrev dktX10_cross_2 : List UInt8 := dkwX10_cross_2 ++ dktX10_cross_3
def dkwX10_cross_1 : List UInt8 := [54, 4, 21, 4, 17, 0, 224, 6, 42, 180, 0, 9, 16, 11, 46, 104, 96, 162, 0, 159, 17, 0, 254]
abbrev dktX10_cross_1 : List UInt8 := dkwX10_cross_1 ++ dktX10_cross_2
def dkwX10_cross_0 : List UInt8 := [27, 3, 4, 184, 0, 78, 154, 0, 10, 42, 18, 87, 182, 0, 88, 172, 18, 242, 61, 3, 62, 17, 0, 224]
abbrev dktX10_cross_0 : List UInt8 := dkwX10_cross_0 ++ dktX10_cross_1
theorem dksX10_cross_0 : cX10_cross.data.toList.drop 0 = dktX10_cross_0 := by decide +kernel
theorem dksX10_cross_1 : cX10_cross.data.toList.drop 24 = dktX10_cross_1 := dk_seg dksX10_cross_0 24 rfl rfl
theorem dksX10_cross_2 : cX10_cross.data.toList.drop 47 = dktX10_cross_2 := dk_seg dksX10_cross_1 23 rfl rfl
theorem dksX10_cross_3 : cX10_cross.data.toList.drop 71 = dktX10_cross_3 := dk_seg dksX10_cross_2 24 rfl rfl
theorem dksX10_cross_4 : cX10_cross.data.toList.drop 95 = dktX10_cross_4 := dk_seg dksX10_cross_3 24 rfl rfl
theorem dksX10_cross_5 : cX10_cross.data.toList.drop 119 = dktX10_cross_5 := dk_seg dksX10_cross_4 24 rfl rfl
theorem dksX10_cross_6 : cX10_cross.data.toList.drop 143 = dktX10_cross_6 := dk_seg dksX10_cross_5 24 rfl rfl
theorem dksX10_cross_7 : cX10_cross.data.toList.drop 166 = dktX10_cross_7 := dk_seg dksX10_cross_6 23 rfl rfl
theorem dksX10_cross_8 : cX10_cross.data.toList.drop 188 = dktX10_cross_8 := dk_seg dksX10_cross_7 22 rfl rfl
theorem dksX10_cross_9 : cX10_cross.data.toList.drop 212 = dktX10_cross_9 := dk_seg dksX10_cross_8 24 rfl rfl
theorem dX10_cross_0 : decode cX10_cross 0 = .ok (.iload_n 1, 1) := dk_27 (dk_at dksX10_cross_0 0 rfl rfl)
theorem dX10_cross_1 : decode cX10_cross 1 = .ok (.iconst 0, 1) := dk_3 (dk_at dksX10_cross_0 1 rfl rfl)
theorem dX10_cross_2 : decode cX10_cross 2 = .ok (.iconst 1, 1) := dk_4 (dk_at dksX10_cross_0 2 rfl rfl)
theorem dX10_cross_3 : decode cX10_cross 3 = .ok (.invokestatic 78, 3) := dk_184 0 78 (dk_at dksX10_cross_0 3 rfl rfl)
theorem dX10_cross_6 : decode cX10_cross 6 = .ok (.ifCond .ne 10, 3) := dk_154 0 10 (dk_at dksX10_cross_0 6 rfl rfl)
theorem dX10_cross_9 : decode cX10_cross 9 = .ok (.aload_n 0, 1) := dk_42 (dk_at dksX10_cross_0 9 rfl rfl)
theorem dX10_cross_10 : decode cX10_cross 10 = .ok (.ldc 87, 2) := dk_18 87 (dk_at dksX10_cross_0 10 rfl rfl)
theorem dX10_cross_12 : decode cX10_cross 12 = .ok (.invokevirtual 88, 3) := dk_182 0 88 (dk_at dksX10_cross_0 12 rfl rfl)
theorem dX10_cross_15 : decode cX10_cross 15 = .ok (.ireturn, 1) := dk_172 (dk_at dksX10_cross_0 15 rfl rfl)
theorem dX10_cross_16 : decode cX10_cross 16 = .ok (.ldc 242, 2) := dk_18 242 (dk_at dksX10_cross_0 16 rfl rfl)
theorem dX10_cross_18 : decode cX10_cross 18 = .ok (.istore_n 2, 1) := dk_61 (dk_at dksX10_cross_0 18 rfl rfl)
theorem dX10_cross_19 : decode cX10_cross 19 = .ok (.iconst 0, 1) := dk_3 (dk_at dksX10_cross_0 19 rfl rfl)
theorem dX10_cross_20 : decode cX10_cross 20 = .ok (.istore_n 3, 1) := dk_62 (dk_at dksX10_cross_0 20 rfl rfl)
theorem dX10_cross_21 : decode cX10_cross 21 = .ok (.sipush 224, 3) := dk_17 0 224 (dk_at dksX10_cross_0 21 rfl rfl)
theorem dX10_cross_24 : decode cX10_cross 24 = .ok (.istore 4, 2) := dk_54 4 (dk_at dksX10_cross_1 0 rfl rfl)
theorem dX10_cross_26 : decode cX10_cross 26 = .ok (.iload 4, 2) := dk_21 4 (dk_at dksX10_cross_1 2 rfl rfl)
theorem dX10_cross_28 : decode cX10_cross 28 = .ok (.sipush 224, 3) := dk_17 0 224 (dk_at dksX10_cross_1 4 rfl rfl)
theorem dX10_cross_31 : decode cX10_cross 31 = .ok (.iconst 3, 1) := dk_6 (dk_at dksX10_cross_1 7 rfl rfl)
theorem dX10_cross_32 : decode cX10_cross 32 = .ok (.aload_n 0, 1) := dk_42 (dk_at dksX10_cross_1 8 rfl rfl)
theorem dX10_cross_33 : decode cX10_cross 33 = .ok (.getfield 9, 3) := dk_180 0 9 (dk_at dksX10_cross_1 9 rfl rfl)
theorem dX10_cross_36 : decode cX10_cross 36 = .ok (.bipush 11, 2) := dk_16 11 (dk_at dksX10_cross_1 12 rfl rfl)
theorem dX10_cross_38 : decode cX10_cross 38 = .ok (.iaload, 1) := dk_46 (dk_at dksX10_cross_1 14 rfl rfl)
theorem dX10_cross_39 : decode cX10_cross 39 = .ok (.imul, 1) := dk_104 (dk_at dksX10_cross_1 15 rfl rfl)
theorem dX10_cross_40 : decode cX10_cross 40 = .ok (.iadd, 1) := dk_96 (dk_at dksX10_cross_1 16 rfl rfl)
theorem dX10_cross_41 : decode cX10_cross 41 = .ok (.if_icmp .ge 159, 3) := dk_162 0 159 (dk_at dksX10_cross_1 17 rfl rfl)
theorem dX10_cross_44 : decode cX10_cross 44 = .ok (.sipush 254, 3) := dk_17 0 254 (dk_at dksX10_cross_1 20 rfl rfl)
theorem dX10_cross_47 : decode cX10_cross 47 = .ok (.istore 5, 2) := dk_54 5 (dk_at dksX10_cross_2 0 rfl rfl)
theorem dX10_cross_49 : decode cX10_cross 49 = .ok (.iload 5, 2) := dk_21 5 (dk_at dksX10_cross_2 2 rfl rfl)
theorem dX10_cross_51 : decode cX10_cross 51 = .ok (.sipush 224, 3) := dk_17 0 224 (dk_at dksX10_cross_2 4 rfl rfl)
theorem dX10_cross_54 : decode cX10_cross 54 = .ok (.iconst 3, 1) := dk_6 (dk_at dksX10_cross_2 7 rfl rfl)
theorem dX10_cross_55 : decode cX10_cross 55 = .ok (.bipush 10, 2) := dk_16 10 (dk_at dksX10_cross_2 8 rfl rfl)
theorem dX10_cross_57 : decode cX10_cross 57 = .ok (.aload_n 0, 1) := dk_42 (dk_at dksX10_cross_2 10 rfl rfl)
theorem dX10_cross_58 : decode cX10_cross 58 = .ok (.getfield 9, 3) := dk_180 0 9 (dk_at dksX10_cross_2 11 rfl rfl)
theorem dX10_cross_61 : decode cX10_cross 61 = .ok (.bipush 12, 2) := dk_16 12 (dk_at dksX10_cross_2 14 rfl rfl)
theorem dX10_cross_63 : decode cX10_cross 63 = .ok (.iaload, 1) := dk_46 (dk_at dksX10_cross_2 16 rfl rfl)
theorem dX10_cross_64 : decode cX10_cross 64 = .ok (.iadd, 1) := dk_96 (dk_at dksX10_cross_2 17 rfl rfl)
theorem dX10_cross_65 : decode cX10_cross 65 = .ok (.imul, 1) := dk_104 (dk_at dksX10_cross_2 18 rfl rfl)
theorem dX10_cross_66 : decode cX10_cross 66 = .ok (.iadd, 1) := dk_96 (dk_at dksX10_cross_2 19 rfl rfl)
theorem dX10_cross_67 : decode cX10_cross 67 = .ok (.if_icmp .ge 127, 3) := dk_162 0 127 (dk_at dksX10_cross_2 20 rfl rfl)
theorem dX10_cross_70 : decode cX10_cross 70 = .ok (.aload_n 0, 1) := dk_42 (dk_at dksX10_cross_2 23 rfl rfl)
theorem dX10_cross_71 : decode cX10_cross 71 = .ok (.getfield 9, 3) := dk_180 0 9 (dk_at dksX10_cross_3 0 rfl rfl)
theorem dX10_cross_74 : decode cX10_cross 74 = .ok (.iload 4, 2) := dk_21 4 (dk_at dksX10_cross_3 3 rfl rfl)
theorem dX10_cross_76 : decode cX10_cross 76 = .ok (.iaload, 1) := dk_46 (dk_at dksX10_cross_3 5 rfl rfl)
theorem dX10_cross_77 : decode cX10_cross 77 = .ok (.aload_n 0, 1) := dk_42 (dk_at dksX10_cross_3 6 rfl rfl)
theorem dX10_cross_78 : decode cX10_cross 78 = .ok (.getfield 9, 3) := dk_180 0 9 (dk_at dksX10_cross_3 7 rfl rfl)
theorem dX10_cross_81 : decode cX10_cross 81 = .ok (.iload 5, 2) := dk_21 5 (dk_at dksX10_cross_3 10 rfl rfl)
theorem dX10_cross_83 : decode cX10_cross 83 = .ok (.iaload, 1) := dk_46 (dk_at dksX10_cross_3 12 rfl rfl)
theorem dX10_cross_84 : decode cX10_cross 84 = .ok (.invokestatic 208, 3) := dk_184 0 208 (dk_at dksX10_cross_3 13 rfl rfl)
theorem dX10_cross_87 : decode cX10_cross 87 = .ok (.istore 6, 2) := dk_54 6 (dk_at dksX10_cross_3 16 rfl rfl)
theorem dX10_cross_89 : decode cX10_cross 89 = .ok (.aload_n 0, 1) := dk_42 (dk_at dksX10_cross_3 18 rfl rfl)
theorem dX10_cross_90 : decode cX10_cross 90 = .ok (.getfield 9, 3) := dk_180 0 9 (dk_at dksX10_cross_3 19 rfl rfl)
theorem dX10_cross_93 : decode cX10_cross 93 = .ok (.iload 4, 2) := dk_21 4 (dk_at dksX10_cross_3 22 rfl rfl)
theorem dX10_cross_95 : decode cX10_cross 95 = .ok (.iconst 2, 1) := dk_5 (dk_at dksX10_cross_4 0 rfl rfl)
theorem dX10_cross_96 : decode cX10_cross 96 = .ok (.iadd, 1) := dk_96 (dk_at dksX10_cross_4 1 rfl rfl)
theorem dX10_cross_97 : decode cX10_cross 97 = .ok (.iaload, 1) := dk_46 (dk_at dksX10_cross_4 2 rfl rfl)
theorem dX10_cross_98 : decode cX10_cross 98 = .ok (.aload_n 0, 1) := dk_42 (dk_at dksX10_cross_4 3 rfl rfl)
theorem dX10_cross_99 : decode cX10_cross 99 = .ok (.getfield 9, 3) := dk_180 0 9 (dk_at dksX10_cross_4 4 rfl rfl)
theorem dX10_cross_102 : decode cX10_cross 102 = .ok (.iload 5, 2) := dk_21 5 (dk_at dksX10_cross_4 7 rfl rfl)
theorem dX10_cross_104 : decode cX10_cross 104 = .ok (.iconst 2, 1) := dk_5 (dk_at dksX10_cross_4 9 rfl rfl)
theorem dX10_cross_105 : decode cX10_cross 105 = .ok (.iadd, 1) := dk_96 (dk_at dksX10_cross_4 10 rfl rfl)
theorem dX10_cross_106 : decode cX10_cross 106 = .ok (.iaload, 1) := dk_46 (dk_at dksX10_cross_4 11 rfl rfl)
theorem dX10_cross_107 : decode cX10_cross 107 = .ok (.if_icmp .ne 35, 3) := dk_160 0 35 (dk_at dksX10_cross_4 12 rfl rfl)
theorem dX10_cross_110 : decode cX10_cross 110 = .ok (.iload 6, 2) := dk_21 6 (dk_at dksX10_cross_4 15 rfl rfl)
theorem dX10_cross_112 : decode cX10_cross 112 = .ok (.aload_n 0, 1) := dk_42 (dk_at dksX10_cross_4 17 rfl rfl)
theorem dX10_cross_113 : decode cX10_cross 113 = .ok (.getfield 9, 3) := dk_180 0 9 (dk_at dksX10_cross_4 18 rfl rfl)
theorem dX10_cross_116 : decode cX10_cross 116 = .ok (.iload 4, 2) := dk_21 4 (dk_at dksX10_cross_4 21 rfl rfl)
theorem dX10_cross_118 : decode cX10_cross 118 = .ok (.iconst 1, 1) := dk_4 (dk_at dksX10_cross_4 23 rfl rfl)
theorem dX10_cross_119 : decode cX10_cross 119 = .ok (.iadd, 1) := dk_96 (dk_at dksX10_cross_5 0 rfl rfl)
theorem dX10_cross_120 : decode cX10_cross 120 = .ok (.iaload, 1) := dk_46 (dk_at dksX10_cross_5 1 rfl rfl)
theorem dX10_cross_121 : decode cX10_cross 121 = .ok (.if_icmp .gt 21, 3) := dk_163 0 21 (dk_at dksX10_cross_5 2 rfl rfl)
theorem dX10_cross_124 : decode cX10_cross 124 = .ok (.iload 6, 2) := dk_21 6 (dk_at dksX10_cross_5 5 rfl rfl)
theorem dX10_cross_126 : decode cX10_cross 126 = .ok (.aload_n 0, 1) := dk_42 (dk_at dksX10_cross_5 7 rfl rfl)
theorem dX10_cross_127 : decode cX10_cross 127 = .ok (.getfield 9, 3) := dk_180 0 9 (dk_at dksX10_cross_5 8 rfl rfl)
theorem dX10_cross_130 : decode cX10_cross 130 = .ok (.iload 5, 2) := dk_21 5 (dk_at dksX10_cross_5 11 rfl rfl)
theorem dX10_cross_132 : decode cX10_cross 132 = .ok (.iconst 1, 1) := dk_4 (dk_at dksX10_cross_5 13 rfl rfl)
theorem dX10_cross_133 : decode cX10_cross 133 = .ok (.iadd, 1) := dk_96 (dk_at dksX10_cross_5 14 rfl rfl)
theorem dX10_cross_134 : decode cX10_cross 134 = .ok (.iaload, 1) := dk_46 (dk_at dksX10_cross_5 15 rfl rfl)
theorem dX10_cross_135 : decode cX10_cross 135 = .ok (.if_icmp .gt 7, 3) := dk_163 0 7 (dk_at dksX10_cross_5 16 rfl rfl)
theorem dX10_cross_138 : decode cX10_cross 138 = .ok (.iconst 1, 1) := dk_4 (dk_at dksX10_cross_5 19 rfl rfl)
theorem dX10_cross_139 : decode cX10_cross 139 = .ok (.goto 4, 3) := dk_167 0 4 (dk_at dksX10_cross_5 20 rfl rfl)
theorem dX10_cross_142 : decode cX10_cross 142 = .ok (.iconst 0, 1) := dk_3 (dk_at dksX10_cross_5 23 rfl rfl)
theorem dX10_cross_143 : decode cX10_cross 143 = .ok (.istore 7, 2) := dk_54 7 (dk_at dksX10_cross_6 0 rfl rfl)
theorem dX10_cross_145 : decode cX10_cross 145 = .ok (.iload 7, 2) := dk_21 7 (dk_at dksX10_cross_6 2 rfl rfl)
theorem dX10_cross_147 : decode cX10_cross 147 = .ok (.ifCond .eq 41, 3) := dk_153 0 41 (dk_at dksX10_cross_6 4 rfl rfl)
theorem dX10_cross_150 : decode cX10_cross 150 = .ok (.iload 6, 2) := dk_21 6 (dk_at dksX10_cross_6 7 rfl rfl)
theorem dX10_cross_152 : decode cX10_cross 152 = .ok (.iload_n 2, 1) := dk_28 (dk_at dksX10_cross_6 9 rfl rfl)
theorem dX10_cross_153 : decode cX10_cross 153 = .ok (.if_icmp .lt 22, 3) := dk_161 0 22 (dk_at dksX10_cross_6 10 rfl rfl)
theorem dX10_cross_156 : decode cX10_cross 156 = .ok (.iload 6, 2) := dk_21 6 (dk_at dksX10_cross_6 13 rfl rfl)
theorem dX10_cross_158 : decode cX10_cross 158 = .ok (.iload_n 2, 1) := dk_28 (dk_at dksX10_cross_6 15 rfl rfl)
theorem dX10_cross_159 : decode cX10_cross 159 = .ok (.if_icmp .ne 29, 3) := dk_160 0 29 (dk_at dksX10_cross_6 16 rfl rfl)
theorem dX10_cross_162 : decode cX10_cross 162 = .ok (.aload_n 0, 1) := dk_42 (dk_at dksX10_cross_6 19 rfl rfl)
theorem dX10_cross_163 : decode cX10_cross 163 = .ok (.getfield 9, 3) := dk_180 0 9 (dk_at dksX10_cross_6 20 rfl rfl)
theorem dX10_cross_166 : decode cX10_cross 166 = .ok (.iload 4, 2) := dk_21 4 (dk_at dksX10_cross_7 0 rfl rfl)
theorem dX10_cross_168 : decode cX10_cross 168 = .ok (.iconst 2, 1) := dk_5 (dk_at dksX10_cross_7 2 rfl rfl)
theorem dX10_cross_169 : decode cX10_cross 169 = .ok (.iadd, 1) := dk_96 (dk_at dksX10_cross_7 3 rfl rfl)
theorem dX10_cross_170 : decode cX10_cross 170 = .ok (.iaload, 1) := dk_46 (dk_at dksX10_cross_7 4 rfl rfl)
theorem dX10_cross_171 : decode cX10_cross 171 = .ok (.iload_n 3, 1) := dk_29 (dk_at dksX10_cross_7 5 rfl rfl)
theorem dX10_cross_172 : decode cX10_cross 172 = .ok (.if_icmp .ge 16, 3) := dk_162 0 16 (dk_at dksX10_cross_7 6 rfl rfl)
theorem dX10_cross_175 : decode cX10_cross 175 = .ok (.iload 6, 2) := dk_21 6 (dk_at dksX10_cross_7 9 rfl rfl)
theorem dX10_cross_177 : decode cX10_cross 177 = .ok (.istore_n 2, 1) := dk_61 (dk_at dksX10_cross_7 11 rfl rfl)
theorem dX10_cross_178 : decode cX10_cross 178 = .ok (.aload_n 0, 1) := dk_42 (dk_at dksX10_cross_7 12 rfl rfl)
theorem dX10_cross_179 : decode cX10_cross 179 = .ok (.getfield 9, 3) := dk_180 0 9 (dk_at dksX10_cross_7 13 rfl rfl)
theorem dX10_cross_182 : decode cX10_cross 182 = .ok (.iload 4, 2) := dk_21 4 (dk_at dksX10_cross_7 16 rfl rfl)
theorem dX10_cross_184 : decode cX10_cross 184 = .ok (.iconst 2, 1) := dk_5 (dk_at dksX10_cross_7 18 rfl rfl)
theorem dX10_cross_185 : decode cX10_cross 185 = .ok (.iadd, 1) := dk_96 (dk_at dksX10_cross_7 19 rfl rfl)
theorem dX10_cross_186 : decode cX10_cross 186 = .ok (.iaload, 1) := dk_46 (dk_at dksX10_cross_7 20 rfl rfl)
theorem dX10_cross_187 : decode cX10_cross 187 = .ok (.istore_n 3, 1) := dk_62 (dk_at dksX10_cross_7 21 rfl rfl)
theorem dX10_cross_188 : decode cX10_cross 188 = .ok (.iinc 5 3, 3) := dk_132 5 3 (dk_at dksX10_cross_8 0 rfl rfl)
theorem dX10_cross_191 : decode cX10_cross 191 = .ok (.goto (-142), 3) := dk_167 255 114 (dk_at dksX10_cross_8 3 rfl rfl)
theorem dX10_cross_194 : decode cX10_cross 194 = .ok (.iinc 4 3, 3) := dk_132 4 3 (dk_at dksX10_cross_8 6 rfl rfl)
theorem dX10_cross_197 : decode cX10_cross 197 = .ok (.goto (-171), 3) := dk_167 255 85 (dk_at dksX10_cross_8 9 rfl rfl)
theorem dX10_cross_200 : decode cX10_cross 200 = .ok (.iload_n 2, 1) := dk_28 (dk_at dksX10_cross_8 12 rfl rfl)
theorem dX10_cross_201 : decode cX10_cross 201 = .ok (.ldc 242, 2) := dk_18 242 (dk_at dksX10_cross_8 13 rfl rfl)
theorem dX10_cross_203 : decode cX10_cross 203 = .ok (.if_icmp .ne 12, 3) := dk_160 0 12 (dk_at dksX10_cross_8 15 rfl rfl)
theorem dX10_cross_206 : decode cX10_cross 206 = .ok (.aload_n 0, 1) := dk_42 (dk_at dksX10_cross_8 18 rfl rfl)
theorem dX10_cross_207 : decode cX10_cross 207 = .ok (.ldc 139, 2) := dk_18 139 (dk_at dksX10_cross_8 19 rfl rfl)
theorem dX10_cross_209 : decode cX10_cross 209 = .ok (.invokevirtual 88, 3) := dk_182 0 88 (dk_at dksX10_cross_8 21 rfl rfl)
theorem dX10_cross_212 : decode cX10_cross 212 = .ok (.goto 12, 3) := dk_167 0 12 (dk_at dksX10_cross_9 0 rfl rfl)
theorem dX10_cross_215 : decode cX10_cross 215 = .ok (.iload_n 1, 1) := dk_27 (dk_at dksX10_cross_9 3 rfl rfl)
theorem dX10_cross_216 : decode cX10_cross 216 = .ok (.ifCond .ne 7, 3) := dk_154 0 7 (dk_at dksX10_cross_9 4 rfl rfl)
theorem dX10_cross_219 : decode cX10_cross 219 = .ok (.iload_n 2, 1) := dk_28 (dk_at dksX10_cross_9 7 rfl rfl)
theorem dX10_cross_220 : decode cX10_cross 220 = .ok (.goto 4, 3) := dk_167 0 4 (dk_at dksX10_cross_9 8 rfl rfl)
theorem dX10_cross_223 : decode cX10_cross 223 = .ok (.iload_n 3, 1) := dk_29 (dk_at dksX10_cross_9 11 rfl rfl)
theorem dX10_cross_224 : decode cX10_cross 224 = .ok (.ireturn, 1) := dk_172 (dk_at dksX10_cross_9 12 rfl rfl)
abbrev cX10_hour : ByteArray := prog_37_method_85_code
def yX10_hour : MethodName := ⟨RX10, "hour", "(II)I"⟩
def dkwX10_hour_1 : List UInt8 := [27, 96, 28, 182, 0, 83, 167, 0, 9, 42, 18, 87, 182, 0, 88, 172]
abbrev dktX10_hour_1 : List UInt8 := dkwX10_hour_1 ++ []
def dkwX10_hour_0 : List UInt8 := [27, 3, 16, 7, 184, 0, 78, 153, 0, 26, 28, 3, 16, 24, 184, 0, 78, 153, 0, 16, 42, 17, 1, 28]
abbrev dktX10_hour_0 : List UInt8 := dkwX10_hour_0 ++ dktX10_hour_1
theorem dksX10_hour_0 : cX10_hour.data.toList.drop 0 = dktX10_hour_0 := by decide +kernel
theorem dksX10_hour_1 : cX10_hour.data.toList.drop 24 = dktX10_hour_1 := dk_seg dksX10_hour_0 24 rfl rfl
theorem dX10_hour_0 : decode cX10_hour 0 = .ok (.iload_n 1, 1) := dk_27 (dk_at dksX10_hour_0 0 rfl rfl)
theorem dX10_hour_1 : decode cX10_hour 1 = .ok (.iconst 0, 1) := dk_3 (dk_at dksX10_hour_0 1 rfl rfl)
theorem dX10_hour_2 : decode cX10_hour 2 = .ok (.bipush 7, 2) := dk_16 7 (dk_at dksX10_hour_0 2 rfl rfl)
theorem dX10_hour_4 : decode cX10_hour 4 = .ok (.invokestatic 78, 3) := dk_184 0 78 (dk_at dksX10_hour_0 4 rfl rfl)
theorem dX10_hour_7 : decode cX10_hour 7 = .ok (.ifCond .eq 26, 3) := dk_153 0 26 (dk_at dksX10_hour_0 7 rfl rfl)
theorem dX10_hour_10 : decode cX10_hour 10 = .ok (.iload_n 2, 1) := dk_28 (dk_at dksX10_hour_0 10 rfl rfl)
theorem dX10_hour_11 : decode cX10_hour 11 = .ok (.iconst 0, 1) := dk_3 (dk_at dksX10_hour_0 11 rfl rfl)
theorem dX10_hour_12 : decode cX10_hour 12 = .ok (.bipush 24, 2) := dk_16 24 (dk_at dksX10_hour_0 12 rfl rfl)
theorem dX10_hour_14 : decode cX10_hour 14 = .ok (.invokestatic 78, 3) := dk_184 0 78 (dk_at dksX10_hour_0 14 rfl rfl)
theorem dX10_hour_17 : decode cX10_hour 17 = .ok (.ifCond .eq 16, 3) := dk_153 0 16 (dk_at dksX10_hour_0 17 rfl rfl)
theorem dX10_hour_20 : decode cX10_hour 20 = .ok (.aload_n 0, 1) := dk_42 (dk_at dksX10_hour_0 20 rfl rfl)
theorem dX10_hour_21 : decode cX10_hour 21 = .ok (.sipush 284, 3) := dk_17 1 28 (dk_at dksX10_hour_0 21 rfl rfl)
theorem dX10_hour_24 : decode cX10_hour 24 = .ok (.iload_n 1, 1) := dk_27 (dk_at dksX10_hour_1 0 rfl rfl)
theorem dX10_hour_25 : decode cX10_hour 25 = .ok (.iadd, 1) := dk_96 (dk_at dksX10_hour_1 1 rfl rfl)
theorem dX10_hour_26 : decode cX10_hour 26 = .ok (.iload_n 2, 1) := dk_28 (dk_at dksX10_hour_1 2 rfl rfl)
theorem dX10_hour_27 : decode cX10_hour 27 = .ok (.invokevirtual 83, 3) := dk_182 0 83 (dk_at dksX10_hour_1 3 rfl rfl)
theorem dX10_hour_30 : decode cX10_hour 30 = .ok (.goto 9, 3) := dk_167 0 9 (dk_at dksX10_hour_1 6 rfl rfl)
theorem dX10_hour_33 : decode cX10_hour 33 = .ok (.aload_n 0, 1) := dk_42 (dk_at dksX10_hour_1 9 rfl rfl)
theorem dX10_hour_34 : decode cX10_hour 34 = .ok (.ldc 87, 2) := dk_18 87 (dk_at dksX10_hour_1 10 rfl rfl)
theorem dX10_hour_36 : decode cX10_hour 36 = .ok (.invokevirtual 88, 3) := dk_182 0 88 (dk_at dksX10_hour_1 12 rfl rfl)
theorem dX10_hour_39 : decode cX10_hour 39 = .ok (.ireturn, 1) := dk_172 (dk_at dksX10_hour_1 15 rfl rfl)
abbrev cX10_table : ByteArray := prog_37_method_87_code
def yX10_table : MethodName := ⟨RX10, "table", "(III)J"⟩
def dkwX10_table_1 : List UInt8 := [154, 0, 11, 42, 18, 87, 182, 0, 88, 133, 173, 42, 28, 29, 182, 1, 42, 42, 180, 0, 54, 27, 47, 173]
abbrev dktX10_table_1 : List UInt8 := dkwX10_table_1 ++ []
def dkwX10_table_0 : List UInt8 := [27, 3, 16, 8, 184, 0, 78, 153, 0, 20, 28, 184, 1, 13, 153, 0, 13, 29, 3, 16, 24, 184, 0, 78]
abbrev dktX10_table_0 : List UInt8 := dkwX10_table_0 ++ dktX10_table_1
theorem dksX10_table_0 : cX10_table.data.toList.drop 0 = dktX10_table_0 := by decide +kernel
theorem dksX10_table_1 : cX10_table.data.toList.drop 24 = dktX10_table_1 := dk_seg dksX10_table_0 24 rfl rfl
theorem dX10_table_0 : decode cX10_table 0 = .ok (.iload_n 1, 1) := dk_27 (dk_at dksX10_table_0 0 rfl rfl)
theorem dX10_table_1 : decode cX10_table 1 = .ok (.iconst 0, 1) := dk_3 (dk_at dksX10_table_0 1 rfl rfl)
theorem dX10_table_2 : decode cX10_table 2 = .ok (.bipush 8, 2) := dk_16 8 (dk_at dksX10_table_0 2 rfl rfl)
theorem dX10_table_4 : decode cX10_table 4 = .ok (.invokestatic 78, 3) := dk_184 0 78 (dk_at dksX10_table_0 4 rfl rfl)
theorem dX10_table_7 : decode cX10_table 7 = .ok (.ifCond .eq 20, 3) := dk_153 0 20 (dk_at dksX10_table_0 7 rfl rfl)
theorem dX10_table_10 : decode cX10_table 10 = .ok (.iload_n 2, 1) := dk_28 (dk_at dksX10_table_0 10 rfl rfl)
theorem dX10_table_11 : decode cX10_table 11 = .ok (.invokestatic 269, 3) := dk_184 1 13 (dk_at dksX10_table_0 11 rfl rfl)
theorem dX10_table_14 : decode cX10_table 14 = .ok (.ifCond .eq 13, 3) := dk_153 0 13 (dk_at dksX10_table_0 14 rfl rfl)
theorem dX10_table_17 : decode cX10_table 17 = .ok (.iload_n 3, 1) := dk_29 (dk_at dksX10_table_0 17 rfl rfl)
theorem dX10_table_18 : decode cX10_table 18 = .ok (.iconst 0, 1) := dk_3 (dk_at dksX10_table_0 18 rfl rfl)
theorem dX10_table_19 : decode cX10_table 19 = .ok (.bipush 24, 2) := dk_16 24 (dk_at dksX10_table_0 19 rfl rfl)
theorem dX10_table_21 : decode cX10_table 21 = .ok (.invokestatic 78, 3) := dk_184 0 78 (dk_at dksX10_table_0 21 rfl rfl)
theorem dX10_table_24 : decode cX10_table 24 = .ok (.ifCond .ne 11, 3) := dk_154 0 11 (dk_at dksX10_table_1 0 rfl rfl)
theorem dX10_table_27 : decode cX10_table 27 = .ok (.aload_n 0, 1) := dk_42 (dk_at dksX10_table_1 3 rfl rfl)
theorem dX10_table_28 : decode cX10_table 28 = .ok (.ldc 87, 2) := dk_18 87 (dk_at dksX10_table_1 4 rfl rfl)
theorem dX10_table_30 : decode cX10_table 30 = .ok (.invokevirtual 88, 3) := dk_182 0 88 (dk_at dksX10_table_1 6 rfl rfl)
theorem dX10_table_33 : decode cX10_table 33 = .ok (.i2l, 1) := dk_133 (dk_at dksX10_table_1 9 rfl rfl)
theorem dX10_table_34 : decode cX10_table 34 = .ok (.lreturn, 1) := dk_173 (dk_at dksX10_table_1 10 rfl rfl)
theorem dX10_table_35 : decode cX10_table 35 = .ok (.aload_n 0, 1) := dk_42 (dk_at dksX10_table_1 11 rfl rfl)
theorem dX10_table_36 : decode cX10_table 36 = .ok (.iload_n 2, 1) := dk_28 (dk_at dksX10_table_1 12 rfl rfl)
theorem dX10_table_37 : decode cX10_table 37 = .ok (.iload_n 3, 1) := dk_29 (dk_at dksX10_table_1 13 rfl rfl)
theorem dX10_table_38 : decode cX10_table 38 = .ok (.invokevirtual 298, 3) := dk_182 1 42 (dk_at dksX10_table_1 14 rfl rfl)
theorem dX10_table_41 : decode cX10_table 41 = .ok (.aload_n 0, 1) := dk_42 (dk_at dksX10_table_1 17 rfl rfl)
theorem dX10_table_42 : decode cX10_table 42 = .ok (.getfield 54, 3) := dk_180 0 54 (dk_at dksX10_table_1 18 rfl rfl)
theorem dX10_table_45 : decode cX10_table 45 = .ok (.iload_n 1, 1) := dk_27 (dk_at dksX10_table_1 21 rfl rfl)
theorem dX10_table_46 : decode cX10_table 46 = .ok (.laload, 1) := dk_47 (dk_at dksX10_table_1 22 rfl rfl)
theorem dX10_table_47 : decode cX10_table 47 = .ok (.lreturn, 1) := dk_173 (dk_at dksX10_table_1 23 rfl rfl)
abbrev cX10_findTables : ByteArray := prog_37_method_86_code
def yX10_findTables : MethodName := ⟨RX10, "findTables", "(II)V"⟩
def dkwX10_findTables_5 : List UInt8 := [22, 8, 184, 1, 40, 80, 132, 7, 255, 167, 255, 156, 177]
abbrev dktX10_findTables_5 : List UInt8 := dkwX10_findTables_5 ++ []
def dkwX10_findTables_4 : List UInt8 := [21, 7, 22, 8, 22, 10, 148, 158, 0, 7, 4, 167, 0, 4, 3, 84, 42, 180, 0, 54, 21, 7, 22, 10]
abbrev dktX10_findTables_4 : List UInt8 := dkwX10_findTables_4 ++ dktX10_findTables_5
def dkwX10_findTables_3 : List UInt8 := [180, 0, 9, 17, 1, 28, 21, 7, 96, 46, 3, 182, 0, 112, 133, 22, 5, 105, 55, 10, 42, 180, 0, 58]
abbrev dktX10_findTables_3 : List UInt8 := dkwX10_findTables_3 ++ dktX10_findTables_4
def dkwX10_findTables_2 : List UInt8 := [21, 7, 4, 96, 47, 105, 97, 55, 8, 22, 5, 21, 4, 133, 105, 55, 5, 42, 6, 21, 7, 42]
abbrev dktX10_findTables_2 : List UInt8 := dkwX10_findTables_2 ++ dktX10_findTables_3
def dkwX10_findTables_1 : List UInt8 := [54, 7, 21, 7, 155, 0, 101, 29, 28, 104, 133, 22, 5, 105, 21, 4, 29, 100, 133, 42, 180, 0, 54]
abbrev dktX10_findTables_1 : List UInt8 := dkwX10_findTables_1 ++ dktX10_findTables_2
def dkwX10_findTables_0 : List UInt8 := [27, 16, 10, 108, 62, 27, 16, 10, 112, 54, 4, 10, 55, 5, 42, 180, 0, 54, 16, 8, 9, 80, 16, 7]
abbrev dktX10_findTables_0 : List UInt8 := dkwX10_findTables_0 ++ dktX10_findTables_1
theorem dksX10_findTables_0 : cX10_findTables.data.toList.drop 0 = dktX10_findTables_0 := by decide +kernel
theorem dksX10_findTables_1 : cX10_findTables.data.toList.drop 24 = dktX10_findTables_1 := dk_seg dksX10_findTables_0 24 rfl rfl
theorem dksX10_findTables_2 : cX10_findTables.data.toList.drop 47 = dktX10_findTables_2 := dk_seg dksX10_findTables_1 23 rfl rfl
theorem dksX10_findTables_3 : cX10_findTables.data.toList.drop 69 = dktX10_findTables_3 := dk_seg dksX10_findTables_2 22 rfl rfl
theorem dksX10_findTables_4 : cX10_findTables.data.toList.drop 93 = dktX10_findTables_4 := dk_seg dksX10_findTables_3 24 rfl rfl
theorem dksX10_findTables_5 : cX10_findTables.data.toList.drop 117 = dktX10_findTables_5 := dk_seg dksX10_findTables_4 24 rfl rfl
theorem dX10_findTables_0 : decode cX10_findTables 0 = .ok (.iload_n 1, 1) := dk_27 (dk_at dksX10_findTables_0 0 rfl rfl)
theorem dX10_findTables_1 : decode cX10_findTables 1 = .ok (.bipush 10, 2) := dk_16 10 (dk_at dksX10_findTables_0 1 rfl rfl)
theorem dX10_findTables_3 : decode cX10_findTables 3 = .ok (.idiv, 1) := dk_108 (dk_at dksX10_findTables_0 3 rfl rfl)
theorem dX10_findTables_4 : decode cX10_findTables 4 = .ok (.istore_n 3, 1) := dk_62 (dk_at dksX10_findTables_0 4 rfl rfl)
theorem dX10_findTables_5 : decode cX10_findTables 5 = .ok (.iload_n 1, 1) := dk_27 (dk_at dksX10_findTables_0 5 rfl rfl)
theorem dX10_findTables_6 : decode cX10_findTables 6 = .ok (.bipush 10, 2) := dk_16 10 (dk_at dksX10_findTables_0 6 rfl rfl)
theorem dX10_findTables_8 : decode cX10_findTables 8 = .ok (.irem, 1) := dk_112 (dk_at dksX10_findTables_0 8 rfl rfl)
theorem dX10_findTables_9 : decode cX10_findTables 9 = .ok (.istore 4, 2) := dk_54 4 (dk_at dksX10_findTables_0 9 rfl rfl)
theorem dX10_findTables_11 : decode cX10_findTables 11 = .ok (.lconst 1, 1) := dk_10 (dk_at dksX10_findTables_0 11 rfl rfl)
theorem dX10_findTables_12 : decode cX10_findTables 12 = .ok (.lstore 5, 2) := dk_55 5 (dk_at dksX10_findTables_0 12 rfl rfl)
theorem dX10_findTables_14 : decode cX10_findTables 14 = .ok (.aload_n 0, 1) := dk_42 (dk_at dksX10_findTables_0 14 rfl rfl)
theorem dX10_findTables_15 : decode cX10_findTables 15 = .ok (.getfield 54, 3) := dk_180 0 54 (dk_at dksX10_findTables_0 15 rfl rfl)
theorem dX10_findTables_18 : decode cX10_findTables 18 = .ok (.bipush 8, 2) := dk_16 8 (dk_at dksX10_findTables_0 18 rfl rfl)
theorem dX10_findTables_20 : decode cX10_findTables 20 = .ok (.lconst 0, 1) := dk_9 (dk_at dksX10_findTables_0 20 rfl rfl)
theorem dX10_findTables_21 : decode cX10_findTables 21 = .ok (.lastore, 1) := dk_80 (dk_at dksX10_findTables_0 21 rfl rfl)
theorem dX10_findTables_22 : decode cX10_findTables 22 = .ok (.bipush 7, 2) := dk_16 7 (dk_at dksX10_findTables_0 22 rfl rfl)
theorem dX10_findTables_24 : decode cX10_findTables 24 = .ok (.istore 7, 2) := dk_54 7 (dk_at dksX10_findTables_1 0 rfl rfl)
theorem dX10_findTables_26 : decode cX10_findTables 26 = .ok (.iload 7, 2) := dk_21 7 (dk_at dksX10_findTables_1 2 rfl rfl)
theorem dX10_findTables_28 : decode cX10_findTables 28 = .ok (.ifCond .lt 101, 3) := dk_155 0 101 (dk_at dksX10_findTables_1 4 rfl rfl)
theorem dX10_findTables_31 : decode cX10_findTables 31 = .ok (.iload_n 3, 1) := dk_29 (dk_at dksX10_findTables_1 7 rfl rfl)
theorem dX10_findTables_32 : decode cX10_findTables 32 = .ok (.iload_n 2, 1) := dk_28 (dk_at dksX10_findTables_1 8 rfl rfl)
theorem dX10_findTables_33 : decode cX10_findTables 33 = .ok (.imul, 1) := dk_104 (dk_at dksX10_findTables_1 9 rfl rfl)
theorem dX10_findTables_34 : decode cX10_findTables 34 = .ok (.i2l, 1) := dk_133 (dk_at dksX10_findTables_1 10 rfl rfl)
theorem dX10_findTables_35 : decode cX10_findTables 35 = .ok (.lload 5, 2) := dk_22 5 (dk_at dksX10_findTables_1 11 rfl rfl)
theorem dX10_findTables_37 : decode cX10_findTables 37 = .ok (.lmul, 1) := dk_105 (dk_at dksX10_findTables_1 13 rfl rfl)
theorem dX10_findTables_38 : decode cX10_findTables 38 = .ok (.iload 4, 2) := dk_21 4 (dk_at dksX10_findTables_1 14 rfl rfl)
theorem dX10_findTables_40 : decode cX10_findTables 40 = .ok (.iload_n 3, 1) := dk_29 (dk_at dksX10_findTables_1 16 rfl rfl)
theorem dX10_findTables_41 : decode cX10_findTables 41 = .ok (.isub, 1) := dk_100 (dk_at dksX10_findTables_1 17 rfl rfl)
theorem dX10_findTables_42 : decode cX10_findTables 42 = .ok (.i2l, 1) := dk_133 (dk_at dksX10_findTables_1 18 rfl rfl)
theorem dX10_findTables_43 : decode cX10_findTables 43 = .ok (.aload_n 0, 1) := dk_42 (dk_at dksX10_findTables_1 19 rfl rfl)
theorem dX10_findTables_44 : decode cX10_findTables 44 = .ok (.getfield 54, 3) := dk_180 0 54 (dk_at dksX10_findTables_1 20 rfl rfl)
theorem dX10_findTables_47 : decode cX10_findTables 47 = .ok (.iload 7, 2) := dk_21 7 (dk_at dksX10_findTables_2 0 rfl rfl)
theorem dX10_findTables_49 : decode cX10_findTables 49 = .ok (.iconst 1, 1) := dk_4 (dk_at dksX10_findTables_2 2 rfl rfl)
theorem dX10_findTables_50 : decode cX10_findTables 50 = .ok (.iadd, 1) := dk_96 (dk_at dksX10_findTables_2 3 rfl rfl)
theorem dX10_findTables_51 : decode cX10_findTables 51 = .ok (.laload, 1) := dk_47 (dk_at dksX10_findTables_2 4 rfl rfl)
theorem dX10_findTables_52 : decode cX10_findTables 52 = .ok (.lmul, 1) := dk_105 (dk_at dksX10_findTables_2 5 rfl rfl)
theorem dX10_findTables_53 : decode cX10_findTables 53 = .ok (.ladd, 1) := dk_97 (dk_at dksX10_findTables_2 6 rfl rfl)
theorem dX10_findTables_54 : decode cX10_findTables 54 = .ok (.lstore 8, 2) := dk_55 8 (dk_at dksX10_findTables_2 7 rfl rfl)
theorem dX10_findTables_56 : decode cX10_findTables 56 = .ok (.lload 5, 2) := dk_22 5 (dk_at dksX10_findTables_2 9 rfl rfl)
theorem dX10_findTables_58 : decode cX10_findTables 58 = .ok (.iload 4, 2) := dk_21 4 (dk_at dksX10_findTables_2 11 rfl rfl)
theorem dX10_findTables_60 : decode cX10_findTables 60 = .ok (.i2l, 1) := dk_133 (dk_at dksX10_findTables_2 13 rfl rfl)
theorem dX10_findTables_61 : decode cX10_findTables 61 = .ok (.lmul, 1) := dk_105 (dk_at dksX10_findTables_2 14 rfl rfl)
theorem dX10_findTables_62 : decode cX10_findTables 62 = .ok (.lstore 5, 2) := dk_55 5 (dk_at dksX10_findTables_2 15 rfl rfl)
theorem dX10_findTables_64 : decode cX10_findTables 64 = .ok (.aload_n 0, 1) := dk_42 (dk_at dksX10_findTables_2 17 rfl rfl)
theorem dX10_findTables_65 : decode cX10_findTables 65 = .ok (.iconst 3, 1) := dk_6 (dk_at dksX10_findTables_2 18 rfl rfl)
theorem dX10_findTables_66 : decode cX10_findTables 66 = .ok (.iload 7, 2) := dk_21 7 (dk_at dksX10_findTables_2 19 rfl rfl)
theorem dX10_findTables_68 : decode cX10_findTables 68 = .ok (.aload_n 0, 1) := dk_42 (dk_at dksX10_findTables_2 21 rfl rfl)
theorem dX10_findTables_69 : decode cX10_findTables 69 = .ok (.getfield 9, 3) := dk_180 0 9 (dk_at dksX10_findTables_3 0 rfl rfl)
theorem dX10_findTables_72 : decode cX10_findTables 72 = .ok (.sipush 284, 3) := dk_17 1 28 (dk_at dksX10_findTables_3 3 rfl rfl)
theorem dX10_findTables_75 : decode cX10_findTables 75 = .ok (.iload 7, 2) := dk_21 7 (dk_at dksX10_findTables_3 6 rfl rfl)
theorem dX10_findTables_77 : decode cX10_findTables 77 = .ok (.iadd, 1) := dk_96 (dk_at dksX10_findTables_3 8 rfl rfl)
theorem dX10_findTables_78 : decode cX10_findTables 78 = .ok (.iaload, 1) := dk_46 (dk_at dksX10_findTables_3 9 rfl rfl)
theorem dX10_findTables_79 : decode cX10_findTables 79 = .ok (.iconst 0, 1) := dk_3 (dk_at dksX10_findTables_3 10 rfl rfl)
theorem dX10_findTables_80 : decode cX10_findTables 80 = .ok (.invokevirtual 112, 3) := dk_182 0 112 (dk_at dksX10_findTables_3 11 rfl rfl)
theorem dX10_findTables_83 : decode cX10_findTables 83 = .ok (.i2l, 1) := dk_133 (dk_at dksX10_findTables_3 14 rfl rfl)
theorem dX10_findTables_84 : decode cX10_findTables 84 = .ok (.lload 5, 2) := dk_22 5 (dk_at dksX10_findTables_3 15 rfl rfl)
theorem dX10_findTables_86 : decode cX10_findTables 86 = .ok (.lmul, 1) := dk_105 (dk_at dksX10_findTables_3 17 rfl rfl)
theorem dX10_findTables_87 : decode cX10_findTables 87 = .ok (.lstore 10, 2) := dk_55 10 (dk_at dksX10_findTables_3 18 rfl rfl)
theorem dX10_findTables_89 : decode cX10_findTables 89 = .ok (.aload_n 0, 1) := dk_42 (dk_at dksX10_findTables_3 20 rfl rfl)
theorem dX10_findTables_90 : decode cX10_findTables 90 = .ok (.getfield 58, 3) := dk_180 0 58 (dk_at dksX10_findTables_3 21 rfl rfl)
theorem dX10_findTables_93 : decode cX10_findTables 93 = .ok (.iload 7, 2) := dk_21 7 (dk_at dksX10_findTables_4 0 rfl rfl)
theorem dX10_findTables_95 : decode cX10_findTables 95 = .ok (.lload 8, 2) := dk_22 8 (dk_at dksX10_findTables_4 2 rfl rfl)
theorem dX10_findTables_97 : decode cX10_findTables 97 = .ok (.lload 10, 2) := dk_22 10 (dk_at dksX10_findTables_4 4 rfl rfl)
theorem dX10_findTables_99 : decode cX10_findTables 99 = .ok (.lcmp, 1) := dk_148 (dk_at dksX10_findTables_4 6 rfl rfl)
theorem dX10_findTables_100 : decode cX10_findTables 100 = .ok (.ifCond .le 7, 3) := dk_158 0 7 (dk_at dksX10_findTables_4 7 rfl rfl)
theorem dX10_findTables_103 : decode cX10_findTables 103 = .ok (.iconst 1, 1) := dk_4 (dk_at dksX10_findTables_4 10 rfl rfl)
theorem dX10_findTables_104 : decode cX10_findTables 104 = .ok (.goto 4, 3) := dk_167 0 4 (dk_at dksX10_findTables_4 11 rfl rfl)
theorem dX10_findTables_107 : decode cX10_findTables 107 = .ok (.iconst 0, 1) := dk_3 (dk_at dksX10_findTables_4 14 rfl rfl)
theorem dX10_findTables_108 : decode cX10_findTables 108 = .ok (.bastore, 1) := dk_84 (dk_at dksX10_findTables_4 15 rfl rfl)
theorem dX10_findTables_109 : decode cX10_findTables 109 = .ok (.aload_n 0, 1) := dk_42 (dk_at dksX10_findTables_4 16 rfl rfl)
theorem dX10_findTables_110 : decode cX10_findTables 110 = .ok (.getfield 54, 3) := dk_180 0 54 (dk_at dksX10_findTables_4 17 rfl rfl)
theorem dX10_findTables_113 : decode cX10_findTables 113 = .ok (.iload 7, 2) := dk_21 7 (dk_at dksX10_findTables_4 20 rfl rfl)
theorem dX10_findTables_115 : decode cX10_findTables 115 = .ok (.lload 10, 2) := dk_22 10 (dk_at dksX10_findTables_4 22 rfl rfl)
theorem dX10_findTables_117 : decode cX10_findTables 117 = .ok (.lload 8, 2) := dk_22 8 (dk_at dksX10_findTables_5 0 rfl rfl)
theorem dX10_findTables_119 : decode cX10_findTables 119 = .ok (.invokestatic 296, 3) := dk_184 1 40 (dk_at dksX10_findTables_5 2 rfl rfl)
theorem dX10_findTables_122 : decode cX10_findTables 122 = .ok (.lastore, 1) := dk_80 (dk_at dksX10_findTables_5 5 rfl rfl)
theorem dX10_findTables_123 : decode cX10_findTables 123 = .ok (.iinc 7 (-1), 3) := dk_132 7 255 (dk_at dksX10_findTables_5 6 rfl rfl)
theorem dX10_findTables_126 : decode cX10_findTables 126 = .ok (.goto (-100), 3) := dk_167 255 156 (dk_at dksX10_findTables_5 9 rfl rfl)
theorem dX10_findTables_129 : decode cX10_findTables 129 = .ok (.return_, 1) := dk_177 (dk_at dksX10_findTables_5 12 rfl rfl)
abbrev cX10_decide : ByteArray := prog_37_method_88_code
def yX10_decide : MethodName := ⟨RX10, "decide", "(III)I"⟩
def dkwX10_decide_2 : List UInt8 := [153, 0, 7, 4, 167, 0, 4, 3, 172]
abbrev dktX10_decide_2 : List UInt8 := dkwX10_decide_2 ++ []
def dkwX10_decide_1 : List UInt8 := [154, 0, 10, 42, 18, 87, 182, 0, 88, 172, 42, 28, 29, 182, 1, 42, 42, 180, 0, 58, 27, 51]
abbrev dktX10_decide_1 : List UInt8 := dkwX10_decide_1 ++ dktX10_decide_2
def dkwX10_decide_0 : List UInt8 := [27, 3, 16, 7, 184, 0, 78, 153, 0, 20, 28, 184, 1, 13, 153, 0, 13, 29, 3, 16, 24, 184, 0, 78]
abbrev dktX10_decide_0 : List UInt8 := dkwX10_decide_0 ++ dktX10_decide_1
theorem dksX10_decide_0 : cX10_decide.data.toList.drop 0 = dktX10_decide_0 := by decide +kernel
theorem dksX10_decide_1 : cX10_decide.data.toList.drop 24 = dktX10_decide_1 := dk_seg dksX10_decide_0 24 rfl rfl
theorem dksX10_decide_2 : cX10_decide.data.toList.drop 46 = dktX10_decide_2 := dk_seg dksX10_decide_1 22 rfl rfl
theorem dX10_decide_0 : decode cX10_decide 0 = .ok (.iload_n 1, 1) := dk_27 (dk_at dksX10_decide_0 0 rfl rfl)
theorem dX10_decide_1 : decode cX10_decide 1 = .ok (.iconst 0, 1) := dk_3 (dk_at dksX10_decide_0 1 rfl rfl)
theorem dX10_decide_2 : decode cX10_decide 2 = .ok (.bipush 7, 2) := dk_16 7 (dk_at dksX10_decide_0 2 rfl rfl)
theorem dX10_decide_4 : decode cX10_decide 4 = .ok (.invokestatic 78, 3) := dk_184 0 78 (dk_at dksX10_decide_0 4 rfl rfl)
theorem dX10_decide_7 : decode cX10_decide 7 = .ok (.ifCond .eq 20, 3) := dk_153 0 20 (dk_at dksX10_decide_0 7 rfl rfl)
theorem dX10_decide_10 : decode cX10_decide 10 = .ok (.iload_n 2, 1) := dk_28 (dk_at dksX10_decide_0 10 rfl rfl)
theorem dX10_decide_11 : decode cX10_decide 11 = .ok (.invokestatic 269, 3) := dk_184 1 13 (dk_at dksX10_decide_0 11 rfl rfl)
theorem dX10_decide_14 : decode cX10_decide 14 = .ok (.ifCond .eq 13, 3) := dk_153 0 13 (dk_at dksX10_decide_0 14 rfl rfl)
theorem dX10_decide_17 : decode cX10_decide 17 = .ok (.iload_n 3, 1) := dk_29 (dk_at dksX10_decide_0 17 rfl rfl)
theorem dX10_decide_18 : decode cX10_decide 18 = .ok (.iconst 0, 1) := dk_3 (dk_at dksX10_decide_0 18 rfl rfl)
theorem dX10_decide_19 : decode cX10_decide 19 = .ok (.bipush 24, 2) := dk_16 24 (dk_at dksX10_decide_0 19 rfl rfl)
theorem dX10_decide_21 : decode cX10_decide 21 = .ok (.invokestatic 78, 3) := dk_184 0 78 (dk_at dksX10_decide_0 21 rfl rfl)
theorem dX10_decide_24 : decode cX10_decide 24 = .ok (.ifCond .ne 10, 3) := dk_154 0 10 (dk_at dksX10_decide_1 0 rfl rfl)
theorem dX10_decide_27 : decode cX10_decide 27 = .ok (.aload_n 0, 1) := dk_42 (dk_at dksX10_decide_1 3 rfl rfl)
theorem dX10_decide_28 : decode cX10_decide 28 = .ok (.ldc 87, 2) := dk_18 87 (dk_at dksX10_decide_1 4 rfl rfl)
theorem dX10_decide_30 : decode cX10_decide 30 = .ok (.invokevirtual 88, 3) := dk_182 0 88 (dk_at dksX10_decide_1 6 rfl rfl)
theorem dX10_decide_33 : decode cX10_decide 33 = .ok (.ireturn, 1) := dk_172 (dk_at dksX10_decide_1 9 rfl rfl)
theorem dX10_decide_34 : decode cX10_decide 34 = .ok (.aload_n 0, 1) := dk_42 (dk_at dksX10_decide_1 10 rfl rfl)
theorem dX10_decide_35 : decode cX10_decide 35 = .ok (.iload_n 2, 1) := dk_28 (dk_at dksX10_decide_1 11 rfl rfl)
theorem dX10_decide_36 : decode cX10_decide 36 = .ok (.iload_n 3, 1) := dk_29 (dk_at dksX10_decide_1 12 rfl rfl)
theorem dX10_decide_37 : decode cX10_decide 37 = .ok (.invokevirtual 298, 3) := dk_182 1 42 (dk_at dksX10_decide_1 13 rfl rfl)
theorem dX10_decide_40 : decode cX10_decide 40 = .ok (.aload_n 0, 1) := dk_42 (dk_at dksX10_decide_1 16 rfl rfl)
theorem dX10_decide_41 : decode cX10_decide 41 = .ok (.getfield 58, 3) := dk_180 0 58 (dk_at dksX10_decide_1 17 rfl rfl)
theorem dX10_decide_44 : decode cX10_decide 44 = .ok (.iload_n 1, 1) := dk_27 (dk_at dksX10_decide_1 20 rfl rfl)
theorem dX10_decide_45 : decode cX10_decide 45 = .ok (.baload, 1) := dk_51 (dk_at dksX10_decide_1 21 rfl rfl)
theorem dX10_decide_46 : decode cX10_decide 46 = .ok (.ifCond .eq 7, 3) := dk_153 0 7 (dk_at dksX10_decide_2 0 rfl rfl)
theorem dX10_decide_49 : decode cX10_decide 49 = .ok (.iconst 1, 1) := dk_4 (dk_at dksX10_decide_2 3 rfl rfl)
theorem dX10_decide_50 : decode cX10_decide 50 = .ok (.goto 4, 3) := dk_167 0 4 (dk_at dksX10_decide_2 4 rfl rfl)
theorem dX10_decide_53 : decode cX10_decide 53 = .ok (.iconst 0, 1) := dk_3 (dk_at dksX10_decide_2 7 rfl rfl)
theorem dX10_decide_54 : decode cX10_decide 54 = .ok (.ireturn, 1) := dk_172 (dk_at dksX10_decide_2 8 rfl rfl)
abbrev cX10_cause : ByteArray := prog_37_method_89_code
def yX10_cause : MethodName := ⟨RX10, "cause", "(II)I"⟩
def dkwX10_cause_3 : List UInt8 := [17, 1, 36, 5, 29, 104, 96, 4, 96, 28, 79, 42, 180, 0, 9, 8, 92, 46, 4, 96, 79, 29, 172]
abbrev dktX10_cause_3 : List UInt8 := dkwX10_cause_3 ++ []
def dkwX10_cause_2 : List UInt8 := [42, 18, 96, 182, 0, 88, 172, 42, 180, 0, 9, 17, 1, 36, 5, 29, 104, 96, 27, 79, 42, 180, 0, 9]
abbrev dktX10_cause_2 : List UInt8 := dkwX10_cause_2 ++ dktX10_cause_3
def dkwX10_cause_1 : List UInt8 := [126, 153, 0, 10, 42, 18, 87, 182, 0, 88, 172, 42, 180, 0, 9, 8, 46, 62, 29, 16, 10, 160, 0, 10]
abbrev dktX10_cause_1 : List UInt8 := dkwX10_cause_1 ++ dktX10_cause_2
def dkwX10_cause_0 : List UInt8 := [27, 3, 17, 15, 255, 184, 0, 78, 153, 0, 20, 28, 3, 17, 15, 255, 184, 0, 78, 153, 0, 9, 27, 28]
abbrev dktX10_cause_0 : List UInt8 := dkwX10_cause_0 ++ dktX10_cause_1
theorem dksX10_cause_0 : cX10_cause.data.toList.drop 0 = dktX10_cause_0 := by decide +kernel
theorem dksX10_cause_1 : cX10_cause.data.toList.drop 24 = dktX10_cause_1 := dk_seg dksX10_cause_0 24 rfl rfl
theorem dksX10_cause_2 : cX10_cause.data.toList.drop 48 = dktX10_cause_2 := dk_seg dksX10_cause_1 24 rfl rfl
theorem dksX10_cause_3 : cX10_cause.data.toList.drop 72 = dktX10_cause_3 := dk_seg dksX10_cause_2 24 rfl rfl
theorem dX10_cause_0 : decode cX10_cause 0 = .ok (.iload_n 1, 1) := dk_27 (dk_at dksX10_cause_0 0 rfl rfl)
theorem dX10_cause_1 : decode cX10_cause 1 = .ok (.iconst 0, 1) := dk_3 (dk_at dksX10_cause_0 1 rfl rfl)
theorem dX10_cause_2 : decode cX10_cause 2 = .ok (.sipush 4095, 3) := dk_17 15 255 (dk_at dksX10_cause_0 2 rfl rfl)
theorem dX10_cause_5 : decode cX10_cause 5 = .ok (.invokestatic 78, 3) := dk_184 0 78 (dk_at dksX10_cause_0 5 rfl rfl)
theorem dX10_cause_8 : decode cX10_cause 8 = .ok (.ifCond .eq 20, 3) := dk_153 0 20 (dk_at dksX10_cause_0 8 rfl rfl)
theorem dX10_cause_11 : decode cX10_cause 11 = .ok (.iload_n 2, 1) := dk_28 (dk_at dksX10_cause_0 11 rfl rfl)
theorem dX10_cause_12 : decode cX10_cause 12 = .ok (.iconst 0, 1) := dk_3 (dk_at dksX10_cause_0 12 rfl rfl)
theorem dX10_cause_13 : decode cX10_cause 13 = .ok (.sipush 4095, 3) := dk_17 15 255 (dk_at dksX10_cause_0 13 rfl rfl)
theorem dX10_cause_16 : decode cX10_cause 16 = .ok (.invokestatic 78, 3) := dk_184 0 78 (dk_at dksX10_cause_0 16 rfl rfl)
theorem dX10_cause_19 : decode cX10_cause 19 = .ok (.ifCond .eq 9, 3) := dk_153 0 9 (dk_at dksX10_cause_0 19 rfl rfl)
theorem dX10_cause_22 : decode cX10_cause 22 = .ok (.iload_n 1, 1) := dk_27 (dk_at dksX10_cause_0 22 rfl rfl)
theorem dX10_cause_23 : decode cX10_cause 23 = .ok (.iload_n 2, 1) := dk_28 (dk_at dksX10_cause_0 23 rfl rfl)
theorem dX10_cause_24 : decode cX10_cause 24 = .ok (.iand, 1) := dk_126 (dk_at dksX10_cause_1 0 rfl rfl)
theorem dX10_cause_25 : decode cX10_cause 25 = .ok (.ifCond .eq 10, 3) := dk_153 0 10 (dk_at dksX10_cause_1 1 rfl rfl)
theorem dX10_cause_28 : decode cX10_cause 28 = .ok (.aload_n 0, 1) := dk_42 (dk_at dksX10_cause_1 4 rfl rfl)
theorem dX10_cause_29 : decode cX10_cause 29 = .ok (.ldc 87, 2) := dk_18 87 (dk_at dksX10_cause_1 5 rfl rfl)
theorem dX10_cause_31 : decode cX10_cause 31 = .ok (.invokevirtual 88, 3) := dk_182 0 88 (dk_at dksX10_cause_1 7 rfl rfl)
theorem dX10_cause_34 : decode cX10_cause 34 = .ok (.ireturn, 1) := dk_172 (dk_at dksX10_cause_1 10 rfl rfl)
theorem dX10_cause_35 : decode cX10_cause 35 = .ok (.aload_n 0, 1) := dk_42 (dk_at dksX10_cause_1 11 rfl rfl)
theorem dX10_cause_36 : decode cX10_cause 36 = .ok (.getfield 9, 3) := dk_180 0 9 (dk_at dksX10_cause_1 12 rfl rfl)
theorem dX10_cause_39 : decode cX10_cause 39 = .ok (.iconst 5, 1) := dk_8 (dk_at dksX10_cause_1 15 rfl rfl)
theorem dX10_cause_40 : decode cX10_cause 40 = .ok (.iaload, 1) := dk_46 (dk_at dksX10_cause_1 16 rfl rfl)
theorem dX10_cause_41 : decode cX10_cause 41 = .ok (.istore_n 3, 1) := dk_62 (dk_at dksX10_cause_1 17 rfl rfl)
theorem dX10_cause_42 : decode cX10_cause 42 = .ok (.iload_n 3, 1) := dk_29 (dk_at dksX10_cause_1 18 rfl rfl)
theorem dX10_cause_43 : decode cX10_cause 43 = .ok (.bipush 10, 2) := dk_16 10 (dk_at dksX10_cause_1 19 rfl rfl)
theorem dX10_cause_45 : decode cX10_cause 45 = .ok (.if_icmp .ne 10, 3) := dk_160 0 10 (dk_at dksX10_cause_1 21 rfl rfl)
theorem dX10_cause_48 : decode cX10_cause 48 = .ok (.aload_n 0, 1) := dk_42 (dk_at dksX10_cause_2 0 rfl rfl)
theorem dX10_cause_49 : decode cX10_cause 49 = .ok (.ldc 96, 2) := dk_18 96 (dk_at dksX10_cause_2 1 rfl rfl)
theorem dX10_cause_51 : decode cX10_cause 51 = .ok (.invokevirtual 88, 3) := dk_182 0 88 (dk_at dksX10_cause_2 3 rfl rfl)
theorem dX10_cause_54 : decode cX10_cause 54 = .ok (.ireturn, 1) := dk_172 (dk_at dksX10_cause_2 6 rfl rfl)
theorem dX10_cause_55 : decode cX10_cause 55 = .ok (.aload_n 0, 1) := dk_42 (dk_at dksX10_cause_2 7 rfl rfl)
theorem dX10_cause_56 : decode cX10_cause 56 = .ok (.getfield 9, 3) := dk_180 0 9 (dk_at dksX10_cause_2 8 rfl rfl)
theorem dX10_cause_59 : decode cX10_cause 59 = .ok (.sipush 292, 3) := dk_17 1 36 (dk_at dksX10_cause_2 11 rfl rfl)
theorem dX10_cause_62 : decode cX10_cause 62 = .ok (.iconst 2, 1) := dk_5 (dk_at dksX10_cause_2 14 rfl rfl)
theorem dX10_cause_63 : decode cX10_cause 63 = .ok (.iload_n 3, 1) := dk_29 (dk_at dksX10_cause_2 15 rfl rfl)
theorem dX10_cause_64 : decode cX10_cause 64 = .ok (.imul, 1) := dk_104 (dk_at dksX10_cause_2 16 rfl rfl)
theorem dX10_cause_65 : decode cX10_cause 65 = .ok (.iadd, 1) := dk_96 (dk_at dksX10_cause_2 17 rfl rfl)
theorem dX10_cause_66 : decode cX10_cause 66 = .ok (.iload_n 1, 1) := dk_27 (dk_at dksX10_cause_2 18 rfl rfl)
theorem dX10_cause_67 : decode cX10_cause 67 = .ok (.iastore, 1) := dk_79 (dk_at dksX10_cause_2 19 rfl rfl)
theorem dX10_cause_68 : decode cX10_cause 68 = .ok (.aload_n 0, 1) := dk_42 (dk_at dksX10_cause_2 20 rfl rfl)
theorem dX10_cause_69 : decode cX10_cause 69 = .ok (.getfield 9, 3) := dk_180 0 9 (dk_at dksX10_cause_2 21 rfl rfl)
theorem dX10_cause_72 : decode cX10_cause 72 = .ok (.sipush 292, 3) := dk_17 1 36 (dk_at dksX10_cause_3 0 rfl rfl)
theorem dX10_cause_75 : decode cX10_cause 75 = .ok (.iconst 2, 1) := dk_5 (dk_at dksX10_cause_3 3 rfl rfl)
theorem dX10_cause_76 : decode cX10_cause 76 = .ok (.iload_n 3, 1) := dk_29 (dk_at dksX10_cause_3 4 rfl rfl)
theorem dX10_cause_77 : decode cX10_cause 77 = .ok (.imul, 1) := dk_104 (dk_at dksX10_cause_3 5 rfl rfl)
theorem dX10_cause_78 : decode cX10_cause 78 = .ok (.iadd, 1) := dk_96 (dk_at dksX10_cause_3 6 rfl rfl)
theorem dX10_cause_79 : decode cX10_cause 79 = .ok (.iconst 1, 1) := dk_4 (dk_at dksX10_cause_3 7 rfl rfl)
theorem dX10_cause_80 : decode cX10_cause 80 = .ok (.iadd, 1) := dk_96 (dk_at dksX10_cause_3 8 rfl rfl)
theorem dX10_cause_81 : decode cX10_cause 81 = .ok (.iload_n 2, 1) := dk_28 (dk_at dksX10_cause_3 9 rfl rfl)
theorem dX10_cause_82 : decode cX10_cause 82 = .ok (.iastore, 1) := dk_79 (dk_at dksX10_cause_3 10 rfl rfl)
theorem dX10_cause_83 : decode cX10_cause 83 = .ok (.aload_n 0, 1) := dk_42 (dk_at dksX10_cause_3 11 rfl rfl)
theorem dX10_cause_84 : decode cX10_cause 84 = .ok (.getfield 9, 3) := dk_180 0 9 (dk_at dksX10_cause_3 12 rfl rfl)
theorem dX10_cause_87 : decode cX10_cause 87 = .ok (.iconst 5, 1) := dk_8 (dk_at dksX10_cause_3 15 rfl rfl)
theorem dX10_cause_88 : decode cX10_cause 88 = .ok (.dup2, 1) := dk_92 (dk_at dksX10_cause_3 16 rfl rfl)
theorem dX10_cause_89 : decode cX10_cause 89 = .ok (.iaload, 1) := dk_46 (dk_at dksX10_cause_3 17 rfl rfl)
theorem dX10_cause_90 : decode cX10_cause 90 = .ok (.iconst 1, 1) := dk_4 (dk_at dksX10_cause_3 18 rfl rfl)
theorem dX10_cause_91 : decode cX10_cause 91 = .ok (.iadd, 1) := dk_96 (dk_at dksX10_cause_3 19 rfl rfl)
theorem dX10_cause_92 : decode cX10_cause 92 = .ok (.iastore, 1) := dk_79 (dk_at dksX10_cause_3 20 rfl rfl)
theorem dX10_cause_93 : decode cX10_cause 93 = .ok (.iload_n 3, 1) := dk_29 (dk_at dksX10_cause_3 21 rfl rfl)
theorem dX10_cause_94 : decode cX10_cause 94 = .ok (.ireturn, 1) := dk_172 (dk_at dksX10_cause_3 22 rfl rfl)
abbrev cX10_found : ByteArray := prog_37_method_90_code
def yX10_found : MethodName := ⟨RX10, "found", "(II)I"⟩
def dkwX10_found_1 : List UInt8 := [96, 28, 182, 0, 83, 167, 0, 9, 42, 18, 87, 182, 0, 88, 172]
abbrev dktX10_found_1 : List UInt8 := dkwX10_found_1 ++ []
def dkwX10_found_0 : List UInt8 := [27, 3, 16, 11, 184, 0, 78, 153, 0, 25, 28, 2, 4, 184, 0, 78, 153, 0, 16, 42, 17, 1, 56, 27]
abbrev dktX10_found_0 : List UInt8 := dkwX10_found_0 ++ dktX10_found_1
theorem dksX10_found_0 : cX10_found.data.toList.drop 0 = dktX10_found_0 := by decide +kernel
theorem dksX10_found_1 : cX10_found.data.toList.drop 24 = dktX10_found_1 := dk_seg dksX10_found_0 24 rfl rfl
theorem dX10_found_0 : decode cX10_found 0 = .ok (.iload_n 1, 1) := dk_27 (dk_at dksX10_found_0 0 rfl rfl)
theorem dX10_found_1 : decode cX10_found 1 = .ok (.iconst 0, 1) := dk_3 (dk_at dksX10_found_0 1 rfl rfl)
theorem dX10_found_2 : decode cX10_found 2 = .ok (.bipush 11, 2) := dk_16 11 (dk_at dksX10_found_0 2 rfl rfl)
theorem dX10_found_4 : decode cX10_found 4 = .ok (.invokestatic 78, 3) := dk_184 0 78 (dk_at dksX10_found_0 4 rfl rfl)
theorem dX10_found_7 : decode cX10_found 7 = .ok (.ifCond .eq 25, 3) := dk_153 0 25 (dk_at dksX10_found_0 7 rfl rfl)
theorem dX10_found_10 : decode cX10_found 10 = .ok (.iload_n 2, 1) := dk_28 (dk_at dksX10_found_0 10 rfl rfl)
theorem dX10_found_11 : decode cX10_found 11 = .ok (.iconst (-1), 1) := dk_2 (dk_at dksX10_found_0 11 rfl rfl)
theorem dX10_found_12 : decode cX10_found 12 = .ok (.iconst 1, 1) := dk_4 (dk_at dksX10_found_0 12 rfl rfl)
theorem dX10_found_13 : decode cX10_found 13 = .ok (.invokestatic 78, 3) := dk_184 0 78 (dk_at dksX10_found_0 13 rfl rfl)
theorem dX10_found_16 : decode cX10_found 16 = .ok (.ifCond .eq 16, 3) := dk_153 0 16 (dk_at dksX10_found_0 16 rfl rfl)
theorem dX10_found_19 : decode cX10_found 19 = .ok (.aload_n 0, 1) := dk_42 (dk_at dksX10_found_0 19 rfl rfl)
theorem dX10_found_20 : decode cX10_found 20 = .ok (.sipush 312, 3) := dk_17 1 56 (dk_at dksX10_found_0 20 rfl rfl)
theorem dX10_found_23 : decode cX10_found 23 = .ok (.iload_n 1, 1) := dk_27 (dk_at dksX10_found_0 23 rfl rfl)
theorem dX10_found_24 : decode cX10_found 24 = .ok (.iadd, 1) := dk_96 (dk_at dksX10_found_1 0 rfl rfl)
theorem dX10_found_25 : decode cX10_found 25 = .ok (.iload_n 2, 1) := dk_28 (dk_at dksX10_found_1 1 rfl rfl)
theorem dX10_found_26 : decode cX10_found 26 = .ok (.invokevirtual 83, 3) := dk_182 0 83 (dk_at dksX10_found_1 2 rfl rfl)
theorem dX10_found_29 : decode cX10_found 29 = .ok (.goto 9, 3) := dk_167 0 9 (dk_at dksX10_found_1 5 rfl rfl)
theorem dX10_found_32 : decode cX10_found 32 = .ok (.aload_n 0, 1) := dk_42 (dk_at dksX10_found_1 8 rfl rfl)
theorem dX10_found_33 : decode cX10_found 33 = .ok (.ldc 87, 2) := dk_18 87 (dk_at dksX10_found_1 9 rfl rfl)
theorem dX10_found_35 : decode cX10_found 35 = .ok (.invokevirtual 88, 3) := dk_182 0 88 (dk_at dksX10_found_1 11 rfl rfl)
theorem dX10_found_38 : decode cX10_found 38 = .ok (.ireturn, 1) := dk_172 (dk_at dksX10_found_1 14 rfl rfl)
abbrev cX10_why : ByteArray := prog_37_method_92_code
def yX10_why : MethodName := ⟨RX10, "why", "()I"⟩
theorem dX10_why_0 : decode cX10_why 0 = .ok (.aload_n 0, 1) := by decide +kernel
theorem dX10_why_1 : decode cX10_why 1 = .ok (.invokevirtual 301, 3) := by decide +kernel
theorem dX10_why_4 : decode cX10_why 4 = .ok (.ireturn, 1) := by decide +kernel
abbrev cX10_mayBe : ByteArray := prog_37_method_91_code
def yX10_mayBe : MethodName := ⟨RX10, "mayBe", "()I"⟩
def dkwX10_mayBe_5 : List UInt8 := [28, 120, 167, 0, 4, 3, 128, 60, 132, 2, 1, 167, 255, 135, 27, 172]
abbrev dktX10_mayBe_5 : List UInt8 := dkwX10_mayBe_5 ++ []
def dkwX10_mayBe_4 : List UInt8 := [184, 0, 243, 154, 0, 7, 4, 167, 0, 4, 3, 62, 132, 4, 1, 167, 255, 170, 27, 29, 153, 0, 9, 4]
abbrev dktX10_mayBe_4 : List UInt8 := dkwX10_mayBe_4 ++ dktX10_mayBe_5
def dkwX10_mayBe_3 : List UInt8 := [154, 0, 32, 21, 5, 154, 0, 23, 42, 180, 0, 9, 17, 1, 36, 5, 28, 104, 96, 46, 21, 4]
abbrev dktX10_mayBe_3 : List UInt8 := dkwX10_mayBe_3 ++ dktX10_mayBe_4
def dkwX10_mayBe_2 : List UInt8 := [160, 0, 25, 42, 180, 0, 9, 17, 1, 36, 5, 28, 104, 96, 4, 96, 46, 21, 4, 184, 0, 243]
abbrev dktX10_mayBe_2 : List UInt8 := dkwX10_mayBe_2 ++ dktX10_mayBe_3
def dkwX10_mayBe_1 : List UInt8 := [162, 0, 85, 42, 180, 0, 9, 17, 1, 56, 21, 4, 96, 46, 54, 5, 29, 153, 0, 60, 21, 5, 4]
abbrev dktX10_mayBe_1 : List UInt8 := dkwX10_mayBe_1 ++ dktX10_mayBe_2
def dkwX10_mayBe_0 : List UInt8 := [3, 60, 3, 61, 28, 42, 180, 0, 9, 8, 46, 162, 0, 117, 4, 62, 3, 54, 4, 21, 4, 16, 12]
abbrev dktX10_mayBe_0 : List UInt8 := dkwX10_mayBe_0 ++ dktX10_mayBe_1
theorem dksX10_mayBe_0 : cX10_mayBe.data.toList.drop 0 = dktX10_mayBe_0 := by decide +kernel
theorem dksX10_mayBe_1 : cX10_mayBe.data.toList.drop 23 = dktX10_mayBe_1 := dk_seg dksX10_mayBe_0 23 rfl rfl
theorem dksX10_mayBe_2 : cX10_mayBe.data.toList.drop 46 = dktX10_mayBe_2 := dk_seg dksX10_mayBe_1 23 rfl rfl
theorem dksX10_mayBe_3 : cX10_mayBe.data.toList.drop 68 = dktX10_mayBe_3 := dk_seg dksX10_mayBe_2 22 rfl rfl
theorem dksX10_mayBe_4 : cX10_mayBe.data.toList.drop 90 = dktX10_mayBe_4 := dk_seg dksX10_mayBe_3 22 rfl rfl
theorem dksX10_mayBe_5 : cX10_mayBe.data.toList.drop 114 = dktX10_mayBe_5 := dk_seg dksX10_mayBe_4 24 rfl rfl
theorem dX10_mayBe_0 : decode cX10_mayBe 0 = .ok (.iconst 0, 1) := dk_3 (dk_at dksX10_mayBe_0 0 rfl rfl)
theorem dX10_mayBe_1 : decode cX10_mayBe 1 = .ok (.istore_n 1, 1) := dk_60 (dk_at dksX10_mayBe_0 1 rfl rfl)
theorem dX10_mayBe_2 : decode cX10_mayBe 2 = .ok (.iconst 0, 1) := dk_3 (dk_at dksX10_mayBe_0 2 rfl rfl)
theorem dX10_mayBe_3 : decode cX10_mayBe 3 = .ok (.istore_n 2, 1) := dk_61 (dk_at dksX10_mayBe_0 3 rfl rfl)
theorem dX10_mayBe_4 : decode cX10_mayBe 4 = .ok (.iload_n 2, 1) := dk_28 (dk_at dksX10_mayBe_0 4 rfl rfl)
theorem dX10_mayBe_5 : decode cX10_mayBe 5 = .ok (.aload_n 0, 1) := dk_42 (dk_at dksX10_mayBe_0 5 rfl rfl)
theorem dX10_mayBe_6 : decode cX10_mayBe 6 = .ok (.getfield 9, 3) := dk_180 0 9 (dk_at dksX10_mayBe_0 6 rfl rfl)
theorem dX10_mayBe_9 : decode cX10_mayBe 9 = .ok (.iconst 5, 1) := dk_8 (dk_at dksX10_mayBe_0 9 rfl rfl)
theorem dX10_mayBe_10 : decode cX10_mayBe 10 = .ok (.iaload, 1) := dk_46 (dk_at dksX10_mayBe_0 10 rfl rfl)
theorem dX10_mayBe_11 : decode cX10_mayBe 11 = .ok (.if_icmp .ge 117, 3) := dk_162 0 117 (dk_at dksX10_mayBe_0 11 rfl rfl)
theorem dX10_mayBe_14 : decode cX10_mayBe 14 = .ok (.iconst 1, 1) := dk_4 (dk_at dksX10_mayBe_0 14 rfl rfl)
theorem dX10_mayBe_15 : decode cX10_mayBe 15 = .ok (.istore_n 3, 1) := dk_62 (dk_at dksX10_mayBe_0 15 rfl rfl)
theorem dX10_mayBe_16 : decode cX10_mayBe 16 = .ok (.iconst 0, 1) := dk_3 (dk_at dksX10_mayBe_0 16 rfl rfl)
theorem dX10_mayBe_17 : decode cX10_mayBe 17 = .ok (.istore 4, 2) := dk_54 4 (dk_at dksX10_mayBe_0 17 rfl rfl)
theorem dX10_mayBe_19 : decode cX10_mayBe 19 = .ok (.iload 4, 2) := dk_21 4 (dk_at dksX10_mayBe_0 19 rfl rfl)
theorem dX10_mayBe_21 : decode cX10_mayBe 21 = .ok (.bipush 12, 2) := dk_16 12 (dk_at dksX10_mayBe_0 21 rfl rfl)
theorem dX10_mayBe_23 : decode cX10_mayBe 23 = .ok (.if_icmp .ge 85, 3) := dk_162 0 85 (dk_at dksX10_mayBe_1 0 rfl rfl)
theorem dX10_mayBe_26 : decode cX10_mayBe 26 = .ok (.aload_n 0, 1) := dk_42 (dk_at dksX10_mayBe_1 3 rfl rfl)
theorem dX10_mayBe_27 : decode cX10_mayBe 27 = .ok (.getfield 9, 3) := dk_180 0 9 (dk_at dksX10_mayBe_1 4 rfl rfl)
theorem dX10_mayBe_30 : decode cX10_mayBe 30 = .ok (.sipush 312, 3) := dk_17 1 56 (dk_at dksX10_mayBe_1 7 rfl rfl)
theorem dX10_mayBe_33 : decode cX10_mayBe 33 = .ok (.iload 4, 2) := dk_21 4 (dk_at dksX10_mayBe_1 10 rfl rfl)
theorem dX10_mayBe_35 : decode cX10_mayBe 35 = .ok (.iadd, 1) := dk_96 (dk_at dksX10_mayBe_1 12 rfl rfl)
theorem dX10_mayBe_36 : decode cX10_mayBe 36 = .ok (.iaload, 1) := dk_46 (dk_at dksX10_mayBe_1 13 rfl rfl)
theorem dX10_mayBe_37 : decode cX10_mayBe 37 = .ok (.istore 5, 2) := dk_54 5 (dk_at dksX10_mayBe_1 14 rfl rfl)
theorem dX10_mayBe_39 : decode cX10_mayBe 39 = .ok (.iload_n 3, 1) := dk_29 (dk_at dksX10_mayBe_1 16 rfl rfl)
theorem dX10_mayBe_40 : decode cX10_mayBe 40 = .ok (.ifCond .eq 60, 3) := dk_153 0 60 (dk_at dksX10_mayBe_1 17 rfl rfl)
theorem dX10_mayBe_43 : decode cX10_mayBe 43 = .ok (.iload 5, 2) := dk_21 5 (dk_at dksX10_mayBe_1 20 rfl rfl)
theorem dX10_mayBe_45 : decode cX10_mayBe 45 = .ok (.iconst 1, 1) := dk_4 (dk_at dksX10_mayBe_1 22 rfl rfl)
theorem dX10_mayBe_46 : decode cX10_mayBe 46 = .ok (.if_icmp .ne 25, 3) := dk_160 0 25 (dk_at dksX10_mayBe_2 0 rfl rfl)
theorem dX10_mayBe_49 : decode cX10_mayBe 49 = .ok (.aload_n 0, 1) := dk_42 (dk_at dksX10_mayBe_2 3 rfl rfl)
theorem dX10_mayBe_50 : decode cX10_mayBe 50 = .ok (.getfield 9, 3) := dk_180 0 9 (dk_at dksX10_mayBe_2 4 rfl rfl)
theorem dX10_mayBe_53 : decode cX10_mayBe 53 = .ok (.sipush 292, 3) := dk_17 1 36 (dk_at dksX10_mayBe_2 7 rfl rfl)
theorem dX10_mayBe_56 : decode cX10_mayBe 56 = .ok (.iconst 2, 1) := dk_5 (dk_at dksX10_mayBe_2 10 rfl rfl)
theorem dX10_mayBe_57 : decode cX10_mayBe 57 = .ok (.iload_n 2, 1) := dk_28 (dk_at dksX10_mayBe_2 11 rfl rfl)
theorem dX10_mayBe_58 : decode cX10_mayBe 58 = .ok (.imul, 1) := dk_104 (dk_at dksX10_mayBe_2 12 rfl rfl)
theorem dX10_mayBe_59 : decode cX10_mayBe 59 = .ok (.iadd, 1) := dk_96 (dk_at dksX10_mayBe_2 13 rfl rfl)
theorem dX10_mayBe_60 : decode cX10_mayBe 60 = .ok (.iconst 1, 1) := dk_4 (dk_at dksX10_mayBe_2 14 rfl rfl)
theorem dX10_mayBe_61 : decode cX10_mayBe 61 = .ok (.iadd, 1) := dk_96 (dk_at dksX10_mayBe_2 15 rfl rfl)
theorem dX10_mayBe_62 : decode cX10_mayBe 62 = .ok (.iaload, 1) := dk_46 (dk_at dksX10_mayBe_2 16 rfl rfl)
theorem dX10_mayBe_63 : decode cX10_mayBe 63 = .ok (.iload 4, 2) := dk_21 4 (dk_at dksX10_mayBe_2 17 rfl rfl)
theorem dX10_mayBe_65 : decode cX10_mayBe 65 = .ok (.invokestatic 243, 3) := dk_184 0 243 (dk_at dksX10_mayBe_2 19 rfl rfl)
theorem dX10_mayBe_68 : decode cX10_mayBe 68 = .ok (.ifCond .ne 32, 3) := dk_154 0 32 (dk_at dksX10_mayBe_3 0 rfl rfl)
theorem dX10_mayBe_71 : decode cX10_mayBe 71 = .ok (.iload 5, 2) := dk_21 5 (dk_at dksX10_mayBe_3 3 rfl rfl)
theorem dX10_mayBe_73 : decode cX10_mayBe 73 = .ok (.ifCond .ne 23, 3) := dk_154 0 23 (dk_at dksX10_mayBe_3 5 rfl rfl)
theorem dX10_mayBe_76 : decode cX10_mayBe 76 = .ok (.aload_n 0, 1) := dk_42 (dk_at dksX10_mayBe_3 8 rfl rfl)
theorem dX10_mayBe_77 : decode cX10_mayBe 77 = .ok (.getfield 9, 3) := dk_180 0 9 (dk_at dksX10_mayBe_3 9 rfl rfl)
theorem dX10_mayBe_80 : decode cX10_mayBe 80 = .ok (.sipush 292, 3) := dk_17 1 36 (dk_at dksX10_mayBe_3 12 rfl rfl)
theorem dX10_mayBe_83 : decode cX10_mayBe 83 = .ok (.iconst 2, 1) := dk_5 (dk_at dksX10_mayBe_3 15 rfl rfl)
theorem dX10_mayBe_84 : decode cX10_mayBe 84 = .ok (.iload_n 2, 1) := dk_28 (dk_at dksX10_mayBe_3 16 rfl rfl)
theorem dX10_mayBe_85 : decode cX10_mayBe 85 = .ok (.imul, 1) := dk_104 (dk_at dksX10_mayBe_3 17 rfl rfl)
theorem dX10_mayBe_86 : decode cX10_mayBe 86 = .ok (.iadd, 1) := dk_96 (dk_at dksX10_mayBe_3 18 rfl rfl)
theorem dX10_mayBe_87 : decode cX10_mayBe 87 = .ok (.iaload, 1) := dk_46 (dk_at dksX10_mayBe_3 19 rfl rfl)
theorem dX10_mayBe_88 : decode cX10_mayBe 88 = .ok (.iload 4, 2) := dk_21 4 (dk_at dksX10_mayBe_3 20 rfl rfl)
theorem dX10_mayBe_90 : decode cX10_mayBe 90 = .ok (.invokestatic 243, 3) := dk_184 0 243 (dk_at dksX10_mayBe_4 0 rfl rfl)
theorem dX10_mayBe_93 : decode cX10_mayBe 93 = .ok (.ifCond .ne 7, 3) := dk_154 0 7 (dk_at dksX10_mayBe_4 3 rfl rfl)
theorem dX10_mayBe_96 : decode cX10_mayBe 96 = .ok (.iconst 1, 1) := dk_4 (dk_at dksX10_mayBe_4 6 rfl rfl)
theorem dX10_mayBe_97 : decode cX10_mayBe 97 = .ok (.goto 4, 3) := dk_167 0 4 (dk_at dksX10_mayBe_4 7 rfl rfl)
theorem dX10_mayBe_100 : decode cX10_mayBe 100 = .ok (.iconst 0, 1) := dk_3 (dk_at dksX10_mayBe_4 10 rfl rfl)
theorem dX10_mayBe_101 : decode cX10_mayBe 101 = .ok (.istore_n 3, 1) := dk_62 (dk_at dksX10_mayBe_4 11 rfl rfl)
theorem dX10_mayBe_102 : decode cX10_mayBe 102 = .ok (.iinc 4 1, 3) := dk_132 4 1 (dk_at dksX10_mayBe_4 12 rfl rfl)
theorem dX10_mayBe_105 : decode cX10_mayBe 105 = .ok (.goto (-86), 3) := dk_167 255 170 (dk_at dksX10_mayBe_4 15 rfl rfl)
theorem dX10_mayBe_108 : decode cX10_mayBe 108 = .ok (.iload_n 1, 1) := dk_27 (dk_at dksX10_mayBe_4 18 rfl rfl)
theorem dX10_mayBe_109 : decode cX10_mayBe 109 = .ok (.iload_n 3, 1) := dk_29 (dk_at dksX10_mayBe_4 19 rfl rfl)
theorem dX10_mayBe_110 : decode cX10_mayBe 110 = .ok (.ifCond .eq 9, 3) := dk_153 0 9 (dk_at dksX10_mayBe_4 20 rfl rfl)
theorem dX10_mayBe_113 : decode cX10_mayBe 113 = .ok (.iconst 1, 1) := dk_4 (dk_at dksX10_mayBe_4 23 rfl rfl)
theorem dX10_mayBe_114 : decode cX10_mayBe 114 = .ok (.iload_n 2, 1) := dk_28 (dk_at dksX10_mayBe_5 0 rfl rfl)
theorem dX10_mayBe_115 : decode cX10_mayBe 115 = .ok (.ishl, 1) := dk_120 (dk_at dksX10_mayBe_5 1 rfl rfl)
theorem dX10_mayBe_116 : decode cX10_mayBe 116 = .ok (.goto 4, 3) := dk_167 0 4 (dk_at dksX10_mayBe_5 2 rfl rfl)
theorem dX10_mayBe_119 : decode cX10_mayBe 119 = .ok (.iconst 0, 1) := dk_3 (dk_at dksX10_mayBe_5 5 rfl rfl)
theorem dX10_mayBe_120 : decode cX10_mayBe 120 = .ok (.ior, 1) := dk_128 (dk_at dksX10_mayBe_5 6 rfl rfl)
theorem dX10_mayBe_121 : decode cX10_mayBe 121 = .ok (.istore_n 1, 1) := dk_60 (dk_at dksX10_mayBe_5 7 rfl rfl)
theorem dX10_mayBe_122 : decode cX10_mayBe 122 = .ok (.iinc 2 1, 3) := dk_132 2 1 (dk_at dksX10_mayBe_5 8 rfl rfl)
theorem dX10_mayBe_125 : decode cX10_mayBe 125 = .ok (.goto (-121), 3) := dk_167 255 135 (dk_at dksX10_mayBe_5 11 rfl rfl)
theorem dX10_mayBe_128 : decode cX10_mayBe 128 = .ok (.iload_n 1, 1) := dk_27 (dk_at dksX10_mayBe_5 14 rfl rfl)
theorem dX10_mayBe_129 : decode cX10_mayBe 129 = .ok (.ireturn, 1) := dk_172 (dk_at dksX10_mayBe_5 15 rfl rfl)
abbrev cX10_look : ByteArray := prog_37_method_93_code
def yX10_look : MethodName := ⟨RX10, "look", "()I"⟩
def dkwX10_look_5 : List UInt8 := [42, 18, 139, 182, 0, 88, 167, 0, 4, 27, 172]
abbrev dktX10_look_5 : List UInt8 := dkwX10_look_5 ++ []
def dkwX10_look_4 : List UInt8 := [155, 0, 9, 21, 4, 28, 162, 0, 8, 29, 60, 21, 4, 61, 132, 3, 1, 167, 255, 152, 27, 156, 0, 12]
abbrev dktX10_look_4 : List UInt8 := dkwX10_look_4 ++ dktX10_look_5
def dkwX10_look_3 : List UInt8 := [182, 1, 45, 184, 0, 144, 184, 0, 208, 54, 4, 42, 180, 0, 9, 17, 1, 56, 29, 96, 2, 79, 27]
abbrev dktX10_look_3 : List UInt8 := dkwX10_look_3 ++ dktX10_look_4
def dkwX10_look_2 : List UInt8 := [42, 182, 1, 45, 184, 0, 144, 54, 4, 42, 180, 0, 9, 17, 1, 56, 29, 96, 3, 79, 21, 4, 42]
abbrev dktX10_look_2 : List UInt8 := dkwX10_look_2 ++ dktX10_look_3
def dkwX10_look_1 : List UInt8 := [42, 180, 0, 9, 17, 1, 56, 29, 96, 46, 156, 0, 74, 42, 180, 0, 9, 17, 1, 56, 29, 96, 4, 79]
abbrev dktX10_look_1 : List UInt8 := dkwX10_look_1 ++ dktX10_look_2
def dkwX10_look_0 : List UInt8 := [18, 139, 60, 3, 61, 3, 62, 29, 16, 12, 162, 0, 104, 42, 182, 1, 45, 184, 0, 144, 4, 164, 0, 93]
abbrev dktX10_look_0 : List UInt8 := dkwX10_look_0 ++ dktX10_look_1
theorem dksX10_look_0 : cX10_look.data.toList.drop 0 = dktX10_look_0 := by decide +kernel
theorem dksX10_look_1 : cX10_look.data.toList.drop 24 = dktX10_look_1 := dk_seg dksX10_look_0 24 rfl rfl
theorem dksX10_look_2 : cX10_look.data.toList.drop 48 = dktX10_look_2 := dk_seg dksX10_look_1 24 rfl rfl
theorem dksX10_look_3 : cX10_look.data.toList.drop 71 = dktX10_look_3 := dk_seg dksX10_look_2 23 rfl rfl
theorem dksX10_look_4 : cX10_look.data.toList.drop 94 = dktX10_look_4 := dk_seg dksX10_look_3 23 rfl rfl
theorem dksX10_look_5 : cX10_look.data.toList.drop 118 = dktX10_look_5 := dk_seg dksX10_look_4 24 rfl rfl
theorem dX10_look_0 : decode cX10_look 0 = .ok (.ldc 139, 2) := dk_18 139 (dk_at dksX10_look_0 0 rfl rfl)
theorem dX10_look_2 : decode cX10_look 2 = .ok (.istore_n 1, 1) := dk_60 (dk_at dksX10_look_0 2 rfl rfl)
theorem dX10_look_3 : decode cX10_look 3 = .ok (.iconst 0, 1) := dk_3 (dk_at dksX10_look_0 3 rfl rfl)
theorem dX10_look_4 : decode cX10_look 4 = .ok (.istore_n 2, 1) := dk_61 (dk_at dksX10_look_0 4 rfl rfl)
theorem dX10_look_5 : decode cX10_look 5 = .ok (.iconst 0, 1) := dk_3 (dk_at dksX10_look_0 5 rfl rfl)
theorem dX10_look_6 : decode cX10_look 6 = .ok (.istore_n 3, 1) := dk_62 (dk_at dksX10_look_0 6 rfl rfl)
theorem dX10_look_7 : decode cX10_look 7 = .ok (.iload_n 3, 1) := dk_29 (dk_at dksX10_look_0 7 rfl rfl)
theorem dX10_look_8 : decode cX10_look 8 = .ok (.bipush 12, 2) := dk_16 12 (dk_at dksX10_look_0 8 rfl rfl)
theorem dX10_look_10 : decode cX10_look 10 = .ok (.if_icmp .ge 104, 3) := dk_162 0 104 (dk_at dksX10_look_0 10 rfl rfl)
theorem dX10_look_13 : decode cX10_look 13 = .ok (.aload_n 0, 1) := dk_42 (dk_at dksX10_look_0 13 rfl rfl)
theorem dX10_look_14 : decode cX10_look 14 = .ok (.invokevirtual 301, 3) := dk_182 1 45 (dk_at dksX10_look_0 14 rfl rfl)
theorem dX10_look_17 : decode cX10_look 17 = .ok (.invokestatic 144, 3) := dk_184 0 144 (dk_at dksX10_look_0 17 rfl rfl)
theorem dX10_look_20 : decode cX10_look 20 = .ok (.iconst 1, 1) := dk_4 (dk_at dksX10_look_0 20 rfl rfl)
theorem dX10_look_21 : decode cX10_look 21 = .ok (.if_icmp .le 93, 3) := dk_164 0 93 (dk_at dksX10_look_0 21 rfl rfl)
theorem dX10_look_24 : decode cX10_look 24 = .ok (.aload_n 0, 1) := dk_42 (dk_at dksX10_look_1 0 rfl rfl)
theorem dX10_look_25 : decode cX10_look 25 = .ok (.getfield 9, 3) := dk_180 0 9 (dk_at dksX10_look_1 1 rfl rfl)
theorem dX10_look_28 : decode cX10_look 28 = .ok (.sipush 312, 3) := dk_17 1 56 (dk_at dksX10_look_1 4 rfl rfl)
theorem dX10_look_31 : decode cX10_look 31 = .ok (.iload_n 3, 1) := dk_29 (dk_at dksX10_look_1 7 rfl rfl)
theorem dX10_look_32 : decode cX10_look 32 = .ok (.iadd, 1) := dk_96 (dk_at dksX10_look_1 8 rfl rfl)
theorem dX10_look_33 : decode cX10_look 33 = .ok (.iaload, 1) := dk_46 (dk_at dksX10_look_1 9 rfl rfl)
theorem dX10_look_34 : decode cX10_look 34 = .ok (.ifCond .ge 74, 3) := dk_156 0 74 (dk_at dksX10_look_1 10 rfl rfl)
theorem dX10_look_37 : decode cX10_look 37 = .ok (.aload_n 0, 1) := dk_42 (dk_at dksX10_look_1 13 rfl rfl)
theorem dX10_look_38 : decode cX10_look 38 = .ok (.getfield 9, 3) := dk_180 0 9 (dk_at dksX10_look_1 14 rfl rfl)
theorem dX10_look_41 : decode cX10_look 41 = .ok (.sipush 312, 3) := dk_17 1 56 (dk_at dksX10_look_1 17 rfl rfl)
theorem dX10_look_44 : decode cX10_look 44 = .ok (.iload_n 3, 1) := dk_29 (dk_at dksX10_look_1 20 rfl rfl)
theorem dX10_look_45 : decode cX10_look 45 = .ok (.iadd, 1) := dk_96 (dk_at dksX10_look_1 21 rfl rfl)
theorem dX10_look_46 : decode cX10_look 46 = .ok (.iconst 1, 1) := dk_4 (dk_at dksX10_look_1 22 rfl rfl)
theorem dX10_look_47 : decode cX10_look 47 = .ok (.iastore, 1) := dk_79 (dk_at dksX10_look_1 23 rfl rfl)
theorem dX10_look_48 : decode cX10_look 48 = .ok (.aload_n 0, 1) := dk_42 (dk_at dksX10_look_2 0 rfl rfl)
theorem dX10_look_49 : decode cX10_look 49 = .ok (.invokevirtual 301, 3) := dk_182 1 45 (dk_at dksX10_look_2 1 rfl rfl)
theorem dX10_look_52 : decode cX10_look 52 = .ok (.invokestatic 144, 3) := dk_184 0 144 (dk_at dksX10_look_2 4 rfl rfl)
theorem dX10_look_55 : decode cX10_look 55 = .ok (.istore 4, 2) := dk_54 4 (dk_at dksX10_look_2 7 rfl rfl)
theorem dX10_look_57 : decode cX10_look 57 = .ok (.aload_n 0, 1) := dk_42 (dk_at dksX10_look_2 9 rfl rfl)
theorem dX10_look_58 : decode cX10_look 58 = .ok (.getfield 9, 3) := dk_180 0 9 (dk_at dksX10_look_2 10 rfl rfl)
theorem dX10_look_61 : decode cX10_look 61 = .ok (.sipush 312, 3) := dk_17 1 56 (dk_at dksX10_look_2 13 rfl rfl)
theorem dX10_look_64 : decode cX10_look 64 = .ok (.iload_n 3, 1) := dk_29 (dk_at dksX10_look_2 16 rfl rfl)
theorem dX10_look_65 : decode cX10_look 65 = .ok (.iadd, 1) := dk_96 (dk_at dksX10_look_2 17 rfl rfl)
theorem dX10_look_66 : decode cX10_look 66 = .ok (.iconst 0, 1) := dk_3 (dk_at dksX10_look_2 18 rfl rfl)
theorem dX10_look_67 : decode cX10_look 67 = .ok (.iastore, 1) := dk_79 (dk_at dksX10_look_2 19 rfl rfl)
theorem dX10_look_68 : decode cX10_look 68 = .ok (.iload 4, 2) := dk_21 4 (dk_at dksX10_look_2 20 rfl rfl)
theorem dX10_look_70 : decode cX10_look 70 = .ok (.aload_n 0, 1) := dk_42 (dk_at dksX10_look_2 22 rfl rfl)
theorem dX10_look_71 : decode cX10_look 71 = .ok (.invokevirtual 301, 3) := dk_182 1 45 (dk_at dksX10_look_3 0 rfl rfl)
theorem dX10_look_74 : decode cX10_look 74 = .ok (.invokestatic 144, 3) := dk_184 0 144 (dk_at dksX10_look_3 3 rfl rfl)
theorem dX10_look_77 : decode cX10_look 77 = .ok (.invokestatic 208, 3) := dk_184 0 208 (dk_at dksX10_look_3 6 rfl rfl)
theorem dX10_look_80 : decode cX10_look 80 = .ok (.istore 4, 2) := dk_54 4 (dk_at dksX10_look_3 9 rfl rfl)
theorem dX10_look_82 : decode cX10_look 82 = .ok (.aload_n 0, 1) := dk_42 (dk_at dksX10_look_3 11 rfl rfl)
theorem dX10_look_83 : decode cX10_look 83 = .ok (.getfield 9, 3) := dk_180 0 9 (dk_at dksX10_look_3 12 rfl rfl)
theorem dX10_look_86 : decode cX10_look 86 = .ok (.sipush 312, 3) := dk_17 1 56 (dk_at dksX10_look_3 15 rfl rfl)
theorem dX10_look_89 : decode cX10_look 89 = .ok (.iload_n 3, 1) := dk_29 (dk_at dksX10_look_3 18 rfl rfl)
theorem dX10_look_90 : decode cX10_look 90 = .ok (.iadd, 1) := dk_96 (dk_at dksX10_look_3 19 rfl rfl)
theorem dX10_look_91 : decode cX10_look 91 = .ok (.iconst (-1), 1) := dk_2 (dk_at dksX10_look_3 20 rfl rfl)
theorem dX10_look_92 : decode cX10_look 92 = .ok (.iastore, 1) := dk_79 (dk_at dksX10_look_3 21 rfl rfl)
theorem dX10_look_93 : decode cX10_look 93 = .ok (.iload_n 1, 1) := dk_27 (dk_at dksX10_look_3 22 rfl rfl)
theorem dX10_look_94 : decode cX10_look 94 = .ok (.ifCond .lt 9, 3) := dk_155 0 9 (dk_at dksX10_look_4 0 rfl rfl)
theorem dX10_look_97 : decode cX10_look 97 = .ok (.iload 4, 2) := dk_21 4 (dk_at dksX10_look_4 3 rfl rfl)
theorem dX10_look_99 : decode cX10_look 99 = .ok (.iload_n 2, 1) := dk_28 (dk_at dksX10_look_4 5 rfl rfl)
theorem dX10_look_100 : decode cX10_look 100 = .ok (.if_icmp .ge 8, 3) := dk_162 0 8 (dk_at dksX10_look_4 6 rfl rfl)
theorem dX10_look_103 : decode cX10_look 103 = .ok (.iload_n 3, 1) := dk_29 (dk_at dksX10_look_4 9 rfl rfl)
theorem dX10_look_104 : decode cX10_look 104 = .ok (.istore_n 1, 1) := dk_60 (dk_at dksX10_look_4 10 rfl rfl)
theorem dX10_look_105 : decode cX10_look 105 = .ok (.iload 4, 2) := dk_21 4 (dk_at dksX10_look_4 11 rfl rfl)
theorem dX10_look_107 : decode cX10_look 107 = .ok (.istore_n 2, 1) := dk_61 (dk_at dksX10_look_4 13 rfl rfl)
theorem dX10_look_108 : decode cX10_look 108 = .ok (.iinc 3 1, 3) := dk_132 3 1 (dk_at dksX10_look_4 14 rfl rfl)
theorem dX10_look_111 : decode cX10_look 111 = .ok (.goto (-104), 3) := dk_167 255 152 (dk_at dksX10_look_4 17 rfl rfl)
theorem dX10_look_114 : decode cX10_look 114 = .ok (.iload_n 1, 1) := dk_27 (dk_at dksX10_look_4 20 rfl rfl)
theorem dX10_look_115 : decode cX10_look 115 = .ok (.ifCond .ge 12, 3) := dk_156 0 12 (dk_at dksX10_look_4 21 rfl rfl)
theorem dX10_look_118 : decode cX10_look 118 = .ok (.aload_n 0, 1) := dk_42 (dk_at dksX10_look_5 0 rfl rfl)
theorem dX10_look_119 : decode cX10_look 119 = .ok (.ldc 139, 2) := dk_18 139 (dk_at dksX10_look_5 1 rfl rfl)
theorem dX10_look_121 : decode cX10_look 121 = .ok (.invokevirtual 88, 3) := dk_182 0 88 (dk_at dksX10_look_5 3 rfl rfl)
theorem dX10_look_124 : decode cX10_look 124 = .ok (.goto 4, 3) := dk_167 0 4 (dk_at dksX10_look_5 6 rfl rfl)
theorem dX10_look_127 : decode cX10_look 127 = .ok (.iload_n 1, 1) := dk_27 (dk_at dksX10_look_5 9 rfl rfl)
theorem dX10_look_128 : decode cX10_look 128 = .ok (.ireturn, 1) := dk_172 (dk_at dksX10_look_5 10 rfl rfl)
abbrev cX10_seed : ByteArray := prog_37_method_94_code
def yX10_seed : MethodName := ⟨RX10, "seed", "(I)I"⟩
def dkwX10_seed_0 : List UInt8 := [42, 16, 8, 27, 182, 0, 83, 172]
abbrev dktX10_seed_0 : List UInt8 := dkwX10_seed_0 ++ []
theorem dksX10_seed_0 : cX10_seed.data.toList.drop 0 = dktX10_seed_0 := by decide +kernel
theorem dX10_seed_0 : decode cX10_seed 0 = .ok (.aload_n 0, 1) := dk_42 (dk_at dksX10_seed_0 0 rfl rfl)
theorem dX10_seed_1 : decode cX10_seed 1 = .ok (.bipush 8, 2) := dk_16 8 (dk_at dksX10_seed_0 1 rfl rfl)
theorem dX10_seed_3 : decode cX10_seed 3 = .ok (.iload_n 1, 1) := dk_27 (dk_at dksX10_seed_0 3 rfl rfl)
theorem dX10_seed_4 : decode cX10_seed 4 = .ok (.invokevirtual 83, 3) := dk_182 0 83 (dk_at dksX10_seed_0 4 rfl rfl)
theorem dX10_seed_7 : decode cX10_seed 7 = .ok (.ireturn, 1) := dk_172 (dk_at dksX10_seed_0 7 rfl rfl)
abbrev cX10_made : ByteArray := prog_37_method_96_code
def yX10_made : MethodName := ⟨RX10, "made", "(I)I"⟩
def dkwX10_made_3 : List UInt8 := [132, 2, 1, 167, 255, 221, 42, 180, 0, 9, 4, 46, 172]
abbrev dktX10_made_3 : List UInt8 := dkwX10_made_3 ++ []
def dkwX10_made_2 : List UInt8 := [182, 1, 49, 62, 42, 16, 10, 182, 1, 49, 54, 4, 42, 29, 21, 4, 42, 5, 182, 1, 49, 182, 0, 97]
abbrev dktX10_made_2 : List UInt8 := dkwX10_made_2 ++ dktX10_made_3
def dkwX10_made_1 : List UInt8 := [96, 16, 16, 164, 0, 10, 42, 18, 96, 182, 0, 88, 172, 3, 61, 28, 27, 162, 0, 36, 42, 16, 8]
abbrev dktX10_made_1 : List UInt8 := dkwX10_made_1 ++ dktX10_made_2
def dkwX10_made_0 : List UInt8 := [27, 4, 16, 16, 184, 0, 78, 154, 0, 10, 42, 18, 87, 182, 0, 88, 172, 42, 180, 0, 9, 4, 46, 27]
abbrev dktX10_made_0 : List UInt8 := dkwX10_made_0 ++ dktX10_made_1
theorem dksX10_made_0 : cX10_made.data.toList.drop 0 = dktX10_made_0 := by decide +kernel
theorem dksX10_made_1 : cX10_made.data.toList.drop 24 = dktX10_made_1 := dk_seg dksX10_made_0 24 rfl rfl
theorem dksX10_made_2 : cX10_made.data.toList.drop 47 = dktX10_made_2 := dk_seg dksX10_made_1 23 rfl rfl
theorem dksX10_made_3 : cX10_made.data.toList.drop 71 = dktX10_made_3 := dk_seg dksX10_made_2 24 rfl rfl
theorem dX10_made_0 : decode cX10_made 0 = .ok (.iload_n 1, 1) := dk_27 (dk_at dksX10_made_0 0 rfl rfl)
theorem dX10_made_1 : decode cX10_made 1 = .ok (.iconst 1, 1) := dk_4 (dk_at dksX10_made_0 1 rfl rfl)
theorem dX10_made_2 : decode cX10_made 2 = .ok (.bipush 16, 2) := dk_16 16 (dk_at dksX10_made_0 2 rfl rfl)
theorem dX10_made_4 : decode cX10_made 4 = .ok (.invokestatic 78, 3) := dk_184 0 78 (dk_at dksX10_made_0 4 rfl rfl)
theorem dX10_made_7 : decode cX10_made 7 = .ok (.ifCond .ne 10, 3) := dk_154 0 10 (dk_at dksX10_made_0 7 rfl rfl)
theorem dX10_made_10 : decode cX10_made 10 = .ok (.aload_n 0, 1) := dk_42 (dk_at dksX10_made_0 10 rfl rfl)
theorem dX10_made_11 : decode cX10_made 11 = .ok (.ldc 87, 2) := dk_18 87 (dk_at dksX10_made_0 11 rfl rfl)
theorem dX10_made_13 : decode cX10_made 13 = .ok (.invokevirtual 88, 3) := dk_182 0 88 (dk_at dksX10_made_0 13 rfl rfl)
theorem dX10_made_16 : decode cX10_made 16 = .ok (.ireturn, 1) := dk_172 (dk_at dksX10_made_0 16 rfl rfl)
theorem dX10_made_17 : decode cX10_made 17 = .ok (.aload_n 0, 1) := dk_42 (dk_at dksX10_made_0 17 rfl rfl)
theorem dX10_made_18 : decode cX10_made 18 = .ok (.getfield 9, 3) := dk_180 0 9 (dk_at dksX10_made_0 18 rfl rfl)
theorem dX10_made_21 : decode cX10_made 21 = .ok (.iconst 1, 1) := dk_4 (dk_at dksX10_made_0 21 rfl rfl)
theorem dX10_made_22 : decode cX10_made 22 = .ok (.iaload, 1) := dk_46 (dk_at dksX10_made_0 22 rfl rfl)
theorem dX10_made_23 : decode cX10_made 23 = .ok (.iload_n 1, 1) := dk_27 (dk_at dksX10_made_0 23 rfl rfl)
theorem dX10_made_24 : decode cX10_made 24 = .ok (.iadd, 1) := dk_96 (dk_at dksX10_made_1 0 rfl rfl)
theorem dX10_made_25 : decode cX10_made 25 = .ok (.bipush 16, 2) := dk_16 16 (dk_at dksX10_made_1 1 rfl rfl)
theorem dX10_made_27 : decode cX10_made 27 = .ok (.if_icmp .le 10, 3) := dk_164 0 10 (dk_at dksX10_made_1 3 rfl rfl)
theorem dX10_made_30 : decode cX10_made 30 = .ok (.aload_n 0, 1) := dk_42 (dk_at dksX10_made_1 6 rfl rfl)
theorem dX10_made_31 : decode cX10_made 31 = .ok (.ldc 96, 2) := dk_18 96 (dk_at dksX10_made_1 7 rfl rfl)
theorem dX10_made_33 : decode cX10_made 33 = .ok (.invokevirtual 88, 3) := dk_182 0 88 (dk_at dksX10_made_1 9 rfl rfl)
theorem dX10_made_36 : decode cX10_made 36 = .ok (.ireturn, 1) := dk_172 (dk_at dksX10_made_1 12 rfl rfl)
theorem dX10_made_37 : decode cX10_made 37 = .ok (.iconst 0, 1) := dk_3 (dk_at dksX10_made_1 13 rfl rfl)
theorem dX10_made_38 : decode cX10_made 38 = .ok (.istore_n 2, 1) := dk_61 (dk_at dksX10_made_1 14 rfl rfl)
theorem dX10_made_39 : decode cX10_made 39 = .ok (.iload_n 2, 1) := dk_28 (dk_at dksX10_made_1 15 rfl rfl)
theorem dX10_made_40 : decode cX10_made 40 = .ok (.iload_n 1, 1) := dk_27 (dk_at dksX10_made_1 16 rfl rfl)
theorem dX10_made_41 : decode cX10_made 41 = .ok (.if_icmp .ge 36, 3) := dk_162 0 36 (dk_at dksX10_made_1 17 rfl rfl)
theorem dX10_made_44 : decode cX10_made 44 = .ok (.aload_n 0, 1) := dk_42 (dk_at dksX10_made_1 20 rfl rfl)
theorem dX10_made_45 : decode cX10_made 45 = .ok (.bipush 8, 2) := dk_16 8 (dk_at dksX10_made_1 21 rfl rfl)
theorem dX10_made_47 : decode cX10_made 47 = .ok (.invokevirtual 305, 3) := dk_182 1 49 (dk_at dksX10_made_2 0 rfl rfl)
theorem dX10_made_50 : decode cX10_made 50 = .ok (.istore_n 3, 1) := dk_62 (dk_at dksX10_made_2 3 rfl rfl)
theorem dX10_made_51 : decode cX10_made 51 = .ok (.aload_n 0, 1) := dk_42 (dk_at dksX10_made_2 4 rfl rfl)
theorem dX10_made_52 : decode cX10_made 52 = .ok (.bipush 10, 2) := dk_16 10 (dk_at dksX10_made_2 5 rfl rfl)
theorem dX10_made_54 : decode cX10_made 54 = .ok (.invokevirtual 305, 3) := dk_182 1 49 (dk_at dksX10_made_2 7 rfl rfl)
theorem dX10_made_57 : decode cX10_made 57 = .ok (.istore 4, 2) := dk_54 4 (dk_at dksX10_made_2 10 rfl rfl)
theorem dX10_made_59 : decode cX10_made 59 = .ok (.aload_n 0, 1) := dk_42 (dk_at dksX10_made_2 12 rfl rfl)
theorem dX10_made_60 : decode cX10_made 60 = .ok (.iload_n 3, 1) := dk_29 (dk_at dksX10_made_2 13 rfl rfl)
theorem dX10_made_61 : decode cX10_made 61 = .ok (.iload 4, 2) := dk_21 4 (dk_at dksX10_made_2 14 rfl rfl)
theorem dX10_made_63 : decode cX10_made 63 = .ok (.aload_n 0, 1) := dk_42 (dk_at dksX10_made_2 16 rfl rfl)
theorem dX10_made_64 : decode cX10_made 64 = .ok (.iconst 2, 1) := dk_5 (dk_at dksX10_made_2 17 rfl rfl)
theorem dX10_made_65 : decode cX10_made 65 = .ok (.invokevirtual 305, 3) := dk_182 1 49 (dk_at dksX10_made_2 18 rfl rfl)
theorem dX10_made_68 : decode cX10_made 68 = .ok (.invokevirtual 97, 3) := dk_182 0 97 (dk_at dksX10_made_2 21 rfl rfl)
theorem dX10_made_71 : decode cX10_made 71 = .ok (.iinc 2 1, 3) := dk_132 2 1 (dk_at dksX10_made_3 0 rfl rfl)
theorem dX10_made_74 : decode cX10_made 74 = .ok (.goto (-35), 3) := dk_167 255 221 (dk_at dksX10_made_3 3 rfl rfl)
theorem dX10_made_77 : decode cX10_made 77 = .ok (.aload_n 0, 1) := dk_42 (dk_at dksX10_made_3 6 rfl rfl)
theorem dX10_made_78 : decode cX10_made 78 = .ok (.getfield 9, 3) := dk_180 0 9 (dk_at dksX10_made_3 7 rfl rfl)
theorem dX10_made_81 : decode cX10_made 81 = .ok (.iconst 1, 1) := dk_4 (dk_at dksX10_made_3 10 rfl rfl)
theorem dX10_made_82 : decode cX10_made 82 = .ok (.iaload, 1) := dk_46 (dk_at dksX10_made_3 11 rfl rfl)
theorem dX10_made_83 : decode cX10_made 83 = .ok (.ireturn, 1) := dk_172 (dk_at dksX10_made_3 12 rfl rfl)
abbrev cX10_drawn : ByteArray := prog_37_method_95_code
def yX10_drawn : MethodName := ⟨RX10, "drawn", "(I)I"⟩
def dkwX10_drawn_1 : List UInt8 := [180, 0, 9, 16, 8, 46, 16, 8, 124, 27, 112, 172]
abbrev dktX10_drawn_1 : List UInt8 := dkwX10_drawn_1 ++ []
def dkwX10_drawn_0 : List UInt8 := [42, 180, 0, 9, 16, 8, 42, 180, 0, 9, 16, 8, 46, 19, 1, 48, 104, 17, 48, 57, 96, 79, 42]
abbrev dktX10_drawn_0 : List UInt8 := dkwX10_drawn_0 ++ dktX10_drawn_1
theorem dksX10_drawn_0 : cX10_drawn.data.toList.drop 0 = dktX10_drawn_0 := by decide +kernel
theorem dksX10_drawn_1 : cX10_drawn.data.toList.drop 23 = dktX10_drawn_1 := dk_seg dksX10_drawn_0 23 rfl rfl
theorem dX10_drawn_0 : decode cX10_drawn 0 = .ok (.aload_n 0, 1) := dk_42 (dk_at dksX10_drawn_0 0 rfl rfl)
theorem dX10_drawn_1 : decode cX10_drawn 1 = .ok (.getfield 9, 3) := dk_180 0 9 (dk_at dksX10_drawn_0 1 rfl rfl)
theorem dX10_drawn_4 : decode cX10_drawn 4 = .ok (.bipush 8, 2) := dk_16 8 (dk_at dksX10_drawn_0 4 rfl rfl)
theorem dX10_drawn_6 : decode cX10_drawn 6 = .ok (.aload_n 0, 1) := dk_42 (dk_at dksX10_drawn_0 6 rfl rfl)
theorem dX10_drawn_7 : decode cX10_drawn 7 = .ok (.getfield 9, 3) := dk_180 0 9 (dk_at dksX10_drawn_0 7 rfl rfl)
theorem dX10_drawn_10 : decode cX10_drawn 10 = .ok (.bipush 8, 2) := dk_16 8 (dk_at dksX10_drawn_0 10 rfl rfl)
theorem dX10_drawn_12 : decode cX10_drawn 12 = .ok (.iaload, 1) := dk_46 (dk_at dksX10_drawn_0 12 rfl rfl)
theorem dX10_drawn_13 : decode cX10_drawn 13 = .ok (.ldc_w 304, 3) := dk_19 1 48 (dk_at dksX10_drawn_0 13 rfl rfl)
theorem dX10_drawn_16 : decode cX10_drawn 16 = .ok (.imul, 1) := dk_104 (dk_at dksX10_drawn_0 16 rfl rfl)
theorem dX10_drawn_17 : decode cX10_drawn 17 = .ok (.sipush 12345, 3) := dk_17 48 57 (dk_at dksX10_drawn_0 17 rfl rfl)
theorem dX10_drawn_20 : decode cX10_drawn 20 = .ok (.iadd, 1) := dk_96 (dk_at dksX10_drawn_0 20 rfl rfl)
theorem dX10_drawn_21 : decode cX10_drawn 21 = .ok (.iastore, 1) := dk_79 (dk_at dksX10_drawn_0 21 rfl rfl)
theorem dX10_drawn_22 : decode cX10_drawn 22 = .ok (.aload_n 0, 1) := dk_42 (dk_at dksX10_drawn_0 22 rfl rfl)
theorem dX10_drawn_23 : decode cX10_drawn 23 = .ok (.getfield 9, 3) := dk_180 0 9 (dk_at dksX10_drawn_1 0 rfl rfl)
theorem dX10_drawn_26 : decode cX10_drawn 26 = .ok (.bipush 8, 2) := dk_16 8 (dk_at dksX10_drawn_1 3 rfl rfl)
theorem dX10_drawn_28 : decode cX10_drawn 28 = .ok (.iaload, 1) := dk_46 (dk_at dksX10_drawn_1 5 rfl rfl)
theorem dX10_drawn_29 : decode cX10_drawn 29 = .ok (.bipush 8, 2) := dk_16 8 (dk_at dksX10_drawn_1 6 rfl rfl)
theorem dX10_drawn_31 : decode cX10_drawn 31 = .ok (.iushr, 1) := dk_124 (dk_at dksX10_drawn_1 8 rfl rfl)
theorem dX10_drawn_32 : decode cX10_drawn 32 = .ok (.iload_n 1, 1) := dk_27 (dk_at dksX10_drawn_1 9 rfl rfl)
theorem dX10_drawn_33 : decode cX10_drawn 33 = .ok (.irem, 1) := dk_112 (dk_at dksX10_drawn_1 10 rfl rfl)
theorem dX10_drawn_34 : decode cX10_drawn 34 = .ok (.ireturn, 1) := dk_172 (dk_at dksX10_drawn_1 11 rfl rfl)
abbrev cX10_voice : ByteArray := prog_37_method_102_code
def yX10_voice : MethodName := ⟨RX10, "voice", "(III)I"⟩
def dkwX10_voice_1 : List UInt8 := [172, 42, 3, 181, 1, 52, 42, 27, 181, 1, 55, 42, 28, 29, 182, 1, 70, 172]
abbrev dktX10_voice_1 : List UInt8 := dkwX10_voice_1 ++ []
def dkwX10_voice_0 : List UInt8 := [42, 27, 6, 182, 0, 101, 153, 0, 12, 28, 3, 6, 184, 0, 78, 154, 0, 10, 42, 18, 87, 182, 0, 88]
abbrev dktX10_voice_0 : List UInt8 := dkwX10_voice_0 ++ dktX10_voice_1
theorem dksX10_voice_0 : cX10_voice.data.toList.drop 0 = dktX10_voice_0 := by decide +kernel
theorem dksX10_voice_1 : cX10_voice.data.toList.drop 24 = dktX10_voice_1 := dk_seg dksX10_voice_0 24 rfl rfl
theorem dX10_voice_0 : decode cX10_voice 0 = .ok (.aload_n 0, 1) := dk_42 (dk_at dksX10_voice_0 0 rfl rfl)
theorem dX10_voice_1 : decode cX10_voice 1 = .ok (.iload_n 1, 1) := dk_27 (dk_at dksX10_voice_0 1 rfl rfl)
theorem dX10_voice_2 : decode cX10_voice 2 = .ok (.iconst 3, 1) := dk_6 (dk_at dksX10_voice_0 2 rfl rfl)
theorem dX10_voice_3 : decode cX10_voice 3 = .ok (.invokevirtual 101, 3) := dk_182 0 101 (dk_at dksX10_voice_0 3 rfl rfl)
theorem dX10_voice_6 : decode cX10_voice 6 = .ok (.ifCond .eq 12, 3) := dk_153 0 12 (dk_at dksX10_voice_0 6 rfl rfl)
theorem dX10_voice_9 : decode cX10_voice 9 = .ok (.iload_n 2, 1) := dk_28 (dk_at dksX10_voice_0 9 rfl rfl)
theorem dX10_voice_10 : decode cX10_voice 10 = .ok (.iconst 0, 1) := dk_3 (dk_at dksX10_voice_0 10 rfl rfl)
theorem dX10_voice_11 : decode cX10_voice 11 = .ok (.iconst 3, 1) := dk_6 (dk_at dksX10_voice_0 11 rfl rfl)
theorem dX10_voice_12 : decode cX10_voice 12 = .ok (.invokestatic 78, 3) := dk_184 0 78 (dk_at dksX10_voice_0 12 rfl rfl)
theorem dX10_voice_15 : decode cX10_voice 15 = .ok (.ifCond .ne 10, 3) := dk_154 0 10 (dk_at dksX10_voice_0 15 rfl rfl)
theorem dX10_voice_18 : decode cX10_voice 18 = .ok (.aload_n 0, 1) := dk_42 (dk_at dksX10_voice_0 18 rfl rfl)
theorem dX10_voice_19 : decode cX10_voice 19 = .ok (.ldc 87, 2) := dk_18 87 (dk_at dksX10_voice_0 19 rfl rfl)
theorem dX10_voice_21 : decode cX10_voice 21 = .ok (.invokevirtual 88, 3) := dk_182 0 88 (dk_at dksX10_voice_0 21 rfl rfl)
theorem dX10_voice_24 : decode cX10_voice 24 = .ok (.ireturn, 1) := dk_172 (dk_at dksX10_voice_1 0 rfl rfl)
theorem dX10_voice_25 : decode cX10_voice 25 = .ok (.aload_n 0, 1) := dk_42 (dk_at dksX10_voice_1 1 rfl rfl)
theorem dX10_voice_26 : decode cX10_voice 26 = .ok (.iconst 0, 1) := dk_3 (dk_at dksX10_voice_1 2 rfl rfl)
theorem dX10_voice_27 : decode cX10_voice 27 = .ok (.putfield 308, 3) := dk_181 1 52 (dk_at dksX10_voice_1 3 rfl rfl)
theorem dX10_voice_30 : decode cX10_voice 30 = .ok (.aload_n 0, 1) := dk_42 (dk_at dksX10_voice_1 6 rfl rfl)
theorem dX10_voice_31 : decode cX10_voice 31 = .ok (.iload_n 1, 1) := dk_27 (dk_at dksX10_voice_1 7 rfl rfl)
theorem dX10_voice_32 : decode cX10_voice 32 = .ok (.putfield 311, 3) := dk_181 1 55 (dk_at dksX10_voice_1 8 rfl rfl)
theorem dX10_voice_35 : decode cX10_voice 35 = .ok (.aload_n 0, 1) := dk_42 (dk_at dksX10_voice_1 11 rfl rfl)
theorem dX10_voice_36 : decode cX10_voice 36 = .ok (.iload_n 2, 1) := dk_28 (dk_at dksX10_voice_1 12 rfl rfl)
theorem dX10_voice_37 : decode cX10_voice 37 = .ok (.iload_n 3, 1) := dk_29 (dk_at dksX10_voice_1 13 rfl rfl)
theorem dX10_voice_38 : decode cX10_voice 38 = .ok (.invokevirtual 326, 3) := dk_182 1 70 (dk_at dksX10_voice_1 14 rfl rfl)
theorem dX10_voice_41 : decode cX10_voice 41 = .ok (.ireturn, 1) := dk_172 (dk_at dksX10_voice_1 17 rfl rfl)
abbrev cX10_voiced : ByteArray := prog_37_method_99_code
def yX10_voiced : MethodName := ⟨RX10, "voiced", "(II)I"⟩
def dkwX10_voiced_0 : List UInt8 := [42, 42, 42, 180, 1, 55, 3, 182, 0, 217, 27, 28, 182, 1, 58, 172]
abbrev dktX10_voiced_0 : List UInt8 := dkwX10_voiced_0 ++ []
theorem dksX10_voiced_0 : cX10_voiced.data.toList.drop 0 = dktX10_voiced_0 := by decide +kernel
theorem dX10_voiced_0 : decode cX10_voiced 0 = .ok (.aload_n 0, 1) := dk_42 (dk_at dksX10_voiced_0 0 rfl rfl)
theorem dX10_voiced_1 : decode cX10_voiced 1 = .ok (.aload_n 0, 1) := dk_42 (dk_at dksX10_voiced_0 1 rfl rfl)
theorem dX10_voiced_2 : decode cX10_voiced 2 = .ok (.aload_n 0, 1) := dk_42 (dk_at dksX10_voiced_0 2 rfl rfl)
theorem dX10_voiced_3 : decode cX10_voiced 3 = .ok (.getfield 311, 3) := dk_180 1 55 (dk_at dksX10_voiced_0 3 rfl rfl)
theorem dX10_voiced_6 : decode cX10_voiced 6 = .ok (.iconst 0, 1) := dk_3 (dk_at dksX10_voiced_0 6 rfl rfl)
theorem dX10_voiced_7 : decode cX10_voiced 7 = .ok (.invokevirtual 217, 3) := dk_182 0 217 (dk_at dksX10_voiced_0 7 rfl rfl)
theorem dX10_voiced_10 : decode cX10_voiced 10 = .ok (.iload_n 1, 1) := dk_27 (dk_at dksX10_voiced_0 10 rfl rfl)
theorem dX10_voiced_11 : decode cX10_voiced 11 = .ok (.iload_n 2, 1) := dk_28 (dk_at dksX10_voiced_0 11 rfl rfl)
theorem dX10_voiced_12 : decode cX10_voiced 12 = .ok (.invokevirtual 314, 3) := dk_182 1 58 (dk_at dksX10_voiced_0 12 rfl rfl)
theorem dX10_voiced_15 : decode cX10_voiced 15 = .ok (.ireturn, 1) := dk_172 (dk_at dksX10_voiced_0 15 rfl rfl)
abbrev cX10_bodyFrom : ByteArray := prog_37_method_100_code
def yX10_bodyFrom : MethodName := ⟨RX10, "bodyFrom", "(III)I"⟩
def dkwX10_bodyFrom_1 : List UInt8 := [21, 4, 28, 29, 182, 1, 64, 172]
abbrev dktX10_bodyFrom_1 : List UInt8 := dkwX10_bodyFrom_1 ++ []
def dkwX10_bodyFrom_0 : List UInt8 := [27, 54, 4, 21, 4, 28, 184, 1, 61, 154, 0, 13, 21, 4, 184, 0, 220, 54, 4, 167, 255, 240, 42]
abbrev dktX10_bodyFrom_0 : List UInt8 := dkwX10_bodyFrom_0 ++ dktX10_bodyFrom_1
theorem dksX10_bodyFrom_0 : cX10_bodyFrom.data.toList.drop 0 = dktX10_bodyFrom_0 := by decide +kernel
theorem dksX10_bodyFrom_1 : cX10_bodyFrom.data.toList.drop 23 = dktX10_bodyFrom_1 := dk_seg dksX10_bodyFrom_0 23 rfl rfl
theorem dX10_bodyFrom_0 : decode cX10_bodyFrom 0 = .ok (.iload_n 1, 1) := dk_27 (dk_at dksX10_bodyFrom_0 0 rfl rfl)
theorem dX10_bodyFrom_1 : decode cX10_bodyFrom 1 = .ok (.istore 4, 2) := dk_54 4 (dk_at dksX10_bodyFrom_0 1 rfl rfl)
theorem dX10_bodyFrom_3 : decode cX10_bodyFrom 3 = .ok (.iload 4, 2) := dk_21 4 (dk_at dksX10_bodyFrom_0 3 rfl rfl)
theorem dX10_bodyFrom_5 : decode cX10_bodyFrom 5 = .ok (.iload_n 2, 1) := dk_28 (dk_at dksX10_bodyFrom_0 5 rfl rfl)
theorem dX10_bodyFrom_6 : decode cX10_bodyFrom 6 = .ok (.invokestatic 317, 3) := dk_184 1 61 (dk_at dksX10_bodyFrom_0 6 rfl rfl)
theorem dX10_bodyFrom_9 : decode cX10_bodyFrom 9 = .ok (.ifCond .ne 13, 3) := dk_154 0 13 (dk_at dksX10_bodyFrom_0 9 rfl rfl)
theorem dX10_bodyFrom_12 : decode cX10_bodyFrom 12 = .ok (.iload 4, 2) := dk_21 4 (dk_at dksX10_bodyFrom_0 12 rfl rfl)
theorem dX10_bodyFrom_14 : decode cX10_bodyFrom 14 = .ok (.invokestatic 220, 3) := dk_184 0 220 (dk_at dksX10_bodyFrom_0 14 rfl rfl)
theorem dX10_bodyFrom_17 : decode cX10_bodyFrom 17 = .ok (.istore 4, 2) := dk_54 4 (dk_at dksX10_bodyFrom_0 17 rfl rfl)
theorem dX10_bodyFrom_19 : decode cX10_bodyFrom 19 = .ok (.goto (-16), 3) := dk_167 255 240 (dk_at dksX10_bodyFrom_0 19 rfl rfl)
theorem dX10_bodyFrom_22 : decode cX10_bodyFrom 22 = .ok (.aload_n 0, 1) := dk_42 (dk_at dksX10_bodyFrom_0 22 rfl rfl)
theorem dX10_bodyFrom_23 : decode cX10_bodyFrom 23 = .ok (.iload 4, 2) := dk_21 4 (dk_at dksX10_bodyFrom_1 0 rfl rfl)
theorem dX10_bodyFrom_25 : decode cX10_bodyFrom 25 = .ok (.iload_n 2, 1) := dk_28 (dk_at dksX10_bodyFrom_1 2 rfl rfl)
theorem dX10_bodyFrom_26 : decode cX10_bodyFrom 26 = .ok (.iload_n 3, 1) := dk_29 (dk_at dksX10_bodyFrom_1 3 rfl rfl)
theorem dX10_bodyFrom_27 : decode cX10_bodyFrom 27 = .ok (.invokevirtual 320, 3) := dk_182 1 64 (dk_at dksX10_bodyFrom_1 4 rfl rfl)
theorem dX10_bodyFrom_30 : decode cX10_bodyFrom 30 = .ok (.ireturn, 1) := dk_172 (dk_at dksX10_bodyFrom_1 7 rfl rfl)
abbrev cX10_hasOwn : ByteArray := prog_37_method_98_code
def yX10_hasOwn : MethodName := ⟨RX10, "hasOwn", "(II)Z"⟩
def dkwX10_hasOwn_4 : List UInt8 := [3, 172, 27, 6, 160, 0, 7, 4, 167, 0, 4, 3, 172]
abbrev dktX10_hasOwn_4 : List UInt8 := dkwX10_hasOwn_4 ++ []
def dkwX10_hasOwn_3 : List UInt8 := [27, 5, 162, 0, 7, 4, 167, 0, 4, 3, 172, 27, 153, 0, 8, 27, 5, 160, 0, 7, 4, 167, 0, 4]
abbrev dktX10_hasOwn_3 : List UInt8 := dkwX10_hasOwn_3 ++ dktX10_hasOwn_4
def dkwX10_hasOwn_2 : List UInt8 := [4, 172, 27, 4, 160, 0, 7, 4, 167, 0, 4, 3, 172, 27, 5, 160, 0, 7, 4, 167, 0, 4, 3, 172]
abbrev dktX10_hasOwn_2 : List UInt8 := dkwX10_hasOwn_2 ++ dktX10_hasOwn_3
def dkwX10_hasOwn_1 : List UInt8 := [170, 0, 0, 0, 0, 0, 97, 0, 0, 0, 0, 0, 0, 0, 7, 0, 0, 0, 47, 0, 0, 0, 49, 0, 0, 0, 60, 0, 0, 0, 71, 0, 0, 0, 97, 0, 0, 0, 82, 0, 0, 0, 97, 0, 0, 0, 60]
abbrev dktX10_hasOwn_1 : List UInt8 := dkwX10_hasOwn_1 ++ dktX10_hasOwn_2
def dkwX10_hasOwn_0 : List UInt8 := [26]
abbrev dktX10_hasOwn_0 : List UInt8 := dkwX10_hasOwn_0 ++ dktX10_hasOwn_1
theorem dksX10_hasOwn_0 : cX10_hasOwn.data.toList.drop 0 = dktX10_hasOwn_0 := by decide +kernel
theorem dksX10_hasOwn_1 : cX10_hasOwn.data.toList.drop 1 = dktX10_hasOwn_1 := dk_seg dksX10_hasOwn_0 1 rfl rfl
theorem dksX10_hasOwn_2 : cX10_hasOwn.data.toList.drop 48 = dktX10_hasOwn_2 := dk_seg dksX10_hasOwn_1 47 rfl rfl
theorem dksX10_hasOwn_3 : cX10_hasOwn.data.toList.drop 72 = dktX10_hasOwn_3 := dk_seg dksX10_hasOwn_2 24 rfl rfl
theorem dksX10_hasOwn_4 : cX10_hasOwn.data.toList.drop 96 = dktX10_hasOwn_4 := dk_seg dksX10_hasOwn_3 24 rfl rfl
theorem dX10_hasOwn_0 : decode cX10_hasOwn 0 = .ok (.iload_n 0, 1) := dk_26 (dk_at dksX10_hasOwn_0 0 rfl rfl)
theorem dX10_hasOwn_1 : decode cX10_hasOwn 1 = .ok (.tableswitch 97 0 7 #[47, 49, 60, 71, 97, 82, 97, 60], 47) := by decide +kernel
theorem dX10_hasOwn_48 : decode cX10_hasOwn 48 = .ok (.iconst 1, 1) := dk_4 (dk_at dksX10_hasOwn_2 0 rfl rfl)
theorem dX10_hasOwn_49 : decode cX10_hasOwn 49 = .ok (.ireturn, 1) := dk_172 (dk_at dksX10_hasOwn_2 1 rfl rfl)
theorem dX10_hasOwn_50 : decode cX10_hasOwn 50 = .ok (.iload_n 1, 1) := dk_27 (dk_at dksX10_hasOwn_2 2 rfl rfl)
theorem dX10_hasOwn_51 : decode cX10_hasOwn 51 = .ok (.iconst 1, 1) := dk_4 (dk_at dksX10_hasOwn_2 3 rfl rfl)
theorem dX10_hasOwn_52 : decode cX10_hasOwn 52 = .ok (.if_icmp .ne 7, 3) := dk_160 0 7 (dk_at dksX10_hasOwn_2 4 rfl rfl)
theorem dX10_hasOwn_55 : decode cX10_hasOwn 55 = .ok (.iconst 1, 1) := dk_4 (dk_at dksX10_hasOwn_2 7 rfl rfl)
theorem dX10_hasOwn_56 : decode cX10_hasOwn 56 = .ok (.goto 4, 3) := dk_167 0 4 (dk_at dksX10_hasOwn_2 8 rfl rfl)
theorem dX10_hasOwn_59 : decode cX10_hasOwn 59 = .ok (.iconst 0, 1) := dk_3 (dk_at dksX10_hasOwn_2 11 rfl rfl)
theorem dX10_hasOwn_60 : decode cX10_hasOwn 60 = .ok (.ireturn, 1) := dk_172 (dk_at dksX10_hasOwn_2 12 rfl rfl)
theorem dX10_hasOwn_61 : decode cX10_hasOwn 61 = .ok (.iload_n 1, 1) := dk_27 (dk_at dksX10_hasOwn_2 13 rfl rfl)
theorem dX10_hasOwn_62 : decode cX10_hasOwn 62 = .ok (.iconst 2, 1) := dk_5 (dk_at dksX10_hasOwn_2 14 rfl rfl)
theorem dX10_hasOwn_63 : decode cX10_hasOwn 63 = .ok (.if_icmp .ne 7, 3) := dk_160 0 7 (dk_at dksX10_hasOwn_2 15 rfl rfl)
theorem dX10_hasOwn_66 : decode cX10_hasOwn 66 = .ok (.iconst 1, 1) := dk_4 (dk_at dksX10_hasOwn_2 18 rfl rfl)
theorem dX10_hasOwn_67 : decode cX10_hasOwn 67 = .ok (.goto 4, 3) := dk_167 0 4 (dk_at dksX10_hasOwn_2 19 rfl rfl)
theorem dX10_hasOwn_70 : decode cX10_hasOwn 70 = .ok (.iconst 0, 1) := dk_3 (dk_at dksX10_hasOwn_2 22 rfl rfl)
theorem dX10_hasOwn_71 : decode cX10_hasOwn 71 = .ok (.ireturn, 1) := dk_172 (dk_at dksX10_hasOwn_2 23 rfl rfl)
theorem dX10_hasOwn_72 : decode cX10_hasOwn 72 = .ok (.iload_n 1, 1) := dk_27 (dk_at dksX10_hasOwn_3 0 rfl rfl)
theorem dX10_hasOwn_73 : decode cX10_hasOwn 73 = .ok (.iconst 2, 1) := dk_5 (dk_at dksX10_hasOwn_3 1 rfl rfl)
theorem dX10_hasOwn_74 : decode cX10_hasOwn 74 = .ok (.if_icmp .ge 7, 3) := dk_162 0 7 (dk_at dksX10_hasOwn_3 2 rfl rfl)
theorem dX10_hasOwn_77 : decode cX10_hasOwn 77 = .ok (.iconst 1, 1) := dk_4 (dk_at dksX10_hasOwn_3 5 rfl rfl)
theorem dX10_hasOwn_78 : decode cX10_hasOwn 78 = .ok (.goto 4, 3) := dk_167 0 4 (dk_at dksX10_hasOwn_3 6 rfl rfl)
theorem dX10_hasOwn_81 : decode cX10_hasOwn 81 = .ok (.iconst 0, 1) := dk_3 (dk_at dksX10_hasOwn_3 9 rfl rfl)
theorem dX10_hasOwn_82 : decode cX10_hasOwn 82 = .ok (.ireturn, 1) := dk_172 (dk_at dksX10_hasOwn_3 10 rfl rfl)
theorem dX10_hasOwn_83 : decode cX10_hasOwn 83 = .ok (.iload_n 1, 1) := dk_27 (dk_at dksX10_hasOwn_3 11 rfl rfl)
theorem dX10_hasOwn_84 : decode cX10_hasOwn 84 = .ok (.ifCond .eq 8, 3) := dk_153 0 8 (dk_at dksX10_hasOwn_3 12 rfl rfl)
theorem dX10_hasOwn_87 : decode cX10_hasOwn 87 = .ok (.iload_n 1, 1) := dk_27 (dk_at dksX10_hasOwn_3 15 rfl rfl)
theorem dX10_hasOwn_88 : decode cX10_hasOwn 88 = .ok (.iconst 2, 1) := dk_5 (dk_at dksX10_hasOwn_3 16 rfl rfl)
theorem dX10_hasOwn_89 : decode cX10_hasOwn 89 = .ok (.if_icmp .ne 7, 3) := dk_160 0 7 (dk_at dksX10_hasOwn_3 17 rfl rfl)
theorem dX10_hasOwn_92 : decode cX10_hasOwn 92 = .ok (.iconst 1, 1) := dk_4 (dk_at dksX10_hasOwn_3 20 rfl rfl)
theorem dX10_hasOwn_93 : decode cX10_hasOwn 93 = .ok (.goto 4, 3) := dk_167 0 4 (dk_at dksX10_hasOwn_3 21 rfl rfl)
theorem dX10_hasOwn_96 : decode cX10_hasOwn 96 = .ok (.iconst 0, 1) := dk_3 (dk_at dksX10_hasOwn_4 0 rfl rfl)
theorem dX10_hasOwn_97 : decode cX10_hasOwn 97 = .ok (.ireturn, 1) := dk_172 (dk_at dksX10_hasOwn_4 1 rfl rfl)
theorem dX10_hasOwn_98 : decode cX10_hasOwn 98 = .ok (.iload_n 1, 1) := dk_27 (dk_at dksX10_hasOwn_4 2 rfl rfl)
theorem dX10_hasOwn_99 : decode cX10_hasOwn 99 = .ok (.iconst 3, 1) := dk_6 (dk_at dksX10_hasOwn_4 3 rfl rfl)
theorem dX10_hasOwn_100 : decode cX10_hasOwn 100 = .ok (.if_icmp .ne 7, 3) := dk_160 0 7 (dk_at dksX10_hasOwn_4 4 rfl rfl)
theorem dX10_hasOwn_103 : decode cX10_hasOwn 103 = .ok (.iconst 1, 1) := dk_4 (dk_at dksX10_hasOwn_4 7 rfl rfl)
theorem dX10_hasOwn_104 : decode cX10_hasOwn 104 = .ok (.goto 4, 3) := dk_167 0 4 (dk_at dksX10_hasOwn_4 8 rfl rfl)
theorem dX10_hasOwn_107 : decode cX10_hasOwn 107 = .ok (.iconst 0, 1) := dk_3 (dk_at dksX10_hasOwn_4 11 rfl rfl)
theorem dX10_hasOwn_108 : decode cX10_hasOwn 108 = .ok (.ireturn, 1) := dk_172 (dk_at dksX10_hasOwn_4 12 rfl rfl)
abbrev cX10_body : ByteArray := prog_37_method_101_code
def yX10_body : MethodName := ⟨RX10, "body", "(III)I"⟩
def dkwX10_body_12 : List UInt8 := [182, 1, 58, 54, 4, 21, 4, 42, 3, 29, 182, 1, 70, 130, 172]
abbrev dktX10_body_12 : List UInt8 := dkwX10_body_12 ++ []
def dkwX10_body_11 : List UInt8 := [54, 4, 21, 4, 42, 4, 6, 29, 182, 1, 58, 100, 172, 42, 16, 80, 182, 1, 67, 42, 8, 5, 29]
abbrev dktX10_body_11 : List UInt8 := dkwX10_body_11 ++ dktX10_body_12
def dkwX10_body_10 : List UInt8 := [3, 5, 29, 182, 1, 58, 42, 180, 1, 55, 96, 172, 42, 16, 70, 182, 1, 67, 42, 4, 29, 182, 1, 70]
abbrev dktX10_body_10 : List UInt8 := dkwX10_body_10 ++ dktX10_body_11
def dkwX10_body_9 : List UInt8 := [100, 172, 42, 16, 60, 182, 1, 67, 42, 3, 3, 29, 182, 1, 58, 116, 172, 42, 16, 61, 182, 1, 67, 42]
abbrev dktX10_body_9 : List UInt8 := dkwX10_body_9 ++ dktX10_body_10
def dkwX10_body_8 : List UInt8 := [172, 42, 16, 50, 182, 1, 67, 42, 3, 6, 29, 182, 1, 58, 54, 4, 21, 4, 42, 3, 5, 182, 1, 70]
abbrev dktX10_body_8 : List UInt8 := dkwX10_body_8 ++ dktX10_body_9
def dkwX10_body_7 : List UInt8 := [4, 3, 29, 182, 1, 58, 4, 100, 172, 42, 16, 41, 182, 1, 67, 42, 4, 4, 29, 5, 96, 182, 1, 58]
abbrev dktX10_body_7 : List UInt8 := dkwX10_body_7 ++ dktX10_body_8
def dkwX10_body_6 : List UInt8 := [172, 42, 16, 30, 182, 1, 67, 42, 3, 5, 29, 182, 1, 58, 6, 104, 172, 42, 16, 40, 182, 1, 67, 42]
abbrev dktX10_body_6 : List UInt8 := dkwX10_body_6 ++ dktX10_body_7
def dkwX10_body_5 : List UInt8 := [42, 16, 20, 182, 1, 67, 42, 3, 4, 29, 182, 1, 58, 54, 4, 21, 4, 42, 5, 4, 182, 1, 70, 96]
abbrev dktX10_body_5 : List UInt8 := dkwX10_body_5 ++ dktX10_body_6
def dkwX10_body_4 : List UInt8 := [42, 16, 13, 182, 1, 67, 42, 4, 29, 182, 1, 70, 54, 4, 21, 4, 42, 5, 29, 182, 1, 70, 130, 172]
abbrev dktX10_body_4 : List UInt8 := dkwX10_body_4 ++ dktX10_body_5
def dkwX10_body_3 : List UInt8 := [182, 1, 70, 5, 104, 172, 42, 16, 12, 182, 1, 67, 29, 42, 42, 180, 1, 55, 4, 182, 0, 217, 100, 172]
abbrev dktX10_body_3 : List UInt8 := dkwX10_body_3 ++ dktX10_body_4
def dkwX10_body_2 : List UInt8 := [42, 16, 10, 182, 1, 67, 29, 42, 180, 1, 55, 96, 172, 42, 16, 11, 182, 1, 67, 42, 3, 29]
abbrev dktX10_body_2 : List UInt8 := dkwX10_body_2 ++ dktX10_body_3
def dkwX10_body_1 : List UInt8 := [170, 0, 0, 0, 0, 1, 98, 0, 0, 0, 0, 0, 0, 0, 27, 0, 0, 0, 127, 0, 0, 0, 140, 0, 0, 0, 155, 0, 0, 0, 173, 0, 0, 1, 98, 0, 0, 0, 197, 0, 0, 1, 98, 0, 0, 1, 98, 0, 0, 1, 98, 0, 0, 1, 98, 0, 0, 0, 222, 0, 0, 1, 98, 0, 0, 0, 238, 0, 0, 0, 254, 0, 0, 1, 98, 0, 0, 1, 98, 0, 0, 1, 98, 0, 0, 1, 98, 0, 0, 1, 98, 0, 0, 1, 14, 0, 0, 1, 39, 0, 0, 1, 98, 0, 0, 1, 54, 0, 0, 1, 98, 0, 0, 1, 98, 0, 0, 1, 98, 0, 0, 1, 98, 0, 0, 1, 73]
abbrev dktX10_body_1 : List UInt8 := dkwX10_body_1 ++ dktX10_body_2
def dkwX10_body_0 : List UInt8 := [7, 27, 104, 28, 96]
abbrev dktX10_body_0 : List UInt8 := dkwX10_body_0 ++ dktX10_body_1
theorem dksX10_body_0 : cX10_body.data.toList.drop 0 = dktX10_body_0 := by decide +kernel
theorem dksX10_body_1 : cX10_body.data.toList.drop 5 = dktX10_body_1 := dk_seg dksX10_body_0 5 rfl rfl
theorem dksX10_body_2 : cX10_body.data.toList.drop 132 = dktX10_body_2 := dk_seg dksX10_body_1 127 rfl rfl
theorem dksX10_body_3 : cX10_body.data.toList.drop 154 = dktX10_body_3 := dk_seg dksX10_body_2 22 rfl rfl
theorem dksX10_body_4 : cX10_body.data.toList.drop 178 = dktX10_body_4 := dk_seg dksX10_body_3 24 rfl rfl
theorem dksX10_body_5 : cX10_body.data.toList.drop 202 = dktX10_body_5 := dk_seg dksX10_body_4 24 rfl rfl
theorem dksX10_body_6 : cX10_body.data.toList.drop 226 = dktX10_body_6 := dk_seg dksX10_body_5 24 rfl rfl
theorem dksX10_body_7 : cX10_body.data.toList.drop 250 = dktX10_body_7 := dk_seg dksX10_body_6 24 rfl rfl
theorem dksX10_body_8 : cX10_body.data.toList.drop 274 = dktX10_body_8 := dk_seg dksX10_body_7 24 rfl rfl
theorem dksX10_body_9 : cX10_body.data.toList.drop 298 = dktX10_body_9 := dk_seg dksX10_body_8 24 rfl rfl
theorem dksX10_body_10 : cX10_body.data.toList.drop 322 = dktX10_body_10 := dk_seg dksX10_body_9 24 rfl rfl
theorem dksX10_body_11 : cX10_body.data.toList.drop 346 = dktX10_body_11 := dk_seg dksX10_body_10 24 rfl rfl
theorem dksX10_body_12 : cX10_body.data.toList.drop 369 = dktX10_body_12 := dk_seg dksX10_body_11 23 rfl rfl
theorem dX10_body_0 : decode cX10_body 0 = .ok (.iconst 4, 1) := dk_7 (dk_at dksX10_body_0 0 rfl rfl)
theorem dX10_body_1 : decode cX10_body 1 = .ok (.iload_n 1, 1) := dk_27 (dk_at dksX10_body_0 1 rfl rfl)
theorem dX10_body_2 : decode cX10_body 2 = .ok (.imul, 1) := dk_104 (dk_at dksX10_body_0 2 rfl rfl)
theorem dX10_body_3 : decode cX10_body 3 = .ok (.iload_n 2, 1) := dk_28 (dk_at dksX10_body_0 3 rfl rfl)
theorem dX10_body_4 : decode cX10_body 4 = .ok (.iadd, 1) := dk_96 (dk_at dksX10_body_0 4 rfl rfl)
theorem dX10_body_5 : decode cX10_body 5 = .ok (.tableswitch 354 0 27 #[127, 140, 155, 173, 354, 197, 354, 354, 354, 354, 222, 354, 238, 254, 354, 354, 354, 354, 354, 270, 295, 354, 310, 354, 354, 354, 354, 329], 127) := by decide +kernel
theorem dX10_body_132 : decode cX10_body 132 = .ok (.aload_n 0, 1) := dk_42 (dk_at dksX10_body_2 0 rfl rfl)
theorem dX10_body_133 : decode cX10_body 133 = .ok (.bipush 10, 2) := dk_16 10 (dk_at dksX10_body_2 1 rfl rfl)
theorem dX10_body_135 : decode cX10_body 135 = .ok (.invokevirtual 323, 3) := dk_182 1 67 (dk_at dksX10_body_2 3 rfl rfl)
theorem dX10_body_138 : decode cX10_body 138 = .ok (.iload_n 3, 1) := dk_29 (dk_at dksX10_body_2 6 rfl rfl)
theorem dX10_body_139 : decode cX10_body 139 = .ok (.aload_n 0, 1) := dk_42 (dk_at dksX10_body_2 7 rfl rfl)
theorem dX10_body_140 : decode cX10_body 140 = .ok (.getfield 311, 3) := dk_180 1 55 (dk_at dksX10_body_2 8 rfl rfl)
theorem dX10_body_143 : decode cX10_body 143 = .ok (.iadd, 1) := dk_96 (dk_at dksX10_body_2 11 rfl rfl)
theorem dX10_body_144 : decode cX10_body 144 = .ok (.ireturn, 1) := dk_172 (dk_at dksX10_body_2 12 rfl rfl)
theorem dX10_body_145 : decode cX10_body 145 = .ok (.aload_n 0, 1) := dk_42 (dk_at dksX10_body_2 13 rfl rfl)
theorem dX10_body_146 : decode cX10_body 146 = .ok (.bipush 11, 2) := dk_16 11 (dk_at dksX10_body_2 14 rfl rfl)
theorem dX10_body_148 : decode cX10_body 148 = .ok (.invokevirtual 323, 3) := dk_182 1 67 (dk_at dksX10_body_2 16 rfl rfl)
theorem dX10_body_151 : decode cX10_body 151 = .ok (.aload_n 0, 1) := dk_42 (dk_at dksX10_body_2 19 rfl rfl)
theorem dX10_body_152 : decode cX10_body 152 = .ok (.iconst 0, 1) := dk_3 (dk_at dksX10_body_2 20 rfl rfl)
theorem dX10_body_153 : decode cX10_body 153 = .ok (.iload_n 3, 1) := dk_29 (dk_at dksX10_body_2 21 rfl rfl)
theorem dX10_body_154 : decode cX10_body 154 = .ok (.invokevirtual 326, 3) := dk_182 1 70 (dk_at dksX10_body_3 0 rfl rfl)
theorem dX10_body_157 : decode cX10_body 157 = .ok (.iconst 2, 1) := dk_5 (dk_at dksX10_body_3 3 rfl rfl)
theorem dX10_body_158 : decode cX10_body 158 = .ok (.imul, 1) := dk_104 (dk_at dksX10_body_3 4 rfl rfl)
theorem dX10_body_159 : decode cX10_body 159 = .ok (.ireturn, 1) := dk_172 (dk_at dksX10_body_3 5 rfl rfl)
theorem dX10_body_160 : decode cX10_body 160 = .ok (.aload_n 0, 1) := dk_42 (dk_at dksX10_body_3 6 rfl rfl)
theorem dX10_body_161 : decode cX10_body 161 = .ok (.bipush 12, 2) := dk_16 12 (dk_at dksX10_body_3 7 rfl rfl)
theorem dX10_body_163 : decode cX10_body 163 = .ok (.invokevirtual 323, 3) := dk_182 1 67 (dk_at dksX10_body_3 9 rfl rfl)
theorem dX10_body_166 : decode cX10_body 166 = .ok (.iload_n 3, 1) := dk_29 (dk_at dksX10_body_3 12 rfl rfl)
theorem dX10_body_167 : decode cX10_body 167 = .ok (.aload_n 0, 1) := dk_42 (dk_at dksX10_body_3 13 rfl rfl)
theorem dX10_body_168 : decode cX10_body 168 = .ok (.aload_n 0, 1) := dk_42 (dk_at dksX10_body_3 14 rfl rfl)
theorem dX10_body_169 : decode cX10_body 169 = .ok (.getfield 311, 3) := dk_180 1 55 (dk_at dksX10_body_3 15 rfl rfl)
theorem dX10_body_172 : decode cX10_body 172 = .ok (.iconst 1, 1) := dk_4 (dk_at dksX10_body_3 18 rfl rfl)
theorem dX10_body_173 : decode cX10_body 173 = .ok (.invokevirtual 217, 3) := dk_182 0 217 (dk_at dksX10_body_3 19 rfl rfl)
theorem dX10_body_176 : decode cX10_body 176 = .ok (.isub, 1) := dk_100 (dk_at dksX10_body_3 22 rfl rfl)
theorem dX10_body_177 : decode cX10_body 177 = .ok (.ireturn, 1) := dk_172 (dk_at dksX10_body_3 23 rfl rfl)
theorem dX10_body_178 : decode cX10_body 178 = .ok (.aload_n 0, 1) := dk_42 (dk_at dksX10_body_4 0 rfl rfl)
theorem dX10_body_179 : decode cX10_body 179 = .ok (.bipush 13, 2) := dk_16 13 (dk_at dksX10_body_4 1 rfl rfl)
theorem dX10_body_181 : decode cX10_body 181 = .ok (.invokevirtual 323, 3) := dk_182 1 67 (dk_at dksX10_body_4 3 rfl rfl)
theorem dX10_body_184 : decode cX10_body 184 = .ok (.aload_n 0, 1) := dk_42 (dk_at dksX10_body_4 6 rfl rfl)
theorem dX10_body_185 : decode cX10_body 185 = .ok (.iconst 1, 1) := dk_4 (dk_at dksX10_body_4 7 rfl rfl)
theorem dX10_body_186 : decode cX10_body 186 = .ok (.iload_n 3, 1) := dk_29 (dk_at dksX10_body_4 8 rfl rfl)
theorem dX10_body_187 : decode cX10_body 187 = .ok (.invokevirtual 326, 3) := dk_182 1 70 (dk_at dksX10_body_4 9 rfl rfl)
theorem dX10_body_190 : decode cX10_body 190 = .ok (.istore 4, 2) := dk_54 4 (dk_at dksX10_body_4 12 rfl rfl)
theorem dX10_body_192 : decode cX10_body 192 = .ok (.iload 4, 2) := dk_21 4 (dk_at dksX10_body_4 14 rfl rfl)
theorem dX10_body_194 : decode cX10_body 194 = .ok (.aload_n 0, 1) := dk_42 (dk_at dksX10_body_4 16 rfl rfl)
theorem dX10_body_195 : decode cX10_body 195 = .ok (.iconst 2, 1) := dk_5 (dk_at dksX10_body_4 17 rfl rfl)
theorem dX10_body_196 : decode cX10_body 196 = .ok (.iload_n 3, 1) := dk_29 (dk_at dksX10_body_4 18 rfl rfl)
theorem dX10_body_197 : decode cX10_body 197 = .ok (.invokevirtual 326, 3) := dk_182 1 70 (dk_at dksX10_body_4 19 rfl rfl)
theorem dX10_body_200 : decode cX10_body 200 = .ok (.ixor, 1) := dk_130 (dk_at dksX10_body_4 22 rfl rfl)
theorem dX10_body_201 : decode cX10_body 201 = .ok (.ireturn, 1) := dk_172 (dk_at dksX10_body_4 23 rfl rfl)
theorem dX10_body_202 : decode cX10_body 202 = .ok (.aload_n 0, 1) := dk_42 (dk_at dksX10_body_5 0 rfl rfl)
theorem dX10_body_203 : decode cX10_body 203 = .ok (.bipush 20, 2) := dk_16 20 (dk_at dksX10_body_5 1 rfl rfl)
theorem dX10_body_205 : decode cX10_body 205 = .ok (.invokevirtual 323, 3) := dk_182 1 67 (dk_at dksX10_body_5 3 rfl rfl)
theorem dX10_body_208 : decode cX10_body 208 = .ok (.aload_n 0, 1) := dk_42 (dk_at dksX10_body_5 6 rfl rfl)
theorem dX10_body_209 : decode cX10_body 209 = .ok (.iconst 0, 1) := dk_3 (dk_at dksX10_body_5 7 rfl rfl)
theorem dX10_body_210 : decode cX10_body 210 = .ok (.iconst 1, 1) := dk_4 (dk_at dksX10_body_5 8 rfl rfl)
theorem dX10_body_211 : decode cX10_body 211 = .ok (.iload_n 3, 1) := dk_29 (dk_at dksX10_body_5 9 rfl rfl)
theorem dX10_body_212 : decode cX10_body 212 = .ok (.invokevirtual 314, 3) := dk_182 1 58 (dk_at dksX10_body_5 10 rfl rfl)
theorem dX10_body_215 : decode cX10_body 215 = .ok (.istore 4, 2) := dk_54 4 (dk_at dksX10_body_5 13 rfl rfl)
theorem dX10_body_217 : decode cX10_body 217 = .ok (.iload 4, 2) := dk_21 4 (dk_at dksX10_body_5 15 rfl rfl)
theorem dX10_body_219 : decode cX10_body 219 = .ok (.aload_n 0, 1) := dk_42 (dk_at dksX10_body_5 17 rfl rfl)
theorem dX10_body_220 : decode cX10_body 220 = .ok (.iconst 2, 1) := dk_5 (dk_at dksX10_body_5 18 rfl rfl)
theorem dX10_body_221 : decode cX10_body 221 = .ok (.iconst 1, 1) := dk_4 (dk_at dksX10_body_5 19 rfl rfl)
theorem dX10_body_222 : decode cX10_body 222 = .ok (.invokevirtual 326, 3) := dk_182 1 70 (dk_at dksX10_body_5 20 rfl rfl)
theorem dX10_body_225 : decode cX10_body 225 = .ok (.iadd, 1) := dk_96 (dk_at dksX10_body_5 23 rfl rfl)
theorem dX10_body_226 : decode cX10_body 226 = .ok (.ireturn, 1) := dk_172 (dk_at dksX10_body_6 0 rfl rfl)
theorem dX10_body_227 : decode cX10_body 227 = .ok (.aload_n 0, 1) := dk_42 (dk_at dksX10_body_6 1 rfl rfl)
theorem dX10_body_228 : decode cX10_body 228 = .ok (.bipush 30, 2) := dk_16 30 (dk_at dksX10_body_6 2 rfl rfl)
theorem dX10_body_230 : decode cX10_body 230 = .ok (.invokevirtual 323, 3) := dk_182 1 67 (dk_at dksX10_body_6 4 rfl rfl)
theorem dX10_body_233 : decode cX10_body 233 = .ok (.aload_n 0, 1) := dk_42 (dk_at dksX10_body_6 7 rfl rfl)
theorem dX10_body_234 : decode cX10_body 234 = .ok (.iconst 0, 1) := dk_3 (dk_at dksX10_body_6 8 rfl rfl)
theorem dX10_body_235 : decode cX10_body 235 = .ok (.iconst 2, 1) := dk_5 (dk_at dksX10_body_6 9 rfl rfl)
theorem dX10_body_236 : decode cX10_body 236 = .ok (.iload_n 3, 1) := dk_29 (dk_at dksX10_body_6 10 rfl rfl)
theorem dX10_body_237 : decode cX10_body 237 = .ok (.invokevirtual 314, 3) := dk_182 1 58 (dk_at dksX10_body_6 11 rfl rfl)
theorem dX10_body_240 : decode cX10_body 240 = .ok (.iconst 3, 1) := dk_6 (dk_at dksX10_body_6 14 rfl rfl)
theorem dX10_body_241 : decode cX10_body 241 = .ok (.imul, 1) := dk_104 (dk_at dksX10_body_6 15 rfl rfl)
theorem dX10_body_242 : decode cX10_body 242 = .ok (.ireturn, 1) := dk_172 (dk_at dksX10_body_6 16 rfl rfl)
theorem dX10_body_243 : decode cX10_body 243 = .ok (.aload_n 0, 1) := dk_42 (dk_at dksX10_body_6 17 rfl rfl)
theorem dX10_body_244 : decode cX10_body 244 = .ok (.bipush 40, 2) := dk_16 40 (dk_at dksX10_body_6 18 rfl rfl)
theorem dX10_body_246 : decode cX10_body 246 = .ok (.invokevirtual 323, 3) := dk_182 1 67 (dk_at dksX10_body_6 20 rfl rfl)
theorem dX10_body_249 : decode cX10_body 249 = .ok (.aload_n 0, 1) := dk_42 (dk_at dksX10_body_6 23 rfl rfl)
theorem dX10_body_250 : decode cX10_body 250 = .ok (.iconst 1, 1) := dk_4 (dk_at dksX10_body_7 0 rfl rfl)
theorem dX10_body_251 : decode cX10_body 251 = .ok (.iconst 0, 1) := dk_3 (dk_at dksX10_body_7 1 rfl rfl)
theorem dX10_body_252 : decode cX10_body 252 = .ok (.iload_n 3, 1) := dk_29 (dk_at dksX10_body_7 2 rfl rfl)
theorem dX10_body_253 : decode cX10_body 253 = .ok (.invokevirtual 314, 3) := dk_182 1 58 (dk_at dksX10_body_7 3 rfl rfl)
theorem dX10_body_256 : decode cX10_body 256 = .ok (.iconst 1, 1) := dk_4 (dk_at dksX10_body_7 6 rfl rfl)
theorem dX10_body_257 : decode cX10_body 257 = .ok (.isub, 1) := dk_100 (dk_at dksX10_body_7 7 rfl rfl)
theorem dX10_body_258 : decode cX10_body 258 = .ok (.ireturn, 1) := dk_172 (dk_at dksX10_body_7 8 rfl rfl)
theorem dX10_body_259 : decode cX10_body 259 = .ok (.aload_n 0, 1) := dk_42 (dk_at dksX10_body_7 9 rfl rfl)
theorem dX10_body_260 : decode cX10_body 260 = .ok (.bipush 41, 2) := dk_16 41 (dk_at dksX10_body_7 10 rfl rfl)
theorem dX10_body_262 : decode cX10_body 262 = .ok (.invokevirtual 323, 3) := dk_182 1 67 (dk_at dksX10_body_7 12 rfl rfl)
theorem dX10_body_265 : decode cX10_body 265 = .ok (.aload_n 0, 1) := dk_42 (dk_at dksX10_body_7 15 rfl rfl)
theorem dX10_body_266 : decode cX10_body 266 = .ok (.iconst 1, 1) := dk_4 (dk_at dksX10_body_7 16 rfl rfl)
theorem dX10_body_267 : decode cX10_body 267 = .ok (.iconst 1, 1) := dk_4 (dk_at dksX10_body_7 17 rfl rfl)
theorem dX10_body_268 : decode cX10_body 268 = .ok (.iload_n 3, 1) := dk_29 (dk_at dksX10_body_7 18 rfl rfl)
theorem dX10_body_269 : decode cX10_body 269 = .ok (.iconst 2, 1) := dk_5 (dk_at dksX10_body_7 19 rfl rfl)
theorem dX10_body_270 : decode cX10_body 270 = .ok (.iadd, 1) := dk_96 (dk_at dksX10_body_7 20 rfl rfl)
theorem dX10_body_271 : decode cX10_body 271 = .ok (.invokevirtual 314, 3) := dk_182 1 58 (dk_at dksX10_body_7 21 rfl rfl)
theorem dX10_body_274 : decode cX10_body 274 = .ok (.ireturn, 1) := dk_172 (dk_at dksX10_body_8 0 rfl rfl)
theorem dX10_body_275 : decode cX10_body 275 = .ok (.aload_n 0, 1) := dk_42 (dk_at dksX10_body_8 1 rfl rfl)
theorem dX10_body_276 : decode cX10_body 276 = .ok (.bipush 50, 2) := dk_16 50 (dk_at dksX10_body_8 2 rfl rfl)
theorem dX10_body_278 : decode cX10_body 278 = .ok (.invokevirtual 323, 3) := dk_182 1 67 (dk_at dksX10_body_8 4 rfl rfl)
theorem dX10_body_281 : decode cX10_body 281 = .ok (.aload_n 0, 1) := dk_42 (dk_at dksX10_body_8 7 rfl rfl)
theorem dX10_body_282 : decode cX10_body 282 = .ok (.iconst 0, 1) := dk_3 (dk_at dksX10_body_8 8 rfl rfl)
theorem dX10_body_283 : decode cX10_body 283 = .ok (.iconst 3, 1) := dk_6 (dk_at dksX10_body_8 9 rfl rfl)
theorem dX10_body_284 : decode cX10_body 284 = .ok (.iload_n 3, 1) := dk_29 (dk_at dksX10_body_8 10 rfl rfl)
theorem dX10_body_285 : decode cX10_body 285 = .ok (.invokevirtual 314, 3) := dk_182 1 58 (dk_at dksX10_body_8 11 rfl rfl)
theorem dX10_body_288 : decode cX10_body 288 = .ok (.istore 4, 2) := dk_54 4 (dk_at dksX10_body_8 14 rfl rfl)
theorem dX10_body_290 : decode cX10_body 290 = .ok (.iload 4, 2) := dk_21 4 (dk_at dksX10_body_8 16 rfl rfl)
theorem dX10_body_292 : decode cX10_body 292 = .ok (.aload_n 0, 1) := dk_42 (dk_at dksX10_body_8 18 rfl rfl)
theorem dX10_body_293 : decode cX10_body 293 = .ok (.iconst 0, 1) := dk_3 (dk_at dksX10_body_8 19 rfl rfl)
theorem dX10_body_294 : decode cX10_body 294 = .ok (.iconst 2, 1) := dk_5 (dk_at dksX10_body_8 20 rfl rfl)
theorem dX10_body_295 : decode cX10_body 295 = .ok (.invokevirtual 326, 3) := dk_182 1 70 (dk_at dksX10_body_8 21 rfl rfl)
theorem dX10_body_298 : decode cX10_body 298 = .ok (.isub, 1) := dk_100 (dk_at dksX10_body_9 0 rfl rfl)
theorem dX10_body_299 : decode cX10_body 299 = .ok (.ireturn, 1) := dk_172 (dk_at dksX10_body_9 1 rfl rfl)
theorem dX10_body_300 : decode cX10_body 300 = .ok (.aload_n 0, 1) := dk_42 (dk_at dksX10_body_9 2 rfl rfl)
theorem dX10_body_301 : decode cX10_body 301 = .ok (.bipush 60, 2) := dk_16 60 (dk_at dksX10_body_9 3 rfl rfl)
theorem dX10_body_303 : decode cX10_body 303 = .ok (.invokevirtual 323, 3) := dk_182 1 67 (dk_at dksX10_body_9 5 rfl rfl)
theorem dX10_body_306 : decode cX10_body 306 = .ok (.aload_n 0, 1) := dk_42 (dk_at dksX10_body_9 8 rfl rfl)
theorem dX10_body_307 : decode cX10_body 307 = .ok (.iconst 0, 1) := dk_3 (dk_at dksX10_body_9 9 rfl rfl)
theorem dX10_body_308 : decode cX10_body 308 = .ok (.iconst 0, 1) := dk_3 (dk_at dksX10_body_9 10 rfl rfl)
theorem dX10_body_309 : decode cX10_body 309 = .ok (.iload_n 3, 1) := dk_29 (dk_at dksX10_body_9 11 rfl rfl)
theorem dX10_body_310 : decode cX10_body 310 = .ok (.invokevirtual 314, 3) := dk_182 1 58 (dk_at dksX10_body_9 12 rfl rfl)
theorem dX10_body_313 : decode cX10_body 313 = .ok (.ineg, 1) := dk_116 (dk_at dksX10_body_9 15 rfl rfl)
theorem dX10_body_314 : decode cX10_body 314 = .ok (.ireturn, 1) := dk_172 (dk_at dksX10_body_9 16 rfl rfl)
theorem dX10_body_315 : decode cX10_body 315 = .ok (.aload_n 0, 1) := dk_42 (dk_at dksX10_body_9 17 rfl rfl)
theorem dX10_body_316 : decode cX10_body 316 = .ok (.bipush 61, 2) := dk_16 61 (dk_at dksX10_body_9 18 rfl rfl)
theorem dX10_body_318 : decode cX10_body 318 = .ok (.invokevirtual 323, 3) := dk_182 1 67 (dk_at dksX10_body_9 20 rfl rfl)
theorem dX10_body_321 : decode cX10_body 321 = .ok (.aload_n 0, 1) := dk_42 (dk_at dksX10_body_9 23 rfl rfl)
theorem dX10_body_322 : decode cX10_body 322 = .ok (.iconst 0, 1) := dk_3 (dk_at dksX10_body_10 0 rfl rfl)
theorem dX10_body_323 : decode cX10_body 323 = .ok (.iconst 2, 1) := dk_5 (dk_at dksX10_body_10 1 rfl rfl)
theorem dX10_body_324 : decode cX10_body 324 = .ok (.iload_n 3, 1) := dk_29 (dk_at dksX10_body_10 2 rfl rfl)
theorem dX10_body_325 : decode cX10_body 325 = .ok (.invokevirtual 314, 3) := dk_182 1 58 (dk_at dksX10_body_10 3 rfl rfl)
theorem dX10_body_328 : decode cX10_body 328 = .ok (.aload_n 0, 1) := dk_42 (dk_at dksX10_body_10 6 rfl rfl)
theorem dX10_body_329 : decode cX10_body 329 = .ok (.getfield 311, 3) := dk_180 1 55 (dk_at dksX10_body_10 7 rfl rfl)
theorem dX10_body_332 : decode cX10_body 332 = .ok (.iadd, 1) := dk_96 (dk_at dksX10_body_10 10 rfl rfl)
theorem dX10_body_333 : decode cX10_body 333 = .ok (.ireturn, 1) := dk_172 (dk_at dksX10_body_10 11 rfl rfl)
theorem dX10_body_334 : decode cX10_body 334 = .ok (.aload_n 0, 1) := dk_42 (dk_at dksX10_body_10 12 rfl rfl)
theorem dX10_body_335 : decode cX10_body 335 = .ok (.bipush 70, 2) := dk_16 70 (dk_at dksX10_body_10 13 rfl rfl)
theorem dX10_body_337 : decode cX10_body 337 = .ok (.invokevirtual 323, 3) := dk_182 1 67 (dk_at dksX10_body_10 15 rfl rfl)
theorem dX10_body_340 : decode cX10_body 340 = .ok (.aload_n 0, 1) := dk_42 (dk_at dksX10_body_10 18 rfl rfl)
theorem dX10_body_341 : decode cX10_body 341 = .ok (.iconst 1, 1) := dk_4 (dk_at dksX10_body_10 19 rfl rfl)
theorem dX10_body_342 : decode cX10_body 342 = .ok (.iload_n 3, 1) := dk_29 (dk_at dksX10_body_10 20 rfl rfl)
theorem dX10_body_343 : decode cX10_body 343 = .ok (.invokevirtual 326, 3) := dk_182 1 70 (dk_at dksX10_body_10 21 rfl rfl)
theorem dX10_body_346 : decode cX10_body 346 = .ok (.istore 4, 2) := dk_54 4 (dk_at dksX10_body_11 0 rfl rfl)
theorem dX10_body_348 : decode cX10_body 348 = .ok (.iload 4, 2) := dk_21 4 (dk_at dksX10_body_11 2 rfl rfl)
theorem dX10_body_350 : decode cX10_body 350 = .ok (.aload_n 0, 1) := dk_42 (dk_at dksX10_body_11 4 rfl rfl)
theorem dX10_body_351 : decode cX10_body 351 = .ok (.iconst 1, 1) := dk_4 (dk_at dksX10_body_11 5 rfl rfl)
theorem dX10_body_352 : decode cX10_body 352 = .ok (.iconst 3, 1) := dk_6 (dk_at dksX10_body_11 6 rfl rfl)
theorem dX10_body_353 : decode cX10_body 353 = .ok (.iload_n 3, 1) := dk_29 (dk_at dksX10_body_11 7 rfl rfl)
theorem dX10_body_354 : decode cX10_body 354 = .ok (.invokevirtual 314, 3) := dk_182 1 58 (dk_at dksX10_body_11 8 rfl rfl)
theorem dX10_body_357 : decode cX10_body 357 = .ok (.isub, 1) := dk_100 (dk_at dksX10_body_11 11 rfl rfl)
theorem dX10_body_358 : decode cX10_body 358 = .ok (.ireturn, 1) := dk_172 (dk_at dksX10_body_11 12 rfl rfl)
theorem dX10_body_359 : decode cX10_body 359 = .ok (.aload_n 0, 1) := dk_42 (dk_at dksX10_body_11 13 rfl rfl)
theorem dX10_body_360 : decode cX10_body 360 = .ok (.bipush 80, 2) := dk_16 80 (dk_at dksX10_body_11 14 rfl rfl)
theorem dX10_body_362 : decode cX10_body 362 = .ok (.invokevirtual 323, 3) := dk_182 1 67 (dk_at dksX10_body_11 16 rfl rfl)
theorem dX10_body_365 : decode cX10_body 365 = .ok (.aload_n 0, 1) := dk_42 (dk_at dksX10_body_11 19 rfl rfl)
theorem dX10_body_366 : decode cX10_body 366 = .ok (.iconst 5, 1) := dk_8 (dk_at dksX10_body_11 20 rfl rfl)
theorem dX10_body_367 : decode cX10_body 367 = .ok (.iconst 2, 1) := dk_5 (dk_at dksX10_body_11 21 rfl rfl)
theorem dX10_body_368 : decode cX10_body 368 = .ok (.iload_n 3, 1) := dk_29 (dk_at dksX10_body_11 22 rfl rfl)
theorem dX10_body_369 : decode cX10_body 369 = .ok (.invokevirtual 314, 3) := dk_182 1 58 (dk_at dksX10_body_12 0 rfl rfl)
theorem dX10_body_372 : decode cX10_body 372 = .ok (.istore 4, 2) := dk_54 4 (dk_at dksX10_body_12 3 rfl rfl)
theorem dX10_body_374 : decode cX10_body 374 = .ok (.iload 4, 2) := dk_21 4 (dk_at dksX10_body_12 5 rfl rfl)
theorem dX10_body_376 : decode cX10_body 376 = .ok (.aload_n 0, 1) := dk_42 (dk_at dksX10_body_12 7 rfl rfl)
theorem dX10_body_377 : decode cX10_body 377 = .ok (.iconst 0, 1) := dk_3 (dk_at dksX10_body_12 8 rfl rfl)
theorem dX10_body_378 : decode cX10_body 378 = .ok (.iload_n 3, 1) := dk_29 (dk_at dksX10_body_12 9 rfl rfl)
theorem dX10_body_379 : decode cX10_body 379 = .ok (.invokevirtual 326, 3) := dk_182 1 70 (dk_at dksX10_body_12 10 rfl rfl)
theorem dX10_body_382 : decode cX10_body 382 = .ok (.ixor, 1) := dk_130 (dk_at dksX10_body_12 13 rfl rfl)
theorem dX10_body_383 : decode cX10_body 383 = .ok (.ireturn, 1) := dk_172 (dk_at dksX10_body_12 14 rfl rfl)
abbrev cX10_began : ByteArray := prog_37_method_97_code
def yX10_began : MethodName := ⟨RX10, "began", "(I)V"⟩
def dkwX10_began_1 : List UInt8 := [4, 96, 181, 1, 52, 177]
abbrev dktX10_began_1 : List UInt8 := dkwX10_began_1 ++ []
def dkwX10_began_0 : List UInt8 := [42, 180, 1, 52, 16, 40, 162, 0, 23, 42, 180, 0, 62, 42, 180, 1, 52, 27, 79, 42, 89, 180, 1, 52]
abbrev dktX10_began_0 : List UInt8 := dkwX10_began_0 ++ dktX10_began_1
theorem dksX10_began_0 : cX10_began.data.toList.drop 0 = dktX10_began_0 := by decide +kernel
theorem dksX10_began_1 : cX10_began.data.toList.drop 24 = dktX10_began_1 := dk_seg dksX10_began_0 24 rfl rfl
theorem dX10_began_0 : decode cX10_began 0 = .ok (.aload_n 0, 1) := dk_42 (dk_at dksX10_began_0 0 rfl rfl)
theorem dX10_began_1 : decode cX10_began 1 = .ok (.getfield 308, 3) := dk_180 1 52 (dk_at dksX10_began_0 1 rfl rfl)
theorem dX10_began_4 : decode cX10_began 4 = .ok (.bipush 40, 2) := dk_16 40 (dk_at dksX10_began_0 4 rfl rfl)
theorem dX10_began_6 : decode cX10_began 6 = .ok (.if_icmp .ge 23, 3) := dk_162 0 23 (dk_at dksX10_began_0 6 rfl rfl)
theorem dX10_began_9 : decode cX10_began 9 = .ok (.aload_n 0, 1) := dk_42 (dk_at dksX10_began_0 9 rfl rfl)
theorem dX10_began_10 : decode cX10_began 10 = .ok (.getfield 62, 3) := dk_180 0 62 (dk_at dksX10_began_0 10 rfl rfl)
theorem dX10_began_13 : decode cX10_began 13 = .ok (.aload_n 0, 1) := dk_42 (dk_at dksX10_began_0 13 rfl rfl)
theorem dX10_began_14 : decode cX10_began 14 = .ok (.getfield 308, 3) := dk_180 1 52 (dk_at dksX10_began_0 14 rfl rfl)
theorem dX10_began_17 : decode cX10_began 17 = .ok (.iload_n 1, 1) := dk_27 (dk_at dksX10_began_0 17 rfl rfl)
theorem dX10_began_18 : decode cX10_began 18 = .ok (.iastore, 1) := dk_79 (dk_at dksX10_began_0 18 rfl rfl)
theorem dX10_began_19 : decode cX10_began 19 = .ok (.aload_n 0, 1) := dk_42 (dk_at dksX10_began_0 19 rfl rfl)
theorem dX10_began_20 : decode cX10_began 20 = .ok (.dup, 1) := dk_89 (dk_at dksX10_began_0 20 rfl rfl)
theorem dX10_began_21 : decode cX10_began 21 = .ok (.getfield 308, 3) := dk_180 1 52 (dk_at dksX10_began_0 21 rfl rfl)
theorem dX10_began_24 : decode cX10_began 24 = .ok (.iconst 1, 1) := dk_4 (dk_at dksX10_began_1 0 rfl rfl)
theorem dX10_began_25 : decode cX10_began 25 = .ok (.iadd, 1) := dk_96 (dk_at dksX10_began_1 1 rfl rfl)
theorem dX10_began_26 : decode cX10_began 26 = .ok (.putfield 308, 3) := dk_181 1 52 (dk_at dksX10_began_1 2 rfl rfl)
theorem dX10_began_29 : decode cX10_began 29 = .ok (.return_, 1) := dk_177 (dk_at dksX10_began_1 5 rfl rfl)
abbrev cX10_trace : ByteArray := prog_37_method_103_code
def yX10_trace : MethodName := ⟨RX10, "trace", "(I)I"⟩
def dkwX10_trace_1 : List UInt8 := [18, 139, 182, 0, 88, 172]
abbrev dktX10_trace_1 : List UInt8 := dkwX10_trace_1 ++ []
def dkwX10_trace_0 : List UInt8 := [27, 3, 42, 180, 1, 52, 4, 100, 184, 0, 78, 153, 0, 12, 42, 180, 0, 62, 27, 46, 167, 0, 9, 42]
abbrev dktX10_trace_0 : List UInt8 := dkwX10_trace_0 ++ dktX10_trace_1
theorem dksX10_trace_0 : cX10_trace.data.toList.drop 0 = dktX10_trace_0 := by decide +kernel
theorem dksX10_trace_1 : cX10_trace.data.toList.drop 24 = dktX10_trace_1 := dk_seg dksX10_trace_0 24 rfl rfl
theorem dX10_trace_0 : decode cX10_trace 0 = .ok (.iload_n 1, 1) := dk_27 (dk_at dksX10_trace_0 0 rfl rfl)
theorem dX10_trace_1 : decode cX10_trace 1 = .ok (.iconst 0, 1) := dk_3 (dk_at dksX10_trace_0 1 rfl rfl)
theorem dX10_trace_2 : decode cX10_trace 2 = .ok (.aload_n 0, 1) := dk_42 (dk_at dksX10_trace_0 2 rfl rfl)
theorem dX10_trace_3 : decode cX10_trace 3 = .ok (.getfield 308, 3) := dk_180 1 52 (dk_at dksX10_trace_0 3 rfl rfl)
theorem dX10_trace_6 : decode cX10_trace 6 = .ok (.iconst 1, 1) := dk_4 (dk_at dksX10_trace_0 6 rfl rfl)
theorem dX10_trace_7 : decode cX10_trace 7 = .ok (.isub, 1) := dk_100 (dk_at dksX10_trace_0 7 rfl rfl)
theorem dX10_trace_8 : decode cX10_trace 8 = .ok (.invokestatic 78, 3) := dk_184 0 78 (dk_at dksX10_trace_0 8 rfl rfl)
theorem dX10_trace_11 : decode cX10_trace 11 = .ok (.ifCond .eq 12, 3) := dk_153 0 12 (dk_at dksX10_trace_0 11 rfl rfl)
theorem dX10_trace_14 : decode cX10_trace 14 = .ok (.aload_n 0, 1) := dk_42 (dk_at dksX10_trace_0 14 rfl rfl)
theorem dX10_trace_15 : decode cX10_trace 15 = .ok (.getfield 62, 3) := dk_180 0 62 (dk_at dksX10_trace_0 15 rfl rfl)
theorem dX10_trace_18 : decode cX10_trace 18 = .ok (.iload_n 1, 1) := dk_27 (dk_at dksX10_trace_0 18 rfl rfl)
theorem dX10_trace_19 : decode cX10_trace 19 = .ok (.iaload, 1) := dk_46 (dk_at dksX10_trace_0 19 rfl rfl)
theorem dX10_trace_20 : decode cX10_trace 20 = .ok (.goto 9, 3) := dk_167 0 9 (dk_at dksX10_trace_0 20 rfl rfl)
theorem dX10_trace_23 : decode cX10_trace 23 = .ok (.aload_n 0, 1) := dk_42 (dk_at dksX10_trace_0 23 rfl rfl)
theorem dX10_trace_24 : decode cX10_trace 24 = .ok (.ldc 139, 2) := dk_18 139 (dk_at dksX10_trace_1 0 rfl rfl)
theorem dX10_trace_26 : decode cX10_trace 26 = .ok (.invokevirtual 88, 3) := dk_182 0 88 (dk_at dksX10_trace_1 2 rfl rfl)
theorem dX10_trace_29 : decode cX10_trace 29 = .ok (.ireturn, 1) := dk_172 (dk_at dksX10_trace_1 5 rfl rfl)
abbrev cX10_sheet : ByteArray := prog_37_method_105_code
def yX10_sheet : MethodName := ⟨RX10, "sheet", "(III)I"⟩
def dkwX10_sheet_5 : List UInt8 := [167, 255, 233, 4, 172]
abbrev dktX10_sheet_5 : List UInt8 := dkwX10_sheet_5 ++ []
def dkwX10_sheet_4 : List UInt8 := [21, 4, 16, 40, 162, 0, 22, 42, 180, 0, 71, 16, 40, 27, 104, 21, 4, 96, 3, 79, 132, 4, 1]
abbrev dktX10_sheet_4 : List UInt8 := dkwX10_sheet_4 ++ dktX10_sheet_5
def dkwX10_sheet_3 : List UInt8 := [180, 0, 65, 27, 28, 79, 42, 180, 0, 68, 27, 28, 154, 0, 7, 3, 167, 0, 4, 29, 79, 3, 54, 4]
abbrev dktX10_sheet_3 : List UInt8 := dkwX10_sheet_3 ++ dktX10_sheet_4
def dkwX10_sheet_2 : List UInt8 := [182, 0, 88, 172, 28, 153, 0, 16, 29, 16, 40, 164, 0, 10, 42, 18, 87, 182, 0, 88, 172, 42]
abbrev dktX10_sheet_2 : List UInt8 := dkwX10_sheet_2 ++ dktX10_sheet_3
def dkwX10_sheet_1 : List UInt8 := [16, 32, 159, 0, 10, 42, 18, 87, 182, 0, 88, 172, 28, 153, 0, 14, 29, 156, 0, 10, 42, 18, 108]
abbrev dktX10_sheet_1 : List UInt8 := dkwX10_sheet_1 ++ dktX10_sheet_2
def dkwX10_sheet_0 : List UInt8 := [27, 184, 1, 28, 153, 0, 25, 28, 153, 0, 28, 28, 16, 8, 159, 0, 22, 28, 16, 16, 159, 0, 16, 28]
abbrev dktX10_sheet_0 : List UInt8 := dkwX10_sheet_0 ++ dktX10_sheet_1
theorem dksX10_sheet_0 : cX10_sheet.data.toList.drop 0 = dktX10_sheet_0 := by decide +kernel
theorem dksX10_sheet_1 : cX10_sheet.data.toList.drop 24 = dktX10_sheet_1 := dk_seg dksX10_sheet_0 24 rfl rfl
theorem dksX10_sheet_2 : cX10_sheet.data.toList.drop 47 = dktX10_sheet_2 := dk_seg dksX10_sheet_1 23 rfl rfl
theorem dksX10_sheet_3 : cX10_sheet.data.toList.drop 69 = dktX10_sheet_3 := dk_seg dksX10_sheet_2 22 rfl rfl
theorem dksX10_sheet_4 : cX10_sheet.data.toList.drop 93 = dktX10_sheet_4 := dk_seg dksX10_sheet_3 24 rfl rfl
theorem dksX10_sheet_5 : cX10_sheet.data.toList.drop 116 = dktX10_sheet_5 := dk_seg dksX10_sheet_4 23 rfl rfl
theorem dX10_sheet_0 : decode cX10_sheet 0 = .ok (.iload_n 1, 1) := dk_27 (dk_at dksX10_sheet_0 0 rfl rfl)
theorem dX10_sheet_1 : decode cX10_sheet 1 = .ok (.invokestatic 284, 3) := dk_184 1 28 (dk_at dksX10_sheet_0 1 rfl rfl)
theorem dX10_sheet_4 : decode cX10_sheet 4 = .ok (.ifCond .eq 25, 3) := dk_153 0 25 (dk_at dksX10_sheet_0 4 rfl rfl)
theorem dX10_sheet_7 : decode cX10_sheet 7 = .ok (.iload_n 2, 1) := dk_28 (dk_at dksX10_sheet_0 7 rfl rfl)
theorem dX10_sheet_8 : decode cX10_sheet 8 = .ok (.ifCond .eq 28, 3) := dk_153 0 28 (dk_at dksX10_sheet_0 8 rfl rfl)
theorem dX10_sheet_11 : decode cX10_sheet 11 = .ok (.iload_n 2, 1) := dk_28 (dk_at dksX10_sheet_0 11 rfl rfl)
theorem dX10_sheet_12 : decode cX10_sheet 12 = .ok (.bipush 8, 2) := dk_16 8 (dk_at dksX10_sheet_0 12 rfl rfl)
theorem dX10_sheet_14 : decode cX10_sheet 14 = .ok (.if_icmp .eq 22, 3) := dk_159 0 22 (dk_at dksX10_sheet_0 14 rfl rfl)
theorem dX10_sheet_17 : decode cX10_sheet 17 = .ok (.iload_n 2, 1) := dk_28 (dk_at dksX10_sheet_0 17 rfl rfl)
theorem dX10_sheet_18 : decode cX10_sheet 18 = .ok (.bipush 16, 2) := dk_16 16 (dk_at dksX10_sheet_0 18 rfl rfl)
theorem dX10_sheet_20 : decode cX10_sheet 20 = .ok (.if_icmp .eq 16, 3) := dk_159 0 16 (dk_at dksX10_sheet_0 20 rfl rfl)
theorem dX10_sheet_23 : decode cX10_sheet 23 = .ok (.iload_n 2, 1) := dk_28 (dk_at dksX10_sheet_0 23 rfl rfl)
theorem dX10_sheet_24 : decode cX10_sheet 24 = .ok (.bipush 32, 2) := dk_16 32 (dk_at dksX10_sheet_1 0 rfl rfl)
theorem dX10_sheet_26 : decode cX10_sheet 26 = .ok (.if_icmp .eq 10, 3) := dk_159 0 10 (dk_at dksX10_sheet_1 2 rfl rfl)
theorem dX10_sheet_29 : decode cX10_sheet 29 = .ok (.aload_n 0, 1) := dk_42 (dk_at dksX10_sheet_1 5 rfl rfl)
theorem dX10_sheet_30 : decode cX10_sheet 30 = .ok (.ldc 87, 2) := dk_18 87 (dk_at dksX10_sheet_1 6 rfl rfl)
theorem dX10_sheet_32 : decode cX10_sheet 32 = .ok (.invokevirtual 88, 3) := dk_182 0 88 (dk_at dksX10_sheet_1 8 rfl rfl)
theorem dX10_sheet_35 : decode cX10_sheet 35 = .ok (.ireturn, 1) := dk_172 (dk_at dksX10_sheet_1 11 rfl rfl)
theorem dX10_sheet_36 : decode cX10_sheet 36 = .ok (.iload_n 2, 1) := dk_28 (dk_at dksX10_sheet_1 12 rfl rfl)
theorem dX10_sheet_37 : decode cX10_sheet 37 = .ok (.ifCond .eq 14, 3) := dk_153 0 14 (dk_at dksX10_sheet_1 13 rfl rfl)
theorem dX10_sheet_40 : decode cX10_sheet 40 = .ok (.iload_n 3, 1) := dk_29 (dk_at dksX10_sheet_1 16 rfl rfl)
theorem dX10_sheet_41 : decode cX10_sheet 41 = .ok (.ifCond .ge 10, 3) := dk_156 0 10 (dk_at dksX10_sheet_1 17 rfl rfl)
theorem dX10_sheet_44 : decode cX10_sheet 44 = .ok (.aload_n 0, 1) := dk_42 (dk_at dksX10_sheet_1 20 rfl rfl)
theorem dX10_sheet_45 : decode cX10_sheet 45 = .ok (.ldc 108, 2) := dk_18 108 (dk_at dksX10_sheet_1 21 rfl rfl)
theorem dX10_sheet_47 : decode cX10_sheet 47 = .ok (.invokevirtual 88, 3) := dk_182 0 88 (dk_at dksX10_sheet_2 0 rfl rfl)
theorem dX10_sheet_50 : decode cX10_sheet 50 = .ok (.ireturn, 1) := dk_172 (dk_at dksX10_sheet_2 3 rfl rfl)
theorem dX10_sheet_51 : decode cX10_sheet 51 = .ok (.iload_n 2, 1) := dk_28 (dk_at dksX10_sheet_2 4 rfl rfl)
theorem dX10_sheet_52 : decode cX10_sheet 52 = .ok (.ifCond .eq 16, 3) := dk_153 0 16 (dk_at dksX10_sheet_2 5 rfl rfl)
theorem dX10_sheet_55 : decode cX10_sheet 55 = .ok (.iload_n 3, 1) := dk_29 (dk_at dksX10_sheet_2 8 rfl rfl)
theorem dX10_sheet_56 : decode cX10_sheet 56 = .ok (.bipush 40, 2) := dk_16 40 (dk_at dksX10_sheet_2 9 rfl rfl)
theorem dX10_sheet_58 : decode cX10_sheet 58 = .ok (.if_icmp .le 10, 3) := dk_164 0 10 (dk_at dksX10_sheet_2 11 rfl rfl)
theorem dX10_sheet_61 : decode cX10_sheet 61 = .ok (.aload_n 0, 1) := dk_42 (dk_at dksX10_sheet_2 14 rfl rfl)
theorem dX10_sheet_62 : decode cX10_sheet 62 = .ok (.ldc 87, 2) := dk_18 87 (dk_at dksX10_sheet_2 15 rfl rfl)
theorem dX10_sheet_64 : decode cX10_sheet 64 = .ok (.invokevirtual 88, 3) := dk_182 0 88 (dk_at dksX10_sheet_2 17 rfl rfl)
theorem dX10_sheet_67 : decode cX10_sheet 67 = .ok (.ireturn, 1) := dk_172 (dk_at dksX10_sheet_2 20 rfl rfl)
theorem dX10_sheet_68 : decode cX10_sheet 68 = .ok (.aload_n 0, 1) := dk_42 (dk_at dksX10_sheet_2 21 rfl rfl)
theorem dX10_sheet_69 : decode cX10_sheet 69 = .ok (.getfield 65, 3) := dk_180 0 65 (dk_at dksX10_sheet_3 0 rfl rfl)
theorem dX10_sheet_72 : decode cX10_sheet 72 = .ok (.iload_n 1, 1) := dk_27 (dk_at dksX10_sheet_3 3 rfl rfl)
theorem dX10_sheet_73 : decode cX10_sheet 73 = .ok (.iload_n 2, 1) := dk_28 (dk_at dksX10_sheet_3 4 rfl rfl)
theorem dX10_sheet_74 : decode cX10_sheet 74 = .ok (.iastore, 1) := dk_79 (dk_at dksX10_sheet_3 5 rfl rfl)
theorem dX10_sheet_75 : decode cX10_sheet 75 = .ok (.aload_n 0, 1) := dk_42 (dk_at dksX10_sheet_3 6 rfl rfl)
theorem dX10_sheet_76 : decode cX10_sheet 76 = .ok (.getfield 68, 3) := dk_180 0 68 (dk_at dksX10_sheet_3 7 rfl rfl)
theorem dX10_sheet_79 : decode cX10_sheet 79 = .ok (.iload_n 1, 1) := dk_27 (dk_at dksX10_sheet_3 10 rfl rfl)
theorem dX10_sheet_80 : decode cX10_sheet 80 = .ok (.iload_n 2, 1) := dk_28 (dk_at dksX10_sheet_3 11 rfl rfl)
theorem dX10_sheet_81 : decode cX10_sheet 81 = .ok (.ifCond .ne 7, 3) := dk_154 0 7 (dk_at dksX10_sheet_3 12 rfl rfl)
theorem dX10_sheet_84 : decode cX10_sheet 84 = .ok (.iconst 0, 1) := dk_3 (dk_at dksX10_sheet_3 15 rfl rfl)
theorem dX10_sheet_85 : decode cX10_sheet 85 = .ok (.goto 4, 3) := dk_167 0 4 (dk_at dksX10_sheet_3 16 rfl rfl)
theorem dX10_sheet_88 : decode cX10_sheet 88 = .ok (.iload_n 3, 1) := dk_29 (dk_at dksX10_sheet_3 19 rfl rfl)
theorem dX10_sheet_89 : decode cX10_sheet 89 = .ok (.iastore, 1) := dk_79 (dk_at dksX10_sheet_3 20 rfl rfl)
theorem dX10_sheet_90 : decode cX10_sheet 90 = .ok (.iconst 0, 1) := dk_3 (dk_at dksX10_sheet_3 21 rfl rfl)
theorem dX10_sheet_91 : decode cX10_sheet 91 = .ok (.istore 4, 2) := dk_54 4 (dk_at dksX10_sheet_3 22 rfl rfl)
theorem dX10_sheet_93 : decode cX10_sheet 93 = .ok (.iload 4, 2) := dk_21 4 (dk_at dksX10_sheet_4 0 rfl rfl)
theorem dX10_sheet_95 : decode cX10_sheet 95 = .ok (.bipush 40, 2) := dk_16 40 (dk_at dksX10_sheet_4 2 rfl rfl)
theorem dX10_sheet_97 : decode cX10_sheet 97 = .ok (.if_icmp .ge 22, 3) := dk_162 0 22 (dk_at dksX10_sheet_4 4 rfl rfl)
theorem dX10_sheet_100 : decode cX10_sheet 100 = .ok (.aload_n 0, 1) := dk_42 (dk_at dksX10_sheet_4 7 rfl rfl)
theorem dX10_sheet_101 : decode cX10_sheet 101 = .ok (.getfield 71, 3) := dk_180 0 71 (dk_at dksX10_sheet_4 8 rfl rfl)
theorem dX10_sheet_104 : decode cX10_sheet 104 = .ok (.bipush 40, 2) := dk_16 40 (dk_at dksX10_sheet_4 11 rfl rfl)
theorem dX10_sheet_106 : decode cX10_sheet 106 = .ok (.iload_n 1, 1) := dk_27 (dk_at dksX10_sheet_4 13 rfl rfl)
theorem dX10_sheet_107 : decode cX10_sheet 107 = .ok (.imul, 1) := dk_104 (dk_at dksX10_sheet_4 14 rfl rfl)
theorem dX10_sheet_108 : decode cX10_sheet 108 = .ok (.iload 4, 2) := dk_21 4 (dk_at dksX10_sheet_4 15 rfl rfl)
theorem dX10_sheet_110 : decode cX10_sheet 110 = .ok (.iadd, 1) := dk_96 (dk_at dksX10_sheet_4 17 rfl rfl)
theorem dX10_sheet_111 : decode cX10_sheet 111 = .ok (.iconst 0, 1) := dk_3 (dk_at dksX10_sheet_4 18 rfl rfl)
theorem dX10_sheet_112 : decode cX10_sheet 112 = .ok (.iastore, 1) := dk_79 (dk_at dksX10_sheet_4 19 rfl rfl)
theorem dX10_sheet_113 : decode cX10_sheet 113 = .ok (.iinc 4 1, 3) := dk_132 4 1 (dk_at dksX10_sheet_4 20 rfl rfl)
theorem dX10_sheet_116 : decode cX10_sheet 116 = .ok (.goto (-23), 3) := dk_167 255 233 (dk_at dksX10_sheet_5 0 rfl rfl)
theorem dX10_sheet_119 : decode cX10_sheet 119 = .ok (.iconst 1, 1) := dk_4 (dk_at dksX10_sheet_5 3 rfl rfl)
theorem dX10_sheet_120 : decode cX10_sheet 120 = .ok (.ireturn, 1) := dk_172 (dk_at dksX10_sheet_5 4 rfl rfl)
abbrev cX10_put : ByteArray := prog_37_method_106_code
def yX10_put : MethodName := ⟨RX10, "put", "(III)I"⟩
def dkwX10_put_4 : List UInt8 := [29, 79, 4, 172]
abbrev dktX10_put_4 : List UInt8 := dkwX10_put_4 ++ []
def dkwX10_put_3 : List UInt8 := [160, 0, 8, 29, 145, 167, 0, 20, 42, 180, 0, 65, 27, 46, 16, 16, 160, 0, 8, 29, 147, 167, 0, 4]
abbrev dktX10_put_3 : List UInt8 := dkwX10_put_3 ++ dktX10_put_4
def dkwX10_put_2 : List UInt8 := [18, 87, 182, 0, 88, 172, 42, 180, 0, 71, 16, 40, 27, 104, 28, 96, 42, 180, 0, 65, 27, 46, 16, 8]
abbrev dktX10_put_2 : List UInt8 := dkwX10_put_2 ++ dktX10_put_3
def dkwX10_put_1 : List UInt8 := [18, 139, 182, 0, 88, 172, 28, 3, 42, 180, 0, 68, 27, 46, 4, 100, 184, 0, 78, 154, 0, 10, 42]
abbrev dktX10_put_1 : List UInt8 := dkwX10_put_1 ++ dktX10_put_2
def dkwX10_put_0 : List UInt8 := [27, 184, 1, 28, 154, 0, 10, 42, 18, 87, 182, 0, 88, 172, 42, 180, 0, 65, 27, 46, 154, 0, 10, 42]
abbrev dktX10_put_0 : List UInt8 := dkwX10_put_0 ++ dktX10_put_1
theorem dksX10_put_0 : cX10_put.data.toList.drop 0 = dktX10_put_0 := by decide +kernel
theorem dksX10_put_1 : cX10_put.data.toList.drop 24 = dktX10_put_1 := dk_seg dksX10_put_0 24 rfl rfl
theorem dksX10_put_2 : cX10_put.data.toList.drop 47 = dktX10_put_2 := dk_seg dksX10_put_1 23 rfl rfl
theorem dksX10_put_3 : cX10_put.data.toList.drop 71 = dktX10_put_3 := dk_seg dksX10_put_2 24 rfl rfl
theorem dksX10_put_4 : cX10_put.data.toList.drop 95 = dktX10_put_4 := dk_seg dksX10_put_3 24 rfl rfl
theorem dX10_put_0 : decode cX10_put 0 = .ok (.iload_n 1, 1) := dk_27 (dk_at dksX10_put_0 0 rfl rfl)
theorem dX10_put_1 : decode cX10_put 1 = .ok (.invokestatic 284, 3) := dk_184 1 28 (dk_at dksX10_put_0 1 rfl rfl)
theorem dX10_put_4 : decode cX10_put 4 = .ok (.ifCond .ne 10, 3) := dk_154 0 10 (dk_at dksX10_put_0 4 rfl rfl)
theorem dX10_put_7 : decode cX10_put 7 = .ok (.aload_n 0, 1) := dk_42 (dk_at dksX10_put_0 7 rfl rfl)
theorem dX10_put_8 : decode cX10_put 8 = .ok (.ldc 87, 2) := dk_18 87 (dk_at dksX10_put_0 8 rfl rfl)
theorem dX10_put_10 : decode cX10_put 10 = .ok (.invokevirtual 88, 3) := dk_182 0 88 (dk_at dksX10_put_0 10 rfl rfl)
theorem dX10_put_13 : decode cX10_put 13 = .ok (.ireturn, 1) := dk_172 (dk_at dksX10_put_0 13 rfl rfl)
theorem dX10_put_14 : decode cX10_put 14 = .ok (.aload_n 0, 1) := dk_42 (dk_at dksX10_put_0 14 rfl rfl)
theorem dX10_put_15 : decode cX10_put 15 = .ok (.getfield 65, 3) := dk_180 0 65 (dk_at dksX10_put_0 15 rfl rfl)
theorem dX10_put_18 : decode cX10_put 18 = .ok (.iload_n 1, 1) := dk_27 (dk_at dksX10_put_0 18 rfl rfl)
theorem dX10_put_19 : decode cX10_put 19 = .ok (.iaload, 1) := dk_46 (dk_at dksX10_put_0 19 rfl rfl)
theorem dX10_put_20 : decode cX10_put 20 = .ok (.ifCond .ne 10, 3) := dk_154 0 10 (dk_at dksX10_put_0 20 rfl rfl)
theorem dX10_put_23 : decode cX10_put 23 = .ok (.aload_n 0, 1) := dk_42 (dk_at dksX10_put_0 23 rfl rfl)
theorem dX10_put_24 : decode cX10_put 24 = .ok (.ldc 139, 2) := dk_18 139 (dk_at dksX10_put_1 0 rfl rfl)
theorem dX10_put_26 : decode cX10_put 26 = .ok (.invokevirtual 88, 3) := dk_182 0 88 (dk_at dksX10_put_1 2 rfl rfl)
theorem dX10_put_29 : decode cX10_put 29 = .ok (.ireturn, 1) := dk_172 (dk_at dksX10_put_1 5 rfl rfl)
theorem dX10_put_30 : decode cX10_put 30 = .ok (.iload_n 2, 1) := dk_28 (dk_at dksX10_put_1 6 rfl rfl)
theorem dX10_put_31 : decode cX10_put 31 = .ok (.iconst 0, 1) := dk_3 (dk_at dksX10_put_1 7 rfl rfl)
theorem dX10_put_32 : decode cX10_put 32 = .ok (.aload_n 0, 1) := dk_42 (dk_at dksX10_put_1 8 rfl rfl)
theorem dX10_put_33 : decode cX10_put 33 = .ok (.getfield 68, 3) := dk_180 0 68 (dk_at dksX10_put_1 9 rfl rfl)
theorem dX10_put_36 : decode cX10_put 36 = .ok (.iload_n 1, 1) := dk_27 (dk_at dksX10_put_1 12 rfl rfl)
theorem dX10_put_37 : decode cX10_put 37 = .ok (.iaload, 1) := dk_46 (dk_at dksX10_put_1 13 rfl rfl)
theorem dX10_put_38 : decode cX10_put 38 = .ok (.iconst 1, 1) := dk_4 (dk_at dksX10_put_1 14 rfl rfl)
theorem dX10_put_39 : decode cX10_put 39 = .ok (.isub, 1) := dk_100 (dk_at dksX10_put_1 15 rfl rfl)
theorem dX10_put_40 : decode cX10_put 40 = .ok (.invokestatic 78, 3) := dk_184 0 78 (dk_at dksX10_put_1 16 rfl rfl)
theorem dX10_put_43 : decode cX10_put 43 = .ok (.ifCond .ne 10, 3) := dk_154 0 10 (dk_at dksX10_put_1 19 rfl rfl)
theorem dX10_put_46 : decode cX10_put 46 = .ok (.aload_n 0, 1) := dk_42 (dk_at dksX10_put_1 22 rfl rfl)
theorem dX10_put_47 : decode cX10_put 47 = .ok (.ldc 87, 2) := dk_18 87 (dk_at dksX10_put_2 0 rfl rfl)
theorem dX10_put_49 : decode cX10_put 49 = .ok (.invokevirtual 88, 3) := dk_182 0 88 (dk_at dksX10_put_2 2 rfl rfl)
theorem dX10_put_52 : decode cX10_put 52 = .ok (.ireturn, 1) := dk_172 (dk_at dksX10_put_2 5 rfl rfl)
theorem dX10_put_53 : decode cX10_put 53 = .ok (.aload_n 0, 1) := dk_42 (dk_at dksX10_put_2 6 rfl rfl)
theorem dX10_put_54 : decode cX10_put 54 = .ok (.getfield 71, 3) := dk_180 0 71 (dk_at dksX10_put_2 7 rfl rfl)
theorem dX10_put_57 : decode cX10_put 57 = .ok (.bipush 40, 2) := dk_16 40 (dk_at dksX10_put_2 10 rfl rfl)
theorem dX10_put_59 : decode cX10_put 59 = .ok (.iload_n 1, 1) := dk_27 (dk_at dksX10_put_2 12 rfl rfl)
theorem dX10_put_60 : decode cX10_put 60 = .ok (.imul, 1) := dk_104 (dk_at dksX10_put_2 13 rfl rfl)
theorem dX10_put_61 : decode cX10_put 61 = .ok (.iload_n 2, 1) := dk_28 (dk_at dksX10_put_2 14 rfl rfl)
theorem dX10_put_62 : decode cX10_put 62 = .ok (.iadd, 1) := dk_96 (dk_at dksX10_put_2 15 rfl rfl)
theorem dX10_put_63 : decode cX10_put 63 = .ok (.aload_n 0, 1) := dk_42 (dk_at dksX10_put_2 16 rfl rfl)
theorem dX10_put_64 : decode cX10_put 64 = .ok (.getfield 65, 3) := dk_180 0 65 (dk_at dksX10_put_2 17 rfl rfl)
theorem dX10_put_67 : decode cX10_put 67 = .ok (.iload_n 1, 1) := dk_27 (dk_at dksX10_put_2 20 rfl rfl)
theorem dX10_put_68 : decode cX10_put 68 = .ok (.iaload, 1) := dk_46 (dk_at dksX10_put_2 21 rfl rfl)
theorem dX10_put_69 : decode cX10_put 69 = .ok (.bipush 8, 2) := dk_16 8 (dk_at dksX10_put_2 22 rfl rfl)
theorem dX10_put_71 : decode cX10_put 71 = .ok (.if_icmp .ne 8, 3) := dk_160 0 8 (dk_at dksX10_put_3 0 rfl rfl)
theorem dX10_put_74 : decode cX10_put 74 = .ok (.iload_n 3, 1) := dk_29 (dk_at dksX10_put_3 3 rfl rfl)
theorem dX10_put_75 : decode cX10_put 75 = .ok (.i2b, 1) := dk_145 (dk_at dksX10_put_3 4 rfl rfl)
theorem dX10_put_76 : decode cX10_put 76 = .ok (.goto 20, 3) := dk_167 0 20 (dk_at dksX10_put_3 5 rfl rfl)
theorem dX10_put_79 : decode cX10_put 79 = .ok (.aload_n 0, 1) := dk_42 (dk_at dksX10_put_3 8 rfl rfl)
theorem dX10_put_80 : decode cX10_put 80 = .ok (.getfield 65, 3) := dk_180 0 65 (dk_at dksX10_put_3 9 rfl rfl)
theorem dX10_put_83 : decode cX10_put 83 = .ok (.iload_n 1, 1) := dk_27 (dk_at dksX10_put_3 12 rfl rfl)
theorem dX10_put_84 : decode cX10_put 84 = .ok (.iaload, 1) := dk_46 (dk_at dksX10_put_3 13 rfl rfl)
theorem dX10_put_85 : decode cX10_put 85 = .ok (.bipush 16, 2) := dk_16 16 (dk_at dksX10_put_3 14 rfl rfl)
theorem dX10_put_87 : decode cX10_put 87 = .ok (.if_icmp .ne 8, 3) := dk_160 0 8 (dk_at dksX10_put_3 16 rfl rfl)
theorem dX10_put_90 : decode cX10_put 90 = .ok (.iload_n 3, 1) := dk_29 (dk_at dksX10_put_3 19 rfl rfl)
theorem dX10_put_91 : decode cX10_put 91 = .ok (.i2s, 1) := dk_147 (dk_at dksX10_put_3 20 rfl rfl)
theorem dX10_put_92 : decode cX10_put 92 = .ok (.goto 4, 3) := dk_167 0 4 (dk_at dksX10_put_3 21 rfl rfl)
theorem dX10_put_95 : decode cX10_put 95 = .ok (.iload_n 3, 1) := dk_29 (dk_at dksX10_put_4 0 rfl rfl)
theorem dX10_put_96 : decode cX10_put 96 = .ok (.iastore, 1) := dk_79 (dk_at dksX10_put_4 1 rfl rfl)
theorem dX10_put_97 : decode cX10_put 97 = .ok (.iconst 1, 1) := dk_4 (dk_at dksX10_put_4 2 rfl rfl)
theorem dX10_put_98 : decode cX10_put 98 = .ok (.ireturn, 1) := dk_172 (dk_at dksX10_put_4 3 rfl rfl)
abbrev cX10_move : ByteArray := prog_37_method_107_code
def yX10_move : MethodName := ⟨RX10, "move", "(IIIII)I"⟩
def dkwX10_move_8 : List UInt8 := [180, 0, 74, 21, 6, 46, 79, 132, 6, 1, 167, 255, 224, 21, 5, 172]
abbrev dktX10_move_8 : List UInt8 := dkwX10_move_8 ++ []
def dkwX10_move_7 : List UInt8 := [21, 6, 21, 5, 162, 0, 31, 42, 180, 0, 71, 16, 40, 29, 104, 21, 4, 96, 21, 6, 96, 42]
abbrev dktX10_move_7 : List UInt8 := dkwX10_move_7 ++ dktX10_move_8
def dkwX10_move_6 : List UInt8 := [180, 0, 71, 16, 40, 27, 104, 28, 96, 21, 6, 96, 46, 79, 132, 6, 1, 167, 255, 225, 3, 54, 6]
abbrev dktX10_move_6 : List UInt8 := dkwX10_move_6 ++ dktX10_move_7
def dkwX10_move_5 : List UInt8 := [18, 87, 182, 0, 88, 172, 3, 54, 6, 21, 6, 21, 5, 162, 0, 30, 42, 180, 0, 74, 21, 6, 42]
abbrev dktX10_move_5 : List UInt8 := dkwX10_move_5 ++ dktX10_move_6
def dkwX10_move_4 : List UInt8 := [133, 148, 157, 0, 21, 21, 4, 133, 21, 5, 133, 97, 42, 180, 0, 68, 29, 46, 133, 148, 158, 0, 10, 42]
abbrev dktX10_move_4 : List UInt8 := dkwX10_move_4 ++ dktX10_move_5
def dkwX10_move_3 : List UInt8 := [155, 0, 47, 28, 155, 0, 43, 21, 4, 155, 0, 38, 28, 133, 21, 5, 133, 97, 42, 180, 0, 68, 27, 46]
abbrev dktX10_move_3 : List UInt8 := dkwX10_move_3 ++ dktX10_move_4
def dkwX10_move_2 : List UInt8 := [42, 180, 0, 65, 27, 46, 42, 180, 0, 65, 29, 46, 159, 0, 10, 42, 18, 223, 182, 0, 88, 172, 21, 5]
abbrev dktX10_move_2 : List UInt8 := dkwX10_move_2 ++ dktX10_move_3
def dkwX10_move_1 : List UInt8 := [180, 0, 65, 27, 46, 153, 0, 12, 42, 180, 0, 65, 29, 46, 154, 0, 10, 42, 18, 139, 182, 0, 88, 172]
abbrev dktX10_move_1 : List UInt8 := dkwX10_move_1 ++ dktX10_move_2
def dkwX10_move_0 : List UInt8 := [27, 184, 1, 28, 153, 0, 10, 29, 184, 1, 28, 154, 0, 10, 42, 18, 87, 182, 0, 88, 172, 42]
abbrev dktX10_move_0 : List UInt8 := dkwX10_move_0 ++ dktX10_move_1
theorem dksX10_move_0 : cX10_move.data.toList.drop 0 = dktX10_move_0 := by decide +kernel
theorem dksX10_move_1 : cX10_move.data.toList.drop 22 = dktX10_move_1 := dk_seg dksX10_move_0 22 rfl rfl
theorem dksX10_move_2 : cX10_move.data.toList.drop 46 = dktX10_move_2 := dk_seg dksX10_move_1 24 rfl rfl
theorem dksX10_move_3 : cX10_move.data.toList.drop 70 = dktX10_move_3 := dk_seg dksX10_move_2 24 rfl rfl
theorem dksX10_move_4 : cX10_move.data.toList.drop 94 = dktX10_move_4 := dk_seg dksX10_move_3 24 rfl rfl
theorem dksX10_move_5 : cX10_move.data.toList.drop 118 = dktX10_move_5 := dk_seg dksX10_move_4 24 rfl rfl
theorem dksX10_move_6 : cX10_move.data.toList.drop 141 = dktX10_move_6 := dk_seg dksX10_move_5 23 rfl rfl
theorem dksX10_move_7 : cX10_move.data.toList.drop 164 = dktX10_move_7 := dk_seg dksX10_move_6 23 rfl rfl
theorem dksX10_move_8 : cX10_move.data.toList.drop 186 = dktX10_move_8 := dk_seg dksX10_move_7 22 rfl rfl
theorem dX10_move_0 : decode cX10_move 0 = .ok (.iload_n 1, 1) := dk_27 (dk_at dksX10_move_0 0 rfl rfl)
theorem dX10_move_1 : decode cX10_move 1 = .ok (.invokestatic 284, 3) := dk_184 1 28 (dk_at dksX10_move_0 1 rfl rfl)
theorem dX10_move_4 : decode cX10_move 4 = .ok (.ifCond .eq 10, 3) := dk_153 0 10 (dk_at dksX10_move_0 4 rfl rfl)
theorem dX10_move_7 : decode cX10_move 7 = .ok (.iload_n 3, 1) := dk_29 (dk_at dksX10_move_0 7 rfl rfl)
theorem dX10_move_8 : decode cX10_move 8 = .ok (.invokestatic 284, 3) := dk_184 1 28 (dk_at dksX10_move_0 8 rfl rfl)
theorem dX10_move_11 : decode cX10_move 11 = .ok (.ifCond .ne 10, 3) := dk_154 0 10 (dk_at dksX10_move_0 11 rfl rfl)
theorem dX10_move_14 : decode cX10_move 14 = .ok (.aload_n 0, 1) := dk_42 (dk_at dksX10_move_0 14 rfl rfl)
theorem dX10_move_15 : decode cX10_move 15 = .ok (.ldc 87, 2) := dk_18 87 (dk_at dksX10_move_0 15 rfl rfl)
theorem dX10_move_17 : decode cX10_move 17 = .ok (.invokevirtual 88, 3) := dk_182 0 88 (dk_at dksX10_move_0 17 rfl rfl)
theorem dX10_move_20 : decode cX10_move 20 = .ok (.ireturn, 1) := dk_172 (dk_at dksX10_move_0 20 rfl rfl)
theorem dX10_move_21 : decode cX10_move 21 = .ok (.aload_n 0, 1) := dk_42 (dk_at dksX10_move_0 21 rfl rfl)
theorem dX10_move_22 : decode cX10_move 22 = .ok (.getfield 65, 3) := dk_180 0 65 (dk_at dksX10_move_1 0 rfl rfl)
theorem dX10_move_25 : decode cX10_move 25 = .ok (.iload_n 1, 1) := dk_27 (dk_at dksX10_move_1 3 rfl rfl)
theorem dX10_move_26 : decode cX10_move 26 = .ok (.iaload, 1) := dk_46 (dk_at dksX10_move_1 4 rfl rfl)
theorem dX10_move_27 : decode cX10_move 27 = .ok (.ifCond .eq 12, 3) := dk_153 0 12 (dk_at dksX10_move_1 5 rfl rfl)
theorem dX10_move_30 : decode cX10_move 30 = .ok (.aload_n 0, 1) := dk_42 (dk_at dksX10_move_1 8 rfl rfl)
theorem dX10_move_31 : decode cX10_move 31 = .ok (.getfield 65, 3) := dk_180 0 65 (dk_at dksX10_move_1 9 rfl rfl)
theorem dX10_move_34 : decode cX10_move 34 = .ok (.iload_n 3, 1) := dk_29 (dk_at dksX10_move_1 12 rfl rfl)
theorem dX10_move_35 : decode cX10_move 35 = .ok (.iaload, 1) := dk_46 (dk_at dksX10_move_1 13 rfl rfl)
theorem dX10_move_36 : decode cX10_move 36 = .ok (.ifCond .ne 10, 3) := dk_154 0 10 (dk_at dksX10_move_1 14 rfl rfl)
theorem dX10_move_39 : decode cX10_move 39 = .ok (.aload_n 0, 1) := dk_42 (dk_at dksX10_move_1 17 rfl rfl)
theorem dX10_move_40 : decode cX10_move 40 = .ok (.ldc 139, 2) := dk_18 139 (dk_at dksX10_move_1 18 rfl rfl)
theorem dX10_move_42 : decode cX10_move 42 = .ok (.invokevirtual 88, 3) := dk_182 0 88 (dk_at dksX10_move_1 20 rfl rfl)
theorem dX10_move_45 : decode cX10_move 45 = .ok (.ireturn, 1) := dk_172 (dk_at dksX10_move_1 23 rfl rfl)
theorem dX10_move_46 : decode cX10_move 46 = .ok (.aload_n 0, 1) := dk_42 (dk_at dksX10_move_2 0 rfl rfl)
theorem dX10_move_47 : decode cX10_move 47 = .ok (.getfield 65, 3) := dk_180 0 65 (dk_at dksX10_move_2 1 rfl rfl)
theorem dX10_move_50 : decode cX10_move 50 = .ok (.iload_n 1, 1) := dk_27 (dk_at dksX10_move_2 4 rfl rfl)
theorem dX10_move_51 : decode cX10_move 51 = .ok (.iaload, 1) := dk_46 (dk_at dksX10_move_2 5 rfl rfl)
theorem dX10_move_52 : decode cX10_move 52 = .ok (.aload_n 0, 1) := dk_42 (dk_at dksX10_move_2 6 rfl rfl)
theorem dX10_move_53 : decode cX10_move 53 = .ok (.getfield 65, 3) := dk_180 0 65 (dk_at dksX10_move_2 7 rfl rfl)
theorem dX10_move_56 : decode cX10_move 56 = .ok (.iload_n 3, 1) := dk_29 (dk_at dksX10_move_2 10 rfl rfl)
theorem dX10_move_57 : decode cX10_move 57 = .ok (.iaload, 1) := dk_46 (dk_at dksX10_move_2 11 rfl rfl)
theorem dX10_move_58 : decode cX10_move 58 = .ok (.if_icmp .eq 10, 3) := dk_159 0 10 (dk_at dksX10_move_2 12 rfl rfl)
theorem dX10_move_61 : decode cX10_move 61 = .ok (.aload_n 0, 1) := dk_42 (dk_at dksX10_move_2 15 rfl rfl)
theorem dX10_move_62 : decode cX10_move 62 = .ok (.ldc 223, 2) := dk_18 223 (dk_at dksX10_move_2 16 rfl rfl)
theorem dX10_move_64 : decode cX10_move 64 = .ok (.invokevirtual 88, 3) := dk_182 0 88 (dk_at dksX10_move_2 18 rfl rfl)
theorem dX10_move_67 : decode cX10_move 67 = .ok (.ireturn, 1) := dk_172 (dk_at dksX10_move_2 21 rfl rfl)
theorem dX10_move_68 : decode cX10_move 68 = .ok (.iload 5, 2) := dk_21 5 (dk_at dksX10_move_2 22 rfl rfl)
theorem dX10_move_70 : decode cX10_move 70 = .ok (.ifCond .lt 47, 3) := dk_155 0 47 (dk_at dksX10_move_3 0 rfl rfl)
theorem dX10_move_73 : decode cX10_move 73 = .ok (.iload_n 2, 1) := dk_28 (dk_at dksX10_move_3 3 rfl rfl)
theorem dX10_move_74 : decode cX10_move 74 = .ok (.ifCond .lt 43, 3) := dk_155 0 43 (dk_at dksX10_move_3 4 rfl rfl)
theorem dX10_move_77 : decode cX10_move 77 = .ok (.iload 4, 2) := dk_21 4 (dk_at dksX10_move_3 7 rfl rfl)
theorem dX10_move_79 : decode cX10_move 79 = .ok (.ifCond .lt 38, 3) := dk_155 0 38 (dk_at dksX10_move_3 9 rfl rfl)
theorem dX10_move_82 : decode cX10_move 82 = .ok (.iload_n 2, 1) := dk_28 (dk_at dksX10_move_3 12 rfl rfl)
theorem dX10_move_83 : decode cX10_move 83 = .ok (.i2l, 1) := dk_133 (dk_at dksX10_move_3 13 rfl rfl)
theorem dX10_move_84 : decode cX10_move 84 = .ok (.iload 5, 2) := dk_21 5 (dk_at dksX10_move_3 14 rfl rfl)
theorem dX10_move_86 : decode cX10_move 86 = .ok (.i2l, 1) := dk_133 (dk_at dksX10_move_3 16 rfl rfl)
theorem dX10_move_87 : decode cX10_move 87 = .ok (.ladd, 1) := dk_97 (dk_at dksX10_move_3 17 rfl rfl)
theorem dX10_move_88 : decode cX10_move 88 = .ok (.aload_n 0, 1) := dk_42 (dk_at dksX10_move_3 18 rfl rfl)
theorem dX10_move_89 : decode cX10_move 89 = .ok (.getfield 68, 3) := dk_180 0 68 (dk_at dksX10_move_3 19 rfl rfl)
theorem dX10_move_92 : decode cX10_move 92 = .ok (.iload_n 1, 1) := dk_27 (dk_at dksX10_move_3 22 rfl rfl)
theorem dX10_move_93 : decode cX10_move 93 = .ok (.iaload, 1) := dk_46 (dk_at dksX10_move_3 23 rfl rfl)
theorem dX10_move_94 : decode cX10_move 94 = .ok (.i2l, 1) := dk_133 (dk_at dksX10_move_4 0 rfl rfl)
theorem dX10_move_95 : decode cX10_move 95 = .ok (.lcmp, 1) := dk_148 (dk_at dksX10_move_4 1 rfl rfl)
theorem dX10_move_96 : decode cX10_move 96 = .ok (.ifCond .gt 21, 3) := dk_157 0 21 (dk_at dksX10_move_4 2 rfl rfl)
theorem dX10_move_99 : decode cX10_move 99 = .ok (.iload 4, 2) := dk_21 4 (dk_at dksX10_move_4 5 rfl rfl)
theorem dX10_move_101 : decode cX10_move 101 = .ok (.i2l, 1) := dk_133 (dk_at dksX10_move_4 7 rfl rfl)
theorem dX10_move_102 : decode cX10_move 102 = .ok (.iload 5, 2) := dk_21 5 (dk_at dksX10_move_4 8 rfl rfl)
theorem dX10_move_104 : decode cX10_move 104 = .ok (.i2l, 1) := dk_133 (dk_at dksX10_move_4 10 rfl rfl)
theorem dX10_move_105 : decode cX10_move 105 = .ok (.ladd, 1) := dk_97 (dk_at dksX10_move_4 11 rfl rfl)
theorem dX10_move_106 : decode cX10_move 106 = .ok (.aload_n 0, 1) := dk_42 (dk_at dksX10_move_4 12 rfl rfl)
theorem dX10_move_107 : decode cX10_move 107 = .ok (.getfield 68, 3) := dk_180 0 68 (dk_at dksX10_move_4 13 rfl rfl)
theorem dX10_move_110 : decode cX10_move 110 = .ok (.iload_n 3, 1) := dk_29 (dk_at dksX10_move_4 16 rfl rfl)
theorem dX10_move_111 : decode cX10_move 111 = .ok (.iaload, 1) := dk_46 (dk_at dksX10_move_4 17 rfl rfl)
theorem dX10_move_112 : decode cX10_move 112 = .ok (.i2l, 1) := dk_133 (dk_at dksX10_move_4 18 rfl rfl)
theorem dX10_move_113 : decode cX10_move 113 = .ok (.lcmp, 1) := dk_148 (dk_at dksX10_move_4 19 rfl rfl)
theorem dX10_move_114 : decode cX10_move 114 = .ok (.ifCond .le 10, 3) := dk_158 0 10 (dk_at dksX10_move_4 20 rfl rfl)
theorem dX10_move_117 : decode cX10_move 117 = .ok (.aload_n 0, 1) := dk_42 (dk_at dksX10_move_4 23 rfl rfl)
theorem dX10_move_118 : decode cX10_move 118 = .ok (.ldc 87, 2) := dk_18 87 (dk_at dksX10_move_5 0 rfl rfl)
theorem dX10_move_120 : decode cX10_move 120 = .ok (.invokevirtual 88, 3) := dk_182 0 88 (dk_at dksX10_move_5 2 rfl rfl)
theorem dX10_move_123 : decode cX10_move 123 = .ok (.ireturn, 1) := dk_172 (dk_at dksX10_move_5 5 rfl rfl)
theorem dX10_move_124 : decode cX10_move 124 = .ok (.iconst 0, 1) := dk_3 (dk_at dksX10_move_5 6 rfl rfl)
theorem dX10_move_125 : decode cX10_move 125 = .ok (.istore 6, 2) := dk_54 6 (dk_at dksX10_move_5 7 rfl rfl)
theorem dX10_move_127 : decode cX10_move 127 = .ok (.iload 6, 2) := dk_21 6 (dk_at dksX10_move_5 9 rfl rfl)
theorem dX10_move_129 : decode cX10_move 129 = .ok (.iload 5, 2) := dk_21 5 (dk_at dksX10_move_5 11 rfl rfl)
theorem dX10_move_131 : decode cX10_move 131 = .ok (.if_icmp .ge 30, 3) := dk_162 0 30 (dk_at dksX10_move_5 13 rfl rfl)
theorem dX10_move_134 : decode cX10_move 134 = .ok (.aload_n 0, 1) := dk_42 (dk_at dksX10_move_5 16 rfl rfl)
theorem dX10_move_135 : decode cX10_move 135 = .ok (.getfield 74, 3) := dk_180 0 74 (dk_at dksX10_move_5 17 rfl rfl)
theorem dX10_move_138 : decode cX10_move 138 = .ok (.iload 6, 2) := dk_21 6 (dk_at dksX10_move_5 20 rfl rfl)
theorem dX10_move_140 : decode cX10_move 140 = .ok (.aload_n 0, 1) := dk_42 (dk_at dksX10_move_5 22 rfl rfl)
theorem dX10_move_141 : decode cX10_move 141 = .ok (.getfield 71, 3) := dk_180 0 71 (dk_at dksX10_move_6 0 rfl rfl)
theorem dX10_move_144 : decode cX10_move 144 = .ok (.bipush 40, 2) := dk_16 40 (dk_at dksX10_move_6 3 rfl rfl)
theorem dX10_move_146 : decode cX10_move 146 = .ok (.iload_n 1, 1) := dk_27 (dk_at dksX10_move_6 5 rfl rfl)
theorem dX10_move_147 : decode cX10_move 147 = .ok (.imul, 1) := dk_104 (dk_at dksX10_move_6 6 rfl rfl)
theorem dX10_move_148 : decode cX10_move 148 = .ok (.iload_n 2, 1) := dk_28 (dk_at dksX10_move_6 7 rfl rfl)
theorem dX10_move_149 : decode cX10_move 149 = .ok (.iadd, 1) := dk_96 (dk_at dksX10_move_6 8 rfl rfl)
theorem dX10_move_150 : decode cX10_move 150 = .ok (.iload 6, 2) := dk_21 6 (dk_at dksX10_move_6 9 rfl rfl)
theorem dX10_move_152 : decode cX10_move 152 = .ok (.iadd, 1) := dk_96 (dk_at dksX10_move_6 11 rfl rfl)
theorem dX10_move_153 : decode cX10_move 153 = .ok (.iaload, 1) := dk_46 (dk_at dksX10_move_6 12 rfl rfl)
theorem dX10_move_154 : decode cX10_move 154 = .ok (.iastore, 1) := dk_79 (dk_at dksX10_move_6 13 rfl rfl)
theorem dX10_move_155 : decode cX10_move 155 = .ok (.iinc 6 1, 3) := dk_132 6 1 (dk_at dksX10_move_6 14 rfl rfl)
theorem dX10_move_158 : decode cX10_move 158 = .ok (.goto (-31), 3) := dk_167 255 225 (dk_at dksX10_move_6 17 rfl rfl)
theorem dX10_move_161 : decode cX10_move 161 = .ok (.iconst 0, 1) := dk_3 (dk_at dksX10_move_6 20 rfl rfl)
theorem dX10_move_162 : decode cX10_move 162 = .ok (.istore 6, 2) := dk_54 6 (dk_at dksX10_move_6 21 rfl rfl)
theorem dX10_move_164 : decode cX10_move 164 = .ok (.iload 6, 2) := dk_21 6 (dk_at dksX10_move_7 0 rfl rfl)
theorem dX10_move_166 : decode cX10_move 166 = .ok (.iload 5, 2) := dk_21 5 (dk_at dksX10_move_7 2 rfl rfl)
theorem dX10_move_168 : decode cX10_move 168 = .ok (.if_icmp .ge 31, 3) := dk_162 0 31 (dk_at dksX10_move_7 4 rfl rfl)
theorem dX10_move_171 : decode cX10_move 171 = .ok (.aload_n 0, 1) := dk_42 (dk_at dksX10_move_7 7 rfl rfl)
theorem dX10_move_172 : decode cX10_move 172 = .ok (.getfield 71, 3) := dk_180 0 71 (dk_at dksX10_move_7 8 rfl rfl)
theorem dX10_move_175 : decode cX10_move 175 = .ok (.bipush 40, 2) := dk_16 40 (dk_at dksX10_move_7 11 rfl rfl)
theorem dX10_move_177 : decode cX10_move 177 = .ok (.iload_n 3, 1) := dk_29 (dk_at dksX10_move_7 13 rfl rfl)
theorem dX10_move_178 : decode cX10_move 178 = .ok (.imul, 1) := dk_104 (dk_at dksX10_move_7 14 rfl rfl)
theorem dX10_move_179 : decode cX10_move 179 = .ok (.iload 4, 2) := dk_21 4 (dk_at dksX10_move_7 15 rfl rfl)
theorem dX10_move_181 : decode cX10_move 181 = .ok (.iadd, 1) := dk_96 (dk_at dksX10_move_7 17 rfl rfl)
theorem dX10_move_182 : decode cX10_move 182 = .ok (.iload 6, 2) := dk_21 6 (dk_at dksX10_move_7 18 rfl rfl)
theorem dX10_move_184 : decode cX10_move 184 = .ok (.iadd, 1) := dk_96 (dk_at dksX10_move_7 20 rfl rfl)
theorem dX10_move_185 : decode cX10_move 185 = .ok (.aload_n 0, 1) := dk_42 (dk_at dksX10_move_7 21 rfl rfl)
theorem dX10_move_186 : decode cX10_move 186 = .ok (.getfield 74, 3) := dk_180 0 74 (dk_at dksX10_move_8 0 rfl rfl)
theorem dX10_move_189 : decode cX10_move 189 = .ok (.iload 6, 2) := dk_21 6 (dk_at dksX10_move_8 3 rfl rfl)
theorem dX10_move_191 : decode cX10_move 191 = .ok (.iaload, 1) := dk_46 (dk_at dksX10_move_8 5 rfl rfl)
theorem dX10_move_192 : decode cX10_move 192 = .ok (.iastore, 1) := dk_79 (dk_at dksX10_move_8 6 rfl rfl)
theorem dX10_move_193 : decode cX10_move 193 = .ok (.iinc 6 1, 3) := dk_132 6 1 (dk_at dksX10_move_8 7 rfl rfl)
theorem dX10_move_196 : decode cX10_move 196 = .ok (.goto (-32), 3) := dk_167 255 224 (dk_at dksX10_move_8 10 rfl rfl)
theorem dX10_move_199 : decode cX10_move 199 = .ok (.iload 5, 2) := dk_21 5 (dk_at dksX10_move_8 13 rfl rfl)
theorem dX10_move_201 : decode cX10_move 201 = .ok (.ireturn, 1) := dk_172 (dk_at dksX10_move_8 15 rfl rfl)
abbrev cX10_image : ByteArray := prog_37_method_108_code
def yX10_image : MethodName := ⟨RX10, "image", "()I"⟩
def dkwX10_image_1 : List UInt8 := [180, 1, 73, 172]
abbrev dktX10_image_1 : List UInt8 := dkwX10_image_1 ++ []
def dkwX10_image_0 : List UInt8 := [42, 180, 0, 9, 42, 180, 0, 13, 184, 0, 135, 42, 89, 180, 1, 73, 4, 96, 181, 1, 73, 42]
abbrev dktX10_image_0 : List UInt8 := dkwX10_image_0 ++ dktX10_image_1
theorem dksX10_image_0 : cX10_image.data.toList.drop 0 = dktX10_image_0 := by decide +kernel
theorem dksX10_image_1 : cX10_image.data.toList.drop 22 = dktX10_image_1 := dk_seg dksX10_image_0 22 rfl rfl
theorem dX10_image_0 : decode cX10_image 0 = .ok (.aload_n 0, 1) := dk_42 (dk_at dksX10_image_0 0 rfl rfl)
theorem dX10_image_1 : decode cX10_image 1 = .ok (.getfield 9, 3) := dk_180 0 9 (dk_at dksX10_image_0 1 rfl rfl)
theorem dX10_image_4 : decode cX10_image 4 = .ok (.aload_n 0, 1) := dk_42 (dk_at dksX10_image_0 4 rfl rfl)
theorem dX10_image_5 : decode cX10_image 5 = .ok (.getfield 13, 3) := dk_180 0 13 (dk_at dksX10_image_0 5 rfl rfl)
theorem dX10_image_8 : decode cX10_image 8 = .ok (.invokestatic 135, 3) := dk_184 0 135 (dk_at dksX10_image_0 8 rfl rfl)
theorem dX10_image_11 : decode cX10_image 11 = .ok (.aload_n 0, 1) := dk_42 (dk_at dksX10_image_0 11 rfl rfl)
theorem dX10_image_12 : decode cX10_image 12 = .ok (.dup, 1) := dk_89 (dk_at dksX10_image_0 12 rfl rfl)
theorem dX10_image_13 : decode cX10_image 13 = .ok (.getfield 329, 3) := dk_180 1 73 (dk_at dksX10_image_0 13 rfl rfl)
theorem dX10_image_16 : decode cX10_image 16 = .ok (.iconst 1, 1) := dk_4 (dk_at dksX10_image_0 16 rfl rfl)
theorem dX10_image_17 : decode cX10_image 17 = .ok (.iadd, 1) := dk_96 (dk_at dksX10_image_0 17 rfl rfl)
theorem dX10_image_18 : decode cX10_image 18 = .ok (.putfield 329, 3) := dk_181 1 73 (dk_at dksX10_image_0 18 rfl rfl)
theorem dX10_image_21 : decode cX10_image 21 = .ok (.aload_n 0, 1) := dk_42 (dk_at dksX10_image_0 21 rfl rfl)
theorem dX10_image_22 : decode cX10_image 22 = .ok (.getfield 329, 3) := dk_180 1 73 (dk_at dksX10_image_1 0 rfl rfl)
theorem dX10_image_25 : decode cX10_image 25 = .ok (.ireturn, 1) := dk_172 (dk_at dksX10_image_1 3 rfl rfl)
abbrev cX10_restore : ByteArray := prog_37_method_109_code
def yX10_restore : MethodName := ⟨RX10, "restore", "()I"⟩
def dkwX10_restore_1 : List UInt8 := [184, 0, 135, 42, 180, 0, 9, 3, 46, 172]
abbrev dktX10_restore_1 : List UInt8 := dkwX10_restore_1 ++ []
def dkwX10_restore_0 : List UInt8 := [42, 180, 1, 73, 154, 0, 10, 42, 18, 139, 182, 0, 88, 172, 42, 180, 0, 13, 42, 180, 0, 9]
abbrev dktX10_restore_0 : List UInt8 := dkwX10_restore_0 ++ dktX10_restore_1
theorem dksX10_restore_0 : cX10_restore.data.toList.drop 0 = dktX10_restore_0 := by decide +kernel
theorem dksX10_restore_1 : cX10_restore.data.toList.drop 22 = dktX10_restore_1 := dk_seg dksX10_restore_0 22 rfl rfl
theorem dX10_restore_0 : decode cX10_restore 0 = .ok (.aload_n 0, 1) := dk_42 (dk_at dksX10_restore_0 0 rfl rfl)
theorem dX10_restore_1 : decode cX10_restore 1 = .ok (.getfield 329, 3) := dk_180 1 73 (dk_at dksX10_restore_0 1 rfl rfl)
theorem dX10_restore_4 : decode cX10_restore 4 = .ok (.ifCond .ne 10, 3) := dk_154 0 10 (dk_at dksX10_restore_0 4 rfl rfl)
theorem dX10_restore_7 : decode cX10_restore 7 = .ok (.aload_n 0, 1) := dk_42 (dk_at dksX10_restore_0 7 rfl rfl)
theorem dX10_restore_8 : decode cX10_restore 8 = .ok (.ldc 139, 2) := dk_18 139 (dk_at dksX10_restore_0 8 rfl rfl)
theorem dX10_restore_10 : decode cX10_restore 10 = .ok (.invokevirtual 88, 3) := dk_182 0 88 (dk_at dksX10_restore_0 10 rfl rfl)
theorem dX10_restore_13 : decode cX10_restore 13 = .ok (.ireturn, 1) := dk_172 (dk_at dksX10_restore_0 13 rfl rfl)
theorem dX10_restore_14 : decode cX10_restore 14 = .ok (.aload_n 0, 1) := dk_42 (dk_at dksX10_restore_0 14 rfl rfl)
theorem dX10_restore_15 : decode cX10_restore 15 = .ok (.getfield 13, 3) := dk_180 0 13 (dk_at dksX10_restore_0 15 rfl rfl)
theorem dX10_restore_18 : decode cX10_restore 18 = .ok (.aload_n 0, 1) := dk_42 (dk_at dksX10_restore_0 18 rfl rfl)
theorem dX10_restore_19 : decode cX10_restore 19 = .ok (.getfield 9, 3) := dk_180 0 9 (dk_at dksX10_restore_0 19 rfl rfl)
theorem dX10_restore_22 : decode cX10_restore 22 = .ok (.invokestatic 135, 3) := dk_184 0 135 (dk_at dksX10_restore_1 0 rfl rfl)
theorem dX10_restore_25 : decode cX10_restore 25 = .ok (.aload_n 0, 1) := dk_42 (dk_at dksX10_restore_1 3 rfl rfl)
theorem dX10_restore_26 : decode cX10_restore 26 = .ok (.getfield 9, 3) := dk_180 0 9 (dk_at dksX10_restore_1 4 rfl rfl)
theorem dX10_restore_29 : decode cX10_restore 29 = .ok (.iconst 0, 1) := dk_3 (dk_at dksX10_restore_1 7 rfl rfl)
theorem dX10_restore_30 : decode cX10_restore 30 = .ok (.iaload, 1) := dk_46 (dk_at dksX10_restore_1 8 rfl rfl)
theorem dX10_restore_31 : decode cX10_restore 31 = .ok (.ireturn, 1) := dk_172 (dk_at dksX10_restore_1 9 rfl rfl)
abbrev cX10_tell : ByteArray := prog_37_method_110_code
def yX10_tell : MethodName := ⟨RX10, "tell", "(I)I"⟩
def dkwX10_tell_2 : List UInt8 := [42, 180, 0, 9, 16, 7, 46, 172]
abbrev dktX10_tell_2 : List UInt8 := dkwX10_tell_2 ++ []
def dkwX10_tell_1 : List UInt8 := [17, 1, 118, 42, 180, 0, 9, 16, 7, 46, 96, 27, 79, 42, 180, 0, 9, 16, 7, 92, 46, 4, 96, 79]
abbrev dktX10_tell_1 : List UInt8 := dkwX10_tell_1 ++ dktX10_tell_2
def dkwX10_tell_0 : List UInt8 := [42, 180, 0, 9, 16, 7, 46, 16, 20, 160, 0, 10, 42, 18, 96, 182, 0, 88, 172, 42, 180, 0, 9]
abbrev dktX10_tell_0 : List UInt8 := dkwX10_tell_0 ++ dktX10_tell_1
theorem dksX10_tell_0 : cX10_tell.data.toList.drop 0 = dktX10_tell_0 := by decide +kernel
theorem dksX10_tell_1 : cX10_tell.data.toList.drop 23 = dktX10_tell_1 := dk_seg dksX10_tell_0 23 rfl rfl
theorem dksX10_tell_2 : cX10_tell.data.toList.drop 47 = dktX10_tell_2 := dk_seg dksX10_tell_1 24 rfl rfl
theorem dX10_tell_0 : decode cX10_tell 0 = .ok (.aload_n 0, 1) := dk_42 (dk_at dksX10_tell_0 0 rfl rfl)
theorem dX10_tell_1 : decode cX10_tell 1 = .ok (.getfield 9, 3) := dk_180 0 9 (dk_at dksX10_tell_0 1 rfl rfl)
theorem dX10_tell_4 : decode cX10_tell 4 = .ok (.bipush 7, 2) := dk_16 7 (dk_at dksX10_tell_0 4 rfl rfl)
theorem dX10_tell_6 : decode cX10_tell 6 = .ok (.iaload, 1) := dk_46 (dk_at dksX10_tell_0 6 rfl rfl)
theorem dX10_tell_7 : decode cX10_tell 7 = .ok (.bipush 20, 2) := dk_16 20 (dk_at dksX10_tell_0 7 rfl rfl)
theorem dX10_tell_9 : decode cX10_tell 9 = .ok (.if_icmp .ne 10, 3) := dk_160 0 10 (dk_at dksX10_tell_0 9 rfl rfl)
theorem dX10_tell_12 : decode cX10_tell 12 = .ok (.aload_n 0, 1) := dk_42 (dk_at dksX10_tell_0 12 rfl rfl)
theorem dX10_tell_13 : decode cX10_tell 13 = .ok (.ldc 96, 2) := dk_18 96 (dk_at dksX10_tell_0 13 rfl rfl)
theorem dX10_tell_15 : decode cX10_tell 15 = .ok (.invokevirtual 88, 3) := dk_182 0 88 (dk_at dksX10_tell_0 15 rfl rfl)
theorem dX10_tell_18 : decode cX10_tell 18 = .ok (.ireturn, 1) := dk_172 (dk_at dksX10_tell_0 18 rfl rfl)
theorem dX10_tell_19 : decode cX10_tell 19 = .ok (.aload_n 0, 1) := dk_42 (dk_at dksX10_tell_0 19 rfl rfl)
theorem dX10_tell_20 : decode cX10_tell 20 = .ok (.getfield 9, 3) := dk_180 0 9 (dk_at dksX10_tell_0 20 rfl rfl)
theorem dX10_tell_23 : decode cX10_tell 23 = .ok (.sipush 374, 3) := dk_17 1 118 (dk_at dksX10_tell_1 0 rfl rfl)
theorem dX10_tell_26 : decode cX10_tell 26 = .ok (.aload_n 0, 1) := dk_42 (dk_at dksX10_tell_1 3 rfl rfl)
theorem dX10_tell_27 : decode cX10_tell 27 = .ok (.getfield 9, 3) := dk_180 0 9 (dk_at dksX10_tell_1 4 rfl rfl)
theorem dX10_tell_30 : decode cX10_tell 30 = .ok (.bipush 7, 2) := dk_16 7 (dk_at dksX10_tell_1 7 rfl rfl)
theorem dX10_tell_32 : decode cX10_tell 32 = .ok (.iaload, 1) := dk_46 (dk_at dksX10_tell_1 9 rfl rfl)
theorem dX10_tell_33 : decode cX10_tell 33 = .ok (.iadd, 1) := dk_96 (dk_at dksX10_tell_1 10 rfl rfl)
theorem dX10_tell_34 : decode cX10_tell 34 = .ok (.iload_n 1, 1) := dk_27 (dk_at dksX10_tell_1 11 rfl rfl)
theorem dX10_tell_35 : decode cX10_tell 35 = .ok (.iastore, 1) := dk_79 (dk_at dksX10_tell_1 12 rfl rfl)
theorem dX10_tell_36 : decode cX10_tell 36 = .ok (.aload_n 0, 1) := dk_42 (dk_at dksX10_tell_1 13 rfl rfl)
theorem dX10_tell_37 : decode cX10_tell 37 = .ok (.getfield 9, 3) := dk_180 0 9 (dk_at dksX10_tell_1 14 rfl rfl)
theorem dX10_tell_40 : decode cX10_tell 40 = .ok (.bipush 7, 2) := dk_16 7 (dk_at dksX10_tell_1 17 rfl rfl)
theorem dX10_tell_42 : decode cX10_tell 42 = .ok (.dup2, 1) := dk_92 (dk_at dksX10_tell_1 19 rfl rfl)
theorem dX10_tell_43 : decode cX10_tell 43 = .ok (.iaload, 1) := dk_46 (dk_at dksX10_tell_1 20 rfl rfl)
theorem dX10_tell_44 : decode cX10_tell 44 = .ok (.iconst 1, 1) := dk_4 (dk_at dksX10_tell_1 21 rfl rfl)
theorem dX10_tell_45 : decode cX10_tell 45 = .ok (.iadd, 1) := dk_96 (dk_at dksX10_tell_1 22 rfl rfl)
theorem dX10_tell_46 : decode cX10_tell 46 = .ok (.iastore, 1) := dk_79 (dk_at dksX10_tell_1 23 rfl rfl)
theorem dX10_tell_47 : decode cX10_tell 47 = .ok (.aload_n 0, 1) := dk_42 (dk_at dksX10_tell_2 0 rfl rfl)
theorem dX10_tell_48 : decode cX10_tell 48 = .ok (.getfield 9, 3) := dk_180 0 9 (dk_at dksX10_tell_2 1 rfl rfl)
theorem dX10_tell_51 : decode cX10_tell 51 = .ok (.bipush 7, 2) := dk_16 7 (dk_at dksX10_tell_2 4 rfl rfl)
theorem dX10_tell_53 : decode cX10_tell 53 = .ok (.iaload, 1) := dk_46 (dk_at dksX10_tell_2 6 rfl rfl)
theorem dX10_tell_54 : decode cX10_tell 54 = .ok (.ireturn, 1) := dk_172 (dk_at dksX10_tell_2 7 rfl rfl)
abbrev cX10_count : ByteArray := prog_37_method_111_code
def yX10_count : MethodName := ⟨RX10, "count", "(I)I"⟩
def dkwX10_count_2 : List UInt8 := [180, 0, 9, 16, 8, 46, 172]
abbrev dktX10_count_2 : List UInt8 := dkwX10_count_2 ++ []
def dkwX10_count_1 : List UInt8 := [180, 0, 9, 27, 46, 167, 0, 23, 27, 16, 8, 160, 0, 10, 42, 180, 1, 52, 167, 0, 10, 42]
abbrev dktX10_count_1 : List UInt8 := dkwX10_count_1 ++ dktX10_count_2
def dkwX10_count_0 : List UInt8 := [27, 3, 16, 9, 184, 0, 78, 154, 0, 10, 42, 18, 87, 182, 0, 88, 172, 27, 16, 8, 162, 0, 12, 42]
abbrev dktX10_count_0 : List UInt8 := dkwX10_count_0 ++ dktX10_count_1
theorem dksX10_count_0 : cX10_count.data.toList.drop 0 = dktX10_count_0 := by decide +kernel
theorem dksX10_count_1 : cX10_count.data.toList.drop 24 = dktX10_count_1 := dk_seg dksX10_count_0 24 rfl rfl
theorem dksX10_count_2 : cX10_count.data.toList.drop 46 = dktX10_count_2 := dk_seg dksX10_count_1 22 rfl rfl
theorem dX10_count_0 : decode cX10_count 0 = .ok (.iload_n 1, 1) := dk_27 (dk_at dksX10_count_0 0 rfl rfl)
theorem dX10_count_1 : decode cX10_count 1 = .ok (.iconst 0, 1) := dk_3 (dk_at dksX10_count_0 1 rfl rfl)
theorem dX10_count_2 : decode cX10_count 2 = .ok (.bipush 9, 2) := dk_16 9 (dk_at dksX10_count_0 2 rfl rfl)
theorem dX10_count_4 : decode cX10_count 4 = .ok (.invokestatic 78, 3) := dk_184 0 78 (dk_at dksX10_count_0 4 rfl rfl)
theorem dX10_count_7 : decode cX10_count 7 = .ok (.ifCond .ne 10, 3) := dk_154 0 10 (dk_at dksX10_count_0 7 rfl rfl)
theorem dX10_count_10 : decode cX10_count 10 = .ok (.aload_n 0, 1) := dk_42 (dk_at dksX10_count_0 10 rfl rfl)
theorem dX10_count_11 : decode cX10_count 11 = .ok (.ldc 87, 2) := dk_18 87 (dk_at dksX10_count_0 11 rfl rfl)
theorem dX10_count_13 : decode cX10_count 13 = .ok (.invokevirtual 88, 3) := dk_182 0 88 (dk_at dksX10_count_0 13 rfl rfl)
theorem dX10_count_16 : decode cX10_count 16 = .ok (.ireturn, 1) := dk_172 (dk_at dksX10_count_0 16 rfl rfl)
theorem dX10_count_17 : decode cX10_count 17 = .ok (.iload_n 1, 1) := dk_27 (dk_at dksX10_count_0 17 rfl rfl)
theorem dX10_count_18 : decode cX10_count 18 = .ok (.bipush 8, 2) := dk_16 8 (dk_at dksX10_count_0 18 rfl rfl)
theorem dX10_count_20 : decode cX10_count 20 = .ok (.if_icmp .ge 12, 3) := dk_162 0 12 (dk_at dksX10_count_0 20 rfl rfl)
theorem dX10_count_23 : decode cX10_count 23 = .ok (.aload_n 0, 1) := dk_42 (dk_at dksX10_count_0 23 rfl rfl)
theorem dX10_count_24 : decode cX10_count 24 = .ok (.getfield 9, 3) := dk_180 0 9 (dk_at dksX10_count_1 0 rfl rfl)
theorem dX10_count_27 : decode cX10_count 27 = .ok (.iload_n 1, 1) := dk_27 (dk_at dksX10_count_1 3 rfl rfl)
theorem dX10_count_28 : decode cX10_count 28 = .ok (.iaload, 1) := dk_46 (dk_at dksX10_count_1 4 rfl rfl)
theorem dX10_count_29 : decode cX10_count 29 = .ok (.goto 23, 3) := dk_167 0 23 (dk_at dksX10_count_1 5 rfl rfl)
theorem dX10_count_32 : decode cX10_count 32 = .ok (.iload_n 1, 1) := dk_27 (dk_at dksX10_count_1 8 rfl rfl)
theorem dX10_count_33 : decode cX10_count 33 = .ok (.bipush 8, 2) := dk_16 8 (dk_at dksX10_count_1 9 rfl rfl)
theorem dX10_count_35 : decode cX10_count 35 = .ok (.if_icmp .ne 10, 3) := dk_160 0 10 (dk_at dksX10_count_1 11 rfl rfl)
theorem dX10_count_38 : decode cX10_count 38 = .ok (.aload_n 0, 1) := dk_42 (dk_at dksX10_count_1 14 rfl rfl)
theorem dX10_count_39 : decode cX10_count 39 = .ok (.getfield 308, 3) := dk_180 1 52 (dk_at dksX10_count_1 15 rfl rfl)
theorem dX10_count_42 : decode cX10_count 42 = .ok (.goto 10, 3) := dk_167 0 10 (dk_at dksX10_count_1 18 rfl rfl)
theorem dX10_count_45 : decode cX10_count 45 = .ok (.aload_n 0, 1) := dk_42 (dk_at dksX10_count_1 21 rfl rfl)
theorem dX10_count_46 : decode cX10_count 46 = .ok (.getfield 9, 3) := dk_180 0 9 (dk_at dksX10_count_2 0 rfl rfl)
theorem dX10_count_49 : decode cX10_count 49 = .ok (.bipush 8, 2) := dk_16 8 (dk_at dksX10_count_2 3 rfl rfl)
theorem dX10_count_51 : decode cX10_count 51 = .ok (.iaload, 1) := dk_46 (dk_at dksX10_count_2 5 rfl rfl)
theorem dX10_count_52 : decode cX10_count 52 = .ok (.ireturn, 1) := dk_172 (dk_at dksX10_count_2 6 rfl rfl)
abbrev cX10_told : ByteArray := prog_37_method_112_code
def yX10_told : MethodName := ⟨RX10, "told", "(I)I"⟩
def dkwX10_told_1 : List UInt8 := [172]
abbrev dktX10_told_1 : List UInt8 := dkwX10_told_1 ++ []
def dkwX10_told_0 : List UInt8 := [27, 4, 8, 184, 0, 78, 153, 0, 12, 42, 180, 0, 19, 27, 46, 167, 0, 9, 42, 18, 87, 182, 0, 88]
abbrev dktX10_told_0 : List UInt8 := dkwX10_told_0 ++ dktX10_told_1
theorem dksX10_told_0 : cX10_told.data.toList.drop 0 = dktX10_told_0 := by decide +kernel
theorem dksX10_told_1 : cX10_told.data.toList.drop 24 = dktX10_told_1 := dk_seg dksX10_told_0 24 rfl rfl
theorem dX10_told_0 : decode cX10_told 0 = .ok (.iload_n 1, 1) := dk_27 (dk_at dksX10_told_0 0 rfl rfl)
theorem dX10_told_1 : decode cX10_told 1 = .ok (.iconst 1, 1) := dk_4 (dk_at dksX10_told_0 1 rfl rfl)
theorem dX10_told_2 : decode cX10_told 2 = .ok (.iconst 5, 1) := dk_8 (dk_at dksX10_told_0 2 rfl rfl)
theorem dX10_told_3 : decode cX10_told 3 = .ok (.invokestatic 78, 3) := dk_184 0 78 (dk_at dksX10_told_0 3 rfl rfl)
theorem dX10_told_6 : decode cX10_told 6 = .ok (.ifCond .eq 12, 3) := dk_153 0 12 (dk_at dksX10_told_0 6 rfl rfl)
theorem dX10_told_9 : decode cX10_told 9 = .ok (.aload_n 0, 1) := dk_42 (dk_at dksX10_told_0 9 rfl rfl)
theorem dX10_told_10 : decode cX10_told 10 = .ok (.getfield 19, 3) := dk_180 0 19 (dk_at dksX10_told_0 10 rfl rfl)
theorem dX10_told_13 : decode cX10_told 13 = .ok (.iload_n 1, 1) := dk_27 (dk_at dksX10_told_0 13 rfl rfl)
theorem dX10_told_14 : decode cX10_told 14 = .ok (.iaload, 1) := dk_46 (dk_at dksX10_told_0 14 rfl rfl)
theorem dX10_told_15 : decode cX10_told 15 = .ok (.goto 9, 3) := dk_167 0 9 (dk_at dksX10_told_0 15 rfl rfl)
theorem dX10_told_18 : decode cX10_told 18 = .ok (.aload_n 0, 1) := dk_42 (dk_at dksX10_told_0 18 rfl rfl)
theorem dX10_told_19 : decode cX10_told 19 = .ok (.ldc 87, 2) := dk_18 87 (dk_at dksX10_told_0 19 rfl rfl)
theorem dX10_told_21 : decode cX10_told 21 = .ok (.invokevirtual 88, 3) := dk_182 0 88 (dk_at dksX10_told_0 21 rfl rfl)
theorem dX10_told_24 : decode cX10_told 24 = .ok (.ireturn, 1) := dk_172 (dk_at dksX10_told_1 0 rfl rfl)
theorem q95 : (Jvm.Cond.initialized "LastHatchModel") ∈ lw_all := lw_g (lw_at lw_m1 17 rfl) rfl
theorem q620 : (Jvm.Cond.selects "LastHatchModel" ({ cls := "java/lang/Object", name := "getClass", desc := "()Ljava/lang/Class;" } : Jvm.MethodName) ({ cls := "java/lang/Object", name := "getClass", desc := "()Ljava/lang/Class;" } : Jvm.MethodName)) ∈ lw_all := lw_g (lw_at lw_m3 62 rfl) rfl
theorem q1918 : (Jvm.Cond.instantiable "LastHatchModel" (29 : Nat)) ∈ lw_all := lw_g (lw_at lw_m8 160 rfl) rfl
theorem q1920 : (Jvm.Cond.instanceMethod ({ cls := "LastHatchModel", name := "<init>", desc := "()V" } : Jvm.MethodName)) ∈ lw_all := lw_g (lw_at lw_m8 162 rfl) rfl
theorem q1921 : (Jvm.Cond.code ({ cls := "LastHatchModel", name := "<init>", desc := "()V" } : Jvm.MethodName) prog_37_method_1_code (2 : Nat) (Option.none : Option Jvm.ClassFile.FieldType)) ∈ lw_all := lw_g (lw_at lw_m8 163 rfl) rfl
theorem q1922 : (Jvm.Cond.methodLink "LastHatchModel" (3 : Nat) ({ cls := "java/lang/Object", name := "<init>", desc := "()V" } : Jvm.MethodName)) ∈ lw_all := lw_g (lw_at lw_m8 164 rfl) rfl
theorem q1923 : (Jvm.Cond.classLink "LastHatchModel" (22 : Nat) "java/lang/String") ∈ lw_all := lw_g (lw_at lw_m8 165 rfl) rfl
theorem q1925 : (Jvm.Cond.stringRef "LastHatchModel" (24 : Nat) "wcp") ∈ lw_tbl := lw_at lw_m8 167 rfl
theorem q1926 : (Jvm.Cond.stringRef "LastHatchModel" (26 : Nat) "dms") ∈ lw_tbl := lw_at lw_m8 168 rfl
theorem q1927 : (Jvm.Cond.stringRef "LastHatchModel" (28 : Nat) "m") ∈ lw_tbl := lw_at lw_m8 169 rfl
theorem q1928 : (Jvm.Cond.stringRef "LastHatchModel" (30 : Nat) "hn") ∈ lw_tbl := lw_at lw_m8 170 rfl
theorem q1929 : (Jvm.Cond.fieldLink "LastHatchModel" (9 : Nat) "LastHatchModel" "now" "[I") ∈ lw_all := lw_g (lw_at lw_m8 171 rfl) rfl
theorem q1930 : (Jvm.Cond.fieldLink "LastHatchModel" (13 : Nat) "LastHatchModel" "kept" "[I") ∈ lw_all := lw_g (lw_at lw_m8 172 rfl) rfl
theorem q1931 : (Jvm.Cond.fieldLink "LastHatchModel" (16 : Nat) "LastHatchModel" "aside" "[I") ∈ lw_all := lw_g (lw_at lw_m8 173 rfl) rfl
theorem q1932 : (Jvm.Cond.fieldLink "LastHatchModel" (329 : Nat) "LastHatchModel" "images" "I") ∈ lw_all := lw_g (lw_at lw_m8 174 rfl) rfl
theorem q1933 : (Jvm.Cond.fieldLink "LastHatchModel" (19 : Nat) "LastHatchModel" "errors" "[I") ∈ lw_all := lw_g (lw_at lw_m8 175 rfl) rfl
theorem q1934 : (Jvm.Cond.fieldLink "LastHatchModel" (32 : Nat) "LastHatchModel" "NAMED" "[Ljava/lang/String;") ∈ lw_all := lw_g (lw_at lw_m8 176 rfl) rfl
theorem q1935 : (Jvm.Cond.fieldLink "LastHatchModel" (153 : Nat) "LastHatchModel" "at" "I") ∈ lw_all := lw_g (lw_at lw_m8 177 rfl) rfl
theorem q1936 : (Jvm.Cond.fieldLink "LastHatchModel" (195 : Nat) "LastHatchModel" "open" "I") ∈ lw_all := lw_g (lw_at lw_m8 178 rfl) rfl
theorem q1937 : (Jvm.Cond.fieldLink "LastHatchModel" (185 : Nat) "LastHatchModel" "use" "I") ∈ lw_all := lw_g (lw_at lw_m8 179 rfl) rfl
theorem q1938 : (Jvm.Cond.fieldLink "LastHatchModel" (149 : Nat) "LastHatchModel" "isWrong" "Z") ∈ lw_all := lw_g (lw_at lw_m8 180 rfl) rfl
theorem q1939 : (Jvm.Cond.fieldLink "LastHatchModel" (36 : Nat) "LastHatchModel" "code" "[I") ∈ lw_all := lw_g (lw_at lw_m8 181 rfl) rfl
theorem q1940 : (Jvm.Cond.fieldLink "LastHatchModel" (161 : Nat) "LastHatchModel" "coded" "I") ∈ lw_all := lw_g (lw_at lw_m8 182 rfl) rfl
theorem q1941 : (Jvm.Cond.fieldLink "LastHatchModel" (39 : Nat) "LastHatchModel" "pile" "[I") ∈ lw_all := lw_g (lw_at lw_m8 183 rfl) rfl
theorem q1942 : (Jvm.Cond.fieldLink "LastHatchModel" (42 : Nat) "LastHatchModel" "who" "[I") ∈ lw_all := lw_g (lw_at lw_m8 184 rfl) rfl
theorem q1943 : (Jvm.Cond.fieldLink "LastHatchModel" (236 : Nat) "LastHatchModel" "whoMany" "I") ∈ lw_all := lw_g (lw_at lw_m8 185 rfl) rfl
theorem q1944 : (Jvm.Cond.fieldLink "LastHatchModel" (45 : Nat) "LastHatchModel" "turns" "[I") ∈ lw_all := lw_g (lw_at lw_m8 186 rfl) rfl
theorem q1945 : (Jvm.Cond.fieldLink "LastHatchModel" (48 : Nat) "LastHatchModel" "more" "[I") ∈ lw_all := lw_g (lw_at lw_m8 187 rfl) rfl
theorem q1946 : (Jvm.Cond.fieldLink "LastHatchModel" (51 : Nat) "LastHatchModel" "letters" "[I") ∈ lw_all := lw_g (lw_at lw_m8 188 rfl) rfl
theorem q1947 : (Jvm.Cond.fieldLink "LastHatchModel" (287 : Nat) "LastHatchModel" "letterMany" "I") ∈ lw_all := lw_g (lw_at lw_m8 189 rfl) rfl
theorem q1948 : (Jvm.Cond.fieldLink "LastHatchModel" (290 : Nat) "LastHatchModel" "stopAt" "I") ∈ lw_all := lw_g (lw_at lw_m8 190 rfl) rfl
theorem q1949 : (Jvm.Cond.fieldLink "LastHatchModel" (54 : Nat) "LastHatchModel" "tables" "[J") ∈ lw_all := lw_g (lw_at lw_m8 191 rfl) rfl
theorem q1950 : (Jvm.Cond.fieldLink "LastHatchModel" (58 : Nat) "LastHatchModel" "waits" "[Z") ∈ lw_all := lw_g (lw_at lw_m8 192 rfl) rfl
theorem q1951 : (Jvm.Cond.fieldLink "LastHatchModel" (62 : Nat) "LastHatchModel" "trace" "[I") ∈ lw_all := lw_g (lw_at lw_m8 193 rfl) rfl
theorem q1952 : (Jvm.Cond.fieldLink "LastHatchModel" (308 : Nat) "LastHatchModel" "traced" "I") ∈ lw_all := lw_g (lw_at lw_m8 194 rfl) rfl
theorem q1953 : (Jvm.Cond.fieldLink "LastHatchModel" (311 : Nat) "LastHatchModel" "speaker" "I") ∈ lw_all := lw_g (lw_at lw_m8 195 rfl) rfl
theorem q1954 : (Jvm.Cond.fieldLink "LastHatchModel" (65 : Nat) "LastHatchModel" "widths" "[I") ∈ lw_all := lw_g (lw_at lw_m8 196 rfl) rfl
theorem q1955 : (Jvm.Cond.fieldLink "LastHatchModel" (68 : Nat) "LastHatchModel" "sizes" "[I") ∈ lw_all := lw_g (lw_at lw_m8 197 rfl) rfl
theorem q1956 : (Jvm.Cond.fieldLink "LastHatchModel" (71 : Nat) "LastHatchModel" "numbers" "[I") ∈ lw_all := lw_g (lw_at lw_m8 198 rfl) rfl
theorem q1957 : (Jvm.Cond.fieldLink "LastHatchModel" (74 : Nat) "LastHatchModel" "carried" "[I") ∈ lw_all := lw_g (lw_at lw_m8 199 rfl) rfl
theorem q1958 : (Jvm.Cond.laysFinal "LastHatchModel" "LastHatchModel" "now" "[I") ∈ lw_all := lw_g (lw_at lw_m8 200 rfl) rfl
theorem q1959 : (Jvm.Cond.soleField "LastHatchModel" "now") ∈ lw_all := lw_g (lw_at lw_m8 201 rfl) rfl
theorem q1960 : (Jvm.Cond.laysFinal "LastHatchModel" "LastHatchModel" "kept" "[I") ∈ lw_all := lw_g (lw_at lw_m8 202 rfl) rfl
theorem q1961 : (Jvm.Cond.soleField "LastHatchModel" "kept") ∈ lw_all := lw_g (lw_at lw_m8 203 rfl) rfl
theorem q1962 : (Jvm.Cond.laysFinal "LastHatchModel" "LastHatchModel" "aside" "[I") ∈ lw_all := lw_g (lw_at lw_m8 204 rfl) rfl
theorem q1963 : (Jvm.Cond.soleField "LastHatchModel" "aside") ∈ lw_all := lw_g (lw_at lw_m8 205 rfl) rfl
theorem q1964 : (Jvm.Cond.lays "LastHatchModel" "LastHatchModel" "images" "I") ∈ lw_all := lw_g (lw_at lw_m8 206 rfl) rfl
theorem q1965 : (Jvm.Cond.soleField "LastHatchModel" "images") ∈ lw_all := lw_g (lw_at lw_m8 207 rfl) rfl
theorem q1966 : (Jvm.Cond.laysFinal "LastHatchModel" "LastHatchModel" "errors" "[I") ∈ lw_all := lw_g (lw_at lw_m8 208 rfl) rfl
theorem q1967 : (Jvm.Cond.soleField "LastHatchModel" "errors") ∈ lw_all := lw_g (lw_at lw_m8 209 rfl) rfl
theorem q1968 : (Jvm.Cond.laysFinal "LastHatchModel" "LastHatchModel" "NAMED" "[Ljava/lang/String;") ∈ lw_all := lw_g (lw_at lw_m8 210 rfl) rfl
theorem q1969 : (Jvm.Cond.soleField "LastHatchModel" "NAMED") ∈ lw_all := lw_g (lw_at lw_m8 211 rfl) rfl
theorem q1970 : (Jvm.Cond.lays "LastHatchModel" "LastHatchModel" "at" "I") ∈ lw_all := lw_g (lw_at lw_m8 212 rfl) rfl
theorem q1971 : (Jvm.Cond.soleField "LastHatchModel" "at") ∈ lw_all := lw_g (lw_at lw_m8 213 rfl) rfl
theorem q1972 : (Jvm.Cond.lays "LastHatchModel" "LastHatchModel" "open" "I") ∈ lw_all := lw_g (lw_at lw_m8 214 rfl) rfl
theorem q1973 : (Jvm.Cond.soleField "LastHatchModel" "open") ∈ lw_all := lw_g (lw_at lw_m8 215 rfl) rfl
theorem q1974 : (Jvm.Cond.lays "LastHatchModel" "LastHatchModel" "use" "I") ∈ lw_all := lw_g (lw_at lw_m8 216 rfl) rfl
theorem q1975 : (Jvm.Cond.soleField "LastHatchModel" "use") ∈ lw_all := lw_g (lw_at lw_m8 217 rfl) rfl
theorem q1976 : (Jvm.Cond.lays "LastHatchModel" "LastHatchModel" "isWrong" "Z") ∈ lw_all := lw_g (lw_at lw_m8 218 rfl) rfl
theorem q1977 : (Jvm.Cond.soleField "LastHatchModel" "isWrong") ∈ lw_all := lw_g (lw_at lw_m8 219 rfl) rfl
theorem q1978 : (Jvm.Cond.laysFinal "LastHatchModel" "LastHatchModel" "code" "[I") ∈ lw_all := lw_g (lw_at lw_m8 220 rfl) rfl
theorem q1979 : (Jvm.Cond.soleField "LastHatchModel" "code") ∈ lw_all := lw_g (lw_at lw_m8 221 rfl) rfl
theorem q1980 : (Jvm.Cond.lays "LastHatchModel" "LastHatchModel" "coded" "I") ∈ lw_all := lw_g (lw_at lw_m8 222 rfl) rfl
theorem q1981 : (Jvm.Cond.soleField "LastHatchModel" "coded") ∈ lw_all := lw_g (lw_at lw_m8 223 rfl) rfl
theorem q1982 : (Jvm.Cond.laysFinal "LastHatchModel" "LastHatchModel" "pile" "[I") ∈ lw_all := lw_g (lw_at lw_m8 224 rfl) rfl
theorem q1983 : (Jvm.Cond.soleField "LastHatchModel" "pile") ∈ lw_all := lw_g (lw_at lw_m8 225 rfl) rfl
theorem q1984 : (Jvm.Cond.laysFinal "LastHatchModel" "LastHatchModel" "who" "[I") ∈ lw_all := lw_g (lw_at lw_m8 226 rfl) rfl
theorem q1985 : (Jvm.Cond.soleField "LastHatchModel" "who") ∈ lw_all := lw_g (lw_at lw_m8 227 rfl) rfl
theorem q1986 : (Jvm.Cond.lays "LastHatchModel" "LastHatchModel" "whoMany" "I") ∈ lw_all := lw_g (lw_at lw_m8 228 rfl) rfl
theorem q1987 : (Jvm.Cond.soleField "LastHatchModel" "whoMany") ∈ lw_all := lw_g (lw_at lw_m8 229 rfl) rfl
theorem q1988 : (Jvm.Cond.laysFinal "LastHatchModel" "LastHatchModel" "turns" "[I") ∈ lw_all := lw_g (lw_at lw_m8 230 rfl) rfl
theorem q1989 : (Jvm.Cond.soleField "LastHatchModel" "turns") ∈ lw_all := lw_g (lw_at lw_m8 231 rfl) rfl
theorem q1990 : (Jvm.Cond.laysFinal "LastHatchModel" "LastHatchModel" "more" "[I") ∈ lw_all := lw_g (lw_at lw_m8 232 rfl) rfl
theorem q1991 : (Jvm.Cond.soleField "LastHatchModel" "more") ∈ lw_all := lw_g (lw_at lw_m8 233 rfl) rfl
theorem q1992 : (Jvm.Cond.laysFinal "LastHatchModel" "LastHatchModel" "letters" "[I") ∈ lw_all := lw_g (lw_at lw_m8 234 rfl) rfl
theorem q1993 : (Jvm.Cond.soleField "LastHatchModel" "letters") ∈ lw_all := lw_g (lw_at lw_m8 235 rfl) rfl
theorem q1994 : (Jvm.Cond.lays "LastHatchModel" "LastHatchModel" "letterMany" "I") ∈ lw_all := lw_g (lw_at lw_m8 236 rfl) rfl
theorem q1995 : (Jvm.Cond.soleField "LastHatchModel" "letterMany") ∈ lw_all := lw_g (lw_at lw_m8 237 rfl) rfl
theorem q1996 : (Jvm.Cond.lays "LastHatchModel" "LastHatchModel" "stopAt" "I") ∈ lw_all := lw_g (lw_at lw_m8 238 rfl) rfl
theorem q1997 : (Jvm.Cond.soleField "LastHatchModel" "stopAt") ∈ lw_all := lw_g (lw_at lw_m8 239 rfl) rfl
theorem q1998 : (Jvm.Cond.laysFinal "LastHatchModel" "LastHatchModel" "tables" "[J") ∈ lw_all := lw_g (lw_at lw_m9 0 rfl) rfl
theorem q1999 : (Jvm.Cond.soleField "LastHatchModel" "tables") ∈ lw_all := lw_g (lw_at lw_m9 1 rfl) rfl
theorem q2000 : (Jvm.Cond.laysFinal "LastHatchModel" "LastHatchModel" "waits" "[Z") ∈ lw_all := lw_g (lw_at lw_m9 2 rfl) rfl
theorem q2001 : (Jvm.Cond.soleField "LastHatchModel" "waits") ∈ lw_all := lw_g (lw_at lw_m9 3 rfl) rfl
theorem q2002 : (Jvm.Cond.laysFinal "LastHatchModel" "LastHatchModel" "trace" "[I") ∈ lw_all := lw_g (lw_at lw_m9 4 rfl) rfl
theorem q2003 : (Jvm.Cond.soleField "LastHatchModel" "trace") ∈ lw_all := lw_g (lw_at lw_m9 5 rfl) rfl
theorem q2004 : (Jvm.Cond.lays "LastHatchModel" "LastHatchModel" "traced" "I") ∈ lw_all := lw_g (lw_at lw_m9 6 rfl) rfl
theorem q2005 : (Jvm.Cond.soleField "LastHatchModel" "traced") ∈ lw_all := lw_g (lw_at lw_m9 7 rfl) rfl
theorem q2006 : (Jvm.Cond.lays "LastHatchModel" "LastHatchModel" "speaker" "I") ∈ lw_all := lw_g (lw_at lw_m9 8 rfl) rfl
theorem q2007 : (Jvm.Cond.soleField "LastHatchModel" "speaker") ∈ lw_all := lw_g (lw_at lw_m9 9 rfl) rfl
theorem q2008 : (Jvm.Cond.laysFinal "LastHatchModel" "LastHatchModel" "widths" "[I") ∈ lw_all := lw_g (lw_at lw_m9 10 rfl) rfl
theorem q2009 : (Jvm.Cond.soleField "LastHatchModel" "widths") ∈ lw_all := lw_g (lw_at lw_m9 11 rfl) rfl
theorem q2010 : (Jvm.Cond.laysFinal "LastHatchModel" "LastHatchModel" "sizes" "[I") ∈ lw_all := lw_g (lw_at lw_m9 12 rfl) rfl
theorem q2011 : (Jvm.Cond.soleField "LastHatchModel" "sizes") ∈ lw_all := lw_g (lw_at lw_m9 13 rfl) rfl
theorem q2012 : (Jvm.Cond.laysFinal "LastHatchModel" "LastHatchModel" "numbers" "[I") ∈ lw_all := lw_g (lw_at lw_m9 14 rfl) rfl
theorem q2013 : (Jvm.Cond.soleField "LastHatchModel" "numbers") ∈ lw_all := lw_g (lw_at lw_m9 15 rfl) rfl
theorem q2014 : (Jvm.Cond.laysFinal "LastHatchModel" "LastHatchModel" "carried" "[I") ∈ lw_all := lw_g (lw_at lw_m9 16 rfl) rfl
theorem q2015 : (Jvm.Cond.soleField "LastHatchModel" "carried") ∈ lw_all := lw_g (lw_at lw_m9 17 rfl) rfl
theorem q2016 : (Jvm.Cond.superclass "LastHatchModel" "java/lang/Object") ∈ lw_all := lw_g (lw_at lw_m9 18 rfl) rfl
theorem q2020 : (Jvm.Cond.instanceMethod ({ cls := "LastHatchModel", name := "boat", desc := "(II)I" } : Jvm.MethodName)) ∈ lw_all := lw_g (lw_at lw_m9 22 rfl) rfl
theorem q2021 : (Jvm.Cond.selects "LastHatchModel" ({ cls := "LastHatchModel", name := "boat", desc := "(II)I" } : Jvm.MethodName) ({ cls := "LastHatchModel", name := "boat", desc := "(II)I" } : Jvm.MethodName)) ∈ lw_all := lw_g (lw_at lw_m9 23 rfl) rfl
theorem q2022 : (Jvm.Cond.code ({ cls := "LastHatchModel", name := "boat", desc := "(II)I" } : Jvm.MethodName) prog_37_method_10_code (4 : Nat) (Option.some Jvm.ClassFile.FieldType.int)) ∈ lw_all := lw_g (lw_at lw_m9 24 rfl) rfl
theorem q2023 : (Jvm.Cond.methodLink "LastHatchModel" (78 : Nat) ({ cls := "LastHatchModel", name := "within", desc := "(III)Z" } : Jvm.MethodName)) ∈ lw_all := lw_g (lw_at lw_m9 25 rfl) rfl
theorem q2024 : (Jvm.Cond.static ({ cls := "LastHatchModel", name := "within", desc := "(III)Z" } : Jvm.MethodName)) ∈ lw_all := lw_g (lw_at lw_m9 26 rfl) rfl
theorem q2025 : (Jvm.Cond.code ({ cls := "LastHatchModel", name := "within", desc := "(III)Z" } : Jvm.MethodName) prog_37_method_3_code (3 : Nat) (Option.some Jvm.ClassFile.FieldType.boolean)) ∈ lw_all := lw_g (lw_at lw_m9 27 rfl) rfl
theorem q2026 : (Jvm.Cond.constant "LastHatchModel" (82 : Nat) (99999 : Int32)) ∈ lw_all := lw_g (lw_at lw_m9 28 rfl) rfl
theorem q2027 : (Jvm.Cond.methodLink "LastHatchModel" (83 : Nat) ({ cls := "LastHatchModel", name := "become", desc := "(II)I" } : Jvm.MethodName)) ∈ lw_all := lw_g (lw_at lw_m9 29 rfl) rfl
theorem q2028 : (Jvm.Cond.privateMethod ({ cls := "LastHatchModel", name := "become", desc := "(II)I" } : Jvm.MethodName)) ∈ lw_tbl := lw_at lw_m9 30 rfl
theorem q2029 : (Jvm.Cond.instanceMethod ({ cls := "LastHatchModel", name := "become", desc := "(II)I" } : Jvm.MethodName)) ∈ lw_all := lw_g (lw_at lw_m9 31 rfl) rfl
theorem q2030 : (Jvm.Cond.code ({ cls := "LastHatchModel", name := "become", desc := "(II)I" } : Jvm.MethodName) prog_37_method_8_code (4 : Nat) (Option.some Jvm.ClassFile.FieldType.int)) ∈ lw_all := lw_g (lw_at lw_m9 32 rfl) rfl
theorem q2031 : (Jvm.Cond.constant "LastHatchModel" (87 : Nat) (-1000001 : Int32)) ∈ lw_all := lw_g (lw_at lw_m9 33 rfl) rfl
theorem q2032 : (Jvm.Cond.methodLink "LastHatchModel" (88 : Nat) ({ cls := "LastHatchModel", name := "finding", desc := "(I)I" } : Jvm.MethodName)) ∈ lw_all := lw_g (lw_at lw_m9 34 rfl) rfl
theorem q2033 : (Jvm.Cond.privateMethod ({ cls := "LastHatchModel", name := "finding", desc := "(I)I" } : Jvm.MethodName)) ∈ lw_tbl := lw_at lw_m9 35 rfl
theorem q2034 : (Jvm.Cond.instanceMethod ({ cls := "LastHatchModel", name := "finding", desc := "(I)I" } : Jvm.MethodName)) ∈ lw_all := lw_g (lw_at lw_m9 36 rfl) rfl
theorem q2035 : (Jvm.Cond.code ({ cls := "LastHatchModel", name := "finding", desc := "(I)I" } : Jvm.MethodName) prog_37_method_2_code (2 : Nat) (Option.some Jvm.ClassFile.FieldType.int)) ∈ lw_all := lw_g (lw_at lw_m9 37 rfl) rfl
theorem q2036 : (Jvm.Cond.constant "LastHatchModel" (77 : Nat) (-1000000 : Int32)) ∈ lw_all := lw_g (lw_at lw_m9 38 rfl) rfl
theorem q2038 : (Jvm.Cond.instanceMethod ({ cls := "LastHatchModel", name := "man", desc := "(III)I" } : Jvm.MethodName)) ∈ lw_all := lw_g (lw_at lw_m9 40 rfl) rfl
theorem q2039 : (Jvm.Cond.selects "LastHatchModel" ({ cls := "LastHatchModel", name := "man", desc := "(III)I" } : Jvm.MethodName) ({ cls := "LastHatchModel", name := "man", desc := "(III)I" } : Jvm.MethodName)) ∈ lw_all := lw_g (lw_at lw_m9 41 rfl) rfl
theorem q2040 : (Jvm.Cond.code ({ cls := "LastHatchModel", name := "man", desc := "(III)I" } : Jvm.MethodName) prog_37_method_13_code (4 : Nat) (Option.some Jvm.ClassFile.FieldType.int)) ∈ lw_all := lw_g (lw_at lw_m9 42 rfl) rfl
theorem q2041 : (Jvm.Cond.methodLink "LastHatchModel" (92 : Nat) ({ cls := "LastHatchModel", name := "isRoom", desc := "(I)Z" } : Jvm.MethodName)) ∈ lw_all := lw_g (lw_at lw_m9 43 rfl) rfl
theorem q2042 : (Jvm.Cond.static ({ cls := "LastHatchModel", name := "isRoom", desc := "(I)Z" } : Jvm.MethodName)) ∈ lw_all := lw_g (lw_at lw_m9 44 rfl) rfl
theorem q2043 : (Jvm.Cond.code ({ cls := "LastHatchModel", name := "isRoom", desc := "(I)Z" } : Jvm.MethodName) prog_37_method_5_code (1 : Nat) (Option.some Jvm.ClassFile.FieldType.boolean)) ∈ lw_all := lw_g (lw_at lw_m9 45 rfl) rfl
theorem q2044 : (Jvm.Cond.constant "LastHatchModel" (96 : Nat) (-1000004 : Int32)) ∈ lw_all := lw_g (lw_at lw_m9 46 rfl) rfl
theorem q2045 : (Jvm.Cond.methodLink "LastHatchModel" (97 : Nat) ({ cls := "LastHatchModel", name := "comes", desc := "(III)V" } : Jvm.MethodName)) ∈ lw_all := lw_g (lw_at lw_m9 47 rfl) rfl
theorem q2046 : (Jvm.Cond.privateMethod ({ cls := "LastHatchModel", name := "comes", desc := "(III)V" } : Jvm.MethodName)) ∈ lw_tbl := lw_at lw_m9 48 rfl
theorem q2047 : (Jvm.Cond.instanceMethod ({ cls := "LastHatchModel", name := "comes", desc := "(III)V" } : Jvm.MethodName)) ∈ lw_all := lw_g (lw_at lw_m9 49 rfl) rfl
theorem q2048 : (Jvm.Cond.code ({ cls := "LastHatchModel", name := "comes", desc := "(III)V" } : Jvm.MethodName) prog_37_method_12_code (5 : Nat) (Option.none : Option Jvm.ClassFile.FieldType)) ∈ lw_all := lw_g (lw_at lw_m9 50 rfl) rfl
theorem q2050 : (Jvm.Cond.instanceMethod ({ cls := "LastHatchModel", name := "does", desc := "(III)I" } : Jvm.MethodName)) ∈ lw_all := lw_g (lw_at lw_m9 52 rfl) rfl
theorem q2051 : (Jvm.Cond.selects "LastHatchModel" ({ cls := "LastHatchModel", name := "does", desc := "(III)I" } : Jvm.MethodName) ({ cls := "LastHatchModel", name := "does", desc := "(III)I" } : Jvm.MethodName)) ∈ lw_all := lw_g (lw_at lw_m9 53 rfl) rfl
theorem q2052 : (Jvm.Cond.code ({ cls := "LastHatchModel", name := "does", desc := "(III)I" } : Jvm.MethodName) prog_37_method_14_code (5 : Nat) (Option.some Jvm.ClassFile.FieldType.int)) ∈ lw_all := lw_g (lw_at lw_m9 54 rfl) rfl
theorem q2053 : (Jvm.Cond.methodLink "LastHatchModel" (101 : Nat) ({ cls := "LastHatchModel", name := "is", desc := "(II)Z" } : Jvm.MethodName)) ∈ lw_all := lw_g (lw_at lw_m9 55 rfl) rfl
theorem q2054 : (Jvm.Cond.privateMethod ({ cls := "LastHatchModel", name := "is", desc := "(II)Z" } : Jvm.MethodName)) ∈ lw_tbl := lw_at lw_m9 56 rfl
theorem q2055 : (Jvm.Cond.instanceMethod ({ cls := "LastHatchModel", name := "is", desc := "(II)Z" } : Jvm.MethodName)) ∈ lw_all := lw_g (lw_at lw_m9 57 rfl) rfl
theorem q2056 : (Jvm.Cond.code ({ cls := "LastHatchModel", name := "is", desc := "(II)Z" } : Jvm.MethodName) prog_37_method_4_code (3 : Nat) (Option.some Jvm.ClassFile.FieldType.boolean)) ∈ lw_all := lw_g (lw_at lw_m9 58 rfl) rfl
theorem q2057 : (Jvm.Cond.methodLink "LastHatchModel" (105 : Nat) ({ cls := "LastHatchModel", name := "man", desc := "(II)I" } : Jvm.MethodName)) ∈ lw_all := lw_g (lw_at lw_m9 59 rfl) rfl
theorem q2058 : (Jvm.Cond.privateMethod ({ cls := "LastHatchModel", name := "man", desc := "(II)I" } : Jvm.MethodName)) ∈ lw_tbl := lw_at lw_m9 60 rfl
theorem q2059 : (Jvm.Cond.instanceMethod ({ cls := "LastHatchModel", name := "man", desc := "(II)I" } : Jvm.MethodName)) ∈ lw_all := lw_g (lw_at lw_m9 61 rfl) rfl
theorem q2060 : (Jvm.Cond.code ({ cls := "LastHatchModel", name := "man", desc := "(II)I" } : Jvm.MethodName) prog_37_method_11_code (3 : Nat) (Option.some Jvm.ClassFile.FieldType.int)) ∈ lw_all := lw_g (lw_at lw_m9 62 rfl) rfl
theorem q2061 : (Jvm.Cond.constant "LastHatchModel" (108 : Nat) (-1000003 : Int32)) ∈ lw_all := lw_g (lw_at lw_m9 63 rfl) rfl
theorem q2063 : (Jvm.Cond.instanceMethod ({ cls := "LastHatchModel", name := "of", desc := "(II)I" } : Jvm.MethodName)) ∈ lw_all := lw_g (lw_at lw_m9 65 rfl) rfl
theorem q2064 : (Jvm.Cond.selects "LastHatchModel" ({ cls := "LastHatchModel", name := "of", desc := "(II)I" } : Jvm.MethodName) ({ cls := "LastHatchModel", name := "of", desc := "(II)I" } : Jvm.MethodName)) ∈ lw_all := lw_g (lw_at lw_m9 66 rfl) rfl
theorem q2065 : (Jvm.Cond.code ({ cls := "LastHatchModel", name := "of", desc := "(II)I" } : Jvm.MethodName) prog_37_method_15_code (3 : Nat) (Option.some Jvm.ClassFile.FieldType.int)) ∈ lw_all := lw_g (lw_at lw_m9 67 rfl) rfl
theorem q2067 : (Jvm.Cond.instanceMethod ({ cls := "LastHatchModel", name := "door", desc := "(II)I" } : Jvm.MethodName)) ∈ lw_all := lw_g (lw_at lw_m9 69 rfl) rfl
theorem q2068 : (Jvm.Cond.selects "LastHatchModel" ({ cls := "LastHatchModel", name := "door", desc := "(II)I" } : Jvm.MethodName) ({ cls := "LastHatchModel", name := "door", desc := "(II)I" } : Jvm.MethodName)) ∈ lw_all := lw_g (lw_at lw_m9 70 rfl) rfl
theorem q2069 : (Jvm.Cond.code ({ cls := "LastHatchModel", name := "door", desc := "(II)I" } : Jvm.MethodName) prog_37_method_16_code (3 : Nat) (Option.some Jvm.ClassFile.FieldType.int)) ∈ lw_all := lw_g (lw_at lw_m9 71 rfl) rfl
theorem q2071 : (Jvm.Cond.instanceMethod ({ cls := "LastHatchModel", name := "valve", desc := "(II)I" } : Jvm.MethodName)) ∈ lw_all := lw_g (lw_at lw_m9 73 rfl) rfl
theorem q2072 : (Jvm.Cond.selects "LastHatchModel" ({ cls := "LastHatchModel", name := "valve", desc := "(II)I" } : Jvm.MethodName) ({ cls := "LastHatchModel", name := "valve", desc := "(II)I" } : Jvm.MethodName)) ∈ lw_all := lw_g (lw_at lw_m9 74 rfl) rfl
theorem q2073 : (Jvm.Cond.code ({ cls := "LastHatchModel", name := "valve", desc := "(II)I" } : Jvm.MethodName) prog_37_method_17_code (4 : Nat) (Option.some Jvm.ClassFile.FieldType.int)) ∈ lw_all := lw_g (lw_at lw_m9 75 rfl) rfl
theorem q2075 : (Jvm.Cond.instanceMethod ({ cls := "LastHatchModel", name := "turn", desc := "(II)I" } : Jvm.MethodName)) ∈ lw_all := lw_g (lw_at lw_m9 77 rfl) rfl
theorem q2076 : (Jvm.Cond.selects "LastHatchModel" ({ cls := "LastHatchModel", name := "turn", desc := "(II)I" } : Jvm.MethodName) ({ cls := "LastHatchModel", name := "turn", desc := "(II)I" } : Jvm.MethodName)) ∈ lw_all := lw_g (lw_at lw_m9 78 rfl) rfl
theorem q2077 : (Jvm.Cond.code ({ cls := "LastHatchModel", name := "turn", desc := "(II)I" } : Jvm.MethodName) prog_37_method_18_code (3 : Nat) (Option.some Jvm.ClassFile.FieldType.int)) ∈ lw_all := lw_g (lw_at lw_m9 79 rfl) rfl
theorem q2079 : (Jvm.Cond.instanceMethod ({ cls := "LastHatchModel", name := "room", desc := "(II)I" } : Jvm.MethodName)) ∈ lw_all := lw_g (lw_at lw_m9 81 rfl) rfl
theorem q2080 : (Jvm.Cond.selects "LastHatchModel" ({ cls := "LastHatchModel", name := "room", desc := "(II)I" } : Jvm.MethodName) ({ cls := "LastHatchModel", name := "room", desc := "(II)I" } : Jvm.MethodName)) ∈ lw_all := lw_g (lw_at lw_m9 82 rfl) rfl
theorem q2081 : (Jvm.Cond.code ({ cls := "LastHatchModel", name := "room", desc := "(II)I" } : Jvm.MethodName) prog_37_method_20_code (3 : Nat) (Option.some Jvm.ClassFile.FieldType.int)) ∈ lw_all := lw_g (lw_at lw_m9 83 rfl) rfl
theorem q2082 : (Jvm.Cond.methodLink "LastHatchModel" (109 : Nat) ({ cls := "LastHatchModel", name := "menIn", desc := "(I)I" } : Jvm.MethodName)) ∈ lw_all := lw_g (lw_at lw_m9 84 rfl) rfl
theorem q2083 : (Jvm.Cond.privateMethod ({ cls := "LastHatchModel", name := "menIn", desc := "(I)I" } : Jvm.MethodName)) ∈ lw_tbl := lw_at lw_m9 85 rfl
theorem q2084 : (Jvm.Cond.instanceMethod ({ cls := "LastHatchModel", name := "menIn", desc := "(I)I" } : Jvm.MethodName)) ∈ lw_all := lw_g (lw_at lw_m9 86 rfl) rfl
theorem q2085 : (Jvm.Cond.code ({ cls := "LastHatchModel", name := "menIn", desc := "(I)I" } : Jvm.MethodName) prog_37_method_19_code (4 : Nat) (Option.some Jvm.ClassFile.FieldType.int)) ∈ lw_all := lw_g (lw_at lw_m9 87 rfl) rfl
theorem q2087 : (Jvm.Cond.instanceMethod ({ cls := "LastHatchModel", name := "pour", desc := "(III)I" } : Jvm.MethodName)) ∈ lw_all := lw_g (lw_at lw_m9 89 rfl) rfl
theorem q2088 : (Jvm.Cond.selects "LastHatchModel" ({ cls := "LastHatchModel", name := "pour", desc := "(III)I" } : Jvm.MethodName) ({ cls := "LastHatchModel", name := "pour", desc := "(III)I" } : Jvm.MethodName)) ∈ lw_all := lw_g (lw_at lw_m9 90 rfl) rfl
theorem q2089 : (Jvm.Cond.code ({ cls := "LastHatchModel", name := "pour", desc := "(III)I" } : Jvm.MethodName) prog_37_method_21_code (5 : Nat) (Option.some Jvm.ClassFile.FieldType.int)) ∈ lw_all := lw_g (lw_at lw_m9 91 rfl) rfl
theorem q2091 : (Jvm.Cond.instanceMethod ({ cls := "LastHatchModel", name := "minute", desc := "(I)I" } : Jvm.MethodName)) ∈ lw_all := lw_g (lw_at lw_m9 93 rfl) rfl
theorem q2092 : (Jvm.Cond.selects "LastHatchModel" ({ cls := "LastHatchModel", name := "minute", desc := "(I)I" } : Jvm.MethodName) ({ cls := "LastHatchModel", name := "minute", desc := "(I)I" } : Jvm.MethodName)) ∈ lw_all := lw_g (lw_at lw_m9 94 rfl) rfl
theorem q2093 : (Jvm.Cond.code ({ cls := "LastHatchModel", name := "minute", desc := "(I)I" } : Jvm.MethodName) prog_37_method_26_code (3 : Nat) (Option.some Jvm.ClassFile.FieldType.int)) ∈ lw_all := lw_g (lw_at lw_m9 95 rfl) rfl
theorem q2094 : (Jvm.Cond.methodLink "LastHatchModel" (129 : Nat) ({ cls := "LastHatchModel", name := "air", desc := "()V" } : Jvm.MethodName)) ∈ lw_all := lw_g (lw_at lw_m9 96 rfl) rfl
theorem q2095 : (Jvm.Cond.privateMethod ({ cls := "LastHatchModel", name := "air", desc := "()V" } : Jvm.MethodName)) ∈ lw_tbl := lw_at lw_m9 97 rfl
theorem q2096 : (Jvm.Cond.instanceMethod ({ cls := "LastHatchModel", name := "air", desc := "()V" } : Jvm.MethodName)) ∈ lw_all := lw_g (lw_at lw_m9 98 rfl) rfl
theorem q2097 : (Jvm.Cond.code ({ cls := "LastHatchModel", name := "air", desc := "()V" } : Jvm.MethodName) prog_37_method_23_code (3 : Nat) (Option.none : Option Jvm.ClassFile.FieldType)) ∈ lw_all := lw_g (lw_at lw_m9 99 rfl) rfl
theorem q2098 : (Jvm.Cond.methodLink "LastHatchModel" (112 : Nat) ({ cls := "LastHatchModel", name := "given", desc := "(IIII)I" } : Jvm.MethodName)) ∈ lw_all := lw_g (lw_at lw_m9 100 rfl) rfl
theorem q2099 : (Jvm.Cond.privateMethod ({ cls := "LastHatchModel", name := "given", desc := "(IIII)I" } : Jvm.MethodName)) ∈ lw_tbl := lw_at lw_m9 101 rfl
theorem q2100 : (Jvm.Cond.instanceMethod ({ cls := "LastHatchModel", name := "given", desc := "(IIII)I" } : Jvm.MethodName)) ∈ lw_all := lw_g (lw_at lw_m9 102 rfl) rfl
theorem q2101 : (Jvm.Cond.code ({ cls := "LastHatchModel", name := "given", desc := "(IIII)I" } : Jvm.MethodName) prog_37_method_45_code (8 : Nat) (Option.some Jvm.ClassFile.FieldType.int)) ∈ lw_all := lw_g (lw_at lw_m9 103 rfl) rfl
theorem q2102 : (Jvm.Cond.methodLink "LastHatchModel" (211 : Nat) ({ cls := "LastHatchModel", name := "worked", desc := "(IIII)I" } : Jvm.MethodName)) ∈ lw_all := lw_g (lw_at lw_m9 104 rfl) rfl
theorem q2103 : (Jvm.Cond.privateMethod ({ cls := "LastHatchModel", name := "worked", desc := "(IIII)I" } : Jvm.MethodName)) ∈ lw_tbl := lw_at lw_m9 105 rfl
theorem q2104 : (Jvm.Cond.instanceMethod ({ cls := "LastHatchModel", name := "worked", desc := "(IIII)I" } : Jvm.MethodName)) ∈ lw_all := lw_g (lw_at lw_m9 106 rfl) rfl
theorem q2105 : (Jvm.Cond.code ({ cls := "LastHatchModel", name := "worked", desc := "(IIII)I" } : Jvm.MethodName) prog_37_method_43_code (8 : Nat) (Option.some Jvm.ClassFile.FieldType.int)) ∈ lw_all := lw_g (lw_at lw_m9 107 rfl) rfl
theorem q2106 : (Jvm.Cond.methodLink "LastHatchModel" (204 : Nat) ({ cls := "LastHatchModel", name := "done", desc := "(III)I" } : Jvm.MethodName)) ∈ lw_all := lw_g (lw_at lw_m9 108 rfl) rfl
theorem q2107 : (Jvm.Cond.static ({ cls := "LastHatchModel", name := "done", desc := "(III)I" } : Jvm.MethodName)) ∈ lw_all := lw_g (lw_at lw_m9 109 rfl) rfl
theorem q2108 : (Jvm.Cond.code ({ cls := "LastHatchModel", name := "done", desc := "(III)I" } : Jvm.MethodName) prog_37_method_42_code (3 : Nat) (Option.some Jvm.ClassFile.FieldType.int)) ∈ lw_all := lw_g (lw_at lw_m9 110 rfl) rfl
theorem q2109 : (Jvm.Cond.methodLink "LastHatchModel" (214 : Nat) ({ cls := "LastHatchModel", name := "hold", desc := "(II)I" } : Jvm.MethodName)) ∈ lw_all := lw_g (lw_at lw_m9 111 rfl) rfl
theorem q2110 : (Jvm.Cond.static ({ cls := "LastHatchModel", name := "hold", desc := "(II)I" } : Jvm.MethodName)) ∈ lw_all := lw_g (lw_at lw_m9 112 rfl) rfl
theorem q2111 : (Jvm.Cond.code ({ cls := "LastHatchModel", name := "hold", desc := "(II)I" } : Jvm.MethodName) prog_37_method_44_code (2 : Nat) (Option.some Jvm.ClassFile.FieldType.int)) ∈ lw_all := lw_g (lw_at lw_m9 113 rfl) rfl
theorem q2112 : (Jvm.Cond.methodLink "LastHatchModel" (124 : Nat) ({ cls := "java/lang/Math", name := "min", desc := "(II)I" } : Jvm.MethodName)) ∈ lw_all := lw_g (lw_at lw_m9 114 rfl) rfl
theorem q2113 : (Jvm.Cond.methodLink "LastHatchModel" (208 : Nat) ({ cls := "java/lang/Math", name := "max", desc := "(II)I" } : Jvm.MethodName)) ∈ lw_all := lw_g (lw_at lw_m9 115 rfl) rfl
theorem q2114 : (Jvm.Cond.methodLink "LastHatchModel" (116 : Nat) ({ cls := "LastHatchModel", name := "even", desc := "(I)V" } : Jvm.MethodName)) ∈ lw_all := lw_g (lw_at lw_m9 116 rfl) rfl
theorem q2115 : (Jvm.Cond.privateMethod ({ cls := "LastHatchModel", name := "even", desc := "(I)V" } : Jvm.MethodName)) ∈ lw_tbl := lw_at lw_m9 117 rfl
theorem q2116 : (Jvm.Cond.instanceMethod ({ cls := "LastHatchModel", name := "even", desc := "(I)V" } : Jvm.MethodName)) ∈ lw_all := lw_g (lw_at lw_m9 118 rfl) rfl
theorem q2117 : (Jvm.Cond.code ({ cls := "LastHatchModel", name := "even", desc := "(I)V" } : Jvm.MethodName) prog_37_method_22_code (4 : Nat) (Option.none : Option Jvm.ClassFile.FieldType)) ∈ lw_all := lw_g (lw_at lw_m9 119 rfl) rfl
theorem q2118 : (Jvm.Cond.methodLink "LastHatchModel" (132 : Nat) ({ cls := "LastHatchModel", name := "rest", desc := "()V" } : Jvm.MethodName)) ∈ lw_all := lw_g (lw_at lw_m9 120 rfl) rfl
theorem q2119 : (Jvm.Cond.privateMethod ({ cls := "LastHatchModel", name := "rest", desc := "()V" } : Jvm.MethodName)) ∈ lw_tbl := lw_at lw_m9 121 rfl
theorem q2120 : (Jvm.Cond.instanceMethod ({ cls := "LastHatchModel", name := "rest", desc := "()V" } : Jvm.MethodName)) ∈ lw_all := lw_g (lw_at lw_m9 122 rfl) rfl
theorem q2121 : (Jvm.Cond.code ({ cls := "LastHatchModel", name := "rest", desc := "()V" } : Jvm.MethodName) prog_37_method_25_code (2 : Nat) (Option.none : Option Jvm.ClassFile.FieldType)) ∈ lw_all := lw_g (lw_at lw_m9 123 rfl) rfl
theorem q2122 : (Jvm.Cond.methodLink "LastHatchModel" (120 : Nat) ({ cls := "LastHatchModel", name := "kill", desc := "(II)V" } : Jvm.MethodName)) ∈ lw_all := lw_g (lw_at lw_m9 124 rfl) rfl
theorem q2123 : (Jvm.Cond.privateMethod ({ cls := "LastHatchModel", name := "kill", desc := "(II)V" } : Jvm.MethodName)) ∈ lw_tbl := lw_at lw_m9 125 rfl
theorem q2124 : (Jvm.Cond.instanceMethod ({ cls := "LastHatchModel", name := "kill", desc := "(II)V" } : Jvm.MethodName)) ∈ lw_all := lw_g (lw_at lw_m9 126 rfl) rfl
theorem q2125 : (Jvm.Cond.code ({ cls := "LastHatchModel", name := "kill", desc := "(II)V" } : Jvm.MethodName) prog_37_method_24_code (5 : Nat) (Option.none : Option Jvm.ClassFile.FieldType)) ∈ lw_all := lw_g (lw_at lw_m9 127 rfl) rfl
theorem q2127 : (Jvm.Cond.instanceMethod ({ cls := "LastHatchModel", name := "last", desc := "(I)I" } : Jvm.MethodName)) ∈ lw_all := lw_g (lw_at lw_m9 129 rfl) rfl
theorem q2128 : (Jvm.Cond.selects "LastHatchModel" ({ cls := "LastHatchModel", name := "last", desc := "(I)I" } : Jvm.MethodName) ({ cls := "LastHatchModel", name := "last", desc := "(I)I" } : Jvm.MethodName)) ∈ lw_all := lw_g (lw_at lw_m9 130 rfl) rfl
theorem q2129 : (Jvm.Cond.code ({ cls := "LastHatchModel", name := "last", desc := "(I)I" } : Jvm.MethodName) prog_37_method_28_code (4 : Nat) (Option.some Jvm.ClassFile.FieldType.int)) ∈ lw_all := lw_g (lw_at lw_m9 131 rfl) rfl
theorem q2130 : (Jvm.Cond.methodLink "LastHatchModel" (135 : Nat) ({ cls := "LastHatchModel", name := "copy", desc := "([I[I)V" } : Jvm.MethodName)) ∈ lw_all := lw_g (lw_at lw_m9 132 rfl) rfl
theorem q2131 : (Jvm.Cond.static ({ cls := "LastHatchModel", name := "copy", desc := "([I[I)V" } : Jvm.MethodName)) ∈ lw_all := lw_g (lw_at lw_m9 133 rfl) rfl
theorem q2132 : (Jvm.Cond.code ({ cls := "LastHatchModel", name := "copy", desc := "([I[I)V" } : Jvm.MethodName) prog_37_method_9_code (3 : Nat) (Option.none : Option Jvm.ClassFile.FieldType)) ∈ lw_all := lw_g (lw_at lw_m9 134 rfl) rfl
theorem q2133 : (Jvm.Cond.constant "LastHatchModel" (139 : Nat) (-1000002 : Int32)) ∈ lw_all := lw_g (lw_at lw_m9 135 rfl) rfl
theorem q2134 : (Jvm.Cond.methodLink "LastHatchModel" (140 : Nat) ({ cls := "LastHatchModel", name := "isStill", desc := "()Z" } : Jvm.MethodName)) ∈ lw_all := lw_g (lw_at lw_m9 136 rfl) rfl
theorem q2135 : (Jvm.Cond.privateMethod ({ cls := "LastHatchModel", name := "isStill", desc := "()Z" } : Jvm.MethodName)) ∈ lw_tbl := lw_at lw_m9 137 rfl
theorem q2136 : (Jvm.Cond.instanceMethod ({ cls := "LastHatchModel", name := "isStill", desc := "()Z" } : Jvm.MethodName)) ∈ lw_all := lw_g (lw_at lw_m9 138 rfl) rfl
theorem q2137 : (Jvm.Cond.code ({ cls := "LastHatchModel", name := "isStill", desc := "()Z" } : Jvm.MethodName) prog_37_method_27_code (4 : Nat) (Option.some Jvm.ClassFile.FieldType.boolean)) ∈ lw_all := lw_g (lw_at lw_m9 139 rfl) rfl
theorem q2139 : (Jvm.Cond.instanceMethod ({ cls := "LastHatchModel", name := "dead", desc := "(I)I" } : Jvm.MethodName)) ∈ lw_all := lw_g (lw_at lw_m9 141 rfl) rfl
theorem q2140 : (Jvm.Cond.selects "LastHatchModel" ({ cls := "LastHatchModel", name := "dead", desc := "(I)I" } : Jvm.MethodName) ({ cls := "LastHatchModel", name := "dead", desc := "(I)I" } : Jvm.MethodName)) ∈ lw_all := lw_g (lw_at lw_m9 142 rfl) rfl
theorem q2141 : (Jvm.Cond.code ({ cls := "LastHatchModel", name := "dead", desc := "(I)I" } : Jvm.MethodName) prog_37_method_29_code (3 : Nat) (Option.some Jvm.ClassFile.FieldType.int)) ∈ lw_all := lw_g (lw_at lw_m9 143 rfl) rfl
theorem q2142 : (Jvm.Cond.methodLink "LastHatchModel" (144 : Nat) ({ cls := "LastHatchModel", name := "bits", desc := "(I)I" } : Jvm.MethodName)) ∈ lw_all := lw_g (lw_at lw_m9 144 rfl) rfl
theorem q2143 : (Jvm.Cond.static ({ cls := "LastHatchModel", name := "bits", desc := "(I)I" } : Jvm.MethodName)) ∈ lw_all := lw_g (lw_at lw_m9 145 rfl) rfl
theorem q2144 : (Jvm.Cond.code ({ cls := "LastHatchModel", name := "bits", desc := "(I)I" } : Jvm.MethodName) prog_37_method_7_code (3 : Nat) (Option.some Jvm.ClassFile.FieldType.int)) ∈ lw_all := lw_g (lw_at lw_m9 146 rfl) rfl
theorem q2146 : (Jvm.Cond.instanceMethod ({ cls := "LastHatchModel", name := "feed", desc := "(JI)I" } : Jvm.MethodName)) ∈ lw_all := lw_g (lw_at lw_m9 148 rfl) rfl
theorem q2147 : (Jvm.Cond.selects "LastHatchModel" ({ cls := "LastHatchModel", name := "feed", desc := "(JI)I" } : Jvm.MethodName) ({ cls := "LastHatchModel", name := "feed", desc := "(JI)I" } : Jvm.MethodName)) ∈ lw_all := lw_g (lw_at lw_m9 149 rfl) rfl
theorem q2148 : (Jvm.Cond.code ({ cls := "LastHatchModel", name := "feed", desc := "(JI)I" } : Jvm.MethodName) prog_37_method_30_code (5 : Nat) (Option.some Jvm.ClassFile.FieldType.int)) ∈ lw_all := lw_g (lw_at lw_m9 150 rfl) rfl
theorem q2149 : (Jvm.Cond.constantLong "LastHatchModel" (147 : Nat) (255 : Int64)) ∈ lw_all := lw_g (lw_at lw_m9 151 rfl) rfl
theorem q2151 : (Jvm.Cond.instanceMethod ({ cls := "LastHatchModel", name := "text", desc := "(I)I" } : Jvm.MethodName)) ∈ lw_all := lw_g (lw_at lw_m9 153 rfl) rfl
theorem q2152 : (Jvm.Cond.selects "LastHatchModel" ({ cls := "LastHatchModel", name := "text", desc := "(I)I" } : Jvm.MethodName) ({ cls := "LastHatchModel", name := "text", desc := "(I)I" } : Jvm.MethodName)) ∈ lw_all := lw_g (lw_at lw_m9 154 rfl) rfl
theorem q2153 : (Jvm.Cond.code ({ cls := "LastHatchModel", name := "text", desc := "(I)I" } : Jvm.MethodName) prog_37_method_41_code (3 : Nat) (Option.some Jvm.ClassFile.FieldType.int)) ∈ lw_all := lw_g (lw_at lw_m9 155 rfl) rfl
theorem q2154 : (Jvm.Cond.methodLink "LastHatchModel" (198 : Nat) ({ cls := "LastHatchModel", name := "either", desc := "()V" } : Jvm.MethodName)) ∈ lw_all := lw_g (lw_at lw_m9 156 rfl) rfl
theorem q2155 : (Jvm.Cond.privateMethod ({ cls := "LastHatchModel", name := "either", desc := "()V" } : Jvm.MethodName)) ∈ lw_tbl := lw_at lw_m9 157 rfl
theorem q2156 : (Jvm.Cond.instanceMethod ({ cls := "LastHatchModel", name := "either", desc := "()V" } : Jvm.MethodName)) ∈ lw_all := lw_g (lw_at lw_m9 158 rfl) rfl
theorem q2157 : (Jvm.Cond.code ({ cls := "LastHatchModel", name := "either", desc := "()V" } : Jvm.MethodName) prog_37_method_34_code (1 : Nat) (Option.none : Option Jvm.ClassFile.FieldType)) ∈ lw_all := lw_g (lw_at lw_m9 159 rfl) rfl
theorem q2158 : (Jvm.Cond.methodLink "LastHatchModel" (164 : Nat) ({ cls := "LastHatchModel", name := "both", desc := "()V" } : Jvm.MethodName)) ∈ lw_all := lw_g (lw_at lw_m9 160 rfl) rfl
theorem q2159 : (Jvm.Cond.privateMethod ({ cls := "LastHatchModel", name := "both", desc := "()V" } : Jvm.MethodName)) ∈ lw_tbl := lw_at lw_m9 161 rfl
theorem q2160 : (Jvm.Cond.instanceMethod ({ cls := "LastHatchModel", name := "both", desc := "()V" } : Jvm.MethodName)) ∈ lw_all := lw_g (lw_at lw_m9 162 rfl) rfl
theorem q2161 : (Jvm.Cond.code ({ cls := "LastHatchModel", name := "both", desc := "()V" } : Jvm.MethodName) prog_37_method_35_code (1 : Nat) (Option.none : Option Jvm.ClassFile.FieldType)) ∈ lw_all := lw_g (lw_at lw_m9 163 rfl) rfl
theorem q2162 : (Jvm.Cond.methodLink "LastHatchModel" (173 : Nat) ({ cls := "LastHatchModel", name := "compared", desc := "()V" } : Jvm.MethodName)) ∈ lw_all := lw_g (lw_at lw_m9 164 rfl) rfl
theorem q2163 : (Jvm.Cond.privateMethod ({ cls := "LastHatchModel", name := "compared", desc := "()V" } : Jvm.MethodName)) ∈ lw_tbl := lw_at lw_m9 165 rfl
theorem q2164 : (Jvm.Cond.instanceMethod ({ cls := "LastHatchModel", name := "compared", desc := "()V" } : Jvm.MethodName)) ∈ lw_all := lw_g (lw_at lw_m9 166 rfl) rfl
theorem q2165 : (Jvm.Cond.code ({ cls := "LastHatchModel", name := "compared", desc := "()V" } : Jvm.MethodName) prog_37_method_36_code (2 : Nat) (Option.none : Option Jvm.ClassFile.FieldType)) ∈ lw_all := lw_g (lw_at lw_m9 167 rfl) rfl
theorem q2166 : (Jvm.Cond.methodLink "LastHatchModel" (176 : Nat) ({ cls := "LastHatchModel", name := "sum", desc := "()V" } : Jvm.MethodName)) ∈ lw_all := lw_g (lw_at lw_m9 168 rfl) rfl
theorem q2167 : (Jvm.Cond.privateMethod ({ cls := "LastHatchModel", name := "sum", desc := "()V" } : Jvm.MethodName)) ∈ lw_tbl := lw_at lw_m9 169 rfl
theorem q2168 : (Jvm.Cond.instanceMethod ({ cls := "LastHatchModel", name := "sum", desc := "()V" } : Jvm.MethodName)) ∈ lw_all := lw_g (lw_at lw_m9 170 rfl) rfl
theorem q2169 : (Jvm.Cond.code ({ cls := "LastHatchModel", name := "sum", desc := "()V" } : Jvm.MethodName) prog_37_method_37_code (2 : Nat) (Option.none : Option Jvm.ClassFile.FieldType)) ∈ lw_all := lw_g (lw_at lw_m9 171 rfl) rfl
theorem q2170 : (Jvm.Cond.methodLink "LastHatchModel" (179 : Nat) ({ cls := "LastHatchModel", name := "product", desc := "()V" } : Jvm.MethodName)) ∈ lw_all := lw_g (lw_at lw_m9 172 rfl) rfl
theorem q2171 : (Jvm.Cond.privateMethod ({ cls := "LastHatchModel", name := "product", desc := "()V" } : Jvm.MethodName)) ∈ lw_tbl := lw_at lw_m9 173 rfl
theorem q2172 : (Jvm.Cond.instanceMethod ({ cls := "LastHatchModel", name := "product", desc := "()V" } : Jvm.MethodName)) ∈ lw_all := lw_g (lw_at lw_m9 174 rfl) rfl
theorem q2173 : (Jvm.Cond.code ({ cls := "LastHatchModel", name := "product", desc := "()V" } : Jvm.MethodName) prog_37_method_38_code (2 : Nat) (Option.none : Option Jvm.ClassFile.FieldType)) ∈ lw_all := lw_g (lw_at lw_m9 175 rfl) rfl
theorem q2174 : (Jvm.Cond.methodLink "LastHatchModel" (182 : Nat) ({ cls := "LastHatchModel", name := "one", desc := "()V" } : Jvm.MethodName)) ∈ lw_all := lw_g (lw_at lw_m9 176 rfl) rfl
theorem q2175 : (Jvm.Cond.privateMethod ({ cls := "LastHatchModel", name := "one", desc := "()V" } : Jvm.MethodName)) ∈ lw_tbl := lw_at lw_m9 177 rfl
theorem q2176 : (Jvm.Cond.instanceMethod ({ cls := "LastHatchModel", name := "one", desc := "()V" } : Jvm.MethodName)) ∈ lw_all := lw_g (lw_at lw_m9 178 rfl) rfl
theorem q2177 : (Jvm.Cond.code ({ cls := "LastHatchModel", name := "one", desc := "()V" } : Jvm.MethodName) prog_37_method_40_code (4 : Nat) (Option.none : Option Jvm.ClassFile.FieldType)) ∈ lw_all := lw_g (lw_at lw_m9 179 rfl) rfl
theorem q2178 : (Jvm.Cond.methodLink "LastHatchModel" (157 : Nat) ({ cls := "LastHatchModel", name := "here", desc := "()I" } : Jvm.MethodName)) ∈ lw_all := lw_g (lw_at lw_m9 180 rfl) rfl
theorem q2179 : (Jvm.Cond.privateMethod ({ cls := "LastHatchModel", name := "here", desc := "()I" } : Jvm.MethodName)) ∈ lw_tbl := lw_at lw_m9 181 rfl
theorem q2180 : (Jvm.Cond.instanceMethod ({ cls := "LastHatchModel", name := "here", desc := "()I" } : Jvm.MethodName)) ∈ lw_all := lw_g (lw_at lw_m9 182 rfl) rfl
theorem q2181 : (Jvm.Cond.code ({ cls := "LastHatchModel", name := "here", desc := "()I" } : Jvm.MethodName) prog_37_method_31_code (1 : Nat) (Option.some Jvm.ClassFile.FieldType.int)) ∈ lw_all := lw_g (lw_at lw_m9 183 rfl) rfl
theorem q2182 : (Jvm.Cond.methodLink "LastHatchModel" (170 : Nat) ({ cls := "LastHatchModel", name := "codes", desc := "(I)V" } : Jvm.MethodName)) ∈ lw_all := lw_g (lw_at lw_m9 184 rfl) rfl
theorem q2183 : (Jvm.Cond.privateMethod ({ cls := "LastHatchModel", name := "codes", desc := "(I)V" } : Jvm.MethodName)) ∈ lw_tbl := lw_at lw_m9 185 rfl
theorem q2184 : (Jvm.Cond.instanceMethod ({ cls := "LastHatchModel", name := "codes", desc := "(I)V" } : Jvm.MethodName)) ∈ lw_all := lw_g (lw_at lw_m9 186 rfl) rfl
theorem q2185 : (Jvm.Cond.code ({ cls := "LastHatchModel", name := "codes", desc := "(I)V" } : Jvm.MethodName) prog_37_method_33_code (2 : Nat) (Option.none : Option Jvm.ClassFile.FieldType)) ∈ lw_all := lw_g (lw_at lw_m9 187 rfl) rfl
theorem q2186 : (Jvm.Cond.methodLink "LastHatchModel" (167 : Nat) ({ cls := "LastHatchModel", name := "takes", desc := "(I)Z" } : Jvm.MethodName)) ∈ lw_all := lw_g (lw_at lw_m9 188 rfl) rfl
theorem q2187 : (Jvm.Cond.privateMethod ({ cls := "LastHatchModel", name := "takes", desc := "(I)Z" } : Jvm.MethodName)) ∈ lw_tbl := lw_at lw_m9 189 rfl
theorem q2188 : (Jvm.Cond.instanceMethod ({ cls := "LastHatchModel", name := "takes", desc := "(I)Z" } : Jvm.MethodName)) ∈ lw_all := lw_g (lw_at lw_m9 190 rfl) rfl
theorem q2189 : (Jvm.Cond.code ({ cls := "LastHatchModel", name := "takes", desc := "(I)Z" } : Jvm.MethodName) prog_37_method_32_code (3 : Nat) (Option.some Jvm.ClassFile.FieldType.boolean)) ∈ lw_all := lw_g (lw_at lw_m9 191 rfl) rfl
theorem q2190 : (Jvm.Cond.methodLink "LastHatchModel" (201 : Nat) ({ cls := "LastHatchModel", name := "nameOf", desc := "(I)I" } : Jvm.MethodName)) ∈ lw_all := lw_g (lw_at lw_m9 192 rfl) rfl
theorem q2191 : (Jvm.Cond.privateMethod ({ cls := "LastHatchModel", name := "nameOf", desc := "(I)I" } : Jvm.MethodName)) ∈ lw_tbl := lw_at lw_m9 193 rfl
theorem q2192 : (Jvm.Cond.instanceMethod ({ cls := "LastHatchModel", name := "nameOf", desc := "(I)I" } : Jvm.MethodName)) ∈ lw_all := lw_g (lw_at lw_m9 194 rfl) rfl
theorem q2193 : (Jvm.Cond.code ({ cls := "LastHatchModel", name := "nameOf", desc := "(I)I" } : Jvm.MethodName) prog_37_method_39_code (4 : Nat) (Option.some Jvm.ClassFile.FieldType.int)) ∈ lw_all := lw_g (lw_at lw_m9 195 rfl) rfl
theorem q2194 : (Jvm.Cond.methodLink "LastHatchModel" (188 : Nat) ({ cls := "java/lang/String", name := "length", desc := "()I" } : Jvm.MethodName)) ∈ lw_all := lw_g (lw_at lw_m9 196 rfl) rfl
theorem q2195 : (Jvm.Cond.methodLink "LastHatchModel" (191 : Nat) ({ cls := "java/lang/String", name := "charAt", desc := "(I)C" } : Jvm.MethodName)) ∈ lw_all := lw_g (lw_at lw_m9 197 rfl) rfl
theorem q2214 : (Jvm.Cond.instanceMethod ({ cls := "LastHatchModel", name := "law", desc := "(IIII)I" } : Jvm.MethodName)) ∈ lw_all := lw_g (lw_at lw_m9 216 rfl) rfl
theorem q2215 : (Jvm.Cond.selects "LastHatchModel" ({ cls := "LastHatchModel", name := "law", desc := "(IIII)I" } : Jvm.MethodName) ({ cls := "LastHatchModel", name := "law", desc := "(IIII)I" } : Jvm.MethodName)) ∈ lw_all := lw_g (lw_at lw_m9 217 rfl) rfl
theorem q2216 : (Jvm.Cond.code ({ cls := "LastHatchModel", name := "law", desc := "(IIII)I" } : Jvm.MethodName) prog_37_method_46_code (5 : Nat) (Option.some Jvm.ClassFile.FieldType.int)) ∈ lw_all := lw_g (lw_at lw_m9 218 rfl) rfl
theorem q2218 : (Jvm.Cond.instanceMethod ({ cls := "LastHatchModel", name := "way", desc := "(IIII)I" } : Jvm.MethodName)) ∈ lw_all := lw_g (lw_at lw_m9 220 rfl) rfl
theorem q2219 : (Jvm.Cond.selects "LastHatchModel" ({ cls := "LastHatchModel", name := "way", desc := "(IIII)I" } : Jvm.MethodName) ({ cls := "LastHatchModel", name := "way", desc := "(IIII)I" } : Jvm.MethodName)) ∈ lw_all := lw_g (lw_at lw_m9 221 rfl) rfl
theorem q2220 : (Jvm.Cond.code ({ cls := "LastHatchModel", name := "way", desc := "(IIII)I" } : Jvm.MethodName) prog_37_method_47_code (7 : Nat) (Option.some Jvm.ClassFile.FieldType.int)) ∈ lw_all := lw_g (lw_at lw_m9 222 rfl) rfl
theorem q2222 : (Jvm.Cond.instanceMethod ({ cls := "LastHatchModel", name := "as", desc := "(II)I" } : Jvm.MethodName)) ∈ lw_all := lw_g (lw_at lw_m9 224 rfl) rfl
theorem q2223 : (Jvm.Cond.selects "LastHatchModel" ({ cls := "LastHatchModel", name := "as", desc := "(II)I" } : Jvm.MethodName) ({ cls := "LastHatchModel", name := "as", desc := "(II)I" } : Jvm.MethodName)) ∈ lw_all := lw_g (lw_at lw_m9 225 rfl) rfl
theorem q2224 : (Jvm.Cond.code ({ cls := "LastHatchModel", name := "as", desc := "(II)I" } : Jvm.MethodName) prog_37_method_50_code (4 : Nat) (Option.some Jvm.ClassFile.FieldType.int)) ∈ lw_all := lw_g (lw_at lw_m9 226 rfl) rfl
theorem q2225 : (Jvm.Cond.methodLink "LastHatchModel" (217 : Nat) ({ cls := "LastHatchModel", name := "way", desc := "(II)I" } : Jvm.MethodName)) ∈ lw_all := lw_g (lw_at lw_m9 227 rfl) rfl
theorem q2226 : (Jvm.Cond.privateMethod ({ cls := "LastHatchModel", name := "way", desc := "(II)I" } : Jvm.MethodName)) ∈ lw_tbl := lw_at lw_m9 228 rfl
theorem q2227 : (Jvm.Cond.instanceMethod ({ cls := "LastHatchModel", name := "way", desc := "(II)I" } : Jvm.MethodName)) ∈ lw_all := lw_g (lw_at lw_m9 229 rfl) rfl
theorem q2228 : (Jvm.Cond.code ({ cls := "LastHatchModel", name := "way", desc := "(II)I" } : Jvm.MethodName) prog_37_method_48_code (3 : Nat) (Option.some Jvm.ClassFile.FieldType.int)) ∈ lw_all := lw_g (lw_at lw_m9 230 rfl) rfl
theorem q2229 : (Jvm.Cond.methodLink "LastHatchModel" (220 : Nat) ({ cls := "LastHatchModel", name := "above", desc := "(I)I" } : Jvm.MethodName)) ∈ lw_all := lw_g (lw_at lw_m9 231 rfl) rfl
theorem q2230 : (Jvm.Cond.static ({ cls := "LastHatchModel", name := "above", desc := "(I)I" } : Jvm.MethodName)) ∈ lw_all := lw_g (lw_at lw_m9 232 rfl) rfl
theorem q2231 : (Jvm.Cond.code ({ cls := "LastHatchModel", name := "above", desc := "(I)I" } : Jvm.MethodName) prog_37_method_49_code (1 : Nat) (Option.some Jvm.ClassFile.FieldType.int)) ∈ lw_all := lw_g (lw_at lw_m9 233 rfl) rfl
theorem q2232 : (Jvm.Cond.constant "LastHatchModel" (223 : Nat) (-1000005 : Int32)) ∈ lw_all := lw_g (lw_at lw_m9 234 rfl) rfl
theorem q2234 : (Jvm.Cond.instanceMethod ({ cls := "LastHatchModel", name := "out", desc := "(III)I" } : Jvm.MethodName)) ∈ lw_all := lw_g (lw_at lw_m9 236 rfl) rfl
theorem q2235 : (Jvm.Cond.selects "LastHatchModel" ({ cls := "LastHatchModel", name := "out", desc := "(III)I" } : Jvm.MethodName) ({ cls := "LastHatchModel", name := "out", desc := "(III)I" } : Jvm.MethodName)) ∈ lw_all := lw_g (lw_at lw_m9 237 rfl) rfl
theorem q2236 : (Jvm.Cond.code ({ cls := "LastHatchModel", name := "out", desc := "(III)I" } : Jvm.MethodName) prog_37_method_55_code (4 : Nat) (Option.some Jvm.ClassFile.FieldType.int)) ∈ lw_all := lw_g (lw_at lw_m9 238 rfl) rfl
theorem q2237 : (Jvm.Cond.methodLink "LastHatchModel" (230 : Nat) ({ cls := "LastHatchModel", name := "areOut", desc := "(II)Z" } : Jvm.MethodName)) ∈ lw_all := lw_g (lw_at lw_m9 239 rfl) rfl
theorem q2238 : (Jvm.Cond.static ({ cls := "LastHatchModel", name := "areOut", desc := "(II)Z" } : Jvm.MethodName)) ∈ lw_all := lw_g (lw_at lw_m10 0 rfl) rfl
theorem q2239 : (Jvm.Cond.code ({ cls := "LastHatchModel", name := "areOut", desc := "(II)Z" } : Jvm.MethodName) prog_37_method_54_code (2 : Nat) (Option.some Jvm.ClassFile.FieldType.boolean)) ∈ lw_all := lw_g (lw_at lw_m10 1 rfl) rfl
theorem q2240 : (Jvm.Cond.methodLink "LastHatchModel" (233 : Nat) ({ cls := "LastHatchModel", name := "outOf", desc := "(III)I" } : Jvm.MethodName)) ∈ lw_all := lw_g (lw_at lw_m10 2 rfl) rfl
theorem q2241 : (Jvm.Cond.privateMethod ({ cls := "LastHatchModel", name := "outOf", desc := "(III)I" } : Jvm.MethodName)) ∈ lw_tbl := lw_at lw_m10 3 rfl
theorem q2242 : (Jvm.Cond.instanceMethod ({ cls := "LastHatchModel", name := "outOf", desc := "(III)I" } : Jvm.MethodName)) ∈ lw_all := lw_g (lw_at lw_m10 4 rfl) rfl
theorem q2243 : (Jvm.Cond.code ({ cls := "LastHatchModel", name := "outOf", desc := "(III)I" } : Jvm.MethodName) prog_37_method_53_code (5 : Nat) (Option.some Jvm.ClassFile.FieldType.int)) ∈ lw_all := lw_g (lw_at lw_m10 5 rfl) rfl
theorem q2244 : (Jvm.Cond.methodLink "LastHatchModel" (224 : Nat) ({ cls := "LastHatchModel", name := "locked", desc := "(III)I" } : Jvm.MethodName)) ∈ lw_all := lw_g (lw_at lw_m10 6 rfl) rfl
theorem q2245 : (Jvm.Cond.privateMethod ({ cls := "LastHatchModel", name := "locked", desc := "(III)I" } : Jvm.MethodName)) ∈ lw_tbl := lw_at lw_m10 7 rfl
theorem q2246 : (Jvm.Cond.instanceMethod ({ cls := "LastHatchModel", name := "locked", desc := "(III)I" } : Jvm.MethodName)) ∈ lw_all := lw_g (lw_at lw_m10 8 rfl) rfl
theorem q2247 : (Jvm.Cond.code ({ cls := "LastHatchModel", name := "locked", desc := "(III)I" } : Jvm.MethodName) prog_37_method_52_code (4 : Nat) (Option.some Jvm.ClassFile.FieldType.int)) ∈ lw_all := lw_g (lw_at lw_m10 9 rfl) rfl
theorem q2248 : (Jvm.Cond.methodLink "LastHatchModel" (227 : Nat) ({ cls := "LastHatchModel", name := "tides", desc := "(II)I" } : Jvm.MethodName)) ∈ lw_all := lw_g (lw_at lw_m10 10 rfl) rfl
theorem q2249 : (Jvm.Cond.privateMethod ({ cls := "LastHatchModel", name := "tides", desc := "(II)I" } : Jvm.MethodName)) ∈ lw_tbl := lw_at lw_m10 11 rfl
theorem q2250 : (Jvm.Cond.instanceMethod ({ cls := "LastHatchModel", name := "tides", desc := "(II)I" } : Jvm.MethodName)) ∈ lw_all := lw_g (lw_at lw_m10 12 rfl) rfl
theorem q2251 : (Jvm.Cond.code ({ cls := "LastHatchModel", name := "tides", desc := "(II)I" } : Jvm.MethodName) prog_37_method_51_code (5 : Nat) (Option.some Jvm.ClassFile.FieldType.int)) ∈ lw_all := lw_g (lw_at lw_m10 13 rfl) rfl
theorem q2253 : (Jvm.Cond.instanceMethod ({ cls := "LastHatchModel", name := "best", desc := "(II)I" } : Jvm.MethodName)) ∈ lw_all := lw_g (lw_at lw_m10 15 rfl) rfl
theorem q2254 : (Jvm.Cond.selects "LastHatchModel" ({ cls := "LastHatchModel", name := "best", desc := "(II)I" } : Jvm.MethodName) ({ cls := "LastHatchModel", name := "best", desc := "(II)I" } : Jvm.MethodName)) ∈ lw_all := lw_g (lw_at lw_m10 16 rfl) rfl
theorem q2255 : (Jvm.Cond.code ({ cls := "LastHatchModel", name := "best", desc := "(II)I" } : Jvm.MethodName) prog_37_method_56_code (7 : Nat) (Option.some Jvm.ClassFile.FieldType.int)) ∈ lw_all := lw_g (lw_at lw_m10 17 rfl) rfl
theorem q2257 : (Jvm.Cond.instanceMethod ({ cls := "LastHatchModel", name := "most", desc := "(III)I" } : Jvm.MethodName)) ∈ lw_all := lw_g (lw_at lw_m10 19 rfl) rfl
theorem q2258 : (Jvm.Cond.selects "LastHatchModel" ({ cls := "LastHatchModel", name := "most", desc := "(III)I" } : Jvm.MethodName) ({ cls := "LastHatchModel", name := "most", desc := "(III)I" } : Jvm.MethodName)) ∈ lw_all := lw_g (lw_at lw_m10 20 rfl) rfl
theorem q2259 : (Jvm.Cond.code ({ cls := "LastHatchModel", name := "most", desc := "(III)I" } : Jvm.MethodName) prog_37_method_63_code (5 : Nat) (Option.some Jvm.ClassFile.FieldType.int)) ∈ lw_all := lw_g (lw_at lw_m10 21 rfl) rfl
theorem q2260 : (Jvm.Cond.methodLink "LastHatchModel" (250 : Nat) ({ cls := "LastHatchModel", name := "isHatch", desc := "(II)Z" } : Jvm.MethodName)) ∈ lw_all := lw_g (lw_at lw_m10 22 rfl) rfl
theorem q2261 : (Jvm.Cond.static ({ cls := "LastHatchModel", name := "isHatch", desc := "(II)Z" } : Jvm.MethodName)) ∈ lw_all := lw_g (lw_at lw_m10 23 rfl) rfl
theorem q2262 : (Jvm.Cond.code ({ cls := "LastHatchModel", name := "isHatch", desc := "(II)Z" } : Jvm.MethodName) prog_37_method_62_code (2 : Nat) (Option.some Jvm.ClassFile.FieldType.boolean)) ∈ lw_all := lw_g (lw_at lw_m10 24 rfl) rfl
theorem q2263 : (Jvm.Cond.methodLink "LastHatchModel" (253 : Nat) ({ cls := "LastHatchModel", name := "findTurns", desc := "(II)V" } : Jvm.MethodName)) ∈ lw_all := lw_g (lw_at lw_m10 25 rfl) rfl
theorem q2264 : (Jvm.Cond.privateMethod ({ cls := "LastHatchModel", name := "findTurns", desc := "(II)V" } : Jvm.MethodName)) ∈ lw_tbl := lw_at lw_m10 26 rfl
theorem q2265 : (Jvm.Cond.instanceMethod ({ cls := "LastHatchModel", name := "findTurns", desc := "(II)V" } : Jvm.MethodName)) ∈ lw_all := lw_g (lw_at lw_m10 27 rfl) rfl
theorem q2266 : (Jvm.Cond.code ({ cls := "LastHatchModel", name := "findTurns", desc := "(II)V" } : Jvm.MethodName) prog_37_method_59_code (7 : Nat) (Option.none : Option Jvm.ClassFile.FieldType)) ∈ lw_all := lw_g (lw_at lw_m10 28 rfl) rfl
theorem q2267 : (Jvm.Cond.methodLink "LastHatchModel" (239 : Nat) ({ cls := "LastHatchModel", name := "findWho", desc := "(I)V" } : Jvm.MethodName)) ∈ lw_all := lw_g (lw_at lw_m10 29 rfl) rfl
theorem q2268 : (Jvm.Cond.privateMethod ({ cls := "LastHatchModel", name := "findWho", desc := "(I)V" } : Jvm.MethodName)) ∈ lw_tbl := lw_at lw_m10 30 rfl
theorem q2269 : (Jvm.Cond.instanceMethod ({ cls := "LastHatchModel", name := "findWho", desc := "(I)V" } : Jvm.MethodName)) ∈ lw_all := lw_g (lw_at lw_m10 31 rfl) rfl
theorem q2270 : (Jvm.Cond.code ({ cls := "LastHatchModel", name := "findWho", desc := "(I)V" } : Jvm.MethodName) prog_37_method_57_code (3 : Nat) (Option.none : Option Jvm.ClassFile.FieldType)) ∈ lw_all := lw_g (lw_at lw_m10 32 rfl) rfl
theorem q2271 : (Jvm.Cond.constant "LastHatchModel" (242 : Nat) (1000000 : Int32)) ∈ lw_all := lw_g (lw_at lw_m10 33 rfl) rfl
theorem q2272 : (Jvm.Cond.methodLink "LastHatchModel" (243 : Nat) ({ cls := "LastHatchModel", name := "has", desc := "(II)Z" } : Jvm.MethodName)) ∈ lw_all := lw_g (lw_at lw_m10 34 rfl) rfl
theorem q2273 : (Jvm.Cond.static ({ cls := "LastHatchModel", name := "has", desc := "(II)Z" } : Jvm.MethodName)) ∈ lw_all := lw_g (lw_at lw_m10 35 rfl) rfl
theorem q2274 : (Jvm.Cond.code ({ cls := "LastHatchModel", name := "has", desc := "(II)Z" } : Jvm.MethodName) prog_37_method_6_code (2 : Nat) (Option.some Jvm.ClassFile.FieldType.boolean)) ∈ lw_all := lw_g (lw_at lw_m10 36 rfl) rfl
theorem q2275 : (Jvm.Cond.methodLink "LastHatchModel" (246 : Nat) ({ cls := "LastHatchModel", name := "canGo", desc := "(IIII)Z" } : Jvm.MethodName)) ∈ lw_all := lw_g (lw_at lw_m10 37 rfl) rfl
theorem q2276 : (Jvm.Cond.privateMethod ({ cls := "LastHatchModel", name := "canGo", desc := "(IIII)Z" } : Jvm.MethodName)) ∈ lw_tbl := lw_at lw_m10 38 rfl
theorem q2277 : (Jvm.Cond.instanceMethod ({ cls := "LastHatchModel", name := "canGo", desc := "(IIII)Z" } : Jvm.MethodName)) ∈ lw_all := lw_g (lw_at lw_m10 39 rfl) rfl
theorem q2278 : (Jvm.Cond.code ({ cls := "LastHatchModel", name := "canGo", desc := "(IIII)Z" } : Jvm.MethodName) prog_37_method_58_code (6 : Nat) (Option.some Jvm.ClassFile.FieldType.boolean)) ∈ lw_all := lw_g (lw_at lw_m10 40 rfl) rfl
theorem q2279 : (Jvm.Cond.methodLink "LastHatchModel" (256 : Nat) ({ cls := "LastHatchModel", name := "mostOf", desc := "()I" } : Jvm.MethodName)) ∈ lw_all := lw_g (lw_at lw_m10 41 rfl) rfl
theorem q2280 : (Jvm.Cond.privateMethod ({ cls := "LastHatchModel", name := "mostOf", desc := "()I" } : Jvm.MethodName)) ∈ lw_tbl := lw_at lw_m10 42 rfl
theorem q2281 : (Jvm.Cond.instanceMethod ({ cls := "LastHatchModel", name := "mostOf", desc := "()I" } : Jvm.MethodName)) ∈ lw_all := lw_g (lw_at lw_m10 43 rfl) rfl
theorem q2282 : (Jvm.Cond.code ({ cls := "LastHatchModel", name := "mostOf", desc := "()I" } : Jvm.MethodName) prog_37_method_60_code (4 : Nat) (Option.some Jvm.ClassFile.FieldType.int)) ∈ lw_all := lw_g (lw_at lw_m10 44 rfl) rfl
theorem q2283 : (Jvm.Cond.methodLink "LastHatchModel" (259 : Nat) ({ cls := "LastHatchModel", name := "asMen", desc := "(I)I" } : Jvm.MethodName)) ∈ lw_all := lw_g (lw_at lw_m10 45 rfl) rfl
theorem q2284 : (Jvm.Cond.privateMethod ({ cls := "LastHatchModel", name := "asMen", desc := "(I)I" } : Jvm.MethodName)) ∈ lw_tbl := lw_at lw_m10 46 rfl
theorem q2285 : (Jvm.Cond.instanceMethod ({ cls := "LastHatchModel", name := "asMen", desc := "(I)I" } : Jvm.MethodName)) ∈ lw_all := lw_g (lw_at lw_m10 47 rfl) rfl
theorem q2286 : (Jvm.Cond.code ({ cls := "LastHatchModel", name := "asMen", desc := "(I)I" } : Jvm.MethodName) prog_37_method_61_code (4 : Nat) (Option.some Jvm.ClassFile.FieldType.int)) ∈ lw_all := lw_g (lw_at lw_m10 48 rfl) rfl
theorem q2288 : (Jvm.Cond.instanceMethod ({ cls := "LastHatchModel", name := "row", desc := "(III)I" } : Jvm.MethodName)) ∈ lw_all := lw_g (lw_at lw_m10 50 rfl) rfl
theorem q2289 : (Jvm.Cond.selects "LastHatchModel" ({ cls := "LastHatchModel", name := "row", desc := "(III)I" } : Jvm.MethodName) ({ cls := "LastHatchModel", name := "row", desc := "(III)I" } : Jvm.MethodName)) ∈ lw_all := lw_g (lw_at lw_m10 51 rfl) rfl
theorem q2290 : (Jvm.Cond.code ({ cls := "LastHatchModel", name := "row", desc := "(III)I" } : Jvm.MethodName) prog_37_method_65_code (6 : Nat) (Option.some Jvm.ClassFile.FieldType.int)) ∈ lw_all := lw_g (lw_at lw_m10 52 rfl) rfl
theorem q2291 : (Jvm.Cond.methodLink "LastHatchModel" (262 : Nat) ({ cls := "LastHatchModel", name := "lastOf", desc := "(II)I" } : Jvm.MethodName)) ∈ lw_all := lw_g (lw_at lw_m10 53 rfl) rfl
theorem q2292 : (Jvm.Cond.privateMethod ({ cls := "LastHatchModel", name := "lastOf", desc := "(II)I" } : Jvm.MethodName)) ∈ lw_tbl := lw_at lw_m10 54 rfl
theorem q2293 : (Jvm.Cond.instanceMethod ({ cls := "LastHatchModel", name := "lastOf", desc := "(II)I" } : Jvm.MethodName)) ∈ lw_all := lw_g (lw_at lw_m10 55 rfl) rfl
theorem q2294 : (Jvm.Cond.code ({ cls := "LastHatchModel", name := "lastOf", desc := "(II)I" } : Jvm.MethodName) prog_37_method_64_code (8 : Nat) (Option.some Jvm.ClassFile.FieldType.int)) ∈ lw_all := lw_g (lw_at lw_m10 56 rfl) rfl
theorem q2296 : (Jvm.Cond.instanceMethod ({ cls := "LastHatchModel", name := "goes", desc := "(II)I" } : Jvm.MethodName)) ∈ lw_all := lw_g (lw_at lw_m10 58 rfl) rfl
theorem q2297 : (Jvm.Cond.selects "LastHatchModel" ({ cls := "LastHatchModel", name := "goes", desc := "(II)I" } : Jvm.MethodName) ({ cls := "LastHatchModel", name := "goes", desc := "(II)I" } : Jvm.MethodName)) ∈ lw_all := lw_g (lw_at lw_m10 59 rfl) rfl
theorem q2298 : (Jvm.Cond.code ({ cls := "LastHatchModel", name := "goes", desc := "(II)I" } : Jvm.MethodName) prog_37_method_66_code (11 : Nat) (Option.some Jvm.ClassFile.FieldType.int)) ∈ lw_all := lw_g (lw_at lw_m10 60 rfl) rfl
theorem q2300 : (Jvm.Cond.instanceMethod ({ cls := "LastHatchModel", name := "odds", desc := "(IIII)J" } : Jvm.MethodName)) ∈ lw_all := lw_g (lw_at lw_m10 62 rfl) rfl
theorem q2301 : (Jvm.Cond.selects "LastHatchModel" ({ cls := "LastHatchModel", name := "odds", desc := "(IIII)J" } : Jvm.MethodName) ({ cls := "LastHatchModel", name := "odds", desc := "(IIII)J" } : Jvm.MethodName)) ∈ lw_all := lw_g (lw_at lw_m10 63 rfl) rfl
theorem q2302 : (Jvm.Cond.code ({ cls := "LastHatchModel", name := "odds", desc := "(IIII)J" } : Jvm.MethodName) prog_37_method_69_code (15 : Nat) (Option.some Jvm.ClassFile.FieldType.long)) ∈ lw_all := lw_g (lw_at lw_m10 64 rfl) rfl
theorem q2303 : (Jvm.Cond.methodLink "LastHatchModel" (269 : Nat) ({ cls := "LastHatchModel", name := "isPart", desc := "(I)Z" } : Jvm.MethodName)) ∈ lw_all := lw_g (lw_at lw_m10 65 rfl) rfl
theorem q2304 : (Jvm.Cond.static ({ cls := "LastHatchModel", name := "isPart", desc := "(I)Z" } : Jvm.MethodName)) ∈ lw_all := lw_g (lw_at lw_m10 66 rfl) rfl
theorem q2305 : (Jvm.Cond.code ({ cls := "LastHatchModel", name := "isPart", desc := "(I)Z" } : Jvm.MethodName) prog_37_method_68_code (1 : Nat) (Option.some Jvm.ClassFile.FieldType.boolean)) ∈ lw_all := lw_g (lw_at lw_m10 67 rfl) rfl
theorem q2306 : (Jvm.Cond.methodLink "LastHatchModel" (265 : Nat) ({ cls := "LastHatchModel", name := "divisor", desc := "(JJ)J" } : Jvm.MethodName)) ∈ lw_all := lw_g (lw_at lw_m10 68 rfl) rfl
theorem q2307 : (Jvm.Cond.static ({ cls := "LastHatchModel", name := "divisor", desc := "(JJ)J" } : Jvm.MethodName)) ∈ lw_all := lw_g (lw_at lw_m10 69 rfl) rfl
theorem q2308 : (Jvm.Cond.code ({ cls := "LastHatchModel", name := "divisor", desc := "(JJ)J" } : Jvm.MethodName) prog_37_method_67_code (4 : Nat) (Option.some Jvm.ClassFile.FieldType.long)) ∈ lw_all := lw_g (lw_at lw_m10 70 rfl) rfl
theorem q2310 : (Jvm.Cond.instanceMethod ({ cls := "LastHatchModel", name := "beside", desc := "(III)I" } : Jvm.MethodName)) ∈ lw_all := lw_g (lw_at lw_m10 72 rfl) rfl
theorem q2311 : (Jvm.Cond.selects "LastHatchModel" ({ cls := "LastHatchModel", name := "beside", desc := "(III)I" } : Jvm.MethodName) ({ cls := "LastHatchModel", name := "beside", desc := "(III)I" } : Jvm.MethodName)) ∈ lw_all := lw_g (lw_at lw_m10 73 rfl) rfl
theorem q2312 : (Jvm.Cond.code ({ cls := "LastHatchModel", name := "beside", desc := "(III)I" } : Jvm.MethodName) prog_37_method_70_code (6 : Nat) (Option.some Jvm.ClassFile.FieldType.int)) ∈ lw_all := lw_g (lw_at lw_m10 74 rfl) rfl
theorem q2314 : (Jvm.Cond.instanceMethod ({ cls := "LastHatchModel", name := "stop", desc := "(III)I" } : Jvm.MethodName)) ∈ lw_all := lw_g (lw_at lw_m10 76 rfl) rfl
theorem q2315 : (Jvm.Cond.selects "LastHatchModel" ({ cls := "LastHatchModel", name := "stop", desc := "(III)I" } : Jvm.MethodName) ({ cls := "LastHatchModel", name := "stop", desc := "(III)I" } : Jvm.MethodName)) ∈ lw_all := lw_g (lw_at lw_m10 77 rfl) rfl
theorem q2316 : (Jvm.Cond.code ({ cls := "LastHatchModel", name := "stop", desc := "(III)I" } : Jvm.MethodName) prog_37_method_71_code (5 : Nat) (Option.some Jvm.ClassFile.FieldType.int)) ∈ lw_all := lw_g (lw_at lw_m10 78 rfl) rfl
theorem q2318 : (Jvm.Cond.instanceMethod ({ cls := "LastHatchModel", name := "tank", desc := "(II)I" } : Jvm.MethodName)) ∈ lw_all := lw_g (lw_at lw_m10 80 rfl) rfl
theorem q2319 : (Jvm.Cond.selects "LastHatchModel" ({ cls := "LastHatchModel", name := "tank", desc := "(II)I" } : Jvm.MethodName) ({ cls := "LastHatchModel", name := "tank", desc := "(II)I" } : Jvm.MethodName)) ∈ lw_all := lw_g (lw_at lw_m10 81 rfl) rfl
theorem q2320 : (Jvm.Cond.code ({ cls := "LastHatchModel", name := "tank", desc := "(II)I" } : Jvm.MethodName) prog_37_method_72_code (4 : Nat) (Option.some Jvm.ClassFile.FieldType.int)) ∈ lw_all := lw_g (lw_at lw_m10 82 rfl) rfl
theorem q2322 : (Jvm.Cond.instanceMethod ({ cls := "LastHatchModel", name := "blow", desc := "(II)I" } : Jvm.MethodName)) ∈ lw_all := lw_g (lw_at lw_m10 84 rfl) rfl
theorem q2323 : (Jvm.Cond.selects "LastHatchModel" ({ cls := "LastHatchModel", name := "blow", desc := "(II)I" } : Jvm.MethodName) ({ cls := "LastHatchModel", name := "blow", desc := "(II)I" } : Jvm.MethodName)) ∈ lw_all := lw_g (lw_at lw_m10 85 rfl) rfl
theorem q2324 : (Jvm.Cond.code ({ cls := "LastHatchModel", name := "blow", desc := "(II)I" } : Jvm.MethodName) prog_37_method_73_code (3 : Nat) (Option.some Jvm.ClassFile.FieldType.int)) ∈ lw_all := lw_g (lw_at lw_m10 86 rfl) rfl
theorem q2326 : (Jvm.Cond.instanceMethod ({ cls := "LastHatchModel", name := "lift", desc := "(II)I" } : Jvm.MethodName)) ∈ lw_all := lw_g (lw_at lw_m10 88 rfl) rfl
theorem q2327 : (Jvm.Cond.selects "LastHatchModel" ({ cls := "LastHatchModel", name := "lift", desc := "(II)I" } : Jvm.MethodName) ({ cls := "LastHatchModel", name := "lift", desc := "(II)I" } : Jvm.MethodName)) ∈ lw_all := lw_g (lw_at lw_m10 89 rfl) rfl
theorem q2328 : (Jvm.Cond.code ({ cls := "LastHatchModel", name := "lift", desc := "(II)I" } : Jvm.MethodName) prog_37_method_76_code (3 : Nat) (Option.some Jvm.ClassFile.FieldType.int)) ∈ lw_all := lw_g (lw_at lw_m10 90 rfl) rfl
theorem q2329 : (Jvm.Cond.methodLink "LastHatchModel" (272 : Nat) ({ cls := "LastHatchModel", name := "blown", desc := "()I" } : Jvm.MethodName)) ∈ lw_all := lw_g (lw_at lw_m10 91 rfl) rfl
theorem q2330 : (Jvm.Cond.privateMethod ({ cls := "LastHatchModel", name := "blown", desc := "()I" } : Jvm.MethodName)) ∈ lw_tbl := lw_at lw_m10 92 rfl
theorem q2331 : (Jvm.Cond.instanceMethod ({ cls := "LastHatchModel", name := "blown", desc := "()I" } : Jvm.MethodName)) ∈ lw_all := lw_g (lw_at lw_m10 93 rfl) rfl
theorem q2332 : (Jvm.Cond.code ({ cls := "LastHatchModel", name := "blown", desc := "()I" } : Jvm.MethodName) prog_37_method_74_code (3 : Nat) (Option.some Jvm.ClassFile.FieldType.int)) ∈ lw_all := lw_g (lw_at lw_m10 94 rfl) rfl
theorem q2333 : (Jvm.Cond.methodLink "LastHatchModel" (275 : Nat) ({ cls := "LastHatchModel", name := "liftOf", desc := "(II)I" } : Jvm.MethodName)) ∈ lw_all := lw_g (lw_at lw_m10 95 rfl) rfl
theorem q2334 : (Jvm.Cond.privateMethod ({ cls := "LastHatchModel", name := "liftOf", desc := "(II)I" } : Jvm.MethodName)) ∈ lw_tbl := lw_at lw_m10 96 rfl
theorem q2335 : (Jvm.Cond.instanceMethod ({ cls := "LastHatchModel", name := "liftOf", desc := "(II)I" } : Jvm.MethodName)) ∈ lw_all := lw_g (lw_at lw_m10 97 rfl) rfl
theorem q2336 : (Jvm.Cond.code ({ cls := "LastHatchModel", name := "liftOf", desc := "(II)I" } : Jvm.MethodName) prog_37_method_75_code (6 : Nat) (Option.some Jvm.ClassFile.FieldType.int)) ∈ lw_all := lw_g (lw_at lw_m10 98 rfl) rfl
theorem q2338 : (Jvm.Cond.instanceMethod ({ cls := "LastHatchModel", name := "raise", desc := "(III)I" } : Jvm.MethodName)) ∈ lw_all := lw_g (lw_at lw_m10 100 rfl) rfl
theorem q2339 : (Jvm.Cond.selects "LastHatchModel" ({ cls := "LastHatchModel", name := "raise", desc := "(III)I" } : Jvm.MethodName) ({ cls := "LastHatchModel", name := "raise", desc := "(III)I" } : Jvm.MethodName)) ∈ lw_all := lw_g (lw_at lw_m10 101 rfl) rfl
theorem q2340 : (Jvm.Cond.code ({ cls := "LastHatchModel", name := "raise", desc := "(III)I" } : Jvm.MethodName) prog_37_method_78_code (7 : Nat) (Option.some Jvm.ClassFile.FieldType.int)) ∈ lw_all := lw_g (lw_at lw_m10 102 rfl) rfl
theorem q2341 : (Jvm.Cond.methodLink "LastHatchModel" (281 : Nat) ({ cls := "LastHatchModel", name := "findMore", desc := "(II)V" } : Jvm.MethodName)) ∈ lw_all := lw_g (lw_at lw_m10 103 rfl) rfl
theorem q2342 : (Jvm.Cond.privateMethod ({ cls := "LastHatchModel", name := "findMore", desc := "(II)V" } : Jvm.MethodName)) ∈ lw_tbl := lw_at lw_m10 104 rfl
theorem q2343 : (Jvm.Cond.instanceMethod ({ cls := "LastHatchModel", name := "findMore", desc := "(II)V" } : Jvm.MethodName)) ∈ lw_all := lw_g (lw_at lw_m10 105 rfl) rfl
theorem q2344 : (Jvm.Cond.code ({ cls := "LastHatchModel", name := "findMore", desc := "(II)V" } : Jvm.MethodName) prog_37_method_77_code (7 : Nat) (Option.none : Option Jvm.ClassFile.FieldType)) ∈ lw_all := lw_g (lw_at lw_m10 106 rfl) rfl
theorem q2345 : (Jvm.Cond.methodLink "LastHatchModel" (278 : Nat) ({ cls := "java/lang/Math", name := "abs", desc := "(I)I" } : Jvm.MethodName)) ∈ lw_all := lw_g (lw_at lw_m10 107 rfl) rfl
theorem q2349 : (Jvm.Cond.instanceMethod ({ cls := "LastHatchModel", name := "tide", desc := "(II)I" } : Jvm.MethodName)) ∈ lw_all := lw_g (lw_at lw_m10 111 rfl) rfl
theorem q2350 : (Jvm.Cond.selects "LastHatchModel" ({ cls := "LastHatchModel", name := "tide", desc := "(II)I" } : Jvm.MethodName) ({ cls := "LastHatchModel", name := "tide", desc := "(II)I" } : Jvm.MethodName)) ∈ lw_all := lw_g (lw_at lw_m10 112 rfl) rfl
theorem q2351 : (Jvm.Cond.code ({ cls := "LastHatchModel", name := "tide", desc := "(II)I" } : Jvm.MethodName) prog_37_method_79_code (3 : Nat) (Option.some Jvm.ClassFile.FieldType.int)) ∈ lw_all := lw_g (lw_at lw_m10 113 rfl) rfl
theorem q2353 : (Jvm.Cond.instanceMethod ({ cls := "LastHatchModel", name := "say", desc := "(I)I" } : Jvm.MethodName)) ∈ lw_all := lw_g (lw_at lw_m10 115 rfl) rfl
theorem q2354 : (Jvm.Cond.selects "LastHatchModel" ({ cls := "LastHatchModel", name := "say", desc := "(I)I" } : Jvm.MethodName) ({ cls := "LastHatchModel", name := "say", desc := "(I)I" } : Jvm.MethodName)) ∈ lw_all := lw_g (lw_at lw_m10 116 rfl) rfl
theorem q2355 : (Jvm.Cond.code ({ cls := "LastHatchModel", name := "say", desc := "(I)I" } : Jvm.MethodName) prog_37_method_80_code (8 : Nat) (Option.some Jvm.ClassFile.FieldType.int)) ∈ lw_all := lw_g (lw_at lw_m10 117 rfl) rfl
theorem q2356 : (Jvm.Cond.methodLink "LastHatchModel" (284 : Nat) ({ cls := "LastHatchModel", name := "isSheet", desc := "(I)Z" } : Jvm.MethodName)) ∈ lw_all := lw_g (lw_at lw_m10 118 rfl) rfl
theorem q2357 : (Jvm.Cond.static ({ cls := "LastHatchModel", name := "isSheet", desc := "(I)Z" } : Jvm.MethodName)) ∈ lw_all := lw_g (lw_at lw_m10 119 rfl) rfl
theorem q2358 : (Jvm.Cond.code ({ cls := "LastHatchModel", name := "isSheet", desc := "(I)Z" } : Jvm.MethodName) prog_37_method_104_code (1 : Nat) (Option.some Jvm.ClassFile.FieldType.boolean)) ∈ lw_all := lw_g (lw_at lw_m10 120 rfl) rfl
theorem q2360 : (Jvm.Cond.instanceMethod ({ cls := "LastHatchModel", name := "read", desc := "(II)I" } : Jvm.MethodName)) ∈ lw_all := lw_g (lw_at lw_m10 122 rfl) rfl
theorem q2361 : (Jvm.Cond.selects "LastHatchModel" ({ cls := "LastHatchModel", name := "read", desc := "(II)I" } : Jvm.MethodName) ({ cls := "LastHatchModel", name := "read", desc := "(II)I" } : Jvm.MethodName)) ∈ lw_all := lw_g (lw_at lw_m10 123 rfl) rfl
theorem q2362 : (Jvm.Cond.code ({ cls := "LastHatchModel", name := "read", desc := "(II)I" } : Jvm.MethodName) prog_37_method_82_code (4 : Nat) (Option.some Jvm.ClassFile.FieldType.int)) ∈ lw_all := lw_g (lw_at lw_m10 124 rfl) rfl
theorem q2363 : (Jvm.Cond.methodLink "LastHatchModel" (293 : Nat) ({ cls := "LastHatchModel", name := "findLetters", desc := "(I)V" } : Jvm.MethodName)) ∈ lw_all := lw_g (lw_at lw_m10 125 rfl) rfl
theorem q2364 : (Jvm.Cond.privateMethod ({ cls := "LastHatchModel", name := "findLetters", desc := "(I)V" } : Jvm.MethodName)) ∈ lw_tbl := lw_at lw_m10 126 rfl
theorem q2365 : (Jvm.Cond.instanceMethod ({ cls := "LastHatchModel", name := "findLetters", desc := "(I)V" } : Jvm.MethodName)) ∈ lw_all := lw_g (lw_at lw_m10 127 rfl) rfl
theorem q2366 : (Jvm.Cond.code ({ cls := "LastHatchModel", name := "findLetters", desc := "(I)V" } : Jvm.MethodName) prog_37_method_81_code (6 : Nat) (Option.none : Option Jvm.ClassFile.FieldType)) ∈ lw_all := lw_g (lw_at lw_m10 128 rfl) rfl
theorem q2368 : (Jvm.Cond.instanceMethod ({ cls := "LastHatchModel", name := "plan", desc := "(IIII)I" } : Jvm.MethodName)) ∈ lw_all := lw_g (lw_at lw_m10 130 rfl) rfl
theorem q2369 : (Jvm.Cond.selects "LastHatchModel" ({ cls := "LastHatchModel", name := "plan", desc := "(IIII)I" } : Jvm.MethodName) ({ cls := "LastHatchModel", name := "plan", desc := "(IIII)I" } : Jvm.MethodName)) ∈ lw_all := lw_g (lw_at lw_m10 131 rfl) rfl
theorem q2370 : (Jvm.Cond.code ({ cls := "LastHatchModel", name := "plan", desc := "(IIII)I" } : Jvm.MethodName) prog_37_method_83_code (7 : Nat) (Option.some Jvm.ClassFile.FieldType.int)) ∈ lw_all := lw_g (lw_at lw_m10 132 rfl) rfl
theorem q2372 : (Jvm.Cond.instanceMethod ({ cls := "LastHatchModel", name := "cross", desc := "(I)I" } : Jvm.MethodName)) ∈ lw_all := lw_g (lw_at lw_m10 134 rfl) rfl
theorem q2373 : (Jvm.Cond.selects "LastHatchModel" ({ cls := "LastHatchModel", name := "cross", desc := "(I)I" } : Jvm.MethodName) ({ cls := "LastHatchModel", name := "cross", desc := "(I)I" } : Jvm.MethodName)) ∈ lw_all := lw_g (lw_at lw_m10 135 rfl) rfl
theorem q2374 : (Jvm.Cond.code ({ cls := "LastHatchModel", name := "cross", desc := "(I)I" } : Jvm.MethodName) prog_37_method_84_code (8 : Nat) (Option.some Jvm.ClassFile.FieldType.int)) ∈ lw_all := lw_g (lw_at lw_m10 136 rfl) rfl
theorem q2376 : (Jvm.Cond.instanceMethod ({ cls := "LastHatchModel", name := "hour", desc := "(II)I" } : Jvm.MethodName)) ∈ lw_all := lw_g (lw_at lw_m10 138 rfl) rfl
theorem q2377 : (Jvm.Cond.selects "LastHatchModel" ({ cls := "LastHatchModel", name := "hour", desc := "(II)I" } : Jvm.MethodName) ({ cls := "LastHatchModel", name := "hour", desc := "(II)I" } : Jvm.MethodName)) ∈ lw_all := lw_g (lw_at lw_m10 139 rfl) rfl
theorem q2378 : (Jvm.Cond.code ({ cls := "LastHatchModel", name := "hour", desc := "(II)I" } : Jvm.MethodName) prog_37_method_85_code (3 : Nat) (Option.some Jvm.ClassFile.FieldType.int)) ∈ lw_all := lw_g (lw_at lw_m10 140 rfl) rfl
theorem q2380 : (Jvm.Cond.instanceMethod ({ cls := "LastHatchModel", name := "table", desc := "(III)J" } : Jvm.MethodName)) ∈ lw_all := lw_g (lw_at lw_m10 142 rfl) rfl
theorem q2381 : (Jvm.Cond.selects "LastHatchModel" ({ cls := "LastHatchModel", name := "table", desc := "(III)J" } : Jvm.MethodName) ({ cls := "LastHatchModel", name := "table", desc := "(III)J" } : Jvm.MethodName)) ∈ lw_all := lw_g (lw_at lw_m10 143 rfl) rfl
theorem q2382 : (Jvm.Cond.code ({ cls := "LastHatchModel", name := "table", desc := "(III)J" } : Jvm.MethodName) prog_37_method_87_code (4 : Nat) (Option.some Jvm.ClassFile.FieldType.long)) ∈ lw_all := lw_g (lw_at lw_m10 144 rfl) rfl
theorem q2383 : (Jvm.Cond.methodLink "LastHatchModel" (298 : Nat) ({ cls := "LastHatchModel", name := "findTables", desc := "(II)V" } : Jvm.MethodName)) ∈ lw_all := lw_g (lw_at lw_m10 145 rfl) rfl
theorem q2384 : (Jvm.Cond.privateMethod ({ cls := "LastHatchModel", name := "findTables", desc := "(II)V" } : Jvm.MethodName)) ∈ lw_tbl := lw_at lw_m10 146 rfl
theorem q2385 : (Jvm.Cond.instanceMethod ({ cls := "LastHatchModel", name := "findTables", desc := "(II)V" } : Jvm.MethodName)) ∈ lw_all := lw_g (lw_at lw_m10 147 rfl) rfl
theorem q2386 : (Jvm.Cond.code ({ cls := "LastHatchModel", name := "findTables", desc := "(II)V" } : Jvm.MethodName) prog_37_method_86_code (12 : Nat) (Option.none : Option Jvm.ClassFile.FieldType)) ∈ lw_all := lw_g (lw_at lw_m10 148 rfl) rfl
theorem q2387 : (Jvm.Cond.methodLink "LastHatchModel" (296 : Nat) ({ cls := "java/lang/Math", name := "max", desc := "(JJ)J" } : Jvm.MethodName)) ∈ lw_all := lw_g (lw_at lw_m10 149 rfl) rfl
theorem q2389 : (Jvm.Cond.instanceMethod ({ cls := "LastHatchModel", name := "decide", desc := "(III)I" } : Jvm.MethodName)) ∈ lw_all := lw_g (lw_at lw_m10 151 rfl) rfl
theorem q2390 : (Jvm.Cond.selects "LastHatchModel" ({ cls := "LastHatchModel", name := "decide", desc := "(III)I" } : Jvm.MethodName) ({ cls := "LastHatchModel", name := "decide", desc := "(III)I" } : Jvm.MethodName)) ∈ lw_all := lw_g (lw_at lw_m10 152 rfl) rfl
theorem q2391 : (Jvm.Cond.code ({ cls := "LastHatchModel", name := "decide", desc := "(III)I" } : Jvm.MethodName) prog_37_method_88_code (4 : Nat) (Option.some Jvm.ClassFile.FieldType.int)) ∈ lw_all := lw_g (lw_at lw_m10 153 rfl) rfl
theorem q2393 : (Jvm.Cond.instanceMethod ({ cls := "LastHatchModel", name := "cause", desc := "(II)I" } : Jvm.MethodName)) ∈ lw_all := lw_g (lw_at lw_m10 155 rfl) rfl
theorem q2394 : (Jvm.Cond.selects "LastHatchModel" ({ cls := "LastHatchModel", name := "cause", desc := "(II)I" } : Jvm.MethodName) ({ cls := "LastHatchModel", name := "cause", desc := "(II)I" } : Jvm.MethodName)) ∈ lw_all := lw_g (lw_at lw_m10 156 rfl) rfl
theorem q2395 : (Jvm.Cond.code ({ cls := "LastHatchModel", name := "cause", desc := "(II)I" } : Jvm.MethodName) prog_37_method_89_code (4 : Nat) (Option.some Jvm.ClassFile.FieldType.int)) ∈ lw_all := lw_g (lw_at lw_m10 157 rfl) rfl
theorem q2397 : (Jvm.Cond.instanceMethod ({ cls := "LastHatchModel", name := "found", desc := "(II)I" } : Jvm.MethodName)) ∈ lw_all := lw_g (lw_at lw_m10 159 rfl) rfl
theorem q2398 : (Jvm.Cond.selects "LastHatchModel" ({ cls := "LastHatchModel", name := "found", desc := "(II)I" } : Jvm.MethodName) ({ cls := "LastHatchModel", name := "found", desc := "(II)I" } : Jvm.MethodName)) ∈ lw_all := lw_g (lw_at lw_m10 160 rfl) rfl
theorem q2399 : (Jvm.Cond.code ({ cls := "LastHatchModel", name := "found", desc := "(II)I" } : Jvm.MethodName) prog_37_method_90_code (3 : Nat) (Option.some Jvm.ClassFile.FieldType.int)) ∈ lw_all := lw_g (lw_at lw_m10 161 rfl) rfl
theorem q2401 : (Jvm.Cond.instanceMethod ({ cls := "LastHatchModel", name := "why", desc := "()I" } : Jvm.MethodName)) ∈ lw_all := lw_g (lw_at lw_m10 163 rfl) rfl
theorem q2402 : (Jvm.Cond.selects "LastHatchModel" ({ cls := "LastHatchModel", name := "why", desc := "()I" } : Jvm.MethodName) ({ cls := "LastHatchModel", name := "why", desc := "()I" } : Jvm.MethodName)) ∈ lw_all := lw_g (lw_at lw_m10 164 rfl) rfl
theorem q2403 : (Jvm.Cond.code ({ cls := "LastHatchModel", name := "why", desc := "()I" } : Jvm.MethodName) prog_37_method_92_code (1 : Nat) (Option.some Jvm.ClassFile.FieldType.int)) ∈ lw_all := lw_g (lw_at lw_m10 165 rfl) rfl
theorem q2404 : (Jvm.Cond.methodLink "LastHatchModel" (301 : Nat) ({ cls := "LastHatchModel", name := "mayBe", desc := "()I" } : Jvm.MethodName)) ∈ lw_all := lw_g (lw_at lw_m10 166 rfl) rfl
theorem q2405 : (Jvm.Cond.privateMethod ({ cls := "LastHatchModel", name := "mayBe", desc := "()I" } : Jvm.MethodName)) ∈ lw_tbl := lw_at lw_m10 167 rfl
theorem q2406 : (Jvm.Cond.instanceMethod ({ cls := "LastHatchModel", name := "mayBe", desc := "()I" } : Jvm.MethodName)) ∈ lw_all := lw_g (lw_at lw_m10 168 rfl) rfl
theorem q2407 : (Jvm.Cond.code ({ cls := "LastHatchModel", name := "mayBe", desc := "()I" } : Jvm.MethodName) prog_37_method_91_code (6 : Nat) (Option.some Jvm.ClassFile.FieldType.int)) ∈ lw_all := lw_g (lw_at lw_m10 169 rfl) rfl
theorem q2409 : (Jvm.Cond.instanceMethod ({ cls := "LastHatchModel", name := "look", desc := "()I" } : Jvm.MethodName)) ∈ lw_all := lw_g (lw_at lw_m10 171 rfl) rfl
theorem q2410 : (Jvm.Cond.selects "LastHatchModel" ({ cls := "LastHatchModel", name := "look", desc := "()I" } : Jvm.MethodName) ({ cls := "LastHatchModel", name := "look", desc := "()I" } : Jvm.MethodName)) ∈ lw_all := lw_g (lw_at lw_m10 172 rfl) rfl
theorem q2411 : (Jvm.Cond.code ({ cls := "LastHatchModel", name := "look", desc := "()I" } : Jvm.MethodName) prog_37_method_93_code (5 : Nat) (Option.some Jvm.ClassFile.FieldType.int)) ∈ lw_all := lw_g (lw_at lw_m10 173 rfl) rfl
theorem q2413 : (Jvm.Cond.instanceMethod ({ cls := "LastHatchModel", name := "seed", desc := "(I)I" } : Jvm.MethodName)) ∈ lw_all := lw_g (lw_at lw_m10 175 rfl) rfl
theorem q2414 : (Jvm.Cond.selects "LastHatchModel" ({ cls := "LastHatchModel", name := "seed", desc := "(I)I" } : Jvm.MethodName) ({ cls := "LastHatchModel", name := "seed", desc := "(I)I" } : Jvm.MethodName)) ∈ lw_all := lw_g (lw_at lw_m10 176 rfl) rfl
theorem q2415 : (Jvm.Cond.code ({ cls := "LastHatchModel", name := "seed", desc := "(I)I" } : Jvm.MethodName) prog_37_method_94_code (2 : Nat) (Option.some Jvm.ClassFile.FieldType.int)) ∈ lw_all := lw_g (lw_at lw_m10 177 rfl) rfl
theorem q2417 : (Jvm.Cond.instanceMethod ({ cls := "LastHatchModel", name := "made", desc := "(I)I" } : Jvm.MethodName)) ∈ lw_all := lw_g (lw_at lw_m10 179 rfl) rfl
theorem q2418 : (Jvm.Cond.selects "LastHatchModel" ({ cls := "LastHatchModel", name := "made", desc := "(I)I" } : Jvm.MethodName) ({ cls := "LastHatchModel", name := "made", desc := "(I)I" } : Jvm.MethodName)) ∈ lw_all := lw_g (lw_at lw_m10 180 rfl) rfl
theorem q2419 : (Jvm.Cond.code ({ cls := "LastHatchModel", name := "made", desc := "(I)I" } : Jvm.MethodName) prog_37_method_96_code (5 : Nat) (Option.some Jvm.ClassFile.FieldType.int)) ∈ lw_all := lw_g (lw_at lw_m10 181 rfl) rfl
theorem q2420 : (Jvm.Cond.methodLink "LastHatchModel" (305 : Nat) ({ cls := "LastHatchModel", name := "drawn", desc := "(I)I" } : Jvm.MethodName)) ∈ lw_all := lw_g (lw_at lw_m10 182 rfl) rfl
theorem q2421 : (Jvm.Cond.privateMethod ({ cls := "LastHatchModel", name := "drawn", desc := "(I)I" } : Jvm.MethodName)) ∈ lw_tbl := lw_at lw_m10 183 rfl
theorem q2422 : (Jvm.Cond.instanceMethod ({ cls := "LastHatchModel", name := "drawn", desc := "(I)I" } : Jvm.MethodName)) ∈ lw_all := lw_g (lw_at lw_m10 184 rfl) rfl
theorem q2423 : (Jvm.Cond.code ({ cls := "LastHatchModel", name := "drawn", desc := "(I)I" } : Jvm.MethodName) prog_37_method_95_code (2 : Nat) (Option.some Jvm.ClassFile.FieldType.int)) ∈ lw_all := lw_g (lw_at lw_m10 185 rfl) rfl
theorem q2424 : (Jvm.Cond.constant "LastHatchModel" (304 : Nat) (1103515245 : Int32)) ∈ lw_all := lw_g (lw_at lw_m10 186 rfl) rfl
theorem q2426 : (Jvm.Cond.instanceMethod ({ cls := "LastHatchModel", name := "voice", desc := "(III)I" } : Jvm.MethodName)) ∈ lw_all := lw_g (lw_at lw_m10 188 rfl) rfl
theorem q2427 : (Jvm.Cond.selects "LastHatchModel" ({ cls := "LastHatchModel", name := "voice", desc := "(III)I" } : Jvm.MethodName) ({ cls := "LastHatchModel", name := "voice", desc := "(III)I" } : Jvm.MethodName)) ∈ lw_all := lw_g (lw_at lw_m10 189 rfl) rfl
theorem q2428 : (Jvm.Cond.code ({ cls := "LastHatchModel", name := "voice", desc := "(III)I" } : Jvm.MethodName) prog_37_method_102_code (4 : Nat) (Option.some Jvm.ClassFile.FieldType.int)) ∈ lw_all := lw_g (lw_at lw_m10 190 rfl) rfl
theorem q2429 : (Jvm.Cond.methodLink "LastHatchModel" (326 : Nat) ({ cls := "LastHatchModel", name := "voiced", desc := "(II)I" } : Jvm.MethodName)) ∈ lw_all := lw_g (lw_at lw_m10 191 rfl) rfl
theorem q2430 : (Jvm.Cond.privateMethod ({ cls := "LastHatchModel", name := "voiced", desc := "(II)I" } : Jvm.MethodName)) ∈ lw_tbl := lw_at lw_m10 192 rfl
theorem q2431 : (Jvm.Cond.instanceMethod ({ cls := "LastHatchModel", name := "voiced", desc := "(II)I" } : Jvm.MethodName)) ∈ lw_all := lw_g (lw_at lw_m10 193 rfl) rfl
theorem q2432 : (Jvm.Cond.code ({ cls := "LastHatchModel", name := "voiced", desc := "(II)I" } : Jvm.MethodName) prog_37_method_99_code (3 : Nat) (Option.some Jvm.ClassFile.FieldType.int)) ∈ lw_all := lw_g (lw_at lw_m10 194 rfl) rfl
theorem q2433 : (Jvm.Cond.methodLink "LastHatchModel" (314 : Nat) ({ cls := "LastHatchModel", name := "bodyFrom", desc := "(III)I" } : Jvm.MethodName)) ∈ lw_all := lw_g (lw_at lw_m10 195 rfl) rfl
theorem q2434 : (Jvm.Cond.privateMethod ({ cls := "LastHatchModel", name := "bodyFrom", desc := "(III)I" } : Jvm.MethodName)) ∈ lw_tbl := lw_at lw_m10 196 rfl
theorem q2435 : (Jvm.Cond.instanceMethod ({ cls := "LastHatchModel", name := "bodyFrom", desc := "(III)I" } : Jvm.MethodName)) ∈ lw_all := lw_g (lw_at lw_m10 197 rfl) rfl
theorem q2436 : (Jvm.Cond.code ({ cls := "LastHatchModel", name := "bodyFrom", desc := "(III)I" } : Jvm.MethodName) prog_37_method_100_code (5 : Nat) (Option.some Jvm.ClassFile.FieldType.int)) ∈ lw_all := lw_g (lw_at lw_m10 198 rfl) rfl
theorem q2437 : (Jvm.Cond.methodLink "LastHatchModel" (317 : Nat) ({ cls := "LastHatchModel", name := "hasOwn", desc := "(II)Z" } : Jvm.MethodName)) ∈ lw_all := lw_g (lw_at lw_m10 199 rfl) rfl
theorem q2438 : (Jvm.Cond.static ({ cls := "LastHatchModel", name := "hasOwn", desc := "(II)Z" } : Jvm.MethodName)) ∈ lw_all := lw_g (lw_at lw_m10 200 rfl) rfl
theorem q2439 : (Jvm.Cond.code ({ cls := "LastHatchModel", name := "hasOwn", desc := "(II)Z" } : Jvm.MethodName) prog_37_method_98_code (2 : Nat) (Option.some Jvm.ClassFile.FieldType.boolean)) ∈ lw_all := lw_g (lw_at lw_m10 201 rfl) rfl
theorem q2440 : (Jvm.Cond.methodLink "LastHatchModel" (320 : Nat) ({ cls := "LastHatchModel", name := "body", desc := "(III)I" } : Jvm.MethodName)) ∈ lw_all := lw_g (lw_at lw_m10 202 rfl) rfl
theorem q2441 : (Jvm.Cond.privateMethod ({ cls := "LastHatchModel", name := "body", desc := "(III)I" } : Jvm.MethodName)) ∈ lw_tbl := lw_at lw_m10 203 rfl
theorem q2442 : (Jvm.Cond.instanceMethod ({ cls := "LastHatchModel", name := "body", desc := "(III)I" } : Jvm.MethodName)) ∈ lw_all := lw_g (lw_at lw_m10 204 rfl) rfl
theorem q2443 : (Jvm.Cond.code ({ cls := "LastHatchModel", name := "body", desc := "(III)I" } : Jvm.MethodName) prog_37_method_101_code (5 : Nat) (Option.some Jvm.ClassFile.FieldType.int)) ∈ lw_all := lw_g (lw_at lw_m10 205 rfl) rfl
theorem q2444 : (Jvm.Cond.methodLink "LastHatchModel" (323 : Nat) ({ cls := "LastHatchModel", name := "began", desc := "(I)V" } : Jvm.MethodName)) ∈ lw_all := lw_g (lw_at lw_m10 206 rfl) rfl
theorem q2445 : (Jvm.Cond.privateMethod ({ cls := "LastHatchModel", name := "began", desc := "(I)V" } : Jvm.MethodName)) ∈ lw_tbl := lw_at lw_m10 207 rfl
theorem q2446 : (Jvm.Cond.instanceMethod ({ cls := "LastHatchModel", name := "began", desc := "(I)V" } : Jvm.MethodName)) ∈ lw_all := lw_g (lw_at lw_m10 208 rfl) rfl
theorem q2447 : (Jvm.Cond.code ({ cls := "LastHatchModel", name := "began", desc := "(I)V" } : Jvm.MethodName) prog_37_method_97_code (2 : Nat) (Option.none : Option Jvm.ClassFile.FieldType)) ∈ lw_all := lw_g (lw_at lw_m10 209 rfl) rfl
theorem q2449 : (Jvm.Cond.instanceMethod ({ cls := "LastHatchModel", name := "trace", desc := "(I)I" } : Jvm.MethodName)) ∈ lw_all := lw_g (lw_at lw_m10 211 rfl) rfl
theorem q2450 : (Jvm.Cond.selects "LastHatchModel" ({ cls := "LastHatchModel", name := "trace", desc := "(I)I" } : Jvm.MethodName) ({ cls := "LastHatchModel", name := "trace", desc := "(I)I" } : Jvm.MethodName)) ∈ lw_all := lw_g (lw_at lw_m10 212 rfl) rfl
theorem q2451 : (Jvm.Cond.code ({ cls := "LastHatchModel", name := "trace", desc := "(I)I" } : Jvm.MethodName) prog_37_method_103_code (2 : Nat) (Option.some Jvm.ClassFile.FieldType.int)) ∈ lw_all := lw_g (lw_at lw_m10 213 rfl) rfl
theorem q2453 : (Jvm.Cond.instanceMethod ({ cls := "LastHatchModel", name := "sheet", desc := "(III)I" } : Jvm.MethodName)) ∈ lw_all := lw_g (lw_at lw_m10 215 rfl) rfl
theorem q2454 : (Jvm.Cond.selects "LastHatchModel" ({ cls := "LastHatchModel", name := "sheet", desc := "(III)I" } : Jvm.MethodName) ({ cls := "LastHatchModel", name := "sheet", desc := "(III)I" } : Jvm.MethodName)) ∈ lw_all := lw_g (lw_at lw_m10 216 rfl) rfl
theorem q2455 : (Jvm.Cond.code ({ cls := "LastHatchModel", name := "sheet", desc := "(III)I" } : Jvm.MethodName) prog_37_method_105_code (5 : Nat) (Option.some Jvm.ClassFile.FieldType.int)) ∈ lw_all := lw_g (lw_at lw_m10 217 rfl) rfl
theorem q2457 : (Jvm.Cond.instanceMethod ({ cls := "LastHatchModel", name := "put", desc := "(III)I" } : Jvm.MethodName)) ∈ lw_all := lw_g (lw_at lw_m10 219 rfl) rfl
theorem q2458 : (Jvm.Cond.selects "LastHatchModel" ({ cls := "LastHatchModel", name := "put", desc := "(III)I" } : Jvm.MethodName) ({ cls := "LastHatchModel", name := "put", desc := "(III)I" } : Jvm.MethodName)) ∈ lw_all := lw_g (lw_at lw_m10 220 rfl) rfl
theorem q2459 : (Jvm.Cond.code ({ cls := "LastHatchModel", name := "put", desc := "(III)I" } : Jvm.MethodName) prog_37_method_106_code (4 : Nat) (Option.some Jvm.ClassFile.FieldType.int)) ∈ lw_all := lw_g (lw_at lw_m10 221 rfl) rfl
theorem q2461 : (Jvm.Cond.instanceMethod ({ cls := "LastHatchModel", name := "move", desc := "(IIIII)I" } : Jvm.MethodName)) ∈ lw_all := lw_g (lw_at lw_m10 223 rfl) rfl
theorem q2462 : (Jvm.Cond.selects "LastHatchModel" ({ cls := "LastHatchModel", name := "move", desc := "(IIIII)I" } : Jvm.MethodName) ({ cls := "LastHatchModel", name := "move", desc := "(IIIII)I" } : Jvm.MethodName)) ∈ lw_all := lw_g (lw_at lw_m10 224 rfl) rfl
theorem q2463 : (Jvm.Cond.code ({ cls := "LastHatchModel", name := "move", desc := "(IIIII)I" } : Jvm.MethodName) prog_37_method_107_code (7 : Nat) (Option.some Jvm.ClassFile.FieldType.int)) ∈ lw_all := lw_g (lw_at lw_m10 225 rfl) rfl
theorem q2465 : (Jvm.Cond.instanceMethod ({ cls := "LastHatchModel", name := "image", desc := "()I" } : Jvm.MethodName)) ∈ lw_all := lw_g (lw_at lw_m10 227 rfl) rfl
theorem q2466 : (Jvm.Cond.selects "LastHatchModel" ({ cls := "LastHatchModel", name := "image", desc := "()I" } : Jvm.MethodName) ({ cls := "LastHatchModel", name := "image", desc := "()I" } : Jvm.MethodName)) ∈ lw_all := lw_g (lw_at lw_m10 228 rfl) rfl
theorem q2467 : (Jvm.Cond.code ({ cls := "LastHatchModel", name := "image", desc := "()I" } : Jvm.MethodName) prog_37_method_108_code (1 : Nat) (Option.some Jvm.ClassFile.FieldType.int)) ∈ lw_all := lw_g (lw_at lw_m10 229 rfl) rfl
theorem q2469 : (Jvm.Cond.instanceMethod ({ cls := "LastHatchModel", name := "restore", desc := "()I" } : Jvm.MethodName)) ∈ lw_all := lw_g (lw_at lw_m10 231 rfl) rfl
theorem q2470 : (Jvm.Cond.selects "LastHatchModel" ({ cls := "LastHatchModel", name := "restore", desc := "()I" } : Jvm.MethodName) ({ cls := "LastHatchModel", name := "restore", desc := "()I" } : Jvm.MethodName)) ∈ lw_all := lw_g (lw_at lw_m10 232 rfl) rfl
theorem q2471 : (Jvm.Cond.code ({ cls := "LastHatchModel", name := "restore", desc := "()I" } : Jvm.MethodName) prog_37_method_109_code (1 : Nat) (Option.some Jvm.ClassFile.FieldType.int)) ∈ lw_all := lw_g (lw_at lw_m10 233 rfl) rfl
theorem q2473 : (Jvm.Cond.instanceMethod ({ cls := "LastHatchModel", name := "tell", desc := "(I)I" } : Jvm.MethodName)) ∈ lw_all := lw_g (lw_at lw_m10 235 rfl) rfl
theorem q2474 : (Jvm.Cond.selects "LastHatchModel" ({ cls := "LastHatchModel", name := "tell", desc := "(I)I" } : Jvm.MethodName) ({ cls := "LastHatchModel", name := "tell", desc := "(I)I" } : Jvm.MethodName)) ∈ lw_all := lw_g (lw_at lw_m10 236 rfl) rfl
theorem q2475 : (Jvm.Cond.code ({ cls := "LastHatchModel", name := "tell", desc := "(I)I" } : Jvm.MethodName) prog_37_method_110_code (2 : Nat) (Option.some Jvm.ClassFile.FieldType.int)) ∈ lw_all := lw_g (lw_at lw_m10 237 rfl) rfl
theorem q2477 : (Jvm.Cond.instanceMethod ({ cls := "LastHatchModel", name := "count", desc := "(I)I" } : Jvm.MethodName)) ∈ lw_all := lw_g (lw_at lw_m10 239 rfl) rfl
theorem q2478 : (Jvm.Cond.selects "LastHatchModel" ({ cls := "LastHatchModel", name := "count", desc := "(I)I" } : Jvm.MethodName) ({ cls := "LastHatchModel", name := "count", desc := "(I)I" } : Jvm.MethodName)) ∈ lw_all := lw_g (lw_at lw_m11 0 rfl) rfl
theorem q2479 : (Jvm.Cond.code ({ cls := "LastHatchModel", name := "count", desc := "(I)I" } : Jvm.MethodName) prog_37_method_111_code (2 : Nat) (Option.some Jvm.ClassFile.FieldType.int)) ∈ lw_all := lw_g (lw_at lw_m11 1 rfl) rfl
theorem q2481 : (Jvm.Cond.instanceMethod ({ cls := "LastHatchModel", name := "told", desc := "(I)I" } : Jvm.MethodName)) ∈ lw_all := lw_g (lw_at lw_m11 3 rfl) rfl
theorem q2482 : (Jvm.Cond.selects "LastHatchModel" ({ cls := "LastHatchModel", name := "told", desc := "(I)I" } : Jvm.MethodName) ({ cls := "LastHatchModel", name := "told", desc := "(I)I" } : Jvm.MethodName)) ∈ lw_all := lw_g (lw_at lw_m11 4 rfl) rfl
theorem q2483 : (Jvm.Cond.code ({ cls := "LastHatchModel", name := "told", desc := "(I)I" } : Jvm.MethodName) prog_37_method_112_code (2 : Nat) (Option.some Jvm.ClassFile.FieldType.int)) ∈ lw_all := lw_g (lw_at lw_m11 5 rfl) rfl
theorem q2543 : (Jvm.Cond.castable "LastHatchModel" "java/lang/Object") ∈ lw_tbl := lw_at lw_m11 65 rfl
theorem in_X10 : ∀ w ∈ wsX100, w ∈ lw_all := lw_in wsX100 [1958, 1960, 1962, 1964, 1966, 1968, 1970, 1972, 1974, 1976, 1978, 1980, 1982, 1984, 1986, 1988, 1990, 1992, 1994, 1996, 1998, 2000, 2002, 2004, 2006, 2008, 2010, 2012, 2014] (by decide +kernel) (by decide +kernel)
