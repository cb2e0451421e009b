/-! LastHatch -/
set_option maxRecDepth 100000
def RX0 : String := "LastHatch"
def TX0 : u_T := fun k => match k with
  | 0 => ("LastHatch", "finding", "LLastHatch$Finding;", true)
  | 1 => ("LastHatch", "boat", "LLastHatch$Boat;", false)
  | 2 => ("LastHatch", "image", "LLastHatch$Boat;", false)
  | 3 => ("LastHatch", "images", "I", false)
  | 4 => ("LastHatch", "trace", "LLastHatch$Trace;", true)
  | 5 => ("LastHatch", "hatch", "LLastHatch$Hatch;", true)
  | 6 => ("LastHatch", "letters", "[I", true)
  | 7 => ("LastHatch", "errors", "[I", true)
  | 8 => ("LastHatch", "sheets", "[LLastHatch$Shelf;", true)
  | 9 => ("LastHatch", "read", "I", false)
  | _ => ("LastHatch", "stops", "I", false)
def tyX0 : Nat → FieldType := fun k => match k with
  | 0 => .object "LastHatch$Finding"
  | 1 => .object "LastHatch$Boat"
  | 2 => .object "LastHatch$Boat"
  | 3 => .int
  | 4 => .object "LastHatch$Trace"
  | 5 => .object "LastHatch$Hatch"
  | 6 => .array .int
  | 7 => .array .int
  | 8 => .array (.object "LastHatch$Shelf")
  | 9 => .int
  | _ => .int
abbrev wsX00 : List Cond := u_ws RX0 TX0 11
theorem nmX0 : ∀ a, a < 11 → ∀ b, b < 11 → a ≠ b → (TX0 a).2.1 ≠ (TX0 b).2.1 := by decide +kernel
theorem tyX0_ok : ∀ k, k < 11 → parseFieldDescriptor (TX0 k).2.2.1 = some (tyX0 k) := by decide +kernel
abbrev cX0_init : ByteArray := prog_1_method_5_code
def yX0_init : MethodName := ⟨RX0, "<init>", "()V"⟩
def dkwX0_init_4 : List UInt8 := [132, 1, 1, 167, 255, 235, 177]
abbrev dktX0_init_4 : List UInt8 := dkwX0_init_4 ++ []
def dkwX0_init_3 : List UInt8 := [181, 0, 76, 3, 60, 27, 7, 162, 0, 22, 42, 180, 0, 76, 27, 187, 0, 74, 89, 183, 0, 80, 83]
abbrev dktX0_init_3 : List UInt8 := dkwX0_init_3 ++ dktX0_init_4
def dkwX0_init_2 : List UInt8 := [181, 0, 63, 42, 16, 40, 188, 10, 181, 0, 67, 42, 16, 6, 188, 10, 181, 0, 71, 42, 7, 189, 0, 74]
abbrev dktX0_init_2 : List UInt8 := dkwX0_init_2 ++ dktX0_init_3
def dkwX0_init_1 : List UInt8 := [181, 0, 49, 42, 187, 0, 53, 89, 183, 0, 55, 181, 0, 56, 42, 187, 0, 60, 89, 183, 0, 62]
abbrev dktX0_init_1 : List UInt8 := dkwX0_init_1 ++ dktX0_init_2
def dkwX0_init_0 : List UInt8 := [42, 183, 0, 40, 42, 187, 0, 8, 89, 183, 0, 45, 181, 0, 1, 42, 187, 0, 46, 89, 183, 0, 48]
abbrev dktX0_init_0 : List UInt8 := dkwX0_init_0 ++ dktX0_init_1
theorem dksX0_init_0 : cX0_init.data.toList.drop 0 = dktX0_init_0 := by decide +kernel
theorem dksX0_init_1 : cX0_init.data.toList.drop 23 = dktX0_init_1 := dk_seg dksX0_init_0 23 rfl rfl
theorem dksX0_init_2 : cX0_init.data.toList.drop 45 = dktX0_init_2 := dk_seg dksX0_init_1 22 rfl rfl
theorem dksX0_init_3 : cX0_init.data.toList.drop 69 = dktX0_init_3 := dk_seg dksX0_init_2 24 rfl rfl
theorem dksX0_init_4 : cX0_init.data.toList.drop 92 = dktX0_init_4 := dk_seg dksX0_init_3 23 rfl rfl
theorem dX0_init_0 : decode cX0_init 0 = .ok (.aload_n 0, 1) := dk_42 (dk_at dksX0_init_0 0 rfl rfl)
theorem dX0_init_1 : decode cX0_init 1 = .ok (.invokespecial 40, 3) := dk_183 0 40 (dk_at dksX0_init_0 1 rfl rfl)
theorem dX0_init_4 : decode cX0_init 4 = .ok (.aload_n 0, 1) := dk_42 (dk_at dksX0_init_0 4 rfl rfl)
theorem dX0_init_5 : decode cX0_init 5 = .ok (.new 8, 3) := dk_187 0 8 (dk_at dksX0_init_0 5 rfl rfl)
theorem dX0_init_8 : decode cX0_init 8 = .ok (.dup, 1) := dk_89 (dk_at dksX0_init_0 8 rfl rfl)
theorem dX0_init_9 : decode cX0_init 9 = .ok (.invokespecial 45, 3) := dk_183 0 45 (dk_at dksX0_init_0 9 rfl rfl)
theorem dX0_init_12 : decode cX0_init 12 = .ok (.putfield 1, 3) := dk_181 0 1 (dk_at dksX0_init_0 12 rfl rfl)
theorem dX0_init_15 : decode cX0_init 15 = .ok (.aload_n 0, 1) := dk_42 (dk_at dksX0_init_0 15 rfl rfl)
theorem dX0_init_16 : decode cX0_init 16 = .ok (.new 46, 3) := dk_187 0 46 (dk_at dksX0_init_0 16 rfl rfl)
theorem dX0_init_19 : decode cX0_init 19 = .ok (.dup, 1) := dk_89 (dk_at dksX0_init_0 19 rfl rfl)
theorem dX0_init_20 : decode cX0_init 20 = .ok (.invokespecial 48, 3) := dk_183 0 48 (dk_at dksX0_init_0 20 rfl rfl)
theorem dX0_init_23 : decode cX0_init 23 = .ok (.putfield 49, 3) := dk_181 0 49 (dk_at dksX0_init_1 0 rfl rfl)
theorem dX0_init_26 : decode cX0_init 26 = .ok (.aload_n 0, 1) := dk_42 (dk_at dksX0_init_1 3 rfl rfl)
theorem dX0_init_27 : decode cX0_init 27 = .ok (.new 53, 3) := dk_187 0 53 (dk_at dksX0_init_1 4 rfl rfl)
theorem dX0_init_30 : decode cX0_init 30 = .ok (.dup, 1) := dk_89 (dk_at dksX0_init_1 7 rfl rfl)
theorem dX0_init_31 : decode cX0_init 31 = .ok (.invokespecial 55, 3) := dk_183 0 55 (dk_at dksX0_init_1 8 rfl rfl)
theorem dX0_init_34 : decode cX0_init 34 = .ok (.putfield 56, 3) := dk_181 0 56 (dk_at dksX0_init_1 11 rfl rfl)
theorem dX0_init_37 : decode cX0_init 37 = .ok (.aload_n 0, 1) := dk_42 (dk_at dksX0_init_1 14 rfl rfl)
theorem dX0_init_38 : decode cX0_init 38 = .ok (.new 60, 3) := dk_187 0 60 (dk_at dksX0_init_1 15 rfl rfl)
theorem dX0_init_41 : decode cX0_init 41 = .ok (.dup, 1) := dk_89 (dk_at dksX0_init_1 18 rfl rfl)
theorem dX0_init_42 : decode cX0_init 42 = .ok (.invokespecial 62, 3) := dk_183 0 62 (dk_at dksX0_init_1 19 rfl rfl)
theorem dX0_init_45 : decode cX0_init 45 = .ok (.putfield 63, 3) := dk_181 0 63 (dk_at dksX0_init_2 0 rfl rfl)
theorem dX0_init_48 : decode cX0_init 48 = .ok (.aload_n 0, 1) := dk_42 (dk_at dksX0_init_2 3 rfl rfl)
theorem dX0_init_49 : decode cX0_init 49 = .ok (.bipush 40, 2) := dk_16 40 (dk_at dksX0_init_2 4 rfl rfl)
theorem dX0_init_51 : decode cX0_init 51 = .ok (.newarray .int, 2) := dk_188_10 (dk_at dksX0_init_2 6 rfl rfl)
theorem dX0_init_53 : decode cX0_init 53 = .ok (.putfield 67, 3) := dk_181 0 67 (dk_at dksX0_init_2 8 rfl rfl)
theorem dX0_init_56 : decode cX0_init 56 = .ok (.aload_n 0, 1) := dk_42 (dk_at dksX0_init_2 11 rfl rfl)
theorem dX0_init_57 : decode cX0_init 57 = .ok (.bipush 6, 2) := dk_16 6 (dk_at dksX0_init_2 12 rfl rfl)
theorem dX0_init_59 : decode cX0_init 59 = .ok (.newarray .int, 2) := dk_188_10 (dk_at dksX0_init_2 14 rfl rfl)
theorem dX0_init_61 : decode cX0_init 61 = .ok (.putfield 71, 3) := dk_181 0 71 (dk_at dksX0_init_2 16 rfl rfl)
theorem dX0_init_64 : decode cX0_init 64 = .ok (.aload_n 0, 1) := dk_42 (dk_at dksX0_init_2 19 rfl rfl)
theorem dX0_init_65 : decode cX0_init 65 = .ok (.iconst 4, 1) := dk_7 (dk_at dksX0_init_2 20 rfl rfl)
theorem dX0_init_66 : decode cX0_init 66 = .ok (.anewarray 74, 3) := dk_189 0 74 (dk_at dksX0_init_2 21 rfl rfl)
theorem dX0_init_69 : decode cX0_init 69 = .ok (.putfield 76, 3) := dk_181 0 76 (dk_at dksX0_init_3 0 rfl rfl)
theorem dX0_init_72 : decode cX0_init 72 = .ok (.iconst 0, 1) := dk_3 (dk_at dksX0_init_3 3 rfl rfl)
theorem dX0_init_73 : decode cX0_init 73 = .ok (.istore_n 1, 1) := dk_60 (dk_at dksX0_init_3 4 rfl rfl)
theorem dX0_init_74 : decode cX0_init 74 = .ok (.iload_n 1, 1) := dk_27 (dk_at dksX0_init_3 5 rfl rfl)
theorem dX0_init_75 : decode cX0_init 75 = .ok (.iconst 4, 1) := dk_7 (dk_at dksX0_init_3 6 rfl rfl)
theorem dX0_init_76 : decode cX0_init 76 = .ok (.if_icmp .ge 22, 3) := dk_162 0 22 (dk_at dksX0_init_3 7 rfl rfl)
theorem dX0_init_79 : decode cX0_init 79 = .ok (.aload_n 0, 1) := dk_42 (dk_at dksX0_init_3 10 rfl rfl)
theorem dX0_init_80 : decode cX0_init 80 = .ok (.getfield 76, 3) := dk_180 0 76 (dk_at dksX0_init_3 11 rfl rfl)
theorem dX0_init_83 : decode cX0_init 83 = .ok (.iload_n 1, 1) := dk_27 (dk_at dksX0_init_3 14 rfl rfl)
theorem dX0_init_84 : decode cX0_init 84 = .ok (.new 74, 3) := dk_187 0 74 (dk_at dksX0_init_3 15 rfl rfl)
theorem dX0_init_87 : decode cX0_init 87 = .ok (.dup, 1) := dk_89 (dk_at dksX0_init_3 18 rfl rfl)
theorem dX0_init_88 : decode cX0_init 88 = .ok (.invokespecial 80, 3) := dk_183 0 80 (dk_at dksX0_init_3 19 rfl rfl)
theorem dX0_init_91 : decode cX0_init 91 = .ok (.aastore, 1) := dk_83 (dk_at dksX0_init_3 22 rfl rfl)
theorem dX0_init_92 : decode cX0_init 92 = .ok (.iinc 1 1, 3) := dk_132 1 1 (dk_at dksX0_init_4 0 rfl rfl)
theorem dX0_init_95 : decode cX0_init 95 = .ok (.goto (-21), 3) := dk_167 255 235 (dk_at dksX0_init_4 3 rfl rfl)
theorem dX0_init_98 : decode cX0_init 98 = .ok (.return_, 1) := dk_177 (dk_at dksX0_init_4 6 rfl rfl)
abbrev cX0_boat : ByteArray := prog_1_method_15_code
def yX0_boat : MethodName := ⟨RX0, "boat", "(II)I"⟩
def dkwX0_boat_4 : List UInt8 := [181, 0, 130, 29, 172, 78, 42, 45, 182, 0, 133, 172]
abbrev dktX0_boat_4 : List UInt8 := dkwX0_boat_4 ++ []
def dkwX0_boat_3 : List UInt8 := [42, 180, 0, 49, 180, 0, 100, 28, 181, 0, 127, 167, 0, 14, 42, 180, 0, 49, 180, 0, 100, 28]
abbrev dktX0_boat_3 : List UInt8 := dkwX0_boat_3 ++ dktX0_boat_4
def dkwX0_boat_2 : List UInt8 := [180, 0, 100, 180, 0, 127, 167, 0, 13, 42, 180, 0, 49, 180, 0, 100, 180, 0, 130, 62, 27, 154, 0, 17]
abbrev dktX0_boat_2 : List UInt8 := dkwX0_boat_2 ++ dktX0_boat_3
def dkwX0_boat_1 : List UInt8 := [184, 0, 86, 153, 0, 7, 4, 167, 0, 4, 3, 4, 182, 0, 94, 27, 154, 0, 16, 42, 180, 0, 49]
abbrev dktX0_boat_1 : List UInt8 := dkwX0_boat_1 ++ dktX0_boat_2
def dkwX0_boat_0 : List UInt8 := [42, 27, 184, 0, 122, 153, 0, 27, 28, 4, 27, 154, 0, 9, 17, 1, 44, 167, 0, 5, 18, 126]
abbrev dktX0_boat_0 : List UInt8 := dkwX0_boat_0 ++ dktX0_boat_1
theorem dksX0_boat_0 : cX0_boat.data.toList.drop 0 = dktX0_boat_0 := by decide +kernel
theorem dksX0_boat_1 : cX0_boat.data.toList.drop 22 = dktX0_boat_1 := dk_seg dksX0_boat_0 22 rfl rfl
theorem dksX0_boat_2 : cX0_boat.data.toList.drop 45 = dktX0_boat_2 := dk_seg dksX0_boat_1 23 rfl rfl
theorem dksX0_boat_3 : cX0_boat.data.toList.drop 69 = dktX0_boat_3 := dk_seg dksX0_boat_2 24 rfl rfl
theorem dksX0_boat_4 : cX0_boat.data.toList.drop 91 = dktX0_boat_4 := dk_seg dksX0_boat_3 22 rfl rfl
theorem dX0_boat_0 : decode cX0_boat 0 = .ok (.aload_n 0, 1) := dk_42 (dk_at dksX0_boat_0 0 rfl rfl)
theorem dX0_boat_1 : decode cX0_boat 1 = .ok (.iload_n 1, 1) := dk_27 (dk_at dksX0_boat_0 1 rfl rfl)
theorem dX0_boat_2 : decode cX0_boat 2 = .ok (.invokestatic 122, 3) := dk_184 0 122 (dk_at dksX0_boat_0 2 rfl rfl)
theorem dX0_boat_5 : decode cX0_boat 5 = .ok (.ifCond .eq 27, 3) := dk_153 0 27 (dk_at dksX0_boat_0 5 rfl rfl)
theorem dX0_boat_8 : decode cX0_boat 8 = .ok (.iload_n 2, 1) := dk_28 (dk_at dksX0_boat_0 8 rfl rfl)
theorem dX0_boat_9 : decode cX0_boat 9 = .ok (.iconst 1, 1) := dk_4 (dk_at dksX0_boat_0 9 rfl rfl)
theorem dX0_boat_10 : decode cX0_boat 10 = .ok (.iload_n 1, 1) := dk_27 (dk_at dksX0_boat_0 10 rfl rfl)
theorem dX0_boat_11 : decode cX0_boat 11 = .ok (.ifCond .ne 9, 3) := dk_154 0 9 (dk_at dksX0_boat_0 11 rfl rfl)
theorem dX0_boat_14 : decode cX0_boat 14 = .ok (.sipush 300, 3) := dk_17 1 44 (dk_at dksX0_boat_0 14 rfl rfl)
theorem dX0_boat_17 : decode cX0_boat 17 = .ok (.goto 5, 3) := dk_167 0 5 (dk_at dksX0_boat_0 17 rfl rfl)
theorem dX0_boat_20 : decode cX0_boat 20 = .ok (.ldc 126, 2) := dk_18 126 (dk_at dksX0_boat_0 20 rfl rfl)
theorem dX0_boat_22 : decode cX0_boat 22 = .ok (.invokestatic 86, 3) := dk_184 0 86 (dk_at dksX0_boat_1 0 rfl rfl)
theorem dX0_boat_25 : decode cX0_boat 25 = .ok (.ifCond .eq 7, 3) := dk_153 0 7 (dk_at dksX0_boat_1 3 rfl rfl)
theorem dX0_boat_28 : decode cX0_boat 28 = .ok (.iconst 1, 1) := dk_4 (dk_at dksX0_boat_1 6 rfl rfl)
theorem dX0_boat_29 : decode cX0_boat 29 = .ok (.goto 4, 3) := dk_167 0 4 (dk_at dksX0_boat_1 7 rfl rfl)
theorem dX0_boat_32 : decode cX0_boat 32 = .ok (.iconst 0, 1) := dk_3 (dk_at dksX0_boat_1 10 rfl rfl)
theorem dX0_boat_33 : decode cX0_boat 33 = .ok (.iconst 1, 1) := dk_4 (dk_at dksX0_boat_1 11 rfl rfl)
theorem dX0_boat_34 : decode cX0_boat 34 = .ok (.invokevirtual 94, 3) := dk_182 0 94 (dk_at dksX0_boat_1 12 rfl rfl)
theorem dX0_boat_37 : decode cX0_boat 37 = .ok (.iload_n 1, 1) := dk_27 (dk_at dksX0_boat_1 15 rfl rfl)
theorem dX0_boat_38 : decode cX0_boat 38 = .ok (.ifCond .ne 16, 3) := dk_154 0 16 (dk_at dksX0_boat_1 16 rfl rfl)
theorem dX0_boat_41 : decode cX0_boat 41 = .ok (.aload_n 0, 1) := dk_42 (dk_at dksX0_boat_1 19 rfl rfl)
theorem dX0_boat_42 : decode cX0_boat 42 = .ok (.getfield 49, 3) := dk_180 0 49 (dk_at dksX0_boat_1 20 rfl rfl)
theorem dX0_boat_45 : decode cX0_boat 45 = .ok (.getfield 100, 3) := dk_180 0 100 (dk_at dksX0_boat_2 0 rfl rfl)
theorem dX0_boat_48 : decode cX0_boat 48 = .ok (.getfield 127, 3) := dk_180 0 127 (dk_at dksX0_boat_2 3 rfl rfl)
theorem dX0_boat_51 : decode cX0_boat 51 = .ok (.goto 13, 3) := dk_167 0 13 (dk_at dksX0_boat_2 6 rfl rfl)
theorem dX0_boat_54 : decode cX0_boat 54 = .ok (.aload_n 0, 1) := dk_42 (dk_at dksX0_boat_2 9 rfl rfl)
theorem dX0_boat_55 : decode cX0_boat 55 = .ok (.getfield 49, 3) := dk_180 0 49 (dk_at dksX0_boat_2 10 rfl rfl)
theorem dX0_boat_58 : decode cX0_boat 58 = .ok (.getfield 100, 3) := dk_180 0 100 (dk_at dksX0_boat_2 13 rfl rfl)
theorem dX0_boat_61 : decode cX0_boat 61 = .ok (.getfield 130, 3) := dk_180 0 130 (dk_at dksX0_boat_2 16 rfl rfl)
theorem dX0_boat_64 : decode cX0_boat 64 = .ok (.istore_n 3, 1) := dk_62 (dk_at dksX0_boat_2 19 rfl rfl)
theorem dX0_boat_65 : decode cX0_boat 65 = .ok (.iload_n 1, 1) := dk_27 (dk_at dksX0_boat_2 20 rfl rfl)
theorem dX0_boat_66 : decode cX0_boat 66 = .ok (.ifCond .ne 17, 3) := dk_154 0 17 (dk_at dksX0_boat_2 21 rfl rfl)
theorem dX0_boat_69 : decode cX0_boat 69 = .ok (.aload_n 0, 1) := dk_42 (dk_at dksX0_boat_3 0 rfl rfl)
theorem dX0_boat_70 : decode cX0_boat 70 = .ok (.getfield 49, 3) := dk_180 0 49 (dk_at dksX0_boat_3 1 rfl rfl)
theorem dX0_boat_73 : decode cX0_boat 73 = .ok (.getfield 100, 3) := dk_180 0 100 (dk_at dksX0_boat_3 4 rfl rfl)
theorem dX0_boat_76 : decode cX0_boat 76 = .ok (.iload_n 2, 1) := dk_28 (dk_at dksX0_boat_3 7 rfl rfl)
theorem dX0_boat_77 : decode cX0_boat 77 = .ok (.putfield 127, 3) := dk_181 0 127 (dk_at dksX0_boat_3 8 rfl rfl)
theorem dX0_boat_80 : decode cX0_boat 80 = .ok (.goto 14, 3) := dk_167 0 14 (dk_at dksX0_boat_3 11 rfl rfl)
theorem dX0_boat_83 : decode cX0_boat 83 = .ok (.aload_n 0, 1) := dk_42 (dk_at dksX0_boat_3 14 rfl rfl)
theorem dX0_boat_84 : decode cX0_boat 84 = .ok (.getfield 49, 3) := dk_180 0 49 (dk_at dksX0_boat_3 15 rfl rfl)
theorem dX0_boat_87 : decode cX0_boat 87 = .ok (.getfield 100, 3) := dk_180 0 100 (dk_at dksX0_boat_3 18 rfl rfl)
theorem dX0_boat_90 : decode cX0_boat 90 = .ok (.iload_n 2, 1) := dk_28 (dk_at dksX0_boat_3 21 rfl rfl)
theorem dX0_boat_91 : decode cX0_boat 91 = .ok (.putfield 130, 3) := dk_181 0 130 (dk_at dksX0_boat_4 0 rfl rfl)
theorem dX0_boat_94 : decode cX0_boat 94 = .ok (.iload_n 3, 1) := dk_29 (dk_at dksX0_boat_4 3 rfl rfl)
theorem dX0_boat_95 : decode cX0_boat 95 = .ok (.ireturn, 1) := dk_172 (dk_at dksX0_boat_4 4 rfl rfl)
theorem dX0_boat_96 : decode cX0_boat 96 = .ok (.astore_n 3, 1) := dk_78 (dk_at dksX0_boat_4 5 rfl rfl)
theorem dX0_boat_97 : decode cX0_boat 97 = .ok (.aload_n 0, 1) := dk_42 (dk_at dksX0_boat_4 6 rfl rfl)
theorem dX0_boat_98 : decode cX0_boat 98 = .ok (.aload_n 3, 1) := dk_45 (dk_at dksX0_boat_4 7 rfl rfl)
theorem dX0_boat_99 : decode cX0_boat 99 = .ok (.invokevirtual 133, 3) := dk_182 0 133 (dk_at dksX0_boat_4 8 rfl rfl)
theorem dX0_boat_102 : decode cX0_boat 102 = .ok (.ireturn, 1) := dk_172 (dk_at dksX0_boat_4 11 rfl rfl)
abbrev cX0_isBit : ByteArray := prog_1_method_8_code
def yX0_isBit : MethodName := ⟨RX0, "isBit", "(I)Z"⟩
def dkwX0_isBit_0 : List UInt8 := [26, 3, 4, 184, 0, 86, 172]
abbrev dktX0_isBit_0 : List UInt8 := dkwX0_isBit_0 ++ []
theorem dksX0_isBit_0 : cX0_isBit.data.toList.drop 0 = dktX0_isBit_0 := by decide +kernel
theorem dX0_isBit_0 : decode cX0_isBit 0 = .ok (.iload_n 0, 1) := dk_26 (dk_at dksX0_isBit_0 0 rfl rfl)
theorem dX0_isBit_1 : decode cX0_isBit 1 = .ok (.iconst 0, 1) := dk_3 (dk_at dksX0_isBit_0 1 rfl rfl)
theorem dX0_isBit_2 : decode cX0_isBit 2 = .ok (.iconst 1, 1) := dk_4 (dk_at dksX0_isBit_0 2 rfl rfl)
theorem dX0_isBit_3 : decode cX0_isBit 3 = .ok (.invokestatic 86, 3) := dk_184 0 86 (dk_at dksX0_isBit_0 3 rfl rfl)
theorem dX0_isBit_6 : decode cX0_isBit 6 = .ok (.ireturn, 1) := dk_172 (dk_at dksX0_isBit_0 6 rfl rfl)
abbrev cX0_in : ByteArray := prog_1_method_1_code
def yX0_in : MethodName := ⟨RX0, "in", "(III)Z"⟩
def dkwX0_in_0 : List UInt8 := [26, 27, 161, 0, 12, 26, 28, 163, 0, 7, 4, 167, 0, 4, 3, 172]
abbrev dktX0_in_0 : List UInt8 := dkwX0_in_0 ++ []
theorem dksX0_in_0 : cX0_in.data.toList.drop 0 = dktX0_in_0 := by decide +kernel
theorem dX0_in_0 : decode cX0_in 0 = .ok (.iload_n 0, 1) := dk_26 (dk_at dksX0_in_0 0 rfl rfl)
theorem dX0_in_1 : decode cX0_in 1 = .ok (.iload_n 1, 1) := dk_27 (dk_at dksX0_in_0 1 rfl rfl)
theorem dX0_in_2 : decode cX0_in 2 = .ok (.if_icmp .lt 12, 3) := dk_161 0 12 (dk_at dksX0_in_0 2 rfl rfl)
theorem dX0_in_5 : decode cX0_in 5 = .ok (.iload_n 0, 1) := dk_26 (dk_at dksX0_in_0 5 rfl rfl)
theorem dX0_in_6 : decode cX0_in 6 = .ok (.iload_n 2, 1) := dk_28 (dk_at dksX0_in_0 6 rfl rfl)
theorem dX0_in_7 : decode cX0_in 7 = .ok (.if_icmp .gt 7, 3) := dk_163 0 7 (dk_at dksX0_in_0 7 rfl rfl)
theorem dX0_in_10 : decode cX0_in 10 = .ok (.iconst 1, 1) := dk_4 (dk_at dksX0_in_0 10 rfl rfl)
theorem dX0_in_11 : decode cX0_in 11 = .ok (.goto 4, 3) := dk_167 0 4 (dk_at dksX0_in_0 11 rfl rfl)
theorem dX0_in_14 : decode cX0_in 14 = .ok (.iconst 0, 1) := dk_3 (dk_at dksX0_in_0 14 rfl rfl)
theorem dX0_in_15 : decode cX0_in 15 = .ok (.ireturn, 1) := dk_172 (dk_at dksX0_in_0 15 rfl rfl)
abbrev cX0_need : ByteArray := prog_1_method_3_code
def yX0_need : MethodName := ⟨RX0, "need", "(ZI)V"⟩
def dkwX0_need_0 : List UInt8 := [27, 154, 0, 12, 42, 180, 0, 1, 28, 182, 0, 7, 191, 177]
abbrev dktX0_need_0 : List UInt8 := dkwX0_need_0 ++ []
theorem dksX0_need_0 : cX0_need.data.toList.drop 0 = dktX0_need_0 := by decide +kernel
theorem dX0_need_0 : decode cX0_need 0 = .ok (.iload_n 1, 1) := dk_27 (dk_at dksX0_need_0 0 rfl rfl)
theorem dX0_need_1 : decode cX0_need 1 = .ok (.ifCond .ne 12, 3) := dk_154 0 12 (dk_at dksX0_need_0 1 rfl rfl)
theorem dX0_need_4 : decode cX0_need 4 = .ok (.aload_n 0, 1) := dk_42 (dk_at dksX0_need_0 4 rfl rfl)
theorem dX0_need_5 : decode cX0_need 5 = .ok (.getfield 1, 3) := dk_180 0 1 (dk_at dksX0_need_0 5 rfl rfl)
theorem dX0_need_8 : decode cX0_need 8 = .ok (.iload_n 2, 1) := dk_28 (dk_at dksX0_need_0 8 rfl rfl)
theorem dX0_need_9 : decode cX0_need 9 = .ok (.invokevirtual 7, 3) := dk_182 0 7 (dk_at dksX0_need_0 9 rfl rfl)
theorem dX0_need_12 : decode cX0_need 12 = .ok (.athrow, 1) := dk_191 (dk_at dksX0_need_0 12 rfl rfl)
theorem dX0_need_13 : decode cX0_need 13 = .ok (.return_, 1) := dk_177 (dk_at dksX0_need_0 13 rfl rfl)
abbrev cX0_finds : ByteArray := prog_1_method_6_code
def yX0_finds : MethodName := ⟨RX0, "finds", "(LLastHatch$Finding;)I"⟩
def dkwX0_finds_0 : List UInt8 := [42, 180, 0, 71, 43, 180, 0, 81, 92, 46, 4, 96, 79, 18, 85, 43, 180, 0, 81, 100, 172]
abbrev dktX0_finds_0 : List UInt8 := dkwX0_finds_0 ++ []
theorem dksX0_finds_0 : cX0_finds.data.toList.drop 0 = dktX0_finds_0 := by decide +kernel
theorem dX0_finds_0 : decode cX0_finds 0 = .ok (.aload_n 0, 1) := dk_42 (dk_at dksX0_finds_0 0 rfl rfl)
theorem dX0_finds_1 : decode cX0_finds 1 = .ok (.getfield 71, 3) := dk_180 0 71 (dk_at dksX0_finds_0 1 rfl rfl)
theorem dX0_finds_4 : decode cX0_finds 4 = .ok (.aload_n 1, 1) := dk_43 (dk_at dksX0_finds_0 4 rfl rfl)
theorem dX0_finds_5 : decode cX0_finds 5 = .ok (.getfield 81, 3) := dk_180 0 81 (dk_at dksX0_finds_0 5 rfl rfl)
theorem dX0_finds_8 : decode cX0_finds 8 = .ok (.dup2, 1) := dk_92 (dk_at dksX0_finds_0 8 rfl rfl)
theorem dX0_finds_9 : decode cX0_finds 9 = .ok (.iaload, 1) := dk_46 (dk_at dksX0_finds_0 9 rfl rfl)
theorem dX0_finds_10 : decode cX0_finds 10 = .ok (.iconst 1, 1) := dk_4 (dk_at dksX0_finds_0 10 rfl rfl)
theorem dX0_finds_11 : decode cX0_finds 11 = .ok (.iadd, 1) := dk_96 (dk_at dksX0_finds_0 11 rfl rfl)
theorem dX0_finds_12 : decode cX0_finds 12 = .ok (.iastore, 1) := dk_79 (dk_at dksX0_finds_0 12 rfl rfl)
theorem dX0_finds_13 : decode cX0_finds 13 = .ok (.ldc 85, 2) := dk_18 85 (dk_at dksX0_finds_0 13 rfl rfl)
theorem dX0_finds_15 : decode cX0_finds 15 = .ok (.aload_n 1, 1) := dk_43 (dk_at dksX0_finds_0 15 rfl rfl)
theorem dX0_finds_16 : decode cX0_finds 16 = .ok (.getfield 81, 3) := dk_180 0 81 (dk_at dksX0_finds_0 16 rfl rfl)
theorem dX0_finds_19 : decode cX0_finds 19 = .ok (.isub, 1) := dk_100 (dk_at dksX0_finds_0 19 rfl rfl)
theorem dX0_finds_20 : decode cX0_finds 20 = .ok (.ireturn, 1) := dk_172 (dk_at dksX0_finds_0 20 rfl rfl)
abbrev cX0_man : ByteArray := prog_1_method_16_code
def yX0_man : MethodName := ⟨RX0, "man", "(III)I"⟩
def dkwX0_man_4 : List UInt8 := [180, 0, 104, 182, 0, 110, 4, 100, 172, 58, 4, 42, 25, 4, 182, 0, 133, 172]
abbrev dktX0_man_4 : List UInt8 := dkwX0_man_4 ++ []
def dkwX0_man_3 : List UInt8 := [180, 0, 104, 187, 0, 120, 89, 27, 28, 29, 183, 0, 140, 182, 0, 143, 87, 42, 180, 0, 49, 180, 0, 100]
abbrev dktX0_man_3 : List UInt8 := dkwX0_man_3 ++ dktX0_man_4
def dkwX0_man_2 : List UInt8 := [182, 0, 110, 16, 16, 162, 0, 7, 4, 167, 0, 4, 3, 7, 182, 0, 94, 42, 180, 0, 49, 180, 0, 100]
abbrev dktX0_man_2 : List UInt8 := dkwX0_man_2 ++ dktX0_man_3
def dkwX0_man_1 : List UInt8 := [153, 0, 7, 4, 167, 0, 4, 3, 4, 182, 0, 94, 42, 42, 180, 0, 49, 180, 0, 100, 180, 0, 104]
abbrev dktX0_man_1 : List UInt8 := dkwX0_man_1 ++ dktX0_man_2
def dkwX0_man_0 : List UInt8 := [42, 27, 184, 0, 137, 153, 0, 24, 28, 3, 16, 9, 184, 0, 86, 153, 0, 14, 29, 184, 0, 122]
abbrev dktX0_man_0 : List UInt8 := dkwX0_man_0 ++ dktX0_man_1
theorem dksX0_man_0 : cX0_man.data.toList.drop 0 = dktX0_man_0 := by decide +kernel
theorem dksX0_man_1 : cX0_man.data.toList.drop 22 = dktX0_man_1 := dk_seg dksX0_man_0 22 rfl rfl
theorem dksX0_man_2 : cX0_man.data.toList.drop 45 = dktX0_man_2 := dk_seg dksX0_man_1 23 rfl rfl
theorem dksX0_man_3 : cX0_man.data.toList.drop 69 = dktX0_man_3 := dk_seg dksX0_man_2 24 rfl rfl
theorem dksX0_man_4 : cX0_man.data.toList.drop 93 = dktX0_man_4 := dk_seg dksX0_man_3 24 rfl rfl
theorem dX0_man_0 : decode cX0_man 0 = .ok (.aload_n 0, 1) := dk_42 (dk_at dksX0_man_0 0 rfl rfl)
theorem dX0_man_1 : decode cX0_man 1 = .ok (.iload_n 1, 1) := dk_27 (dk_at dksX0_man_0 1 rfl rfl)
theorem dX0_man_2 : decode cX0_man 2 = .ok (.invokestatic 137, 3) := dk_184 0 137 (dk_at dksX0_man_0 2 rfl rfl)
theorem dX0_man_5 : decode cX0_man 5 = .ok (.ifCond .eq 24, 3) := dk_153 0 24 (dk_at dksX0_man_0 5 rfl rfl)
theorem dX0_man_8 : decode cX0_man 8 = .ok (.iload_n 2, 1) := dk_28 (dk_at dksX0_man_0 8 rfl rfl)
theorem dX0_man_9 : decode cX0_man 9 = .ok (.iconst 0, 1) := dk_3 (dk_at dksX0_man_0 9 rfl rfl)
theorem dX0_man_10 : decode cX0_man 10 = .ok (.bipush 9, 2) := dk_16 9 (dk_at dksX0_man_0 10 rfl rfl)
theorem dX0_man_12 : decode cX0_man 12 = .ok (.invokestatic 86, 3) := dk_184 0 86 (dk_at dksX0_man_0 12 rfl rfl)
theorem dX0_man_15 : decode cX0_man 15 = .ok (.ifCond .eq 14, 3) := dk_153 0 14 (dk_at dksX0_man_0 15 rfl rfl)
theorem dX0_man_18 : decode cX0_man 18 = .ok (.iload_n 3, 1) := dk_29 (dk_at dksX0_man_0 18 rfl rfl)
theorem dX0_man_19 : decode cX0_man 19 = .ok (.invokestatic 122, 3) := dk_184 0 122 (dk_at dksX0_man_0 19 rfl rfl)
theorem dX0_man_22 : decode cX0_man 22 = .ok (.ifCond .eq 7, 3) := dk_153 0 7 (dk_at dksX0_man_1 0 rfl rfl)
theorem dX0_man_25 : decode cX0_man 25 = .ok (.iconst 1, 1) := dk_4 (dk_at dksX0_man_1 3 rfl rfl)
theorem dX0_man_26 : decode cX0_man 26 = .ok (.goto 4, 3) := dk_167 0 4 (dk_at dksX0_man_1 4 rfl rfl)
theorem dX0_man_29 : decode cX0_man 29 = .ok (.iconst 0, 1) := dk_3 (dk_at dksX0_man_1 7 rfl rfl)
theorem dX0_man_30 : decode cX0_man 30 = .ok (.iconst 1, 1) := dk_4 (dk_at dksX0_man_1 8 rfl rfl)
theorem dX0_man_31 : decode cX0_man 31 = .ok (.invokevirtual 94, 3) := dk_182 0 94 (dk_at dksX0_man_1 9 rfl rfl)
theorem dX0_man_34 : decode cX0_man 34 = .ok (.aload_n 0, 1) := dk_42 (dk_at dksX0_man_1 12 rfl rfl)
theorem dX0_man_35 : decode cX0_man 35 = .ok (.aload_n 0, 1) := dk_42 (dk_at dksX0_man_1 13 rfl rfl)
theorem dX0_man_36 : decode cX0_man 36 = .ok (.getfield 49, 3) := dk_180 0 49 (dk_at dksX0_man_1 14 rfl rfl)
theorem dX0_man_39 : decode cX0_man 39 = .ok (.getfield 100, 3) := dk_180 0 100 (dk_at dksX0_man_1 17 rfl rfl)
theorem dX0_man_42 : decode cX0_man 42 = .ok (.getfield 104, 3) := dk_180 0 104 (dk_at dksX0_man_1 20 rfl rfl)
theorem dX0_man_45 : decode cX0_man 45 = .ok (.invokevirtual 110, 3) := dk_182 0 110 (dk_at dksX0_man_2 0 rfl rfl)
theorem dX0_man_48 : decode cX0_man 48 = .ok (.bipush 16, 2) := dk_16 16 (dk_at dksX0_man_2 3 rfl rfl)
theorem dX0_man_50 : decode cX0_man 50 = .ok (.if_icmp .ge 7, 3) := dk_162 0 7 (dk_at dksX0_man_2 5 rfl rfl)
theorem dX0_man_53 : decode cX0_man 53 = .ok (.iconst 1, 1) := dk_4 (dk_at dksX0_man_2 8 rfl rfl)
theorem dX0_man_54 : decode cX0_man 54 = .ok (.goto 4, 3) := dk_167 0 4 (dk_at dksX0_man_2 9 rfl rfl)
theorem dX0_man_57 : decode cX0_man 57 = .ok (.iconst 0, 1) := dk_3 (dk_at dksX0_man_2 12 rfl rfl)
theorem dX0_man_58 : decode cX0_man 58 = .ok (.iconst 4, 1) := dk_7 (dk_at dksX0_man_2 13 rfl rfl)
theorem dX0_man_59 : decode cX0_man 59 = .ok (.invokevirtual 94, 3) := dk_182 0 94 (dk_at dksX0_man_2 14 rfl rfl)
theorem dX0_man_62 : decode cX0_man 62 = .ok (.aload_n 0, 1) := dk_42 (dk_at dksX0_man_2 17 rfl rfl)
theorem dX0_man_63 : decode cX0_man 63 = .ok (.getfield 49, 3) := dk_180 0 49 (dk_at dksX0_man_2 18 rfl rfl)
theorem dX0_man_66 : decode cX0_man 66 = .ok (.getfield 100, 3) := dk_180 0 100 (dk_at dksX0_man_2 21 rfl rfl)
theorem dX0_man_69 : decode cX0_man 69 = .ok (.getfield 104, 3) := dk_180 0 104 (dk_at dksX0_man_3 0 rfl rfl)
theorem dX0_man_72 : decode cX0_man 72 = .ok (.new 120, 3) := dk_187 0 120 (dk_at dksX0_man_3 3 rfl rfl)
theorem dX0_man_75 : decode cX0_man 75 = .ok (.dup, 1) := dk_89 (dk_at dksX0_man_3 6 rfl rfl)
theorem dX0_man_76 : decode cX0_man 76 = .ok (.iload_n 1, 1) := dk_27 (dk_at dksX0_man_3 7 rfl rfl)
theorem dX0_man_77 : decode cX0_man 77 = .ok (.iload_n 2, 1) := dk_28 (dk_at dksX0_man_3 8 rfl rfl)
theorem dX0_man_78 : decode cX0_man 78 = .ok (.iload_n 3, 1) := dk_29 (dk_at dksX0_man_3 9 rfl rfl)
theorem dX0_man_79 : decode cX0_man 79 = .ok (.invokespecial 140, 3) := dk_183 0 140 (dk_at dksX0_man_3 10 rfl rfl)
theorem dX0_man_82 : decode cX0_man 82 = .ok (.invokevirtual 143, 3) := dk_182 0 143 (dk_at dksX0_man_3 13 rfl rfl)
theorem dX0_man_85 : decode cX0_man 85 = .ok (.pop, 1) := dk_87 (dk_at dksX0_man_3 16 rfl rfl)
theorem dX0_man_86 : decode cX0_man 86 = .ok (.aload_n 0, 1) := dk_42 (dk_at dksX0_man_3 17 rfl rfl)
theorem dX0_man_87 : decode cX0_man 87 = .ok (.getfield 49, 3) := dk_180 0 49 (dk_at dksX0_man_3 18 rfl rfl)
theorem dX0_man_90 : decode cX0_man 90 = .ok (.getfield 100, 3) := dk_180 0 100 (dk_at dksX0_man_3 21 rfl rfl)
theorem dX0_man_93 : decode cX0_man 93 = .ok (.getfield 104, 3) := dk_180 0 104 (dk_at dksX0_man_4 0 rfl rfl)
theorem dX0_man_96 : decode cX0_man 96 = .ok (.invokevirtual 110, 3) := dk_182 0 110 (dk_at dksX0_man_4 3 rfl rfl)
theorem dX0_man_99 : decode cX0_man 99 = .ok (.iconst 1, 1) := dk_4 (dk_at dksX0_man_4 6 rfl rfl)
theorem dX0_man_100 : decode cX0_man 100 = .ok (.isub, 1) := dk_100 (dk_at dksX0_man_4 7 rfl rfl)
theorem dX0_man_101 : decode cX0_man 101 = .ok (.ireturn, 1) := dk_172 (dk_at dksX0_man_4 8 rfl rfl)
theorem dX0_man_102 : decode cX0_man 102 = .ok (.astore 4, 2) := dk_58 4 (dk_at dksX0_man_4 9 rfl rfl)
theorem dX0_man_104 : decode cX0_man 104 = .ok (.aload_n 0, 1) := dk_42 (dk_at dksX0_man_4 11 rfl rfl)
theorem dX0_man_105 : decode cX0_man 105 = .ok (.aload 4, 2) := dk_25 4 (dk_at dksX0_man_4 12 rfl rfl)
theorem dX0_man_107 : decode cX0_man 107 = .ok (.invokevirtual 133, 3) := dk_182 0 133 (dk_at dksX0_man_4 14 rfl rfl)
theorem dX0_man_110 : decode cX0_man 110 = .ok (.ireturn, 1) := dk_172 (dk_at dksX0_man_4 17 rfl rfl)
abbrev cX0_isRoom : ByteArray := prog_1_method_7_code
def yX0_isRoom : MethodName := ⟨RX0, "isRoom", "(I)Z"⟩
def dkwX0_isRoom_0 : List UInt8 := [26, 3, 16, 7, 184, 0, 86, 172]
abbrev dktX0_isRoom_0 : List UInt8 := dkwX0_isRoom_0 ++ []
theorem dksX0_isRoom_0 : cX0_isRoom.data.toList.drop 0 = dktX0_isRoom_0 := by decide +kernel
theorem dX0_isRoom_0 : decode cX0_isRoom 0 = .ok (.iload_n 0, 1) := dk_26 (dk_at dksX0_isRoom_0 0 rfl rfl)
theorem dX0_isRoom_1 : decode cX0_isRoom 1 = .ok (.iconst 0, 1) := dk_3 (dk_at dksX0_isRoom_0 1 rfl rfl)
theorem dX0_isRoom_2 : decode cX0_isRoom 2 = .ok (.bipush 7, 2) := dk_16 7 (dk_at dksX0_isRoom_0 2 rfl rfl)
theorem dX0_isRoom_4 : decode cX0_isRoom 4 = .ok (.invokestatic 86, 3) := dk_184 0 86 (dk_at dksX0_isRoom_0 4 rfl rfl)
theorem dX0_isRoom_7 : decode cX0_isRoom 7 = .ok (.ireturn, 1) := dk_172 (dk_at dksX0_isRoom_0 7 rfl rfl)
abbrev cX0_does : ByteArray := prog_1_method_18_code
def yX0_does : MethodName := ⟨RX0, "does", "(III)I"⟩
def dkwX0_does_3 : List UInt8 := [58, 4, 42, 25, 4, 182, 0, 133, 172]
abbrev dktX0_does_3 : List UInt8 := dkwX0_does_3 ++ []
def dkwX0_does_2 : List UInt8 := [182, 0, 155, 154, 0, 7, 4, 167, 0, 4, 3, 6, 182, 0, 94, 25, 4, 28, 29, 182, 0, 159, 172]
abbrev dktX0_does_2 : List UInt8 := dkwX0_does_2 ++ dktX0_does_3
def dkwX0_does_1 : List UInt8 := [184, 0, 86, 153, 0, 7, 4, 167, 0, 4, 3, 4, 182, 0, 94, 42, 28, 157, 0, 11, 25, 4]
abbrev dktX0_does_1 : List UInt8 := dkwX0_does_1 ++ dktX0_does_2
def dkwX0_does_0 : List UInt8 := [42, 27, 182, 0, 147, 58, 4, 42, 28, 3, 7, 184, 0, 86, 153, 0, 19, 29, 3, 28, 184, 0, 151]
abbrev dktX0_does_0 : List UInt8 := dkwX0_does_0 ++ dktX0_does_1
theorem dksX0_does_0 : cX0_does.data.toList.drop 0 = dktX0_does_0 := by decide +kernel
theorem dksX0_does_1 : cX0_does.data.toList.drop 23 = dktX0_does_1 := dk_seg dksX0_does_0 23 rfl rfl
theorem dksX0_does_2 : cX0_does.data.toList.drop 45 = dktX0_does_2 := dk_seg dksX0_does_1 22 rfl rfl
theorem dksX0_does_3 : cX0_does.data.toList.drop 68 = dktX0_does_3 := dk_seg dksX0_does_2 23 rfl rfl
theorem dX0_does_0 : decode cX0_does 0 = .ok (.aload_n 0, 1) := dk_42 (dk_at dksX0_does_0 0 rfl rfl)
theorem dX0_does_1 : decode cX0_does 1 = .ok (.iload_n 1, 1) := dk_27 (dk_at dksX0_does_0 1 rfl rfl)
theorem dX0_does_2 : decode cX0_does 2 = .ok (.invokevirtual 147, 3) := dk_182 0 147 (dk_at dksX0_does_0 2 rfl rfl)
theorem dX0_does_5 : decode cX0_does 5 = .ok (.astore 4, 2) := dk_58 4 (dk_at dksX0_does_0 5 rfl rfl)
theorem dX0_does_7 : decode cX0_does 7 = .ok (.aload_n 0, 1) := dk_42 (dk_at dksX0_does_0 7 rfl rfl)
theorem dX0_does_8 : decode cX0_does 8 = .ok (.iload_n 2, 1) := dk_28 (dk_at dksX0_does_0 8 rfl rfl)
theorem dX0_does_9 : decode cX0_does 9 = .ok (.iconst 0, 1) := dk_3 (dk_at dksX0_does_0 9 rfl rfl)
theorem dX0_does_10 : decode cX0_does 10 = .ok (.iconst 4, 1) := dk_7 (dk_at dksX0_does_0 10 rfl rfl)
theorem dX0_does_11 : decode cX0_does 11 = .ok (.invokestatic 86, 3) := dk_184 0 86 (dk_at dksX0_does_0 11 rfl rfl)
theorem dX0_does_14 : decode cX0_does 14 = .ok (.ifCond .eq 19, 3) := dk_153 0 19 (dk_at dksX0_does_0 14 rfl rfl)
theorem dX0_does_17 : decode cX0_does 17 = .ok (.iload_n 3, 1) := dk_29 (dk_at dksX0_does_0 17 rfl rfl)
theorem dX0_does_18 : decode cX0_does 18 = .ok (.iconst 0, 1) := dk_3 (dk_at dksX0_does_0 18 rfl rfl)
theorem dX0_does_19 : decode cX0_does 19 = .ok (.iload_n 2, 1) := dk_28 (dk_at dksX0_does_0 19 rfl rfl)
theorem dX0_does_20 : decode cX0_does 20 = .ok (.invokestatic 151, 3) := dk_184 0 151 (dk_at dksX0_does_0 20 rfl rfl)
theorem dX0_does_23 : decode cX0_does 23 = .ok (.invokestatic 86, 3) := dk_184 0 86 (dk_at dksX0_does_1 0 rfl rfl)
theorem dX0_does_26 : decode cX0_does 26 = .ok (.ifCond .eq 7, 3) := dk_153 0 7 (dk_at dksX0_does_1 3 rfl rfl)
theorem dX0_does_29 : decode cX0_does 29 = .ok (.iconst 1, 1) := dk_4 (dk_at dksX0_does_1 6 rfl rfl)
theorem dX0_does_30 : decode cX0_does 30 = .ok (.goto 4, 3) := dk_167 0 4 (dk_at dksX0_does_1 7 rfl rfl)
theorem dX0_does_33 : decode cX0_does 33 = .ok (.iconst 0, 1) := dk_3 (dk_at dksX0_does_1 10 rfl rfl)
theorem dX0_does_34 : decode cX0_does 34 = .ok (.iconst 1, 1) := dk_4 (dk_at dksX0_does_1 11 rfl rfl)
theorem dX0_does_35 : decode cX0_does 35 = .ok (.invokevirtual 94, 3) := dk_182 0 94 (dk_at dksX0_does_1 12 rfl rfl)
theorem dX0_does_38 : decode cX0_does 38 = .ok (.aload_n 0, 1) := dk_42 (dk_at dksX0_does_1 15 rfl rfl)
theorem dX0_does_39 : decode cX0_does 39 = .ok (.iload_n 2, 1) := dk_28 (dk_at dksX0_does_1 16 rfl rfl)
theorem dX0_does_40 : decode cX0_does 40 = .ok (.ifCond .gt 11, 3) := dk_157 0 11 (dk_at dksX0_does_1 17 rfl rfl)
theorem dX0_does_43 : decode cX0_does 43 = .ok (.aload 4, 2) := dk_25 4 (dk_at dksX0_does_1 20 rfl rfl)
theorem dX0_does_45 : decode cX0_does 45 = .ok (.invokevirtual 155, 3) := dk_182 0 155 (dk_at dksX0_does_2 0 rfl rfl)
theorem dX0_does_48 : decode cX0_does 48 = .ok (.ifCond .ne 7, 3) := dk_154 0 7 (dk_at dksX0_does_2 3 rfl rfl)
theorem dX0_does_51 : decode cX0_does 51 = .ok (.iconst 1, 1) := dk_4 (dk_at dksX0_does_2 6 rfl rfl)
theorem dX0_does_52 : decode cX0_does 52 = .ok (.goto 4, 3) := dk_167 0 4 (dk_at dksX0_does_2 7 rfl rfl)
theorem dX0_does_55 : decode cX0_does 55 = .ok (.iconst 0, 1) := dk_3 (dk_at dksX0_does_2 10 rfl rfl)
theorem dX0_does_56 : decode cX0_does 56 = .ok (.iconst 3, 1) := dk_6 (dk_at dksX0_does_2 11 rfl rfl)
theorem dX0_does_57 : decode cX0_does 57 = .ok (.invokevirtual 94, 3) := dk_182 0 94 (dk_at dksX0_does_2 12 rfl rfl)
theorem dX0_does_60 : decode cX0_does 60 = .ok (.aload 4, 2) := dk_25 4 (dk_at dksX0_does_2 15 rfl rfl)
theorem dX0_does_62 : decode cX0_does 62 = .ok (.iload_n 2, 1) := dk_28 (dk_at dksX0_does_2 17 rfl rfl)
theorem dX0_does_63 : decode cX0_does 63 = .ok (.iload_n 3, 1) := dk_29 (dk_at dksX0_does_2 18 rfl rfl)
theorem dX0_does_64 : decode cX0_does 64 = .ok (.invokevirtual 159, 3) := dk_182 0 159 (dk_at dksX0_does_2 19 rfl rfl)
theorem dX0_does_67 : decode cX0_does 67 = .ok (.ireturn, 1) := dk_172 (dk_at dksX0_does_2 22 rfl rfl)
theorem dX0_does_68 : decode cX0_does 68 = .ok (.astore 4, 2) := dk_58 4 (dk_at dksX0_does_3 0 rfl rfl)
theorem dX0_does_70 : decode cX0_does 70 = .ok (.aload_n 0, 1) := dk_42 (dk_at dksX0_does_3 2 rfl rfl)
theorem dX0_does_71 : decode cX0_does 71 = .ok (.aload 4, 2) := dk_25 4 (dk_at dksX0_does_3 3 rfl rfl)
theorem dX0_does_73 : decode cX0_does 73 = .ok (.invokevirtual 133, 3) := dk_182 0 133 (dk_at dksX0_does_3 5 rfl rfl)
theorem dX0_does_76 : decode cX0_does 76 = .ok (.ireturn, 1) := dk_172 (dk_at dksX0_does_3 8 rfl rfl)
abbrev cX0_manAt : ByteArray := prog_1_method_14_code
def yX0_manAt : MethodName := ⟨RX0, "manAt", "(I)LLastHatch$Man;"⟩
def dkwX0_manAt_1 : List UInt8 := [182, 0, 94, 42, 180, 0, 49, 180, 0, 100, 180, 0, 104, 27, 182, 0, 116, 192, 0, 120, 176]
abbrev dktX0_manAt_1 : List UInt8 := dkwX0_manAt_1 ++ []
def dkwX0_manAt_0 : List UInt8 := [42, 27, 3, 42, 180, 0, 49, 180, 0, 100, 180, 0, 104, 182, 0, 110, 4, 100, 184, 0, 86, 4]
abbrev dktX0_manAt_0 : List UInt8 := dkwX0_manAt_0 ++ dktX0_manAt_1
theorem dksX0_manAt_0 : cX0_manAt.data.toList.drop 0 = dktX0_manAt_0 := by decide +kernel
theorem dksX0_manAt_1 : cX0_manAt.data.toList.drop 22 = dktX0_manAt_1 := dk_seg dksX0_manAt_0 22 rfl rfl
theorem dX0_manAt_0 : decode cX0_manAt 0 = .ok (.aload_n 0, 1) := dk_42 (dk_at dksX0_manAt_0 0 rfl rfl)
theorem dX0_manAt_1 : decode cX0_manAt 1 = .ok (.iload_n 1, 1) := dk_27 (dk_at dksX0_manAt_0 1 rfl rfl)
theorem dX0_manAt_2 : decode cX0_manAt 2 = .ok (.iconst 0, 1) := dk_3 (dk_at dksX0_manAt_0 2 rfl rfl)
theorem dX0_manAt_3 : decode cX0_manAt 3 = .ok (.aload_n 0, 1) := dk_42 (dk_at dksX0_manAt_0 3 rfl rfl)
theorem dX0_manAt_4 : decode cX0_manAt 4 = .ok (.getfield 49, 3) := dk_180 0 49 (dk_at dksX0_manAt_0 4 rfl rfl)
theorem dX0_manAt_7 : decode cX0_manAt 7 = .ok (.getfield 100, 3) := dk_180 0 100 (dk_at dksX0_manAt_0 7 rfl rfl)
theorem dX0_manAt_10 : decode cX0_manAt 10 = .ok (.getfield 104, 3) := dk_180 0 104 (dk_at dksX0_manAt_0 10 rfl rfl)
theorem dX0_manAt_13 : decode cX0_manAt 13 = .ok (.invokevirtual 110, 3) := dk_182 0 110 (dk_at dksX0_manAt_0 13 rfl rfl)
theorem dX0_manAt_16 : decode cX0_manAt 16 = .ok (.iconst 1, 1) := dk_4 (dk_at dksX0_manAt_0 16 rfl rfl)
theorem dX0_manAt_17 : decode cX0_manAt 17 = .ok (.isub, 1) := dk_100 (dk_at dksX0_manAt_0 17 rfl rfl)
theorem dX0_manAt_18 : decode cX0_manAt 18 = .ok (.invokestatic 86, 3) := dk_184 0 86 (dk_at dksX0_manAt_0 18 rfl rfl)
theorem dX0_manAt_21 : decode cX0_manAt 21 = .ok (.iconst 1, 1) := dk_4 (dk_at dksX0_manAt_0 21 rfl rfl)
theorem dX0_manAt_22 : decode cX0_manAt 22 = .ok (.invokevirtual 94, 3) := dk_182 0 94 (dk_at dksX0_manAt_1 0 rfl rfl)
theorem dX0_manAt_25 : decode cX0_manAt 25 = .ok (.aload_n 0, 1) := dk_42 (dk_at dksX0_manAt_1 3 rfl rfl)
theorem dX0_manAt_26 : decode cX0_manAt 26 = .ok (.getfield 49, 3) := dk_180 0 49 (dk_at dksX0_manAt_1 4 rfl rfl)
theorem dX0_manAt_29 : decode cX0_manAt 29 = .ok (.getfield 100, 3) := dk_180 0 100 (dk_at dksX0_manAt_1 7 rfl rfl)
theorem dX0_manAt_32 : decode cX0_manAt 32 = .ok (.getfield 104, 3) := dk_180 0 104 (dk_at dksX0_manAt_1 10 rfl rfl)
theorem dX0_manAt_35 : decode cX0_manAt 35 = .ok (.iload_n 1, 1) := dk_27 (dk_at dksX0_manAt_1 13 rfl rfl)
theorem dX0_manAt_36 : decode cX0_manAt 36 = .ok (.invokevirtual 116, 3) := dk_182 0 116 (dk_at dksX0_manAt_1 14 rfl rfl)
theorem dX0_manAt_39 : decode cX0_manAt 39 = .ok (.checkcast 120, 3) := dk_192 0 120 (dk_at dksX0_manAt_1 17 rfl rfl)
theorem dX0_manAt_42 : decode cX0_manAt 42 = .ok (.areturn, 1) := dk_176 (dk_at dksX0_manAt_1 20 rfl rfl)
abbrev cX0_mostOf : ByteArray := prog_1_method_17_code
def yX0_mostOf : MethodName := ⟨RX0, "mostOf", "(I)I"⟩
def dkwX0_mostOf_2 : List UInt8 := [16, 10, 172, 5, 172, 16, 9, 172, 4, 172, 17, 9, 95, 172]
abbrev dktX0_mostOf_2 : List UInt8 := dkwX0_mostOf_2 ++ []
def dkwX0_mostOf_1 : List UInt8 := [170, 0, 0, 0, 0, 0, 41, 0, 0, 0, 0, 0, 0, 0, 3, 0, 0, 0, 31, 0, 0, 0, 34, 0, 0, 0, 36, 0, 0, 0, 39]
abbrev dktX0_mostOf_1 : List UInt8 := dkwX0_mostOf_1 ++ dktX0_mostOf_2
def dkwX0_mostOf_0 : List UInt8 := [26]
abbrev dktX0_mostOf_0 : List UInt8 := dkwX0_mostOf_0 ++ dktX0_mostOf_1
theorem dksX0_mostOf_0 : cX0_mostOf.data.toList.drop 0 = dktX0_mostOf_0 := by decide +kernel
theorem dksX0_mostOf_1 : cX0_mostOf.data.toList.drop 1 = dktX0_mostOf_1 := dk_seg dksX0_mostOf_0 1 rfl rfl
theorem dksX0_mostOf_2 : cX0_mostOf.data.toList.drop 32 = dktX0_mostOf_2 := dk_seg dksX0_mostOf_1 31 rfl rfl
theorem dX0_mostOf_0 : decode cX0_mostOf 0 = .ok (.iload_n 0, 1) := dk_26 (dk_at dksX0_mostOf_0 0 rfl rfl)
theorem dX0_mostOf_1 : decode cX0_mostOf 1 = .ok (.tableswitch 41 0 3 #[31, 34, 36, 39], 31) := by decide +kernel
theorem dX0_mostOf_32 : decode cX0_mostOf 32 = .ok (.bipush 10, 2) := dk_16 10 (dk_at dksX0_mostOf_2 0 rfl rfl)
theorem dX0_mostOf_34 : decode cX0_mostOf 34 = .ok (.ireturn, 1) := dk_172 (dk_at dksX0_mostOf_2 2 rfl rfl)
theorem dX0_mostOf_35 : decode cX0_mostOf 35 = .ok (.iconst 2, 1) := dk_5 (dk_at dksX0_mostOf_2 3 rfl rfl)
theorem dX0_mostOf_36 : decode cX0_mostOf 36 = .ok (.ireturn, 1) := dk_172 (dk_at dksX0_mostOf_2 4 rfl rfl)
theorem dX0_mostOf_37 : decode cX0_mostOf 37 = .ok (.bipush 9, 2) := dk_16 9 (dk_at dksX0_mostOf_2 5 rfl rfl)
theorem dX0_mostOf_39 : decode cX0_mostOf 39 = .ok (.ireturn, 1) := dk_172 (dk_at dksX0_mostOf_2 7 rfl rfl)
theorem dX0_mostOf_40 : decode cX0_mostOf 40 = .ok (.iconst 1, 1) := dk_4 (dk_at dksX0_mostOf_2 8 rfl rfl)
theorem dX0_mostOf_41 : decode cX0_mostOf 41 = .ok (.ireturn, 1) := dk_172 (dk_at dksX0_mostOf_2 9 rfl rfl)
theorem dX0_mostOf_42 : decode cX0_mostOf 42 = .ok (.sipush 2399, 3) := dk_17 9 95 (dk_at dksX0_mostOf_2 10 rfl rfl)
theorem dX0_mostOf_45 : decode cX0_mostOf 45 = .ok (.ireturn, 1) := dk_172 (dk_at dksX0_mostOf_2 13 rfl rfl)
abbrev cX0_of : ByteArray := prog_1_method_19_code
def yX0_of : MethodName := ⟨RX0, "of", "(II)I"⟩
def dkwX0_of_1 : List UInt8 := [42, 45, 182, 0, 133, 172]
abbrev dktX0_of_1 : List UInt8 := dkwX0_of_1 ++ []
def dkwX0_of_0 : List UInt8 := [42, 27, 182, 0, 147, 78, 42, 28, 3, 7, 184, 0, 86, 4, 182, 0, 94, 45, 28, 182, 0, 163, 172, 78]
abbrev dktX0_of_0 : List UInt8 := dkwX0_of_0 ++ dktX0_of_1
theorem dksX0_of_0 : cX0_of.data.toList.drop 0 = dktX0_of_0 := by decide +kernel
theorem dksX0_of_1 : cX0_of.data.toList.drop 24 = dktX0_of_1 := dk_seg dksX0_of_0 24 rfl rfl
theorem dX0_of_0 : decode cX0_of 0 = .ok (.aload_n 0, 1) := dk_42 (dk_at dksX0_of_0 0 rfl rfl)
theorem dX0_of_1 : decode cX0_of 1 = .ok (.iload_n 1, 1) := dk_27 (dk_at dksX0_of_0 1 rfl rfl)
theorem dX0_of_2 : decode cX0_of 2 = .ok (.invokevirtual 147, 3) := dk_182 0 147 (dk_at dksX0_of_0 2 rfl rfl)
theorem dX0_of_5 : decode cX0_of 5 = .ok (.astore_n 3, 1) := dk_78 (dk_at dksX0_of_0 5 rfl rfl)
theorem dX0_of_6 : decode cX0_of 6 = .ok (.aload_n 0, 1) := dk_42 (dk_at dksX0_of_0 6 rfl rfl)
theorem dX0_of_7 : decode cX0_of 7 = .ok (.iload_n 2, 1) := dk_28 (dk_at dksX0_of_0 7 rfl rfl)
theorem dX0_of_8 : decode cX0_of 8 = .ok (.iconst 0, 1) := dk_3 (dk_at dksX0_of_0 8 rfl rfl)
theorem dX0_of_9 : decode cX0_of 9 = .ok (.iconst 4, 1) := dk_7 (dk_at dksX0_of_0 9 rfl rfl)
theorem dX0_of_10 : decode cX0_of 10 = .ok (.invokestatic 86, 3) := dk_184 0 86 (dk_at dksX0_of_0 10 rfl rfl)
theorem dX0_of_13 : decode cX0_of 13 = .ok (.iconst 1, 1) := dk_4 (dk_at dksX0_of_0 13 rfl rfl)
theorem dX0_of_14 : decode cX0_of 14 = .ok (.invokevirtual 94, 3) := dk_182 0 94 (dk_at dksX0_of_0 14 rfl rfl)
theorem dX0_of_17 : decode cX0_of 17 = .ok (.aload_n 3, 1) := dk_45 (dk_at dksX0_of_0 17 rfl rfl)
theorem dX0_of_18 : decode cX0_of 18 = .ok (.iload_n 2, 1) := dk_28 (dk_at dksX0_of_0 18 rfl rfl)
theorem dX0_of_19 : decode cX0_of 19 = .ok (.invokevirtual 163, 3) := dk_182 0 163 (dk_at dksX0_of_0 19 rfl rfl)
theorem dX0_of_22 : decode cX0_of 22 = .ok (.ireturn, 1) := dk_172 (dk_at dksX0_of_0 22 rfl rfl)
theorem dX0_of_23 : decode cX0_of 23 = .ok (.astore_n 3, 1) := dk_78 (dk_at dksX0_of_0 23 rfl rfl)
theorem dX0_of_24 : decode cX0_of 24 = .ok (.aload_n 0, 1) := dk_42 (dk_at dksX0_of_1 0 rfl rfl)
theorem dX0_of_25 : decode cX0_of 25 = .ok (.aload_n 3, 1) := dk_45 (dk_at dksX0_of_1 1 rfl rfl)
theorem dX0_of_26 : decode cX0_of 26 = .ok (.invokevirtual 133, 3) := dk_182 0 133 (dk_at dksX0_of_1 2 rfl rfl)
theorem dX0_of_29 : decode cX0_of 29 = .ok (.ireturn, 1) := dk_172 (dk_at dksX0_of_1 5 rfl rfl)
abbrev cX0_door : ByteArray := prog_1_method_20_code
def yX0_door : MethodName := ⟨RX0, "door", "(II)I"⟩
def dkwX0_door_3 : List UInt8 := [181, 0, 165, 29, 172, 78, 42, 45, 182, 0, 133, 172]
abbrev dktX0_door_3 : List UInt8 := dkwX0_door_3 ++ []
def dkwX0_door_2 : List UInt8 := [180, 0, 100, 42, 180, 0, 49, 180, 0, 100, 180, 0, 165, 4, 27, 120, 2, 130, 126, 28, 27, 120, 128]
abbrev dktX0_door_2 : List UInt8 := dkwX0_door_2 ++ dktX0_door_3
def dkwX0_door_1 : List UInt8 := [182, 0, 94, 42, 180, 0, 49, 180, 0, 100, 180, 0, 165, 27, 122, 4, 126, 62, 42, 180, 0, 49]
abbrev dktX0_door_1 : List UInt8 := dkwX0_door_1 ++ dktX0_door_2
def dkwX0_door_0 : List UInt8 := [42, 27, 3, 16, 6, 184, 0, 86, 153, 0, 14, 28, 184, 0, 122, 153, 0, 7, 4, 167, 0, 4, 3, 4]
abbrev dktX0_door_0 : List UInt8 := dkwX0_door_0 ++ dktX0_door_1
theorem dksX0_door_0 : cX0_door.data.toList.drop 0 = dktX0_door_0 := by decide +kernel
theorem dksX0_door_1 : cX0_door.data.toList.drop 24 = dktX0_door_1 := dk_seg dksX0_door_0 24 rfl rfl
theorem dksX0_door_2 : cX0_door.data.toList.drop 46 = dktX0_door_2 := dk_seg dksX0_door_1 22 rfl rfl
theorem dksX0_door_3 : cX0_door.data.toList.drop 69 = dktX0_door_3 := dk_seg dksX0_door_2 23 rfl rfl
theorem dX0_door_0 : decode cX0_door 0 = .ok (.aload_n 0, 1) := dk_42 (dk_at dksX0_door_0 0 rfl rfl)
theorem dX0_door_1 : decode cX0_door 1 = .ok (.iload_n 1, 1) := dk_27 (dk_at dksX0_door_0 1 rfl rfl)
theorem dX0_door_2 : decode cX0_door 2 = .ok (.iconst 0, 1) := dk_3 (dk_at dksX0_door_0 2 rfl rfl)
theorem dX0_door_3 : decode cX0_door 3 = .ok (.bipush 6, 2) := dk_16 6 (dk_at dksX0_door_0 3 rfl rfl)
theorem dX0_door_5 : decode cX0_door 5 = .ok (.invokestatic 86, 3) := dk_184 0 86 (dk_at dksX0_door_0 5 rfl rfl)
theorem dX0_door_8 : decode cX0_door 8 = .ok (.ifCond .eq 14, 3) := dk_153 0 14 (dk_at dksX0_door_0 8 rfl rfl)
theorem dX0_door_11 : decode cX0_door 11 = .ok (.iload_n 2, 1) := dk_28 (dk_at dksX0_door_0 11 rfl rfl)
theorem dX0_door_12 : decode cX0_door 12 = .ok (.invokestatic 122, 3) := dk_184 0 122 (dk_at dksX0_door_0 12 rfl rfl)
theorem dX0_door_15 : decode cX0_door 15 = .ok (.ifCond .eq 7, 3) := dk_153 0 7 (dk_at dksX0_door_0 15 rfl rfl)
theorem dX0_door_18 : decode cX0_door 18 = .ok (.iconst 1, 1) := dk_4 (dk_at dksX0_door_0 18 rfl rfl)
theorem dX0_door_19 : decode cX0_door 19 = .ok (.goto 4, 3) := dk_167 0 4 (dk_at dksX0_door_0 19 rfl rfl)
theorem dX0_door_22 : decode cX0_door 22 = .ok (.iconst 0, 1) := dk_3 (dk_at dksX0_door_0 22 rfl rfl)
theorem dX0_door_23 : decode cX0_door 23 = .ok (.iconst 1, 1) := dk_4 (dk_at dksX0_door_0 23 rfl rfl)
theorem dX0_door_24 : decode cX0_door 24 = .ok (.invokevirtual 94, 3) := dk_182 0 94 (dk_at dksX0_door_1 0 rfl rfl)
theorem dX0_door_27 : decode cX0_door 27 = .ok (.aload_n 0, 1) := dk_42 (dk_at dksX0_door_1 3 rfl rfl)
theorem dX0_door_28 : decode cX0_door 28 = .ok (.getfield 49, 3) := dk_180 0 49 (dk_at dksX0_door_1 4 rfl rfl)
theorem dX0_door_31 : decode cX0_door 31 = .ok (.getfield 100, 3) := dk_180 0 100 (dk_at dksX0_door_1 7 rfl rfl)
theorem dX0_door_34 : decode cX0_door 34 = .ok (.getfield 165, 3) := dk_180 0 165 (dk_at dksX0_door_1 10 rfl rfl)
theorem dX0_door_37 : decode cX0_door 37 = .ok (.iload_n 1, 1) := dk_27 (dk_at dksX0_door_1 13 rfl rfl)
theorem dX0_door_38 : decode cX0_door 38 = .ok (.ishr, 1) := dk_122 (dk_at dksX0_door_1 14 rfl rfl)
theorem dX0_door_39 : decode cX0_door 39 = .ok (.iconst 1, 1) := dk_4 (dk_at dksX0_door_1 15 rfl rfl)
theorem dX0_door_40 : decode cX0_door 40 = .ok (.iand, 1) := dk_126 (dk_at dksX0_door_1 16 rfl rfl)
theorem dX0_door_41 : decode cX0_door 41 = .ok (.istore_n 3, 1) := dk_62 (dk_at dksX0_door_1 17 rfl rfl)
theorem dX0_door_42 : decode cX0_door 42 = .ok (.aload_n 0, 1) := dk_42 (dk_at dksX0_door_1 18 rfl rfl)
theorem dX0_door_43 : decode cX0_door 43 = .ok (.getfield 49, 3) := dk_180 0 49 (dk_at dksX0_door_1 19 rfl rfl)
theorem dX0_door_46 : decode cX0_door 46 = .ok (.getfield 100, 3) := dk_180 0 100 (dk_at dksX0_door_2 0 rfl rfl)
theorem dX0_door_49 : decode cX0_door 49 = .ok (.aload_n 0, 1) := dk_42 (dk_at dksX0_door_2 3 rfl rfl)
theorem dX0_door_50 : decode cX0_door 50 = .ok (.getfield 49, 3) := dk_180 0 49 (dk_at dksX0_door_2 4 rfl rfl)
theorem dX0_door_53 : decode cX0_door 53 = .ok (.getfield 100, 3) := dk_180 0 100 (dk_at dksX0_door_2 7 rfl rfl)
theorem dX0_door_56 : decode cX0_door 56 = .ok (.getfield 165, 3) := dk_180 0 165 (dk_at dksX0_door_2 10 rfl rfl)
theorem dX0_door_59 : decode cX0_door 59 = .ok (.iconst 1, 1) := dk_4 (dk_at dksX0_door_2 13 rfl rfl)
theorem dX0_door_60 : decode cX0_door 60 = .ok (.iload_n 1, 1) := dk_27 (dk_at dksX0_door_2 14 rfl rfl)
theorem dX0_door_61 : decode cX0_door 61 = .ok (.ishl, 1) := dk_120 (dk_at dksX0_door_2 15 rfl rfl)
theorem dX0_door_62 : decode cX0_door 62 = .ok (.iconst (-1), 1) := dk_2 (dk_at dksX0_door_2 16 rfl rfl)
theorem dX0_door_63 : decode cX0_door 63 = .ok (.ixor, 1) := dk_130 (dk_at dksX0_door_2 17 rfl rfl)
theorem dX0_door_64 : decode cX0_door 64 = .ok (.iand, 1) := dk_126 (dk_at dksX0_door_2 18 rfl rfl)
theorem dX0_door_65 : decode cX0_door 65 = .ok (.iload_n 2, 1) := dk_28 (dk_at dksX0_door_2 19 rfl rfl)
theorem dX0_door_66 : decode cX0_door 66 = .ok (.iload_n 1, 1) := dk_27 (dk_at dksX0_door_2 20 rfl rfl)
theorem dX0_door_67 : decode cX0_door 67 = .ok (.ishl, 1) := dk_120 (dk_at dksX0_door_2 21 rfl rfl)
theorem dX0_door_68 : decode cX0_door 68 = .ok (.ior, 1) := dk_128 (dk_at dksX0_door_2 22 rfl rfl)
theorem dX0_door_69 : decode cX0_door 69 = .ok (.putfield 165, 3) := dk_181 0 165 (dk_at dksX0_door_3 0 rfl rfl)
theorem dX0_door_72 : decode cX0_door 72 = .ok (.iload_n 3, 1) := dk_29 (dk_at dksX0_door_3 3 rfl rfl)
theorem dX0_door_73 : decode cX0_door 73 = .ok (.ireturn, 1) := dk_172 (dk_at dksX0_door_3 4 rfl rfl)
theorem dX0_door_74 : decode cX0_door 74 = .ok (.astore_n 3, 1) := dk_78 (dk_at dksX0_door_3 5 rfl rfl)
theorem dX0_door_75 : decode cX0_door 75 = .ok (.aload_n 0, 1) := dk_42 (dk_at dksX0_door_3 6 rfl rfl)
theorem dX0_door_76 : decode cX0_door 76 = .ok (.aload_n 3, 1) := dk_45 (dk_at dksX0_door_3 7 rfl rfl)
theorem dX0_door_77 : decode cX0_door 77 = .ok (.invokevirtual 133, 3) := dk_182 0 133 (dk_at dksX0_door_3 8 rfl rfl)
theorem dX0_door_80 : decode cX0_door 80 = .ok (.ireturn, 1) := dk_172 (dk_at dksX0_door_3 11 rfl rfl)
abbrev cX0_valve : ByteArray := prog_1_method_21_code
def yX0_valve : MethodName := ⟨RX0, "valve", "(II)I"⟩
def dkwX0_valve_4 : List UInt8 := [45, 182, 0, 133, 172]
abbrev dktX0_valve_4 : List UInt8 := dkwX0_valve_4 ++ []
def dkwX0_valve_3 : List UInt8 := [180, 0, 168, 28, 79, 45, 89, 180, 0, 168, 4, 96, 181, 0, 168, 45, 180, 0, 168, 4, 100, 172, 78, 42]
abbrev dktX0_valve_3 : List UInt8 := dkwX0_valve_3 ++ dktX0_valve_4
def dkwX0_valve_2 : List UInt8 := [167, 0, 4, 3, 7, 182, 0, 94, 45, 180, 0, 171, 45, 180, 0, 168, 27, 79, 45, 180, 0, 174, 45]
abbrev dktX0_valve_2 : List UInt8 := dkwX0_valve_2 ++ dktX0_valve_3
def dkwX0_valve_1 : List UInt8 := [182, 0, 94, 42, 180, 0, 49, 180, 0, 100, 78, 42, 45, 180, 0, 168, 16, 12, 162, 0, 7, 4]
abbrev dktX0_valve_1 : List UInt8 := dkwX0_valve_1 ++ dktX0_valve_2
def dkwX0_valve_0 : List UInt8 := [42, 27, 184, 0, 137, 153, 0, 17, 28, 4, 16, 20, 184, 0, 86, 153, 0, 7, 4, 167, 0, 4, 3, 4]
abbrev dktX0_valve_0 : List UInt8 := dkwX0_valve_0 ++ dktX0_valve_1
theorem dksX0_valve_0 : cX0_valve.data.toList.drop 0 = dktX0_valve_0 := by decide +kernel
theorem dksX0_valve_1 : cX0_valve.data.toList.drop 24 = dktX0_valve_1 := dk_seg dksX0_valve_0 24 rfl rfl
theorem dksX0_valve_2 : cX0_valve.data.toList.drop 46 = dktX0_valve_2 := dk_seg dksX0_valve_1 22 rfl rfl
theorem dksX0_valve_3 : cX0_valve.data.toList.drop 69 = dktX0_valve_3 := dk_seg dksX0_valve_2 23 rfl rfl
theorem dksX0_valve_4 : cX0_valve.data.toList.drop 93 = dktX0_valve_4 := dk_seg dksX0_valve_3 24 rfl rfl
theorem dX0_valve_0 : decode cX0_valve 0 = .ok (.aload_n 0, 1) := dk_42 (dk_at dksX0_valve_0 0 rfl rfl)
theorem dX0_valve_1 : decode cX0_valve 1 = .ok (.iload_n 1, 1) := dk_27 (dk_at dksX0_valve_0 1 rfl rfl)
theorem dX0_valve_2 : decode cX0_valve 2 = .ok (.invokestatic 137, 3) := dk_184 0 137 (dk_at dksX0_valve_0 2 rfl rfl)
theorem dX0_valve_5 : decode cX0_valve 5 = .ok (.ifCond .eq 17, 3) := dk_153 0 17 (dk_at dksX0_valve_0 5 rfl rfl)
theorem dX0_valve_8 : decode cX0_valve 8 = .ok (.iload_n 2, 1) := dk_28 (dk_at dksX0_valve_0 8 rfl rfl)
theorem dX0_valve_9 : decode cX0_valve 9 = .ok (.iconst 1, 1) := dk_4 (dk_at dksX0_valve_0 9 rfl rfl)
theorem dX0_valve_10 : decode cX0_valve 10 = .ok (.bipush 20, 2) := dk_16 20 (dk_at dksX0_valve_0 10 rfl rfl)
theorem dX0_valve_12 : decode cX0_valve 12 = .ok (.invokestatic 86, 3) := dk_184 0 86 (dk_at dksX0_valve_0 12 rfl rfl)
theorem dX0_valve_15 : decode cX0_valve 15 = .ok (.ifCond .eq 7, 3) := dk_153 0 7 (dk_at dksX0_valve_0 15 rfl rfl)
theorem dX0_valve_18 : decode cX0_valve 18 = .ok (.iconst 1, 1) := dk_4 (dk_at dksX0_valve_0 18 rfl rfl)
theorem dX0_valve_19 : decode cX0_valve 19 = .ok (.goto 4, 3) := dk_167 0 4 (dk_at dksX0_valve_0 19 rfl rfl)
theorem dX0_valve_22 : decode cX0_valve 22 = .ok (.iconst 0, 1) := dk_3 (dk_at dksX0_valve_0 22 rfl rfl)
theorem dX0_valve_23 : decode cX0_valve 23 = .ok (.iconst 1, 1) := dk_4 (dk_at dksX0_valve_0 23 rfl rfl)
theorem dX0_valve_24 : decode cX0_valve 24 = .ok (.invokevirtual 94, 3) := dk_182 0 94 (dk_at dksX0_valve_1 0 rfl rfl)
theorem dX0_valve_27 : decode cX0_valve 27 = .ok (.aload_n 0, 1) := dk_42 (dk_at dksX0_valve_1 3 rfl rfl)
theorem dX0_valve_28 : decode cX0_valve 28 = .ok (.getfield 49, 3) := dk_180 0 49 (dk_at dksX0_valve_1 4 rfl rfl)
theorem dX0_valve_31 : decode cX0_valve 31 = .ok (.getfield 100, 3) := dk_180 0 100 (dk_at dksX0_valve_1 7 rfl rfl)
theorem dX0_valve_34 : decode cX0_valve 34 = .ok (.astore_n 3, 1) := dk_78 (dk_at dksX0_valve_1 10 rfl rfl)
theorem dX0_valve_35 : decode cX0_valve 35 = .ok (.aload_n 0, 1) := dk_42 (dk_at dksX0_valve_1 11 rfl rfl)
theorem dX0_valve_36 : decode cX0_valve 36 = .ok (.aload_n 3, 1) := dk_45 (dk_at dksX0_valve_1 12 rfl rfl)
theorem dX0_valve_37 : decode cX0_valve 37 = .ok (.getfield 168, 3) := dk_180 0 168 (dk_at dksX0_valve_1 13 rfl rfl)
theorem dX0_valve_40 : decode cX0_valve 40 = .ok (.bipush 12, 2) := dk_16 12 (dk_at dksX0_valve_1 16 rfl rfl)
theorem dX0_valve_42 : decode cX0_valve 42 = .ok (.if_icmp .ge 7, 3) := dk_162 0 7 (dk_at dksX0_valve_1 18 rfl rfl)
theorem dX0_valve_45 : decode cX0_valve 45 = .ok (.iconst 1, 1) := dk_4 (dk_at dksX0_valve_1 21 rfl rfl)
theorem dX0_valve_46 : decode cX0_valve 46 = .ok (.goto 4, 3) := dk_167 0 4 (dk_at dksX0_valve_2 0 rfl rfl)
theorem dX0_valve_49 : decode cX0_valve 49 = .ok (.iconst 0, 1) := dk_3 (dk_at dksX0_valve_2 3 rfl rfl)
theorem dX0_valve_50 : decode cX0_valve 50 = .ok (.iconst 4, 1) := dk_7 (dk_at dksX0_valve_2 4 rfl rfl)
theorem dX0_valve_51 : decode cX0_valve 51 = .ok (.invokevirtual 94, 3) := dk_182 0 94 (dk_at dksX0_valve_2 5 rfl rfl)
theorem dX0_valve_54 : decode cX0_valve 54 = .ok (.aload_n 3, 1) := dk_45 (dk_at dksX0_valve_2 8 rfl rfl)
theorem dX0_valve_55 : decode cX0_valve 55 = .ok (.getfield 171, 3) := dk_180 0 171 (dk_at dksX0_valve_2 9 rfl rfl)
theorem dX0_valve_58 : decode cX0_valve 58 = .ok (.aload_n 3, 1) := dk_45 (dk_at dksX0_valve_2 12 rfl rfl)
theorem dX0_valve_59 : decode cX0_valve 59 = .ok (.getfield 168, 3) := dk_180 0 168 (dk_at dksX0_valve_2 13 rfl rfl)
theorem dX0_valve_62 : decode cX0_valve 62 = .ok (.iload_n 1, 1) := dk_27 (dk_at dksX0_valve_2 16 rfl rfl)
theorem dX0_valve_63 : decode cX0_valve 63 = .ok (.iastore, 1) := dk_79 (dk_at dksX0_valve_2 17 rfl rfl)
theorem dX0_valve_64 : decode cX0_valve 64 = .ok (.aload_n 3, 1) := dk_45 (dk_at dksX0_valve_2 18 rfl rfl)
theorem dX0_valve_65 : decode cX0_valve 65 = .ok (.getfield 174, 3) := dk_180 0 174 (dk_at dksX0_valve_2 19 rfl rfl)
theorem dX0_valve_68 : decode cX0_valve 68 = .ok (.aload_n 3, 1) := dk_45 (dk_at dksX0_valve_2 22 rfl rfl)
theorem dX0_valve_69 : decode cX0_valve 69 = .ok (.getfield 168, 3) := dk_180 0 168 (dk_at dksX0_valve_3 0 rfl rfl)
theorem dX0_valve_72 : decode cX0_valve 72 = .ok (.iload_n 2, 1) := dk_28 (dk_at dksX0_valve_3 3 rfl rfl)
theorem dX0_valve_73 : decode cX0_valve 73 = .ok (.iastore, 1) := dk_79 (dk_at dksX0_valve_3 4 rfl rfl)
theorem dX0_valve_74 : decode cX0_valve 74 = .ok (.aload_n 3, 1) := dk_45 (dk_at dksX0_valve_3 5 rfl rfl)
theorem dX0_valve_75 : decode cX0_valve 75 = .ok (.dup, 1) := dk_89 (dk_at dksX0_valve_3 6 rfl rfl)
theorem dX0_valve_76 : decode cX0_valve 76 = .ok (.getfield 168, 3) := dk_180 0 168 (dk_at dksX0_valve_3 7 rfl rfl)
theorem dX0_valve_79 : decode cX0_valve 79 = .ok (.iconst 1, 1) := dk_4 (dk_at dksX0_valve_3 10 rfl rfl)
theorem dX0_valve_80 : decode cX0_valve 80 = .ok (.iadd, 1) := dk_96 (dk_at dksX0_valve_3 11 rfl rfl)
theorem dX0_valve_81 : decode cX0_valve 81 = .ok (.putfield 168, 3) := dk_181 0 168 (dk_at dksX0_valve_3 12 rfl rfl)
theorem dX0_valve_84 : decode cX0_valve 84 = .ok (.aload_n 3, 1) := dk_45 (dk_at dksX0_valve_3 15 rfl rfl)
theorem dX0_valve_85 : decode cX0_valve 85 = .ok (.getfield 168, 3) := dk_180 0 168 (dk_at dksX0_valve_3 16 rfl rfl)
theorem dX0_valve_88 : decode cX0_valve 88 = .ok (.iconst 1, 1) := dk_4 (dk_at dksX0_valve_3 19 rfl rfl)
theorem dX0_valve_89 : decode cX0_valve 89 = .ok (.isub, 1) := dk_100 (dk_at dksX0_valve_3 20 rfl rfl)
theorem dX0_valve_90 : decode cX0_valve 90 = .ok (.ireturn, 1) := dk_172 (dk_at dksX0_valve_3 21 rfl rfl)
theorem dX0_valve_91 : decode cX0_valve 91 = .ok (.astore_n 3, 1) := dk_78 (dk_at dksX0_valve_3 22 rfl rfl)
theorem dX0_valve_92 : decode cX0_valve 92 = .ok (.aload_n 0, 1) := dk_42 (dk_at dksX0_valve_3 23 rfl rfl)
theorem dX0_valve_93 : decode cX0_valve 93 = .ok (.aload_n 3, 1) := dk_45 (dk_at dksX0_valve_4 0 rfl rfl)
theorem dX0_valve_94 : decode cX0_valve 94 = .ok (.invokevirtual 133, 3) := dk_182 0 133 (dk_at dksX0_valve_4 1 rfl rfl)
theorem dX0_valve_97 : decode cX0_valve 97 = .ok (.ireturn, 1) := dk_172 (dk_at dksX0_valve_4 4 rfl rfl)
abbrev cX0_turn : ByteArray := prog_1_method_22_code
def yX0_turn : MethodName := ⟨RX0, "turn", "(II)I"⟩
def dkwX0_turn_3 : List UInt8 := [42, 45, 182, 0, 133, 172]
abbrev dktX0_turn_3 : List UInt8 := dkwX0_turn_3 ++ []
def dkwX0_turn_2 : List UInt8 := [54, 4, 45, 45, 180, 0, 177, 4, 27, 120, 2, 130, 126, 28, 27, 120, 128, 181, 0, 177, 21, 4, 172, 78]
abbrev dktX0_turn_2 : List UInt8 := dkwX0_turn_2 ++ dktX0_turn_3
def dkwX0_turn_1 : List UInt8 := [184, 0, 122, 153, 0, 7, 4, 167, 0, 4, 3, 4, 182, 0, 94, 45, 180, 0, 177, 27, 122, 4, 126]
abbrev dktX0_turn_1 : List UInt8 := dkwX0_turn_1 ++ dktX0_turn_2
def dkwX0_turn_0 : List UInt8 := [42, 180, 0, 49, 180, 0, 100, 78, 42, 27, 3, 45, 180, 0, 168, 4, 100, 184, 0, 86, 153, 0, 14, 28]
abbrev dktX0_turn_0 : List UInt8 := dkwX0_turn_0 ++ dktX0_turn_1
theorem dksX0_turn_0 : cX0_turn.data.toList.drop 0 = dktX0_turn_0 := by decide +kernel
theorem dksX0_turn_1 : cX0_turn.data.toList.drop 24 = dktX0_turn_1 := dk_seg dksX0_turn_0 24 rfl rfl
theorem dksX0_turn_2 : cX0_turn.data.toList.drop 47 = dktX0_turn_2 := dk_seg dksX0_turn_1 23 rfl rfl
theorem dksX0_turn_3 : cX0_turn.data.toList.drop 71 = dktX0_turn_3 := dk_seg dksX0_turn_2 24 rfl rfl
theorem dX0_turn_0 : decode cX0_turn 0 = .ok (.aload_n 0, 1) := dk_42 (dk_at dksX0_turn_0 0 rfl rfl)
theorem dX0_turn_1 : decode cX0_turn 1 = .ok (.getfield 49, 3) := dk_180 0 49 (dk_at dksX0_turn_0 1 rfl rfl)
theorem dX0_turn_4 : decode cX0_turn 4 = .ok (.getfield 100, 3) := dk_180 0 100 (dk_at dksX0_turn_0 4 rfl rfl)
theorem dX0_turn_7 : decode cX0_turn 7 = .ok (.astore_n 3, 1) := dk_78 (dk_at dksX0_turn_0 7 rfl rfl)
theorem dX0_turn_8 : decode cX0_turn 8 = .ok (.aload_n 0, 1) := dk_42 (dk_at dksX0_turn_0 8 rfl rfl)
theorem dX0_turn_9 : decode cX0_turn 9 = .ok (.iload_n 1, 1) := dk_27 (dk_at dksX0_turn_0 9 rfl rfl)
theorem dX0_turn_10 : decode cX0_turn 10 = .ok (.iconst 0, 1) := dk_3 (dk_at dksX0_turn_0 10 rfl rfl)
theorem dX0_turn_11 : decode cX0_turn 11 = .ok (.aload_n 3, 1) := dk_45 (dk_at dksX0_turn_0 11 rfl rfl)
theorem dX0_turn_12 : decode cX0_turn 12 = .ok (.getfield 168, 3) := dk_180 0 168 (dk_at dksX0_turn_0 12 rfl rfl)
theorem dX0_turn_15 : decode cX0_turn 15 = .ok (.iconst 1, 1) := dk_4 (dk_at dksX0_turn_0 15 rfl rfl)
theorem dX0_turn_16 : decode cX0_turn 16 = .ok (.isub, 1) := dk_100 (dk_at dksX0_turn_0 16 rfl rfl)
theorem dX0_turn_17 : decode cX0_turn 17 = .ok (.invokestatic 86, 3) := dk_184 0 86 (dk_at dksX0_turn_0 17 rfl rfl)
theorem dX0_turn_20 : decode cX0_turn 20 = .ok (.ifCond .eq 14, 3) := dk_153 0 14 (dk_at dksX0_turn_0 20 rfl rfl)
theorem dX0_turn_23 : decode cX0_turn 23 = .ok (.iload_n 2, 1) := dk_28 (dk_at dksX0_turn_0 23 rfl rfl)
theorem dX0_turn_24 : decode cX0_turn 24 = .ok (.invokestatic 122, 3) := dk_184 0 122 (dk_at dksX0_turn_1 0 rfl rfl)
theorem dX0_turn_27 : decode cX0_turn 27 = .ok (.ifCond .eq 7, 3) := dk_153 0 7 (dk_at dksX0_turn_1 3 rfl rfl)
theorem dX0_turn_30 : decode cX0_turn 30 = .ok (.iconst 1, 1) := dk_4 (dk_at dksX0_turn_1 6 rfl rfl)
theorem dX0_turn_31 : decode cX0_turn 31 = .ok (.goto 4, 3) := dk_167 0 4 (dk_at dksX0_turn_1 7 rfl rfl)
theorem dX0_turn_34 : decode cX0_turn 34 = .ok (.iconst 0, 1) := dk_3 (dk_at dksX0_turn_1 10 rfl rfl)
theorem dX0_turn_35 : decode cX0_turn 35 = .ok (.iconst 1, 1) := dk_4 (dk_at dksX0_turn_1 11 rfl rfl)
theorem dX0_turn_36 : decode cX0_turn 36 = .ok (.invokevirtual 94, 3) := dk_182 0 94 (dk_at dksX0_turn_1 12 rfl rfl)
theorem dX0_turn_39 : decode cX0_turn 39 = .ok (.aload_n 3, 1) := dk_45 (dk_at dksX0_turn_1 15 rfl rfl)
theorem dX0_turn_40 : decode cX0_turn 40 = .ok (.getfield 177, 3) := dk_180 0 177 (dk_at dksX0_turn_1 16 rfl rfl)
theorem dX0_turn_43 : decode cX0_turn 43 = .ok (.iload_n 1, 1) := dk_27 (dk_at dksX0_turn_1 19 rfl rfl)
theorem dX0_turn_44 : decode cX0_turn 44 = .ok (.ishr, 1) := dk_122 (dk_at dksX0_turn_1 20 rfl rfl)
theorem dX0_turn_45 : decode cX0_turn 45 = .ok (.iconst 1, 1) := dk_4 (dk_at dksX0_turn_1 21 rfl rfl)
theorem dX0_turn_46 : decode cX0_turn 46 = .ok (.iand, 1) := dk_126 (dk_at dksX0_turn_1 22 rfl rfl)
theorem dX0_turn_47 : decode cX0_turn 47 = .ok (.istore 4, 2) := dk_54 4 (dk_at dksX0_turn_2 0 rfl rfl)
theorem dX0_turn_49 : decode cX0_turn 49 = .ok (.aload_n 3, 1) := dk_45 (dk_at dksX0_turn_2 2 rfl rfl)
theorem dX0_turn_50 : decode cX0_turn 50 = .ok (.aload_n 3, 1) := dk_45 (dk_at dksX0_turn_2 3 rfl rfl)
theorem dX0_turn_51 : decode cX0_turn 51 = .ok (.getfield 177, 3) := dk_180 0 177 (dk_at dksX0_turn_2 4 rfl rfl)
theorem dX0_turn_54 : decode cX0_turn 54 = .ok (.iconst 1, 1) := dk_4 (dk_at dksX0_turn_2 7 rfl rfl)
theorem dX0_turn_55 : decode cX0_turn 55 = .ok (.iload_n 1, 1) := dk_27 (dk_at dksX0_turn_2 8 rfl rfl)
theorem dX0_turn_56 : decode cX0_turn 56 = .ok (.ishl, 1) := dk_120 (dk_at dksX0_turn_2 9 rfl rfl)
theorem dX0_turn_57 : decode cX0_turn 57 = .ok (.iconst (-1), 1) := dk_2 (dk_at dksX0_turn_2 10 rfl rfl)
theorem dX0_turn_58 : decode cX0_turn 58 = .ok (.ixor, 1) := dk_130 (dk_at dksX0_turn_2 11 rfl rfl)
theorem dX0_turn_59 : decode cX0_turn 59 = .ok (.iand, 1) := dk_126 (dk_at dksX0_turn_2 12 rfl rfl)
theorem dX0_turn_60 : decode cX0_turn 60 = .ok (.iload_n 2, 1) := dk_28 (dk_at dksX0_turn_2 13 rfl rfl)
theorem dX0_turn_61 : decode cX0_turn 61 = .ok (.iload_n 1, 1) := dk_27 (dk_at dksX0_turn_2 14 rfl rfl)
theorem dX0_turn_62 : decode cX0_turn 62 = .ok (.ishl, 1) := dk_120 (dk_at dksX0_turn_2 15 rfl rfl)
theorem dX0_turn_63 : decode cX0_turn 63 = .ok (.ior, 1) := dk_128 (dk_at dksX0_turn_2 16 rfl rfl)
theorem dX0_turn_64 : decode cX0_turn 64 = .ok (.putfield 177, 3) := dk_181 0 177 (dk_at dksX0_turn_2 17 rfl rfl)
theorem dX0_turn_67 : decode cX0_turn 67 = .ok (.iload 4, 2) := dk_21 4 (dk_at dksX0_turn_2 20 rfl rfl)
theorem dX0_turn_69 : decode cX0_turn 69 = .ok (.ireturn, 1) := dk_172 (dk_at dksX0_turn_2 22 rfl rfl)
theorem dX0_turn_70 : decode cX0_turn 70 = .ok (.astore_n 3, 1) := dk_78 (dk_at dksX0_turn_2 23 rfl rfl)
theorem dX0_turn_71 : decode cX0_turn 71 = .ok (.aload_n 0, 1) := dk_42 (dk_at dksX0_turn_3 0 rfl rfl)
theorem dX0_turn_72 : decode cX0_turn 72 = .ok (.aload_n 3, 1) := dk_45 (dk_at dksX0_turn_3 1 rfl rfl)
theorem dX0_turn_73 : decode cX0_turn 73 = .ok (.invokevirtual 133, 3) := dk_182 0 133 (dk_at dksX0_turn_3 2 rfl rfl)
theorem dX0_turn_76 : decode cX0_turn 76 = .ok (.ireturn, 1) := dk_172 (dk_at dksX0_turn_3 5 rfl rfl)
abbrev cX0_room : ByteArray := prog_1_method_23_code
def yX0_room : MethodName := ⟨RX0, "room", "(II)I"⟩
def dkwX0_room_3 : List UInt8 := [180, 0, 100, 27, 182, 0, 186, 172, 78, 42, 45, 182, 0, 133, 172]
abbrev dktX0_room_3 : List UInt8 := dkwX0_room_3 ++ []
def dkwX0_room_2 : List UInt8 := [160, 0, 18, 42, 180, 0, 49, 180, 0, 100, 180, 0, 183, 27, 46, 167, 0, 14, 42, 180, 0, 49]
abbrev dktX0_room_2 : List UInt8 := dkwX0_room_2 ++ dktX0_room_3
def dkwX0_room_1 : List UInt8 := [182, 0, 94, 28, 154, 0, 18, 42, 180, 0, 49, 180, 0, 100, 180, 0, 180, 27, 46, 167, 0, 34, 28, 4]
abbrev dktX0_room_1 : List UInt8 := dkwX0_room_1 ++ dktX0_room_2
def dkwX0_room_0 : List UInt8 := [42, 27, 184, 0, 137, 153, 0, 16, 28, 3, 5, 184, 0, 86, 153, 0, 7, 4, 167, 0, 4, 3, 4]
abbrev dktX0_room_0 : List UInt8 := dkwX0_room_0 ++ dktX0_room_1
theorem dksX0_room_0 : cX0_room.data.toList.drop 0 = dktX0_room_0 := by decide +kernel
theorem dksX0_room_1 : cX0_room.data.toList.drop 23 = dktX0_room_1 := dk_seg dksX0_room_0 23 rfl rfl
theorem dksX0_room_2 : cX0_room.data.toList.drop 47 = dktX0_room_2 := dk_seg dksX0_room_1 24 rfl rfl
theorem dksX0_room_3 : cX0_room.data.toList.drop 69 = dktX0_room_3 := dk_seg dksX0_room_2 22 rfl rfl
theorem dX0_room_0 : decode cX0_room 0 = .ok (.aload_n 0, 1) := dk_42 (dk_at dksX0_room_0 0 rfl rfl)
theorem dX0_room_1 : decode cX0_room 1 = .ok (.iload_n 1, 1) := dk_27 (dk_at dksX0_room_0 1 rfl rfl)
theorem dX0_room_2 : decode cX0_room 2 = .ok (.invokestatic 137, 3) := dk_184 0 137 (dk_at dksX0_room_0 2 rfl rfl)
theorem dX0_room_5 : decode cX0_room 5 = .ok (.ifCond .eq 16, 3) := dk_153 0 16 (dk_at dksX0_room_0 5 rfl rfl)
theorem dX0_room_8 : decode cX0_room 8 = .ok (.iload_n 2, 1) := dk_28 (dk_at dksX0_room_0 8 rfl rfl)
theorem dX0_room_9 : decode cX0_room 9 = .ok (.iconst 0, 1) := dk_3 (dk_at dksX0_room_0 9 rfl rfl)
theorem dX0_room_10 : decode cX0_room 10 = .ok (.iconst 2, 1) := dk_5 (dk_at dksX0_room_0 10 rfl rfl)
theorem dX0_room_11 : decode cX0_room 11 = .ok (.invokestatic 86, 3) := dk_184 0 86 (dk_at dksX0_room_0 11 rfl rfl)
theorem dX0_room_14 : decode cX0_room 14 = .ok (.ifCond .eq 7, 3) := dk_153 0 7 (dk_at dksX0_room_0 14 rfl rfl)
theorem dX0_room_17 : decode cX0_room 17 = .ok (.iconst 1, 1) := dk_4 (dk_at dksX0_room_0 17 rfl rfl)
theorem dX0_room_18 : decode cX0_room 18 = .ok (.goto 4, 3) := dk_167 0 4 (dk_at dksX0_room_0 18 rfl rfl)
theorem dX0_room_21 : decode cX0_room 21 = .ok (.iconst 0, 1) := dk_3 (dk_at dksX0_room_0 21 rfl rfl)
theorem dX0_room_22 : decode cX0_room 22 = .ok (.iconst 1, 1) := dk_4 (dk_at dksX0_room_0 22 rfl rfl)
theorem dX0_room_23 : decode cX0_room 23 = .ok (.invokevirtual 94, 3) := dk_182 0 94 (dk_at dksX0_room_1 0 rfl rfl)
theorem dX0_room_26 : decode cX0_room 26 = .ok (.iload_n 2, 1) := dk_28 (dk_at dksX0_room_1 3 rfl rfl)
theorem dX0_room_27 : decode cX0_room 27 = .ok (.ifCond .ne 18, 3) := dk_154 0 18 (dk_at dksX0_room_1 4 rfl rfl)
theorem dX0_room_30 : decode cX0_room 30 = .ok (.aload_n 0, 1) := dk_42 (dk_at dksX0_room_1 7 rfl rfl)
theorem dX0_room_31 : decode cX0_room 31 = .ok (.getfield 49, 3) := dk_180 0 49 (dk_at dksX0_room_1 8 rfl rfl)
theorem dX0_room_34 : decode cX0_room 34 = .ok (.getfield 100, 3) := dk_180 0 100 (dk_at dksX0_room_1 11 rfl rfl)
theorem dX0_room_37 : decode cX0_room 37 = .ok (.getfield 180, 3) := dk_180 0 180 (dk_at dksX0_room_1 14 rfl rfl)
theorem dX0_room_40 : decode cX0_room 40 = .ok (.iload_n 1, 1) := dk_27 (dk_at dksX0_room_1 17 rfl rfl)
theorem dX0_room_41 : decode cX0_room 41 = .ok (.iaload, 1) := dk_46 (dk_at dksX0_room_1 18 rfl rfl)
theorem dX0_room_42 : decode cX0_room 42 = .ok (.goto 34, 3) := dk_167 0 34 (dk_at dksX0_room_1 19 rfl rfl)
theorem dX0_room_45 : decode cX0_room 45 = .ok (.iload_n 2, 1) := dk_28 (dk_at dksX0_room_1 22 rfl rfl)
theorem dX0_room_46 : decode cX0_room 46 = .ok (.iconst 1, 1) := dk_4 (dk_at dksX0_room_1 23 rfl rfl)
theorem dX0_room_47 : decode cX0_room 47 = .ok (.if_icmp .ne 18, 3) := dk_160 0 18 (dk_at dksX0_room_2 0 rfl rfl)
theorem dX0_room_50 : decode cX0_room 50 = .ok (.aload_n 0, 1) := dk_42 (dk_at dksX0_room_2 3 rfl rfl)
theorem dX0_room_51 : decode cX0_room 51 = .ok (.getfield 49, 3) := dk_180 0 49 (dk_at dksX0_room_2 4 rfl rfl)
theorem dX0_room_54 : decode cX0_room 54 = .ok (.getfield 100, 3) := dk_180 0 100 (dk_at dksX0_room_2 7 rfl rfl)
theorem dX0_room_57 : decode cX0_room 57 = .ok (.getfield 183, 3) := dk_180 0 183 (dk_at dksX0_room_2 10 rfl rfl)
theorem dX0_room_60 : decode cX0_room 60 = .ok (.iload_n 1, 1) := dk_27 (dk_at dksX0_room_2 13 rfl rfl)
theorem dX0_room_61 : decode cX0_room 61 = .ok (.iaload, 1) := dk_46 (dk_at dksX0_room_2 14 rfl rfl)
theorem dX0_room_62 : decode cX0_room 62 = .ok (.goto 14, 3) := dk_167 0 14 (dk_at dksX0_room_2 15 rfl rfl)
theorem dX0_room_65 : decode cX0_room 65 = .ok (.aload_n 0, 1) := dk_42 (dk_at dksX0_room_2 18 rfl rfl)
theorem dX0_room_66 : decode cX0_room 66 = .ok (.getfield 49, 3) := dk_180 0 49 (dk_at dksX0_room_2 19 rfl rfl)
theorem dX0_room_69 : decode cX0_room 69 = .ok (.getfield 100, 3) := dk_180 0 100 (dk_at dksX0_room_3 0 rfl rfl)
theorem dX0_room_72 : decode cX0_room 72 = .ok (.iload_n 1, 1) := dk_27 (dk_at dksX0_room_3 3 rfl rfl)
theorem dX0_room_73 : decode cX0_room 73 = .ok (.invokevirtual 186, 3) := dk_182 0 186 (dk_at dksX0_room_3 4 rfl rfl)
theorem dX0_room_76 : decode cX0_room 76 = .ok (.ireturn, 1) := dk_172 (dk_at dksX0_room_3 7 rfl rfl)
theorem dX0_room_77 : decode cX0_room 77 = .ok (.astore_n 3, 1) := dk_78 (dk_at dksX0_room_3 8 rfl rfl)
theorem dX0_room_78 : decode cX0_room 78 = .ok (.aload_n 0, 1) := dk_42 (dk_at dksX0_room_3 9 rfl rfl)
theorem dX0_room_79 : decode cX0_room 79 = .ok (.aload_n 3, 1) := dk_45 (dk_at dksX0_room_3 10 rfl rfl)
theorem dX0_room_80 : decode cX0_room 80 = .ok (.invokevirtual 133, 3) := dk_182 0 133 (dk_at dksX0_room_3 11 rfl rfl)
theorem dX0_room_83 : decode cX0_room 83 = .ok (.ireturn, 1) := dk_172 (dk_at dksX0_room_3 14 rfl rfl)
abbrev cX0_pour : ByteArray := prog_1_method_24_code
def yX0_pour : MethodName := ⟨RX0, "pour", "(III)I"⟩
def dkwX0_pour_4 : List UInt8 := [172]
abbrev dktX0_pour_4 : List UInt8 := dkwX0_pour_4 ++ []
def dkwX0_pour_3 : List UInt8 := [58, 4, 25, 4, 27, 46, 54, 5, 25, 4, 27, 29, 79, 21, 5, 172, 58, 4, 42, 25, 4, 182, 0, 133]
abbrev dktX0_pour_3 : List UInt8 := dkwX0_pour_3 ++ dktX0_pour_4
def dkwX0_pour_2 : List UInt8 := [42, 180, 0, 49, 180, 0, 100, 180, 0, 180, 167, 0, 13, 42, 180, 0, 49, 180, 0, 100, 180, 0, 183]
abbrev dktX0_pour_2 : List UInt8 := dkwX0_pour_2 ++ dktX0_pour_3
def dkwX0_pour_1 : List UInt8 := [167, 0, 5, 18, 126, 184, 0, 86, 153, 0, 7, 4, 167, 0, 4, 3, 4, 182, 0, 94, 28, 154, 0, 16]
abbrev dktX0_pour_1 : List UInt8 := dkwX0_pour_1 ++ dktX0_pour_2
def dkwX0_pour_0 : List UInt8 := [42, 27, 184, 0, 137, 153, 0, 34, 28, 184, 0, 122, 153, 0, 27, 29, 3, 28, 154, 0, 9, 17, 3, 232]
abbrev dktX0_pour_0 : List UInt8 := dkwX0_pour_0 ++ dktX0_pour_1
theorem dksX0_pour_0 : cX0_pour.data.toList.drop 0 = dktX0_pour_0 := by decide +kernel
theorem dksX0_pour_1 : cX0_pour.data.toList.drop 24 = dktX0_pour_1 := dk_seg dksX0_pour_0 24 rfl rfl
theorem dksX0_pour_2 : cX0_pour.data.toList.drop 48 = dktX0_pour_2 := dk_seg dksX0_pour_1 24 rfl rfl
theorem dksX0_pour_3 : cX0_pour.data.toList.drop 71 = dktX0_pour_3 := dk_seg dksX0_pour_2 23 rfl rfl
theorem dksX0_pour_4 : cX0_pour.data.toList.drop 95 = dktX0_pour_4 := dk_seg dksX0_pour_3 24 rfl rfl
theorem dX0_pour_0 : decode cX0_pour 0 = .ok (.aload_n 0, 1) := dk_42 (dk_at dksX0_pour_0 0 rfl rfl)
theorem dX0_pour_1 : decode cX0_pour 1 = .ok (.iload_n 1, 1) := dk_27 (dk_at dksX0_pour_0 1 rfl rfl)
theorem dX0_pour_2 : decode cX0_pour 2 = .ok (.invokestatic 137, 3) := dk_184 0 137 (dk_at dksX0_pour_0 2 rfl rfl)
theorem dX0_pour_5 : decode cX0_pour 5 = .ok (.ifCond .eq 34, 3) := dk_153 0 34 (dk_at dksX0_pour_0 5 rfl rfl)
theorem dX0_pour_8 : decode cX0_pour 8 = .ok (.iload_n 2, 1) := dk_28 (dk_at dksX0_pour_0 8 rfl rfl)
theorem dX0_pour_9 : decode cX0_pour 9 = .ok (.invokestatic 122, 3) := dk_184 0 122 (dk_at dksX0_pour_0 9 rfl rfl)
theorem dX0_pour_12 : decode cX0_pour 12 = .ok (.ifCond .eq 27, 3) := dk_153 0 27 (dk_at dksX0_pour_0 12 rfl rfl)
theorem dX0_pour_15 : decode cX0_pour 15 = .ok (.iload_n 3, 1) := dk_29 (dk_at dksX0_pour_0 15 rfl rfl)
theorem dX0_pour_16 : decode cX0_pour 16 = .ok (.iconst 0, 1) := dk_3 (dk_at dksX0_pour_0 16 rfl rfl)
theorem dX0_pour_17 : decode cX0_pour 17 = .ok (.iload_n 2, 1) := dk_28 (dk_at dksX0_pour_0 17 rfl rfl)
theorem dX0_pour_18 : decode cX0_pour 18 = .ok (.ifCond .ne 9, 3) := dk_154 0 9 (dk_at dksX0_pour_0 18 rfl rfl)
theorem dX0_pour_21 : decode cX0_pour 21 = .ok (.sipush 1000, 3) := dk_17 3 232 (dk_at dksX0_pour_0 21 rfl rfl)
theorem dX0_pour_24 : decode cX0_pour 24 = .ok (.goto 5, 3) := dk_167 0 5 (dk_at dksX0_pour_1 0 rfl rfl)
theorem dX0_pour_27 : decode cX0_pour 27 = .ok (.ldc 126, 2) := dk_18 126 (dk_at dksX0_pour_1 3 rfl rfl)
theorem dX0_pour_29 : decode cX0_pour 29 = .ok (.invokestatic 86, 3) := dk_184 0 86 (dk_at dksX0_pour_1 5 rfl rfl)
theorem dX0_pour_32 : decode cX0_pour 32 = .ok (.ifCond .eq 7, 3) := dk_153 0 7 (dk_at dksX0_pour_1 8 rfl rfl)
theorem dX0_pour_35 : decode cX0_pour 35 = .ok (.iconst 1, 1) := dk_4 (dk_at dksX0_pour_1 11 rfl rfl)
theorem dX0_pour_36 : decode cX0_pour 36 = .ok (.goto 4, 3) := dk_167 0 4 (dk_at dksX0_pour_1 12 rfl rfl)
theorem dX0_pour_39 : decode cX0_pour 39 = .ok (.iconst 0, 1) := dk_3 (dk_at dksX0_pour_1 15 rfl rfl)
theorem dX0_pour_40 : decode cX0_pour 40 = .ok (.iconst 1, 1) := dk_4 (dk_at dksX0_pour_1 16 rfl rfl)
theorem dX0_pour_41 : decode cX0_pour 41 = .ok (.invokevirtual 94, 3) := dk_182 0 94 (dk_at dksX0_pour_1 17 rfl rfl)
theorem dX0_pour_44 : decode cX0_pour 44 = .ok (.iload_n 2, 1) := dk_28 (dk_at dksX0_pour_1 20 rfl rfl)
theorem dX0_pour_45 : decode cX0_pour 45 = .ok (.ifCond .ne 16, 3) := dk_154 0 16 (dk_at dksX0_pour_1 21 rfl rfl)
theorem dX0_pour_48 : decode cX0_pour 48 = .ok (.aload_n 0, 1) := dk_42 (dk_at dksX0_pour_2 0 rfl rfl)
theorem dX0_pour_49 : decode cX0_pour 49 = .ok (.getfield 49, 3) := dk_180 0 49 (dk_at dksX0_pour_2 1 rfl rfl)
theorem dX0_pour_52 : decode cX0_pour 52 = .ok (.getfield 100, 3) := dk_180 0 100 (dk_at dksX0_pour_2 4 rfl rfl)
theorem dX0_pour_55 : decode cX0_pour 55 = .ok (.getfield 180, 3) := dk_180 0 180 (dk_at dksX0_pour_2 7 rfl rfl)
theorem dX0_pour_58 : decode cX0_pour 58 = .ok (.goto 13, 3) := dk_167 0 13 (dk_at dksX0_pour_2 10 rfl rfl)
theorem dX0_pour_61 : decode cX0_pour 61 = .ok (.aload_n 0, 1) := dk_42 (dk_at dksX0_pour_2 13 rfl rfl)
theorem dX0_pour_62 : decode cX0_pour 62 = .ok (.getfield 49, 3) := dk_180 0 49 (dk_at dksX0_pour_2 14 rfl rfl)
theorem dX0_pour_65 : decode cX0_pour 65 = .ok (.getfield 100, 3) := dk_180 0 100 (dk_at dksX0_pour_2 17 rfl rfl)
theorem dX0_pour_68 : decode cX0_pour 68 = .ok (.getfield 183, 3) := dk_180 0 183 (dk_at dksX0_pour_2 20 rfl rfl)
theorem dX0_pour_71 : decode cX0_pour 71 = .ok (.astore 4, 2) := dk_58 4 (dk_at dksX0_pour_3 0 rfl rfl)
theorem dX0_pour_73 : decode cX0_pour 73 = .ok (.aload 4, 2) := dk_25 4 (dk_at dksX0_pour_3 2 rfl rfl)
theorem dX0_pour_75 : decode cX0_pour 75 = .ok (.iload_n 1, 1) := dk_27 (dk_at dksX0_pour_3 4 rfl rfl)
theorem dX0_pour_76 : decode cX0_pour 76 = .ok (.iaload, 1) := dk_46 (dk_at dksX0_pour_3 5 rfl rfl)
theorem dX0_pour_77 : decode cX0_pour 77 = .ok (.istore 5, 2) := dk_54 5 (dk_at dksX0_pour_3 6 rfl rfl)
theorem dX0_pour_79 : decode cX0_pour 79 = .ok (.aload 4, 2) := dk_25 4 (dk_at dksX0_pour_3 8 rfl rfl)
theorem dX0_pour_81 : decode cX0_pour 81 = .ok (.iload_n 1, 1) := dk_27 (dk_at dksX0_pour_3 10 rfl rfl)
theorem dX0_pour_82 : decode cX0_pour 82 = .ok (.iload_n 3, 1) := dk_29 (dk_at dksX0_pour_3 11 rfl rfl)
theorem dX0_pour_83 : decode cX0_pour 83 = .ok (.iastore, 1) := dk_79 (dk_at dksX0_pour_3 12 rfl rfl)
theorem dX0_pour_84 : decode cX0_pour 84 = .ok (.iload 5, 2) := dk_21 5 (dk_at dksX0_pour_3 13 rfl rfl)
theorem dX0_pour_86 : decode cX0_pour 86 = .ok (.ireturn, 1) := dk_172 (dk_at dksX0_pour_3 15 rfl rfl)
theorem dX0_pour_87 : decode cX0_pour 87 = .ok (.astore 4, 2) := dk_58 4 (dk_at dksX0_pour_3 16 rfl rfl)
theorem dX0_pour_89 : decode cX0_pour 89 = .ok (.aload_n 0, 1) := dk_42 (dk_at dksX0_pour_3 18 rfl rfl)
theorem dX0_pour_90 : decode cX0_pour 90 = .ok (.aload 4, 2) := dk_25 4 (dk_at dksX0_pour_3 19 rfl rfl)
theorem dX0_pour_92 : decode cX0_pour 92 = .ok (.invokevirtual 133, 3) := dk_182 0 133 (dk_at dksX0_pour_3 21 rfl rfl)
theorem dX0_pour_95 : decode cX0_pour 95 = .ok (.ireturn, 1) := dk_172 (dk_at dksX0_pour_4 0 rfl rfl)
abbrev cX0_minute : ByteArray := prog_1_method_26_code
def yX0_minute : MethodName := ⟨RX0, "minute", "(I)I"⟩
def dkwX0_minute_1 : List UInt8 := [180, 0, 49, 180, 0, 100, 180, 0, 189, 172, 77, 42, 44, 182, 0, 133, 172]
abbrev dktX0_minute_1 : List UInt8 := dkwX0_minute_1 ++ []
def dkwX0_minute_0 : List UInt8 := [42, 27, 182, 0, 192, 42, 180, 0, 49, 180, 0, 100, 27, 42, 180, 0, 49, 180, 0, 196, 182, 0, 200, 42]
abbrev dktX0_minute_0 : List UInt8 := dkwX0_minute_0 ++ dktX0_minute_1
theorem dksX0_minute_0 : cX0_minute.data.toList.drop 0 = dktX0_minute_0 := by decide +kernel
theorem dksX0_minute_1 : cX0_minute.data.toList.drop 24 = dktX0_minute_1 := dk_seg dksX0_minute_0 24 rfl rfl
theorem dX0_minute_0 : decode cX0_minute 0 = .ok (.aload_n 0, 1) := dk_42 (dk_at dksX0_minute_0 0 rfl rfl)
theorem dX0_minute_1 : decode cX0_minute 1 = .ok (.iload_n 1, 1) := dk_27 (dk_at dksX0_minute_0 1 rfl rfl)
theorem dX0_minute_2 : decode cX0_minute 2 = .ok (.invokevirtual 192, 3) := dk_182 0 192 (dk_at dksX0_minute_0 2 rfl rfl)
theorem dX0_minute_5 : decode cX0_minute 5 = .ok (.aload_n 0, 1) := dk_42 (dk_at dksX0_minute_0 5 rfl rfl)
theorem dX0_minute_6 : decode cX0_minute 6 = .ok (.getfield 49, 3) := dk_180 0 49 (dk_at dksX0_minute_0 6 rfl rfl)
theorem dX0_minute_9 : decode cX0_minute 9 = .ok (.getfield 100, 3) := dk_180 0 100 (dk_at dksX0_minute_0 9 rfl rfl)
theorem dX0_minute_12 : decode cX0_minute 12 = .ok (.iload_n 1, 1) := dk_27 (dk_at dksX0_minute_0 12 rfl rfl)
theorem dX0_minute_13 : decode cX0_minute 13 = .ok (.aload_n 0, 1) := dk_42 (dk_at dksX0_minute_0 13 rfl rfl)
theorem dX0_minute_14 : decode cX0_minute 14 = .ok (.getfield 49, 3) := dk_180 0 49 (dk_at dksX0_minute_0 14 rfl rfl)
theorem dX0_minute_17 : decode cX0_minute 17 = .ok (.getfield 196, 3) := dk_180 0 196 (dk_at dksX0_minute_0 17 rfl rfl)
theorem dX0_minute_20 : decode cX0_minute 20 = .ok (.invokevirtual 200, 3) := dk_182 0 200 (dk_at dksX0_minute_0 20 rfl rfl)
theorem dX0_minute_23 : decode cX0_minute 23 = .ok (.aload_n 0, 1) := dk_42 (dk_at dksX0_minute_0 23 rfl rfl)
theorem dX0_minute_24 : decode cX0_minute 24 = .ok (.getfield 49, 3) := dk_180 0 49 (dk_at dksX0_minute_1 0 rfl rfl)
theorem dX0_minute_27 : decode cX0_minute 27 = .ok (.getfield 100, 3) := dk_180 0 100 (dk_at dksX0_minute_1 3 rfl rfl)
theorem dX0_minute_30 : decode cX0_minute 30 = .ok (.getfield 189, 3) := dk_180 0 189 (dk_at dksX0_minute_1 6 rfl rfl)
theorem dX0_minute_33 : decode cX0_minute 33 = .ok (.ireturn, 1) := dk_172 (dk_at dksX0_minute_1 9 rfl rfl)
theorem dX0_minute_34 : decode cX0_minute 34 = .ok (.astore_n 2, 1) := dk_77 (dk_at dksX0_minute_1 10 rfl rfl)
theorem dX0_minute_35 : decode cX0_minute 35 = .ok (.aload_n 0, 1) := dk_42 (dk_at dksX0_minute_1 11 rfl rfl)
theorem dX0_minute_36 : decode cX0_minute 36 = .ok (.aload_n 2, 1) := dk_44 (dk_at dksX0_minute_1 12 rfl rfl)
theorem dX0_minute_37 : decode cX0_minute 37 = .ok (.invokevirtual 133, 3) := dk_182 0 133 (dk_at dksX0_minute_1 13 rfl rfl)
theorem dX0_minute_40 : decode cX0_minute 40 = .ok (.ireturn, 1) := dk_172 (dk_at dksX0_minute_1 16 rfl rfl)
abbrev cX0_mustGo : ByteArray := prog_1_method_25_code
def yX0_mustGo : MethodName := ⟨RX0, "mustGo", "(I)V"⟩
def dkwX0_mustGo_1 : List UInt8 := [27, 96, 17, 9, 95, 163, 0, 7, 4, 167, 0, 4, 3, 6, 182, 0, 94, 177]
abbrev dktX0_mustGo_1 : List UInt8 := dkwX0_mustGo_1 ++ []
def dkwX0_mustGo_0 : List UInt8 := [42, 27, 4, 17, 2, 88, 184, 0, 86, 4, 182, 0, 94, 42, 42, 180, 0, 49, 180, 0, 100, 180, 0, 189]
abbrev dktX0_mustGo_0 : List UInt8 := dkwX0_mustGo_0 ++ dktX0_mustGo_1
theorem dksX0_mustGo_0 : cX0_mustGo.data.toList.drop 0 = dktX0_mustGo_0 := by decide +kernel
theorem dksX0_mustGo_1 : cX0_mustGo.data.toList.drop 24 = dktX0_mustGo_1 := dk_seg dksX0_mustGo_0 24 rfl rfl
theorem dX0_mustGo_0 : decode cX0_mustGo 0 = .ok (.aload_n 0, 1) := dk_42 (dk_at dksX0_mustGo_0 0 rfl rfl)
theorem dX0_mustGo_1 : decode cX0_mustGo 1 = .ok (.iload_n 1, 1) := dk_27 (dk_at dksX0_mustGo_0 1 rfl rfl)
theorem dX0_mustGo_2 : decode cX0_mustGo 2 = .ok (.iconst 1, 1) := dk_4 (dk_at dksX0_mustGo_0 2 rfl rfl)
theorem dX0_mustGo_3 : decode cX0_mustGo 3 = .ok (.sipush 600, 3) := dk_17 2 88 (dk_at dksX0_mustGo_0 3 rfl rfl)
theorem dX0_mustGo_6 : decode cX0_mustGo 6 = .ok (.invokestatic 86, 3) := dk_184 0 86 (dk_at dksX0_mustGo_0 6 rfl rfl)
theorem dX0_mustGo_9 : decode cX0_mustGo 9 = .ok (.iconst 1, 1) := dk_4 (dk_at dksX0_mustGo_0 9 rfl rfl)
theorem dX0_mustGo_10 : decode cX0_mustGo 10 = .ok (.invokevirtual 94, 3) := dk_182 0 94 (dk_at dksX0_mustGo_0 10 rfl rfl)
theorem dX0_mustGo_13 : decode cX0_mustGo 13 = .ok (.aload_n 0, 1) := dk_42 (dk_at dksX0_mustGo_0 13 rfl rfl)
theorem dX0_mustGo_14 : decode cX0_mustGo 14 = .ok (.aload_n 0, 1) := dk_42 (dk_at dksX0_mustGo_0 14 rfl rfl)
theorem dX0_mustGo_15 : decode cX0_mustGo 15 = .ok (.getfield 49, 3) := dk_180 0 49 (dk_at dksX0_mustGo_0 15 rfl rfl)
theorem dX0_mustGo_18 : decode cX0_mustGo 18 = .ok (.getfield 100, 3) := dk_180 0 100 (dk_at dksX0_mustGo_0 18 rfl rfl)
theorem dX0_mustGo_21 : decode cX0_mustGo 21 = .ok (.getfield 189, 3) := dk_180 0 189 (dk_at dksX0_mustGo_0 21 rfl rfl)
theorem dX0_mustGo_24 : decode cX0_mustGo 24 = .ok (.iload_n 1, 1) := dk_27 (dk_at dksX0_mustGo_1 0 rfl rfl)
theorem dX0_mustGo_25 : decode cX0_mustGo 25 = .ok (.iadd, 1) := dk_96 (dk_at dksX0_mustGo_1 1 rfl rfl)
theorem dX0_mustGo_26 : decode cX0_mustGo 26 = .ok (.sipush 2399, 3) := dk_17 9 95 (dk_at dksX0_mustGo_1 2 rfl rfl)
theorem dX0_mustGo_29 : decode cX0_mustGo 29 = .ok (.if_icmp .gt 7, 3) := dk_163 0 7 (dk_at dksX0_mustGo_1 5 rfl rfl)
theorem dX0_mustGo_32 : decode cX0_mustGo 32 = .ok (.iconst 1, 1) := dk_4 (dk_at dksX0_mustGo_1 8 rfl rfl)
theorem dX0_mustGo_33 : decode cX0_mustGo 33 = .ok (.goto 4, 3) := dk_167 0 4 (dk_at dksX0_mustGo_1 9 rfl rfl)
theorem dX0_mustGo_36 : decode cX0_mustGo 36 = .ok (.iconst 0, 1) := dk_3 (dk_at dksX0_mustGo_1 12 rfl rfl)
theorem dX0_mustGo_37 : decode cX0_mustGo 37 = .ok (.iconst 3, 1) := dk_6 (dk_at dksX0_mustGo_1 13 rfl rfl)
theorem dX0_mustGo_38 : decode cX0_mustGo 38 = .ok (.invokevirtual 94, 3) := dk_182 0 94 (dk_at dksX0_mustGo_1 14 rfl rfl)
theorem dX0_mustGo_41 : decode cX0_mustGo 41 = .ok (.return_, 1) := dk_177 (dk_at dksX0_mustGo_1 17 rfl rfl)
abbrev cX0_has : ByteArray := prog_1_method_2_code
def yX0_has : MethodName := ⟨RX0, "has", "(II)Z"⟩
def dkwX0_has_0 : List UInt8 := [26, 27, 122, 4, 126, 4, 160, 0, 7, 4, 167, 0, 4, 3, 172]
abbrev dktX0_has_0 : List UInt8 := dkwX0_has_0 ++ []
theorem dksX0_has_0 : cX0_has.data.toList.drop 0 = dktX0_has_0 := by decide +kernel
theorem dX0_has_0 : decode cX0_has 0 = .ok (.iload_n 0, 1) := dk_26 (dk_at dksX0_has_0 0 rfl rfl)
theorem dX0_has_1 : decode cX0_has 1 = .ok (.iload_n 1, 1) := dk_27 (dk_at dksX0_has_0 1 rfl rfl)
theorem dX0_has_2 : decode cX0_has 2 = .ok (.ishr, 1) := dk_122 (dk_at dksX0_has_0 2 rfl rfl)
theorem dX0_has_3 : decode cX0_has 3 = .ok (.iconst 1, 1) := dk_4 (dk_at dksX0_has_0 3 rfl rfl)
theorem dX0_has_4 : decode cX0_has 4 = .ok (.iand, 1) := dk_126 (dk_at dksX0_has_0 4 rfl rfl)
theorem dX0_has_5 : decode cX0_has 5 = .ok (.iconst 1, 1) := dk_4 (dk_at dksX0_has_0 5 rfl rfl)
theorem dX0_has_6 : decode cX0_has 6 = .ok (.if_icmp .ne 7, 3) := dk_160 0 7 (dk_at dksX0_has_0 6 rfl rfl)
theorem dX0_has_9 : decode cX0_has 9 = .ok (.iconst 1, 1) := dk_4 (dk_at dksX0_has_0 9 rfl rfl)
theorem dX0_has_10 : decode cX0_has 10 = .ok (.goto 4, 3) := dk_167 0 4 (dk_at dksX0_has_0 10 rfl rfl)
theorem dX0_has_13 : decode cX0_has 13 = .ok (.iconst 0, 1) := dk_3 (dk_at dksX0_has_0 13 rfl rfl)
theorem dX0_has_14 : decode cX0_has 14 = .ok (.ireturn, 1) := dk_172 (dk_at dksX0_has_0 14 rfl rfl)
abbrev cX0_last : ByteArray := prog_1_method_27_code
def yX0_last : MethodName := ⟨RX0, "last", "(I)I"⟩
def dkwX0_last_4 : List UInt8 := [4, 167, 0, 4, 3, 5, 182, 0, 94, 29, 172, 77, 42, 44, 182, 0, 133, 172]
abbrev dktX0_last_4 : List UInt8 := dkwX0_last_4 ++ []
def dkwX0_last_3 : List UInt8 := [162, 255, 209, 44, 182, 0, 212, 167, 255, 202, 42, 44, 180, 0, 183, 27, 46, 44, 180, 0, 130, 161, 0, 7]
abbrev dktX0_last_3 : List UInt8 := dkwX0_last_3 ++ dktX0_last_4
def dkwX0_last_2 : List UInt8 := [180, 0, 49, 180, 0, 196, 182, 0, 208, 132, 3, 1, 44, 180, 0, 183, 27, 46, 44, 180, 0, 130]
abbrev dktX0_last_2 : List UInt8 := dkwX0_last_2 ++ dktX0_last_3
def dkwX0_last_1 : List UInt8 := [180, 0, 189, 17, 9, 95, 162, 0, 50, 44, 180, 0, 183, 27, 46, 44, 180, 0, 130, 162, 0, 37, 44, 42]
abbrev dktX0_last_1 : List UInt8 := dkwX0_last_1 ++ dktX0_last_2
def dkwX0_last_0 : List UInt8 := [42, 27, 184, 0, 137, 4, 182, 0, 94, 42, 180, 0, 49, 180, 0, 100, 182, 0, 204, 77, 3, 62, 44]
abbrev dktX0_last_0 : List UInt8 := dkwX0_last_0 ++ dktX0_last_1
theorem dksX0_last_0 : cX0_last.data.toList.drop 0 = dktX0_last_0 := by decide +kernel
theorem dksX0_last_1 : cX0_last.data.toList.drop 23 = dktX0_last_1 := dk_seg dksX0_last_0 23 rfl rfl
theorem dksX0_last_2 : cX0_last.data.toList.drop 47 = dktX0_last_2 := dk_seg dksX0_last_1 24 rfl rfl
theorem dksX0_last_3 : cX0_last.data.toList.drop 69 = dktX0_last_3 := dk_seg dksX0_last_2 22 rfl rfl
theorem dksX0_last_4 : cX0_last.data.toList.drop 93 = dktX0_last_4 := dk_seg dksX0_last_3 24 rfl rfl
theorem dX0_last_0 : decode cX0_last 0 = .ok (.aload_n 0, 1) := dk_42 (dk_at dksX0_last_0 0 rfl rfl)
theorem dX0_last_1 : decode cX0_last 1 = .ok (.iload_n 1, 1) := dk_27 (dk_at dksX0_last_0 1 rfl rfl)
theorem dX0_last_2 : decode cX0_last 2 = .ok (.invokestatic 137, 3) := dk_184 0 137 (dk_at dksX0_last_0 2 rfl rfl)
theorem dX0_last_5 : decode cX0_last 5 = .ok (.iconst 1, 1) := dk_4 (dk_at dksX0_last_0 5 rfl rfl)
theorem dX0_last_6 : decode cX0_last 6 = .ok (.invokevirtual 94, 3) := dk_182 0 94 (dk_at dksX0_last_0 6 rfl rfl)
theorem dX0_last_9 : decode cX0_last 9 = .ok (.aload_n 0, 1) := dk_42 (dk_at dksX0_last_0 9 rfl rfl)
theorem dX0_last_10 : decode cX0_last 10 = .ok (.getfield 49, 3) := dk_180 0 49 (dk_at dksX0_last_0 10 rfl rfl)
theorem dX0_last_13 : decode cX0_last 13 = .ok (.getfield 100, 3) := dk_180 0 100 (dk_at dksX0_last_0 13 rfl rfl)
theorem dX0_last_16 : decode cX0_last 16 = .ok (.invokevirtual 204, 3) := dk_182 0 204 (dk_at dksX0_last_0 16 rfl rfl)
theorem dX0_last_19 : decode cX0_last 19 = .ok (.astore_n 2, 1) := dk_77 (dk_at dksX0_last_0 19 rfl rfl)
theorem dX0_last_20 : decode cX0_last 20 = .ok (.iconst 0, 1) := dk_3 (dk_at dksX0_last_0 20 rfl rfl)
theorem dX0_last_21 : decode cX0_last 21 = .ok (.istore_n 3, 1) := dk_62 (dk_at dksX0_last_0 21 rfl rfl)
theorem dX0_last_22 : decode cX0_last 22 = .ok (.aload_n 2, 1) := dk_44 (dk_at dksX0_last_0 22 rfl rfl)
theorem dX0_last_23 : decode cX0_last 23 = .ok (.getfield 189, 3) := dk_180 0 189 (dk_at dksX0_last_1 0 rfl rfl)
theorem dX0_last_26 : decode cX0_last 26 = .ok (.sipush 2399, 3) := dk_17 9 95 (dk_at dksX0_last_1 3 rfl rfl)
theorem dX0_last_29 : decode cX0_last 29 = .ok (.if_icmp .ge 50, 3) := dk_162 0 50 (dk_at dksX0_last_1 6 rfl rfl)
theorem dX0_last_32 : decode cX0_last 32 = .ok (.aload_n 2, 1) := dk_44 (dk_at dksX0_last_1 9 rfl rfl)
theorem dX0_last_33 : decode cX0_last 33 = .ok (.getfield 183, 3) := dk_180 0 183 (dk_at dksX0_last_1 10 rfl rfl)
theorem dX0_last_36 : decode cX0_last 36 = .ok (.iload_n 1, 1) := dk_27 (dk_at dksX0_last_1 13 rfl rfl)
theorem dX0_last_37 : decode cX0_last 37 = .ok (.iaload, 1) := dk_46 (dk_at dksX0_last_1 14 rfl rfl)
theorem dX0_last_38 : decode cX0_last 38 = .ok (.aload_n 2, 1) := dk_44 (dk_at dksX0_last_1 15 rfl rfl)
theorem dX0_last_39 : decode cX0_last 39 = .ok (.getfield 130, 3) := dk_180 0 130 (dk_at dksX0_last_1 16 rfl rfl)
theorem dX0_last_42 : decode cX0_last 42 = .ok (.if_icmp .ge 37, 3) := dk_162 0 37 (dk_at dksX0_last_1 19 rfl rfl)
theorem dX0_last_45 : decode cX0_last 45 = .ok (.aload_n 2, 1) := dk_44 (dk_at dksX0_last_1 22 rfl rfl)
theorem dX0_last_46 : decode cX0_last 46 = .ok (.aload_n 0, 1) := dk_42 (dk_at dksX0_last_1 23 rfl rfl)
theorem dX0_last_47 : decode cX0_last 47 = .ok (.getfield 49, 3) := dk_180 0 49 (dk_at dksX0_last_2 0 rfl rfl)
theorem dX0_last_50 : decode cX0_last 50 = .ok (.getfield 196, 3) := dk_180 0 196 (dk_at dksX0_last_2 3 rfl rfl)
theorem dX0_last_53 : decode cX0_last 53 = .ok (.invokevirtual 208, 3) := dk_182 0 208 (dk_at dksX0_last_2 6 rfl rfl)
theorem dX0_last_56 : decode cX0_last 56 = .ok (.iinc 3 1, 3) := dk_132 3 1 (dk_at dksX0_last_2 9 rfl rfl)
theorem dX0_last_59 : decode cX0_last 59 = .ok (.aload_n 2, 1) := dk_44 (dk_at dksX0_last_2 12 rfl rfl)
theorem dX0_last_60 : decode cX0_last 60 = .ok (.getfield 183, 3) := dk_180 0 183 (dk_at dksX0_last_2 13 rfl rfl)
theorem dX0_last_63 : decode cX0_last 63 = .ok (.iload_n 1, 1) := dk_27 (dk_at dksX0_last_2 16 rfl rfl)
theorem dX0_last_64 : decode cX0_last 64 = .ok (.iaload, 1) := dk_46 (dk_at dksX0_last_2 17 rfl rfl)
theorem dX0_last_65 : decode cX0_last 65 = .ok (.aload_n 2, 1) := dk_44 (dk_at dksX0_last_2 18 rfl rfl)
theorem dX0_last_66 : decode cX0_last 66 = .ok (.getfield 130, 3) := dk_180 0 130 (dk_at dksX0_last_2 19 rfl rfl)
theorem dX0_last_69 : decode cX0_last 69 = .ok (.if_icmp .ge (-47), 3) := dk_162 255 209 (dk_at dksX0_last_3 0 rfl rfl)
theorem dX0_last_72 : decode cX0_last 72 = .ok (.aload_n 2, 1) := dk_44 (dk_at dksX0_last_3 3 rfl rfl)
theorem dX0_last_73 : decode cX0_last 73 = .ok (.invokevirtual 212, 3) := dk_182 0 212 (dk_at dksX0_last_3 4 rfl rfl)
theorem dX0_last_76 : decode cX0_last 76 = .ok (.goto (-54), 3) := dk_167 255 202 (dk_at dksX0_last_3 7 rfl rfl)
theorem dX0_last_79 : decode cX0_last 79 = .ok (.aload_n 0, 1) := dk_42 (dk_at dksX0_last_3 10 rfl rfl)
theorem dX0_last_80 : decode cX0_last 80 = .ok (.aload_n 2, 1) := dk_44 (dk_at dksX0_last_3 11 rfl rfl)
theorem dX0_last_81 : decode cX0_last 81 = .ok (.getfield 183, 3) := dk_180 0 183 (dk_at dksX0_last_3 12 rfl rfl)
theorem dX0_last_84 : decode cX0_last 84 = .ok (.iload_n 1, 1) := dk_27 (dk_at dksX0_last_3 15 rfl rfl)
theorem dX0_last_85 : decode cX0_last 85 = .ok (.iaload, 1) := dk_46 (dk_at dksX0_last_3 16 rfl rfl)
theorem dX0_last_86 : decode cX0_last 86 = .ok (.aload_n 2, 1) := dk_44 (dk_at dksX0_last_3 17 rfl rfl)
theorem dX0_last_87 : decode cX0_last 87 = .ok (.getfield 130, 3) := dk_180 0 130 (dk_at dksX0_last_3 18 rfl rfl)
theorem dX0_last_90 : decode cX0_last 90 = .ok (.if_icmp .lt 7, 3) := dk_161 0 7 (dk_at dksX0_last_3 21 rfl rfl)
theorem dX0_last_93 : decode cX0_last 93 = .ok (.iconst 1, 1) := dk_4 (dk_at dksX0_last_4 0 rfl rfl)
theorem dX0_last_94 : decode cX0_last 94 = .ok (.goto 4, 3) := dk_167 0 4 (dk_at dksX0_last_4 1 rfl rfl)
theorem dX0_last_97 : decode cX0_last 97 = .ok (.iconst 0, 1) := dk_3 (dk_at dksX0_last_4 4 rfl rfl)
theorem dX0_last_98 : decode cX0_last 98 = .ok (.iconst 2, 1) := dk_5 (dk_at dksX0_last_4 5 rfl rfl)
theorem dX0_last_99 : decode cX0_last 99 = .ok (.invokevirtual 94, 3) := dk_182 0 94 (dk_at dksX0_last_4 6 rfl rfl)
theorem dX0_last_102 : decode cX0_last 102 = .ok (.iload_n 3, 1) := dk_29 (dk_at dksX0_last_4 9 rfl rfl)
theorem dX0_last_103 : decode cX0_last 103 = .ok (.ireturn, 1) := dk_172 (dk_at dksX0_last_4 10 rfl rfl)
theorem dX0_last_104 : decode cX0_last 104 = .ok (.astore_n 2, 1) := dk_77 (dk_at dksX0_last_4 11 rfl rfl)
theorem dX0_last_105 : decode cX0_last 105 = .ok (.aload_n 0, 1) := dk_42 (dk_at dksX0_last_4 12 rfl rfl)
theorem dX0_last_106 : decode cX0_last 106 = .ok (.aload_n 2, 1) := dk_44 (dk_at dksX0_last_4 13 rfl rfl)
theorem dX0_last_107 : decode cX0_last 107 = .ok (.invokevirtual 133, 3) := dk_182 0 133 (dk_at dksX0_last_4 14 rfl rfl)
theorem dX0_last_110 : decode cX0_last 110 = .ok (.ireturn, 1) := dk_172 (dk_at dksX0_last_4 17 rfl rfl)
abbrev cX0_dead : ByteArray := prog_1_method_28_code
def yX0_dead : MethodName := ⟨RX0, "dead", "(I)I"⟩
def dkwX0_dead_1 : List UInt8 := [180, 0, 196, 182, 0, 200, 44, 16, 10, 182, 0, 186, 184, 0, 215, 172, 77, 42, 44, 182, 0, 133, 172]
abbrev dktX0_dead_1 : List UInt8 := dkwX0_dead_1 ++ []
def dkwX0_dead_0 : List UInt8 := [42, 27, 182, 0, 192, 42, 180, 0, 49, 180, 0, 100, 182, 0, 204, 77, 44, 27, 42, 180, 0, 49]
abbrev dktX0_dead_0 : List UInt8 := dkwX0_dead_0 ++ dktX0_dead_1
theorem dksX0_dead_0 : cX0_dead.data.toList.drop 0 = dktX0_dead_0 := by decide +kernel
theorem dksX0_dead_1 : cX0_dead.data.toList.drop 22 = dktX0_dead_1 := dk_seg dksX0_dead_0 22 rfl rfl
theorem dX0_dead_0 : decode cX0_dead 0 = .ok (.aload_n 0, 1) := dk_42 (dk_at dksX0_dead_0 0 rfl rfl)
theorem dX0_dead_1 : decode cX0_dead 1 = .ok (.iload_n 1, 1) := dk_27 (dk_at dksX0_dead_0 1 rfl rfl)
theorem dX0_dead_2 : decode cX0_dead 2 = .ok (.invokevirtual 192, 3) := dk_182 0 192 (dk_at dksX0_dead_0 2 rfl rfl)
theorem dX0_dead_5 : decode cX0_dead 5 = .ok (.aload_n 0, 1) := dk_42 (dk_at dksX0_dead_0 5 rfl rfl)
theorem dX0_dead_6 : decode cX0_dead 6 = .ok (.getfield 49, 3) := dk_180 0 49 (dk_at dksX0_dead_0 6 rfl rfl)
theorem dX0_dead_9 : decode cX0_dead 9 = .ok (.getfield 100, 3) := dk_180 0 100 (dk_at dksX0_dead_0 9 rfl rfl)
theorem dX0_dead_12 : decode cX0_dead 12 = .ok (.invokevirtual 204, 3) := dk_182 0 204 (dk_at dksX0_dead_0 12 rfl rfl)
theorem dX0_dead_15 : decode cX0_dead 15 = .ok (.astore_n 2, 1) := dk_77 (dk_at dksX0_dead_0 15 rfl rfl)
theorem dX0_dead_16 : decode cX0_dead 16 = .ok (.aload_n 2, 1) := dk_44 (dk_at dksX0_dead_0 16 rfl rfl)
theorem dX0_dead_17 : decode cX0_dead 17 = .ok (.iload_n 1, 1) := dk_27 (dk_at dksX0_dead_0 17 rfl rfl)
theorem dX0_dead_18 : decode cX0_dead 18 = .ok (.aload_n 0, 1) := dk_42 (dk_at dksX0_dead_0 18 rfl rfl)
theorem dX0_dead_19 : decode cX0_dead 19 = .ok (.getfield 49, 3) := dk_180 0 49 (dk_at dksX0_dead_0 19 rfl rfl)
theorem dX0_dead_22 : decode cX0_dead 22 = .ok (.getfield 196, 3) := dk_180 0 196 (dk_at dksX0_dead_1 0 rfl rfl)
theorem dX0_dead_25 : decode cX0_dead 25 = .ok (.invokevirtual 200, 3) := dk_182 0 200 (dk_at dksX0_dead_1 3 rfl rfl)
theorem dX0_dead_28 : decode cX0_dead 28 = .ok (.aload_n 2, 1) := dk_44 (dk_at dksX0_dead_1 6 rfl rfl)
theorem dX0_dead_29 : decode cX0_dead 29 = .ok (.bipush 10, 2) := dk_16 10 (dk_at dksX0_dead_1 7 rfl rfl)
theorem dX0_dead_31 : decode cX0_dead 31 = .ok (.invokevirtual 186, 3) := dk_182 0 186 (dk_at dksX0_dead_1 9 rfl rfl)
theorem dX0_dead_34 : decode cX0_dead 34 = .ok (.invokestatic 215, 3) := dk_184 0 215 (dk_at dksX0_dead_1 12 rfl rfl)
theorem dX0_dead_37 : decode cX0_dead 37 = .ok (.ireturn, 1) := dk_172 (dk_at dksX0_dead_1 15 rfl rfl)
theorem dX0_dead_38 : decode cX0_dead 38 = .ok (.astore_n 2, 1) := dk_77 (dk_at dksX0_dead_1 16 rfl rfl)
theorem dX0_dead_39 : decode cX0_dead 39 = .ok (.aload_n 0, 1) := dk_42 (dk_at dksX0_dead_1 17 rfl rfl)
theorem dX0_dead_40 : decode cX0_dead 40 = .ok (.aload_n 2, 1) := dk_44 (dk_at dksX0_dead_1 18 rfl rfl)
theorem dX0_dead_41 : decode cX0_dead 41 = .ok (.invokevirtual 133, 3) := dk_182 0 133 (dk_at dksX0_dead_1 19 rfl rfl)
theorem dX0_dead_44 : decode cX0_dead 44 = .ok (.ireturn, 1) := dk_172 (dk_at dksX0_dead_1 22 rfl rfl)
abbrev cX0_feed : ByteArray := prog_1_method_29_code
def yX0_feed : MethodName := ⟨RX0, "feed", "(JI)I"⟩
def dkwX0_feed_4 : List UInt8 := [180, 0, 220, 172, 58, 4, 42, 25, 4, 182, 0, 133, 172]
abbrev dktX0_feed_4 : List UInt8 := dkwX0_feed_4 ++ []
def dkwX0_feed_3 : List UInt8 := [180, 0, 49, 89, 180, 0, 220, 4, 96, 181, 0, 220, 132, 4, 1, 167, 255, 210, 42, 180, 0, 49]
abbrev dktX0_feed_3 : List UInt8 := dkwX0_feed_3 ++ dktX0_feed_4
def dkwX0_feed_2 : List UInt8 := [180, 0, 49, 180, 0, 223, 42, 180, 0, 49, 180, 0, 220, 31, 16, 8, 21, 4, 104, 123, 136, 145, 84, 42]
abbrev dktX0_feed_2 : List UInt8 := dkwX0_feed_2 ++ dktX0_feed_3
def dkwX0_feed_1 : List UInt8 := [163, 0, 7, 4, 167, 0, 4, 3, 7, 182, 0, 94, 3, 54, 4, 21, 4, 29, 162, 0, 46, 42]
abbrev dktX0_feed_1 : List UInt8 := dkwX0_feed_1 ++ dktX0_feed_2
def dkwX0_feed_0 : List UInt8 := [42, 29, 4, 16, 8, 184, 0, 86, 4, 182, 0, 94, 42, 42, 180, 0, 49, 180, 0, 220, 29, 96, 16, 50]
abbrev dktX0_feed_0 : List UInt8 := dkwX0_feed_0 ++ dktX0_feed_1
theorem dksX0_feed_0 : cX0_feed.data.toList.drop 0 = dktX0_feed_0 := by decide +kernel
theorem dksX0_feed_1 : cX0_feed.data.toList.drop 24 = dktX0_feed_1 := dk_seg dksX0_feed_0 24 rfl rfl
theorem dksX0_feed_2 : cX0_feed.data.toList.drop 46 = dktX0_feed_2 := dk_seg dksX0_feed_1 22 rfl rfl
theorem dksX0_feed_3 : cX0_feed.data.toList.drop 70 = dktX0_feed_3 := dk_seg dksX0_feed_2 24 rfl rfl
theorem dksX0_feed_4 : cX0_feed.data.toList.drop 92 = dktX0_feed_4 := dk_seg dksX0_feed_3 22 rfl rfl
theorem dX0_feed_0 : decode cX0_feed 0 = .ok (.aload_n 0, 1) := dk_42 (dk_at dksX0_feed_0 0 rfl rfl)
theorem dX0_feed_1 : decode cX0_feed 1 = .ok (.iload_n 3, 1) := dk_29 (dk_at dksX0_feed_0 1 rfl rfl)
theorem dX0_feed_2 : decode cX0_feed 2 = .ok (.iconst 1, 1) := dk_4 (dk_at dksX0_feed_0 2 rfl rfl)
theorem dX0_feed_3 : decode cX0_feed 3 = .ok (.bipush 8, 2) := dk_16 8 (dk_at dksX0_feed_0 3 rfl rfl)
theorem dX0_feed_5 : decode cX0_feed 5 = .ok (.invokestatic 86, 3) := dk_184 0 86 (dk_at dksX0_feed_0 5 rfl rfl)
theorem dX0_feed_8 : decode cX0_feed 8 = .ok (.iconst 1, 1) := dk_4 (dk_at dksX0_feed_0 8 rfl rfl)
theorem dX0_feed_9 : decode cX0_feed 9 = .ok (.invokevirtual 94, 3) := dk_182 0 94 (dk_at dksX0_feed_0 9 rfl rfl)
theorem dX0_feed_12 : decode cX0_feed 12 = .ok (.aload_n 0, 1) := dk_42 (dk_at dksX0_feed_0 12 rfl rfl)
theorem dX0_feed_13 : decode cX0_feed 13 = .ok (.aload_n 0, 1) := dk_42 (dk_at dksX0_feed_0 13 rfl rfl)
theorem dX0_feed_14 : decode cX0_feed 14 = .ok (.getfield 49, 3) := dk_180 0 49 (dk_at dksX0_feed_0 14 rfl rfl)
theorem dX0_feed_17 : decode cX0_feed 17 = .ok (.getfield 220, 3) := dk_180 0 220 (dk_at dksX0_feed_0 17 rfl rfl)
theorem dX0_feed_20 : decode cX0_feed 20 = .ok (.iload_n 3, 1) := dk_29 (dk_at dksX0_feed_0 20 rfl rfl)
theorem dX0_feed_21 : decode cX0_feed 21 = .ok (.iadd, 1) := dk_96 (dk_at dksX0_feed_0 21 rfl rfl)
theorem dX0_feed_22 : decode cX0_feed 22 = .ok (.bipush 50, 2) := dk_16 50 (dk_at dksX0_feed_0 22 rfl rfl)
theorem dX0_feed_24 : decode cX0_feed 24 = .ok (.if_icmp .gt 7, 3) := dk_163 0 7 (dk_at dksX0_feed_1 0 rfl rfl)
theorem dX0_feed_27 : decode cX0_feed 27 = .ok (.iconst 1, 1) := dk_4 (dk_at dksX0_feed_1 3 rfl rfl)
theorem dX0_feed_28 : decode cX0_feed 28 = .ok (.goto 4, 3) := dk_167 0 4 (dk_at dksX0_feed_1 4 rfl rfl)
theorem dX0_feed_31 : decode cX0_feed 31 = .ok (.iconst 0, 1) := dk_3 (dk_at dksX0_feed_1 7 rfl rfl)
theorem dX0_feed_32 : decode cX0_feed 32 = .ok (.iconst 4, 1) := dk_7 (dk_at dksX0_feed_1 8 rfl rfl)
theorem dX0_feed_33 : decode cX0_feed 33 = .ok (.invokevirtual 94, 3) := dk_182 0 94 (dk_at dksX0_feed_1 9 rfl rfl)
theorem dX0_feed_36 : decode cX0_feed 36 = .ok (.iconst 0, 1) := dk_3 (dk_at dksX0_feed_1 12 rfl rfl)
theorem dX0_feed_37 : decode cX0_feed 37 = .ok (.istore 4, 2) := dk_54 4 (dk_at dksX0_feed_1 13 rfl rfl)
theorem dX0_feed_39 : decode cX0_feed 39 = .ok (.iload 4, 2) := dk_21 4 (dk_at dksX0_feed_1 15 rfl rfl)
theorem dX0_feed_41 : decode cX0_feed 41 = .ok (.iload_n 3, 1) := dk_29 (dk_at dksX0_feed_1 17 rfl rfl)
theorem dX0_feed_42 : decode cX0_feed 42 = .ok (.if_icmp .ge 46, 3) := dk_162 0 46 (dk_at dksX0_feed_1 18 rfl rfl)
theorem dX0_feed_45 : decode cX0_feed 45 = .ok (.aload_n 0, 1) := dk_42 (dk_at dksX0_feed_1 21 rfl rfl)
theorem dX0_feed_46 : decode cX0_feed 46 = .ok (.getfield 49, 3) := dk_180 0 49 (dk_at dksX0_feed_2 0 rfl rfl)
theorem dX0_feed_49 : decode cX0_feed 49 = .ok (.getfield 223, 3) := dk_180 0 223 (dk_at dksX0_feed_2 3 rfl rfl)
theorem dX0_feed_52 : decode cX0_feed 52 = .ok (.aload_n 0, 1) := dk_42 (dk_at dksX0_feed_2 6 rfl rfl)
theorem dX0_feed_53 : decode cX0_feed 53 = .ok (.getfield 49, 3) := dk_180 0 49 (dk_at dksX0_feed_2 7 rfl rfl)
theorem dX0_feed_56 : decode cX0_feed 56 = .ok (.getfield 220, 3) := dk_180 0 220 (dk_at dksX0_feed_2 10 rfl rfl)
theorem dX0_feed_59 : decode cX0_feed 59 = .ok (.lload_n 1, 1) := dk_31 (dk_at dksX0_feed_2 13 rfl rfl)
theorem dX0_feed_60 : decode cX0_feed 60 = .ok (.bipush 8, 2) := dk_16 8 (dk_at dksX0_feed_2 14 rfl rfl)
theorem dX0_feed_62 : decode cX0_feed 62 = .ok (.iload 4, 2) := dk_21 4 (dk_at dksX0_feed_2 16 rfl rfl)
theorem dX0_feed_64 : decode cX0_feed 64 = .ok (.imul, 1) := dk_104 (dk_at dksX0_feed_2 18 rfl rfl)
theorem dX0_feed_65 : decode cX0_feed 65 = .ok (.lshr, 1) := dk_123 (dk_at dksX0_feed_2 19 rfl rfl)
theorem dX0_feed_66 : decode cX0_feed 66 = .ok (.l2i, 1) := dk_136 (dk_at dksX0_feed_2 20 rfl rfl)
theorem dX0_feed_67 : decode cX0_feed 67 = .ok (.i2b, 1) := dk_145 (dk_at dksX0_feed_2 21 rfl rfl)
theorem dX0_feed_68 : decode cX0_feed 68 = .ok (.bastore, 1) := dk_84 (dk_at dksX0_feed_2 22 rfl rfl)
theorem dX0_feed_69 : decode cX0_feed 69 = .ok (.aload_n 0, 1) := dk_42 (dk_at dksX0_feed_2 23 rfl rfl)
theorem dX0_feed_70 : decode cX0_feed 70 = .ok (.getfield 49, 3) := dk_180 0 49 (dk_at dksX0_feed_3 0 rfl rfl)
theorem dX0_feed_73 : decode cX0_feed 73 = .ok (.dup, 1) := dk_89 (dk_at dksX0_feed_3 3 rfl rfl)
theorem dX0_feed_74 : decode cX0_feed 74 = .ok (.getfield 220, 3) := dk_180 0 220 (dk_at dksX0_feed_3 4 rfl rfl)
theorem dX0_feed_77 : decode cX0_feed 77 = .ok (.iconst 1, 1) := dk_4 (dk_at dksX0_feed_3 7 rfl rfl)
theorem dX0_feed_78 : decode cX0_feed 78 = .ok (.iadd, 1) := dk_96 (dk_at dksX0_feed_3 8 rfl rfl)
theorem dX0_feed_79 : decode cX0_feed 79 = .ok (.putfield 220, 3) := dk_181 0 220 (dk_at dksX0_feed_3 9 rfl rfl)
theorem dX0_feed_82 : decode cX0_feed 82 = .ok (.iinc 4 1, 3) := dk_132 4 1 (dk_at dksX0_feed_3 12 rfl rfl)
theorem dX0_feed_85 : decode cX0_feed 85 = .ok (.goto (-46), 3) := dk_167 255 210 (dk_at dksX0_feed_3 15 rfl rfl)
theorem dX0_feed_88 : decode cX0_feed 88 = .ok (.aload_n 0, 1) := dk_42 (dk_at dksX0_feed_3 18 rfl rfl)
theorem dX0_feed_89 : decode cX0_feed 89 = .ok (.getfield 49, 3) := dk_180 0 49 (dk_at dksX0_feed_3 19 rfl rfl)
theorem dX0_feed_92 : decode cX0_feed 92 = .ok (.getfield 220, 3) := dk_180 0 220 (dk_at dksX0_feed_4 0 rfl rfl)
theorem dX0_feed_95 : decode cX0_feed 95 = .ok (.ireturn, 1) := dk_172 (dk_at dksX0_feed_4 3 rfl rfl)
theorem dX0_feed_96 : decode cX0_feed 96 = .ok (.astore 4, 2) := dk_58 4 (dk_at dksX0_feed_4 4 rfl rfl)
theorem dX0_feed_98 : decode cX0_feed 98 = .ok (.aload_n 0, 1) := dk_42 (dk_at dksX0_feed_4 6 rfl rfl)
theorem dX0_feed_99 : decode cX0_feed 99 = .ok (.aload 4, 2) := dk_25 4 (dk_at dksX0_feed_4 7 rfl rfl)
theorem dX0_feed_101 : decode cX0_feed 101 = .ok (.invokevirtual 133, 3) := dk_182 0 133 (dk_at dksX0_feed_4 9 rfl rfl)
theorem dX0_feed_104 : decode cX0_feed 104 = .ok (.ireturn, 1) := dk_172 (dk_at dksX0_feed_4 12 rfl rfl)
abbrev cX0_text : ByteArray := prog_1_method_30_code
def yX0_text : MethodName := ⟨RX0, "text", "(I)I"⟩
def dkwX0_text_3 : List UInt8 := [172, 77, 42, 44, 182, 0, 133, 172]
abbrev dktX0_text_3 : List UInt8 := dkwX0_text_3 ++ []
def dkwX0_text_2 : List UInt8 := [180, 0, 49, 180, 0, 223, 28, 183, 0, 239, 182, 0, 242, 83, 4, 172, 77, 16, 246, 44, 180, 0, 248, 100]
abbrev dktX0_text_2 : List UInt8 := dkwX0_text_2 ++ dktX0_text_3
def dkwX0_text_1 : List UInt8 := [181, 0, 220, 42, 180, 0, 49, 180, 0, 196, 180, 0, 227, 27, 187, 0, 233, 89, 27, 184, 0, 235, 42]
abbrev dktX0_text_1 : List UInt8 := dkwX0_text_1 ++ dktX0_text_2
def dkwX0_text_0 : List UInt8 := [42, 27, 3, 6, 184, 0, 86, 4, 182, 0, 94, 42, 180, 0, 49, 180, 0, 220, 61, 42, 180, 0, 49, 3]
abbrev dktX0_text_0 : List UInt8 := dkwX0_text_0 ++ dktX0_text_1
theorem dksX0_text_0 : cX0_text.data.toList.drop 0 = dktX0_text_0 := by decide +kernel
theorem dksX0_text_1 : cX0_text.data.toList.drop 24 = dktX0_text_1 := dk_seg dksX0_text_0 24 rfl rfl
theorem dksX0_text_2 : cX0_text.data.toList.drop 47 = dktX0_text_2 := dk_seg dksX0_text_1 23 rfl rfl
theorem dksX0_text_3 : cX0_text.data.toList.drop 71 = dktX0_text_3 := dk_seg dksX0_text_2 24 rfl rfl
theorem dX0_text_0 : decode cX0_text 0 = .ok (.aload_n 0, 1) := dk_42 (dk_at dksX0_text_0 0 rfl rfl)
theorem dX0_text_1 : decode cX0_text 1 = .ok (.iload_n 1, 1) := dk_27 (dk_at dksX0_text_0 1 rfl rfl)
theorem dX0_text_2 : decode cX0_text 2 = .ok (.iconst 0, 1) := dk_3 (dk_at dksX0_text_0 2 rfl rfl)
theorem dX0_text_3 : decode cX0_text 3 = .ok (.iconst 3, 1) := dk_6 (dk_at dksX0_text_0 3 rfl rfl)
theorem dX0_text_4 : decode cX0_text 4 = .ok (.invokestatic 86, 3) := dk_184 0 86 (dk_at dksX0_text_0 4 rfl rfl)
theorem dX0_text_7 : decode cX0_text 7 = .ok (.iconst 1, 1) := dk_4 (dk_at dksX0_text_0 7 rfl rfl)
theorem dX0_text_8 : decode cX0_text 8 = .ok (.invokevirtual 94, 3) := dk_182 0 94 (dk_at dksX0_text_0 8 rfl rfl)
theorem dX0_text_11 : decode cX0_text 11 = .ok (.aload_n 0, 1) := dk_42 (dk_at dksX0_text_0 11 rfl rfl)
theorem dX0_text_12 : decode cX0_text 12 = .ok (.getfield 49, 3) := dk_180 0 49 (dk_at dksX0_text_0 12 rfl rfl)
theorem dX0_text_15 : decode cX0_text 15 = .ok (.getfield 220, 3) := dk_180 0 220 (dk_at dksX0_text_0 15 rfl rfl)
theorem dX0_text_18 : decode cX0_text 18 = .ok (.istore_n 2, 1) := dk_61 (dk_at dksX0_text_0 18 rfl rfl)
theorem dX0_text_19 : decode cX0_text 19 = .ok (.aload_n 0, 1) := dk_42 (dk_at dksX0_text_0 19 rfl rfl)
theorem dX0_text_20 : decode cX0_text 20 = .ok (.getfield 49, 3) := dk_180 0 49 (dk_at dksX0_text_0 20 rfl rfl)
theorem dX0_text_23 : decode cX0_text 23 = .ok (.iconst 0, 1) := dk_3 (dk_at dksX0_text_0 23 rfl rfl)
theorem dX0_text_24 : decode cX0_text 24 = .ok (.putfield 220, 3) := dk_181 0 220 (dk_at dksX0_text_1 0 rfl rfl)
theorem dX0_text_27 : decode cX0_text 27 = .ok (.aload_n 0, 1) := dk_42 (dk_at dksX0_text_1 3 rfl rfl)
theorem dX0_text_28 : decode cX0_text 28 = .ok (.getfield 49, 3) := dk_180 0 49 (dk_at dksX0_text_1 4 rfl rfl)
theorem dX0_text_31 : decode cX0_text 31 = .ok (.getfield 196, 3) := dk_180 0 196 (dk_at dksX0_text_1 7 rfl rfl)
theorem dX0_text_34 : decode cX0_text 34 = .ok (.getfield 227, 3) := dk_180 0 227 (dk_at dksX0_text_1 10 rfl rfl)
theorem dX0_text_37 : decode cX0_text 37 = .ok (.iload_n 1, 1) := dk_27 (dk_at dksX0_text_1 13 rfl rfl)
theorem dX0_text_38 : decode cX0_text 38 = .ok (.new 233, 3) := dk_187 0 233 (dk_at dksX0_text_1 14 rfl rfl)
theorem dX0_text_41 : decode cX0_text 41 = .ok (.dup, 1) := dk_89 (dk_at dksX0_text_1 17 rfl rfl)
theorem dX0_text_42 : decode cX0_text 42 = .ok (.iload_n 1, 1) := dk_27 (dk_at dksX0_text_1 18 rfl rfl)
theorem dX0_text_43 : decode cX0_text 43 = .ok (.invokestatic 235, 3) := dk_184 0 235 (dk_at dksX0_text_1 19 rfl rfl)
theorem dX0_text_46 : decode cX0_text 46 = .ok (.aload_n 0, 1) := dk_42 (dk_at dksX0_text_1 22 rfl rfl)
theorem dX0_text_47 : decode cX0_text 47 = .ok (.getfield 49, 3) := dk_180 0 49 (dk_at dksX0_text_2 0 rfl rfl)
theorem dX0_text_50 : decode cX0_text 50 = .ok (.getfield 223, 3) := dk_180 0 223 (dk_at dksX0_text_2 3 rfl rfl)
theorem dX0_text_53 : decode cX0_text 53 = .ok (.iload_n 2, 1) := dk_28 (dk_at dksX0_text_2 6 rfl rfl)
theorem dX0_text_54 : decode cX0_text 54 = .ok (.invokespecial 239, 3) := dk_183 0 239 (dk_at dksX0_text_2 7 rfl rfl)
theorem dX0_text_57 : decode cX0_text 57 = .ok (.invokevirtual 242, 3) := dk_182 0 242 (dk_at dksX0_text_2 10 rfl rfl)
theorem dX0_text_60 : decode cX0_text 60 = .ok (.aastore, 1) := dk_83 (dk_at dksX0_text_2 13 rfl rfl)
theorem dX0_text_61 : decode cX0_text 61 = .ok (.iconst 1, 1) := dk_4 (dk_at dksX0_text_2 14 rfl rfl)
theorem dX0_text_62 : decode cX0_text 62 = .ok (.ireturn, 1) := dk_172 (dk_at dksX0_text_2 15 rfl rfl)
theorem dX0_text_63 : decode cX0_text 63 = .ok (.astore_n 2, 1) := dk_77 (dk_at dksX0_text_2 16 rfl rfl)
theorem dX0_text_64 : decode cX0_text 64 = .ok (.bipush (-10), 2) := dk_16 246 (dk_at dksX0_text_2 17 rfl rfl)
theorem dX0_text_66 : decode cX0_text 66 = .ok (.aload_n 2, 1) := dk_44 (dk_at dksX0_text_2 19 rfl rfl)
theorem dX0_text_67 : decode cX0_text 67 = .ok (.getfield 248, 3) := dk_180 0 248 (dk_at dksX0_text_2 20 rfl rfl)
theorem dX0_text_70 : decode cX0_text 70 = .ok (.isub, 1) := dk_100 (dk_at dksX0_text_2 23 rfl rfl)
theorem dX0_text_71 : decode cX0_text 71 = .ok (.ireturn, 1) := dk_172 (dk_at dksX0_text_3 0 rfl rfl)
theorem dX0_text_72 : decode cX0_text 72 = .ok (.astore_n 2, 1) := dk_77 (dk_at dksX0_text_3 1 rfl rfl)
theorem dX0_text_73 : decode cX0_text 73 = .ok (.aload_n 0, 1) := dk_42 (dk_at dksX0_text_3 2 rfl rfl)
theorem dX0_text_74 : decode cX0_text 74 = .ok (.aload_n 2, 1) := dk_44 (dk_at dksX0_text_3 3 rfl rfl)
theorem dX0_text_75 : decode cX0_text 75 = .ok (.invokevirtual 133, 3) := dk_182 0 133 (dk_at dksX0_text_3 4 rfl rfl)
theorem dX0_text_78 : decode cX0_text 78 = .ok (.ireturn, 1) := dk_172 (dk_at dksX0_text_3 7 rfl rfl)
abbrev cX0_law : ByteArray := prog_1_method_31_code
def yX0_law : MethodName := ⟨RX0, "law", "(IIII)I"⟩
def dkwX0_law_1 : List UInt8 := [182, 0, 251, 172, 58, 5, 42, 25, 5, 182, 0, 133, 172]
abbrev dktX0_law_1 : List UInt8 := dkwX0_law_1 ++ []
def dkwX0_law_0 : List UInt8 := [42, 27, 3, 6, 184, 0, 86, 4, 182, 0, 94, 42, 180, 0, 49, 180, 0, 196, 27, 28, 29, 21, 4]
abbrev dktX0_law_0 : List UInt8 := dkwX0_law_0 ++ dktX0_law_1
theorem dksX0_law_0 : cX0_law.data.toList.drop 0 = dktX0_law_0 := by decide +kernel
theorem dksX0_law_1 : cX0_law.data.toList.drop 23 = dktX0_law_1 := dk_seg dksX0_law_0 23 rfl rfl
theorem dX0_law_0 : decode cX0_law 0 = .ok (.aload_n 0, 1) := dk_42 (dk_at dksX0_law_0 0 rfl rfl)
theorem dX0_law_1 : decode cX0_law 1 = .ok (.iload_n 1, 1) := dk_27 (dk_at dksX0_law_0 1 rfl rfl)
theorem dX0_law_2 : decode cX0_law 2 = .ok (.iconst 0, 1) := dk_3 (dk_at dksX0_law_0 2 rfl rfl)
theorem dX0_law_3 : decode cX0_law 3 = .ok (.iconst 3, 1) := dk_6 (dk_at dksX0_law_0 3 rfl rfl)
theorem dX0_law_4 : decode cX0_law 4 = .ok (.invokestatic 86, 3) := dk_184 0 86 (dk_at dksX0_law_0 4 rfl rfl)
theorem dX0_law_7 : decode cX0_law 7 = .ok (.iconst 1, 1) := dk_4 (dk_at dksX0_law_0 7 rfl rfl)
theorem dX0_law_8 : decode cX0_law 8 = .ok (.invokevirtual 94, 3) := dk_182 0 94 (dk_at dksX0_law_0 8 rfl rfl)
theorem dX0_law_11 : decode cX0_law 11 = .ok (.aload_n 0, 1) := dk_42 (dk_at dksX0_law_0 11 rfl rfl)
theorem dX0_law_12 : decode cX0_law 12 = .ok (.getfield 49, 3) := dk_180 0 49 (dk_at dksX0_law_0 12 rfl rfl)
theorem dX0_law_15 : decode cX0_law 15 = .ok (.getfield 196, 3) := dk_180 0 196 (dk_at dksX0_law_0 15 rfl rfl)
theorem dX0_law_18 : decode cX0_law 18 = .ok (.iload_n 1, 1) := dk_27 (dk_at dksX0_law_0 18 rfl rfl)
theorem dX0_law_19 : decode cX0_law 19 = .ok (.iload_n 2, 1) := dk_28 (dk_at dksX0_law_0 19 rfl rfl)
theorem dX0_law_20 : decode cX0_law 20 = .ok (.iload_n 3, 1) := dk_29 (dk_at dksX0_law_0 20 rfl rfl)
theorem dX0_law_21 : decode cX0_law 21 = .ok (.iload 4, 2) := dk_21 4 (dk_at dksX0_law_0 21 rfl rfl)
theorem dX0_law_23 : decode cX0_law 23 = .ok (.invokevirtual 251, 3) := dk_182 0 251 (dk_at dksX0_law_1 0 rfl rfl)
theorem dX0_law_26 : decode cX0_law 26 = .ok (.ireturn, 1) := dk_172 (dk_at dksX0_law_1 3 rfl rfl)
theorem dX0_law_27 : decode cX0_law 27 = .ok (.astore 5, 2) := dk_58 5 (dk_at dksX0_law_1 4 rfl rfl)
theorem dX0_law_29 : decode cX0_law 29 = .ok (.aload_n 0, 1) := dk_42 (dk_at dksX0_law_1 6 rfl rfl)
theorem dX0_law_30 : decode cX0_law 30 = .ok (.aload 5, 2) := dk_25 5 (dk_at dksX0_law_1 7 rfl rfl)
theorem dX0_law_32 : decode cX0_law 32 = .ok (.invokevirtual 133, 3) := dk_182 0 133 (dk_at dksX0_law_1 9 rfl rfl)
theorem dX0_law_35 : decode cX0_law 35 = .ok (.ireturn, 1) := dk_172 (dk_at dksX0_law_1 12 rfl rfl)
abbrev cX0_way : ByteArray := prog_1_method_33_code
def yX0_way : MethodName := ⟨RX0, "way", "(IIII)I"⟩
def dkwX0_way_5 : List UInt8 := [4, 100, 172, 58, 5, 42, 25, 5, 182, 0, 133, 172]
abbrev dktX0_way_5 : List UInt8 := dkwX0_way_5 ++ []
def dkwX0_way_4 : List UInt8 := [182, 0, 110, 28, 29, 21, 4, 184, 1, 2, 182, 0, 143, 87, 42, 180, 0, 49, 180, 0, 255, 182, 0, 110]
abbrev dktX0_way_4 : List UInt8 := dkwX0_way_4 ++ dktX0_way_5
def dkwX0_way_3 : List UInt8 := [3, 7, 182, 0, 94, 42, 180, 0, 49, 180, 0, 255, 27, 42, 180, 0, 56, 42, 180, 0, 49, 180, 0, 255]
abbrev dktX0_way_3 : List UInt8 := dkwX0_way_3 ++ dktX0_way_4
def dkwX0_way_2 : List UInt8 := [4, 182, 0, 94, 42, 42, 180, 0, 49, 180, 0, 255, 182, 0, 110, 16, 12, 162, 0, 7, 4, 167, 0, 4]
abbrev dktX0_way_2 : List UInt8 := dkwX0_way_2 ++ dktX0_way_3
def dkwX0_way_1 : List UInt8 := [16, 9, 184, 0, 86, 153, 0, 18, 21, 4, 3, 16, 100, 184, 0, 86, 153, 0, 7, 4, 167, 0, 4, 3]
abbrev dktX0_way_1 : List UInt8 := dkwX0_way_1 ++ dktX0_way_2
def dkwX0_way_0 : List UInt8 := [42, 27, 3, 16, 7, 184, 0, 86, 153, 0, 39, 28, 4, 17, 2, 88, 184, 0, 86, 153, 0, 28, 29, 4]
abbrev dktX0_way_0 : List UInt8 := dkwX0_way_0 ++ dktX0_way_1
theorem dksX0_way_0 : cX0_way.data.toList.drop 0 = dktX0_way_0 := by decide +kernel
theorem dksX0_way_1 : cX0_way.data.toList.drop 24 = dktX0_way_1 := dk_seg dksX0_way_0 24 rfl rfl
theorem dksX0_way_2 : cX0_way.data.toList.drop 48 = dktX0_way_2 := dk_seg dksX0_way_1 24 rfl rfl
theorem dksX0_way_3 : cX0_way.data.toList.drop 72 = dktX0_way_3 := dk_seg dksX0_way_2 24 rfl rfl
theorem dksX0_way_4 : cX0_way.data.toList.drop 96 = dktX0_way_4 := dk_seg dksX0_way_3 24 rfl rfl
theorem dksX0_way_5 : cX0_way.data.toList.drop 120 = dktX0_way_5 := dk_seg dksX0_way_4 24 rfl rfl
theorem dX0_way_0 : decode cX0_way 0 = .ok (.aload_n 0, 1) := dk_42 (dk_at dksX0_way_0 0 rfl rfl)
theorem dX0_way_1 : decode cX0_way 1 = .ok (.iload_n 1, 1) := dk_27 (dk_at dksX0_way_0 1 rfl rfl)
theorem dX0_way_2 : decode cX0_way 2 = .ok (.iconst 0, 1) := dk_3 (dk_at dksX0_way_0 2 rfl rfl)
theorem dX0_way_3 : decode cX0_way 3 = .ok (.bipush 7, 2) := dk_16 7 (dk_at dksX0_way_0 3 rfl rfl)
theorem dX0_way_5 : decode cX0_way 5 = .ok (.invokestatic 86, 3) := dk_184 0 86 (dk_at dksX0_way_0 5 rfl rfl)
theorem dX0_way_8 : decode cX0_way 8 = .ok (.ifCond .eq 39, 3) := dk_153 0 39 (dk_at dksX0_way_0 8 rfl rfl)
theorem dX0_way_11 : decode cX0_way 11 = .ok (.iload_n 2, 1) := dk_28 (dk_at dksX0_way_0 11 rfl rfl)
theorem dX0_way_12 : decode cX0_way 12 = .ok (.iconst 1, 1) := dk_4 (dk_at dksX0_way_0 12 rfl rfl)
theorem dX0_way_13 : decode cX0_way 13 = .ok (.sipush 600, 3) := dk_17 2 88 (dk_at dksX0_way_0 13 rfl rfl)
theorem dX0_way_16 : decode cX0_way 16 = .ok (.invokestatic 86, 3) := dk_184 0 86 (dk_at dksX0_way_0 16 rfl rfl)
theorem dX0_way_19 : decode cX0_way 19 = .ok (.ifCond .eq 28, 3) := dk_153 0 28 (dk_at dksX0_way_0 19 rfl rfl)
theorem dX0_way_22 : decode cX0_way 22 = .ok (.iload_n 3, 1) := dk_29 (dk_at dksX0_way_0 22 rfl rfl)
theorem dX0_way_23 : decode cX0_way 23 = .ok (.iconst 1, 1) := dk_4 (dk_at dksX0_way_0 23 rfl rfl)
theorem dX0_way_24 : decode cX0_way 24 = .ok (.bipush 9, 2) := dk_16 9 (dk_at dksX0_way_1 0 rfl rfl)
theorem dX0_way_26 : decode cX0_way 26 = .ok (.invokestatic 86, 3) := dk_184 0 86 (dk_at dksX0_way_1 2 rfl rfl)
theorem dX0_way_29 : decode cX0_way 29 = .ok (.ifCond .eq 18, 3) := dk_153 0 18 (dk_at dksX0_way_1 5 rfl rfl)
theorem dX0_way_32 : decode cX0_way 32 = .ok (.iload 4, 2) := dk_21 4 (dk_at dksX0_way_1 8 rfl rfl)
theorem dX0_way_34 : decode cX0_way 34 = .ok (.iconst 0, 1) := dk_3 (dk_at dksX0_way_1 10 rfl rfl)
theorem dX0_way_35 : decode cX0_way 35 = .ok (.bipush 100, 2) := dk_16 100 (dk_at dksX0_way_1 11 rfl rfl)
theorem dX0_way_37 : decode cX0_way 37 = .ok (.invokestatic 86, 3) := dk_184 0 86 (dk_at dksX0_way_1 13 rfl rfl)
theorem dX0_way_40 : decode cX0_way 40 = .ok (.ifCond .eq 7, 3) := dk_153 0 7 (dk_at dksX0_way_1 16 rfl rfl)
theorem dX0_way_43 : decode cX0_way 43 = .ok (.iconst 1, 1) := dk_4 (dk_at dksX0_way_1 19 rfl rfl)
theorem dX0_way_44 : decode cX0_way 44 = .ok (.goto 4, 3) := dk_167 0 4 (dk_at dksX0_way_1 20 rfl rfl)
theorem dX0_way_47 : decode cX0_way 47 = .ok (.iconst 0, 1) := dk_3 (dk_at dksX0_way_1 23 rfl rfl)
theorem dX0_way_48 : decode cX0_way 48 = .ok (.iconst 1, 1) := dk_4 (dk_at dksX0_way_2 0 rfl rfl)
theorem dX0_way_49 : decode cX0_way 49 = .ok (.invokevirtual 94, 3) := dk_182 0 94 (dk_at dksX0_way_2 1 rfl rfl)
theorem dX0_way_52 : decode cX0_way 52 = .ok (.aload_n 0, 1) := dk_42 (dk_at dksX0_way_2 4 rfl rfl)
theorem dX0_way_53 : decode cX0_way 53 = .ok (.aload_n 0, 1) := dk_42 (dk_at dksX0_way_2 5 rfl rfl)
theorem dX0_way_54 : decode cX0_way 54 = .ok (.getfield 49, 3) := dk_180 0 49 (dk_at dksX0_way_2 6 rfl rfl)
theorem dX0_way_57 : decode cX0_way 57 = .ok (.getfield 255, 3) := dk_180 0 255 (dk_at dksX0_way_2 9 rfl rfl)
theorem dX0_way_60 : decode cX0_way 60 = .ok (.invokevirtual 110, 3) := dk_182 0 110 (dk_at dksX0_way_2 12 rfl rfl)
theorem dX0_way_63 : decode cX0_way 63 = .ok (.bipush 12, 2) := dk_16 12 (dk_at dksX0_way_2 15 rfl rfl)
theorem dX0_way_65 : decode cX0_way 65 = .ok (.if_icmp .ge 7, 3) := dk_162 0 7 (dk_at dksX0_way_2 17 rfl rfl)
theorem dX0_way_68 : decode cX0_way 68 = .ok (.iconst 1, 1) := dk_4 (dk_at dksX0_way_2 20 rfl rfl)
theorem dX0_way_69 : decode cX0_way 69 = .ok (.goto 4, 3) := dk_167 0 4 (dk_at dksX0_way_2 21 rfl rfl)
theorem dX0_way_72 : decode cX0_way 72 = .ok (.iconst 0, 1) := dk_3 (dk_at dksX0_way_3 0 rfl rfl)
theorem dX0_way_73 : decode cX0_way 73 = .ok (.iconst 4, 1) := dk_7 (dk_at dksX0_way_3 1 rfl rfl)
theorem dX0_way_74 : decode cX0_way 74 = .ok (.invokevirtual 94, 3) := dk_182 0 94 (dk_at dksX0_way_3 2 rfl rfl)
theorem dX0_way_77 : decode cX0_way 77 = .ok (.aload_n 0, 1) := dk_42 (dk_at dksX0_way_3 5 rfl rfl)
theorem dX0_way_78 : decode cX0_way 78 = .ok (.getfield 49, 3) := dk_180 0 49 (dk_at dksX0_way_3 6 rfl rfl)
theorem dX0_way_81 : decode cX0_way 81 = .ok (.getfield 255, 3) := dk_180 0 255 (dk_at dksX0_way_3 9 rfl rfl)
theorem dX0_way_84 : decode cX0_way 84 = .ok (.iload_n 1, 1) := dk_27 (dk_at dksX0_way_3 12 rfl rfl)
theorem dX0_way_85 : decode cX0_way 85 = .ok (.aload_n 0, 1) := dk_42 (dk_at dksX0_way_3 13 rfl rfl)
theorem dX0_way_86 : decode cX0_way 86 = .ok (.getfield 56, 3) := dk_180 0 56 (dk_at dksX0_way_3 14 rfl rfl)
theorem dX0_way_89 : decode cX0_way 89 = .ok (.aload_n 0, 1) := dk_42 (dk_at dksX0_way_3 17 rfl rfl)
theorem dX0_way_90 : decode cX0_way 90 = .ok (.getfield 49, 3) := dk_180 0 49 (dk_at dksX0_way_3 18 rfl rfl)
theorem dX0_way_93 : decode cX0_way 93 = .ok (.getfield 255, 3) := dk_180 0 255 (dk_at dksX0_way_3 21 rfl rfl)
theorem dX0_way_96 : decode cX0_way 96 = .ok (.invokevirtual 110, 3) := dk_182 0 110 (dk_at dksX0_way_4 0 rfl rfl)
theorem dX0_way_99 : decode cX0_way 99 = .ok (.iload_n 2, 1) := dk_28 (dk_at dksX0_way_4 3 rfl rfl)
theorem dX0_way_100 : decode cX0_way 100 = .ok (.iload_n 3, 1) := dk_29 (dk_at dksX0_way_4 4 rfl rfl)
theorem dX0_way_101 : decode cX0_way 101 = .ok (.iload 4, 2) := dk_21 4 (dk_at dksX0_way_4 5 rfl rfl)
theorem dX0_way_103 : decode cX0_way 103 = .ok (.invokestatic 258, 3) := dk_184 1 2 (dk_at dksX0_way_4 7 rfl rfl)
theorem dX0_way_106 : decode cX0_way 106 = .ok (.invokevirtual 143, 3) := dk_182 0 143 (dk_at dksX0_way_4 10 rfl rfl)
theorem dX0_way_109 : decode cX0_way 109 = .ok (.pop, 1) := dk_87 (dk_at dksX0_way_4 13 rfl rfl)
theorem dX0_way_110 : decode cX0_way 110 = .ok (.aload_n 0, 1) := dk_42 (dk_at dksX0_way_4 14 rfl rfl)
theorem dX0_way_111 : decode cX0_way 111 = .ok (.getfield 49, 3) := dk_180 0 49 (dk_at dksX0_way_4 15 rfl rfl)
theorem dX0_way_114 : decode cX0_way 114 = .ok (.getfield 255, 3) := dk_180 0 255 (dk_at dksX0_way_4 18 rfl rfl)
theorem dX0_way_117 : decode cX0_way 117 = .ok (.invokevirtual 110, 3) := dk_182 0 110 (dk_at dksX0_way_4 21 rfl rfl)
theorem dX0_way_120 : decode cX0_way 120 = .ok (.iconst 1, 1) := dk_4 (dk_at dksX0_way_5 0 rfl rfl)
theorem dX0_way_121 : decode cX0_way 121 = .ok (.isub, 1) := dk_100 (dk_at dksX0_way_5 1 rfl rfl)
theorem dX0_way_122 : decode cX0_way 122 = .ok (.ireturn, 1) := dk_172 (dk_at dksX0_way_5 2 rfl rfl)
theorem dX0_way_123 : decode cX0_way 123 = .ok (.astore 5, 2) := dk_58 5 (dk_at dksX0_way_5 3 rfl rfl)
theorem dX0_way_125 : decode cX0_way 125 = .ok (.aload_n 0, 1) := dk_42 (dk_at dksX0_way_5 5 rfl rfl)
theorem dX0_way_126 : decode cX0_way 126 = .ok (.aload 5, 2) := dk_25 5 (dk_at dksX0_way_5 6 rfl rfl)
theorem dX0_way_128 : decode cX0_way 128 = .ok (.invokevirtual 133, 3) := dk_182 0 133 (dk_at dksX0_way_5 8 rfl rfl)
theorem dX0_way_131 : decode cX0_way 131 = .ok (.ireturn, 1) := dk_172 (dk_at dksX0_way_5 11 rfl rfl)
abbrev cX0_wayOf : ByteArray := prog_1_method_4_code
def yX0_wayOf : MethodName := ⟨RX0, "wayOf", "(ILLastHatch$Trace;IIII)LLastHatch$Way;"⟩
def dkwX0_wayOf_7 : List UInt8 := [176]
abbrev dktX0_wayOf_7 : List UInt8 := dkwX0_wayOf_7 ++ []
def dkwX0_wayOf_6 : List UInt8 := [28, 29, 21, 4, 21, 5, 183, 0, 36, 176, 187, 0, 37, 89, 43, 28, 29, 21, 4, 21, 5, 183, 0, 39]
abbrev dktX0_wayOf_6 : List UInt8 := dkwX0_wayOf_6 ++ dktX0_wayOf_7
def dkwX0_wayOf_5 : List UInt8 := [183, 0, 30, 176, 187, 0, 31, 89, 43, 28, 29, 21, 4, 21, 5, 183, 0, 33, 176, 187, 0, 34, 89, 43]
abbrev dktX0_wayOf_5 : List UInt8 := dkwX0_wayOf_5 ++ dktX0_wayOf_6
def dkwX0_wayOf_4 : List UInt8 := [89, 43, 28, 29, 21, 4, 21, 5, 183, 0, 27, 176, 187, 0, 28, 89, 43, 28, 29, 21, 4, 21, 5]
abbrev dktX0_wayOf_4 : List UInt8 := dkwX0_wayOf_4 ++ dktX0_wayOf_5
def dkwX0_wayOf_3 : List UInt8 := [21, 5, 183, 0, 21, 176, 187, 0, 22, 89, 43, 28, 29, 21, 4, 21, 5, 183, 0, 24, 176, 187, 0, 25]
abbrev dktX0_wayOf_3 : List UInt8 := dkwX0_wayOf_3 ++ dktX0_wayOf_4
def dkwX0_wayOf_2 : List UInt8 := [187, 0, 13, 89, 43, 28, 29, 21, 4, 21, 5, 183, 0, 15, 176, 187, 0, 19, 89, 43, 28, 29, 21, 4]
abbrev dktX0_wayOf_2 : List UInt8 := dkwX0_wayOf_2 ++ dktX0_wayOf_3
def dkwX0_wayOf_1 : List UInt8 := [170, 0, 0, 0, 0, 0, 148, 0, 0, 0, 1, 0, 0, 0, 7, 0, 0, 0, 43, 0, 0, 0, 58, 0, 0, 0, 73, 0, 0, 0, 88, 0, 0, 0, 103, 0, 0, 0, 118, 0, 0, 0, 133]
abbrev dktX0_wayOf_1 : List UInt8 := dkwX0_wayOf_1 ++ dktX0_wayOf_2
def dkwX0_wayOf_0 : List UInt8 := [26]
abbrev dktX0_wayOf_0 : List UInt8 := dkwX0_wayOf_0 ++ dktX0_wayOf_1
theorem dksX0_wayOf_0 : cX0_wayOf.data.toList.drop 0 = dktX0_wayOf_0 := by decide +kernel
theorem dksX0_wayOf_1 : cX0_wayOf.data.toList.drop 1 = dktX0_wayOf_1 := dk_seg dksX0_wayOf_0 1 rfl rfl
theorem dksX0_wayOf_2 : cX0_wayOf.data.toList.drop 44 = dktX0_wayOf_2 := dk_seg dksX0_wayOf_1 43 rfl rfl
theorem dksX0_wayOf_3 : cX0_wayOf.data.toList.drop 68 = dktX0_wayOf_3 := dk_seg dksX0_wayOf_2 24 rfl rfl
theorem dksX0_wayOf_4 : cX0_wayOf.data.toList.drop 92 = dktX0_wayOf_4 := dk_seg dksX0_wayOf_3 24 rfl rfl
theorem dksX0_wayOf_5 : cX0_wayOf.data.toList.drop 115 = dktX0_wayOf_5 := dk_seg dksX0_wayOf_4 23 rfl rfl
theorem dksX0_wayOf_6 : cX0_wayOf.data.toList.drop 139 = dktX0_wayOf_6 := dk_seg dksX0_wayOf_5 24 rfl rfl
theorem dksX0_wayOf_7 : cX0_wayOf.data.toList.drop 163 = dktX0_wayOf_7 := dk_seg dksX0_wayOf_6 24 rfl rfl
theorem dX0_wayOf_0 : decode cX0_wayOf 0 = .ok (.iload_n 0, 1) := dk_26 (dk_at dksX0_wayOf_0 0 rfl rfl)
theorem dX0_wayOf_1 : decode cX0_wayOf 1 = .ok (.tableswitch 148 1 7 #[43, 58, 73, 88, 103, 118, 133], 43) := by decide +kernel
theorem dX0_wayOf_44 : decode cX0_wayOf 44 = .ok (.new 13, 3) := dk_187 0 13 (dk_at dksX0_wayOf_2 0 rfl rfl)
theorem dX0_wayOf_47 : decode cX0_wayOf 47 = .ok (.dup, 1) := dk_89 (dk_at dksX0_wayOf_2 3 rfl rfl)
theorem dX0_wayOf_48 : decode cX0_wayOf 48 = .ok (.aload_n 1, 1) := dk_43 (dk_at dksX0_wayOf_2 4 rfl rfl)
theorem dX0_wayOf_49 : decode cX0_wayOf 49 = .ok (.iload_n 2, 1) := dk_28 (dk_at dksX0_wayOf_2 5 rfl rfl)
theorem dX0_wayOf_50 : decode cX0_wayOf 50 = .ok (.iload_n 3, 1) := dk_29 (dk_at dksX0_wayOf_2 6 rfl rfl)
theorem dX0_wayOf_51 : decode cX0_wayOf 51 = .ok (.iload 4, 2) := dk_21 4 (dk_at dksX0_wayOf_2 7 rfl rfl)
theorem dX0_wayOf_53 : decode cX0_wayOf 53 = .ok (.iload 5, 2) := dk_21 5 (dk_at dksX0_wayOf_2 9 rfl rfl)
theorem dX0_wayOf_55 : decode cX0_wayOf 55 = .ok (.invokespecial 15, 3) := dk_183 0 15 (dk_at dksX0_wayOf_2 11 rfl rfl)
theorem dX0_wayOf_58 : decode cX0_wayOf 58 = .ok (.areturn, 1) := dk_176 (dk_at dksX0_wayOf_2 14 rfl rfl)
theorem dX0_wayOf_59 : decode cX0_wayOf 59 = .ok (.new 19, 3) := dk_187 0 19 (dk_at dksX0_wayOf_2 15 rfl rfl)
theorem dX0_wayOf_62 : decode cX0_wayOf 62 = .ok (.dup, 1) := dk_89 (dk_at dksX0_wayOf_2 18 rfl rfl)
theorem dX0_wayOf_63 : decode cX0_wayOf 63 = .ok (.aload_n 1, 1) := dk_43 (dk_at dksX0_wayOf_2 19 rfl rfl)
theorem dX0_wayOf_64 : decode cX0_wayOf 64 = .ok (.iload_n 2, 1) := dk_28 (dk_at dksX0_wayOf_2 20 rfl rfl)
theorem dX0_wayOf_65 : decode cX0_wayOf 65 = .ok (.iload_n 3, 1) := dk_29 (dk_at dksX0_wayOf_2 21 rfl rfl)
theorem dX0_wayOf_66 : decode cX0_wayOf 66 = .ok (.iload 4, 2) := dk_21 4 (dk_at dksX0_wayOf_2 22 rfl rfl)
theorem dX0_wayOf_68 : decode cX0_wayOf 68 = .ok (.iload 5, 2) := dk_21 5 (dk_at dksX0_wayOf_3 0 rfl rfl)
theorem dX0_wayOf_70 : decode cX0_wayOf 70 = .ok (.invokespecial 21, 3) := dk_183 0 21 (dk_at dksX0_wayOf_3 2 rfl rfl)
theorem dX0_wayOf_73 : decode cX0_wayOf 73 = .ok (.areturn, 1) := dk_176 (dk_at dksX0_wayOf_3 5 rfl rfl)
theorem dX0_wayOf_74 : decode cX0_wayOf 74 = .ok (.new 22, 3) := dk_187 0 22 (dk_at dksX0_wayOf_3 6 rfl rfl)
theorem dX0_wayOf_77 : decode cX0_wayOf 77 = .ok (.dup, 1) := dk_89 (dk_at dksX0_wayOf_3 9 rfl rfl)
theorem dX0_wayOf_78 : decode cX0_wayOf 78 = .ok (.aload_n 1, 1) := dk_43 (dk_at dksX0_wayOf_3 10 rfl rfl)
theorem dX0_wayOf_79 : decode cX0_wayOf 79 = .ok (.iload_n 2, 1) := dk_28 (dk_at dksX0_wayOf_3 11 rfl rfl)
theorem dX0_wayOf_80 : decode cX0_wayOf 80 = .ok (.iload_n 3, 1) := dk_29 (dk_at dksX0_wayOf_3 12 rfl rfl)
theorem dX0_wayOf_81 : decode cX0_wayOf 81 = .ok (.iload 4, 2) := dk_21 4 (dk_at dksX0_wayOf_3 13 rfl rfl)
theorem dX0_wayOf_83 : decode cX0_wayOf 83 = .ok (.iload 5, 2) := dk_21 5 (dk_at dksX0_wayOf_3 15 rfl rfl)
theorem dX0_wayOf_85 : decode cX0_wayOf 85 = .ok (.invokespecial 24, 3) := dk_183 0 24 (dk_at dksX0_wayOf_3 17 rfl rfl)
theorem dX0_wayOf_88 : decode cX0_wayOf 88 = .ok (.areturn, 1) := dk_176 (dk_at dksX0_wayOf_3 20 rfl rfl)
theorem dX0_wayOf_89 : decode cX0_wayOf 89 = .ok (.new 25, 3) := dk_187 0 25 (dk_at dksX0_wayOf_3 21 rfl rfl)
theorem dX0_wayOf_92 : decode cX0_wayOf 92 = .ok (.dup, 1) := dk_89 (dk_at dksX0_wayOf_4 0 rfl rfl)
theorem dX0_wayOf_93 : decode cX0_wayOf 93 = .ok (.aload_n 1, 1) := dk_43 (dk_at dksX0_wayOf_4 1 rfl rfl)
theorem dX0_wayOf_94 : decode cX0_wayOf 94 = .ok (.iload_n 2, 1) := dk_28 (dk_at dksX0_wayOf_4 2 rfl rfl)
theorem dX0_wayOf_95 : decode cX0_wayOf 95 = .ok (.iload_n 3, 1) := dk_29 (dk_at dksX0_wayOf_4 3 rfl rfl)
theorem dX0_wayOf_96 : decode cX0_wayOf 96 = .ok (.iload 4, 2) := dk_21 4 (dk_at dksX0_wayOf_4 4 rfl rfl)
theorem dX0_wayOf_98 : decode cX0_wayOf 98 = .ok (.iload 5, 2) := dk_21 5 (dk_at dksX0_wayOf_4 6 rfl rfl)
theorem dX0_wayOf_100 : decode cX0_wayOf 100 = .ok (.invokespecial 27, 3) := dk_183 0 27 (dk_at dksX0_wayOf_4 8 rfl rfl)
theorem dX0_wayOf_103 : decode cX0_wayOf 103 = .ok (.areturn, 1) := dk_176 (dk_at dksX0_wayOf_4 11 rfl rfl)
theorem dX0_wayOf_104 : decode cX0_wayOf 104 = .ok (.new 28, 3) := dk_187 0 28 (dk_at dksX0_wayOf_4 12 rfl rfl)
theorem dX0_wayOf_107 : decode cX0_wayOf 107 = .ok (.dup, 1) := dk_89 (dk_at dksX0_wayOf_4 15 rfl rfl)
theorem dX0_wayOf_108 : decode cX0_wayOf 108 = .ok (.aload_n 1, 1) := dk_43 (dk_at dksX0_wayOf_4 16 rfl rfl)
theorem dX0_wayOf_109 : decode cX0_wayOf 109 = .ok (.iload_n 2, 1) := dk_28 (dk_at dksX0_wayOf_4 17 rfl rfl)
theorem dX0_wayOf_110 : decode cX0_wayOf 110 = .ok (.iload_n 3, 1) := dk_29 (dk_at dksX0_wayOf_4 18 rfl rfl)
theorem dX0_wayOf_111 : decode cX0_wayOf 111 = .ok (.iload 4, 2) := dk_21 4 (dk_at dksX0_wayOf_4 19 rfl rfl)
theorem dX0_wayOf_113 : decode cX0_wayOf 113 = .ok (.iload 5, 2) := dk_21 5 (dk_at dksX0_wayOf_4 21 rfl rfl)
theorem dX0_wayOf_115 : decode cX0_wayOf 115 = .ok (.invokespecial 30, 3) := dk_183 0 30 (dk_at dksX0_wayOf_5 0 rfl rfl)
theorem dX0_wayOf_118 : decode cX0_wayOf 118 = .ok (.areturn, 1) := dk_176 (dk_at dksX0_wayOf_5 3 rfl rfl)
theorem dX0_wayOf_119 : decode cX0_wayOf 119 = .ok (.new 31, 3) := dk_187 0 31 (dk_at dksX0_wayOf_5 4 rfl rfl)
theorem dX0_wayOf_122 : decode cX0_wayOf 122 = .ok (.dup, 1) := dk_89 (dk_at dksX0_wayOf_5 7 rfl rfl)
theorem dX0_wayOf_123 : decode cX0_wayOf 123 = .ok (.aload_n 1, 1) := dk_43 (dk_at dksX0_wayOf_5 8 rfl rfl)
theorem dX0_wayOf_124 : decode cX0_wayOf 124 = .ok (.iload_n 2, 1) := dk_28 (dk_at dksX0_wayOf_5 9 rfl rfl)
theorem dX0_wayOf_125 : decode cX0_wayOf 125 = .ok (.iload_n 3, 1) := dk_29 (dk_at dksX0_wayOf_5 10 rfl rfl)
theorem dX0_wayOf_126 : decode cX0_wayOf 126 = .ok (.iload 4, 2) := dk_21 4 (dk_at dksX0_wayOf_5 11 rfl rfl)
theorem dX0_wayOf_128 : decode cX0_wayOf 128 = .ok (.iload 5, 2) := dk_21 5 (dk_at dksX0_wayOf_5 13 rfl rfl)
theorem dX0_wayOf_130 : decode cX0_wayOf 130 = .ok (.invokespecial 33, 3) := dk_183 0 33 (dk_at dksX0_wayOf_5 15 rfl rfl)
theorem dX0_wayOf_133 : decode cX0_wayOf 133 = .ok (.areturn, 1) := dk_176 (dk_at dksX0_wayOf_5 18 rfl rfl)
theorem dX0_wayOf_134 : decode cX0_wayOf 134 = .ok (.new 34, 3) := dk_187 0 34 (dk_at dksX0_wayOf_5 19 rfl rfl)
theorem dX0_wayOf_137 : decode cX0_wayOf 137 = .ok (.dup, 1) := dk_89 (dk_at dksX0_wayOf_5 22 rfl rfl)
theorem dX0_wayOf_138 : decode cX0_wayOf 138 = .ok (.aload_n 1, 1) := dk_43 (dk_at dksX0_wayOf_5 23 rfl rfl)
theorem dX0_wayOf_139 : decode cX0_wayOf 139 = .ok (.iload_n 2, 1) := dk_28 (dk_at dksX0_wayOf_6 0 rfl rfl)
theorem dX0_wayOf_140 : decode cX0_wayOf 140 = .ok (.iload_n 3, 1) := dk_29 (dk_at dksX0_wayOf_6 1 rfl rfl)
theorem dX0_wayOf_141 : decode cX0_wayOf 141 = .ok (.iload 4, 2) := dk_21 4 (dk_at dksX0_wayOf_6 2 rfl rfl)
theorem dX0_wayOf_143 : decode cX0_wayOf 143 = .ok (.iload 5, 2) := dk_21 5 (dk_at dksX0_wayOf_6 4 rfl rfl)
theorem dX0_wayOf_145 : decode cX0_wayOf 145 = .ok (.invokespecial 36, 3) := dk_183 0 36 (dk_at dksX0_wayOf_6 6 rfl rfl)
theorem dX0_wayOf_148 : decode cX0_wayOf 148 = .ok (.areturn, 1) := dk_176 (dk_at dksX0_wayOf_6 9 rfl rfl)
theorem dX0_wayOf_149 : decode cX0_wayOf 149 = .ok (.new 37, 3) := dk_187 0 37 (dk_at dksX0_wayOf_6 10 rfl rfl)
theorem dX0_wayOf_152 : decode cX0_wayOf 152 = .ok (.dup, 1) := dk_89 (dk_at dksX0_wayOf_6 13 rfl rfl)
theorem dX0_wayOf_153 : decode cX0_wayOf 153 = .ok (.aload_n 1, 1) := dk_43 (dk_at dksX0_wayOf_6 14 rfl rfl)
theorem dX0_wayOf_154 : decode cX0_wayOf 154 = .ok (.iload_n 2, 1) := dk_28 (dk_at dksX0_wayOf_6 15 rfl rfl)
theorem dX0_wayOf_155 : decode cX0_wayOf 155 = .ok (.iload_n 3, 1) := dk_29 (dk_at dksX0_wayOf_6 16 rfl rfl)
theorem dX0_wayOf_156 : decode cX0_wayOf 156 = .ok (.iload 4, 2) := dk_21 4 (dk_at dksX0_wayOf_6 17 rfl rfl)
theorem dX0_wayOf_158 : decode cX0_wayOf 158 = .ok (.iload 5, 2) := dk_21 5 (dk_at dksX0_wayOf_6 19 rfl rfl)
theorem dX0_wayOf_160 : decode cX0_wayOf 160 = .ok (.invokespecial 39, 3) := dk_183 0 39 (dk_at dksX0_wayOf_6 21 rfl rfl)
theorem dX0_wayOf_163 : decode cX0_wayOf 163 = .ok (.areturn, 1) := dk_176 (dk_at dksX0_wayOf_7 0 rfl rfl)
abbrev cX0_as : ByteArray := prog_1_method_34_code
def yX0_as : MethodName := ⟨RX0, "as", "(II)I"⟩
def dkwX0_as_1 : List UInt8 := [8, 182, 0, 94, 45, 180, 1, 13, 172, 78, 42, 45, 182, 0, 133, 172]
abbrev dktX0_as_1 : List UInt8 := dkwX0_as_1 ++ []
def dkwX0_as_0 : List UInt8 := [42, 27, 182, 1, 6, 78, 42, 28, 3, 16, 7, 184, 0, 86, 4, 182, 0, 94, 42, 45, 28, 182, 1, 10]
abbrev dktX0_as_0 : List UInt8 := dkwX0_as_0 ++ dktX0_as_1
theorem dksX0_as_0 : cX0_as.data.toList.drop 0 = dktX0_as_0 := by decide +kernel
theorem dksX0_as_1 : cX0_as.data.toList.drop 24 = dktX0_as_1 := dk_seg dksX0_as_0 24 rfl rfl
theorem dX0_as_0 : decode cX0_as 0 = .ok (.aload_n 0, 1) := dk_42 (dk_at dksX0_as_0 0 rfl rfl)
theorem dX0_as_1 : decode cX0_as 1 = .ok (.iload_n 1, 1) := dk_27 (dk_at dksX0_as_0 1 rfl rfl)
theorem dX0_as_2 : decode cX0_as 2 = .ok (.invokevirtual 262, 3) := dk_182 1 6 (dk_at dksX0_as_0 2 rfl rfl)
theorem dX0_as_5 : decode cX0_as 5 = .ok (.astore_n 3, 1) := dk_78 (dk_at dksX0_as_0 5 rfl rfl)
theorem dX0_as_6 : decode cX0_as 6 = .ok (.aload_n 0, 1) := dk_42 (dk_at dksX0_as_0 6 rfl rfl)
theorem dX0_as_7 : decode cX0_as 7 = .ok (.iload_n 2, 1) := dk_28 (dk_at dksX0_as_0 7 rfl rfl)
theorem dX0_as_8 : decode cX0_as 8 = .ok (.iconst 0, 1) := dk_3 (dk_at dksX0_as_0 8 rfl rfl)
theorem dX0_as_9 : decode cX0_as 9 = .ok (.bipush 7, 2) := dk_16 7 (dk_at dksX0_as_0 9 rfl rfl)
theorem dX0_as_11 : decode cX0_as 11 = .ok (.invokestatic 86, 3) := dk_184 0 86 (dk_at dksX0_as_0 11 rfl rfl)
theorem dX0_as_14 : decode cX0_as 14 = .ok (.iconst 1, 1) := dk_4 (dk_at dksX0_as_0 14 rfl rfl)
theorem dX0_as_15 : decode cX0_as 15 = .ok (.invokevirtual 94, 3) := dk_182 0 94 (dk_at dksX0_as_0 15 rfl rfl)
theorem dX0_as_18 : decode cX0_as 18 = .ok (.aload_n 0, 1) := dk_42 (dk_at dksX0_as_0 18 rfl rfl)
theorem dX0_as_19 : decode cX0_as 19 = .ok (.aload_n 3, 1) := dk_45 (dk_at dksX0_as_0 19 rfl rfl)
theorem dX0_as_20 : decode cX0_as 20 = .ok (.iload_n 2, 1) := dk_28 (dk_at dksX0_as_0 20 rfl rfl)
theorem dX0_as_21 : decode cX0_as 21 = .ok (.invokevirtual 266, 3) := dk_182 1 10 (dk_at dksX0_as_0 21 rfl rfl)
theorem dX0_as_24 : decode cX0_as 24 = .ok (.iconst 5, 1) := dk_8 (dk_at dksX0_as_1 0 rfl rfl)
theorem dX0_as_25 : decode cX0_as 25 = .ok (.invokevirtual 94, 3) := dk_182 0 94 (dk_at dksX0_as_1 1 rfl rfl)
theorem dX0_as_28 : decode cX0_as 28 = .ok (.aload_n 3, 1) := dk_45 (dk_at dksX0_as_1 4 rfl rfl)
theorem dX0_as_29 : decode cX0_as 29 = .ok (.getfield 269, 3) := dk_180 1 13 (dk_at dksX0_as_1 5 rfl rfl)
theorem dX0_as_32 : decode cX0_as 32 = .ok (.ireturn, 1) := dk_172 (dk_at dksX0_as_1 8 rfl rfl)
theorem dX0_as_33 : decode cX0_as 33 = .ok (.astore_n 3, 1) := dk_78 (dk_at dksX0_as_1 9 rfl rfl)
theorem dX0_as_34 : decode cX0_as 34 = .ok (.aload_n 0, 1) := dk_42 (dk_at dksX0_as_1 10 rfl rfl)
theorem dX0_as_35 : decode cX0_as 35 = .ok (.aload_n 3, 1) := dk_45 (dk_at dksX0_as_1 11 rfl rfl)
theorem dX0_as_36 : decode cX0_as 36 = .ok (.invokevirtual 133, 3) := dk_182 0 133 (dk_at dksX0_as_1 12 rfl rfl)
theorem dX0_as_39 : decode cX0_as 39 = .ok (.ireturn, 1) := dk_172 (dk_at dksX0_as_1 15 rfl rfl)
abbrev cX0_wayAt : ByteArray := prog_1_method_32_code
def yX0_wayAt : MethodName := ⟨RX0, "wayAt", "(I)LLastHatch$Way;"⟩
def dkwX0_wayAt_1 : List UInt8 := [180, 0, 49, 180, 0, 255, 27, 182, 0, 116, 192, 0, 37, 176]
abbrev dktX0_wayAt_1 : List UInt8 := dkwX0_wayAt_1 ++ []
def dkwX0_wayAt_0 : List UInt8 := [42, 27, 3, 42, 180, 0, 49, 180, 0, 255, 182, 0, 110, 4, 100, 184, 0, 86, 4, 182, 0, 94, 42]
abbrev dktX0_wayAt_0 : List UInt8 := dkwX0_wayAt_0 ++ dktX0_wayAt_1
theorem dksX0_wayAt_0 : cX0_wayAt.data.toList.drop 0 = dktX0_wayAt_0 := by decide +kernel
theorem dksX0_wayAt_1 : cX0_wayAt.data.toList.drop 23 = dktX0_wayAt_1 := dk_seg dksX0_wayAt_0 23 rfl rfl
theorem dX0_wayAt_0 : decode cX0_wayAt 0 = .ok (.aload_n 0, 1) := dk_42 (dk_at dksX0_wayAt_0 0 rfl rfl)
theorem dX0_wayAt_1 : decode cX0_wayAt 1 = .ok (.iload_n 1, 1) := dk_27 (dk_at dksX0_wayAt_0 1 rfl rfl)
theorem dX0_wayAt_2 : decode cX0_wayAt 2 = .ok (.iconst 0, 1) := dk_3 (dk_at dksX0_wayAt_0 2 rfl rfl)
theorem dX0_wayAt_3 : decode cX0_wayAt 3 = .ok (.aload_n 0, 1) := dk_42 (dk_at dksX0_wayAt_0 3 rfl rfl)
theorem dX0_wayAt_4 : decode cX0_wayAt 4 = .ok (.getfield 49, 3) := dk_180 0 49 (dk_at dksX0_wayAt_0 4 rfl rfl)
theorem dX0_wayAt_7 : decode cX0_wayAt 7 = .ok (.getfield 255, 3) := dk_180 0 255 (dk_at dksX0_wayAt_0 7 rfl rfl)
theorem dX0_wayAt_10 : decode cX0_wayAt 10 = .ok (.invokevirtual 110, 3) := dk_182 0 110 (dk_at dksX0_wayAt_0 10 rfl rfl)
theorem dX0_wayAt_13 : decode cX0_wayAt 13 = .ok (.iconst 1, 1) := dk_4 (dk_at dksX0_wayAt_0 13 rfl rfl)
theorem dX0_wayAt_14 : decode cX0_wayAt 14 = .ok (.isub, 1) := dk_100 (dk_at dksX0_wayAt_0 14 rfl rfl)
theorem dX0_wayAt_15 : decode cX0_wayAt 15 = .ok (.invokestatic 86, 3) := dk_184 0 86 (dk_at dksX0_wayAt_0 15 rfl rfl)
theorem dX0_wayAt_18 : decode cX0_wayAt 18 = .ok (.iconst 1, 1) := dk_4 (dk_at dksX0_wayAt_0 18 rfl rfl)
theorem dX0_wayAt_19 : decode cX0_wayAt 19 = .ok (.invokevirtual 94, 3) := dk_182 0 94 (dk_at dksX0_wayAt_0 19 rfl rfl)
theorem dX0_wayAt_22 : decode cX0_wayAt 22 = .ok (.aload_n 0, 1) := dk_42 (dk_at dksX0_wayAt_0 22 rfl rfl)
theorem dX0_wayAt_23 : decode cX0_wayAt 23 = .ok (.getfield 49, 3) := dk_180 0 49 (dk_at dksX0_wayAt_1 0 rfl rfl)
theorem dX0_wayAt_26 : decode cX0_wayAt 26 = .ok (.getfield 255, 3) := dk_180 0 255 (dk_at dksX0_wayAt_1 3 rfl rfl)
theorem dX0_wayAt_29 : decode cX0_wayAt 29 = .ok (.iload_n 1, 1) := dk_27 (dk_at dksX0_wayAt_1 6 rfl rfl)
theorem dX0_wayAt_30 : decode cX0_wayAt 30 = .ok (.invokevirtual 116, 3) := dk_182 0 116 (dk_at dksX0_wayAt_1 7 rfl rfl)
theorem dX0_wayAt_33 : decode cX0_wayAt 33 = .ok (.checkcast 37, 3) := dk_192 0 37 (dk_at dksX0_wayAt_1 10 rfl rfl)
theorem dX0_wayAt_36 : decode cX0_wayAt 36 = .ok (.areturn, 1) := dk_176 (dk_at dksX0_wayAt_1 13 rfl rfl)
abbrev cX0_out : ByteArray := prog_1_method_36_code
def yX0_out : MethodName := ⟨RX0, "out", "(III)I"⟩
def dkwX0_out_1 : List UInt8 := [180, 0, 49, 182, 1, 20, 172, 58, 4, 42, 25, 4, 182, 0, 133, 172]
abbrev dktX0_out_1 : List UInt8 := dkwX0_out_1 ++ []
def dkwX0_out_0 : List UInt8 := [42, 27, 182, 1, 6, 58, 4, 42, 28, 29, 184, 1, 16, 4, 182, 0, 94, 25, 4, 28, 29, 42]
abbrev dktX0_out_0 : List UInt8 := dkwX0_out_0 ++ dktX0_out_1
theorem dksX0_out_0 : cX0_out.data.toList.drop 0 = dktX0_out_0 := by decide +kernel
theorem dksX0_out_1 : cX0_out.data.toList.drop 22 = dktX0_out_1 := dk_seg dksX0_out_0 22 rfl rfl
theorem dX0_out_0 : decode cX0_out 0 = .ok (.aload_n 0, 1) := dk_42 (dk_at dksX0_out_0 0 rfl rfl)
theorem dX0_out_1 : decode cX0_out 1 = .ok (.iload_n 1, 1) := dk_27 (dk_at dksX0_out_0 1 rfl rfl)
theorem dX0_out_2 : decode cX0_out 2 = .ok (.invokevirtual 262, 3) := dk_182 1 6 (dk_at dksX0_out_0 2 rfl rfl)
theorem dX0_out_5 : decode cX0_out 5 = .ok (.astore 4, 2) := dk_58 4 (dk_at dksX0_out_0 5 rfl rfl)
theorem dX0_out_7 : decode cX0_out 7 = .ok (.aload_n 0, 1) := dk_42 (dk_at dksX0_out_0 7 rfl rfl)
theorem dX0_out_8 : decode cX0_out 8 = .ok (.iload_n 2, 1) := dk_28 (dk_at dksX0_out_0 8 rfl rfl)
theorem dX0_out_9 : decode cX0_out 9 = .ok (.iload_n 3, 1) := dk_29 (dk_at dksX0_out_0 9 rfl rfl)
theorem dX0_out_10 : decode cX0_out 10 = .ok (.invokestatic 272, 3) := dk_184 1 16 (dk_at dksX0_out_0 10 rfl rfl)
theorem dX0_out_13 : decode cX0_out 13 = .ok (.iconst 1, 1) := dk_4 (dk_at dksX0_out_0 13 rfl rfl)
theorem dX0_out_14 : decode cX0_out 14 = .ok (.invokevirtual 94, 3) := dk_182 0 94 (dk_at dksX0_out_0 14 rfl rfl)
theorem dX0_out_17 : decode cX0_out 17 = .ok (.aload 4, 2) := dk_25 4 (dk_at dksX0_out_0 17 rfl rfl)
theorem dX0_out_19 : decode cX0_out 19 = .ok (.iload_n 2, 1) := dk_28 (dk_at dksX0_out_0 19 rfl rfl)
theorem dX0_out_20 : decode cX0_out 20 = .ok (.iload_n 3, 1) := dk_29 (dk_at dksX0_out_0 20 rfl rfl)
theorem dX0_out_21 : decode cX0_out 21 = .ok (.aload_n 0, 1) := dk_42 (dk_at dksX0_out_0 21 rfl rfl)
theorem dX0_out_22 : decode cX0_out 22 = .ok (.getfield 49, 3) := dk_180 0 49 (dk_at dksX0_out_1 0 rfl rfl)
theorem dX0_out_25 : decode cX0_out 25 = .ok (.invokevirtual 276, 3) := dk_182 1 20 (dk_at dksX0_out_1 3 rfl rfl)
theorem dX0_out_28 : decode cX0_out 28 = .ok (.ireturn, 1) := dk_172 (dk_at dksX0_out_1 6 rfl rfl)
theorem dX0_out_29 : decode cX0_out 29 = .ok (.astore 4, 2) := dk_58 4 (dk_at dksX0_out_1 7 rfl rfl)
theorem dX0_out_31 : decode cX0_out 31 = .ok (.aload_n 0, 1) := dk_42 (dk_at dksX0_out_1 9 rfl rfl)
theorem dX0_out_32 : decode cX0_out 32 = .ok (.aload 4, 2) := dk_25 4 (dk_at dksX0_out_1 10 rfl rfl)
theorem dX0_out_34 : decode cX0_out 34 = .ok (.invokevirtual 133, 3) := dk_182 0 133 (dk_at dksX0_out_1 12 rfl rfl)
theorem dX0_out_37 : decode cX0_out 37 = .ok (.ireturn, 1) := dk_172 (dk_at dksX0_out_1 15 rfl rfl)
abbrev cX0_isCrew : ByteArray := prog_1_method_35_code
def yX0_isCrew : MethodName := ⟨RX0, "isCrew", "(II)Z"⟩
def dkwX0_isCrew_1 : List UInt8 := [167, 0, 4, 3, 172]
abbrev dktX0_isCrew_1 : List UInt8 := dkwX0_isCrew_1 ++ []
def dkwX0_isCrew_0 : List UInt8 := [26, 3, 16, 99, 184, 0, 86, 153, 0, 18, 27, 3, 17, 9, 96, 184, 0, 86, 153, 0, 7, 4]
abbrev dktX0_isCrew_0 : List UInt8 := dkwX0_isCrew_0 ++ dktX0_isCrew_1
theorem dksX0_isCrew_0 : cX0_isCrew.data.toList.drop 0 = dktX0_isCrew_0 := by decide +kernel
theorem dksX0_isCrew_1 : cX0_isCrew.data.toList.drop 22 = dktX0_isCrew_1 := dk_seg dksX0_isCrew_0 22 rfl rfl
theorem dX0_isCrew_0 : decode cX0_isCrew 0 = .ok (.iload_n 0, 1) := dk_26 (dk_at dksX0_isCrew_0 0 rfl rfl)
theorem dX0_isCrew_1 : decode cX0_isCrew 1 = .ok (.iconst 0, 1) := dk_3 (dk_at dksX0_isCrew_0 1 rfl rfl)
theorem dX0_isCrew_2 : decode cX0_isCrew 2 = .ok (.bipush 99, 2) := dk_16 99 (dk_at dksX0_isCrew_0 2 rfl rfl)
theorem dX0_isCrew_4 : decode cX0_isCrew 4 = .ok (.invokestatic 86, 3) := dk_184 0 86 (dk_at dksX0_isCrew_0 4 rfl rfl)
theorem dX0_isCrew_7 : decode cX0_isCrew 7 = .ok (.ifCond .eq 18, 3) := dk_153 0 18 (dk_at dksX0_isCrew_0 7 rfl rfl)
theorem dX0_isCrew_10 : decode cX0_isCrew 10 = .ok (.iload_n 1, 1) := dk_27 (dk_at dksX0_isCrew_0 10 rfl rfl)
theorem dX0_isCrew_11 : decode cX0_isCrew 11 = .ok (.iconst 0, 1) := dk_3 (dk_at dksX0_isCrew_0 11 rfl rfl)
theorem dX0_isCrew_12 : decode cX0_isCrew 12 = .ok (.sipush 2400, 3) := dk_17 9 96 (dk_at dksX0_isCrew_0 12 rfl rfl)
theorem dX0_isCrew_15 : decode cX0_isCrew 15 = .ok (.invokestatic 86, 3) := dk_184 0 86 (dk_at dksX0_isCrew_0 15 rfl rfl)
theorem dX0_isCrew_18 : decode cX0_isCrew 18 = .ok (.ifCond .eq 7, 3) := dk_153 0 7 (dk_at dksX0_isCrew_0 18 rfl rfl)
theorem dX0_isCrew_21 : decode cX0_isCrew 21 = .ok (.iconst 1, 1) := dk_4 (dk_at dksX0_isCrew_0 21 rfl rfl)
theorem dX0_isCrew_22 : decode cX0_isCrew 22 = .ok (.goto 4, 3) := dk_167 0 4 (dk_at dksX0_isCrew_1 0 rfl rfl)
theorem dX0_isCrew_25 : decode cX0_isCrew 25 = .ok (.iconst 0, 1) := dk_3 (dk_at dksX0_isCrew_1 3 rfl rfl)
theorem dX0_isCrew_26 : decode cX0_isCrew 26 = .ok (.ireturn, 1) := dk_172 (dk_at dksX0_isCrew_1 4 rfl rfl)
abbrev cX0_best : ByteArray := prog_1_method_37_code
def yX0_best : MethodName := ⟨RX0, "best", "(II)I"⟩
def dkwX0_best_4 : List UInt8 := [54, 4, 132, 5, 1, 167, 255, 198, 29, 172, 78, 42, 45, 182, 0, 133, 172]
abbrev dktX0_best_4 : List UInt8 := dkwX0_best_4 ++ []
def dkwX0_best_3 : List UInt8 := [27, 28, 42, 180, 0, 49, 182, 1, 20, 54, 6, 21, 6, 21, 4, 164, 0, 10, 21, 5, 62, 21, 6]
abbrev dktX0_best_3 : List UInt8 := dkwX0_best_3 ++ dktX0_best_4
def dkwX0_best_2 : List UInt8 := [180, 0, 255, 182, 0, 110, 162, 0, 49, 42, 180, 0, 49, 180, 0, 255, 21, 5, 182, 0, 116, 192, 0, 37]
abbrev dktX0_best_2 : List UInt8 := dkwX0_best_2 ++ dktX0_best_3
def dkwX0_best_1 : List UInt8 := [4, 167, 0, 4, 3, 5, 182, 0, 94, 3, 62, 2, 54, 4, 3, 54, 5, 21, 5, 42, 180, 0, 49]
abbrev dktX0_best_1 : List UInt8 := dkwX0_best_1 ++ dktX0_best_2
def dkwX0_best_0 : List UInt8 := [42, 27, 28, 184, 1, 16, 4, 182, 0, 94, 42, 42, 180, 0, 49, 180, 0, 255, 182, 0, 110, 158, 0, 7]
abbrev dktX0_best_0 : List UInt8 := dkwX0_best_0 ++ dktX0_best_1
theorem dksX0_best_0 : cX0_best.data.toList.drop 0 = dktX0_best_0 := by decide +kernel
theorem dksX0_best_1 : cX0_best.data.toList.drop 24 = dktX0_best_1 := dk_seg dksX0_best_0 24 rfl rfl
theorem dksX0_best_2 : cX0_best.data.toList.drop 47 = dktX0_best_2 := dk_seg dksX0_best_1 23 rfl rfl
theorem dksX0_best_3 : cX0_best.data.toList.drop 71 = dktX0_best_3 := dk_seg dksX0_best_2 24 rfl rfl
theorem dksX0_best_4 : cX0_best.data.toList.drop 94 = dktX0_best_4 := dk_seg dksX0_best_3 23 rfl rfl
theorem dX0_best_0 : decode cX0_best 0 = .ok (.aload_n 0, 1) := dk_42 (dk_at dksX0_best_0 0 rfl rfl)
theorem dX0_best_1 : decode cX0_best 1 = .ok (.iload_n 1, 1) := dk_27 (dk_at dksX0_best_0 1 rfl rfl)
theorem dX0_best_2 : decode cX0_best 2 = .ok (.iload_n 2, 1) := dk_28 (dk_at dksX0_best_0 2 rfl rfl)
theorem dX0_best_3 : decode cX0_best 3 = .ok (.invokestatic 272, 3) := dk_184 1 16 (dk_at dksX0_best_0 3 rfl rfl)
theorem dX0_best_6 : decode cX0_best 6 = .ok (.iconst 1, 1) := dk_4 (dk_at dksX0_best_0 6 rfl rfl)
theorem dX0_best_7 : decode cX0_best 7 = .ok (.invokevirtual 94, 3) := dk_182 0 94 (dk_at dksX0_best_0 7 rfl rfl)
theorem dX0_best_10 : decode cX0_best 10 = .ok (.aload_n 0, 1) := dk_42 (dk_at dksX0_best_0 10 rfl rfl)
theorem dX0_best_11 : decode cX0_best 11 = .ok (.aload_n 0, 1) := dk_42 (dk_at dksX0_best_0 11 rfl rfl)
theorem dX0_best_12 : decode cX0_best 12 = .ok (.getfield 49, 3) := dk_180 0 49 (dk_at dksX0_best_0 12 rfl rfl)
theorem dX0_best_15 : decode cX0_best 15 = .ok (.getfield 255, 3) := dk_180 0 255 (dk_at dksX0_best_0 15 rfl rfl)
theorem dX0_best_18 : decode cX0_best 18 = .ok (.invokevirtual 110, 3) := dk_182 0 110 (dk_at dksX0_best_0 18 rfl rfl)
theorem dX0_best_21 : decode cX0_best 21 = .ok (.ifCond .le 7, 3) := dk_158 0 7 (dk_at dksX0_best_0 21 rfl rfl)
theorem dX0_best_24 : decode cX0_best 24 = .ok (.iconst 1, 1) := dk_4 (dk_at dksX0_best_1 0 rfl rfl)
theorem dX0_best_25 : decode cX0_best 25 = .ok (.goto 4, 3) := dk_167 0 4 (dk_at dksX0_best_1 1 rfl rfl)
theorem dX0_best_28 : decode cX0_best 28 = .ok (.iconst 0, 1) := dk_3 (dk_at dksX0_best_1 4 rfl rfl)
theorem dX0_best_29 : decode cX0_best 29 = .ok (.iconst 2, 1) := dk_5 (dk_at dksX0_best_1 5 rfl rfl)
theorem dX0_best_30 : decode cX0_best 30 = .ok (.invokevirtual 94, 3) := dk_182 0 94 (dk_at dksX0_best_1 6 rfl rfl)
theorem dX0_best_33 : decode cX0_best 33 = .ok (.iconst 0, 1) := dk_3 (dk_at dksX0_best_1 9 rfl rfl)
theorem dX0_best_34 : decode cX0_best 34 = .ok (.istore_n 3, 1) := dk_62 (dk_at dksX0_best_1 10 rfl rfl)
theorem dX0_best_35 : decode cX0_best 35 = .ok (.iconst (-1), 1) := dk_2 (dk_at dksX0_best_1 11 rfl rfl)
theorem dX0_best_36 : decode cX0_best 36 = .ok (.istore 4, 2) := dk_54 4 (dk_at dksX0_best_1 12 rfl rfl)
theorem dX0_best_38 : decode cX0_best 38 = .ok (.iconst 0, 1) := dk_3 (dk_at dksX0_best_1 14 rfl rfl)
theorem dX0_best_39 : decode cX0_best 39 = .ok (.istore 5, 2) := dk_54 5 (dk_at dksX0_best_1 15 rfl rfl)
theorem dX0_best_41 : decode cX0_best 41 = .ok (.iload 5, 2) := dk_21 5 (dk_at dksX0_best_1 17 rfl rfl)
theorem dX0_best_43 : decode cX0_best 43 = .ok (.aload_n 0, 1) := dk_42 (dk_at dksX0_best_1 19 rfl rfl)
theorem dX0_best_44 : decode cX0_best 44 = .ok (.getfield 49, 3) := dk_180 0 49 (dk_at dksX0_best_1 20 rfl rfl)
theorem dX0_best_47 : decode cX0_best 47 = .ok (.getfield 255, 3) := dk_180 0 255 (dk_at dksX0_best_2 0 rfl rfl)
theorem dX0_best_50 : decode cX0_best 50 = .ok (.invokevirtual 110, 3) := dk_182 0 110 (dk_at dksX0_best_2 3 rfl rfl)
theorem dX0_best_53 : decode cX0_best 53 = .ok (.if_icmp .ge 49, 3) := dk_162 0 49 (dk_at dksX0_best_2 6 rfl rfl)
theorem dX0_best_56 : decode cX0_best 56 = .ok (.aload_n 0, 1) := dk_42 (dk_at dksX0_best_2 9 rfl rfl)
theorem dX0_best_57 : decode cX0_best 57 = .ok (.getfield 49, 3) := dk_180 0 49 (dk_at dksX0_best_2 10 rfl rfl)
theorem dX0_best_60 : decode cX0_best 60 = .ok (.getfield 255, 3) := dk_180 0 255 (dk_at dksX0_best_2 13 rfl rfl)
theorem dX0_best_63 : decode cX0_best 63 = .ok (.iload 5, 2) := dk_21 5 (dk_at dksX0_best_2 16 rfl rfl)
theorem dX0_best_65 : decode cX0_best 65 = .ok (.invokevirtual 116, 3) := dk_182 0 116 (dk_at dksX0_best_2 18 rfl rfl)
theorem dX0_best_68 : decode cX0_best 68 = .ok (.checkcast 37, 3) := dk_192 0 37 (dk_at dksX0_best_2 21 rfl rfl)
theorem dX0_best_71 : decode cX0_best 71 = .ok (.iload_n 1, 1) := dk_27 (dk_at dksX0_best_3 0 rfl rfl)
theorem dX0_best_72 : decode cX0_best 72 = .ok (.iload_n 2, 1) := dk_28 (dk_at dksX0_best_3 1 rfl rfl)
theorem dX0_best_73 : decode cX0_best 73 = .ok (.aload_n 0, 1) := dk_42 (dk_at dksX0_best_3 2 rfl rfl)
theorem dX0_best_74 : decode cX0_best 74 = .ok (.getfield 49, 3) := dk_180 0 49 (dk_at dksX0_best_3 3 rfl rfl)
theorem dX0_best_77 : decode cX0_best 77 = .ok (.invokevirtual 276, 3) := dk_182 1 20 (dk_at dksX0_best_3 6 rfl rfl)
theorem dX0_best_80 : decode cX0_best 80 = .ok (.istore 6, 2) := dk_54 6 (dk_at dksX0_best_3 9 rfl rfl)
theorem dX0_best_82 : decode cX0_best 82 = .ok (.iload 6, 2) := dk_21 6 (dk_at dksX0_best_3 11 rfl rfl)
theorem dX0_best_84 : decode cX0_best 84 = .ok (.iload 4, 2) := dk_21 4 (dk_at dksX0_best_3 13 rfl rfl)
theorem dX0_best_86 : decode cX0_best 86 = .ok (.if_icmp .le 10, 3) := dk_164 0 10 (dk_at dksX0_best_3 15 rfl rfl)
theorem dX0_best_89 : decode cX0_best 89 = .ok (.iload 5, 2) := dk_21 5 (dk_at dksX0_best_3 18 rfl rfl)
theorem dX0_best_91 : decode cX0_best 91 = .ok (.istore_n 3, 1) := dk_62 (dk_at dksX0_best_3 20 rfl rfl)
theorem dX0_best_92 : decode cX0_best 92 = .ok (.iload 6, 2) := dk_21 6 (dk_at dksX0_best_3 21 rfl rfl)
theorem dX0_best_94 : decode cX0_best 94 = .ok (.istore 4, 2) := dk_54 4 (dk_at dksX0_best_4 0 rfl rfl)
theorem dX0_best_96 : decode cX0_best 96 = .ok (.iinc 5 1, 3) := dk_132 5 1 (dk_at dksX0_best_4 2 rfl rfl)
theorem dX0_best_99 : decode cX0_best 99 = .ok (.goto (-58), 3) := dk_167 255 198 (dk_at dksX0_best_4 5 rfl rfl)
theorem dX0_best_102 : decode cX0_best 102 = .ok (.iload_n 3, 1) := dk_29 (dk_at dksX0_best_4 8 rfl rfl)
theorem dX0_best_103 : decode cX0_best 103 = .ok (.ireturn, 1) := dk_172 (dk_at dksX0_best_4 9 rfl rfl)
theorem dX0_best_104 : decode cX0_best 104 = .ok (.astore_n 3, 1) := dk_78 (dk_at dksX0_best_4 10 rfl rfl)
theorem dX0_best_105 : decode cX0_best 105 = .ok (.aload_n 0, 1) := dk_42 (dk_at dksX0_best_4 11 rfl rfl)
theorem dX0_best_106 : decode cX0_best 106 = .ok (.aload_n 3, 1) := dk_45 (dk_at dksX0_best_4 12 rfl rfl)
theorem dX0_best_107 : decode cX0_best 107 = .ok (.invokevirtual 133, 3) := dk_182 0 133 (dk_at dksX0_best_4 13 rfl rfl)
theorem dX0_best_110 : decode cX0_best 110 = .ok (.ireturn, 1) := dk_172 (dk_at dksX0_best_4 16 rfl rfl)
abbrev cX0_most : ByteArray := prog_1_method_39_code
def yX0_most : MethodName := ⟨RX0, "most", "(III)I"⟩
def dkwX0_most_4 : List UInt8 := [180, 1, 37, 42, 180, 0, 63, 180, 1, 31, 46, 172, 58, 4, 42, 25, 4, 182, 0, 133, 172]
abbrev dktX0_most_4 : List UInt8 := dkwX0_most_4 ++ []
def dkwX0_most_3 : List UInt8 := [29, 4, 160, 0, 16, 42, 180, 0, 63, 180, 1, 31, 184, 0, 215, 167, 0, 18, 42, 180, 0, 63]
abbrev dktX0_most_3 : List UInt8 := dkwX0_most_3 ++ dktX0_most_4
def dkwX0_most_2 : List UInt8 := [182, 1, 27, 29, 154, 0, 20, 42, 180, 0, 63, 42, 180, 0, 63, 180, 1, 31, 182, 1, 34, 167, 0, 36]
abbrev dktX0_most_2 : List UInt8 := dkwX0_most_2 ++ dktX0_most_3
def dkwX0_most_1 : List UInt8 := [4, 167, 0, 4, 3, 4, 182, 0, 94, 42, 180, 0, 63, 42, 180, 0, 49, 180, 0, 100, 27, 28]
abbrev dktX0_most_1 : List UInt8 := dkwX0_most_1 ++ dktX0_most_2
def dkwX0_most_0 : List UInt8 := [42, 27, 184, 0, 137, 153, 0, 23, 28, 184, 1, 24, 153, 0, 16, 29, 3, 5, 184, 0, 86, 153, 0, 7]
abbrev dktX0_most_0 : List UInt8 := dkwX0_most_0 ++ dktX0_most_1
theorem dksX0_most_0 : cX0_most.data.toList.drop 0 = dktX0_most_0 := by decide +kernel
theorem dksX0_most_1 : cX0_most.data.toList.drop 24 = dktX0_most_1 := dk_seg dksX0_most_0 24 rfl rfl
theorem dksX0_most_2 : cX0_most.data.toList.drop 46 = dktX0_most_2 := dk_seg dksX0_most_1 22 rfl rfl
theorem dksX0_most_3 : cX0_most.data.toList.drop 70 = dktX0_most_3 := dk_seg dksX0_most_2 24 rfl rfl
theorem dksX0_most_4 : cX0_most.data.toList.drop 92 = dktX0_most_4 := dk_seg dksX0_most_3 22 rfl rfl
theorem dX0_most_0 : decode cX0_most 0 = .ok (.aload_n 0, 1) := dk_42 (dk_at dksX0_most_0 0 rfl rfl)
theorem dX0_most_1 : decode cX0_most 1 = .ok (.iload_n 1, 1) := dk_27 (dk_at dksX0_most_0 1 rfl rfl)
theorem dX0_most_2 : decode cX0_most 2 = .ok (.invokestatic 137, 3) := dk_184 0 137 (dk_at dksX0_most_0 2 rfl rfl)
theorem dX0_most_5 : decode cX0_most 5 = .ok (.ifCond .eq 23, 3) := dk_153 0 23 (dk_at dksX0_most_0 5 rfl rfl)
theorem dX0_most_8 : decode cX0_most 8 = .ok (.iload_n 2, 1) := dk_28 (dk_at dksX0_most_0 8 rfl rfl)
theorem dX0_most_9 : decode cX0_most 9 = .ok (.invokestatic 280, 3) := dk_184 1 24 (dk_at dksX0_most_0 9 rfl rfl)
theorem dX0_most_12 : decode cX0_most 12 = .ok (.ifCond .eq 16, 3) := dk_153 0 16 (dk_at dksX0_most_0 12 rfl rfl)
theorem dX0_most_15 : decode cX0_most 15 = .ok (.iload_n 3, 1) := dk_29 (dk_at dksX0_most_0 15 rfl rfl)
theorem dX0_most_16 : decode cX0_most 16 = .ok (.iconst 0, 1) := dk_3 (dk_at dksX0_most_0 16 rfl rfl)
theorem dX0_most_17 : decode cX0_most 17 = .ok (.iconst 2, 1) := dk_5 (dk_at dksX0_most_0 17 rfl rfl)
theorem dX0_most_18 : decode cX0_most 18 = .ok (.invokestatic 86, 3) := dk_184 0 86 (dk_at dksX0_most_0 18 rfl rfl)
theorem dX0_most_21 : decode cX0_most 21 = .ok (.ifCond .eq 7, 3) := dk_153 0 7 (dk_at dksX0_most_0 21 rfl rfl)
theorem dX0_most_24 : decode cX0_most 24 = .ok (.iconst 1, 1) := dk_4 (dk_at dksX0_most_1 0 rfl rfl)
theorem dX0_most_25 : decode cX0_most 25 = .ok (.goto 4, 3) := dk_167 0 4 (dk_at dksX0_most_1 1 rfl rfl)
theorem dX0_most_28 : decode cX0_most 28 = .ok (.iconst 0, 1) := dk_3 (dk_at dksX0_most_1 4 rfl rfl)
theorem dX0_most_29 : decode cX0_most 29 = .ok (.iconst 1, 1) := dk_4 (dk_at dksX0_most_1 5 rfl rfl)
theorem dX0_most_30 : decode cX0_most 30 = .ok (.invokevirtual 94, 3) := dk_182 0 94 (dk_at dksX0_most_1 6 rfl rfl)
theorem dX0_most_33 : decode cX0_most 33 = .ok (.aload_n 0, 1) := dk_42 (dk_at dksX0_most_1 9 rfl rfl)
theorem dX0_most_34 : decode cX0_most 34 = .ok (.getfield 63, 3) := dk_180 0 63 (dk_at dksX0_most_1 10 rfl rfl)
theorem dX0_most_37 : decode cX0_most 37 = .ok (.aload_n 0, 1) := dk_42 (dk_at dksX0_most_1 13 rfl rfl)
theorem dX0_most_38 : decode cX0_most 38 = .ok (.getfield 49, 3) := dk_180 0 49 (dk_at dksX0_most_1 14 rfl rfl)
theorem dX0_most_41 : decode cX0_most 41 = .ok (.getfield 100, 3) := dk_180 0 100 (dk_at dksX0_most_1 17 rfl rfl)
theorem dX0_most_44 : decode cX0_most 44 = .ok (.iload_n 1, 1) := dk_27 (dk_at dksX0_most_1 20 rfl rfl)
theorem dX0_most_45 : decode cX0_most 45 = .ok (.iload_n 2, 1) := dk_28 (dk_at dksX0_most_1 21 rfl rfl)
theorem dX0_most_46 : decode cX0_most 46 = .ok (.invokevirtual 283, 3) := dk_182 1 27 (dk_at dksX0_most_2 0 rfl rfl)
theorem dX0_most_49 : decode cX0_most 49 = .ok (.iload_n 3, 1) := dk_29 (dk_at dksX0_most_2 3 rfl rfl)
theorem dX0_most_50 : decode cX0_most 50 = .ok (.ifCond .ne 20, 3) := dk_154 0 20 (dk_at dksX0_most_2 4 rfl rfl)
theorem dX0_most_53 : decode cX0_most 53 = .ok (.aload_n 0, 1) := dk_42 (dk_at dksX0_most_2 7 rfl rfl)
theorem dX0_most_54 : decode cX0_most 54 = .ok (.getfield 63, 3) := dk_180 0 63 (dk_at dksX0_most_2 8 rfl rfl)
theorem dX0_most_57 : decode cX0_most 57 = .ok (.aload_n 0, 1) := dk_42 (dk_at dksX0_most_2 11 rfl rfl)
theorem dX0_most_58 : decode cX0_most 58 = .ok (.getfield 63, 3) := dk_180 0 63 (dk_at dksX0_most_2 12 rfl rfl)
theorem dX0_most_61 : decode cX0_most 61 = .ok (.getfield 287, 3) := dk_180 1 31 (dk_at dksX0_most_2 15 rfl rfl)
theorem dX0_most_64 : decode cX0_most 64 = .ok (.invokevirtual 290, 3) := dk_182 1 34 (dk_at dksX0_most_2 18 rfl rfl)
theorem dX0_most_67 : decode cX0_most 67 = .ok (.goto 36, 3) := dk_167 0 36 (dk_at dksX0_most_2 21 rfl rfl)
theorem dX0_most_70 : decode cX0_most 70 = .ok (.iload_n 3, 1) := dk_29 (dk_at dksX0_most_3 0 rfl rfl)
theorem dX0_most_71 : decode cX0_most 71 = .ok (.iconst 1, 1) := dk_4 (dk_at dksX0_most_3 1 rfl rfl)
theorem dX0_most_72 : decode cX0_most 72 = .ok (.if_icmp .ne 16, 3) := dk_160 0 16 (dk_at dksX0_most_3 2 rfl rfl)
theorem dX0_most_75 : decode cX0_most 75 = .ok (.aload_n 0, 1) := dk_42 (dk_at dksX0_most_3 5 rfl rfl)
theorem dX0_most_76 : decode cX0_most 76 = .ok (.getfield 63, 3) := dk_180 0 63 (dk_at dksX0_most_3 6 rfl rfl)
theorem dX0_most_79 : decode cX0_most 79 = .ok (.getfield 287, 3) := dk_180 1 31 (dk_at dksX0_most_3 9 rfl rfl)
theorem dX0_most_82 : decode cX0_most 82 = .ok (.invokestatic 215, 3) := dk_184 0 215 (dk_at dksX0_most_3 12 rfl rfl)
theorem dX0_most_85 : decode cX0_most 85 = .ok (.goto 18, 3) := dk_167 0 18 (dk_at dksX0_most_3 15 rfl rfl)
theorem dX0_most_88 : decode cX0_most 88 = .ok (.aload_n 0, 1) := dk_42 (dk_at dksX0_most_3 18 rfl rfl)
theorem dX0_most_89 : decode cX0_most 89 = .ok (.getfield 63, 3) := dk_180 0 63 (dk_at dksX0_most_3 19 rfl rfl)
theorem dX0_most_92 : decode cX0_most 92 = .ok (.getfield 293, 3) := dk_180 1 37 (dk_at dksX0_most_4 0 rfl rfl)
theorem dX0_most_95 : decode cX0_most 95 = .ok (.aload_n 0, 1) := dk_42 (dk_at dksX0_most_4 3 rfl rfl)
theorem dX0_most_96 : decode cX0_most 96 = .ok (.getfield 63, 3) := dk_180 0 63 (dk_at dksX0_most_4 4 rfl rfl)
theorem dX0_most_99 : decode cX0_most 99 = .ok (.getfield 287, 3) := dk_180 1 31 (dk_at dksX0_most_4 7 rfl rfl)
theorem dX0_most_102 : decode cX0_most 102 = .ok (.iaload, 1) := dk_46 (dk_at dksX0_most_4 10 rfl rfl)
theorem dX0_most_103 : decode cX0_most 103 = .ok (.ireturn, 1) := dk_172 (dk_at dksX0_most_4 11 rfl rfl)
theorem dX0_most_104 : decode cX0_most 104 = .ok (.astore 4, 2) := dk_58 4 (dk_at dksX0_most_4 12 rfl rfl)
theorem dX0_most_106 : decode cX0_most 106 = .ok (.aload_n 0, 1) := dk_42 (dk_at dksX0_most_4 14 rfl rfl)
theorem dX0_most_107 : decode cX0_most 107 = .ok (.aload 4, 2) := dk_25 4 (dk_at dksX0_most_4 15 rfl rfl)
theorem dX0_most_109 : decode cX0_most 109 = .ok (.invokevirtual 133, 3) := dk_182 0 133 (dk_at dksX0_most_4 17 rfl rfl)
theorem dX0_most_112 : decode cX0_most 112 = .ok (.ireturn, 1) := dk_172 (dk_at dksX0_most_4 20 rfl rfl)
abbrev cX0_isTurn : ByteArray := prog_1_method_38_code
def yX0_isTurn : MethodName := ⟨RX0, "isTurn", "(I)Z"⟩
def dkwX0_isTurn_0 : List UInt8 := [26, 4, 17, 2, 88, 184, 0, 86, 172]
abbrev dktX0_isTurn_0 : List UInt8 := dkwX0_isTurn_0 ++ []
theorem dksX0_isTurn_0 : cX0_isTurn.data.toList.drop 0 = dktX0_isTurn_0 := by decide +kernel
theorem dX0_isTurn_0 : decode cX0_isTurn 0 = .ok (.iload_n 0, 1) := dk_26 (dk_at dksX0_isTurn_0 0 rfl rfl)
theorem dX0_isTurn_1 : decode cX0_isTurn 1 = .ok (.iconst 1, 1) := dk_4 (dk_at dksX0_isTurn_0 1 rfl rfl)
theorem dX0_isTurn_2 : decode cX0_isTurn 2 = .ok (.sipush 600, 3) := dk_17 2 88 (dk_at dksX0_isTurn_0 2 rfl rfl)
theorem dX0_isTurn_5 : decode cX0_isTurn 5 = .ok (.invokestatic 86, 3) := dk_184 0 86 (dk_at dksX0_isTurn_0 5 rfl rfl)
theorem dX0_isTurn_8 : decode cX0_isTurn 8 = .ok (.ireturn, 1) := dk_172 (dk_at dksX0_isTurn_0 8 rfl rfl)
abbrev cX0_row : ByteArray := prog_1_method_40_code
def yX0_row : MethodName := ⟨RX0, "row", "(III)I"⟩
def dkwX0_row_4 : List UInt8 := [182, 0, 133, 172]
abbrev dktX0_row_4 : List UInt8 := dkwX0_row_4 ++ []
def dkwX0_row_3 : List UInt8 := [182, 0, 94, 42, 180, 0, 63, 42, 180, 0, 63, 29, 182, 1, 40, 182, 1, 34, 172, 58, 4, 42, 25, 4]
abbrev dktX0_row_3 : List UInt8 := dkwX0_row_3 ++ dktX0_row_4
def dkwX0_row_2 : List UInt8 := [180, 0, 63, 180, 1, 37, 42, 180, 0, 63, 180, 1, 31, 46, 162, 0, 7, 4, 167, 0, 4, 3, 5]
abbrev dktX0_row_2 : List UInt8 := dkwX0_row_2 ++ dktX0_row_3
def dkwX0_row_1 : List UInt8 := [4, 182, 0, 94, 42, 180, 0, 63, 42, 180, 0, 49, 180, 0, 100, 27, 28, 182, 1, 27, 42, 29, 42]
abbrev dktX0_row_1 : List UInt8 := dkwX0_row_1 ++ dktX0_row_2
def dkwX0_row_0 : List UInt8 := [42, 27, 184, 0, 137, 153, 0, 18, 28, 184, 1, 24, 153, 0, 11, 29, 155, 0, 7, 4, 167, 0, 4, 3]
abbrev dktX0_row_0 : List UInt8 := dkwX0_row_0 ++ dktX0_row_1
theorem dksX0_row_0 : cX0_row.data.toList.drop 0 = dktX0_row_0 := by decide +kernel
theorem dksX0_row_1 : cX0_row.data.toList.drop 24 = dktX0_row_1 := dk_seg dksX0_row_0 24 rfl rfl
theorem dksX0_row_2 : cX0_row.data.toList.drop 47 = dktX0_row_2 := dk_seg dksX0_row_1 23 rfl rfl
theorem dksX0_row_3 : cX0_row.data.toList.drop 70 = dktX0_row_3 := dk_seg dksX0_row_2 23 rfl rfl
theorem dksX0_row_4 : cX0_row.data.toList.drop 94 = dktX0_row_4 := dk_seg dksX0_row_3 24 rfl rfl
theorem dX0_row_0 : decode cX0_row 0 = .ok (.aload_n 0, 1) := dk_42 (dk_at dksX0_row_0 0 rfl rfl)
theorem dX0_row_1 : decode cX0_row 1 = .ok (.iload_n 1, 1) := dk_27 (dk_at dksX0_row_0 1 rfl rfl)
theorem dX0_row_2 : decode cX0_row 2 = .ok (.invokestatic 137, 3) := dk_184 0 137 (dk_at dksX0_row_0 2 rfl rfl)
theorem dX0_row_5 : decode cX0_row 5 = .ok (.ifCond .eq 18, 3) := dk_153 0 18 (dk_at dksX0_row_0 5 rfl rfl)
theorem dX0_row_8 : decode cX0_row 8 = .ok (.iload_n 2, 1) := dk_28 (dk_at dksX0_row_0 8 rfl rfl)
theorem dX0_row_9 : decode cX0_row 9 = .ok (.invokestatic 280, 3) := dk_184 1 24 (dk_at dksX0_row_0 9 rfl rfl)
theorem dX0_row_12 : decode cX0_row 12 = .ok (.ifCond .eq 11, 3) := dk_153 0 11 (dk_at dksX0_row_0 12 rfl rfl)
theorem dX0_row_15 : decode cX0_row 15 = .ok (.iload_n 3, 1) := dk_29 (dk_at dksX0_row_0 15 rfl rfl)
theorem dX0_row_16 : decode cX0_row 16 = .ok (.ifCond .lt 7, 3) := dk_155 0 7 (dk_at dksX0_row_0 16 rfl rfl)
theorem dX0_row_19 : decode cX0_row 19 = .ok (.iconst 1, 1) := dk_4 (dk_at dksX0_row_0 19 rfl rfl)
theorem dX0_row_20 : decode cX0_row 20 = .ok (.goto 4, 3) := dk_167 0 4 (dk_at dksX0_row_0 20 rfl rfl)
theorem dX0_row_23 : decode cX0_row 23 = .ok (.iconst 0, 1) := dk_3 (dk_at dksX0_row_0 23 rfl rfl)
theorem dX0_row_24 : decode cX0_row 24 = .ok (.iconst 1, 1) := dk_4 (dk_at dksX0_row_1 0 rfl rfl)
theorem dX0_row_25 : decode cX0_row 25 = .ok (.invokevirtual 94, 3) := dk_182 0 94 (dk_at dksX0_row_1 1 rfl rfl)
theorem dX0_row_28 : decode cX0_row 28 = .ok (.aload_n 0, 1) := dk_42 (dk_at dksX0_row_1 4 rfl rfl)
theorem dX0_row_29 : decode cX0_row 29 = .ok (.getfield 63, 3) := dk_180 0 63 (dk_at dksX0_row_1 5 rfl rfl)
theorem dX0_row_32 : decode cX0_row 32 = .ok (.aload_n 0, 1) := dk_42 (dk_at dksX0_row_1 8 rfl rfl)
theorem dX0_row_33 : decode cX0_row 33 = .ok (.getfield 49, 3) := dk_180 0 49 (dk_at dksX0_row_1 9 rfl rfl)
theorem dX0_row_36 : decode cX0_row 36 = .ok (.getfield 100, 3) := dk_180 0 100 (dk_at dksX0_row_1 12 rfl rfl)
theorem dX0_row_39 : decode cX0_row 39 = .ok (.iload_n 1, 1) := dk_27 (dk_at dksX0_row_1 15 rfl rfl)
theorem dX0_row_40 : decode cX0_row 40 = .ok (.iload_n 2, 1) := dk_28 (dk_at dksX0_row_1 16 rfl rfl)
theorem dX0_row_41 : decode cX0_row 41 = .ok (.invokevirtual 283, 3) := dk_182 1 27 (dk_at dksX0_row_1 17 rfl rfl)
theorem dX0_row_44 : decode cX0_row 44 = .ok (.aload_n 0, 1) := dk_42 (dk_at dksX0_row_1 20 rfl rfl)
theorem dX0_row_45 : decode cX0_row 45 = .ok (.iload_n 3, 1) := dk_29 (dk_at dksX0_row_1 21 rfl rfl)
theorem dX0_row_46 : decode cX0_row 46 = .ok (.aload_n 0, 1) := dk_42 (dk_at dksX0_row_1 22 rfl rfl)
theorem dX0_row_47 : decode cX0_row 47 = .ok (.getfield 63, 3) := dk_180 0 63 (dk_at dksX0_row_2 0 rfl rfl)
theorem dX0_row_50 : decode cX0_row 50 = .ok (.getfield 293, 3) := dk_180 1 37 (dk_at dksX0_row_2 3 rfl rfl)
theorem dX0_row_53 : decode cX0_row 53 = .ok (.aload_n 0, 1) := dk_42 (dk_at dksX0_row_2 6 rfl rfl)
theorem dX0_row_54 : decode cX0_row 54 = .ok (.getfield 63, 3) := dk_180 0 63 (dk_at dksX0_row_2 7 rfl rfl)
theorem dX0_row_57 : decode cX0_row 57 = .ok (.getfield 287, 3) := dk_180 1 31 (dk_at dksX0_row_2 10 rfl rfl)
theorem dX0_row_60 : decode cX0_row 60 = .ok (.iaload, 1) := dk_46 (dk_at dksX0_row_2 13 rfl rfl)
theorem dX0_row_61 : decode cX0_row 61 = .ok (.if_icmp .ge 7, 3) := dk_162 0 7 (dk_at dksX0_row_2 14 rfl rfl)
theorem dX0_row_64 : decode cX0_row 64 = .ok (.iconst 1, 1) := dk_4 (dk_at dksX0_row_2 17 rfl rfl)
theorem dX0_row_65 : decode cX0_row 65 = .ok (.goto 4, 3) := dk_167 0 4 (dk_at dksX0_row_2 18 rfl rfl)
theorem dX0_row_68 : decode cX0_row 68 = .ok (.iconst 0, 1) := dk_3 (dk_at dksX0_row_2 21 rfl rfl)
theorem dX0_row_69 : decode cX0_row 69 = .ok (.iconst 2, 1) := dk_5 (dk_at dksX0_row_2 22 rfl rfl)
theorem dX0_row_70 : decode cX0_row 70 = .ok (.invokevirtual 94, 3) := dk_182 0 94 (dk_at dksX0_row_3 0 rfl rfl)
theorem dX0_row_73 : decode cX0_row 73 = .ok (.aload_n 0, 1) := dk_42 (dk_at dksX0_row_3 3 rfl rfl)
theorem dX0_row_74 : decode cX0_row 74 = .ok (.getfield 63, 3) := dk_180 0 63 (dk_at dksX0_row_3 4 rfl rfl)
theorem dX0_row_77 : decode cX0_row 77 = .ok (.aload_n 0, 1) := dk_42 (dk_at dksX0_row_3 7 rfl rfl)
theorem dX0_row_78 : decode cX0_row 78 = .ok (.getfield 63, 3) := dk_180 0 63 (dk_at dksX0_row_3 8 rfl rfl)
theorem dX0_row_81 : decode cX0_row 81 = .ok (.iload_n 3, 1) := dk_29 (dk_at dksX0_row_3 11 rfl rfl)
theorem dX0_row_82 : decode cX0_row 82 = .ok (.invokevirtual 296, 3) := dk_182 1 40 (dk_at dksX0_row_3 12 rfl rfl)
theorem dX0_row_85 : decode cX0_row 85 = .ok (.invokevirtual 290, 3) := dk_182 1 34 (dk_at dksX0_row_3 15 rfl rfl)
theorem dX0_row_88 : decode cX0_row 88 = .ok (.ireturn, 1) := dk_172 (dk_at dksX0_row_3 18 rfl rfl)
theorem dX0_row_89 : decode cX0_row 89 = .ok (.astore 4, 2) := dk_58 4 (dk_at dksX0_row_3 19 rfl rfl)
theorem dX0_row_91 : decode cX0_row 91 = .ok (.aload_n 0, 1) := dk_42 (dk_at dksX0_row_3 21 rfl rfl)
theorem dX0_row_92 : decode cX0_row 92 = .ok (.aload 4, 2) := dk_25 4 (dk_at dksX0_row_3 22 rfl rfl)
theorem dX0_row_94 : decode cX0_row 94 = .ok (.invokevirtual 133, 3) := dk_182 0 133 (dk_at dksX0_row_4 0 rfl rfl)
theorem dX0_row_97 : decode cX0_row 97 = .ok (.ireturn, 1) := dk_172 (dk_at dksX0_row_4 3 rfl rfl)
abbrev cX0_goes : ByteArray := prog_1_method_42_code
def yX0_goes : MethodName := ⟨RX0, "goes", "(II)I"⟩
def dkwX0_goes_3 : List UInt8 := [167, 0, 7, 4, 21, 4, 96, 172, 58, 4, 42, 25, 4, 182, 0, 133, 172]
abbrev dktX0_goes_3 : List UInt8 := dkwX0_goes_3 ++ []
def dkwX0_goes_2 : List UInt8 := [180, 0, 100, 27, 28, 182, 1, 27, 42, 29, 182, 1, 55, 54, 4, 21, 4, 29, 160, 0, 7, 3]
abbrev dktX0_goes_2 : List UInt8 := dkwX0_goes_2 ++ dktX0_goes_3
def dkwX0_goes_1 : List UInt8 := [28, 184, 1, 24, 153, 0, 7, 4, 167, 0, 4, 3, 4, 182, 0, 94, 42, 180, 0, 63, 42, 180, 0, 49]
abbrev dktX0_goes_1 : List UInt8 := dkwX0_goes_1 ++ dktX0_goes_2
def dkwX0_goes_0 : List UInt8 := [42, 180, 0, 49, 180, 1, 52, 62, 42, 180, 0, 49, 3, 181, 1, 52, 42, 27, 184, 0, 137, 153, 0, 14]
abbrev dktX0_goes_0 : List UInt8 := dkwX0_goes_0 ++ dktX0_goes_1
theorem dksX0_goes_0 : cX0_goes.data.toList.drop 0 = dktX0_goes_0 := by decide +kernel
theorem dksX0_goes_1 : cX0_goes.data.toList.drop 24 = dktX0_goes_1 := dk_seg dksX0_goes_0 24 rfl rfl
theorem dksX0_goes_2 : cX0_goes.data.toList.drop 48 = dktX0_goes_2 := dk_seg dksX0_goes_1 24 rfl rfl
theorem dksX0_goes_3 : cX0_goes.data.toList.drop 70 = dktX0_goes_3 := dk_seg dksX0_goes_2 22 rfl rfl
theorem dX0_goes_0 : decode cX0_goes 0 = .ok (.aload_n 0, 1) := dk_42 (dk_at dksX0_goes_0 0 rfl rfl)
theorem dX0_goes_1 : decode cX0_goes 1 = .ok (.getfield 49, 3) := dk_180 0 49 (dk_at dksX0_goes_0 1 rfl rfl)
theorem dX0_goes_4 : decode cX0_goes 4 = .ok (.getfield 308, 3) := dk_180 1 52 (dk_at dksX0_goes_0 4 rfl rfl)
theorem dX0_goes_7 : decode cX0_goes 7 = .ok (.istore_n 3, 1) := dk_62 (dk_at dksX0_goes_0 7 rfl rfl)
theorem dX0_goes_8 : decode cX0_goes 8 = .ok (.aload_n 0, 1) := dk_42 (dk_at dksX0_goes_0 8 rfl rfl)
theorem dX0_goes_9 : decode cX0_goes 9 = .ok (.getfield 49, 3) := dk_180 0 49 (dk_at dksX0_goes_0 9 rfl rfl)
theorem dX0_goes_12 : decode cX0_goes 12 = .ok (.iconst 0, 1) := dk_3 (dk_at dksX0_goes_0 12 rfl rfl)
theorem dX0_goes_13 : decode cX0_goes 13 = .ok (.putfield 308, 3) := dk_181 1 52 (dk_at dksX0_goes_0 13 rfl rfl)
theorem dX0_goes_16 : decode cX0_goes 16 = .ok (.aload_n 0, 1) := dk_42 (dk_at dksX0_goes_0 16 rfl rfl)
theorem dX0_goes_17 : decode cX0_goes 17 = .ok (.iload_n 1, 1) := dk_27 (dk_at dksX0_goes_0 17 rfl rfl)
theorem dX0_goes_18 : decode cX0_goes 18 = .ok (.invokestatic 137, 3) := dk_184 0 137 (dk_at dksX0_goes_0 18 rfl rfl)
theorem dX0_goes_21 : decode cX0_goes 21 = .ok (.ifCond .eq 14, 3) := dk_153 0 14 (dk_at dksX0_goes_0 21 rfl rfl)
theorem dX0_goes_24 : decode cX0_goes 24 = .ok (.iload_n 2, 1) := dk_28 (dk_at dksX0_goes_1 0 rfl rfl)
theorem dX0_goes_25 : decode cX0_goes 25 = .ok (.invokestatic 280, 3) := dk_184 1 24 (dk_at dksX0_goes_1 1 rfl rfl)
theorem dX0_goes_28 : decode cX0_goes 28 = .ok (.ifCond .eq 7, 3) := dk_153 0 7 (dk_at dksX0_goes_1 4 rfl rfl)
theorem dX0_goes_31 : decode cX0_goes 31 = .ok (.iconst 1, 1) := dk_4 (dk_at dksX0_goes_1 7 rfl rfl)
theorem dX0_goes_32 : decode cX0_goes 32 = .ok (.goto 4, 3) := dk_167 0 4 (dk_at dksX0_goes_1 8 rfl rfl)
theorem dX0_goes_35 : decode cX0_goes 35 = .ok (.iconst 0, 1) := dk_3 (dk_at dksX0_goes_1 11 rfl rfl)
theorem dX0_goes_36 : decode cX0_goes 36 = .ok (.iconst 1, 1) := dk_4 (dk_at dksX0_goes_1 12 rfl rfl)
theorem dX0_goes_37 : decode cX0_goes 37 = .ok (.invokevirtual 94, 3) := dk_182 0 94 (dk_at dksX0_goes_1 13 rfl rfl)
theorem dX0_goes_40 : decode cX0_goes 40 = .ok (.aload_n 0, 1) := dk_42 (dk_at dksX0_goes_1 16 rfl rfl)
theorem dX0_goes_41 : decode cX0_goes 41 = .ok (.getfield 63, 3) := dk_180 0 63 (dk_at dksX0_goes_1 17 rfl rfl)
theorem dX0_goes_44 : decode cX0_goes 44 = .ok (.aload_n 0, 1) := dk_42 (dk_at dksX0_goes_1 20 rfl rfl)
theorem dX0_goes_45 : decode cX0_goes 45 = .ok (.getfield 49, 3) := dk_180 0 49 (dk_at dksX0_goes_1 21 rfl rfl)
theorem dX0_goes_48 : decode cX0_goes 48 = .ok (.getfield 100, 3) := dk_180 0 100 (dk_at dksX0_goes_2 0 rfl rfl)
theorem dX0_goes_51 : decode cX0_goes 51 = .ok (.iload_n 1, 1) := dk_27 (dk_at dksX0_goes_2 3 rfl rfl)
theorem dX0_goes_52 : decode cX0_goes 52 = .ok (.iload_n 2, 1) := dk_28 (dk_at dksX0_goes_2 4 rfl rfl)
theorem dX0_goes_53 : decode cX0_goes 53 = .ok (.invokevirtual 283, 3) := dk_182 1 27 (dk_at dksX0_goes_2 5 rfl rfl)
theorem dX0_goes_56 : decode cX0_goes 56 = .ok (.aload_n 0, 1) := dk_42 (dk_at dksX0_goes_2 8 rfl rfl)
theorem dX0_goes_57 : decode cX0_goes 57 = .ok (.iload_n 3, 1) := dk_29 (dk_at dksX0_goes_2 9 rfl rfl)
theorem dX0_goes_58 : decode cX0_goes 58 = .ok (.invokevirtual 311, 3) := dk_182 1 55 (dk_at dksX0_goes_2 10 rfl rfl)
theorem dX0_goes_61 : decode cX0_goes 61 = .ok (.istore 4, 2) := dk_54 4 (dk_at dksX0_goes_2 13 rfl rfl)
theorem dX0_goes_63 : decode cX0_goes 63 = .ok (.iload 4, 2) := dk_21 4 (dk_at dksX0_goes_2 15 rfl rfl)
theorem dX0_goes_65 : decode cX0_goes 65 = .ok (.iload_n 3, 1) := dk_29 (dk_at dksX0_goes_2 17 rfl rfl)
theorem dX0_goes_66 : decode cX0_goes 66 = .ok (.if_icmp .ne 7, 3) := dk_160 0 7 (dk_at dksX0_goes_2 18 rfl rfl)
theorem dX0_goes_69 : decode cX0_goes 69 = .ok (.iconst 0, 1) := dk_3 (dk_at dksX0_goes_2 21 rfl rfl)
theorem dX0_goes_70 : decode cX0_goes 70 = .ok (.goto 7, 3) := dk_167 0 7 (dk_at dksX0_goes_3 0 rfl rfl)
theorem dX0_goes_73 : decode cX0_goes 73 = .ok (.iconst 1, 1) := dk_4 (dk_at dksX0_goes_3 3 rfl rfl)
theorem dX0_goes_74 : decode cX0_goes 74 = .ok (.iload 4, 2) := dk_21 4 (dk_at dksX0_goes_3 4 rfl rfl)
theorem dX0_goes_76 : decode cX0_goes 76 = .ok (.iadd, 1) := dk_96 (dk_at dksX0_goes_3 6 rfl rfl)
theorem dX0_goes_77 : decode cX0_goes 77 = .ok (.ireturn, 1) := dk_172 (dk_at dksX0_goes_3 7 rfl rfl)
theorem dX0_goes_78 : decode cX0_goes 78 = .ok (.astore 4, 2) := dk_58 4 (dk_at dksX0_goes_3 8 rfl rfl)
theorem dX0_goes_80 : decode cX0_goes 80 = .ok (.aload_n 0, 1) := dk_42 (dk_at dksX0_goes_3 10 rfl rfl)
theorem dX0_goes_81 : decode cX0_goes 81 = .ok (.aload 4, 2) := dk_25 4 (dk_at dksX0_goes_3 11 rfl rfl)
theorem dX0_goes_83 : decode cX0_goes 83 = .ok (.invokevirtual 133, 3) := dk_182 0 133 (dk_at dksX0_goes_3 13 rfl rfl)
theorem dX0_goes_86 : decode cX0_goes 86 = .ok (.ireturn, 1) := dk_172 (dk_at dksX0_goes_3 16 rfl rfl)
abbrev cX0_rightOf : ByteArray := prog_1_method_41_code
def yX0_rightOf : MethodName := ⟨RX0, "rightOf", "(I)I"⟩
def dkwX0_rightOf_4 : List UInt8 := [29, 21, 4, 153, 0, 7, 4, 167, 0, 4, 3, 96, 62, 167, 255, 157, 29, 172]
abbrev dktX0_rightOf_4 : List UInt8 := dkwX0_rightOf_4 ++ []
def dkwX0_rightOf_3 : List UInt8 := [153, 0, 7, 4, 167, 0, 4, 3, 54, 4, 28, 21, 4, 153, 0, 8, 21, 5, 167, 0, 4, 3, 128, 61]
abbrev dktX0_rightOf_3 : List UInt8 := dkwX0_rightOf_3 ++ dktX0_rightOf_4
def dkwX0_rightOf_2 : List UInt8 := [5, 163, 0, 29, 21, 5, 28, 126, 154, 0, 22, 42, 180, 0, 63, 21, 5, 29, 4, 96, 182, 1, 49]
abbrev dktX0_rightOf_2 : List UInt8 := dkwX0_rightOf_2 ++ dktX0_rightOf_3
def dkwX0_rightOf_1 : List UInt8 := [180, 0, 49, 180, 1, 43, 29, 46, 182, 1, 46, 54, 5, 21, 5, 2, 159, 0, 38, 21, 5, 184, 0, 215]
abbrev dktX0_rightOf_1 : List UInt8 := dkwX0_rightOf_1 ++ dktX0_rightOf_2
def dkwX0_rightOf_0 : List UInt8 := [3, 61, 3, 62, 4, 54, 4, 29, 27, 162, 0, 100, 21, 4, 153, 0, 95, 42, 180, 0, 63, 42]
abbrev dktX0_rightOf_0 : List UInt8 := dkwX0_rightOf_0 ++ dktX0_rightOf_1
theorem dksX0_rightOf_0 : cX0_rightOf.data.toList.drop 0 = dktX0_rightOf_0 := by decide +kernel
theorem dksX0_rightOf_1 : cX0_rightOf.data.toList.drop 22 = dktX0_rightOf_1 := dk_seg dksX0_rightOf_0 22 rfl rfl
theorem dksX0_rightOf_2 : cX0_rightOf.data.toList.drop 46 = dktX0_rightOf_2 := dk_seg dksX0_rightOf_1 24 rfl rfl
theorem dksX0_rightOf_3 : cX0_rightOf.data.toList.drop 69 = dktX0_rightOf_3 := dk_seg dksX0_rightOf_2 23 rfl rfl
theorem dksX0_rightOf_4 : cX0_rightOf.data.toList.drop 93 = dktX0_rightOf_4 := dk_seg dksX0_rightOf_3 24 rfl rfl
theorem dX0_rightOf_0 : decode cX0_rightOf 0 = .ok (.iconst 0, 1) := dk_3 (dk_at dksX0_rightOf_0 0 rfl rfl)
theorem dX0_rightOf_1 : decode cX0_rightOf 1 = .ok (.istore_n 2, 1) := dk_61 (dk_at dksX0_rightOf_0 1 rfl rfl)
theorem dX0_rightOf_2 : decode cX0_rightOf 2 = .ok (.iconst 0, 1) := dk_3 (dk_at dksX0_rightOf_0 2 rfl rfl)
theorem dX0_rightOf_3 : decode cX0_rightOf 3 = .ok (.istore_n 3, 1) := dk_62 (dk_at dksX0_rightOf_0 3 rfl rfl)
theorem dX0_rightOf_4 : decode cX0_rightOf 4 = .ok (.iconst 1, 1) := dk_4 (dk_at dksX0_rightOf_0 4 rfl rfl)
theorem dX0_rightOf_5 : decode cX0_rightOf 5 = .ok (.istore 4, 2) := dk_54 4 (dk_at dksX0_rightOf_0 5 rfl rfl)
theorem dX0_rightOf_7 : decode cX0_rightOf 7 = .ok (.iload_n 3, 1) := dk_29 (dk_at dksX0_rightOf_0 7 rfl rfl)
theorem dX0_rightOf_8 : decode cX0_rightOf 8 = .ok (.iload_n 1, 1) := dk_27 (dk_at dksX0_rightOf_0 8 rfl rfl)
theorem dX0_rightOf_9 : decode cX0_rightOf 9 = .ok (.if_icmp .ge 100, 3) := dk_162 0 100 (dk_at dksX0_rightOf_0 9 rfl rfl)
theorem dX0_rightOf_12 : decode cX0_rightOf 12 = .ok (.iload 4, 2) := dk_21 4 (dk_at dksX0_rightOf_0 12 rfl rfl)
theorem dX0_rightOf_14 : decode cX0_rightOf 14 = .ok (.ifCond .eq 95, 3) := dk_153 0 95 (dk_at dksX0_rightOf_0 14 rfl rfl)
theorem dX0_rightOf_17 : decode cX0_rightOf 17 = .ok (.aload_n 0, 1) := dk_42 (dk_at dksX0_rightOf_0 17 rfl rfl)
theorem dX0_rightOf_18 : decode cX0_rightOf 18 = .ok (.getfield 63, 3) := dk_180 0 63 (dk_at dksX0_rightOf_0 18 rfl rfl)
theorem dX0_rightOf_21 : decode cX0_rightOf 21 = .ok (.aload_n 0, 1) := dk_42 (dk_at dksX0_rightOf_0 21 rfl rfl)
theorem dX0_rightOf_22 : decode cX0_rightOf 22 = .ok (.getfield 49, 3) := dk_180 0 49 (dk_at dksX0_rightOf_1 0 rfl rfl)
theorem dX0_rightOf_25 : decode cX0_rightOf 25 = .ok (.getfield 299, 3) := dk_180 1 43 (dk_at dksX0_rightOf_1 3 rfl rfl)
theorem dX0_rightOf_28 : decode cX0_rightOf 28 = .ok (.iload_n 3, 1) := dk_29 (dk_at dksX0_rightOf_1 6 rfl rfl)
theorem dX0_rightOf_29 : decode cX0_rightOf 29 = .ok (.iaload, 1) := dk_46 (dk_at dksX0_rightOf_1 7 rfl rfl)
theorem dX0_rightOf_30 : decode cX0_rightOf 30 = .ok (.invokevirtual 302, 3) := dk_182 1 46 (dk_at dksX0_rightOf_1 8 rfl rfl)
theorem dX0_rightOf_33 : decode cX0_rightOf 33 = .ok (.istore 5, 2) := dk_54 5 (dk_at dksX0_rightOf_1 11 rfl rfl)
theorem dX0_rightOf_35 : decode cX0_rightOf 35 = .ok (.iload 5, 2) := dk_21 5 (dk_at dksX0_rightOf_1 13 rfl rfl)
theorem dX0_rightOf_37 : decode cX0_rightOf 37 = .ok (.iconst (-1), 1) := dk_2 (dk_at dksX0_rightOf_1 15 rfl rfl)
theorem dX0_rightOf_38 : decode cX0_rightOf 38 = .ok (.if_icmp .eq 38, 3) := dk_159 0 38 (dk_at dksX0_rightOf_1 16 rfl rfl)
theorem dX0_rightOf_41 : decode cX0_rightOf 41 = .ok (.iload 5, 2) := dk_21 5 (dk_at dksX0_rightOf_1 19 rfl rfl)
theorem dX0_rightOf_43 : decode cX0_rightOf 43 = .ok (.invokestatic 215, 3) := dk_184 0 215 (dk_at dksX0_rightOf_1 21 rfl rfl)
theorem dX0_rightOf_46 : decode cX0_rightOf 46 = .ok (.iconst 2, 1) := dk_5 (dk_at dksX0_rightOf_2 0 rfl rfl)
theorem dX0_rightOf_47 : decode cX0_rightOf 47 = .ok (.if_icmp .gt 29, 3) := dk_163 0 29 (dk_at dksX0_rightOf_2 1 rfl rfl)
theorem dX0_rightOf_50 : decode cX0_rightOf 50 = .ok (.iload 5, 2) := dk_21 5 (dk_at dksX0_rightOf_2 4 rfl rfl)
theorem dX0_rightOf_52 : decode cX0_rightOf 52 = .ok (.iload_n 2, 1) := dk_28 (dk_at dksX0_rightOf_2 6 rfl rfl)
theorem dX0_rightOf_53 : decode cX0_rightOf 53 = .ok (.iand, 1) := dk_126 (dk_at dksX0_rightOf_2 7 rfl rfl)
theorem dX0_rightOf_54 : decode cX0_rightOf 54 = .ok (.ifCond .ne 22, 3) := dk_154 0 22 (dk_at dksX0_rightOf_2 8 rfl rfl)
theorem dX0_rightOf_57 : decode cX0_rightOf 57 = .ok (.aload_n 0, 1) := dk_42 (dk_at dksX0_rightOf_2 11 rfl rfl)
theorem dX0_rightOf_58 : decode cX0_rightOf 58 = .ok (.getfield 63, 3) := dk_180 0 63 (dk_at dksX0_rightOf_2 12 rfl rfl)
theorem dX0_rightOf_61 : decode cX0_rightOf 61 = .ok (.iload 5, 2) := dk_21 5 (dk_at dksX0_rightOf_2 15 rfl rfl)
theorem dX0_rightOf_63 : decode cX0_rightOf 63 = .ok (.iload_n 3, 1) := dk_29 (dk_at dksX0_rightOf_2 17 rfl rfl)
theorem dX0_rightOf_64 : decode cX0_rightOf 64 = .ok (.iconst 1, 1) := dk_4 (dk_at dksX0_rightOf_2 18 rfl rfl)
theorem dX0_rightOf_65 : decode cX0_rightOf 65 = .ok (.iadd, 1) := dk_96 (dk_at dksX0_rightOf_2 19 rfl rfl)
theorem dX0_rightOf_66 : decode cX0_rightOf 66 = .ok (.invokevirtual 305, 3) := dk_182 1 49 (dk_at dksX0_rightOf_2 20 rfl rfl)
theorem dX0_rightOf_69 : decode cX0_rightOf 69 = .ok (.ifCond .eq 7, 3) := dk_153 0 7 (dk_at dksX0_rightOf_3 0 rfl rfl)
theorem dX0_rightOf_72 : decode cX0_rightOf 72 = .ok (.iconst 1, 1) := dk_4 (dk_at dksX0_rightOf_3 3 rfl rfl)
theorem dX0_rightOf_73 : decode cX0_rightOf 73 = .ok (.goto 4, 3) := dk_167 0 4 (dk_at dksX0_rightOf_3 4 rfl rfl)
theorem dX0_rightOf_76 : decode cX0_rightOf 76 = .ok (.iconst 0, 1) := dk_3 (dk_at dksX0_rightOf_3 7 rfl rfl)
theorem dX0_rightOf_77 : decode cX0_rightOf 77 = .ok (.istore 4, 2) := dk_54 4 (dk_at dksX0_rightOf_3 8 rfl rfl)
theorem dX0_rightOf_79 : decode cX0_rightOf 79 = .ok (.iload_n 2, 1) := dk_28 (dk_at dksX0_rightOf_3 10 rfl rfl)
theorem dX0_rightOf_80 : decode cX0_rightOf 80 = .ok (.iload 4, 2) := dk_21 4 (dk_at dksX0_rightOf_3 11 rfl rfl)
theorem dX0_rightOf_82 : decode cX0_rightOf 82 = .ok (.ifCond .eq 8, 3) := dk_153 0 8 (dk_at dksX0_rightOf_3 13 rfl rfl)
theorem dX0_rightOf_85 : decode cX0_rightOf 85 = .ok (.iload 5, 2) := dk_21 5 (dk_at dksX0_rightOf_3 16 rfl rfl)
theorem dX0_rightOf_87 : decode cX0_rightOf 87 = .ok (.goto 4, 3) := dk_167 0 4 (dk_at dksX0_rightOf_3 18 rfl rfl)
theorem dX0_rightOf_90 : decode cX0_rightOf 90 = .ok (.iconst 0, 1) := dk_3 (dk_at dksX0_rightOf_3 21 rfl rfl)
theorem dX0_rightOf_91 : decode cX0_rightOf 91 = .ok (.ior, 1) := dk_128 (dk_at dksX0_rightOf_3 22 rfl rfl)
theorem dX0_rightOf_92 : decode cX0_rightOf 92 = .ok (.istore_n 2, 1) := dk_61 (dk_at dksX0_rightOf_3 23 rfl rfl)
theorem dX0_rightOf_93 : decode cX0_rightOf 93 = .ok (.iload_n 3, 1) := dk_29 (dk_at dksX0_rightOf_4 0 rfl rfl)
theorem dX0_rightOf_94 : decode cX0_rightOf 94 = .ok (.iload 4, 2) := dk_21 4 (dk_at dksX0_rightOf_4 1 rfl rfl)
theorem dX0_rightOf_96 : decode cX0_rightOf 96 = .ok (.ifCond .eq 7, 3) := dk_153 0 7 (dk_at dksX0_rightOf_4 3 rfl rfl)
theorem dX0_rightOf_99 : decode cX0_rightOf 99 = .ok (.iconst 1, 1) := dk_4 (dk_at dksX0_rightOf_4 6 rfl rfl)
theorem dX0_rightOf_100 : decode cX0_rightOf 100 = .ok (.goto 4, 3) := dk_167 0 4 (dk_at dksX0_rightOf_4 7 rfl rfl)
theorem dX0_rightOf_103 : decode cX0_rightOf 103 = .ok (.iconst 0, 1) := dk_3 (dk_at dksX0_rightOf_4 10 rfl rfl)
theorem dX0_rightOf_104 : decode cX0_rightOf 104 = .ok (.iadd, 1) := dk_96 (dk_at dksX0_rightOf_4 11 rfl rfl)
theorem dX0_rightOf_105 : decode cX0_rightOf 105 = .ok (.istore_n 3, 1) := dk_62 (dk_at dksX0_rightOf_4 12 rfl rfl)
theorem dX0_rightOf_106 : decode cX0_rightOf 106 = .ok (.goto (-99), 3) := dk_167 255 157 (dk_at dksX0_rightOf_4 13 rfl rfl)
theorem dX0_rightOf_109 : decode cX0_rightOf 109 = .ok (.iload_n 3, 1) := dk_29 (dk_at dksX0_rightOf_4 16 rfl rfl)
theorem dX0_rightOf_110 : decode cX0_rightOf 110 = .ok (.ireturn, 1) := dk_172 (dk_at dksX0_rightOf_4 17 rfl rfl)
abbrev cX0_odds : ByteArray := prog_1_method_45_code
def yX0_odds : MethodName := ⟨RX0, "odds", "(IIII)J"⟩
def dkwX0_odds_5 : List UInt8 := [58, 5, 42, 25, 5, 182, 0, 133, 133, 173]
abbrev dktX0_odds_5 : List UInt8 := dkwX0_odds_5 ++ []
def dkwX0_odds_4 : List UInt8 := [184, 1, 65, 55, 9, 21, 4, 154, 0, 11, 22, 5, 22, 9, 109, 167, 0, 8, 22, 7, 22, 9, 109, 173]
abbrev dktX0_odds_4 : List UInt8 := dkwX0_odds_4 ++ dktX0_odds_5
def dkwX0_odds_3 : List UInt8 := [162, 0, 19, 22, 7, 29, 16, 10, 112, 133, 105, 55, 7, 132, 9, 1, 167, 255, 237, 22, 5, 22, 7]
abbrev dktX0_odds_3 : List UInt8 := dkwX0_odds_3 ++ dktX0_odds_4
def dkwX0_odds_2 : List UInt8 := [28, 29, 16, 10, 108, 29, 16, 10, 112, 184, 1, 61, 55, 5, 10, 55, 7, 3, 54, 9, 21, 9, 27]
abbrev dktX0_odds_2 : List UInt8 := dkwX0_odds_2 ++ dktX0_odds_3
def dkwX0_odds_1 : List UInt8 := [184, 1, 58, 153, 0, 15, 21, 4, 184, 0, 122, 153, 0, 7, 4, 167, 0, 4, 3, 4, 182, 0, 94, 27]
abbrev dktX0_odds_1 : List UInt8 := dkwX0_odds_1 ++ dktX0_odds_2
def dkwX0_odds_0 : List UInt8 := [42, 27, 4, 16, 12, 184, 0, 86, 153, 0, 32, 28, 3, 16, 12, 184, 0, 86, 153, 0, 22, 29]
abbrev dktX0_odds_0 : List UInt8 := dkwX0_odds_0 ++ dktX0_odds_1
theorem dksX0_odds_0 : cX0_odds.data.toList.drop 0 = dktX0_odds_0 := by decide +kernel
theorem dksX0_odds_1 : cX0_odds.data.toList.drop 22 = dktX0_odds_1 := dk_seg dksX0_odds_0 22 rfl rfl
theorem dksX0_odds_2 : cX0_odds.data.toList.drop 46 = dktX0_odds_2 := dk_seg dksX0_odds_1 24 rfl rfl
theorem dksX0_odds_3 : cX0_odds.data.toList.drop 69 = dktX0_odds_3 := dk_seg dksX0_odds_2 23 rfl rfl
theorem dksX0_odds_4 : cX0_odds.data.toList.drop 92 = dktX0_odds_4 := dk_seg dksX0_odds_3 23 rfl rfl
theorem dksX0_odds_5 : cX0_odds.data.toList.drop 116 = dktX0_odds_5 := dk_seg dksX0_odds_4 24 rfl rfl
theorem dX0_odds_0 : decode cX0_odds 0 = .ok (.aload_n 0, 1) := dk_42 (dk_at dksX0_odds_0 0 rfl rfl)
theorem dX0_odds_1 : decode cX0_odds 1 = .ok (.iload_n 1, 1) := dk_27 (dk_at dksX0_odds_0 1 rfl rfl)
theorem dX0_odds_2 : decode cX0_odds 2 = .ok (.iconst 1, 1) := dk_4 (dk_at dksX0_odds_0 2 rfl rfl)
theorem dX0_odds_3 : decode cX0_odds 3 = .ok (.bipush 12, 2) := dk_16 12 (dk_at dksX0_odds_0 3 rfl rfl)
theorem dX0_odds_5 : decode cX0_odds 5 = .ok (.invokestatic 86, 3) := dk_184 0 86 (dk_at dksX0_odds_0 5 rfl rfl)
theorem dX0_odds_8 : decode cX0_odds 8 = .ok (.ifCond .eq 32, 3) := dk_153 0 32 (dk_at dksX0_odds_0 8 rfl rfl)
theorem dX0_odds_11 : decode cX0_odds 11 = .ok (.iload_n 2, 1) := dk_28 (dk_at dksX0_odds_0 11 rfl rfl)
theorem dX0_odds_12 : decode cX0_odds 12 = .ok (.iconst 0, 1) := dk_3 (dk_at dksX0_odds_0 12 rfl rfl)
theorem dX0_odds_13 : decode cX0_odds 13 = .ok (.bipush 12, 2) := dk_16 12 (dk_at dksX0_odds_0 13 rfl rfl)
theorem dX0_odds_15 : decode cX0_odds 15 = .ok (.invokestatic 86, 3) := dk_184 0 86 (dk_at dksX0_odds_0 15 rfl rfl)
theorem dX0_odds_18 : decode cX0_odds 18 = .ok (.ifCond .eq 22, 3) := dk_153 0 22 (dk_at dksX0_odds_0 18 rfl rfl)
theorem dX0_odds_21 : decode cX0_odds 21 = .ok (.iload_n 3, 1) := dk_29 (dk_at dksX0_odds_0 21 rfl rfl)
theorem dX0_odds_22 : decode cX0_odds 22 = .ok (.invokestatic 314, 3) := dk_184 1 58 (dk_at dksX0_odds_1 0 rfl rfl)
theorem dX0_odds_25 : decode cX0_odds 25 = .ok (.ifCond .eq 15, 3) := dk_153 0 15 (dk_at dksX0_odds_1 3 rfl rfl)
theorem dX0_odds_28 : decode cX0_odds 28 = .ok (.iload 4, 2) := dk_21 4 (dk_at dksX0_odds_1 6 rfl rfl)
theorem dX0_odds_30 : decode cX0_odds 30 = .ok (.invokestatic 122, 3) := dk_184 0 122 (dk_at dksX0_odds_1 8 rfl rfl)
theorem dX0_odds_33 : decode cX0_odds 33 = .ok (.ifCond .eq 7, 3) := dk_153 0 7 (dk_at dksX0_odds_1 11 rfl rfl)
theorem dX0_odds_36 : decode cX0_odds 36 = .ok (.iconst 1, 1) := dk_4 (dk_at dksX0_odds_1 14 rfl rfl)
theorem dX0_odds_37 : decode cX0_odds 37 = .ok (.goto 4, 3) := dk_167 0 4 (dk_at dksX0_odds_1 15 rfl rfl)
theorem dX0_odds_40 : decode cX0_odds 40 = .ok (.iconst 0, 1) := dk_3 (dk_at dksX0_odds_1 18 rfl rfl)
theorem dX0_odds_41 : decode cX0_odds 41 = .ok (.iconst 1, 1) := dk_4 (dk_at dksX0_odds_1 19 rfl rfl)
theorem dX0_odds_42 : decode cX0_odds 42 = .ok (.invokevirtual 94, 3) := dk_182 0 94 (dk_at dksX0_odds_1 20 rfl rfl)
theorem dX0_odds_45 : decode cX0_odds 45 = .ok (.iload_n 1, 1) := dk_27 (dk_at dksX0_odds_1 23 rfl rfl)
theorem dX0_odds_46 : decode cX0_odds 46 = .ok (.iload_n 2, 1) := dk_28 (dk_at dksX0_odds_2 0 rfl rfl)
theorem dX0_odds_47 : decode cX0_odds 47 = .ok (.iload_n 3, 1) := dk_29 (dk_at dksX0_odds_2 1 rfl rfl)
theorem dX0_odds_48 : decode cX0_odds 48 = .ok (.bipush 10, 2) := dk_16 10 (dk_at dksX0_odds_2 2 rfl rfl)
theorem dX0_odds_50 : decode cX0_odds 50 = .ok (.idiv, 1) := dk_108 (dk_at dksX0_odds_2 4 rfl rfl)
theorem dX0_odds_51 : decode cX0_odds 51 = .ok (.iload_n 3, 1) := dk_29 (dk_at dksX0_odds_2 5 rfl rfl)
theorem dX0_odds_52 : decode cX0_odds 52 = .ok (.bipush 10, 2) := dk_16 10 (dk_at dksX0_odds_2 6 rfl rfl)
theorem dX0_odds_54 : decode cX0_odds 54 = .ok (.irem, 1) := dk_112 (dk_at dksX0_odds_2 8 rfl rfl)
theorem dX0_odds_55 : decode cX0_odds 55 = .ok (.invokestatic 317, 3) := dk_184 1 61 (dk_at dksX0_odds_2 9 rfl rfl)
theorem dX0_odds_58 : decode cX0_odds 58 = .ok (.lstore 5, 2) := dk_55 5 (dk_at dksX0_odds_2 12 rfl rfl)
theorem dX0_odds_60 : decode cX0_odds 60 = .ok (.lconst 1, 1) := dk_10 (dk_at dksX0_odds_2 14 rfl rfl)
theorem dX0_odds_61 : decode cX0_odds 61 = .ok (.lstore 7, 2) := dk_55 7 (dk_at dksX0_odds_2 15 rfl rfl)
theorem dX0_odds_63 : decode cX0_odds 63 = .ok (.iconst 0, 1) := dk_3 (dk_at dksX0_odds_2 17 rfl rfl)
theorem dX0_odds_64 : decode cX0_odds 64 = .ok (.istore 9, 2) := dk_54 9 (dk_at dksX0_odds_2 18 rfl rfl)
theorem dX0_odds_66 : decode cX0_odds 66 = .ok (.iload 9, 2) := dk_21 9 (dk_at dksX0_odds_2 20 rfl rfl)
theorem dX0_odds_68 : decode cX0_odds 68 = .ok (.iload_n 1, 1) := dk_27 (dk_at dksX0_odds_2 22 rfl rfl)
theorem dX0_odds_69 : decode cX0_odds 69 = .ok (.if_icmp .ge 19, 3) := dk_162 0 19 (dk_at dksX0_odds_3 0 rfl rfl)
theorem dX0_odds_72 : decode cX0_odds 72 = .ok (.lload 7, 2) := dk_22 7 (dk_at dksX0_odds_3 3 rfl rfl)
theorem dX0_odds_74 : decode cX0_odds 74 = .ok (.iload_n 3, 1) := dk_29 (dk_at dksX0_odds_3 5 rfl rfl)
theorem dX0_odds_75 : decode cX0_odds 75 = .ok (.bipush 10, 2) := dk_16 10 (dk_at dksX0_odds_3 6 rfl rfl)
theorem dX0_odds_77 : decode cX0_odds 77 = .ok (.irem, 1) := dk_112 (dk_at dksX0_odds_3 8 rfl rfl)
theorem dX0_odds_78 : decode cX0_odds 78 = .ok (.i2l, 1) := dk_133 (dk_at dksX0_odds_3 9 rfl rfl)
theorem dX0_odds_79 : decode cX0_odds 79 = .ok (.lmul, 1) := dk_105 (dk_at dksX0_odds_3 10 rfl rfl)
theorem dX0_odds_80 : decode cX0_odds 80 = .ok (.lstore 7, 2) := dk_55 7 (dk_at dksX0_odds_3 11 rfl rfl)
theorem dX0_odds_82 : decode cX0_odds 82 = .ok (.iinc 9 1, 3) := dk_132 9 1 (dk_at dksX0_odds_3 13 rfl rfl)
theorem dX0_odds_85 : decode cX0_odds 85 = .ok (.goto (-19), 3) := dk_167 255 237 (dk_at dksX0_odds_3 16 rfl rfl)
theorem dX0_odds_88 : decode cX0_odds 88 = .ok (.lload 5, 2) := dk_22 5 (dk_at dksX0_odds_3 19 rfl rfl)
theorem dX0_odds_90 : decode cX0_odds 90 = .ok (.lload 7, 2) := dk_22 7 (dk_at dksX0_odds_3 21 rfl rfl)
theorem dX0_odds_92 : decode cX0_odds 92 = .ok (.invokestatic 321, 3) := dk_184 1 65 (dk_at dksX0_odds_4 0 rfl rfl)
theorem dX0_odds_95 : decode cX0_odds 95 = .ok (.lstore 9, 2) := dk_55 9 (dk_at dksX0_odds_4 3 rfl rfl)
theorem dX0_odds_97 : decode cX0_odds 97 = .ok (.iload 4, 2) := dk_21 4 (dk_at dksX0_odds_4 5 rfl rfl)
theorem dX0_odds_99 : decode cX0_odds 99 = .ok (.ifCond .ne 11, 3) := dk_154 0 11 (dk_at dksX0_odds_4 7 rfl rfl)
theorem dX0_odds_102 : decode cX0_odds 102 = .ok (.lload 5, 2) := dk_22 5 (dk_at dksX0_odds_4 10 rfl rfl)
theorem dX0_odds_104 : decode cX0_odds 104 = .ok (.lload 9, 2) := dk_22 9 (dk_at dksX0_odds_4 12 rfl rfl)
theorem dX0_odds_106 : decode cX0_odds 106 = .ok (.ldiv, 1) := dk_109 (dk_at dksX0_odds_4 14 rfl rfl)
theorem dX0_odds_107 : decode cX0_odds 107 = .ok (.goto 8, 3) := dk_167 0 8 (dk_at dksX0_odds_4 15 rfl rfl)
theorem dX0_odds_110 : decode cX0_odds 110 = .ok (.lload 7, 2) := dk_22 7 (dk_at dksX0_odds_4 18 rfl rfl)
theorem dX0_odds_112 : decode cX0_odds 112 = .ok (.lload 9, 2) := dk_22 9 (dk_at dksX0_odds_4 20 rfl rfl)
theorem dX0_odds_114 : decode cX0_odds 114 = .ok (.ldiv, 1) := dk_109 (dk_at dksX0_odds_4 22 rfl rfl)
theorem dX0_odds_115 : decode cX0_odds 115 = .ok (.lreturn, 1) := dk_173 (dk_at dksX0_odds_4 23 rfl rfl)
theorem dX0_odds_116 : decode cX0_odds 116 = .ok (.astore 5, 2) := dk_58 5 (dk_at dksX0_odds_5 0 rfl rfl)
theorem dX0_odds_118 : decode cX0_odds 118 = .ok (.aload_n 0, 1) := dk_42 (dk_at dksX0_odds_5 2 rfl rfl)
theorem dX0_odds_119 : decode cX0_odds 119 = .ok (.aload 5, 2) := dk_25 5 (dk_at dksX0_odds_5 3 rfl rfl)
theorem dX0_odds_121 : decode cX0_odds 121 = .ok (.invokevirtual 133, 3) := dk_182 0 133 (dk_at dksX0_odds_5 5 rfl rfl)
theorem dX0_odds_124 : decode cX0_odds 124 = .ok (.i2l, 1) := dk_133 (dk_at dksX0_odds_5 8 rfl rfl)
theorem dX0_odds_125 : decode cX0_odds 125 = .ok (.lreturn, 1) := dk_173 (dk_at dksX0_odds_5 9 rfl rfl)
abbrev cX0_isPart : ByteArray := prog_1_method_12_code
def yX0_isPart : MethodName := ⟨RX0, "isPart", "(I)Z"⟩
def dkwX0_isPart_1 : List UInt8 := [112, 163, 0, 7, 4, 167, 0, 4, 3, 172]
abbrev dktX0_isPart_1 : List UInt8 := dkwX0_isPart_1 ++ []
def dkwX0_isPart_0 : List UInt8 := [26, 155, 0, 31, 26, 16, 10, 112, 4, 16, 6, 184, 0, 86, 153, 0, 18, 26, 16, 10, 108, 26, 16, 10]
abbrev dktX0_isPart_0 : List UInt8 := dkwX0_isPart_0 ++ dktX0_isPart_1
theorem dksX0_isPart_0 : cX0_isPart.data.toList.drop 0 = dktX0_isPart_0 := by decide +kernel
theorem dksX0_isPart_1 : cX0_isPart.data.toList.drop 24 = dktX0_isPart_1 := dk_seg dksX0_isPart_0 24 rfl rfl
theorem dX0_isPart_0 : decode cX0_isPart 0 = .ok (.iload_n 0, 1) := dk_26 (dk_at dksX0_isPart_0 0 rfl rfl)
theorem dX0_isPart_1 : decode cX0_isPart 1 = .ok (.ifCond .lt 31, 3) := dk_155 0 31 (dk_at dksX0_isPart_0 1 rfl rfl)
theorem dX0_isPart_4 : decode cX0_isPart 4 = .ok (.iload_n 0, 1) := dk_26 (dk_at dksX0_isPart_0 4 rfl rfl)
theorem dX0_isPart_5 : decode cX0_isPart 5 = .ok (.bipush 10, 2) := dk_16 10 (dk_at dksX0_isPart_0 5 rfl rfl)
theorem dX0_isPart_7 : decode cX0_isPart 7 = .ok (.irem, 1) := dk_112 (dk_at dksX0_isPart_0 7 rfl rfl)
theorem dX0_isPart_8 : decode cX0_isPart 8 = .ok (.iconst 1, 1) := dk_4 (dk_at dksX0_isPart_0 8 rfl rfl)
theorem dX0_isPart_9 : decode cX0_isPart 9 = .ok (.bipush 6, 2) := dk_16 6 (dk_at dksX0_isPart_0 9 rfl rfl)
theorem dX0_isPart_11 : decode cX0_isPart 11 = .ok (.invokestatic 86, 3) := dk_184 0 86 (dk_at dksX0_isPart_0 11 rfl rfl)
theorem dX0_isPart_14 : decode cX0_isPart 14 = .ok (.ifCond .eq 18, 3) := dk_153 0 18 (dk_at dksX0_isPart_0 14 rfl rfl)
theorem dX0_isPart_17 : decode cX0_isPart 17 = .ok (.iload_n 0, 1) := dk_26 (dk_at dksX0_isPart_0 17 rfl rfl)
theorem dX0_isPart_18 : decode cX0_isPart 18 = .ok (.bipush 10, 2) := dk_16 10 (dk_at dksX0_isPart_0 18 rfl rfl)
theorem dX0_isPart_20 : decode cX0_isPart 20 = .ok (.idiv, 1) := dk_108 (dk_at dksX0_isPart_0 20 rfl rfl)
theorem dX0_isPart_21 : decode cX0_isPart 21 = .ok (.iload_n 0, 1) := dk_26 (dk_at dksX0_isPart_0 21 rfl rfl)
theorem dX0_isPart_22 : decode cX0_isPart 22 = .ok (.bipush 10, 2) := dk_16 10 (dk_at dksX0_isPart_0 22 rfl rfl)
theorem dX0_isPart_24 : decode cX0_isPart 24 = .ok (.irem, 1) := dk_112 (dk_at dksX0_isPart_1 0 rfl rfl)
theorem dX0_isPart_25 : decode cX0_isPart 25 = .ok (.if_icmp .gt 7, 3) := dk_163 0 7 (dk_at dksX0_isPart_1 1 rfl rfl)
theorem dX0_isPart_28 : decode cX0_isPart 28 = .ok (.iconst 1, 1) := dk_4 (dk_at dksX0_isPart_1 4 rfl rfl)
theorem dX0_isPart_29 : decode cX0_isPart 29 = .ok (.goto 4, 3) := dk_167 0 4 (dk_at dksX0_isPart_1 5 rfl rfl)
theorem dX0_isPart_32 : decode cX0_isPart 32 = .ok (.iconst 0, 1) := dk_3 (dk_at dksX0_isPart_1 8 rfl rfl)
theorem dX0_isPart_33 : decode cX0_isPart 33 = .ok (.ireturn, 1) := dk_172 (dk_at dksX0_isPart_1 9 rfl rfl)
abbrev cX0_waysOut : ByteArray := prog_1_method_44_code
def yX0_waysOut : MethodName := ⟨RX0, "waysOut", "(IIII)J"⟩
def dkwX0_waysOut_4 : List UInt8 := [132, 6, 1, 167, 255, 169, 22, 4, 173]
abbrev dktX0_waysOut_4 : List UInt8 := dkwX0_waysOut_4 ++ []
def dkwX0_waysOut_3 : List UInt8 := [167, 0, 7, 29, 28, 100, 133, 105, 55, 7, 132, 9, 1, 167, 255, 226, 22, 4, 22, 7, 97, 55, 4]
abbrev dktX0_waysOut_3 : List UInt8 := dkwX0_waysOut_3 ++ dktX0_waysOut_4
def dkwX0_waysOut_2 : List UInt8 := [167, 255, 230, 3, 54, 9, 21, 9, 26, 162, 0, 30, 22, 7, 21, 9, 21, 6, 162, 0, 8, 28, 133]
abbrev dktX0_waysOut_2 : List UInt8 := dkwX0_waysOut_2 ++ dktX0_waysOut_3
def dkwX0_waysOut_1 : List UInt8 := [162, 0, 25, 22, 7, 26, 21, 9, 100, 133, 105, 21, 9, 4, 96, 133, 109, 55, 7, 132, 9, 1]
abbrev dktX0_waysOut_1 : List UInt8 := dkwX0_waysOut_1 ++ dktX0_waysOut_2
def dkwX0_waysOut_0 : List UInt8 := [9, 55, 4, 27, 54, 6, 21, 6, 26, 163, 0, 87, 10, 55, 7, 3, 54, 9, 21, 9, 21, 6]
abbrev dktX0_waysOut_0 : List UInt8 := dkwX0_waysOut_0 ++ dktX0_waysOut_1
theorem dksX0_waysOut_0 : cX0_waysOut.data.toList.drop 0 = dktX0_waysOut_0 := by decide +kernel
theorem dksX0_waysOut_1 : cX0_waysOut.data.toList.drop 22 = dktX0_waysOut_1 := dk_seg dksX0_waysOut_0 22 rfl rfl
theorem dksX0_waysOut_2 : cX0_waysOut.data.toList.drop 44 = dktX0_waysOut_2 := dk_seg dksX0_waysOut_1 22 rfl rfl
theorem dksX0_waysOut_3 : cX0_waysOut.data.toList.drop 67 = dktX0_waysOut_3 := dk_seg dksX0_waysOut_2 23 rfl rfl
theorem dksX0_waysOut_4 : cX0_waysOut.data.toList.drop 90 = dktX0_waysOut_4 := dk_seg dksX0_waysOut_3 23 rfl rfl
theorem dX0_waysOut_0 : decode cX0_waysOut 0 = .ok (.lconst 0, 1) := dk_9 (dk_at dksX0_waysOut_0 0 rfl rfl)
theorem dX0_waysOut_1 : decode cX0_waysOut 1 = .ok (.lstore 4, 2) := dk_55 4 (dk_at dksX0_waysOut_0 1 rfl rfl)
theorem dX0_waysOut_3 : decode cX0_waysOut 3 = .ok (.iload_n 1, 1) := dk_27 (dk_at dksX0_waysOut_0 3 rfl rfl)
theorem dX0_waysOut_4 : decode cX0_waysOut 4 = .ok (.istore 6, 2) := dk_54 6 (dk_at dksX0_waysOut_0 4 rfl rfl)
theorem dX0_waysOut_6 : decode cX0_waysOut 6 = .ok (.iload 6, 2) := dk_21 6 (dk_at dksX0_waysOut_0 6 rfl rfl)
theorem dX0_waysOut_8 : decode cX0_waysOut 8 = .ok (.iload_n 0, 1) := dk_26 (dk_at dksX0_waysOut_0 8 rfl rfl)
theorem dX0_waysOut_9 : decode cX0_waysOut 9 = .ok (.if_icmp .gt 87, 3) := dk_163 0 87 (dk_at dksX0_waysOut_0 9 rfl rfl)
theorem dX0_waysOut_12 : decode cX0_waysOut 12 = .ok (.lconst 1, 1) := dk_10 (dk_at dksX0_waysOut_0 12 rfl rfl)
theorem dX0_waysOut_13 : decode cX0_waysOut 13 = .ok (.lstore 7, 2) := dk_55 7 (dk_at dksX0_waysOut_0 13 rfl rfl)
theorem dX0_waysOut_15 : decode cX0_waysOut 15 = .ok (.iconst 0, 1) := dk_3 (dk_at dksX0_waysOut_0 15 rfl rfl)
theorem dX0_waysOut_16 : decode cX0_waysOut 16 = .ok (.istore 9, 2) := dk_54 9 (dk_at dksX0_waysOut_0 16 rfl rfl)
theorem dX0_waysOut_18 : decode cX0_waysOut 18 = .ok (.iload 9, 2) := dk_21 9 (dk_at dksX0_waysOut_0 18 rfl rfl)
theorem dX0_waysOut_20 : decode cX0_waysOut 20 = .ok (.iload 6, 2) := dk_21 6 (dk_at dksX0_waysOut_0 20 rfl rfl)
theorem dX0_waysOut_22 : decode cX0_waysOut 22 = .ok (.if_icmp .ge 25, 3) := dk_162 0 25 (dk_at dksX0_waysOut_1 0 rfl rfl)
theorem dX0_waysOut_25 : decode cX0_waysOut 25 = .ok (.lload 7, 2) := dk_22 7 (dk_at dksX0_waysOut_1 3 rfl rfl)
theorem dX0_waysOut_27 : decode cX0_waysOut 27 = .ok (.iload_n 0, 1) := dk_26 (dk_at dksX0_waysOut_1 5 rfl rfl)
theorem dX0_waysOut_28 : decode cX0_waysOut 28 = .ok (.iload 9, 2) := dk_21 9 (dk_at dksX0_waysOut_1 6 rfl rfl)
theorem dX0_waysOut_30 : decode cX0_waysOut 30 = .ok (.isub, 1) := dk_100 (dk_at dksX0_waysOut_1 8 rfl rfl)
theorem dX0_waysOut_31 : decode cX0_waysOut 31 = .ok (.i2l, 1) := dk_133 (dk_at dksX0_waysOut_1 9 rfl rfl)
theorem dX0_waysOut_32 : decode cX0_waysOut 32 = .ok (.lmul, 1) := dk_105 (dk_at dksX0_waysOut_1 10 rfl rfl)
theorem dX0_waysOut_33 : decode cX0_waysOut 33 = .ok (.iload 9, 2) := dk_21 9 (dk_at dksX0_waysOut_1 11 rfl rfl)
theorem dX0_waysOut_35 : decode cX0_waysOut 35 = .ok (.iconst 1, 1) := dk_4 (dk_at dksX0_waysOut_1 13 rfl rfl)
theorem dX0_waysOut_36 : decode cX0_waysOut 36 = .ok (.iadd, 1) := dk_96 (dk_at dksX0_waysOut_1 14 rfl rfl)
theorem dX0_waysOut_37 : decode cX0_waysOut 37 = .ok (.i2l, 1) := dk_133 (dk_at dksX0_waysOut_1 15 rfl rfl)
theorem dX0_waysOut_38 : decode cX0_waysOut 38 = .ok (.ldiv, 1) := dk_109 (dk_at dksX0_waysOut_1 16 rfl rfl)
theorem dX0_waysOut_39 : decode cX0_waysOut 39 = .ok (.lstore 7, 2) := dk_55 7 (dk_at dksX0_waysOut_1 17 rfl rfl)
theorem dX0_waysOut_41 : decode cX0_waysOut 41 = .ok (.iinc 9 1, 3) := dk_132 9 1 (dk_at dksX0_waysOut_1 19 rfl rfl)
theorem dX0_waysOut_44 : decode cX0_waysOut 44 = .ok (.goto (-26), 3) := dk_167 255 230 (dk_at dksX0_waysOut_2 0 rfl rfl)
theorem dX0_waysOut_47 : decode cX0_waysOut 47 = .ok (.iconst 0, 1) := dk_3 (dk_at dksX0_waysOut_2 3 rfl rfl)
theorem dX0_waysOut_48 : decode cX0_waysOut 48 = .ok (.istore 9, 2) := dk_54 9 (dk_at dksX0_waysOut_2 4 rfl rfl)
theorem dX0_waysOut_50 : decode cX0_waysOut 50 = .ok (.iload 9, 2) := dk_21 9 (dk_at dksX0_waysOut_2 6 rfl rfl)
theorem dX0_waysOut_52 : decode cX0_waysOut 52 = .ok (.iload_n 0, 1) := dk_26 (dk_at dksX0_waysOut_2 8 rfl rfl)
theorem dX0_waysOut_53 : decode cX0_waysOut 53 = .ok (.if_icmp .ge 30, 3) := dk_162 0 30 (dk_at dksX0_waysOut_2 9 rfl rfl)
theorem dX0_waysOut_56 : decode cX0_waysOut 56 = .ok (.lload 7, 2) := dk_22 7 (dk_at dksX0_waysOut_2 12 rfl rfl)
theorem dX0_waysOut_58 : decode cX0_waysOut 58 = .ok (.iload 9, 2) := dk_21 9 (dk_at dksX0_waysOut_2 14 rfl rfl)
theorem dX0_waysOut_60 : decode cX0_waysOut 60 = .ok (.iload 6, 2) := dk_21 6 (dk_at dksX0_waysOut_2 16 rfl rfl)
theorem dX0_waysOut_62 : decode cX0_waysOut 62 = .ok (.if_icmp .ge 8, 3) := dk_162 0 8 (dk_at dksX0_waysOut_2 18 rfl rfl)
theorem dX0_waysOut_65 : decode cX0_waysOut 65 = .ok (.iload_n 2, 1) := dk_28 (dk_at dksX0_waysOut_2 21 rfl rfl)
theorem dX0_waysOut_66 : decode cX0_waysOut 66 = .ok (.i2l, 1) := dk_133 (dk_at dksX0_waysOut_2 22 rfl rfl)
theorem dX0_waysOut_67 : decode cX0_waysOut 67 = .ok (.goto 7, 3) := dk_167 0 7 (dk_at dksX0_waysOut_3 0 rfl rfl)
theorem dX0_waysOut_70 : decode cX0_waysOut 70 = .ok (.iload_n 3, 1) := dk_29 (dk_at dksX0_waysOut_3 3 rfl rfl)
theorem dX0_waysOut_71 : decode cX0_waysOut 71 = .ok (.iload_n 2, 1) := dk_28 (dk_at dksX0_waysOut_3 4 rfl rfl)
theorem dX0_waysOut_72 : decode cX0_waysOut 72 = .ok (.isub, 1) := dk_100 (dk_at dksX0_waysOut_3 5 rfl rfl)
theorem dX0_waysOut_73 : decode cX0_waysOut 73 = .ok (.i2l, 1) := dk_133 (dk_at dksX0_waysOut_3 6 rfl rfl)
theorem dX0_waysOut_74 : decode cX0_waysOut 74 = .ok (.lmul, 1) := dk_105 (dk_at dksX0_waysOut_3 7 rfl rfl)
theorem dX0_waysOut_75 : decode cX0_waysOut 75 = .ok (.lstore 7, 2) := dk_55 7 (dk_at dksX0_waysOut_3 8 rfl rfl)
theorem dX0_waysOut_77 : decode cX0_waysOut 77 = .ok (.iinc 9 1, 3) := dk_132 9 1 (dk_at dksX0_waysOut_3 10 rfl rfl)
theorem dX0_waysOut_80 : decode cX0_waysOut 80 = .ok (.goto (-30), 3) := dk_167 255 226 (dk_at dksX0_waysOut_3 13 rfl rfl)
theorem dX0_waysOut_83 : decode cX0_waysOut 83 = .ok (.lload 4, 2) := dk_22 4 (dk_at dksX0_waysOut_3 16 rfl rfl)
theorem dX0_waysOut_85 : decode cX0_waysOut 85 = .ok (.lload 7, 2) := dk_22 7 (dk_at dksX0_waysOut_3 18 rfl rfl)
theorem dX0_waysOut_87 : decode cX0_waysOut 87 = .ok (.ladd, 1) := dk_97 (dk_at dksX0_waysOut_3 20 rfl rfl)
theorem dX0_waysOut_88 : decode cX0_waysOut 88 = .ok (.lstore 4, 2) := dk_55 4 (dk_at dksX0_waysOut_3 21 rfl rfl)
theorem dX0_waysOut_90 : decode cX0_waysOut 90 = .ok (.iinc 6 1, 3) := dk_132 6 1 (dk_at dksX0_waysOut_4 0 rfl rfl)
theorem dX0_waysOut_93 : decode cX0_waysOut 93 = .ok (.goto (-87), 3) := dk_167 255 169 (dk_at dksX0_waysOut_4 3 rfl rfl)
theorem dX0_waysOut_96 : decode cX0_waysOut 96 = .ok (.lload 4, 2) := dk_22 4 (dk_at dksX0_waysOut_4 6 rfl rfl)
theorem dX0_waysOut_98 : decode cX0_waysOut 98 = .ok (.lreturn, 1) := dk_173 (dk_at dksX0_waysOut_4 8 rfl rfl)
abbrev cX0_divisor : ByteArray := prog_1_method_43_code
def yX0_divisor : MethodName := ⟨RX0, "divisor", "(JJ)J"⟩
def dkwX0_divisor_1 : List UInt8 := [22, 8, 55, 6, 167, 255, 234, 22, 4, 173]
abbrev dktX0_divisor_1 : List UInt8 := dkwX0_divisor_1 ++ []
def dkwX0_divisor_0 : List UInt8 := [30, 55, 4, 32, 55, 6, 22, 6, 9, 148, 153, 0, 21, 22, 4, 22, 6, 113, 55, 8, 22, 6, 55, 4]
abbrev dktX0_divisor_0 : List UInt8 := dkwX0_divisor_0 ++ dktX0_divisor_1
theorem dksX0_divisor_0 : cX0_divisor.data.toList.drop 0 = dktX0_divisor_0 := by decide +kernel
theorem dksX0_divisor_1 : cX0_divisor.data.toList.drop 24 = dktX0_divisor_1 := dk_seg dksX0_divisor_0 24 rfl rfl
theorem dX0_divisor_0 : decode cX0_divisor 0 = .ok (.lload_n 0, 1) := dk_30 (dk_at dksX0_divisor_0 0 rfl rfl)
theorem dX0_divisor_1 : decode cX0_divisor 1 = .ok (.lstore 4, 2) := dk_55 4 (dk_at dksX0_divisor_0 1 rfl rfl)
theorem dX0_divisor_3 : decode cX0_divisor 3 = .ok (.lload_n 2, 1) := dk_32 (dk_at dksX0_divisor_0 3 rfl rfl)
theorem dX0_divisor_4 : decode cX0_divisor 4 = .ok (.lstore 6, 2) := dk_55 6 (dk_at dksX0_divisor_0 4 rfl rfl)
theorem dX0_divisor_6 : decode cX0_divisor 6 = .ok (.lload 6, 2) := dk_22 6 (dk_at dksX0_divisor_0 6 rfl rfl)
theorem dX0_divisor_8 : decode cX0_divisor 8 = .ok (.lconst 0, 1) := dk_9 (dk_at dksX0_divisor_0 8 rfl rfl)
theorem dX0_divisor_9 : decode cX0_divisor 9 = .ok (.lcmp, 1) := dk_148 (dk_at dksX0_divisor_0 9 rfl rfl)
theorem dX0_divisor_10 : decode cX0_divisor 10 = .ok (.ifCond .eq 21, 3) := dk_153 0 21 (dk_at dksX0_divisor_0 10 rfl rfl)
theorem dX0_divisor_13 : decode cX0_divisor 13 = .ok (.lload 4, 2) := dk_22 4 (dk_at dksX0_divisor_0 13 rfl rfl)
theorem dX0_divisor_15 : decode cX0_divisor 15 = .ok (.lload 6, 2) := dk_22 6 (dk_at dksX0_divisor_0 15 rfl rfl)
theorem dX0_divisor_17 : decode cX0_divisor 17 = .ok (.lrem, 1) := dk_113 (dk_at dksX0_divisor_0 17 rfl rfl)
theorem dX0_divisor_18 : decode cX0_divisor 18 = .ok (.lstore 8, 2) := dk_55 8 (dk_at dksX0_divisor_0 18 rfl rfl)
theorem dX0_divisor_20 : decode cX0_divisor 20 = .ok (.lload 6, 2) := dk_22 6 (dk_at dksX0_divisor_0 20 rfl rfl)
theorem dX0_divisor_22 : decode cX0_divisor 22 = .ok (.lstore 4, 2) := dk_55 4 (dk_at dksX0_divisor_0 22 rfl rfl)
theorem dX0_divisor_24 : decode cX0_divisor 24 = .ok (.lload 8, 2) := dk_22 8 (dk_at dksX0_divisor_1 0 rfl rfl)
theorem dX0_divisor_26 : decode cX0_divisor 26 = .ok (.lstore 6, 2) := dk_55 6 (dk_at dksX0_divisor_1 2 rfl rfl)
theorem dX0_divisor_28 : decode cX0_divisor 28 = .ok (.goto (-22), 3) := dk_167 255 234 (dk_at dksX0_divisor_1 4 rfl rfl)
theorem dX0_divisor_31 : decode cX0_divisor 31 = .ok (.lload 4, 2) := dk_22 4 (dk_at dksX0_divisor_1 7 rfl rfl)
theorem dX0_divisor_33 : decode cX0_divisor 33 = .ok (.lreturn, 1) := dk_173 (dk_at dksX0_divisor_1 9 rfl rfl)
abbrev cX0_beside : ByteArray := prog_1_method_46_code
def yX0_beside : MethodName := ⟨RX0, "beside", "(III)I"⟩
def dkwX0_beside_3 : List UInt8 := [58, 4, 42, 25, 4, 182, 0, 133, 172]
abbrev dktX0_beside_3 : List UInt8 := dkwX0_beside_3 ++ []
def dkwX0_beside_2 : List UInt8 := [100, 54, 4, 21, 4, 158, 0, 7, 3, 167, 0, 13, 21, 4, 156, 0, 7, 4, 167, 0, 4, 5, 172]
abbrev dktX0_beside_2 : List UInt8 := dkwX0_beside_2 ++ dktX0_beside_3
def dkwX0_beside_1 : List UInt8 := [153, 0, 7, 4, 167, 0, 4, 3, 4, 182, 0, 94, 28, 29, 16, 10, 112, 104, 27, 29, 16, 10, 108, 104]
abbrev dktX0_beside_1 : List UInt8 := dkwX0_beside_1 ++ dktX0_beside_2
def dkwX0_beside_0 : List UInt8 := [42, 27, 4, 16, 12, 184, 0, 86, 153, 0, 23, 28, 3, 27, 184, 0, 86, 153, 0, 14, 29, 184, 1, 58]
abbrev dktX0_beside_0 : List UInt8 := dkwX0_beside_0 ++ dktX0_beside_1
theorem dksX0_beside_0 : cX0_beside.data.toList.drop 0 = dktX0_beside_0 := by decide +kernel
theorem dksX0_beside_1 : cX0_beside.data.toList.drop 24 = dktX0_beside_1 := dk_seg dksX0_beside_0 24 rfl rfl
theorem dksX0_beside_2 : cX0_beside.data.toList.drop 48 = dktX0_beside_2 := dk_seg dksX0_beside_1 24 rfl rfl
theorem dksX0_beside_3 : cX0_beside.data.toList.drop 71 = dktX0_beside_3 := dk_seg dksX0_beside_2 23 rfl rfl
theorem dX0_beside_0 : decode cX0_beside 0 = .ok (.aload_n 0, 1) := dk_42 (dk_at dksX0_beside_0 0 rfl rfl)
theorem dX0_beside_1 : decode cX0_beside 1 = .ok (.iload_n 1, 1) := dk_27 (dk_at dksX0_beside_0 1 rfl rfl)
theorem dX0_beside_2 : decode cX0_beside 2 = .ok (.iconst 1, 1) := dk_4 (dk_at dksX0_beside_0 2 rfl rfl)
theorem dX0_beside_3 : decode cX0_beside 3 = .ok (.bipush 12, 2) := dk_16 12 (dk_at dksX0_beside_0 3 rfl rfl)
theorem dX0_beside_5 : decode cX0_beside 5 = .ok (.invokestatic 86, 3) := dk_184 0 86 (dk_at dksX0_beside_0 5 rfl rfl)
theorem dX0_beside_8 : decode cX0_beside 8 = .ok (.ifCond .eq 23, 3) := dk_153 0 23 (dk_at dksX0_beside_0 8 rfl rfl)
theorem dX0_beside_11 : decode cX0_beside 11 = .ok (.iload_n 2, 1) := dk_28 (dk_at dksX0_beside_0 11 rfl rfl)
theorem dX0_beside_12 : decode cX0_beside 12 = .ok (.iconst 0, 1) := dk_3 (dk_at dksX0_beside_0 12 rfl rfl)
theorem dX0_beside_13 : decode cX0_beside 13 = .ok (.iload_n 1, 1) := dk_27 (dk_at dksX0_beside_0 13 rfl rfl)
theorem dX0_beside_14 : decode cX0_beside 14 = .ok (.invokestatic 86, 3) := dk_184 0 86 (dk_at dksX0_beside_0 14 rfl rfl)
theorem dX0_beside_17 : decode cX0_beside 17 = .ok (.ifCond .eq 14, 3) := dk_153 0 14 (dk_at dksX0_beside_0 17 rfl rfl)
theorem dX0_beside_20 : decode cX0_beside 20 = .ok (.iload_n 3, 1) := dk_29 (dk_at dksX0_beside_0 20 rfl rfl)
theorem dX0_beside_21 : decode cX0_beside 21 = .ok (.invokestatic 314, 3) := dk_184 1 58 (dk_at dksX0_beside_0 21 rfl rfl)
theorem dX0_beside_24 : decode cX0_beside 24 = .ok (.ifCond .eq 7, 3) := dk_153 0 7 (dk_at dksX0_beside_1 0 rfl rfl)
theorem dX0_beside_27 : decode cX0_beside 27 = .ok (.iconst 1, 1) := dk_4 (dk_at dksX0_beside_1 3 rfl rfl)
theorem dX0_beside_28 : decode cX0_beside 28 = .ok (.goto 4, 3) := dk_167 0 4 (dk_at dksX0_beside_1 4 rfl rfl)
theorem dX0_beside_31 : decode cX0_beside 31 = .ok (.iconst 0, 1) := dk_3 (dk_at dksX0_beside_1 7 rfl rfl)
theorem dX0_beside_32 : decode cX0_beside 32 = .ok (.iconst 1, 1) := dk_4 (dk_at dksX0_beside_1 8 rfl rfl)
theorem dX0_beside_33 : decode cX0_beside 33 = .ok (.invokevirtual 94, 3) := dk_182 0 94 (dk_at dksX0_beside_1 9 rfl rfl)
theorem dX0_beside_36 : decode cX0_beside 36 = .ok (.iload_n 2, 1) := dk_28 (dk_at dksX0_beside_1 12 rfl rfl)
theorem dX0_beside_37 : decode cX0_beside 37 = .ok (.iload_n 3, 1) := dk_29 (dk_at dksX0_beside_1 13 rfl rfl)
theorem dX0_beside_38 : decode cX0_beside 38 = .ok (.bipush 10, 2) := dk_16 10 (dk_at dksX0_beside_1 14 rfl rfl)
theorem dX0_beside_40 : decode cX0_beside 40 = .ok (.irem, 1) := dk_112 (dk_at dksX0_beside_1 16 rfl rfl)
theorem dX0_beside_41 : decode cX0_beside 41 = .ok (.imul, 1) := dk_104 (dk_at dksX0_beside_1 17 rfl rfl)
theorem dX0_beside_42 : decode cX0_beside 42 = .ok (.iload_n 1, 1) := dk_27 (dk_at dksX0_beside_1 18 rfl rfl)
theorem dX0_beside_43 : decode cX0_beside 43 = .ok (.iload_n 3, 1) := dk_29 (dk_at dksX0_beside_1 19 rfl rfl)
theorem dX0_beside_44 : decode cX0_beside 44 = .ok (.bipush 10, 2) := dk_16 10 (dk_at dksX0_beside_1 20 rfl rfl)
theorem dX0_beside_46 : decode cX0_beside 46 = .ok (.idiv, 1) := dk_108 (dk_at dksX0_beside_1 22 rfl rfl)
theorem dX0_beside_47 : decode cX0_beside 47 = .ok (.imul, 1) := dk_104 (dk_at dksX0_beside_1 23 rfl rfl)
theorem dX0_beside_48 : decode cX0_beside 48 = .ok (.isub, 1) := dk_100 (dk_at dksX0_beside_2 0 rfl rfl)
theorem dX0_beside_49 : decode cX0_beside 49 = .ok (.istore 4, 2) := dk_54 4 (dk_at dksX0_beside_2 1 rfl rfl)
theorem dX0_beside_51 : decode cX0_beside 51 = .ok (.iload 4, 2) := dk_21 4 (dk_at dksX0_beside_2 3 rfl rfl)
theorem dX0_beside_53 : decode cX0_beside 53 = .ok (.ifCond .le 7, 3) := dk_158 0 7 (dk_at dksX0_beside_2 5 rfl rfl)
theorem dX0_beside_56 : decode cX0_beside 56 = .ok (.iconst 0, 1) := dk_3 (dk_at dksX0_beside_2 8 rfl rfl)
theorem dX0_beside_57 : decode cX0_beside 57 = .ok (.goto 13, 3) := dk_167 0 13 (dk_at dksX0_beside_2 9 rfl rfl)
theorem dX0_beside_60 : decode cX0_beside 60 = .ok (.iload 4, 2) := dk_21 4 (dk_at dksX0_beside_2 12 rfl rfl)
theorem dX0_beside_62 : decode cX0_beside 62 = .ok (.ifCond .ge 7, 3) := dk_156 0 7 (dk_at dksX0_beside_2 14 rfl rfl)
theorem dX0_beside_65 : decode cX0_beside 65 = .ok (.iconst 1, 1) := dk_4 (dk_at dksX0_beside_2 17 rfl rfl)
theorem dX0_beside_66 : decode cX0_beside 66 = .ok (.goto 4, 3) := dk_167 0 4 (dk_at dksX0_beside_2 18 rfl rfl)
theorem dX0_beside_69 : decode cX0_beside 69 = .ok (.iconst 2, 1) := dk_5 (dk_at dksX0_beside_2 21 rfl rfl)
theorem dX0_beside_70 : decode cX0_beside 70 = .ok (.ireturn, 1) := dk_172 (dk_at dksX0_beside_2 22 rfl rfl)
theorem dX0_beside_71 : decode cX0_beside 71 = .ok (.astore 4, 2) := dk_58 4 (dk_at dksX0_beside_3 0 rfl rfl)
theorem dX0_beside_73 : decode cX0_beside 73 = .ok (.aload_n 0, 1) := dk_42 (dk_at dksX0_beside_3 2 rfl rfl)
theorem dX0_beside_74 : decode cX0_beside 74 = .ok (.aload 4, 2) := dk_25 4 (dk_at dksX0_beside_3 3 rfl rfl)
theorem dX0_beside_76 : decode cX0_beside 76 = .ok (.invokevirtual 133, 3) := dk_182 0 133 (dk_at dksX0_beside_3 5 rfl rfl)
theorem dX0_beside_79 : decode cX0_beside 79 = .ok (.ireturn, 1) := dk_172 (dk_at dksX0_beside_3 8 rfl rfl)
abbrev cX0_stop : ByteArray := prog_1_method_47_code
def yX0_stop : MethodName := ⟨RX0, "stop", "(III)I"⟩
def dkwX0_stop_4 : List UInt8 := [21, 4, 172, 58, 4, 42, 25, 4, 182, 0, 133, 172]
abbrev dktX0_stop_4 : List UInt8 := dkwX0_stop_4 ++ []
def dkwX0_stop_3 : List UInt8 := [132, 4, 1, 167, 255, 227, 42, 21, 4, 17, 2, 88, 163, 0, 7, 4, 167, 0, 4, 3, 5, 182, 0, 94]
abbrev dktX0_stop_3 : List UInt8 := dkwX0_stop_3 ++ dktX0_stop_4
def dkwX0_stop_2 : List UInt8 := [17, 2, 88, 163, 0, 27, 42, 180, 0, 49, 180, 0, 196, 27, 28, 21, 4, 182, 1, 69, 29, 164, 0, 9]
abbrev dktX0_stop_2 : List UInt8 := dkwX0_stop_2 ++ dktX0_stop_3
def dkwX0_stop_1 : List UInt8 := [3, 17, 3, 232, 184, 0, 86, 153, 0, 7, 4, 167, 0, 4, 3, 4, 182, 0, 94, 3, 54, 4, 21, 4]
abbrev dktX0_stop_1 : List UInt8 := dkwX0_stop_1 ++ dktX0_stop_2
def dkwX0_stop_0 : List UInt8 := [42, 27, 4, 17, 1, 44, 184, 0, 86, 153, 0, 29, 28, 3, 17, 9, 96, 184, 0, 86, 153, 0, 18, 29]
abbrev dktX0_stop_0 : List UInt8 := dkwX0_stop_0 ++ dktX0_stop_1
theorem dksX0_stop_0 : cX0_stop.data.toList.drop 0 = dktX0_stop_0 := by decide +kernel
theorem dksX0_stop_1 : cX0_stop.data.toList.drop 24 = dktX0_stop_1 := dk_seg dksX0_stop_0 24 rfl rfl
theorem dksX0_stop_2 : cX0_stop.data.toList.drop 48 = dktX0_stop_2 := dk_seg dksX0_stop_1 24 rfl rfl
theorem dksX0_stop_3 : cX0_stop.data.toList.drop 72 = dktX0_stop_3 := dk_seg dksX0_stop_2 24 rfl rfl
theorem dksX0_stop_4 : cX0_stop.data.toList.drop 96 = dktX0_stop_4 := dk_seg dksX0_stop_3 24 rfl rfl
theorem dX0_stop_0 : decode cX0_stop 0 = .ok (.aload_n 0, 1) := dk_42 (dk_at dksX0_stop_0 0 rfl rfl)
theorem dX0_stop_1 : decode cX0_stop 1 = .ok (.iload_n 1, 1) := dk_27 (dk_at dksX0_stop_0 1 rfl rfl)
theorem dX0_stop_2 : decode cX0_stop 2 = .ok (.iconst 1, 1) := dk_4 (dk_at dksX0_stop_0 2 rfl rfl)
theorem dX0_stop_3 : decode cX0_stop 3 = .ok (.sipush 300, 3) := dk_17 1 44 (dk_at dksX0_stop_0 3 rfl rfl)
theorem dX0_stop_6 : decode cX0_stop 6 = .ok (.invokestatic 86, 3) := dk_184 0 86 (dk_at dksX0_stop_0 6 rfl rfl)
theorem dX0_stop_9 : decode cX0_stop 9 = .ok (.ifCond .eq 29, 3) := dk_153 0 29 (dk_at dksX0_stop_0 9 rfl rfl)
theorem dX0_stop_12 : decode cX0_stop 12 = .ok (.iload_n 2, 1) := dk_28 (dk_at dksX0_stop_0 12 rfl rfl)
theorem dX0_stop_13 : decode cX0_stop 13 = .ok (.iconst 0, 1) := dk_3 (dk_at dksX0_stop_0 13 rfl rfl)
theorem dX0_stop_14 : decode cX0_stop 14 = .ok (.sipush 2400, 3) := dk_17 9 96 (dk_at dksX0_stop_0 14 rfl rfl)
theorem dX0_stop_17 : decode cX0_stop 17 = .ok (.invokestatic 86, 3) := dk_184 0 86 (dk_at dksX0_stop_0 17 rfl rfl)
theorem dX0_stop_20 : decode cX0_stop 20 = .ok (.ifCond .eq 18, 3) := dk_153 0 18 (dk_at dksX0_stop_0 20 rfl rfl)
theorem dX0_stop_23 : decode cX0_stop 23 = .ok (.iload_n 3, 1) := dk_29 (dk_at dksX0_stop_0 23 rfl rfl)
theorem dX0_stop_24 : decode cX0_stop 24 = .ok (.iconst 0, 1) := dk_3 (dk_at dksX0_stop_1 0 rfl rfl)
theorem dX0_stop_25 : decode cX0_stop 25 = .ok (.sipush 1000, 3) := dk_17 3 232 (dk_at dksX0_stop_1 1 rfl rfl)
theorem dX0_stop_28 : decode cX0_stop 28 = .ok (.invokestatic 86, 3) := dk_184 0 86 (dk_at dksX0_stop_1 4 rfl rfl)
theorem dX0_stop_31 : decode cX0_stop 31 = .ok (.ifCond .eq 7, 3) := dk_153 0 7 (dk_at dksX0_stop_1 7 rfl rfl)
theorem dX0_stop_34 : decode cX0_stop 34 = .ok (.iconst 1, 1) := dk_4 (dk_at dksX0_stop_1 10 rfl rfl)
theorem dX0_stop_35 : decode cX0_stop 35 = .ok (.goto 4, 3) := dk_167 0 4 (dk_at dksX0_stop_1 11 rfl rfl)
theorem dX0_stop_38 : decode cX0_stop 38 = .ok (.iconst 0, 1) := dk_3 (dk_at dksX0_stop_1 14 rfl rfl)
theorem dX0_stop_39 : decode cX0_stop 39 = .ok (.iconst 1, 1) := dk_4 (dk_at dksX0_stop_1 15 rfl rfl)
theorem dX0_stop_40 : decode cX0_stop 40 = .ok (.invokevirtual 94, 3) := dk_182 0 94 (dk_at dksX0_stop_1 16 rfl rfl)
theorem dX0_stop_43 : decode cX0_stop 43 = .ok (.iconst 0, 1) := dk_3 (dk_at dksX0_stop_1 19 rfl rfl)
theorem dX0_stop_44 : decode cX0_stop 44 = .ok (.istore 4, 2) := dk_54 4 (dk_at dksX0_stop_1 20 rfl rfl)
theorem dX0_stop_46 : decode cX0_stop 46 = .ok (.iload 4, 2) := dk_21 4 (dk_at dksX0_stop_1 22 rfl rfl)
theorem dX0_stop_48 : decode cX0_stop 48 = .ok (.sipush 600, 3) := dk_17 2 88 (dk_at dksX0_stop_2 0 rfl rfl)
theorem dX0_stop_51 : decode cX0_stop 51 = .ok (.if_icmp .gt 27, 3) := dk_163 0 27 (dk_at dksX0_stop_2 3 rfl rfl)
theorem dX0_stop_54 : decode cX0_stop 54 = .ok (.aload_n 0, 1) := dk_42 (dk_at dksX0_stop_2 6 rfl rfl)
theorem dX0_stop_55 : decode cX0_stop 55 = .ok (.getfield 49, 3) := dk_180 0 49 (dk_at dksX0_stop_2 7 rfl rfl)
theorem dX0_stop_58 : decode cX0_stop 58 = .ok (.getfield 196, 3) := dk_180 0 196 (dk_at dksX0_stop_2 10 rfl rfl)
theorem dX0_stop_61 : decode cX0_stop 61 = .ok (.iload_n 1, 1) := dk_27 (dk_at dksX0_stop_2 13 rfl rfl)
theorem dX0_stop_62 : decode cX0_stop 62 = .ok (.iload_n 2, 1) := dk_28 (dk_at dksX0_stop_2 14 rfl rfl)
theorem dX0_stop_63 : decode cX0_stop 63 = .ok (.iload 4, 2) := dk_21 4 (dk_at dksX0_stop_2 15 rfl rfl)
theorem dX0_stop_65 : decode cX0_stop 65 = .ok (.invokevirtual 325, 3) := dk_182 1 69 (dk_at dksX0_stop_2 17 rfl rfl)
theorem dX0_stop_68 : decode cX0_stop 68 = .ok (.iload_n 3, 1) := dk_29 (dk_at dksX0_stop_2 20 rfl rfl)
theorem dX0_stop_69 : decode cX0_stop 69 = .ok (.if_icmp .le 9, 3) := dk_164 0 9 (dk_at dksX0_stop_2 21 rfl rfl)
theorem dX0_stop_72 : decode cX0_stop 72 = .ok (.iinc 4 1, 3) := dk_132 4 1 (dk_at dksX0_stop_3 0 rfl rfl)
theorem dX0_stop_75 : decode cX0_stop 75 = .ok (.goto (-29), 3) := dk_167 255 227 (dk_at dksX0_stop_3 3 rfl rfl)
theorem dX0_stop_78 : decode cX0_stop 78 = .ok (.aload_n 0, 1) := dk_42 (dk_at dksX0_stop_3 6 rfl rfl)
theorem dX0_stop_79 : decode cX0_stop 79 = .ok (.iload 4, 2) := dk_21 4 (dk_at dksX0_stop_3 7 rfl rfl)
theorem dX0_stop_81 : decode cX0_stop 81 = .ok (.sipush 600, 3) := dk_17 2 88 (dk_at dksX0_stop_3 9 rfl rfl)
theorem dX0_stop_84 : decode cX0_stop 84 = .ok (.if_icmp .gt 7, 3) := dk_163 0 7 (dk_at dksX0_stop_3 12 rfl rfl)
theorem dX0_stop_87 : decode cX0_stop 87 = .ok (.iconst 1, 1) := dk_4 (dk_at dksX0_stop_3 15 rfl rfl)
theorem dX0_stop_88 : decode cX0_stop 88 = .ok (.goto 4, 3) := dk_167 0 4 (dk_at dksX0_stop_3 16 rfl rfl)
theorem dX0_stop_91 : decode cX0_stop 91 = .ok (.iconst 0, 1) := dk_3 (dk_at dksX0_stop_3 19 rfl rfl)
theorem dX0_stop_92 : decode cX0_stop 92 = .ok (.iconst 2, 1) := dk_5 (dk_at dksX0_stop_3 20 rfl rfl)
theorem dX0_stop_93 : decode cX0_stop 93 = .ok (.invokevirtual 94, 3) := dk_182 0 94 (dk_at dksX0_stop_3 21 rfl rfl)
theorem dX0_stop_96 : decode cX0_stop 96 = .ok (.iload 4, 2) := dk_21 4 (dk_at dksX0_stop_4 0 rfl rfl)
theorem dX0_stop_98 : decode cX0_stop 98 = .ok (.ireturn, 1) := dk_172 (dk_at dksX0_stop_4 2 rfl rfl)
theorem dX0_stop_99 : decode cX0_stop 99 = .ok (.astore 4, 2) := dk_58 4 (dk_at dksX0_stop_4 3 rfl rfl)
theorem dX0_stop_101 : decode cX0_stop 101 = .ok (.aload_n 0, 1) := dk_42 (dk_at dksX0_stop_4 5 rfl rfl)
theorem dX0_stop_102 : decode cX0_stop 102 = .ok (.aload 4, 2) := dk_25 4 (dk_at dksX0_stop_4 6 rfl rfl)
theorem dX0_stop_104 : decode cX0_stop 104 = .ok (.invokevirtual 133, 3) := dk_182 0 133 (dk_at dksX0_stop_4 8 rfl rfl)
theorem dX0_stop_107 : decode cX0_stop 107 = .ok (.ireturn, 1) := dk_172 (dk_at dksX0_stop_4 11 rfl rfl)
abbrev cX0_tank : ByteArray := prog_1_method_48_code
def yX0_tank : MethodName := ⟨RX0, "tank", "(II)I"⟩
def dkwX0_tank_4 : List UInt8 := [100, 172, 78, 42, 45, 182, 0, 133, 172]
abbrev dktX0_tank_4 : List UInt8 := dkwX0_tank_4 ++ []
def dkwX0_tank_3 : List UInt8 := [180, 1, 84, 45, 180, 1, 77, 28, 79, 45, 89, 180, 1, 77, 4, 96, 181, 1, 77, 45, 180, 1, 77, 4]
abbrev dktX0_tank_3 : List UInt8 := dkwX0_tank_3 ++ dktX0_tank_4
def dkwX0_tank_2 : List UInt8 := [162, 0, 7, 4, 167, 0, 4, 3, 7, 182, 0, 94, 45, 180, 1, 82, 45, 180, 1, 77, 27, 79, 45]
abbrev dktX0_tank_2 : List UInt8 := dkwX0_tank_2 ++ dktX0_tank_3
def dkwX0_tank_1 : List UInt8 := [167, 0, 4, 3, 4, 182, 0, 94, 42, 180, 0, 49, 180, 1, 73, 78, 42, 45, 180, 1, 77, 16, 8]
abbrev dktX0_tank_1 : List UInt8 := dkwX0_tank_1 ++ dktX0_tank_2
def dkwX0_tank_0 : List UInt8 := [42, 27, 16, 206, 16, 50, 184, 0, 86, 153, 0, 17, 28, 4, 16, 50, 184, 0, 86, 153, 0, 7, 4]
abbrev dktX0_tank_0 : List UInt8 := dkwX0_tank_0 ++ dktX0_tank_1
theorem dksX0_tank_0 : cX0_tank.data.toList.drop 0 = dktX0_tank_0 := by decide +kernel
theorem dksX0_tank_1 : cX0_tank.data.toList.drop 23 = dktX0_tank_1 := dk_seg dksX0_tank_0 23 rfl rfl
theorem dksX0_tank_2 : cX0_tank.data.toList.drop 46 = dktX0_tank_2 := dk_seg dksX0_tank_1 23 rfl rfl
theorem dksX0_tank_3 : cX0_tank.data.toList.drop 69 = dktX0_tank_3 := dk_seg dksX0_tank_2 23 rfl rfl
theorem dksX0_tank_4 : cX0_tank.data.toList.drop 93 = dktX0_tank_4 := dk_seg dksX0_tank_3 24 rfl rfl
theorem dX0_tank_0 : decode cX0_tank 0 = .ok (.aload_n 0, 1) := dk_42 (dk_at dksX0_tank_0 0 rfl rfl)
theorem dX0_tank_1 : decode cX0_tank 1 = .ok (.iload_n 1, 1) := dk_27 (dk_at dksX0_tank_0 1 rfl rfl)
theorem dX0_tank_2 : decode cX0_tank 2 = .ok (.bipush (-50), 2) := dk_16 206 (dk_at dksX0_tank_0 2 rfl rfl)
theorem dX0_tank_4 : decode cX0_tank 4 = .ok (.bipush 50, 2) := dk_16 50 (dk_at dksX0_tank_0 4 rfl rfl)
theorem dX0_tank_6 : decode cX0_tank 6 = .ok (.invokestatic 86, 3) := dk_184 0 86 (dk_at dksX0_tank_0 6 rfl rfl)
theorem dX0_tank_9 : decode cX0_tank 9 = .ok (.ifCond .eq 17, 3) := dk_153 0 17 (dk_at dksX0_tank_0 9 rfl rfl)
theorem dX0_tank_12 : decode cX0_tank 12 = .ok (.iload_n 2, 1) := dk_28 (dk_at dksX0_tank_0 12 rfl rfl)
theorem dX0_tank_13 : decode cX0_tank 13 = .ok (.iconst 1, 1) := dk_4 (dk_at dksX0_tank_0 13 rfl rfl)
theorem dX0_tank_14 : decode cX0_tank 14 = .ok (.bipush 50, 2) := dk_16 50 (dk_at dksX0_tank_0 14 rfl rfl)
theorem dX0_tank_16 : decode cX0_tank 16 = .ok (.invokestatic 86, 3) := dk_184 0 86 (dk_at dksX0_tank_0 16 rfl rfl)
theorem dX0_tank_19 : decode cX0_tank 19 = .ok (.ifCond .eq 7, 3) := dk_153 0 7 (dk_at dksX0_tank_0 19 rfl rfl)
theorem dX0_tank_22 : decode cX0_tank 22 = .ok (.iconst 1, 1) := dk_4 (dk_at dksX0_tank_0 22 rfl rfl)
theorem dX0_tank_23 : decode cX0_tank 23 = .ok (.goto 4, 3) := dk_167 0 4 (dk_at dksX0_tank_1 0 rfl rfl)
theorem dX0_tank_26 : decode cX0_tank 26 = .ok (.iconst 0, 1) := dk_3 (dk_at dksX0_tank_1 3 rfl rfl)
theorem dX0_tank_27 : decode cX0_tank 27 = .ok (.iconst 1, 1) := dk_4 (dk_at dksX0_tank_1 4 rfl rfl)
theorem dX0_tank_28 : decode cX0_tank 28 = .ok (.invokevirtual 94, 3) := dk_182 0 94 (dk_at dksX0_tank_1 5 rfl rfl)
theorem dX0_tank_31 : decode cX0_tank 31 = .ok (.aload_n 0, 1) := dk_42 (dk_at dksX0_tank_1 8 rfl rfl)
theorem dX0_tank_32 : decode cX0_tank 32 = .ok (.getfield 49, 3) := dk_180 0 49 (dk_at dksX0_tank_1 9 rfl rfl)
theorem dX0_tank_35 : decode cX0_tank 35 = .ok (.getfield 329, 3) := dk_180 1 73 (dk_at dksX0_tank_1 12 rfl rfl)
theorem dX0_tank_38 : decode cX0_tank 38 = .ok (.astore_n 3, 1) := dk_78 (dk_at dksX0_tank_1 15 rfl rfl)
theorem dX0_tank_39 : decode cX0_tank 39 = .ok (.aload_n 0, 1) := dk_42 (dk_at dksX0_tank_1 16 rfl rfl)
theorem dX0_tank_40 : decode cX0_tank 40 = .ok (.aload_n 3, 1) := dk_45 (dk_at dksX0_tank_1 17 rfl rfl)
theorem dX0_tank_41 : decode cX0_tank 41 = .ok (.getfield 333, 3) := dk_180 1 77 (dk_at dksX0_tank_1 18 rfl rfl)
theorem dX0_tank_44 : decode cX0_tank 44 = .ok (.bipush 8, 2) := dk_16 8 (dk_at dksX0_tank_1 21 rfl rfl)
theorem dX0_tank_46 : decode cX0_tank 46 = .ok (.if_icmp .ge 7, 3) := dk_162 0 7 (dk_at dksX0_tank_2 0 rfl rfl)
theorem dX0_tank_49 : decode cX0_tank 49 = .ok (.iconst 1, 1) := dk_4 (dk_at dksX0_tank_2 3 rfl rfl)
theorem dX0_tank_50 : decode cX0_tank 50 = .ok (.goto 4, 3) := dk_167 0 4 (dk_at dksX0_tank_2 4 rfl rfl)
theorem dX0_tank_53 : decode cX0_tank 53 = .ok (.iconst 0, 1) := dk_3 (dk_at dksX0_tank_2 7 rfl rfl)
theorem dX0_tank_54 : decode cX0_tank 54 = .ok (.iconst 4, 1) := dk_7 (dk_at dksX0_tank_2 8 rfl rfl)
theorem dX0_tank_55 : decode cX0_tank 55 = .ok (.invokevirtual 94, 3) := dk_182 0 94 (dk_at dksX0_tank_2 9 rfl rfl)
theorem dX0_tank_58 : decode cX0_tank 58 = .ok (.aload_n 3, 1) := dk_45 (dk_at dksX0_tank_2 12 rfl rfl)
theorem dX0_tank_59 : decode cX0_tank 59 = .ok (.getfield 338, 3) := dk_180 1 82 (dk_at dksX0_tank_2 13 rfl rfl)
theorem dX0_tank_62 : decode cX0_tank 62 = .ok (.aload_n 3, 1) := dk_45 (dk_at dksX0_tank_2 16 rfl rfl)
theorem dX0_tank_63 : decode cX0_tank 63 = .ok (.getfield 333, 3) := dk_180 1 77 (dk_at dksX0_tank_2 17 rfl rfl)
theorem dX0_tank_66 : decode cX0_tank 66 = .ok (.iload_n 1, 1) := dk_27 (dk_at dksX0_tank_2 20 rfl rfl)
theorem dX0_tank_67 : decode cX0_tank 67 = .ok (.iastore, 1) := dk_79 (dk_at dksX0_tank_2 21 rfl rfl)
theorem dX0_tank_68 : decode cX0_tank 68 = .ok (.aload_n 3, 1) := dk_45 (dk_at dksX0_tank_2 22 rfl rfl)
theorem dX0_tank_69 : decode cX0_tank 69 = .ok (.getfield 340, 3) := dk_180 1 84 (dk_at dksX0_tank_3 0 rfl rfl)
theorem dX0_tank_72 : decode cX0_tank 72 = .ok (.aload_n 3, 1) := dk_45 (dk_at dksX0_tank_3 3 rfl rfl)
theorem dX0_tank_73 : decode cX0_tank 73 = .ok (.getfield 333, 3) := dk_180 1 77 (dk_at dksX0_tank_3 4 rfl rfl)
theorem dX0_tank_76 : decode cX0_tank 76 = .ok (.iload_n 2, 1) := dk_28 (dk_at dksX0_tank_3 7 rfl rfl)
theorem dX0_tank_77 : decode cX0_tank 77 = .ok (.iastore, 1) := dk_79 (dk_at dksX0_tank_3 8 rfl rfl)
theorem dX0_tank_78 : decode cX0_tank 78 = .ok (.aload_n 3, 1) := dk_45 (dk_at dksX0_tank_3 9 rfl rfl)
theorem dX0_tank_79 : decode cX0_tank 79 = .ok (.dup, 1) := dk_89 (dk_at dksX0_tank_3 10 rfl rfl)
theorem dX0_tank_80 : decode cX0_tank 80 = .ok (.getfield 333, 3) := dk_180 1 77 (dk_at dksX0_tank_3 11 rfl rfl)
theorem dX0_tank_83 : decode cX0_tank 83 = .ok (.iconst 1, 1) := dk_4 (dk_at dksX0_tank_3 14 rfl rfl)
theorem dX0_tank_84 : decode cX0_tank 84 = .ok (.iadd, 1) := dk_96 (dk_at dksX0_tank_3 15 rfl rfl)
theorem dX0_tank_85 : decode cX0_tank 85 = .ok (.putfield 333, 3) := dk_181 1 77 (dk_at dksX0_tank_3 16 rfl rfl)
theorem dX0_tank_88 : decode cX0_tank 88 = .ok (.aload_n 3, 1) := dk_45 (dk_at dksX0_tank_3 19 rfl rfl)
theorem dX0_tank_89 : decode cX0_tank 89 = .ok (.getfield 333, 3) := dk_180 1 77 (dk_at dksX0_tank_3 20 rfl rfl)
theorem dX0_tank_92 : decode cX0_tank 92 = .ok (.iconst 1, 1) := dk_4 (dk_at dksX0_tank_3 23 rfl rfl)
theorem dX0_tank_93 : decode cX0_tank 93 = .ok (.isub, 1) := dk_100 (dk_at dksX0_tank_4 0 rfl rfl)
theorem dX0_tank_94 : decode cX0_tank 94 = .ok (.ireturn, 1) := dk_172 (dk_at dksX0_tank_4 1 rfl rfl)
theorem dX0_tank_95 : decode cX0_tank 95 = .ok (.astore_n 3, 1) := dk_78 (dk_at dksX0_tank_4 2 rfl rfl)
theorem dX0_tank_96 : decode cX0_tank 96 = .ok (.aload_n 0, 1) := dk_42 (dk_at dksX0_tank_4 3 rfl rfl)
theorem dX0_tank_97 : decode cX0_tank 97 = .ok (.aload_n 3, 1) := dk_45 (dk_at dksX0_tank_4 4 rfl rfl)
theorem dX0_tank_98 : decode cX0_tank 98 = .ok (.invokevirtual 133, 3) := dk_182 0 133 (dk_at dksX0_tank_4 5 rfl rfl)
theorem dX0_tank_101 : decode cX0_tank 101 = .ok (.ireturn, 1) := dk_172 (dk_at dksX0_tank_4 8 rfl rfl)
abbrev cX0_blow : ByteArray := prog_1_method_49_code
def yX0_blow : MethodName := ⟨RX0, "blow", "(II)I"⟩
def dkwX0_blow_3 : List UInt8 := [42, 45, 182, 0, 133, 172]
abbrev dktX0_blow_3 : List UInt8 := dkwX0_blow_3 ++ []
def dkwX0_blow_2 : List UInt8 := [54, 4, 45, 45, 180, 1, 86, 4, 27, 120, 2, 130, 126, 28, 27, 120, 128, 181, 1, 86, 21, 4, 172, 78]
abbrev dktX0_blow_2 : List UInt8 := dkwX0_blow_2 ++ dktX0_blow_3
def dkwX0_blow_1 : List UInt8 := [184, 0, 122, 153, 0, 7, 4, 167, 0, 4, 3, 4, 182, 0, 94, 45, 180, 1, 86, 27, 122, 4, 126]
abbrev dktX0_blow_1 : List UInt8 := dkwX0_blow_1 ++ dktX0_blow_2
def dkwX0_blow_0 : List UInt8 := [42, 180, 0, 49, 180, 1, 73, 78, 42, 27, 3, 45, 180, 1, 77, 4, 100, 184, 0, 86, 153, 0, 14, 28]
abbrev dktX0_blow_0 : List UInt8 := dkwX0_blow_0 ++ dktX0_blow_1
theorem dksX0_blow_0 : cX0_blow.data.toList.drop 0 = dktX0_blow_0 := by decide +kernel
theorem dksX0_blow_1 : cX0_blow.data.toList.drop 24 = dktX0_blow_1 := dk_seg dksX0_blow_0 24 rfl rfl
theorem dksX0_blow_2 : cX0_blow.data.toList.drop 47 = dktX0_blow_2 := dk_seg dksX0_blow_1 23 rfl rfl
theorem dksX0_blow_3 : cX0_blow.data.toList.drop 71 = dktX0_blow_3 := dk_seg dksX0_blow_2 24 rfl rfl
theorem dX0_blow_0 : decode cX0_blow 0 = .ok (.aload_n 0, 1) := dk_42 (dk_at dksX0_blow_0 0 rfl rfl)
theorem dX0_blow_1 : decode cX0_blow 1 = .ok (.getfield 49, 3) := dk_180 0 49 (dk_at dksX0_blow_0 1 rfl rfl)
theorem dX0_blow_4 : decode cX0_blow 4 = .ok (.getfield 329, 3) := dk_180 1 73 (dk_at dksX0_blow_0 4 rfl rfl)
theorem dX0_blow_7 : decode cX0_blow 7 = .ok (.astore_n 3, 1) := dk_78 (dk_at dksX0_blow_0 7 rfl rfl)
theorem dX0_blow_8 : decode cX0_blow 8 = .ok (.aload_n 0, 1) := dk_42 (dk_at dksX0_blow_0 8 rfl rfl)
theorem dX0_blow_9 : decode cX0_blow 9 = .ok (.iload_n 1, 1) := dk_27 (dk_at dksX0_blow_0 9 rfl rfl)
theorem dX0_blow_10 : decode cX0_blow 10 = .ok (.iconst 0, 1) := dk_3 (dk_at dksX0_blow_0 10 rfl rfl)
theorem dX0_blow_11 : decode cX0_blow 11 = .ok (.aload_n 3, 1) := dk_45 (dk_at dksX0_blow_0 11 rfl rfl)
theorem dX0_blow_12 : decode cX0_blow 12 = .ok (.getfield 333, 3) := dk_180 1 77 (dk_at dksX0_blow_0 12 rfl rfl)
theorem dX0_blow_15 : decode cX0_blow 15 = .ok (.iconst 1, 1) := dk_4 (dk_at dksX0_blow_0 15 rfl rfl)
theorem dX0_blow_16 : decode cX0_blow 16 = .ok (.isub, 1) := dk_100 (dk_at dksX0_blow_0 16 rfl rfl)
theorem dX0_blow_17 : decode cX0_blow 17 = .ok (.invokestatic 86, 3) := dk_184 0 86 (dk_at dksX0_blow_0 17 rfl rfl)
theorem dX0_blow_20 : decode cX0_blow 20 = .ok (.ifCond .eq 14, 3) := dk_153 0 14 (dk_at dksX0_blow_0 20 rfl rfl)
theorem dX0_blow_23 : decode cX0_blow 23 = .ok (.iload_n 2, 1) := dk_28 (dk_at dksX0_blow_0 23 rfl rfl)
theorem dX0_blow_24 : decode cX0_blow 24 = .ok (.invokestatic 122, 3) := dk_184 0 122 (dk_at dksX0_blow_1 0 rfl rfl)
theorem dX0_blow_27 : decode cX0_blow 27 = .ok (.ifCond .eq 7, 3) := dk_153 0 7 (dk_at dksX0_blow_1 3 rfl rfl)
theorem dX0_blow_30 : decode cX0_blow 30 = .ok (.iconst 1, 1) := dk_4 (dk_at dksX0_blow_1 6 rfl rfl)
theorem dX0_blow_31 : decode cX0_blow 31 = .ok (.goto 4, 3) := dk_167 0 4 (dk_at dksX0_blow_1 7 rfl rfl)
theorem dX0_blow_34 : decode cX0_blow 34 = .ok (.iconst 0, 1) := dk_3 (dk_at dksX0_blow_1 10 rfl rfl)
theorem dX0_blow_35 : decode cX0_blow 35 = .ok (.iconst 1, 1) := dk_4 (dk_at dksX0_blow_1 11 rfl rfl)
theorem dX0_blow_36 : decode cX0_blow 36 = .ok (.invokevirtual 94, 3) := dk_182 0 94 (dk_at dksX0_blow_1 12 rfl rfl)
theorem dX0_blow_39 : decode cX0_blow 39 = .ok (.aload_n 3, 1) := dk_45 (dk_at dksX0_blow_1 15 rfl rfl)
theorem dX0_blow_40 : decode cX0_blow 40 = .ok (.getfield 342, 3) := dk_180 1 86 (dk_at dksX0_blow_1 16 rfl rfl)
theorem dX0_blow_43 : decode cX0_blow 43 = .ok (.iload_n 1, 1) := dk_27 (dk_at dksX0_blow_1 19 rfl rfl)
theorem dX0_blow_44 : decode cX0_blow 44 = .ok (.ishr, 1) := dk_122 (dk_at dksX0_blow_1 20 rfl rfl)
theorem dX0_blow_45 : decode cX0_blow 45 = .ok (.iconst 1, 1) := dk_4 (dk_at dksX0_blow_1 21 rfl rfl)
theorem dX0_blow_46 : decode cX0_blow 46 = .ok (.iand, 1) := dk_126 (dk_at dksX0_blow_1 22 rfl rfl)
theorem dX0_blow_47 : decode cX0_blow 47 = .ok (.istore 4, 2) := dk_54 4 (dk_at dksX0_blow_2 0 rfl rfl)
theorem dX0_blow_49 : decode cX0_blow 49 = .ok (.aload_n 3, 1) := dk_45 (dk_at dksX0_blow_2 2 rfl rfl)
theorem dX0_blow_50 : decode cX0_blow 50 = .ok (.aload_n 3, 1) := dk_45 (dk_at dksX0_blow_2 3 rfl rfl)
theorem dX0_blow_51 : decode cX0_blow 51 = .ok (.getfield 342, 3) := dk_180 1 86 (dk_at dksX0_blow_2 4 rfl rfl)
theorem dX0_blow_54 : decode cX0_blow 54 = .ok (.iconst 1, 1) := dk_4 (dk_at dksX0_blow_2 7 rfl rfl)
theorem dX0_blow_55 : decode cX0_blow 55 = .ok (.iload_n 1, 1) := dk_27 (dk_at dksX0_blow_2 8 rfl rfl)
theorem dX0_blow_56 : decode cX0_blow 56 = .ok (.ishl, 1) := dk_120 (dk_at dksX0_blow_2 9 rfl rfl)
theorem dX0_blow_57 : decode cX0_blow 57 = .ok (.iconst (-1), 1) := dk_2 (dk_at dksX0_blow_2 10 rfl rfl)
theorem dX0_blow_58 : decode cX0_blow 58 = .ok (.ixor, 1) := dk_130 (dk_at dksX0_blow_2 11 rfl rfl)
theorem dX0_blow_59 : decode cX0_blow 59 = .ok (.iand, 1) := dk_126 (dk_at dksX0_blow_2 12 rfl rfl)
theorem dX0_blow_60 : decode cX0_blow 60 = .ok (.iload_n 2, 1) := dk_28 (dk_at dksX0_blow_2 13 rfl rfl)
theorem dX0_blow_61 : decode cX0_blow 61 = .ok (.iload_n 1, 1) := dk_27 (dk_at dksX0_blow_2 14 rfl rfl)
theorem dX0_blow_62 : decode cX0_blow 62 = .ok (.ishl, 1) := dk_120 (dk_at dksX0_blow_2 15 rfl rfl)
theorem dX0_blow_63 : decode cX0_blow 63 = .ok (.ior, 1) := dk_128 (dk_at dksX0_blow_2 16 rfl rfl)
theorem dX0_blow_64 : decode cX0_blow 64 = .ok (.putfield 342, 3) := dk_181 1 86 (dk_at dksX0_blow_2 17 rfl rfl)
theorem dX0_blow_67 : decode cX0_blow 67 = .ok (.iload 4, 2) := dk_21 4 (dk_at dksX0_blow_2 20 rfl rfl)
theorem dX0_blow_69 : decode cX0_blow 69 = .ok (.ireturn, 1) := dk_172 (dk_at dksX0_blow_2 22 rfl rfl)
theorem dX0_blow_70 : decode cX0_blow 70 = .ok (.astore_n 3, 1) := dk_78 (dk_at dksX0_blow_2 23 rfl rfl)
theorem dX0_blow_71 : decode cX0_blow 71 = .ok (.aload_n 0, 1) := dk_42 (dk_at dksX0_blow_3 0 rfl rfl)
theorem dX0_blow_72 : decode cX0_blow 72 = .ok (.aload_n 3, 1) := dk_45 (dk_at dksX0_blow_3 1 rfl rfl)
theorem dX0_blow_73 : decode cX0_blow 73 = .ok (.invokevirtual 133, 3) := dk_182 0 133 (dk_at dksX0_blow_3 2 rfl rfl)
theorem dX0_blow_76 : decode cX0_blow 76 = .ok (.ireturn, 1) := dk_172 (dk_at dksX0_blow_3 5 rfl rfl)
abbrev cX0_lift : ByteArray := prog_1_method_50_code
def yX0_lift : MethodName := ⟨RX0, "lift", "(II)I"⟩
def dkwX0_lift_3 : List UInt8 := [21, 4, 182, 1, 92, 172, 78, 42, 45, 182, 0, 133, 172]
abbrev dktX0_lift_3 : List UInt8 := dkwX0_lift_3 ++ []
def dkwX0_lift_2 : List UInt8 := [180, 1, 86, 167, 0, 4, 27, 54, 4, 28, 154, 0, 12, 45, 21, 4, 182, 1, 89, 167, 0, 9, 45]
abbrev dktX0_lift_2 : List UInt8 := dkwX0_lift_2 ++ dktX0_lift_3
def dkwX0_lift_1 : List UInt8 := [153, 0, 14, 28, 184, 0, 122, 153, 0, 7, 4, 167, 0, 4, 3, 4, 182, 0, 94, 27, 156, 0, 10, 45]
abbrev dktX0_lift_1 : List UInt8 := dkwX0_lift_1 ++ dktX0_lift_2
def dkwX0_lift_0 : List UInt8 := [42, 180, 0, 49, 180, 1, 73, 78, 42, 27, 2, 4, 45, 180, 1, 77, 120, 4, 100, 184, 0, 86]
abbrev dktX0_lift_0 : List UInt8 := dkwX0_lift_0 ++ dktX0_lift_1
theorem dksX0_lift_0 : cX0_lift.data.toList.drop 0 = dktX0_lift_0 := by decide +kernel
theorem dksX0_lift_1 : cX0_lift.data.toList.drop 22 = dktX0_lift_1 := dk_seg dksX0_lift_0 22 rfl rfl
theorem dksX0_lift_2 : cX0_lift.data.toList.drop 46 = dktX0_lift_2 := dk_seg dksX0_lift_1 24 rfl rfl
theorem dksX0_lift_3 : cX0_lift.data.toList.drop 69 = dktX0_lift_3 := dk_seg dksX0_lift_2 23 rfl rfl
theorem dX0_lift_0 : decode cX0_lift 0 = .ok (.aload_n 0, 1) := dk_42 (dk_at dksX0_lift_0 0 rfl rfl)
theorem dX0_lift_1 : decode cX0_lift 1 = .ok (.getfield 49, 3) := dk_180 0 49 (dk_at dksX0_lift_0 1 rfl rfl)
theorem dX0_lift_4 : decode cX0_lift 4 = .ok (.getfield 329, 3) := dk_180 1 73 (dk_at dksX0_lift_0 4 rfl rfl)
theorem dX0_lift_7 : decode cX0_lift 7 = .ok (.astore_n 3, 1) := dk_78 (dk_at dksX0_lift_0 7 rfl rfl)
theorem dX0_lift_8 : decode cX0_lift 8 = .ok (.aload_n 0, 1) := dk_42 (dk_at dksX0_lift_0 8 rfl rfl)
theorem dX0_lift_9 : decode cX0_lift 9 = .ok (.iload_n 1, 1) := dk_27 (dk_at dksX0_lift_0 9 rfl rfl)
theorem dX0_lift_10 : decode cX0_lift 10 = .ok (.iconst (-1), 1) := dk_2 (dk_at dksX0_lift_0 10 rfl rfl)
theorem dX0_lift_11 : decode cX0_lift 11 = .ok (.iconst 1, 1) := dk_4 (dk_at dksX0_lift_0 11 rfl rfl)
theorem dX0_lift_12 : decode cX0_lift 12 = .ok (.aload_n 3, 1) := dk_45 (dk_at dksX0_lift_0 12 rfl rfl)
theorem dX0_lift_13 : decode cX0_lift 13 = .ok (.getfield 333, 3) := dk_180 1 77 (dk_at dksX0_lift_0 13 rfl rfl)
theorem dX0_lift_16 : decode cX0_lift 16 = .ok (.ishl, 1) := dk_120 (dk_at dksX0_lift_0 16 rfl rfl)
theorem dX0_lift_17 : decode cX0_lift 17 = .ok (.iconst 1, 1) := dk_4 (dk_at dksX0_lift_0 17 rfl rfl)
theorem dX0_lift_18 : decode cX0_lift 18 = .ok (.isub, 1) := dk_100 (dk_at dksX0_lift_0 18 rfl rfl)
theorem dX0_lift_19 : decode cX0_lift 19 = .ok (.invokestatic 86, 3) := dk_184 0 86 (dk_at dksX0_lift_0 19 rfl rfl)
theorem dX0_lift_22 : decode cX0_lift 22 = .ok (.ifCond .eq 14, 3) := dk_153 0 14 (dk_at dksX0_lift_1 0 rfl rfl)
theorem dX0_lift_25 : decode cX0_lift 25 = .ok (.iload_n 2, 1) := dk_28 (dk_at dksX0_lift_1 3 rfl rfl)
theorem dX0_lift_26 : decode cX0_lift 26 = .ok (.invokestatic 122, 3) := dk_184 0 122 (dk_at dksX0_lift_1 4 rfl rfl)
theorem dX0_lift_29 : decode cX0_lift 29 = .ok (.ifCond .eq 7, 3) := dk_153 0 7 (dk_at dksX0_lift_1 7 rfl rfl)
theorem dX0_lift_32 : decode cX0_lift 32 = .ok (.iconst 1, 1) := dk_4 (dk_at dksX0_lift_1 10 rfl rfl)
theorem dX0_lift_33 : decode cX0_lift 33 = .ok (.goto 4, 3) := dk_167 0 4 (dk_at dksX0_lift_1 11 rfl rfl)
theorem dX0_lift_36 : decode cX0_lift 36 = .ok (.iconst 0, 1) := dk_3 (dk_at dksX0_lift_1 14 rfl rfl)
theorem dX0_lift_37 : decode cX0_lift 37 = .ok (.iconst 1, 1) := dk_4 (dk_at dksX0_lift_1 15 rfl rfl)
theorem dX0_lift_38 : decode cX0_lift 38 = .ok (.invokevirtual 94, 3) := dk_182 0 94 (dk_at dksX0_lift_1 16 rfl rfl)
theorem dX0_lift_41 : decode cX0_lift 41 = .ok (.iload_n 1, 1) := dk_27 (dk_at dksX0_lift_1 19 rfl rfl)
theorem dX0_lift_42 : decode cX0_lift 42 = .ok (.ifCond .ge 10, 3) := dk_156 0 10 (dk_at dksX0_lift_1 20 rfl rfl)
theorem dX0_lift_45 : decode cX0_lift 45 = .ok (.aload_n 3, 1) := dk_45 (dk_at dksX0_lift_1 23 rfl rfl)
theorem dX0_lift_46 : decode cX0_lift 46 = .ok (.getfield 342, 3) := dk_180 1 86 (dk_at dksX0_lift_2 0 rfl rfl)
theorem dX0_lift_49 : decode cX0_lift 49 = .ok (.goto 4, 3) := dk_167 0 4 (dk_at dksX0_lift_2 3 rfl rfl)
theorem dX0_lift_52 : decode cX0_lift 52 = .ok (.iload_n 1, 1) := dk_27 (dk_at dksX0_lift_2 6 rfl rfl)
theorem dX0_lift_53 : decode cX0_lift 53 = .ok (.istore 4, 2) := dk_54 4 (dk_at dksX0_lift_2 7 rfl rfl)
theorem dX0_lift_55 : decode cX0_lift 55 = .ok (.iload_n 2, 1) := dk_28 (dk_at dksX0_lift_2 9 rfl rfl)
theorem dX0_lift_56 : decode cX0_lift 56 = .ok (.ifCond .ne 12, 3) := dk_154 0 12 (dk_at dksX0_lift_2 10 rfl rfl)
theorem dX0_lift_59 : decode cX0_lift 59 = .ok (.aload_n 3, 1) := dk_45 (dk_at dksX0_lift_2 13 rfl rfl)
theorem dX0_lift_60 : decode cX0_lift 60 = .ok (.iload 4, 2) := dk_21 4 (dk_at dksX0_lift_2 14 rfl rfl)
theorem dX0_lift_62 : decode cX0_lift 62 = .ok (.invokevirtual 345, 3) := dk_182 1 89 (dk_at dksX0_lift_2 16 rfl rfl)
theorem dX0_lift_65 : decode cX0_lift 65 = .ok (.goto 9, 3) := dk_167 0 9 (dk_at dksX0_lift_2 19 rfl rfl)
theorem dX0_lift_68 : decode cX0_lift 68 = .ok (.aload_n 3, 1) := dk_45 (dk_at dksX0_lift_2 22 rfl rfl)
theorem dX0_lift_69 : decode cX0_lift 69 = .ok (.iload 4, 2) := dk_21 4 (dk_at dksX0_lift_3 0 rfl rfl)
theorem dX0_lift_71 : decode cX0_lift 71 = .ok (.invokevirtual 348, 3) := dk_182 1 92 (dk_at dksX0_lift_3 2 rfl rfl)
theorem dX0_lift_74 : decode cX0_lift 74 = .ok (.ireturn, 1) := dk_172 (dk_at dksX0_lift_3 5 rfl rfl)
theorem dX0_lift_75 : decode cX0_lift 75 = .ok (.astore_n 3, 1) := dk_78 (dk_at dksX0_lift_3 6 rfl rfl)
theorem dX0_lift_76 : decode cX0_lift 76 = .ok (.aload_n 0, 1) := dk_42 (dk_at dksX0_lift_3 7 rfl rfl)
theorem dX0_lift_77 : decode cX0_lift 77 = .ok (.aload_n 3, 1) := dk_45 (dk_at dksX0_lift_3 8 rfl rfl)
theorem dX0_lift_78 : decode cX0_lift 78 = .ok (.invokevirtual 133, 3) := dk_182 0 133 (dk_at dksX0_lift_3 9 rfl rfl)
theorem dX0_lift_81 : decode cX0_lift 81 = .ok (.ireturn, 1) := dk_172 (dk_at dksX0_lift_3 12 rfl rfl)
abbrev cX0_raise : ByteArray := prog_1_method_51_code
def yX0_raise : MethodName := ⟨RX0, "raise", "(III)I"⟩
def dkwX0_raise_4 : List UInt8 := [167, 0, 10, 25, 4, 29, 28, 182, 1, 101, 172, 58, 4, 42, 25, 4, 182, 0, 133, 172]
abbrev dktX0_raise_4 : List UInt8 := dkwX0_raise_4 ++ []
def dkwX0_raise_3 : List UInt8 := [159, 0, 13, 29, 21, 5, 162, 0, 7, 4, 167, 0, 4, 3, 5, 182, 0, 94, 29, 156, 0, 8, 21, 5]
abbrev dktX0_raise_3 : List UInt8 := dkwX0_raise_3 ++ dktX0_raise_4
def dkwX0_raise_2 : List UInt8 := [27, 28, 182, 1, 95, 25, 4, 180, 1, 98, 25, 4, 180, 1, 86, 46, 54, 5, 42, 21, 5, 2]
abbrev dktX0_raise_2 : List UInt8 := dkwX0_raise_2 ++ dktX0_raise_3
def dkwX0_raise_1 : List UInt8 := [2, 161, 0, 7, 4, 167, 0, 4, 3, 4, 182, 0, 94, 42, 180, 0, 49, 180, 1, 73, 58, 4, 25, 4]
abbrev dktX0_raise_1 : List UInt8 := dkwX0_raise_1 ++ dktX0_raise_2
def dkwX0_raise_0 : List UInt8 := [42, 27, 3, 17, 1, 144, 184, 0, 86, 153, 0, 23, 28, 3, 17, 78, 32, 184, 0, 86, 153, 0, 12, 29]
abbrev dktX0_raise_0 : List UInt8 := dkwX0_raise_0 ++ dktX0_raise_1
theorem dksX0_raise_0 : cX0_raise.data.toList.drop 0 = dktX0_raise_0 := by decide +kernel
theorem dksX0_raise_1 : cX0_raise.data.toList.drop 24 = dktX0_raise_1 := dk_seg dksX0_raise_0 24 rfl rfl
theorem dksX0_raise_2 : cX0_raise.data.toList.drop 48 = dktX0_raise_2 := dk_seg dksX0_raise_1 24 rfl rfl
theorem dksX0_raise_3 : cX0_raise.data.toList.drop 70 = dktX0_raise_3 := dk_seg dksX0_raise_2 22 rfl rfl
theorem dksX0_raise_4 : cX0_raise.data.toList.drop 94 = dktX0_raise_4 := dk_seg dksX0_raise_3 24 rfl rfl
theorem dX0_raise_0 : decode cX0_raise 0 = .ok (.aload_n 0, 1) := dk_42 (dk_at dksX0_raise_0 0 rfl rfl)
theorem dX0_raise_1 : decode cX0_raise 1 = .ok (.iload_n 1, 1) := dk_27 (dk_at dksX0_raise_0 1 rfl rfl)
theorem dX0_raise_2 : decode cX0_raise 2 = .ok (.iconst 0, 1) := dk_3 (dk_at dksX0_raise_0 2 rfl rfl)
theorem dX0_raise_3 : decode cX0_raise 3 = .ok (.sipush 400, 3) := dk_17 1 144 (dk_at dksX0_raise_0 3 rfl rfl)
theorem dX0_raise_6 : decode cX0_raise 6 = .ok (.invokestatic 86, 3) := dk_184 0 86 (dk_at dksX0_raise_0 6 rfl rfl)
theorem dX0_raise_9 : decode cX0_raise 9 = .ok (.ifCond .eq 23, 3) := dk_153 0 23 (dk_at dksX0_raise_0 9 rfl rfl)
theorem dX0_raise_12 : decode cX0_raise 12 = .ok (.iload_n 2, 1) := dk_28 (dk_at dksX0_raise_0 12 rfl rfl)
theorem dX0_raise_13 : decode cX0_raise 13 = .ok (.iconst 0, 1) := dk_3 (dk_at dksX0_raise_0 13 rfl rfl)
theorem dX0_raise_14 : decode cX0_raise 14 = .ok (.sipush 20000, 3) := dk_17 78 32 (dk_at dksX0_raise_0 14 rfl rfl)
theorem dX0_raise_17 : decode cX0_raise 17 = .ok (.invokestatic 86, 3) := dk_184 0 86 (dk_at dksX0_raise_0 17 rfl rfl)
theorem dX0_raise_20 : decode cX0_raise 20 = .ok (.ifCond .eq 12, 3) := dk_153 0 12 (dk_at dksX0_raise_0 20 rfl rfl)
theorem dX0_raise_23 : decode cX0_raise 23 = .ok (.iload_n 3, 1) := dk_29 (dk_at dksX0_raise_0 23 rfl rfl)
theorem dX0_raise_24 : decode cX0_raise 24 = .ok (.iconst (-1), 1) := dk_2 (dk_at dksX0_raise_1 0 rfl rfl)
theorem dX0_raise_25 : decode cX0_raise 25 = .ok (.if_icmp .lt 7, 3) := dk_161 0 7 (dk_at dksX0_raise_1 1 rfl rfl)
theorem dX0_raise_28 : decode cX0_raise 28 = .ok (.iconst 1, 1) := dk_4 (dk_at dksX0_raise_1 4 rfl rfl)
theorem dX0_raise_29 : decode cX0_raise 29 = .ok (.goto 4, 3) := dk_167 0 4 (dk_at dksX0_raise_1 5 rfl rfl)
theorem dX0_raise_32 : decode cX0_raise 32 = .ok (.iconst 0, 1) := dk_3 (dk_at dksX0_raise_1 8 rfl rfl)
theorem dX0_raise_33 : decode cX0_raise 33 = .ok (.iconst 1, 1) := dk_4 (dk_at dksX0_raise_1 9 rfl rfl)
theorem dX0_raise_34 : decode cX0_raise 34 = .ok (.invokevirtual 94, 3) := dk_182 0 94 (dk_at dksX0_raise_1 10 rfl rfl)
theorem dX0_raise_37 : decode cX0_raise 37 = .ok (.aload_n 0, 1) := dk_42 (dk_at dksX0_raise_1 13 rfl rfl)
theorem dX0_raise_38 : decode cX0_raise 38 = .ok (.getfield 49, 3) := dk_180 0 49 (dk_at dksX0_raise_1 14 rfl rfl)
theorem dX0_raise_41 : decode cX0_raise 41 = .ok (.getfield 329, 3) := dk_180 1 73 (dk_at dksX0_raise_1 17 rfl rfl)
theorem dX0_raise_44 : decode cX0_raise 44 = .ok (.astore 4, 2) := dk_58 4 (dk_at dksX0_raise_1 20 rfl rfl)
theorem dX0_raise_46 : decode cX0_raise 46 = .ok (.aload 4, 2) := dk_25 4 (dk_at dksX0_raise_1 22 rfl rfl)
theorem dX0_raise_48 : decode cX0_raise 48 = .ok (.iload_n 1, 1) := dk_27 (dk_at dksX0_raise_2 0 rfl rfl)
theorem dX0_raise_49 : decode cX0_raise 49 = .ok (.iload_n 2, 1) := dk_28 (dk_at dksX0_raise_2 1 rfl rfl)
theorem dX0_raise_50 : decode cX0_raise 50 = .ok (.invokevirtual 351, 3) := dk_182 1 95 (dk_at dksX0_raise_2 2 rfl rfl)
theorem dX0_raise_53 : decode cX0_raise 53 = .ok (.aload 4, 2) := dk_25 4 (dk_at dksX0_raise_2 5 rfl rfl)
theorem dX0_raise_55 : decode cX0_raise 55 = .ok (.getfield 354, 3) := dk_180 1 98 (dk_at dksX0_raise_2 7 rfl rfl)
theorem dX0_raise_58 : decode cX0_raise 58 = .ok (.aload 4, 2) := dk_25 4 (dk_at dksX0_raise_2 10 rfl rfl)
theorem dX0_raise_60 : decode cX0_raise 60 = .ok (.getfield 342, 3) := dk_180 1 86 (dk_at dksX0_raise_2 12 rfl rfl)
theorem dX0_raise_63 : decode cX0_raise 63 = .ok (.iaload, 1) := dk_46 (dk_at dksX0_raise_2 15 rfl rfl)
theorem dX0_raise_64 : decode cX0_raise 64 = .ok (.istore 5, 2) := dk_54 5 (dk_at dksX0_raise_2 16 rfl rfl)
theorem dX0_raise_66 : decode cX0_raise 66 = .ok (.aload_n 0, 1) := dk_42 (dk_at dksX0_raise_2 18 rfl rfl)
theorem dX0_raise_67 : decode cX0_raise 67 = .ok (.iload 5, 2) := dk_21 5 (dk_at dksX0_raise_2 19 rfl rfl)
theorem dX0_raise_69 : decode cX0_raise 69 = .ok (.iconst (-1), 1) := dk_2 (dk_at dksX0_raise_2 21 rfl rfl)
theorem dX0_raise_70 : decode cX0_raise 70 = .ok (.if_icmp .eq 13, 3) := dk_159 0 13 (dk_at dksX0_raise_3 0 rfl rfl)
theorem dX0_raise_73 : decode cX0_raise 73 = .ok (.iload_n 3, 1) := dk_29 (dk_at dksX0_raise_3 3 rfl rfl)
theorem dX0_raise_74 : decode cX0_raise 74 = .ok (.iload 5, 2) := dk_21 5 (dk_at dksX0_raise_3 4 rfl rfl)
theorem dX0_raise_76 : decode cX0_raise 76 = .ok (.if_icmp .ge 7, 3) := dk_162 0 7 (dk_at dksX0_raise_3 6 rfl rfl)
theorem dX0_raise_79 : decode cX0_raise 79 = .ok (.iconst 1, 1) := dk_4 (dk_at dksX0_raise_3 9 rfl rfl)
theorem dX0_raise_80 : decode cX0_raise 80 = .ok (.goto 4, 3) := dk_167 0 4 (dk_at dksX0_raise_3 10 rfl rfl)
theorem dX0_raise_83 : decode cX0_raise 83 = .ok (.iconst 0, 1) := dk_3 (dk_at dksX0_raise_3 13 rfl rfl)
theorem dX0_raise_84 : decode cX0_raise 84 = .ok (.iconst 2, 1) := dk_5 (dk_at dksX0_raise_3 14 rfl rfl)
theorem dX0_raise_85 : decode cX0_raise 85 = .ok (.invokevirtual 94, 3) := dk_182 0 94 (dk_at dksX0_raise_3 15 rfl rfl)
theorem dX0_raise_88 : decode cX0_raise 88 = .ok (.iload_n 3, 1) := dk_29 (dk_at dksX0_raise_3 18 rfl rfl)
theorem dX0_raise_89 : decode cX0_raise 89 = .ok (.ifCond .ge 8, 3) := dk_156 0 8 (dk_at dksX0_raise_3 19 rfl rfl)
theorem dX0_raise_92 : decode cX0_raise 92 = .ok (.iload 5, 2) := dk_21 5 (dk_at dksX0_raise_3 22 rfl rfl)
theorem dX0_raise_94 : decode cX0_raise 94 = .ok (.goto 10, 3) := dk_167 0 10 (dk_at dksX0_raise_4 0 rfl rfl)
theorem dX0_raise_97 : decode cX0_raise 97 = .ok (.aload 4, 2) := dk_25 4 (dk_at dksX0_raise_4 3 rfl rfl)
theorem dX0_raise_99 : decode cX0_raise 99 = .ok (.iload_n 3, 1) := dk_29 (dk_at dksX0_raise_4 5 rfl rfl)
theorem dX0_raise_100 : decode cX0_raise 100 = .ok (.iload_n 2, 1) := dk_28 (dk_at dksX0_raise_4 6 rfl rfl)
theorem dX0_raise_101 : decode cX0_raise 101 = .ok (.invokevirtual 357, 3) := dk_182 1 101 (dk_at dksX0_raise_4 7 rfl rfl)
theorem dX0_raise_104 : decode cX0_raise 104 = .ok (.ireturn, 1) := dk_172 (dk_at dksX0_raise_4 10 rfl rfl)
theorem dX0_raise_105 : decode cX0_raise 105 = .ok (.astore 4, 2) := dk_58 4 (dk_at dksX0_raise_4 11 rfl rfl)
theorem dX0_raise_107 : decode cX0_raise 107 = .ok (.aload_n 0, 1) := dk_42 (dk_at dksX0_raise_4 13 rfl rfl)
theorem dX0_raise_108 : decode cX0_raise 108 = .ok (.aload 4, 2) := dk_25 4 (dk_at dksX0_raise_4 14 rfl rfl)
theorem dX0_raise_110 : decode cX0_raise 110 = .ok (.invokevirtual 133, 3) := dk_182 0 133 (dk_at dksX0_raise_4 16 rfl rfl)
theorem dX0_raise_113 : decode cX0_raise 113 = .ok (.ireturn, 1) := dk_172 (dk_at dksX0_raise_4 19 rfl rfl)
abbrev cX0_tide : ByteArray := prog_1_method_52_code
def yX0_tide : MethodName := ⟨RX0, "tide", "(II)I"⟩
def dkwX0_tide_3 : List UInt8 := [42, 45, 182, 0, 133, 172]
abbrev dktX0_tide_3 : List UInt8 := dkwX0_tide_3 ++ []
def dkwX0_tide_2 : List UInt8 := [21, 4, 182, 1, 107, 153, 0, 7, 4, 167, 0, 4, 3, 96, 62, 132, 4, 1, 167, 255, 224, 29, 172, 78]
abbrev dktX0_tide_2 : List UInt8 := dkwX0_tide_2 ++ dktX0_tide_3
def dkwX0_tide_1 : List UInt8 := [4, 182, 0, 94, 3, 62, 27, 54, 4, 21, 4, 28, 163, 0, 32, 29, 42, 180, 0, 49, 180, 0, 196]
abbrev dktX0_tide_1 : List UInt8 := dkwX0_tide_1 ++ dktX0_tide_2
def dkwX0_tide_0 : List UInt8 := [42, 27, 184, 1, 104, 153, 0, 18, 28, 27, 17, 9, 95, 184, 0, 86, 153, 0, 7, 4, 167, 0, 4, 3]
abbrev dktX0_tide_0 : List UInt8 := dkwX0_tide_0 ++ dktX0_tide_1
theorem dksX0_tide_0 : cX0_tide.data.toList.drop 0 = dktX0_tide_0 := by decide +kernel
theorem dksX0_tide_1 : cX0_tide.data.toList.drop 24 = dktX0_tide_1 := dk_seg dksX0_tide_0 24 rfl rfl
theorem dksX0_tide_2 : cX0_tide.data.toList.drop 47 = dktX0_tide_2 := dk_seg dksX0_tide_1 23 rfl rfl
theorem dksX0_tide_3 : cX0_tide.data.toList.drop 71 = dktX0_tide_3 := dk_seg dksX0_tide_2 24 rfl rfl
theorem dX0_tide_0 : decode cX0_tide 0 = .ok (.aload_n 0, 1) := dk_42 (dk_at dksX0_tide_0 0 rfl rfl)
theorem dX0_tide_1 : decode cX0_tide 1 = .ok (.iload_n 1, 1) := dk_27 (dk_at dksX0_tide_0 1 rfl rfl)
theorem dX0_tide_2 : decode cX0_tide 2 = .ok (.invokestatic 360, 3) := dk_184 1 104 (dk_at dksX0_tide_0 2 rfl rfl)
theorem dX0_tide_5 : decode cX0_tide 5 = .ok (.ifCond .eq 18, 3) := dk_153 0 18 (dk_at dksX0_tide_0 5 rfl rfl)
theorem dX0_tide_8 : decode cX0_tide 8 = .ok (.iload_n 2, 1) := dk_28 (dk_at dksX0_tide_0 8 rfl rfl)
theorem dX0_tide_9 : decode cX0_tide 9 = .ok (.iload_n 1, 1) := dk_27 (dk_at dksX0_tide_0 9 rfl rfl)
theorem dX0_tide_10 : decode cX0_tide 10 = .ok (.sipush 2399, 3) := dk_17 9 95 (dk_at dksX0_tide_0 10 rfl rfl)
theorem dX0_tide_13 : decode cX0_tide 13 = .ok (.invokestatic 86, 3) := dk_184 0 86 (dk_at dksX0_tide_0 13 rfl rfl)
theorem dX0_tide_16 : decode cX0_tide 16 = .ok (.ifCond .eq 7, 3) := dk_153 0 7 (dk_at dksX0_tide_0 16 rfl rfl)
theorem dX0_tide_19 : decode cX0_tide 19 = .ok (.iconst 1, 1) := dk_4 (dk_at dksX0_tide_0 19 rfl rfl)
theorem dX0_tide_20 : decode cX0_tide 20 = .ok (.goto 4, 3) := dk_167 0 4 (dk_at dksX0_tide_0 20 rfl rfl)
theorem dX0_tide_23 : decode cX0_tide 23 = .ok (.iconst 0, 1) := dk_3 (dk_at dksX0_tide_0 23 rfl rfl)
theorem dX0_tide_24 : decode cX0_tide 24 = .ok (.iconst 1, 1) := dk_4 (dk_at dksX0_tide_1 0 rfl rfl)
theorem dX0_tide_25 : decode cX0_tide 25 = .ok (.invokevirtual 94, 3) := dk_182 0 94 (dk_at dksX0_tide_1 1 rfl rfl)
theorem dX0_tide_28 : decode cX0_tide 28 = .ok (.iconst 0, 1) := dk_3 (dk_at dksX0_tide_1 4 rfl rfl)
theorem dX0_tide_29 : decode cX0_tide 29 = .ok (.istore_n 3, 1) := dk_62 (dk_at dksX0_tide_1 5 rfl rfl)
theorem dX0_tide_30 : decode cX0_tide 30 = .ok (.iload_n 1, 1) := dk_27 (dk_at dksX0_tide_1 6 rfl rfl)
theorem dX0_tide_31 : decode cX0_tide 31 = .ok (.istore 4, 2) := dk_54 4 (dk_at dksX0_tide_1 7 rfl rfl)
theorem dX0_tide_33 : decode cX0_tide 33 = .ok (.iload 4, 2) := dk_21 4 (dk_at dksX0_tide_1 9 rfl rfl)
theorem dX0_tide_35 : decode cX0_tide 35 = .ok (.iload_n 2, 1) := dk_28 (dk_at dksX0_tide_1 11 rfl rfl)
theorem dX0_tide_36 : decode cX0_tide 36 = .ok (.if_icmp .gt 32, 3) := dk_163 0 32 (dk_at dksX0_tide_1 12 rfl rfl)
theorem dX0_tide_39 : decode cX0_tide 39 = .ok (.iload_n 3, 1) := dk_29 (dk_at dksX0_tide_1 15 rfl rfl)
theorem dX0_tide_40 : decode cX0_tide 40 = .ok (.aload_n 0, 1) := dk_42 (dk_at dksX0_tide_1 16 rfl rfl)
theorem dX0_tide_41 : decode cX0_tide 41 = .ok (.getfield 49, 3) := dk_180 0 49 (dk_at dksX0_tide_1 17 rfl rfl)
theorem dX0_tide_44 : decode cX0_tide 44 = .ok (.getfield 196, 3) := dk_180 0 196 (dk_at dksX0_tide_1 20 rfl rfl)
theorem dX0_tide_47 : decode cX0_tide 47 = .ok (.iload 4, 2) := dk_21 4 (dk_at dksX0_tide_2 0 rfl rfl)
theorem dX0_tide_49 : decode cX0_tide 49 = .ok (.invokevirtual 363, 3) := dk_182 1 107 (dk_at dksX0_tide_2 2 rfl rfl)
theorem dX0_tide_52 : decode cX0_tide 52 = .ok (.ifCond .eq 7, 3) := dk_153 0 7 (dk_at dksX0_tide_2 5 rfl rfl)
theorem dX0_tide_55 : decode cX0_tide 55 = .ok (.iconst 1, 1) := dk_4 (dk_at dksX0_tide_2 8 rfl rfl)
theorem dX0_tide_56 : decode cX0_tide 56 = .ok (.goto 4, 3) := dk_167 0 4 (dk_at dksX0_tide_2 9 rfl rfl)
theorem dX0_tide_59 : decode cX0_tide 59 = .ok (.iconst 0, 1) := dk_3 (dk_at dksX0_tide_2 12 rfl rfl)
theorem dX0_tide_60 : decode cX0_tide 60 = .ok (.iadd, 1) := dk_96 (dk_at dksX0_tide_2 13 rfl rfl)
theorem dX0_tide_61 : decode cX0_tide 61 = .ok (.istore_n 3, 1) := dk_62 (dk_at dksX0_tide_2 14 rfl rfl)
theorem dX0_tide_62 : decode cX0_tide 62 = .ok (.iinc 4 1, 3) := dk_132 4 1 (dk_at dksX0_tide_2 15 rfl rfl)
theorem dX0_tide_65 : decode cX0_tide 65 = .ok (.goto (-32), 3) := dk_167 255 224 (dk_at dksX0_tide_2 18 rfl rfl)
theorem dX0_tide_68 : decode cX0_tide 68 = .ok (.iload_n 3, 1) := dk_29 (dk_at dksX0_tide_2 21 rfl rfl)
theorem dX0_tide_69 : decode cX0_tide 69 = .ok (.ireturn, 1) := dk_172 (dk_at dksX0_tide_2 22 rfl rfl)
theorem dX0_tide_70 : decode cX0_tide 70 = .ok (.astore_n 3, 1) := dk_78 (dk_at dksX0_tide_2 23 rfl rfl)
theorem dX0_tide_71 : decode cX0_tide 71 = .ok (.aload_n 0, 1) := dk_42 (dk_at dksX0_tide_3 0 rfl rfl)
theorem dX0_tide_72 : decode cX0_tide 72 = .ok (.aload_n 3, 1) := dk_45 (dk_at dksX0_tide_3 1 rfl rfl)
theorem dX0_tide_73 : decode cX0_tide 73 = .ok (.invokevirtual 133, 3) := dk_182 0 133 (dk_at dksX0_tide_3 2 rfl rfl)
theorem dX0_tide_76 : decode cX0_tide 76 = .ok (.ireturn, 1) := dk_172 (dk_at dksX0_tide_3 5 rfl rfl)
abbrev cX0_isMinute : ByteArray := prog_1_method_9_code
def yX0_isMinute : MethodName := ⟨RX0, "isMinute", "(I)Z"⟩
def dkwX0_isMinute_0 : List UInt8 := [26, 3, 17, 9, 95, 184, 0, 86, 172]
abbrev dktX0_isMinute_0 : List UInt8 := dkwX0_isMinute_0 ++ []
theorem dksX0_isMinute_0 : cX0_isMinute.data.toList.drop 0 = dktX0_isMinute_0 := by decide +kernel
theorem dX0_isMinute_0 : decode cX0_isMinute 0 = .ok (.iload_n 0, 1) := dk_26 (dk_at dksX0_isMinute_0 0 rfl rfl)
theorem dX0_isMinute_1 : decode cX0_isMinute 1 = .ok (.iconst 0, 1) := dk_3 (dk_at dksX0_isMinute_0 1 rfl rfl)
theorem dX0_isMinute_2 : decode cX0_isMinute 2 = .ok (.sipush 2399, 3) := dk_17 9 95 (dk_at dksX0_isMinute_0 2 rfl rfl)
theorem dX0_isMinute_5 : decode cX0_isMinute 5 = .ok (.invokestatic 86, 3) := dk_184 0 86 (dk_at dksX0_isMinute_0 5 rfl rfl)
theorem dX0_isMinute_8 : decode cX0_isMinute 8 = .ok (.ireturn, 1) := dk_172 (dk_at dksX0_isMinute_0 8 rfl rfl)
abbrev cX0_say : ByteArray := prog_1_method_55_code
def yX0_say : MethodName := ⟨RX0, "say", "(I)I"⟩
def dkwX0_say_8 : List UInt8 := [42, 180, 0, 76, 27, 50, 25, 5, 181, 0, 90, 29, 172, 78, 42, 45, 182, 0, 133, 172]
abbrev dktX0_say_8 : List UInt8 := dkwX0_say_8 ++ []
def dkwX0_say_7 : List UInt8 := [180, 0, 49, 180, 1, 43, 21, 7, 46, 8, 112, 4, 96, 184, 1, 123, 54, 6, 132, 7, 1, 167, 255, 201]
abbrev dktX0_say_7 : List UInt8 := dkwX0_say_7 ++ dktX0_say_8
def dkwX0_say_6 : List UInt8 := [180, 0, 49, 180, 1, 43, 21, 7, 46, 8, 108, 4, 96, 184, 1, 123, 54, 6, 25, 5, 21, 6, 42]
abbrev dktX0_say_6 : List UInt8 := dkwX0_say_6 ++ dktX0_say_7
def dkwX0_say_5 : List UInt8 := [89, 29, 183, 1, 121, 58, 5, 3, 54, 6, 3, 54, 7, 21, 7, 28, 162, 0, 55, 25, 5, 21, 6, 42]
abbrev dktX0_say_5 : List UInt8 := dkwX0_say_5 ++ dktX0_say_6
def dkwX0_say_4 : List UInt8 := [42, 21, 4, 153, 0, 13, 29, 16, 40, 163, 0, 7, 4, 167, 0, 4, 3, 6, 182, 0, 94, 187, 1, 119]
abbrev dktX0_say_4 : List UInt8 := dkwX0_say_4 ++ dktX0_say_5
def dkwX0_say_3 : List UInt8 := [180, 0, 49, 180, 1, 43, 21, 5, 46, 184, 1, 116, 167, 0, 4, 3, 96, 62, 132, 5, 1, 167, 255, 199]
abbrev dktX0_say_3 : List UInt8 := dkwX0_say_3 ++ dktX0_say_4
def dkwX0_say_2 : List UInt8 := [180, 0, 49, 180, 1, 43, 21, 5, 46, 3, 16, 24, 184, 0, 86, 54, 4, 29, 21, 4, 153, 0, 19, 42]
abbrev dktX0_say_2 : List UInt8 := dkwX0_say_2 ++ dktX0_say_3
def dkwX0_say_1 : List UInt8 := [182, 0, 94, 3, 62, 4, 54, 4, 3, 54, 5, 21, 5, 28, 162, 0, 57, 21, 4, 153, 0, 52, 42]
abbrev dktX0_say_1 : List UInt8 := dkwX0_say_1 ++ dktX0_say_2
def dkwX0_say_0 : List UInt8 := [42, 180, 0, 49, 180, 1, 52, 61, 42, 180, 0, 49, 3, 181, 1, 52, 42, 27, 184, 1, 113, 4]
abbrev dktX0_say_0 : List UInt8 := dkwX0_say_0 ++ dktX0_say_1
theorem dksX0_say_0 : cX0_say.data.toList.drop 0 = dktX0_say_0 := by decide +kernel
theorem dksX0_say_1 : cX0_say.data.toList.drop 22 = dktX0_say_1 := dk_seg dksX0_say_0 22 rfl rfl
theorem dksX0_say_2 : cX0_say.data.toList.drop 45 = dktX0_say_2 := dk_seg dksX0_say_1 23 rfl rfl
theorem dksX0_say_3 : cX0_say.data.toList.drop 69 = dktX0_say_3 := dk_seg dksX0_say_2 24 rfl rfl
theorem dksX0_say_4 : cX0_say.data.toList.drop 93 = dktX0_say_4 := dk_seg dksX0_say_3 24 rfl rfl
theorem dksX0_say_5 : cX0_say.data.toList.drop 117 = dktX0_say_5 := dk_seg dksX0_say_4 24 rfl rfl
theorem dksX0_say_6 : cX0_say.data.toList.drop 141 = dktX0_say_6 := dk_seg dksX0_say_5 24 rfl rfl
theorem dksX0_say_7 : cX0_say.data.toList.drop 164 = dktX0_say_7 := dk_seg dksX0_say_6 23 rfl rfl
theorem dksX0_say_8 : cX0_say.data.toList.drop 188 = dktX0_say_8 := dk_seg dksX0_say_7 24 rfl rfl
theorem dX0_say_0 : decode cX0_say 0 = .ok (.aload_n 0, 1) := dk_42 (dk_at dksX0_say_0 0 rfl rfl)
theorem dX0_say_1 : decode cX0_say 1 = .ok (.getfield 49, 3) := dk_180 0 49 (dk_at dksX0_say_0 1 rfl rfl)
theorem dX0_say_4 : decode cX0_say 4 = .ok (.getfield 308, 3) := dk_180 1 52 (dk_at dksX0_say_0 4 rfl rfl)
theorem dX0_say_7 : decode cX0_say 7 = .ok (.istore_n 2, 1) := dk_61 (dk_at dksX0_say_0 7 rfl rfl)
theorem dX0_say_8 : decode cX0_say 8 = .ok (.aload_n 0, 1) := dk_42 (dk_at dksX0_say_0 8 rfl rfl)
theorem dX0_say_9 : decode cX0_say 9 = .ok (.getfield 49, 3) := dk_180 0 49 (dk_at dksX0_say_0 9 rfl rfl)
theorem dX0_say_12 : decode cX0_say 12 = .ok (.iconst 0, 1) := dk_3 (dk_at dksX0_say_0 12 rfl rfl)
theorem dX0_say_13 : decode cX0_say 13 = .ok (.putfield 308, 3) := dk_181 1 52 (dk_at dksX0_say_0 13 rfl rfl)
theorem dX0_say_16 : decode cX0_say 16 = .ok (.aload_n 0, 1) := dk_42 (dk_at dksX0_say_0 16 rfl rfl)
theorem dX0_say_17 : decode cX0_say 17 = .ok (.iload_n 1, 1) := dk_27 (dk_at dksX0_say_0 17 rfl rfl)
theorem dX0_say_18 : decode cX0_say 18 = .ok (.invokestatic 369, 3) := dk_184 1 113 (dk_at dksX0_say_0 18 rfl rfl)
theorem dX0_say_21 : decode cX0_say 21 = .ok (.iconst 1, 1) := dk_4 (dk_at dksX0_say_0 21 rfl rfl)
theorem dX0_say_22 : decode cX0_say 22 = .ok (.invokevirtual 94, 3) := dk_182 0 94 (dk_at dksX0_say_1 0 rfl rfl)
theorem dX0_say_25 : decode cX0_say 25 = .ok (.iconst 0, 1) := dk_3 (dk_at dksX0_say_1 3 rfl rfl)
theorem dX0_say_26 : decode cX0_say 26 = .ok (.istore_n 3, 1) := dk_62 (dk_at dksX0_say_1 4 rfl rfl)
theorem dX0_say_27 : decode cX0_say 27 = .ok (.iconst 1, 1) := dk_4 (dk_at dksX0_say_1 5 rfl rfl)
theorem dX0_say_28 : decode cX0_say 28 = .ok (.istore 4, 2) := dk_54 4 (dk_at dksX0_say_1 6 rfl rfl)
theorem dX0_say_30 : decode cX0_say 30 = .ok (.iconst 0, 1) := dk_3 (dk_at dksX0_say_1 8 rfl rfl)
theorem dX0_say_31 : decode cX0_say 31 = .ok (.istore 5, 2) := dk_54 5 (dk_at dksX0_say_1 9 rfl rfl)
theorem dX0_say_33 : decode cX0_say 33 = .ok (.iload 5, 2) := dk_21 5 (dk_at dksX0_say_1 11 rfl rfl)
theorem dX0_say_35 : decode cX0_say 35 = .ok (.iload_n 2, 1) := dk_28 (dk_at dksX0_say_1 13 rfl rfl)
theorem dX0_say_36 : decode cX0_say 36 = .ok (.if_icmp .ge 57, 3) := dk_162 0 57 (dk_at dksX0_say_1 14 rfl rfl)
theorem dX0_say_39 : decode cX0_say 39 = .ok (.iload 4, 2) := dk_21 4 (dk_at dksX0_say_1 17 rfl rfl)
theorem dX0_say_41 : decode cX0_say 41 = .ok (.ifCond .eq 52, 3) := dk_153 0 52 (dk_at dksX0_say_1 19 rfl rfl)
theorem dX0_say_44 : decode cX0_say 44 = .ok (.aload_n 0, 1) := dk_42 (dk_at dksX0_say_1 22 rfl rfl)
theorem dX0_say_45 : decode cX0_say 45 = .ok (.getfield 49, 3) := dk_180 0 49 (dk_at dksX0_say_2 0 rfl rfl)
theorem dX0_say_48 : decode cX0_say 48 = .ok (.getfield 299, 3) := dk_180 1 43 (dk_at dksX0_say_2 3 rfl rfl)
theorem dX0_say_51 : decode cX0_say 51 = .ok (.iload 5, 2) := dk_21 5 (dk_at dksX0_say_2 6 rfl rfl)
theorem dX0_say_53 : decode cX0_say 53 = .ok (.iaload, 1) := dk_46 (dk_at dksX0_say_2 8 rfl rfl)
theorem dX0_say_54 : decode cX0_say 54 = .ok (.iconst 0, 1) := dk_3 (dk_at dksX0_say_2 9 rfl rfl)
theorem dX0_say_55 : decode cX0_say 55 = .ok (.bipush 24, 2) := dk_16 24 (dk_at dksX0_say_2 10 rfl rfl)
theorem dX0_say_57 : decode cX0_say 57 = .ok (.invokestatic 86, 3) := dk_184 0 86 (dk_at dksX0_say_2 12 rfl rfl)
theorem dX0_say_60 : decode cX0_say 60 = .ok (.istore 4, 2) := dk_54 4 (dk_at dksX0_say_2 15 rfl rfl)
theorem dX0_say_62 : decode cX0_say 62 = .ok (.iload_n 3, 1) := dk_29 (dk_at dksX0_say_2 17 rfl rfl)
theorem dX0_say_63 : decode cX0_say 63 = .ok (.iload 4, 2) := dk_21 4 (dk_at dksX0_say_2 18 rfl rfl)
theorem dX0_say_65 : decode cX0_say 65 = .ok (.ifCond .eq 19, 3) := dk_153 0 19 (dk_at dksX0_say_2 20 rfl rfl)
theorem dX0_say_68 : decode cX0_say 68 = .ok (.aload_n 0, 1) := dk_42 (dk_at dksX0_say_2 23 rfl rfl)
theorem dX0_say_69 : decode cX0_say 69 = .ok (.getfield 49, 3) := dk_180 0 49 (dk_at dksX0_say_3 0 rfl rfl)
theorem dX0_say_72 : decode cX0_say 72 = .ok (.getfield 299, 3) := dk_180 1 43 (dk_at dksX0_say_3 3 rfl rfl)
theorem dX0_say_75 : decode cX0_say 75 = .ok (.iload 5, 2) := dk_21 5 (dk_at dksX0_say_3 6 rfl rfl)
theorem dX0_say_77 : decode cX0_say 77 = .ok (.iaload, 1) := dk_46 (dk_at dksX0_say_3 8 rfl rfl)
theorem dX0_say_78 : decode cX0_say 78 = .ok (.invokestatic 372, 3) := dk_184 1 116 (dk_at dksX0_say_3 9 rfl rfl)
theorem dX0_say_81 : decode cX0_say 81 = .ok (.goto 4, 3) := dk_167 0 4 (dk_at dksX0_say_3 12 rfl rfl)
theorem dX0_say_84 : decode cX0_say 84 = .ok (.iconst 0, 1) := dk_3 (dk_at dksX0_say_3 15 rfl rfl)
theorem dX0_say_85 : decode cX0_say 85 = .ok (.iadd, 1) := dk_96 (dk_at dksX0_say_3 16 rfl rfl)
theorem dX0_say_86 : decode cX0_say 86 = .ok (.istore_n 3, 1) := dk_62 (dk_at dksX0_say_3 17 rfl rfl)
theorem dX0_say_87 : decode cX0_say 87 = .ok (.iinc 5 1, 3) := dk_132 5 1 (dk_at dksX0_say_3 18 rfl rfl)
theorem dX0_say_90 : decode cX0_say 90 = .ok (.goto (-57), 3) := dk_167 255 199 (dk_at dksX0_say_3 21 rfl rfl)
theorem dX0_say_93 : decode cX0_say 93 = .ok (.aload_n 0, 1) := dk_42 (dk_at dksX0_say_4 0 rfl rfl)
theorem dX0_say_94 : decode cX0_say 94 = .ok (.iload 4, 2) := dk_21 4 (dk_at dksX0_say_4 1 rfl rfl)
theorem dX0_say_96 : decode cX0_say 96 = .ok (.ifCond .eq 13, 3) := dk_153 0 13 (dk_at dksX0_say_4 3 rfl rfl)
theorem dX0_say_99 : decode cX0_say 99 = .ok (.iload_n 3, 1) := dk_29 (dk_at dksX0_say_4 6 rfl rfl)
theorem dX0_say_100 : decode cX0_say 100 = .ok (.bipush 40, 2) := dk_16 40 (dk_at dksX0_say_4 7 rfl rfl)
theorem dX0_say_102 : decode cX0_say 102 = .ok (.if_icmp .gt 7, 3) := dk_163 0 7 (dk_at dksX0_say_4 9 rfl rfl)
theorem dX0_say_105 : decode cX0_say 105 = .ok (.iconst 1, 1) := dk_4 (dk_at dksX0_say_4 12 rfl rfl)
theorem dX0_say_106 : decode cX0_say 106 = .ok (.goto 4, 3) := dk_167 0 4 (dk_at dksX0_say_4 13 rfl rfl)
theorem dX0_say_109 : decode cX0_say 109 = .ok (.iconst 0, 1) := dk_3 (dk_at dksX0_say_4 16 rfl rfl)
theorem dX0_say_110 : decode cX0_say 110 = .ok (.iconst 3, 1) := dk_6 (dk_at dksX0_say_4 17 rfl rfl)
theorem dX0_say_111 : decode cX0_say 111 = .ok (.invokevirtual 94, 3) := dk_182 0 94 (dk_at dksX0_say_4 18 rfl rfl)
theorem dX0_say_114 : decode cX0_say 114 = .ok (.new 375, 3) := dk_187 1 119 (dk_at dksX0_say_4 21 rfl rfl)
theorem dX0_say_117 : decode cX0_say 117 = .ok (.dup, 1) := dk_89 (dk_at dksX0_say_5 0 rfl rfl)
theorem dX0_say_118 : decode cX0_say 118 = .ok (.iload_n 3, 1) := dk_29 (dk_at dksX0_say_5 1 rfl rfl)
theorem dX0_say_119 : decode cX0_say 119 = .ok (.invokespecial 377, 3) := dk_183 1 121 (dk_at dksX0_say_5 2 rfl rfl)
theorem dX0_say_122 : decode cX0_say 122 = .ok (.astore 5, 2) := dk_58 5 (dk_at dksX0_say_5 5 rfl rfl)
theorem dX0_say_124 : decode cX0_say 124 = .ok (.iconst 0, 1) := dk_3 (dk_at dksX0_say_5 7 rfl rfl)
theorem dX0_say_125 : decode cX0_say 125 = .ok (.istore 6, 2) := dk_54 6 (dk_at dksX0_say_5 8 rfl rfl)
theorem dX0_say_127 : decode cX0_say 127 = .ok (.iconst 0, 1) := dk_3 (dk_at dksX0_say_5 10 rfl rfl)
theorem dX0_say_128 : decode cX0_say 128 = .ok (.istore 7, 2) := dk_54 7 (dk_at dksX0_say_5 11 rfl rfl)
theorem dX0_say_130 : decode cX0_say 130 = .ok (.iload 7, 2) := dk_21 7 (dk_at dksX0_say_5 13 rfl rfl)
theorem dX0_say_132 : decode cX0_say 132 = .ok (.iload_n 2, 1) := dk_28 (dk_at dksX0_say_5 15 rfl rfl)
theorem dX0_say_133 : decode cX0_say 133 = .ok (.if_icmp .ge 55, 3) := dk_162 0 55 (dk_at dksX0_say_5 16 rfl rfl)
theorem dX0_say_136 : decode cX0_say 136 = .ok (.aload 5, 2) := dk_25 5 (dk_at dksX0_say_5 19 rfl rfl)
theorem dX0_say_138 : decode cX0_say 138 = .ok (.iload 6, 2) := dk_21 6 (dk_at dksX0_say_5 21 rfl rfl)
theorem dX0_say_140 : decode cX0_say 140 = .ok (.aload_n 0, 1) := dk_42 (dk_at dksX0_say_5 23 rfl rfl)
theorem dX0_say_141 : decode cX0_say 141 = .ok (.getfield 49, 3) := dk_180 0 49 (dk_at dksX0_say_6 0 rfl rfl)
theorem dX0_say_144 : decode cX0_say 144 = .ok (.getfield 299, 3) := dk_180 1 43 (dk_at dksX0_say_6 3 rfl rfl)
theorem dX0_say_147 : decode cX0_say 147 = .ok (.iload 7, 2) := dk_21 7 (dk_at dksX0_say_6 6 rfl rfl)
theorem dX0_say_149 : decode cX0_say 149 = .ok (.iaload, 1) := dk_46 (dk_at dksX0_say_6 8 rfl rfl)
theorem dX0_say_150 : decode cX0_say 150 = .ok (.iconst 5, 1) := dk_8 (dk_at dksX0_say_6 9 rfl rfl)
theorem dX0_say_151 : decode cX0_say 151 = .ok (.idiv, 1) := dk_108 (dk_at dksX0_say_6 10 rfl rfl)
theorem dX0_say_152 : decode cX0_say 152 = .ok (.iconst 1, 1) := dk_4 (dk_at dksX0_say_6 11 rfl rfl)
theorem dX0_say_153 : decode cX0_say 153 = .ok (.iadd, 1) := dk_96 (dk_at dksX0_say_6 12 rfl rfl)
theorem dX0_say_154 : decode cX0_say 154 = .ok (.invokestatic 379, 3) := dk_184 1 123 (dk_at dksX0_say_6 13 rfl rfl)
theorem dX0_say_157 : decode cX0_say 157 = .ok (.istore 6, 2) := dk_54 6 (dk_at dksX0_say_6 16 rfl rfl)
theorem dX0_say_159 : decode cX0_say 159 = .ok (.aload 5, 2) := dk_25 5 (dk_at dksX0_say_6 18 rfl rfl)
theorem dX0_say_161 : decode cX0_say 161 = .ok (.iload 6, 2) := dk_21 6 (dk_at dksX0_say_6 20 rfl rfl)
theorem dX0_say_163 : decode cX0_say 163 = .ok (.aload_n 0, 1) := dk_42 (dk_at dksX0_say_6 22 rfl rfl)
theorem dX0_say_164 : decode cX0_say 164 = .ok (.getfield 49, 3) := dk_180 0 49 (dk_at dksX0_say_7 0 rfl rfl)
theorem dX0_say_167 : decode cX0_say 167 = .ok (.getfield 299, 3) := dk_180 1 43 (dk_at dksX0_say_7 3 rfl rfl)
theorem dX0_say_170 : decode cX0_say 170 = .ok (.iload 7, 2) := dk_21 7 (dk_at dksX0_say_7 6 rfl rfl)
theorem dX0_say_172 : decode cX0_say 172 = .ok (.iaload, 1) := dk_46 (dk_at dksX0_say_7 8 rfl rfl)
theorem dX0_say_173 : decode cX0_say 173 = .ok (.iconst 5, 1) := dk_8 (dk_at dksX0_say_7 9 rfl rfl)
theorem dX0_say_174 : decode cX0_say 174 = .ok (.irem, 1) := dk_112 (dk_at dksX0_say_7 10 rfl rfl)
theorem dX0_say_175 : decode cX0_say 175 = .ok (.iconst 1, 1) := dk_4 (dk_at dksX0_say_7 11 rfl rfl)
theorem dX0_say_176 : decode cX0_say 176 = .ok (.iadd, 1) := dk_96 (dk_at dksX0_say_7 12 rfl rfl)
theorem dX0_say_177 : decode cX0_say 177 = .ok (.invokestatic 379, 3) := dk_184 1 123 (dk_at dksX0_say_7 13 rfl rfl)
theorem dX0_say_180 : decode cX0_say 180 = .ok (.istore 6, 2) := dk_54 6 (dk_at dksX0_say_7 16 rfl rfl)
theorem dX0_say_182 : decode cX0_say 182 = .ok (.iinc 7 1, 3) := dk_132 7 1 (dk_at dksX0_say_7 18 rfl rfl)
theorem dX0_say_185 : decode cX0_say 185 = .ok (.goto (-55), 3) := dk_167 255 201 (dk_at dksX0_say_7 21 rfl rfl)
theorem dX0_say_188 : decode cX0_say 188 = .ok (.aload_n 0, 1) := dk_42 (dk_at dksX0_say_8 0 rfl rfl)
theorem dX0_say_189 : decode cX0_say 189 = .ok (.getfield 76, 3) := dk_180 0 76 (dk_at dksX0_say_8 1 rfl rfl)
theorem dX0_say_192 : decode cX0_say 192 = .ok (.iload_n 1, 1) := dk_27 (dk_at dksX0_say_8 4 rfl rfl)
theorem dX0_say_193 : decode cX0_say 193 = .ok (.aaload, 1) := dk_50 (dk_at dksX0_say_8 5 rfl rfl)
theorem dX0_say_194 : decode cX0_say 194 = .ok (.aload 5, 2) := dk_25 5 (dk_at dksX0_say_8 6 rfl rfl)
theorem dX0_say_196 : decode cX0_say 196 = .ok (.putfield 90, 3) := dk_181 0 90 (dk_at dksX0_say_8 8 rfl rfl)
theorem dX0_say_199 : decode cX0_say 199 = .ok (.iload_n 3, 1) := dk_29 (dk_at dksX0_say_8 11 rfl rfl)
theorem dX0_say_200 : decode cX0_say 200 = .ok (.ireturn, 1) := dk_172 (dk_at dksX0_say_8 12 rfl rfl)
theorem dX0_say_201 : decode cX0_say 201 = .ok (.astore_n 3, 1) := dk_78 (dk_at dksX0_say_8 13 rfl rfl)
theorem dX0_say_202 : decode cX0_say 202 = .ok (.aload_n 0, 1) := dk_42 (dk_at dksX0_say_8 14 rfl rfl)
theorem dX0_say_203 : decode cX0_say 203 = .ok (.aload_n 3, 1) := dk_45 (dk_at dksX0_say_8 15 rfl rfl)
theorem dX0_say_204 : decode cX0_say 204 = .ok (.invokevirtual 133, 3) := dk_182 0 133 (dk_at dksX0_say_8 16 rfl rfl)
theorem dX0_say_207 : decode cX0_say 207 = .ok (.ireturn, 1) := dk_172 (dk_at dksX0_say_8 19 rfl rfl)
abbrev cX0_isSheet : ByteArray := prog_1_method_10_code
def yX0_isSheet : MethodName := ⟨RX0, "isSheet", "(I)Z"⟩
def dkwX0_isSheet_0 : List UInt8 := [26, 3, 6, 184, 0, 86, 172]
abbrev dktX0_isSheet_0 : List UInt8 := dkwX0_isSheet_0 ++ []
theorem dksX0_isSheet_0 : cX0_isSheet.data.toList.drop 0 = dktX0_isSheet_0 := by decide +kernel
theorem dX0_isSheet_0 : decode cX0_isSheet 0 = .ok (.iload_n 0, 1) := dk_26 (dk_at dksX0_isSheet_0 0 rfl rfl)
theorem dX0_isSheet_1 : decode cX0_isSheet 1 = .ok (.iconst 0, 1) := dk_3 (dk_at dksX0_isSheet_0 1 rfl rfl)
theorem dX0_isSheet_2 : decode cX0_isSheet 2 = .ok (.iconst 3, 1) := dk_6 (dk_at dksX0_isSheet_0 2 rfl rfl)
theorem dX0_isSheet_3 : decode cX0_isSheet 3 = .ok (.invokestatic 86, 3) := dk_184 0 86 (dk_at dksX0_isSheet_0 3 rfl rfl)
theorem dX0_isSheet_6 : decode cX0_isSheet 6 = .ok (.ireturn, 1) := dk_172 (dk_at dksX0_isSheet_0 6 rfl rfl)
abbrev cX0_knocksOf : ByteArray := prog_1_method_53_code
def yX0_knocksOf : MethodName := ⟨RX0, "knocksOf", "(I)I"⟩
def dkwX0_knocksOf_0 : List UInt8 := [26, 8, 108, 26, 8, 112, 96, 7, 96, 172]
abbrev dktX0_knocksOf_0 : List UInt8 := dkwX0_knocksOf_0 ++ []
theorem dksX0_knocksOf_0 : cX0_knocksOf.data.toList.drop 0 = dktX0_knocksOf_0 := by decide +kernel
theorem dX0_knocksOf_0 : decode cX0_knocksOf 0 = .ok (.iload_n 0, 1) := dk_26 (dk_at dksX0_knocksOf_0 0 rfl rfl)
theorem dX0_knocksOf_1 : decode cX0_knocksOf 1 = .ok (.iconst 5, 1) := dk_8 (dk_at dksX0_knocksOf_0 1 rfl rfl)
theorem dX0_knocksOf_2 : decode cX0_knocksOf 2 = .ok (.idiv, 1) := dk_108 (dk_at dksX0_knocksOf_0 2 rfl rfl)
theorem dX0_knocksOf_3 : decode cX0_knocksOf 3 = .ok (.iload_n 0, 1) := dk_26 (dk_at dksX0_knocksOf_0 3 rfl rfl)
theorem dX0_knocksOf_4 : decode cX0_knocksOf 4 = .ok (.iconst 5, 1) := dk_8 (dk_at dksX0_knocksOf_0 4 rfl rfl)
theorem dX0_knocksOf_5 : decode cX0_knocksOf 5 = .ok (.irem, 1) := dk_112 (dk_at dksX0_knocksOf_0 5 rfl rfl)
theorem dX0_knocksOf_6 : decode cX0_knocksOf 6 = .ok (.iadd, 1) := dk_96 (dk_at dksX0_knocksOf_0 6 rfl rfl)
theorem dX0_knocksOf_7 : decode cX0_knocksOf 7 = .ok (.iconst 4, 1) := dk_7 (dk_at dksX0_knocksOf_0 7 rfl rfl)
theorem dX0_knocksOf_8 : decode cX0_knocksOf 8 = .ok (.iadd, 1) := dk_96 (dk_at dksX0_knocksOf_0 8 rfl rfl)
theorem dX0_knocksOf_9 : decode cX0_knocksOf 9 = .ok (.ireturn, 1) := dk_172 (dk_at dksX0_knocksOf_0 9 rfl rfl)
abbrev cX0_lays : ByteArray := prog_1_method_54_code
def yX0_lays : MethodName := ⟨RX0, "lays", "(LLastHatch$Sheet;II)I"⟩
def dkwX0_lays_1 : List UInt8 := [4, 96, 172]
abbrev dktX0_lays_1 : List UInt8 := dkwX0_lays_1 ++ []
def dkwX0_lays_0 : List UInt8 := [3, 62, 29, 28, 162, 0, 17, 42, 27, 29, 96, 4, 182, 1, 110, 132, 3, 1, 167, 255, 240, 27, 28, 96]
abbrev dktX0_lays_0 : List UInt8 := dkwX0_lays_0 ++ dktX0_lays_1
theorem dksX0_lays_0 : cX0_lays.data.toList.drop 0 = dktX0_lays_0 := by decide +kernel
theorem dksX0_lays_1 : cX0_lays.data.toList.drop 24 = dktX0_lays_1 := dk_seg dksX0_lays_0 24 rfl rfl
theorem dX0_lays_0 : decode cX0_lays 0 = .ok (.iconst 0, 1) := dk_3 (dk_at dksX0_lays_0 0 rfl rfl)
theorem dX0_lays_1 : decode cX0_lays 1 = .ok (.istore_n 3, 1) := dk_62 (dk_at dksX0_lays_0 1 rfl rfl)
theorem dX0_lays_2 : decode cX0_lays 2 = .ok (.iload_n 3, 1) := dk_29 (dk_at dksX0_lays_0 2 rfl rfl)
theorem dX0_lays_3 : decode cX0_lays 3 = .ok (.iload_n 2, 1) := dk_28 (dk_at dksX0_lays_0 3 rfl rfl)
theorem dX0_lays_4 : decode cX0_lays 4 = .ok (.if_icmp .ge 17, 3) := dk_162 0 17 (dk_at dksX0_lays_0 4 rfl rfl)
theorem dX0_lays_7 : decode cX0_lays 7 = .ok (.aload_n 0, 1) := dk_42 (dk_at dksX0_lays_0 7 rfl rfl)
theorem dX0_lays_8 : decode cX0_lays 8 = .ok (.iload_n 1, 1) := dk_27 (dk_at dksX0_lays_0 8 rfl rfl)
theorem dX0_lays_9 : decode cX0_lays 9 = .ok (.iload_n 3, 1) := dk_29 (dk_at dksX0_lays_0 9 rfl rfl)
theorem dX0_lays_10 : decode cX0_lays 10 = .ok (.iadd, 1) := dk_96 (dk_at dksX0_lays_0 10 rfl rfl)
theorem dX0_lays_11 : decode cX0_lays 11 = .ok (.iconst 1, 1) := dk_4 (dk_at dksX0_lays_0 11 rfl rfl)
theorem dX0_lays_12 : decode cX0_lays 12 = .ok (.invokevirtual 366, 3) := dk_182 1 110 (dk_at dksX0_lays_0 12 rfl rfl)
theorem dX0_lays_15 : decode cX0_lays 15 = .ok (.iinc 3 1, 3) := dk_132 3 1 (dk_at dksX0_lays_0 15 rfl rfl)
theorem dX0_lays_18 : decode cX0_lays 18 = .ok (.goto (-16), 3) := dk_167 255 240 (dk_at dksX0_lays_0 18 rfl rfl)
theorem dX0_lays_21 : decode cX0_lays 21 = .ok (.iload_n 1, 1) := dk_27 (dk_at dksX0_lays_0 21 rfl rfl)
theorem dX0_lays_22 : decode cX0_lays 22 = .ok (.iload_n 2, 1) := dk_28 (dk_at dksX0_lays_0 22 rfl rfl)
theorem dX0_lays_23 : decode cX0_lays 23 = .ok (.iadd, 1) := dk_96 (dk_at dksX0_lays_0 23 rfl rfl)
theorem dX0_lays_24 : decode cX0_lays 24 = .ok (.iconst 1, 1) := dk_4 (dk_at dksX0_lays_1 0 rfl rfl)
theorem dX0_lays_25 : decode cX0_lays 25 = .ok (.iadd, 1) := dk_96 (dk_at dksX0_lays_1 1 rfl rfl)
theorem dX0_lays_26 : decode cX0_lays 26 = .ok (.ireturn, 1) := dk_172 (dk_at dksX0_lays_1 2 rfl rfl)
abbrev cX0_read : ByteArray := prog_1_method_57_code
def yX0_read : MethodName := ⟨RX0, "read", "(II)I"⟩
def dkwX0_read_4 : List UInt8 := [42, 180, 0, 67, 28, 46, 172, 78, 42, 45, 182, 0, 133, 172]
abbrev dktX0_read_4 : List UInt8 := dkwX0_read_4 ++ []
def dkwX0_read_3 : List UInt8 := [28, 16, 254, 160, 0, 10, 42, 180, 1, 129, 167, 0, 20, 28, 156, 0, 10, 42, 180, 1, 127, 167, 0, 9]
abbrev dktX0_read_3 : List UInt8 := dkwX0_read_3 ++ dktX0_read_4
def dkwX0_read_2 : List UInt8 := [167, 0, 20, 3, 167, 0, 16, 28, 42, 180, 1, 127, 162, 0, 7, 4, 167, 0, 4, 3, 5, 182, 0, 94]
abbrev dktX0_read_2 : List UInt8 := dkwX0_read_2 ++ dktX0_read_3
def dkwX0_read_1 : List UInt8 := [42, 27, 182, 1, 134, 182, 1, 138, 42, 28, 16, 254, 160, 0, 19, 42, 180, 1, 129, 2, 159, 0, 7, 4]
abbrev dktX0_read_1 : List UInt8 := dkwX0_read_1 ++ dktX0_read_2
def dkwX0_read_0 : List UInt8 := [42, 27, 184, 1, 113, 153, 0, 13, 28, 16, 254, 161, 0, 7, 4, 167, 0, 4, 3, 4, 182, 0, 94, 42]
abbrev dktX0_read_0 : List UInt8 := dkwX0_read_0 ++ dktX0_read_1
theorem dksX0_read_0 : cX0_read.data.toList.drop 0 = dktX0_read_0 := by decide +kernel
theorem dksX0_read_1 : cX0_read.data.toList.drop 24 = dktX0_read_1 := dk_seg dksX0_read_0 24 rfl rfl
theorem dksX0_read_2 : cX0_read.data.toList.drop 48 = dktX0_read_2 := dk_seg dksX0_read_1 24 rfl rfl
theorem dksX0_read_3 : cX0_read.data.toList.drop 72 = dktX0_read_3 := dk_seg dksX0_read_2 24 rfl rfl
theorem dksX0_read_4 : cX0_read.data.toList.drop 96 = dktX0_read_4 := dk_seg dksX0_read_3 24 rfl rfl
theorem dX0_read_0 : decode cX0_read 0 = .ok (.aload_n 0, 1) := dk_42 (dk_at dksX0_read_0 0 rfl rfl)
theorem dX0_read_1 : decode cX0_read 1 = .ok (.iload_n 1, 1) := dk_27 (dk_at dksX0_read_0 1 rfl rfl)
theorem dX0_read_2 : decode cX0_read 2 = .ok (.invokestatic 369, 3) := dk_184 1 113 (dk_at dksX0_read_0 2 rfl rfl)
theorem dX0_read_5 : decode cX0_read 5 = .ok (.ifCond .eq 13, 3) := dk_153 0 13 (dk_at dksX0_read_0 5 rfl rfl)
theorem dX0_read_8 : decode cX0_read 8 = .ok (.iload_n 2, 1) := dk_28 (dk_at dksX0_read_0 8 rfl rfl)
theorem dX0_read_9 : decode cX0_read 9 = .ok (.bipush (-2), 2) := dk_16 254 (dk_at dksX0_read_0 9 rfl rfl)
theorem dX0_read_11 : decode cX0_read 11 = .ok (.if_icmp .lt 7, 3) := dk_161 0 7 (dk_at dksX0_read_0 11 rfl rfl)
theorem dX0_read_14 : decode cX0_read 14 = .ok (.iconst 1, 1) := dk_4 (dk_at dksX0_read_0 14 rfl rfl)
theorem dX0_read_15 : decode cX0_read 15 = .ok (.goto 4, 3) := dk_167 0 4 (dk_at dksX0_read_0 15 rfl rfl)
theorem dX0_read_18 : decode cX0_read 18 = .ok (.iconst 0, 1) := dk_3 (dk_at dksX0_read_0 18 rfl rfl)
theorem dX0_read_19 : decode cX0_read 19 = .ok (.iconst 1, 1) := dk_4 (dk_at dksX0_read_0 19 rfl rfl)
theorem dX0_read_20 : decode cX0_read 20 = .ok (.invokevirtual 94, 3) := dk_182 0 94 (dk_at dksX0_read_0 20 rfl rfl)
theorem dX0_read_23 : decode cX0_read 23 = .ok (.aload_n 0, 1) := dk_42 (dk_at dksX0_read_0 23 rfl rfl)
theorem dX0_read_24 : decode cX0_read 24 = .ok (.aload_n 0, 1) := dk_42 (dk_at dksX0_read_1 0 rfl rfl)
theorem dX0_read_25 : decode cX0_read 25 = .ok (.iload_n 1, 1) := dk_27 (dk_at dksX0_read_1 1 rfl rfl)
theorem dX0_read_26 : decode cX0_read 26 = .ok (.invokevirtual 390, 3) := dk_182 1 134 (dk_at dksX0_read_1 2 rfl rfl)
theorem dX0_read_29 : decode cX0_read 29 = .ok (.invokevirtual 394, 3) := dk_182 1 138 (dk_at dksX0_read_1 5 rfl rfl)
theorem dX0_read_32 : decode cX0_read 32 = .ok (.aload_n 0, 1) := dk_42 (dk_at dksX0_read_1 8 rfl rfl)
theorem dX0_read_33 : decode cX0_read 33 = .ok (.iload_n 2, 1) := dk_28 (dk_at dksX0_read_1 9 rfl rfl)
theorem dX0_read_34 : decode cX0_read 34 = .ok (.bipush (-2), 2) := dk_16 254 (dk_at dksX0_read_1 10 rfl rfl)
theorem dX0_read_36 : decode cX0_read 36 = .ok (.if_icmp .ne 19, 3) := dk_160 0 19 (dk_at dksX0_read_1 12 rfl rfl)
theorem dX0_read_39 : decode cX0_read 39 = .ok (.aload_n 0, 1) := dk_42 (dk_at dksX0_read_1 15 rfl rfl)
theorem dX0_read_40 : decode cX0_read 40 = .ok (.getfield 385, 3) := dk_180 1 129 (dk_at dksX0_read_1 16 rfl rfl)
theorem dX0_read_43 : decode cX0_read 43 = .ok (.iconst (-1), 1) := dk_2 (dk_at dksX0_read_1 19 rfl rfl)
theorem dX0_read_44 : decode cX0_read 44 = .ok (.if_icmp .eq 7, 3) := dk_159 0 7 (dk_at dksX0_read_1 20 rfl rfl)
theorem dX0_read_47 : decode cX0_read 47 = .ok (.iconst 1, 1) := dk_4 (dk_at dksX0_read_1 23 rfl rfl)
theorem dX0_read_48 : decode cX0_read 48 = .ok (.goto 20, 3) := dk_167 0 20 (dk_at dksX0_read_2 0 rfl rfl)
theorem dX0_read_51 : decode cX0_read 51 = .ok (.iconst 0, 1) := dk_3 (dk_at dksX0_read_2 3 rfl rfl)
theorem dX0_read_52 : decode cX0_read 52 = .ok (.goto 16, 3) := dk_167 0 16 (dk_at dksX0_read_2 4 rfl rfl)
theorem dX0_read_55 : decode cX0_read 55 = .ok (.iload_n 2, 1) := dk_28 (dk_at dksX0_read_2 7 rfl rfl)
theorem dX0_read_56 : decode cX0_read 56 = .ok (.aload_n 0, 1) := dk_42 (dk_at dksX0_read_2 8 rfl rfl)
theorem dX0_read_57 : decode cX0_read 57 = .ok (.getfield 383, 3) := dk_180 1 127 (dk_at dksX0_read_2 9 rfl rfl)
theorem dX0_read_60 : decode cX0_read 60 = .ok (.if_icmp .ge 7, 3) := dk_162 0 7 (dk_at dksX0_read_2 12 rfl rfl)
theorem dX0_read_63 : decode cX0_read 63 = .ok (.iconst 1, 1) := dk_4 (dk_at dksX0_read_2 15 rfl rfl)
theorem dX0_read_64 : decode cX0_read 64 = .ok (.goto 4, 3) := dk_167 0 4 (dk_at dksX0_read_2 16 rfl rfl)
theorem dX0_read_67 : decode cX0_read 67 = .ok (.iconst 0, 1) := dk_3 (dk_at dksX0_read_2 19 rfl rfl)
theorem dX0_read_68 : decode cX0_read 68 = .ok (.iconst 2, 1) := dk_5 (dk_at dksX0_read_2 20 rfl rfl)
theorem dX0_read_69 : decode cX0_read 69 = .ok (.invokevirtual 94, 3) := dk_182 0 94 (dk_at dksX0_read_2 21 rfl rfl)
theorem dX0_read_72 : decode cX0_read 72 = .ok (.iload_n 2, 1) := dk_28 (dk_at dksX0_read_3 0 rfl rfl)
theorem dX0_read_73 : decode cX0_read 73 = .ok (.bipush (-2), 2) := dk_16 254 (dk_at dksX0_read_3 1 rfl rfl)
theorem dX0_read_75 : decode cX0_read 75 = .ok (.if_icmp .ne 10, 3) := dk_160 0 10 (dk_at dksX0_read_3 3 rfl rfl)
theorem dX0_read_78 : decode cX0_read 78 = .ok (.aload_n 0, 1) := dk_42 (dk_at dksX0_read_3 6 rfl rfl)
theorem dX0_read_79 : decode cX0_read 79 = .ok (.getfield 385, 3) := dk_180 1 129 (dk_at dksX0_read_3 7 rfl rfl)
theorem dX0_read_82 : decode cX0_read 82 = .ok (.goto 20, 3) := dk_167 0 20 (dk_at dksX0_read_3 10 rfl rfl)
theorem dX0_read_85 : decode cX0_read 85 = .ok (.iload_n 2, 1) := dk_28 (dk_at dksX0_read_3 13 rfl rfl)
theorem dX0_read_86 : decode cX0_read 86 = .ok (.ifCond .ge 10, 3) := dk_156 0 10 (dk_at dksX0_read_3 14 rfl rfl)
theorem dX0_read_89 : decode cX0_read 89 = .ok (.aload_n 0, 1) := dk_42 (dk_at dksX0_read_3 17 rfl rfl)
theorem dX0_read_90 : decode cX0_read 90 = .ok (.getfield 383, 3) := dk_180 1 127 (dk_at dksX0_read_3 18 rfl rfl)
theorem dX0_read_93 : decode cX0_read 93 = .ok (.goto 9, 3) := dk_167 0 9 (dk_at dksX0_read_3 21 rfl rfl)
theorem dX0_read_96 : decode cX0_read 96 = .ok (.aload_n 0, 1) := dk_42 (dk_at dksX0_read_4 0 rfl rfl)
theorem dX0_read_97 : decode cX0_read 97 = .ok (.getfield 67, 3) := dk_180 0 67 (dk_at dksX0_read_4 1 rfl rfl)
theorem dX0_read_100 : decode cX0_read 100 = .ok (.iload_n 2, 1) := dk_28 (dk_at dksX0_read_4 4 rfl rfl)
theorem dX0_read_101 : decode cX0_read 101 = .ok (.iaload, 1) := dk_46 (dk_at dksX0_read_4 5 rfl rfl)
theorem dX0_read_102 : decode cX0_read 102 = .ok (.ireturn, 1) := dk_172 (dk_at dksX0_read_4 6 rfl rfl)
theorem dX0_read_103 : decode cX0_read 103 = .ok (.astore_n 3, 1) := dk_78 (dk_at dksX0_read_4 7 rfl rfl)
theorem dX0_read_104 : decode cX0_read 104 = .ok (.aload_n 0, 1) := dk_42 (dk_at dksX0_read_4 8 rfl rfl)
theorem dX0_read_105 : decode cX0_read 105 = .ok (.aload_n 3, 1) := dk_45 (dk_at dksX0_read_4 9 rfl rfl)
theorem dX0_read_106 : decode cX0_read 106 = .ok (.invokevirtual 133, 3) := dk_182 0 133 (dk_at dksX0_read_4 10 rfl rfl)
theorem dX0_read_109 : decode cX0_read 109 = .ok (.ireturn, 1) := dk_172 (dk_at dksX0_read_4 13 rfl rfl)
abbrev cX0_sheetAt : ByteArray := prog_1_method_13_code
def yX0_sheetAt : MethodName := ⟨RX0, "sheetAt", "(I)LLastHatch$Sheet;"⟩
def dkwX0_sheetAt_1 : List UInt8 := [180, 0, 76, 27, 50, 180, 0, 90, 192, 0, 98, 176]
abbrev dktX0_sheetAt_1 : List UInt8 := dkwX0_sheetAt_1 ++ []
def dkwX0_sheetAt_0 : List UInt8 := [42, 42, 180, 0, 76, 27, 50, 180, 0, 90, 198, 0, 7, 4, 167, 0, 4, 3, 5, 182, 0, 94, 42]
abbrev dktX0_sheetAt_0 : List UInt8 := dkwX0_sheetAt_0 ++ dktX0_sheetAt_1
theorem dksX0_sheetAt_0 : cX0_sheetAt.data.toList.drop 0 = dktX0_sheetAt_0 := by decide +kernel
theorem dksX0_sheetAt_1 : cX0_sheetAt.data.toList.drop 23 = dktX0_sheetAt_1 := dk_seg dksX0_sheetAt_0 23 rfl rfl
theorem dX0_sheetAt_0 : decode cX0_sheetAt 0 = .ok (.aload_n 0, 1) := dk_42 (dk_at dksX0_sheetAt_0 0 rfl rfl)
theorem dX0_sheetAt_1 : decode cX0_sheetAt 1 = .ok (.aload_n 0, 1) := dk_42 (dk_at dksX0_sheetAt_0 1 rfl rfl)
theorem dX0_sheetAt_2 : decode cX0_sheetAt 2 = .ok (.getfield 76, 3) := dk_180 0 76 (dk_at dksX0_sheetAt_0 2 rfl rfl)
theorem dX0_sheetAt_5 : decode cX0_sheetAt 5 = .ok (.iload_n 1, 1) := dk_27 (dk_at dksX0_sheetAt_0 5 rfl rfl)
theorem dX0_sheetAt_6 : decode cX0_sheetAt 6 = .ok (.aaload, 1) := dk_50 (dk_at dksX0_sheetAt_0 6 rfl rfl)
theorem dX0_sheetAt_7 : decode cX0_sheetAt 7 = .ok (.getfield 90, 3) := dk_180 0 90 (dk_at dksX0_sheetAt_0 7 rfl rfl)
theorem dX0_sheetAt_10 : decode cX0_sheetAt 10 = .ok (.ifnull 7, 3) := dk_198 0 7 (dk_at dksX0_sheetAt_0 10 rfl rfl)
theorem dX0_sheetAt_13 : decode cX0_sheetAt 13 = .ok (.iconst 1, 1) := dk_4 (dk_at dksX0_sheetAt_0 13 rfl rfl)
theorem dX0_sheetAt_14 : decode cX0_sheetAt 14 = .ok (.goto 4, 3) := dk_167 0 4 (dk_at dksX0_sheetAt_0 14 rfl rfl)
theorem dX0_sheetAt_17 : decode cX0_sheetAt 17 = .ok (.iconst 0, 1) := dk_3 (dk_at dksX0_sheetAt_0 17 rfl rfl)
theorem dX0_sheetAt_18 : decode cX0_sheetAt 18 = .ok (.iconst 2, 1) := dk_5 (dk_at dksX0_sheetAt_0 18 rfl rfl)
theorem dX0_sheetAt_19 : decode cX0_sheetAt 19 = .ok (.invokevirtual 94, 3) := dk_182 0 94 (dk_at dksX0_sheetAt_0 19 rfl rfl)
theorem dX0_sheetAt_22 : decode cX0_sheetAt 22 = .ok (.aload_n 0, 1) := dk_42 (dk_at dksX0_sheetAt_0 22 rfl rfl)
theorem dX0_sheetAt_23 : decode cX0_sheetAt 23 = .ok (.getfield 76, 3) := dk_180 0 76 (dk_at dksX0_sheetAt_1 0 rfl rfl)
theorem dX0_sheetAt_26 : decode cX0_sheetAt 26 = .ok (.iload_n 1, 1) := dk_27 (dk_at dksX0_sheetAt_1 3 rfl rfl)
theorem dX0_sheetAt_27 : decode cX0_sheetAt 27 = .ok (.aaload, 1) := dk_50 (dk_at dksX0_sheetAt_1 4 rfl rfl)
theorem dX0_sheetAt_28 : decode cX0_sheetAt 28 = .ok (.getfield 90, 3) := dk_180 0 90 (dk_at dksX0_sheetAt_1 5 rfl rfl)
theorem dX0_sheetAt_31 : decode cX0_sheetAt 31 = .ok (.checkcast 98, 3) := dk_192 0 98 (dk_at dksX0_sheetAt_1 8 rfl rfl)
theorem dX0_sheetAt_34 : decode cX0_sheetAt 34 = .ok (.areturn, 1) := dk_176 (dk_at dksX0_sheetAt_1 11 rfl rfl)
abbrev cX0_reads : ByteArray := prog_1_method_56_code
def yX0_reads : MethodName := ⟨RX0, "reads", "(LLastHatch$Sheet;)V"⟩
def dkwX0_reads_7 : List UInt8 := [160, 0, 19, 28, 157, 0, 7, 29, 158, 0, 11, 42, 43, 182, 1, 132, 181, 1, 129, 177]
abbrev dktX0_reads_7 : List UInt8 := dkwX0_reads_7 ++ []
def dkwX0_reads_6 : List UInt8 := [180, 1, 127, 4, 96, 181, 1, 127, 3, 61, 3, 62, 132, 4, 1, 167, 255, 122, 42, 180, 1, 129, 2]
abbrev dktX0_reads_6 : List UInt8 := dkwX0_reads_6 ++ dktX0_reads_7
def dkwX0_reads_5 : List UInt8 := [167, 0, 34, 42, 180, 0, 67, 42, 180, 1, 127, 8, 28, 104, 29, 96, 16, 6, 100, 79, 42, 89]
abbrev dktX0_reads_5 : List UInt8 := dkwX0_reads_5 ++ dktX0_reads_6
def dkwX0_reads_4 : List UInt8 := [167, 0, 56, 21, 6, 153, 0, 9, 132, 3, 1, 167, 0, 45, 28, 154, 0, 10, 29, 61, 3, 62]
abbrev dktX0_reads_4 : List UInt8 := dkwX0_reads_4 ++ dktX0_reads_5
def dkwX0_reads_3 : List UInt8 := [4, 167, 0, 4, 3, 54, 7, 21, 6, 154, 0, 17, 21, 7, 154, 0, 12, 42, 21, 4, 181, 1, 129]
abbrev dktX0_reads_3 : List UInt8 := dkwX0_reads_3 ++ dktX0_reads_4
def dkwX0_reads_2 : List UInt8 := [160, 0, 12, 29, 8, 162, 0, 7, 4, 167, 0, 4, 3, 54, 6, 21, 5, 154, 0, 11, 29, 158, 0, 7]
abbrev dktX0_reads_2 : List UInt8 := dkwX0_reads_2 ++ dktX0_reads_3
def dkwX0_reads_1 : List UInt8 := [162, 0, 131, 42, 180, 1, 129, 2, 160, 0, 123, 43, 21, 4, 182, 1, 133, 54, 5, 21, 5, 4]
abbrev dktX0_reads_1 : List UInt8 := dkwX0_reads_1 ++ dktX0_reads_2
def dkwX0_reads_0 : List UInt8 := [42, 3, 181, 1, 127, 42, 2, 181, 1, 129, 3, 61, 3, 62, 3, 54, 4, 21, 4, 43, 182, 1, 132]
abbrev dktX0_reads_0 : List UInt8 := dkwX0_reads_0 ++ dktX0_reads_1
theorem dksX0_reads_0 : cX0_reads.data.toList.drop 0 = dktX0_reads_0 := by decide +kernel
theorem dksX0_reads_1 : cX0_reads.data.toList.drop 23 = dktX0_reads_1 := dk_seg dksX0_reads_0 23 rfl rfl
theorem dksX0_reads_2 : cX0_reads.data.toList.drop 45 = dktX0_reads_2 := dk_seg dksX0_reads_1 22 rfl rfl
theorem dksX0_reads_3 : cX0_reads.data.toList.drop 69 = dktX0_reads_3 := dk_seg dksX0_reads_2 24 rfl rfl
theorem dksX0_reads_4 : cX0_reads.data.toList.drop 92 = dktX0_reads_4 := dk_seg dksX0_reads_3 23 rfl rfl
theorem dksX0_reads_5 : cX0_reads.data.toList.drop 114 = dktX0_reads_5 := dk_seg dksX0_reads_4 22 rfl rfl
theorem dksX0_reads_6 : cX0_reads.data.toList.drop 136 = dktX0_reads_6 := dk_seg dksX0_reads_5 22 rfl rfl
theorem dksX0_reads_7 : cX0_reads.data.toList.drop 159 = dktX0_reads_7 := dk_seg dksX0_reads_6 23 rfl rfl
theorem dX0_reads_0 : decode cX0_reads 0 = .ok (.aload_n 0, 1) := dk_42 (dk_at dksX0_reads_0 0 rfl rfl)
theorem dX0_reads_1 : decode cX0_reads 1 = .ok (.iconst 0, 1) := dk_3 (dk_at dksX0_reads_0 1 rfl rfl)
theorem dX0_reads_2 : decode cX0_reads 2 = .ok (.putfield 383, 3) := dk_181 1 127 (dk_at dksX0_reads_0 2 rfl rfl)
theorem dX0_reads_5 : decode cX0_reads 5 = .ok (.aload_n 0, 1) := dk_42 (dk_at dksX0_reads_0 5 rfl rfl)
theorem dX0_reads_6 : decode cX0_reads 6 = .ok (.iconst (-1), 1) := dk_2 (dk_at dksX0_reads_0 6 rfl rfl)
theorem dX0_reads_7 : decode cX0_reads 7 = .ok (.putfield 385, 3) := dk_181 1 129 (dk_at dksX0_reads_0 7 rfl rfl)
theorem dX0_reads_10 : decode cX0_reads 10 = .ok (.iconst 0, 1) := dk_3 (dk_at dksX0_reads_0 10 rfl rfl)
theorem dX0_reads_11 : decode cX0_reads 11 = .ok (.istore_n 2, 1) := dk_61 (dk_at dksX0_reads_0 11 rfl rfl)
theorem dX0_reads_12 : decode cX0_reads 12 = .ok (.iconst 0, 1) := dk_3 (dk_at dksX0_reads_0 12 rfl rfl)
theorem dX0_reads_13 : decode cX0_reads 13 = .ok (.istore_n 3, 1) := dk_62 (dk_at dksX0_reads_0 13 rfl rfl)
theorem dX0_reads_14 : decode cX0_reads 14 = .ok (.iconst 0, 1) := dk_3 (dk_at dksX0_reads_0 14 rfl rfl)
theorem dX0_reads_15 : decode cX0_reads 15 = .ok (.istore 4, 2) := dk_54 4 (dk_at dksX0_reads_0 15 rfl rfl)
theorem dX0_reads_17 : decode cX0_reads 17 = .ok (.iload 4, 2) := dk_21 4 (dk_at dksX0_reads_0 17 rfl rfl)
theorem dX0_reads_19 : decode cX0_reads 19 = .ok (.aload_n 1, 1) := dk_43 (dk_at dksX0_reads_0 19 rfl rfl)
theorem dX0_reads_20 : decode cX0_reads 20 = .ok (.invokevirtual 388, 3) := dk_182 1 132 (dk_at dksX0_reads_0 20 rfl rfl)
theorem dX0_reads_23 : decode cX0_reads 23 = .ok (.if_icmp .ge 131, 3) := dk_162 0 131 (dk_at dksX0_reads_1 0 rfl rfl)
theorem dX0_reads_26 : decode cX0_reads 26 = .ok (.aload_n 0, 1) := dk_42 (dk_at dksX0_reads_1 3 rfl rfl)
theorem dX0_reads_27 : decode cX0_reads 27 = .ok (.getfield 385, 3) := dk_180 1 129 (dk_at dksX0_reads_1 4 rfl rfl)
theorem dX0_reads_30 : decode cX0_reads 30 = .ok (.iconst (-1), 1) := dk_2 (dk_at dksX0_reads_1 7 rfl rfl)
theorem dX0_reads_31 : decode cX0_reads 31 = .ok (.if_icmp .ne 123, 3) := dk_160 0 123 (dk_at dksX0_reads_1 8 rfl rfl)
theorem dX0_reads_34 : decode cX0_reads 34 = .ok (.aload_n 1, 1) := dk_43 (dk_at dksX0_reads_1 11 rfl rfl)
theorem dX0_reads_35 : decode cX0_reads 35 = .ok (.iload 4, 2) := dk_21 4 (dk_at dksX0_reads_1 12 rfl rfl)
theorem dX0_reads_37 : decode cX0_reads 37 = .ok (.invokevirtual 389, 3) := dk_182 1 133 (dk_at dksX0_reads_1 14 rfl rfl)
theorem dX0_reads_40 : decode cX0_reads 40 = .ok (.istore 5, 2) := dk_54 5 (dk_at dksX0_reads_1 17 rfl rfl)
theorem dX0_reads_42 : decode cX0_reads 42 = .ok (.iload 5, 2) := dk_21 5 (dk_at dksX0_reads_1 19 rfl rfl)
theorem dX0_reads_44 : decode cX0_reads 44 = .ok (.iconst 1, 1) := dk_4 (dk_at dksX0_reads_1 21 rfl rfl)
theorem dX0_reads_45 : decode cX0_reads 45 = .ok (.if_icmp .ne 12, 3) := dk_160 0 12 (dk_at dksX0_reads_2 0 rfl rfl)
theorem dX0_reads_48 : decode cX0_reads 48 = .ok (.iload_n 3, 1) := dk_29 (dk_at dksX0_reads_2 3 rfl rfl)
theorem dX0_reads_49 : decode cX0_reads 49 = .ok (.iconst 5, 1) := dk_8 (dk_at dksX0_reads_2 4 rfl rfl)
theorem dX0_reads_50 : decode cX0_reads 50 = .ok (.if_icmp .ge 7, 3) := dk_162 0 7 (dk_at dksX0_reads_2 5 rfl rfl)
theorem dX0_reads_53 : decode cX0_reads 53 = .ok (.iconst 1, 1) := dk_4 (dk_at dksX0_reads_2 8 rfl rfl)
theorem dX0_reads_54 : decode cX0_reads 54 = .ok (.goto 4, 3) := dk_167 0 4 (dk_at dksX0_reads_2 9 rfl rfl)
theorem dX0_reads_57 : decode cX0_reads 57 = .ok (.iconst 0, 1) := dk_3 (dk_at dksX0_reads_2 12 rfl rfl)
theorem dX0_reads_58 : decode cX0_reads 58 = .ok (.istore 6, 2) := dk_54 6 (dk_at dksX0_reads_2 13 rfl rfl)
theorem dX0_reads_60 : decode cX0_reads 60 = .ok (.iload 5, 2) := dk_21 5 (dk_at dksX0_reads_2 15 rfl rfl)
theorem dX0_reads_62 : decode cX0_reads 62 = .ok (.ifCond .ne 11, 3) := dk_154 0 11 (dk_at dksX0_reads_2 17 rfl rfl)
theorem dX0_reads_65 : decode cX0_reads 65 = .ok (.iload_n 3, 1) := dk_29 (dk_at dksX0_reads_2 20 rfl rfl)
theorem dX0_reads_66 : decode cX0_reads 66 = .ok (.ifCond .le 7, 3) := dk_158 0 7 (dk_at dksX0_reads_2 21 rfl rfl)
theorem dX0_reads_69 : decode cX0_reads 69 = .ok (.iconst 1, 1) := dk_4 (dk_at dksX0_reads_3 0 rfl rfl)
theorem dX0_reads_70 : decode cX0_reads 70 = .ok (.goto 4, 3) := dk_167 0 4 (dk_at dksX0_reads_3 1 rfl rfl)
theorem dX0_reads_73 : decode cX0_reads 73 = .ok (.iconst 0, 1) := dk_3 (dk_at dksX0_reads_3 4 rfl rfl)
theorem dX0_reads_74 : decode cX0_reads 74 = .ok (.istore 7, 2) := dk_54 7 (dk_at dksX0_reads_3 5 rfl rfl)
theorem dX0_reads_76 : decode cX0_reads 76 = .ok (.iload 6, 2) := dk_21 6 (dk_at dksX0_reads_3 7 rfl rfl)
theorem dX0_reads_78 : decode cX0_reads 78 = .ok (.ifCond .ne 17, 3) := dk_154 0 17 (dk_at dksX0_reads_3 9 rfl rfl)
theorem dX0_reads_81 : decode cX0_reads 81 = .ok (.iload 7, 2) := dk_21 7 (dk_at dksX0_reads_3 12 rfl rfl)
theorem dX0_reads_83 : decode cX0_reads 83 = .ok (.ifCond .ne 12, 3) := dk_154 0 12 (dk_at dksX0_reads_3 14 rfl rfl)
theorem dX0_reads_86 : decode cX0_reads 86 = .ok (.aload_n 0, 1) := dk_42 (dk_at dksX0_reads_3 17 rfl rfl)
theorem dX0_reads_87 : decode cX0_reads 87 = .ok (.iload 4, 2) := dk_21 4 (dk_at dksX0_reads_3 18 rfl rfl)
theorem dX0_reads_89 : decode cX0_reads 89 = .ok (.putfield 385, 3) := dk_181 1 129 (dk_at dksX0_reads_3 20 rfl rfl)
theorem dX0_reads_92 : decode cX0_reads 92 = .ok (.goto 56, 3) := dk_167 0 56 (dk_at dksX0_reads_4 0 rfl rfl)
theorem dX0_reads_95 : decode cX0_reads 95 = .ok (.iload 6, 2) := dk_21 6 (dk_at dksX0_reads_4 3 rfl rfl)
theorem dX0_reads_97 : decode cX0_reads 97 = .ok (.ifCond .eq 9, 3) := dk_153 0 9 (dk_at dksX0_reads_4 5 rfl rfl)
theorem dX0_reads_100 : decode cX0_reads 100 = .ok (.iinc 3 1, 3) := dk_132 3 1 (dk_at dksX0_reads_4 8 rfl rfl)
theorem dX0_reads_103 : decode cX0_reads 103 = .ok (.goto 45, 3) := dk_167 0 45 (dk_at dksX0_reads_4 11 rfl rfl)
theorem dX0_reads_106 : decode cX0_reads 106 = .ok (.iload_n 2, 1) := dk_28 (dk_at dksX0_reads_4 14 rfl rfl)
theorem dX0_reads_107 : decode cX0_reads 107 = .ok (.ifCond .ne 10, 3) := dk_154 0 10 (dk_at dksX0_reads_4 15 rfl rfl)
theorem dX0_reads_110 : decode cX0_reads 110 = .ok (.iload_n 3, 1) := dk_29 (dk_at dksX0_reads_4 18 rfl rfl)
theorem dX0_reads_111 : decode cX0_reads 111 = .ok (.istore_n 2, 1) := dk_61 (dk_at dksX0_reads_4 19 rfl rfl)
theorem dX0_reads_112 : decode cX0_reads 112 = .ok (.iconst 0, 1) := dk_3 (dk_at dksX0_reads_4 20 rfl rfl)
theorem dX0_reads_113 : decode cX0_reads 113 = .ok (.istore_n 3, 1) := dk_62 (dk_at dksX0_reads_4 21 rfl rfl)
theorem dX0_reads_114 : decode cX0_reads 114 = .ok (.goto 34, 3) := dk_167 0 34 (dk_at dksX0_reads_5 0 rfl rfl)
theorem dX0_reads_117 : decode cX0_reads 117 = .ok (.aload_n 0, 1) := dk_42 (dk_at dksX0_reads_5 3 rfl rfl)
theorem dX0_reads_118 : decode cX0_reads 118 = .ok (.getfield 67, 3) := dk_180 0 67 (dk_at dksX0_reads_5 4 rfl rfl)
theorem dX0_reads_121 : decode cX0_reads 121 = .ok (.aload_n 0, 1) := dk_42 (dk_at dksX0_reads_5 7 rfl rfl)
theorem dX0_reads_122 : decode cX0_reads 122 = .ok (.getfield 383, 3) := dk_180 1 127 (dk_at dksX0_reads_5 8 rfl rfl)
theorem dX0_reads_125 : decode cX0_reads 125 = .ok (.iconst 5, 1) := dk_8 (dk_at dksX0_reads_5 11 rfl rfl)
theorem dX0_reads_126 : decode cX0_reads 126 = .ok (.iload_n 2, 1) := dk_28 (dk_at dksX0_reads_5 12 rfl rfl)
theorem dX0_reads_127 : decode cX0_reads 127 = .ok (.imul, 1) := dk_104 (dk_at dksX0_reads_5 13 rfl rfl)
theorem dX0_reads_128 : decode cX0_reads 128 = .ok (.iload_n 3, 1) := dk_29 (dk_at dksX0_reads_5 14 rfl rfl)
theorem dX0_reads_129 : decode cX0_reads 129 = .ok (.iadd, 1) := dk_96 (dk_at dksX0_reads_5 15 rfl rfl)
theorem dX0_reads_130 : decode cX0_reads 130 = .ok (.bipush 6, 2) := dk_16 6 (dk_at dksX0_reads_5 16 rfl rfl)
theorem dX0_reads_132 : decode cX0_reads 132 = .ok (.isub, 1) := dk_100 (dk_at dksX0_reads_5 18 rfl rfl)
theorem dX0_reads_133 : decode cX0_reads 133 = .ok (.iastore, 1) := dk_79 (dk_at dksX0_reads_5 19 rfl rfl)
theorem dX0_reads_134 : decode cX0_reads 134 = .ok (.aload_n 0, 1) := dk_42 (dk_at dksX0_reads_5 20 rfl rfl)
theorem dX0_reads_135 : decode cX0_reads 135 = .ok (.dup, 1) := dk_89 (dk_at dksX0_reads_5 21 rfl rfl)
theorem dX0_reads_136 : decode cX0_reads 136 = .ok (.getfield 383, 3) := dk_180 1 127 (dk_at dksX0_reads_6 0 rfl rfl)
theorem dX0_reads_139 : decode cX0_reads 139 = .ok (.iconst 1, 1) := dk_4 (dk_at dksX0_reads_6 3 rfl rfl)
theorem dX0_reads_140 : decode cX0_reads 140 = .ok (.iadd, 1) := dk_96 (dk_at dksX0_reads_6 4 rfl rfl)
theorem dX0_reads_141 : decode cX0_reads 141 = .ok (.putfield 383, 3) := dk_181 1 127 (dk_at dksX0_reads_6 5 rfl rfl)
theorem dX0_reads_144 : decode cX0_reads 144 = .ok (.iconst 0, 1) := dk_3 (dk_at dksX0_reads_6 8 rfl rfl)
theorem dX0_reads_145 : decode cX0_reads 145 = .ok (.istore_n 2, 1) := dk_61 (dk_at dksX0_reads_6 9 rfl rfl)
theorem dX0_reads_146 : decode cX0_reads 146 = .ok (.iconst 0, 1) := dk_3 (dk_at dksX0_reads_6 10 rfl rfl)
theorem dX0_reads_147 : decode cX0_reads 147 = .ok (.istore_n 3, 1) := dk_62 (dk_at dksX0_reads_6 11 rfl rfl)
theorem dX0_reads_148 : decode cX0_reads 148 = .ok (.iinc 4 1, 3) := dk_132 4 1 (dk_at dksX0_reads_6 12 rfl rfl)
theorem dX0_reads_151 : decode cX0_reads 151 = .ok (.goto (-134), 3) := dk_167 255 122 (dk_at dksX0_reads_6 15 rfl rfl)
theorem dX0_reads_154 : decode cX0_reads 154 = .ok (.aload_n 0, 1) := dk_42 (dk_at dksX0_reads_6 18 rfl rfl)
theorem dX0_reads_155 : decode cX0_reads 155 = .ok (.getfield 385, 3) := dk_180 1 129 (dk_at dksX0_reads_6 19 rfl rfl)
theorem dX0_reads_158 : decode cX0_reads 158 = .ok (.iconst (-1), 1) := dk_2 (dk_at dksX0_reads_6 22 rfl rfl)
theorem dX0_reads_159 : decode cX0_reads 159 = .ok (.if_icmp .ne 19, 3) := dk_160 0 19 (dk_at dksX0_reads_7 0 rfl rfl)
theorem dX0_reads_162 : decode cX0_reads 162 = .ok (.iload_n 2, 1) := dk_28 (dk_at dksX0_reads_7 3 rfl rfl)
theorem dX0_reads_163 : decode cX0_reads 163 = .ok (.ifCond .gt 7, 3) := dk_157 0 7 (dk_at dksX0_reads_7 4 rfl rfl)
theorem dX0_reads_166 : decode cX0_reads 166 = .ok (.iload_n 3, 1) := dk_29 (dk_at dksX0_reads_7 7 rfl rfl)
theorem dX0_reads_167 : decode cX0_reads 167 = .ok (.ifCond .le 11, 3) := dk_158 0 11 (dk_at dksX0_reads_7 8 rfl rfl)
theorem dX0_reads_170 : decode cX0_reads 170 = .ok (.aload_n 0, 1) := dk_42 (dk_at dksX0_reads_7 11 rfl rfl)
theorem dX0_reads_171 : decode cX0_reads 171 = .ok (.aload_n 1, 1) := dk_43 (dk_at dksX0_reads_7 12 rfl rfl)
theorem dX0_reads_172 : decode cX0_reads 172 = .ok (.invokevirtual 388, 3) := dk_182 1 132 (dk_at dksX0_reads_7 13 rfl rfl)
theorem dX0_reads_175 : decode cX0_reads 175 = .ok (.putfield 385, 3) := dk_181 1 129 (dk_at dksX0_reads_7 16 rfl rfl)
theorem dX0_reads_178 : decode cX0_reads 178 = .ok (.return_, 1) := dk_177 (dk_at dksX0_reads_7 19 rfl rfl)
abbrev cX0_plan : ByteArray := prog_1_method_58_code
def yX0_plan : MethodName := ⟨RX0, "plan", "(IIII)I"⟩
def dkwX0_plan_6 : List UInt8 := [180, 1, 142, 27, 46, 172, 58, 5, 42, 25, 5, 182, 0, 133, 172]
abbrev dktX0_plan_6 : List UInt8 := dkwX0_plan_6 ++ []
def dkwX0_plan_5 : List UInt8 := [21, 5, 5, 96, 21, 4, 79, 42, 180, 0, 49, 180, 1, 142, 27, 92, 46, 4, 96, 79, 42, 180, 0, 49]
abbrev dktX0_plan_5 : List UInt8 := dkwX0_plan_5 ++ dktX0_plan_6
def dkwX0_plan_4 : List UInt8 := [21, 5, 28, 79, 42, 180, 0, 49, 180, 1, 145, 21, 5, 4, 96, 29, 79, 42, 180, 0, 49, 180, 1, 145]
abbrev dktX0_plan_4 : List UInt8 := dkwX0_plan_4 ++ dktX0_plan_5
def dkwX0_plan_3 : List UInt8 := [16, 10, 27, 104, 42, 180, 0, 49, 180, 1, 142, 27, 46, 96, 104, 54, 5, 42, 180, 0, 49, 180, 1, 145]
abbrev dktX0_plan_3 : List UInt8 := dkwX0_plan_3 ++ dktX0_plan_4
def dkwX0_plan_2 : List UInt8 := [42, 180, 0, 49, 180, 1, 142, 27, 46, 16, 10, 162, 0, 7, 4, 167, 0, 4, 3, 7, 182, 0, 94, 6]
abbrev dktX0_plan_2 : List UInt8 := dkwX0_plan_2 ++ dktX0_plan_3
def dkwX0_plan_1 : List UInt8 := [153, 0, 18, 21, 4, 3, 16, 8, 184, 0, 86, 153, 0, 7, 4, 167, 0, 4, 3, 4, 182, 0, 94, 42]
abbrev dktX0_plan_1 : List UInt8 := dkwX0_plan_1 ++ dktX0_plan_2
def dkwX0_plan_0 : List UInt8 := [42, 27, 184, 0, 122, 153, 0, 36, 28, 184, 1, 104, 153, 0, 29, 29, 28, 17, 9, 95, 184, 0, 86]
abbrev dktX0_plan_0 : List UInt8 := dkwX0_plan_0 ++ dktX0_plan_1
theorem dksX0_plan_0 : cX0_plan.data.toList.drop 0 = dktX0_plan_0 := by decide +kernel
theorem dksX0_plan_1 : cX0_plan.data.toList.drop 23 = dktX0_plan_1 := dk_seg dksX0_plan_0 23 rfl rfl
theorem dksX0_plan_2 : cX0_plan.data.toList.drop 47 = dktX0_plan_2 := dk_seg dksX0_plan_1 24 rfl rfl
theorem dksX0_plan_3 : cX0_plan.data.toList.drop 71 = dktX0_plan_3 := dk_seg dksX0_plan_2 24 rfl rfl
theorem dksX0_plan_4 : cX0_plan.data.toList.drop 95 = dktX0_plan_4 := dk_seg dksX0_plan_3 24 rfl rfl
theorem dksX0_plan_5 : cX0_plan.data.toList.drop 119 = dktX0_plan_5 := dk_seg dksX0_plan_4 24 rfl rfl
theorem dksX0_plan_6 : cX0_plan.data.toList.drop 143 = dktX0_plan_6 := dk_seg dksX0_plan_5 24 rfl rfl
theorem dX0_plan_0 : decode cX0_plan 0 = .ok (.aload_n 0, 1) := dk_42 (dk_at dksX0_plan_0 0 rfl rfl)
theorem dX0_plan_1 : decode cX0_plan 1 = .ok (.iload_n 1, 1) := dk_27 (dk_at dksX0_plan_0 1 rfl rfl)
theorem dX0_plan_2 : decode cX0_plan 2 = .ok (.invokestatic 122, 3) := dk_184 0 122 (dk_at dksX0_plan_0 2 rfl rfl)
theorem dX0_plan_5 : decode cX0_plan 5 = .ok (.ifCond .eq 36, 3) := dk_153 0 36 (dk_at dksX0_plan_0 5 rfl rfl)
theorem dX0_plan_8 : decode cX0_plan 8 = .ok (.iload_n 2, 1) := dk_28 (dk_at dksX0_plan_0 8 rfl rfl)
theorem dX0_plan_9 : decode cX0_plan 9 = .ok (.invokestatic 360, 3) := dk_184 1 104 (dk_at dksX0_plan_0 9 rfl rfl)
theorem dX0_plan_12 : decode cX0_plan 12 = .ok (.ifCond .eq 29, 3) := dk_153 0 29 (dk_at dksX0_plan_0 12 rfl rfl)
theorem dX0_plan_15 : decode cX0_plan 15 = .ok (.iload_n 3, 1) := dk_29 (dk_at dksX0_plan_0 15 rfl rfl)
theorem dX0_plan_16 : decode cX0_plan 16 = .ok (.iload_n 2, 1) := dk_28 (dk_at dksX0_plan_0 16 rfl rfl)
theorem dX0_plan_17 : decode cX0_plan 17 = .ok (.sipush 2399, 3) := dk_17 9 95 (dk_at dksX0_plan_0 17 rfl rfl)
theorem dX0_plan_20 : decode cX0_plan 20 = .ok (.invokestatic 86, 3) := dk_184 0 86 (dk_at dksX0_plan_0 20 rfl rfl)
theorem dX0_plan_23 : decode cX0_plan 23 = .ok (.ifCond .eq 18, 3) := dk_153 0 18 (dk_at dksX0_plan_1 0 rfl rfl)
theorem dX0_plan_26 : decode cX0_plan 26 = .ok (.iload 4, 2) := dk_21 4 (dk_at dksX0_plan_1 3 rfl rfl)
theorem dX0_plan_28 : decode cX0_plan 28 = .ok (.iconst 0, 1) := dk_3 (dk_at dksX0_plan_1 5 rfl rfl)
theorem dX0_plan_29 : decode cX0_plan 29 = .ok (.bipush 8, 2) := dk_16 8 (dk_at dksX0_plan_1 6 rfl rfl)
theorem dX0_plan_31 : decode cX0_plan 31 = .ok (.invokestatic 86, 3) := dk_184 0 86 (dk_at dksX0_plan_1 8 rfl rfl)
theorem dX0_plan_34 : decode cX0_plan 34 = .ok (.ifCond .eq 7, 3) := dk_153 0 7 (dk_at dksX0_plan_1 11 rfl rfl)
theorem dX0_plan_37 : decode cX0_plan 37 = .ok (.iconst 1, 1) := dk_4 (dk_at dksX0_plan_1 14 rfl rfl)
theorem dX0_plan_38 : decode cX0_plan 38 = .ok (.goto 4, 3) := dk_167 0 4 (dk_at dksX0_plan_1 15 rfl rfl)
theorem dX0_plan_41 : decode cX0_plan 41 = .ok (.iconst 0, 1) := dk_3 (dk_at dksX0_plan_1 18 rfl rfl)
theorem dX0_plan_42 : decode cX0_plan 42 = .ok (.iconst 1, 1) := dk_4 (dk_at dksX0_plan_1 19 rfl rfl)
theorem dX0_plan_43 : decode cX0_plan 43 = .ok (.invokevirtual 94, 3) := dk_182 0 94 (dk_at dksX0_plan_1 20 rfl rfl)
theorem dX0_plan_46 : decode cX0_plan 46 = .ok (.aload_n 0, 1) := dk_42 (dk_at dksX0_plan_1 23 rfl rfl)
theorem dX0_plan_47 : decode cX0_plan 47 = .ok (.aload_n 0, 1) := dk_42 (dk_at dksX0_plan_2 0 rfl rfl)
theorem dX0_plan_48 : decode cX0_plan 48 = .ok (.getfield 49, 3) := dk_180 0 49 (dk_at dksX0_plan_2 1 rfl rfl)
theorem dX0_plan_51 : decode cX0_plan 51 = .ok (.getfield 398, 3) := dk_180 1 142 (dk_at dksX0_plan_2 4 rfl rfl)
theorem dX0_plan_54 : decode cX0_plan 54 = .ok (.iload_n 1, 1) := dk_27 (dk_at dksX0_plan_2 7 rfl rfl)
theorem dX0_plan_55 : decode cX0_plan 55 = .ok (.iaload, 1) := dk_46 (dk_at dksX0_plan_2 8 rfl rfl)
theorem dX0_plan_56 : decode cX0_plan 56 = .ok (.bipush 10, 2) := dk_16 10 (dk_at dksX0_plan_2 9 rfl rfl)
theorem dX0_plan_58 : decode cX0_plan 58 = .ok (.if_icmp .ge 7, 3) := dk_162 0 7 (dk_at dksX0_plan_2 11 rfl rfl)
theorem dX0_plan_61 : decode cX0_plan 61 = .ok (.iconst 1, 1) := dk_4 (dk_at dksX0_plan_2 14 rfl rfl)
theorem dX0_plan_62 : decode cX0_plan 62 = .ok (.goto 4, 3) := dk_167 0 4 (dk_at dksX0_plan_2 15 rfl rfl)
theorem dX0_plan_65 : decode cX0_plan 65 = .ok (.iconst 0, 1) := dk_3 (dk_at dksX0_plan_2 18 rfl rfl)
theorem dX0_plan_66 : decode cX0_plan 66 = .ok (.iconst 4, 1) := dk_7 (dk_at dksX0_plan_2 19 rfl rfl)
theorem dX0_plan_67 : decode cX0_plan 67 = .ok (.invokevirtual 94, 3) := dk_182 0 94 (dk_at dksX0_plan_2 20 rfl rfl)
theorem dX0_plan_70 : decode cX0_plan 70 = .ok (.iconst 3, 1) := dk_6 (dk_at dksX0_plan_2 23 rfl rfl)
theorem dX0_plan_71 : decode cX0_plan 71 = .ok (.bipush 10, 2) := dk_16 10 (dk_at dksX0_plan_3 0 rfl rfl)
theorem dX0_plan_73 : decode cX0_plan 73 = .ok (.iload_n 1, 1) := dk_27 (dk_at dksX0_plan_3 2 rfl rfl)
theorem dX0_plan_74 : decode cX0_plan 74 = .ok (.imul, 1) := dk_104 (dk_at dksX0_plan_3 3 rfl rfl)
theorem dX0_plan_75 : decode cX0_plan 75 = .ok (.aload_n 0, 1) := dk_42 (dk_at dksX0_plan_3 4 rfl rfl)
theorem dX0_plan_76 : decode cX0_plan 76 = .ok (.getfield 49, 3) := dk_180 0 49 (dk_at dksX0_plan_3 5 rfl rfl)
theorem dX0_plan_79 : decode cX0_plan 79 = .ok (.getfield 398, 3) := dk_180 1 142 (dk_at dksX0_plan_3 8 rfl rfl)
theorem dX0_plan_82 : decode cX0_plan 82 = .ok (.iload_n 1, 1) := dk_27 (dk_at dksX0_plan_3 11 rfl rfl)
theorem dX0_plan_83 : decode cX0_plan 83 = .ok (.iaload, 1) := dk_46 (dk_at dksX0_plan_3 12 rfl rfl)
theorem dX0_plan_84 : decode cX0_plan 84 = .ok (.iadd, 1) := dk_96 (dk_at dksX0_plan_3 13 rfl rfl)
theorem dX0_plan_85 : decode cX0_plan 85 = .ok (.imul, 1) := dk_104 (dk_at dksX0_plan_3 14 rfl rfl)
theorem dX0_plan_86 : decode cX0_plan 86 = .ok (.istore 5, 2) := dk_54 5 (dk_at dksX0_plan_3 15 rfl rfl)
theorem dX0_plan_88 : decode cX0_plan 88 = .ok (.aload_n 0, 1) := dk_42 (dk_at dksX0_plan_3 17 rfl rfl)
theorem dX0_plan_89 : decode cX0_plan 89 = .ok (.getfield 49, 3) := dk_180 0 49 (dk_at dksX0_plan_3 18 rfl rfl)
theorem dX0_plan_92 : decode cX0_plan 92 = .ok (.getfield 401, 3) := dk_180 1 145 (dk_at dksX0_plan_3 21 rfl rfl)
theorem dX0_plan_95 : decode cX0_plan 95 = .ok (.iload 5, 2) := dk_21 5 (dk_at dksX0_plan_4 0 rfl rfl)
theorem dX0_plan_97 : decode cX0_plan 97 = .ok (.iload_n 2, 1) := dk_28 (dk_at dksX0_plan_4 2 rfl rfl)
theorem dX0_plan_98 : decode cX0_plan 98 = .ok (.iastore, 1) := dk_79 (dk_at dksX0_plan_4 3 rfl rfl)
theorem dX0_plan_99 : decode cX0_plan 99 = .ok (.aload_n 0, 1) := dk_42 (dk_at dksX0_plan_4 4 rfl rfl)
theorem dX0_plan_100 : decode cX0_plan 100 = .ok (.getfield 49, 3) := dk_180 0 49 (dk_at dksX0_plan_4 5 rfl rfl)
theorem dX0_plan_103 : decode cX0_plan 103 = .ok (.getfield 401, 3) := dk_180 1 145 (dk_at dksX0_plan_4 8 rfl rfl)
theorem dX0_plan_106 : decode cX0_plan 106 = .ok (.iload 5, 2) := dk_21 5 (dk_at dksX0_plan_4 11 rfl rfl)
theorem dX0_plan_108 : decode cX0_plan 108 = .ok (.iconst 1, 1) := dk_4 (dk_at dksX0_plan_4 13 rfl rfl)
theorem dX0_plan_109 : decode cX0_plan 109 = .ok (.iadd, 1) := dk_96 (dk_at dksX0_plan_4 14 rfl rfl)
theorem dX0_plan_110 : decode cX0_plan 110 = .ok (.iload_n 3, 1) := dk_29 (dk_at dksX0_plan_4 15 rfl rfl)
theorem dX0_plan_111 : decode cX0_plan 111 = .ok (.iastore, 1) := dk_79 (dk_at dksX0_plan_4 16 rfl rfl)
theorem dX0_plan_112 : decode cX0_plan 112 = .ok (.aload_n 0, 1) := dk_42 (dk_at dksX0_plan_4 17 rfl rfl)
theorem dX0_plan_113 : decode cX0_plan 113 = .ok (.getfield 49, 3) := dk_180 0 49 (dk_at dksX0_plan_4 18 rfl rfl)
theorem dX0_plan_116 : decode cX0_plan 116 = .ok (.getfield 401, 3) := dk_180 1 145 (dk_at dksX0_plan_4 21 rfl rfl)
theorem dX0_plan_119 : decode cX0_plan 119 = .ok (.iload 5, 2) := dk_21 5 (dk_at dksX0_plan_5 0 rfl rfl)
theorem dX0_plan_121 : decode cX0_plan 121 = .ok (.iconst 2, 1) := dk_5 (dk_at dksX0_plan_5 2 rfl rfl)
theorem dX0_plan_122 : decode cX0_plan 122 = .ok (.iadd, 1) := dk_96 (dk_at dksX0_plan_5 3 rfl rfl)
theorem dX0_plan_123 : decode cX0_plan 123 = .ok (.iload 4, 2) := dk_21 4 (dk_at dksX0_plan_5 4 rfl rfl)
theorem dX0_plan_125 : decode cX0_plan 125 = .ok (.iastore, 1) := dk_79 (dk_at dksX0_plan_5 6 rfl rfl)
theorem dX0_plan_126 : decode cX0_plan 126 = .ok (.aload_n 0, 1) := dk_42 (dk_at dksX0_plan_5 7 rfl rfl)
theorem dX0_plan_127 : decode cX0_plan 127 = .ok (.getfield 49, 3) := dk_180 0 49 (dk_at dksX0_plan_5 8 rfl rfl)
theorem dX0_plan_130 : decode cX0_plan 130 = .ok (.getfield 398, 3) := dk_180 1 142 (dk_at dksX0_plan_5 11 rfl rfl)
theorem dX0_plan_133 : decode cX0_plan 133 = .ok (.iload_n 1, 1) := dk_27 (dk_at dksX0_plan_5 14 rfl rfl)
theorem dX0_plan_134 : decode cX0_plan 134 = .ok (.dup2, 1) := dk_92 (dk_at dksX0_plan_5 15 rfl rfl)
theorem dX0_plan_135 : decode cX0_plan 135 = .ok (.iaload, 1) := dk_46 (dk_at dksX0_plan_5 16 rfl rfl)
theorem dX0_plan_136 : decode cX0_plan 136 = .ok (.iconst 1, 1) := dk_4 (dk_at dksX0_plan_5 17 rfl rfl)
theorem dX0_plan_137 : decode cX0_plan 137 = .ok (.iadd, 1) := dk_96 (dk_at dksX0_plan_5 18 rfl rfl)
theorem dX0_plan_138 : decode cX0_plan 138 = .ok (.iastore, 1) := dk_79 (dk_at dksX0_plan_5 19 rfl rfl)
theorem dX0_plan_139 : decode cX0_plan 139 = .ok (.aload_n 0, 1) := dk_42 (dk_at dksX0_plan_5 20 rfl rfl)
theorem dX0_plan_140 : decode cX0_plan 140 = .ok (.getfield 49, 3) := dk_180 0 49 (dk_at dksX0_plan_5 21 rfl rfl)
theorem dX0_plan_143 : decode cX0_plan 143 = .ok (.getfield 398, 3) := dk_180 1 142 (dk_at dksX0_plan_6 0 rfl rfl)
theorem dX0_plan_146 : decode cX0_plan 146 = .ok (.iload_n 1, 1) := dk_27 (dk_at dksX0_plan_6 3 rfl rfl)
theorem dX0_plan_147 : decode cX0_plan 147 = .ok (.iaload, 1) := dk_46 (dk_at dksX0_plan_6 4 rfl rfl)
theorem dX0_plan_148 : decode cX0_plan 148 = .ok (.ireturn, 1) := dk_172 (dk_at dksX0_plan_6 5 rfl rfl)
theorem dX0_plan_149 : decode cX0_plan 149 = .ok (.astore 5, 2) := dk_58 5 (dk_at dksX0_plan_6 6 rfl rfl)
theorem dX0_plan_151 : decode cX0_plan 151 = .ok (.aload_n 0, 1) := dk_42 (dk_at dksX0_plan_6 8 rfl rfl)
theorem dX0_plan_152 : decode cX0_plan 152 = .ok (.aload 5, 2) := dk_25 5 (dk_at dksX0_plan_6 9 rfl rfl)
theorem dX0_plan_154 : decode cX0_plan 154 = .ok (.invokevirtual 133, 3) := dk_182 0 133 (dk_at dksX0_plan_6 11 rfl rfl)
theorem dX0_plan_157 : decode cX0_plan 157 = .ok (.ireturn, 1) := dk_172 (dk_at dksX0_plan_6 14 rfl rfl)
abbrev cX0_cross : ByteArray := prog_1_method_59_code
def yX0_cross : MethodName := ⟨RX0, "cross", "(I)I"⟩
def dkwX0_cross_3 : List UInt8 := [182, 0, 94, 27, 154, 0, 7, 28, 167, 0, 7, 29, 184, 1, 151, 172, 77, 42, 44, 182, 0, 133, 172]
abbrev dktX0_cross_3 : List UInt8 := dkwX0_cross_3 ++ []
def dkwX0_cross_2 : List UInt8 := [154, 0, 7, 4, 167, 0, 4, 3, 96, 61, 167, 255, 213, 42, 29, 153, 0, 7, 4, 167, 0, 4, 3, 5]
abbrev dktX0_cross_2 : List UInt8 := dkwX0_cross_2 ++ dktX0_cross_3
def dkwX0_cross_1 : List UInt8 := [42, 180, 0, 49, 3, 28, 182, 1, 148, 42, 180, 0, 49, 4, 28, 182, 1, 148, 126, 62, 28, 29]
abbrev dktX0_cross_1 : List UInt8 := dkwX0_cross_1 ++ dktX0_cross_2
def dkwX0_cross_0 : List UInt8 := [42, 27, 184, 0, 122, 4, 182, 0, 94, 3, 61, 3, 62, 28, 17, 9, 95, 163, 0, 42, 29, 154, 0, 38]
abbrev dktX0_cross_0 : List UInt8 := dkwX0_cross_0 ++ dktX0_cross_1
theorem dksX0_cross_0 : cX0_cross.data.toList.drop 0 = dktX0_cross_0 := by decide +kernel
theorem dksX0_cross_1 : cX0_cross.data.toList.drop 24 = dktX0_cross_1 := dk_seg dksX0_cross_0 24 rfl rfl
theorem dksX0_cross_2 : cX0_cross.data.toList.drop 46 = dktX0_cross_2 := dk_seg dksX0_cross_1 22 rfl rfl
theorem dksX0_cross_3 : cX0_cross.data.toList.drop 70 = dktX0_cross_3 := dk_seg dksX0_cross_2 24 rfl rfl
theorem dX0_cross_0 : decode cX0_cross 0 = .ok (.aload_n 0, 1) := dk_42 (dk_at dksX0_cross_0 0 rfl rfl)
theorem dX0_cross_1 : decode cX0_cross 1 = .ok (.iload_n 1, 1) := dk_27 (dk_at dksX0_cross_0 1 rfl rfl)
theorem dX0_cross_2 : decode cX0_cross 2 = .ok (.invokestatic 122, 3) := dk_184 0 122 (dk_at dksX0_cross_0 2 rfl rfl)
theorem dX0_cross_5 : decode cX0_cross 5 = .ok (.iconst 1, 1) := dk_4 (dk_at dksX0_cross_0 5 rfl rfl)
theorem dX0_cross_6 : decode cX0_cross 6 = .ok (.invokevirtual 94, 3) := dk_182 0 94 (dk_at dksX0_cross_0 6 rfl rfl)
theorem dX0_cross_9 : decode cX0_cross 9 = .ok (.iconst 0, 1) := dk_3 (dk_at dksX0_cross_0 9 rfl rfl)
theorem dX0_cross_10 : decode cX0_cross 10 = .ok (.istore_n 2, 1) := dk_61 (dk_at dksX0_cross_0 10 rfl rfl)
theorem dX0_cross_11 : decode cX0_cross 11 = .ok (.iconst 0, 1) := dk_3 (dk_at dksX0_cross_0 11 rfl rfl)
theorem dX0_cross_12 : decode cX0_cross 12 = .ok (.istore_n 3, 1) := dk_62 (dk_at dksX0_cross_0 12 rfl rfl)
theorem dX0_cross_13 : decode cX0_cross 13 = .ok (.iload_n 2, 1) := dk_28 (dk_at dksX0_cross_0 13 rfl rfl)
theorem dX0_cross_14 : decode cX0_cross 14 = .ok (.sipush 2399, 3) := dk_17 9 95 (dk_at dksX0_cross_0 14 rfl rfl)
theorem dX0_cross_17 : decode cX0_cross 17 = .ok (.if_icmp .gt 42, 3) := dk_163 0 42 (dk_at dksX0_cross_0 17 rfl rfl)
theorem dX0_cross_20 : decode cX0_cross 20 = .ok (.iload_n 3, 1) := dk_29 (dk_at dksX0_cross_0 20 rfl rfl)
theorem dX0_cross_21 : decode cX0_cross 21 = .ok (.ifCond .ne 38, 3) := dk_154 0 38 (dk_at dksX0_cross_0 21 rfl rfl)
theorem dX0_cross_24 : decode cX0_cross 24 = .ok (.aload_n 0, 1) := dk_42 (dk_at dksX0_cross_1 0 rfl rfl)
theorem dX0_cross_25 : decode cX0_cross 25 = .ok (.getfield 49, 3) := dk_180 0 49 (dk_at dksX0_cross_1 1 rfl rfl)
theorem dX0_cross_28 : decode cX0_cross 28 = .ok (.iconst 0, 1) := dk_3 (dk_at dksX0_cross_1 4 rfl rfl)
theorem dX0_cross_29 : decode cX0_cross 29 = .ok (.iload_n 2, 1) := dk_28 (dk_at dksX0_cross_1 5 rfl rfl)
theorem dX0_cross_30 : decode cX0_cross 30 = .ok (.invokevirtual 404, 3) := dk_182 1 148 (dk_at dksX0_cross_1 6 rfl rfl)
theorem dX0_cross_33 : decode cX0_cross 33 = .ok (.aload_n 0, 1) := dk_42 (dk_at dksX0_cross_1 9 rfl rfl)
theorem dX0_cross_34 : decode cX0_cross 34 = .ok (.getfield 49, 3) := dk_180 0 49 (dk_at dksX0_cross_1 10 rfl rfl)
theorem dX0_cross_37 : decode cX0_cross 37 = .ok (.iconst 1, 1) := dk_4 (dk_at dksX0_cross_1 13 rfl rfl)
theorem dX0_cross_38 : decode cX0_cross 38 = .ok (.iload_n 2, 1) := dk_28 (dk_at dksX0_cross_1 14 rfl rfl)
theorem dX0_cross_39 : decode cX0_cross 39 = .ok (.invokevirtual 404, 3) := dk_182 1 148 (dk_at dksX0_cross_1 15 rfl rfl)
theorem dX0_cross_42 : decode cX0_cross 42 = .ok (.iand, 1) := dk_126 (dk_at dksX0_cross_1 18 rfl rfl)
theorem dX0_cross_43 : decode cX0_cross 43 = .ok (.istore_n 3, 1) := dk_62 (dk_at dksX0_cross_1 19 rfl rfl)
theorem dX0_cross_44 : decode cX0_cross 44 = .ok (.iload_n 2, 1) := dk_28 (dk_at dksX0_cross_1 20 rfl rfl)
theorem dX0_cross_45 : decode cX0_cross 45 = .ok (.iload_n 3, 1) := dk_29 (dk_at dksX0_cross_1 21 rfl rfl)
theorem dX0_cross_46 : decode cX0_cross 46 = .ok (.ifCond .ne 7, 3) := dk_154 0 7 (dk_at dksX0_cross_2 0 rfl rfl)
theorem dX0_cross_49 : decode cX0_cross 49 = .ok (.iconst 1, 1) := dk_4 (dk_at dksX0_cross_2 3 rfl rfl)
theorem dX0_cross_50 : decode cX0_cross 50 = .ok (.goto 4, 3) := dk_167 0 4 (dk_at dksX0_cross_2 4 rfl rfl)
theorem dX0_cross_53 : decode cX0_cross 53 = .ok (.iconst 0, 1) := dk_3 (dk_at dksX0_cross_2 7 rfl rfl)
theorem dX0_cross_54 : decode cX0_cross 54 = .ok (.iadd, 1) := dk_96 (dk_at dksX0_cross_2 8 rfl rfl)
theorem dX0_cross_55 : decode cX0_cross 55 = .ok (.istore_n 2, 1) := dk_61 (dk_at dksX0_cross_2 9 rfl rfl)
theorem dX0_cross_56 : decode cX0_cross 56 = .ok (.goto (-43), 3) := dk_167 255 213 (dk_at dksX0_cross_2 10 rfl rfl)
theorem dX0_cross_59 : decode cX0_cross 59 = .ok (.aload_n 0, 1) := dk_42 (dk_at dksX0_cross_2 13 rfl rfl)
theorem dX0_cross_60 : decode cX0_cross 60 = .ok (.iload_n 3, 1) := dk_29 (dk_at dksX0_cross_2 14 rfl rfl)
theorem dX0_cross_61 : decode cX0_cross 61 = .ok (.ifCond .eq 7, 3) := dk_153 0 7 (dk_at dksX0_cross_2 15 rfl rfl)
theorem dX0_cross_64 : decode cX0_cross 64 = .ok (.iconst 1, 1) := dk_4 (dk_at dksX0_cross_2 18 rfl rfl)
theorem dX0_cross_65 : decode cX0_cross 65 = .ok (.goto 4, 3) := dk_167 0 4 (dk_at dksX0_cross_2 19 rfl rfl)
theorem dX0_cross_68 : decode cX0_cross 68 = .ok (.iconst 0, 1) := dk_3 (dk_at dksX0_cross_2 22 rfl rfl)
theorem dX0_cross_69 : decode cX0_cross 69 = .ok (.iconst 2, 1) := dk_5 (dk_at dksX0_cross_2 23 rfl rfl)
theorem dX0_cross_70 : decode cX0_cross 70 = .ok (.invokevirtual 94, 3) := dk_182 0 94 (dk_at dksX0_cross_3 0 rfl rfl)
theorem dX0_cross_73 : decode cX0_cross 73 = .ok (.iload_n 1, 1) := dk_27 (dk_at dksX0_cross_3 3 rfl rfl)
theorem dX0_cross_74 : decode cX0_cross 74 = .ok (.ifCond .ne 7, 3) := dk_154 0 7 (dk_at dksX0_cross_3 4 rfl rfl)
theorem dX0_cross_77 : decode cX0_cross 77 = .ok (.iload_n 2, 1) := dk_28 (dk_at dksX0_cross_3 7 rfl rfl)
theorem dX0_cross_78 : decode cX0_cross 78 = .ok (.goto 7, 3) := dk_167 0 7 (dk_at dksX0_cross_3 8 rfl rfl)
theorem dX0_cross_81 : decode cX0_cross 81 = .ok (.iload_n 3, 1) := dk_29 (dk_at dksX0_cross_3 11 rfl rfl)
theorem dX0_cross_82 : decode cX0_cross 82 = .ok (.invokestatic 407, 3) := dk_184 1 151 (dk_at dksX0_cross_3 12 rfl rfl)
theorem dX0_cross_85 : decode cX0_cross 85 = .ok (.ireturn, 1) := dk_172 (dk_at dksX0_cross_3 15 rfl rfl)
theorem dX0_cross_86 : decode cX0_cross 86 = .ok (.astore_n 2, 1) := dk_77 (dk_at dksX0_cross_3 16 rfl rfl)
theorem dX0_cross_87 : decode cX0_cross 87 = .ok (.aload_n 0, 1) := dk_42 (dk_at dksX0_cross_3 17 rfl rfl)
theorem dX0_cross_88 : decode cX0_cross 88 = .ok (.aload_n 2, 1) := dk_44 (dk_at dksX0_cross_3 18 rfl rfl)
theorem dX0_cross_89 : decode cX0_cross 89 = .ok (.invokevirtual 133, 3) := dk_182 0 133 (dk_at dksX0_cross_3 19 rfl rfl)
theorem dX0_cross_92 : decode cX0_cross 92 = .ok (.ireturn, 1) := dk_172 (dk_at dksX0_cross_3 22 rfl rfl)
abbrev cX0_hour : ByteArray := prog_1_method_60_code
def yX0_hour : MethodName := ⟨RX0, "hour", "(II)I"⟩
def dkwX0_hour_2 : List UInt8 := [180, 1, 154, 27, 28, 79, 29, 172, 78, 42, 45, 182, 0, 133, 172]
abbrev dktX0_hour_2 : List UInt8 := dkwX0_hour_2 ++ []
def dkwX0_hour_1 : List UInt8 := [167, 0, 4, 3, 4, 182, 0, 94, 42, 180, 0, 49, 180, 1, 154, 27, 46, 62, 42, 180, 0, 49]
abbrev dktX0_hour_1 : List UInt8 := dkwX0_hour_1 ++ dktX0_hour_2
def dkwX0_hour_0 : List UInt8 := [42, 27, 3, 16, 7, 184, 0, 86, 153, 0, 17, 28, 3, 16, 24, 184, 0, 86, 153, 0, 7, 4]
abbrev dktX0_hour_0 : List UInt8 := dkwX0_hour_0 ++ dktX0_hour_1
theorem dksX0_hour_0 : cX0_hour.data.toList.drop 0 = dktX0_hour_0 := by decide +kernel
theorem dksX0_hour_1 : cX0_hour.data.toList.drop 22 = dktX0_hour_1 := dk_seg dksX0_hour_0 22 rfl rfl
theorem dksX0_hour_2 : cX0_hour.data.toList.drop 44 = dktX0_hour_2 := dk_seg dksX0_hour_1 22 rfl rfl
theorem dX0_hour_0 : decode cX0_hour 0 = .ok (.aload_n 0, 1) := dk_42 (dk_at dksX0_hour_0 0 rfl rfl)
theorem dX0_hour_1 : decode cX0_hour 1 = .ok (.iload_n 1, 1) := dk_27 (dk_at dksX0_hour_0 1 rfl rfl)
theorem dX0_hour_2 : decode cX0_hour 2 = .ok (.iconst 0, 1) := dk_3 (dk_at dksX0_hour_0 2 rfl rfl)
theorem dX0_hour_3 : decode cX0_hour 3 = .ok (.bipush 7, 2) := dk_16 7 (dk_at dksX0_hour_0 3 rfl rfl)
theorem dX0_hour_5 : decode cX0_hour 5 = .ok (.invokestatic 86, 3) := dk_184 0 86 (dk_at dksX0_hour_0 5 rfl rfl)
theorem dX0_hour_8 : decode cX0_hour 8 = .ok (.ifCond .eq 17, 3) := dk_153 0 17 (dk_at dksX0_hour_0 8 rfl rfl)
theorem dX0_hour_11 : decode cX0_hour 11 = .ok (.iload_n 2, 1) := dk_28 (dk_at dksX0_hour_0 11 rfl rfl)
theorem dX0_hour_12 : decode cX0_hour 12 = .ok (.iconst 0, 1) := dk_3 (dk_at dksX0_hour_0 12 rfl rfl)
theorem dX0_hour_13 : decode cX0_hour 13 = .ok (.bipush 24, 2) := dk_16 24 (dk_at dksX0_hour_0 13 rfl rfl)
theorem dX0_hour_15 : decode cX0_hour 15 = .ok (.invokestatic 86, 3) := dk_184 0 86 (dk_at dksX0_hour_0 15 rfl rfl)
theorem dX0_hour_18 : decode cX0_hour 18 = .ok (.ifCond .eq 7, 3) := dk_153 0 7 (dk_at dksX0_hour_0 18 rfl rfl)
theorem dX0_hour_21 : decode cX0_hour 21 = .ok (.iconst 1, 1) := dk_4 (dk_at dksX0_hour_0 21 rfl rfl)
theorem dX0_hour_22 : decode cX0_hour 22 = .ok (.goto 4, 3) := dk_167 0 4 (dk_at dksX0_hour_1 0 rfl rfl)
theorem dX0_hour_25 : decode cX0_hour 25 = .ok (.iconst 0, 1) := dk_3 (dk_at dksX0_hour_1 3 rfl rfl)
theorem dX0_hour_26 : decode cX0_hour 26 = .ok (.iconst 1, 1) := dk_4 (dk_at dksX0_hour_1 4 rfl rfl)
theorem dX0_hour_27 : decode cX0_hour 27 = .ok (.invokevirtual 94, 3) := dk_182 0 94 (dk_at dksX0_hour_1 5 rfl rfl)
theorem dX0_hour_30 : decode cX0_hour 30 = .ok (.aload_n 0, 1) := dk_42 (dk_at dksX0_hour_1 8 rfl rfl)
theorem dX0_hour_31 : decode cX0_hour 31 = .ok (.getfield 49, 3) := dk_180 0 49 (dk_at dksX0_hour_1 9 rfl rfl)
theorem dX0_hour_34 : decode cX0_hour 34 = .ok (.getfield 410, 3) := dk_180 1 154 (dk_at dksX0_hour_1 12 rfl rfl)
theorem dX0_hour_37 : decode cX0_hour 37 = .ok (.iload_n 1, 1) := dk_27 (dk_at dksX0_hour_1 15 rfl rfl)
theorem dX0_hour_38 : decode cX0_hour 38 = .ok (.iaload, 1) := dk_46 (dk_at dksX0_hour_1 16 rfl rfl)
theorem dX0_hour_39 : decode cX0_hour 39 = .ok (.istore_n 3, 1) := dk_62 (dk_at dksX0_hour_1 17 rfl rfl)
theorem dX0_hour_40 : decode cX0_hour 40 = .ok (.aload_n 0, 1) := dk_42 (dk_at dksX0_hour_1 18 rfl rfl)
theorem dX0_hour_41 : decode cX0_hour 41 = .ok (.getfield 49, 3) := dk_180 0 49 (dk_at dksX0_hour_1 19 rfl rfl)
theorem dX0_hour_44 : decode cX0_hour 44 = .ok (.getfield 410, 3) := dk_180 1 154 (dk_at dksX0_hour_2 0 rfl rfl)
theorem dX0_hour_47 : decode cX0_hour 47 = .ok (.iload_n 1, 1) := dk_27 (dk_at dksX0_hour_2 3 rfl rfl)
theorem dX0_hour_48 : decode cX0_hour 48 = .ok (.iload_n 2, 1) := dk_28 (dk_at dksX0_hour_2 4 rfl rfl)
theorem dX0_hour_49 : decode cX0_hour 49 = .ok (.iastore, 1) := dk_79 (dk_at dksX0_hour_2 5 rfl rfl)
theorem dX0_hour_50 : decode cX0_hour 50 = .ok (.iload_n 3, 1) := dk_29 (dk_at dksX0_hour_2 6 rfl rfl)
theorem dX0_hour_51 : decode cX0_hour 51 = .ok (.ireturn, 1) := dk_172 (dk_at dksX0_hour_2 7 rfl rfl)
theorem dX0_hour_52 : decode cX0_hour 52 = .ok (.astore_n 3, 1) := dk_78 (dk_at dksX0_hour_2 8 rfl rfl)
theorem dX0_hour_53 : decode cX0_hour 53 = .ok (.aload_n 0, 1) := dk_42 (dk_at dksX0_hour_2 9 rfl rfl)
theorem dX0_hour_54 : decode cX0_hour 54 = .ok (.aload_n 3, 1) := dk_45 (dk_at dksX0_hour_2 10 rfl rfl)
theorem dX0_hour_55 : decode cX0_hour 55 = .ok (.invokevirtual 133, 3) := dk_182 0 133 (dk_at dksX0_hour_2 11 rfl rfl)
theorem dX0_hour_58 : decode cX0_hour 58 = .ok (.ireturn, 1) := dk_172 (dk_at dksX0_hour_2 14 rfl rfl)
abbrev cX0_table : ByteArray := prog_1_method_65_code
def yX0_table : MethodName := ⟨RX0, "table", "(III)J"⟩
def dkwX0_table_2 : List UInt8 := [112, 29, 182, 1, 164, 173, 58, 4, 42, 25, 4, 182, 0, 133, 133, 173]
abbrev dktX0_table_2 : List UInt8 := dkwX0_table_2 ++ []
def dkwX0_table_1 : List UInt8 := [184, 0, 86, 153, 0, 7, 4, 167, 0, 4, 3, 4, 182, 0, 94, 42, 27, 28, 16, 10, 108, 28, 16, 10]
abbrev dktX0_table_1 : List UInt8 := dkwX0_table_1 ++ dktX0_table_2
def dkwX0_table_0 : List UInt8 := [42, 27, 3, 16, 8, 184, 0, 86, 153, 0, 24, 28, 184, 1, 58, 153, 0, 17, 29, 3, 16, 24]
abbrev dktX0_table_0 : List UInt8 := dkwX0_table_0 ++ dktX0_table_1
theorem dksX0_table_0 : cX0_table.data.toList.drop 0 = dktX0_table_0 := by decide +kernel
theorem dksX0_table_1 : cX0_table.data.toList.drop 22 = dktX0_table_1 := dk_seg dksX0_table_0 22 rfl rfl
theorem dksX0_table_2 : cX0_table.data.toList.drop 46 = dktX0_table_2 := dk_seg dksX0_table_1 24 rfl rfl
theorem dX0_table_0 : decode cX0_table 0 = .ok (.aload_n 0, 1) := dk_42 (dk_at dksX0_table_0 0 rfl rfl)
theorem dX0_table_1 : decode cX0_table 1 = .ok (.iload_n 1, 1) := dk_27 (dk_at dksX0_table_0 1 rfl rfl)
theorem dX0_table_2 : decode cX0_table 2 = .ok (.iconst 0, 1) := dk_3 (dk_at dksX0_table_0 2 rfl rfl)
theorem dX0_table_3 : decode cX0_table 3 = .ok (.bipush 8, 2) := dk_16 8 (dk_at dksX0_table_0 3 rfl rfl)
theorem dX0_table_5 : decode cX0_table 5 = .ok (.invokestatic 86, 3) := dk_184 0 86 (dk_at dksX0_table_0 5 rfl rfl)
theorem dX0_table_8 : decode cX0_table 8 = .ok (.ifCond .eq 24, 3) := dk_153 0 24 (dk_at dksX0_table_0 8 rfl rfl)
theorem dX0_table_11 : decode cX0_table 11 = .ok (.iload_n 2, 1) := dk_28 (dk_at dksX0_table_0 11 rfl rfl)
theorem dX0_table_12 : decode cX0_table 12 = .ok (.invokestatic 314, 3) := dk_184 1 58 (dk_at dksX0_table_0 12 rfl rfl)
theorem dX0_table_15 : decode cX0_table 15 = .ok (.ifCond .eq 17, 3) := dk_153 0 17 (dk_at dksX0_table_0 15 rfl rfl)
theorem dX0_table_18 : decode cX0_table 18 = .ok (.iload_n 3, 1) := dk_29 (dk_at dksX0_table_0 18 rfl rfl)
theorem dX0_table_19 : decode cX0_table 19 = .ok (.iconst 0, 1) := dk_3 (dk_at dksX0_table_0 19 rfl rfl)
theorem dX0_table_20 : decode cX0_table 20 = .ok (.bipush 24, 2) := dk_16 24 (dk_at dksX0_table_0 20 rfl rfl)
theorem dX0_table_22 : decode cX0_table 22 = .ok (.invokestatic 86, 3) := dk_184 0 86 (dk_at dksX0_table_1 0 rfl rfl)
theorem dX0_table_25 : decode cX0_table 25 = .ok (.ifCond .eq 7, 3) := dk_153 0 7 (dk_at dksX0_table_1 3 rfl rfl)
theorem dX0_table_28 : decode cX0_table 28 = .ok (.iconst 1, 1) := dk_4 (dk_at dksX0_table_1 6 rfl rfl)
theorem dX0_table_29 : decode cX0_table 29 = .ok (.goto 4, 3) := dk_167 0 4 (dk_at dksX0_table_1 7 rfl rfl)
theorem dX0_table_32 : decode cX0_table 32 = .ok (.iconst 0, 1) := dk_3 (dk_at dksX0_table_1 10 rfl rfl)
theorem dX0_table_33 : decode cX0_table 33 = .ok (.iconst 1, 1) := dk_4 (dk_at dksX0_table_1 11 rfl rfl)
theorem dX0_table_34 : decode cX0_table 34 = .ok (.invokevirtual 94, 3) := dk_182 0 94 (dk_at dksX0_table_1 12 rfl rfl)
theorem dX0_table_37 : decode cX0_table 37 = .ok (.aload_n 0, 1) := dk_42 (dk_at dksX0_table_1 15 rfl rfl)
theorem dX0_table_38 : decode cX0_table 38 = .ok (.iload_n 1, 1) := dk_27 (dk_at dksX0_table_1 16 rfl rfl)
theorem dX0_table_39 : decode cX0_table 39 = .ok (.iload_n 2, 1) := dk_28 (dk_at dksX0_table_1 17 rfl rfl)
theorem dX0_table_40 : decode cX0_table 40 = .ok (.bipush 10, 2) := dk_16 10 (dk_at dksX0_table_1 18 rfl rfl)
theorem dX0_table_42 : decode cX0_table 42 = .ok (.idiv, 1) := dk_108 (dk_at dksX0_table_1 20 rfl rfl)
theorem dX0_table_43 : decode cX0_table 43 = .ok (.iload_n 2, 1) := dk_28 (dk_at dksX0_table_1 21 rfl rfl)
theorem dX0_table_44 : decode cX0_table 44 = .ok (.bipush 10, 2) := dk_16 10 (dk_at dksX0_table_1 22 rfl rfl)
theorem dX0_table_46 : decode cX0_table 46 = .ok (.irem, 1) := dk_112 (dk_at dksX0_table_2 0 rfl rfl)
theorem dX0_table_47 : decode cX0_table 47 = .ok (.iload_n 3, 1) := dk_29 (dk_at dksX0_table_2 1 rfl rfl)
theorem dX0_table_48 : decode cX0_table 48 = .ok (.invokevirtual 420, 3) := dk_182 1 164 (dk_at dksX0_table_2 2 rfl rfl)
theorem dX0_table_51 : decode cX0_table 51 = .ok (.lreturn, 1) := dk_173 (dk_at dksX0_table_2 5 rfl rfl)
theorem dX0_table_52 : decode cX0_table 52 = .ok (.astore 4, 2) := dk_58 4 (dk_at dksX0_table_2 6 rfl rfl)
theorem dX0_table_54 : decode cX0_table 54 = .ok (.aload_n 0, 1) := dk_42 (dk_at dksX0_table_2 8 rfl rfl)
theorem dX0_table_55 : decode cX0_table 55 = .ok (.aload 4, 2) := dk_25 4 (dk_at dksX0_table_2 9 rfl rfl)
theorem dX0_table_57 : decode cX0_table 57 = .ok (.invokevirtual 133, 3) := dk_182 0 133 (dk_at dksX0_table_2 11 rfl rfl)
theorem dX0_table_60 : decode cX0_table 60 = .ok (.i2l, 1) := dk_133 (dk_at dksX0_table_2 14 rfl rfl)
theorem dX0_table_61 : decode cX0_table 61 = .ok (.lreturn, 1) := dk_173 (dk_at dksX0_table_2 15 rfl rfl)
abbrev cX0_tableOf : ByteArray := prog_1_method_64_code
def yX0_tableOf : MethodName := ⟨RX0, "tableOf", "(IIII)J"⟩
def dkwX0_tableOf_1 : List UInt8 := [182, 1, 170, 184, 1, 173, 173]
abbrev dktX0_tableOf_1 : List UInt8 := dkwX0_tableOf_1 ++ []
def dkwX0_tableOf_0 : List UInt8 := [27, 16, 8, 160, 0, 7, 9, 167, 0, 21, 42, 27, 29, 182, 1, 167, 42, 27, 28, 29, 21, 4]
abbrev dktX0_tableOf_0 : List UInt8 := dkwX0_tableOf_0 ++ dktX0_tableOf_1
theorem dksX0_tableOf_0 : cX0_tableOf.data.toList.drop 0 = dktX0_tableOf_0 := by decide +kernel
theorem dksX0_tableOf_1 : cX0_tableOf.data.toList.drop 22 = dktX0_tableOf_1 := dk_seg dksX0_tableOf_0 22 rfl rfl
theorem dX0_tableOf_0 : decode cX0_tableOf 0 = .ok (.iload_n 1, 1) := dk_27 (dk_at dksX0_tableOf_0 0 rfl rfl)
theorem dX0_tableOf_1 : decode cX0_tableOf 1 = .ok (.bipush 8, 2) := dk_16 8 (dk_at dksX0_tableOf_0 1 rfl rfl)
theorem dX0_tableOf_3 : decode cX0_tableOf 3 = .ok (.if_icmp .ne 7, 3) := dk_160 0 7 (dk_at dksX0_tableOf_0 3 rfl rfl)
theorem dX0_tableOf_6 : decode cX0_tableOf 6 = .ok (.lconst 0, 1) := dk_9 (dk_at dksX0_tableOf_0 6 rfl rfl)
theorem dX0_tableOf_7 : decode cX0_tableOf 7 = .ok (.goto 21, 3) := dk_167 0 21 (dk_at dksX0_tableOf_0 7 rfl rfl)
theorem dX0_tableOf_10 : decode cX0_tableOf 10 = .ok (.aload_n 0, 1) := dk_42 (dk_at dksX0_tableOf_0 10 rfl rfl)
theorem dX0_tableOf_11 : decode cX0_tableOf 11 = .ok (.iload_n 1, 1) := dk_27 (dk_at dksX0_tableOf_0 11 rfl rfl)
theorem dX0_tableOf_12 : decode cX0_tableOf 12 = .ok (.iload_n 3, 1) := dk_29 (dk_at dksX0_tableOf_0 12 rfl rfl)
theorem dX0_tableOf_13 : decode cX0_tableOf 13 = .ok (.invokevirtual 423, 3) := dk_182 1 167 (dk_at dksX0_tableOf_0 13 rfl rfl)
theorem dX0_tableOf_16 : decode cX0_tableOf 16 = .ok (.aload_n 0, 1) := dk_42 (dk_at dksX0_tableOf_0 16 rfl rfl)
theorem dX0_tableOf_17 : decode cX0_tableOf 17 = .ok (.iload_n 1, 1) := dk_27 (dk_at dksX0_tableOf_0 17 rfl rfl)
theorem dX0_tableOf_18 : decode cX0_tableOf 18 = .ok (.iload_n 2, 1) := dk_28 (dk_at dksX0_tableOf_0 18 rfl rfl)
theorem dX0_tableOf_19 : decode cX0_tableOf 19 = .ok (.iload_n 3, 1) := dk_29 (dk_at dksX0_tableOf_0 19 rfl rfl)
theorem dX0_tableOf_20 : decode cX0_tableOf 20 = .ok (.iload 4, 2) := dk_21 4 (dk_at dksX0_tableOf_0 20 rfl rfl)
theorem dX0_tableOf_22 : decode cX0_tableOf 22 = .ok (.invokevirtual 426, 3) := dk_182 1 170 (dk_at dksX0_tableOf_1 0 rfl rfl)
theorem dX0_tableOf_25 : decode cX0_tableOf 25 = .ok (.invokestatic 429, 3) := dk_184 1 173 (dk_at dksX0_tableOf_1 3 rfl rfl)
theorem dX0_tableOf_28 : decode cX0_tableOf 28 = .ok (.lreturn, 1) := dk_173 (dk_at dksX0_tableOf_1 6 rfl rfl)
abbrev cX0_going : ByteArray := prog_1_method_62_code
def yX0_going : MethodName := ⟨RX0, "going", "(II)J"⟩
def dkwX0_going_1 : List UInt8 := [27, 100, 184, 1, 160, 105, 173]
abbrev dktX0_going_1 : List UInt8 := dkwX0_going_1 ++ []
def dkwX0_going_0 : List UInt8 := [42, 180, 0, 49, 180, 0, 196, 27, 42, 180, 0, 49, 180, 1, 154, 27, 46, 182, 1, 157, 133, 28, 16, 8]
abbrev dktX0_going_0 : List UInt8 := dkwX0_going_0 ++ dktX0_going_1
theorem dksX0_going_0 : cX0_going.data.toList.drop 0 = dktX0_going_0 := by decide +kernel
theorem dksX0_going_1 : cX0_going.data.toList.drop 24 = dktX0_going_1 := dk_seg dksX0_going_0 24 rfl rfl
theorem dX0_going_0 : decode cX0_going 0 = .ok (.aload_n 0, 1) := dk_42 (dk_at dksX0_going_0 0 rfl rfl)
theorem dX0_going_1 : decode cX0_going 1 = .ok (.getfield 49, 3) := dk_180 0 49 (dk_at dksX0_going_0 1 rfl rfl)
theorem dX0_going_4 : decode cX0_going 4 = .ok (.getfield 196, 3) := dk_180 0 196 (dk_at dksX0_going_0 4 rfl rfl)
theorem dX0_going_7 : decode cX0_going 7 = .ok (.iload_n 1, 1) := dk_27 (dk_at dksX0_going_0 7 rfl rfl)
theorem dX0_going_8 : decode cX0_going 8 = .ok (.aload_n 0, 1) := dk_42 (dk_at dksX0_going_0 8 rfl rfl)
theorem dX0_going_9 : decode cX0_going 9 = .ok (.getfield 49, 3) := dk_180 0 49 (dk_at dksX0_going_0 9 rfl rfl)
theorem dX0_going_12 : decode cX0_going 12 = .ok (.getfield 410, 3) := dk_180 1 154 (dk_at dksX0_going_0 12 rfl rfl)
theorem dX0_going_15 : decode cX0_going 15 = .ok (.iload_n 1, 1) := dk_27 (dk_at dksX0_going_0 15 rfl rfl)
theorem dX0_going_16 : decode cX0_going 16 = .ok (.iaload, 1) := dk_46 (dk_at dksX0_going_0 16 rfl rfl)
theorem dX0_going_17 : decode cX0_going 17 = .ok (.invokevirtual 413, 3) := dk_182 1 157 (dk_at dksX0_going_0 17 rfl rfl)
theorem dX0_going_20 : decode cX0_going 20 = .ok (.i2l, 1) := dk_133 (dk_at dksX0_going_0 20 rfl rfl)
theorem dX0_going_21 : decode cX0_going 21 = .ok (.iload_n 2, 1) := dk_28 (dk_at dksX0_going_0 21 rfl rfl)
theorem dX0_going_22 : decode cX0_going 22 = .ok (.bipush 8, 2) := dk_16 8 (dk_at dksX0_going_0 22 rfl rfl)
theorem dX0_going_24 : decode cX0_going 24 = .ok (.iload_n 1, 1) := dk_27 (dk_at dksX0_going_1 0 rfl rfl)
theorem dX0_going_25 : decode cX0_going 25 = .ok (.isub, 1) := dk_100 (dk_at dksX0_going_1 1 rfl rfl)
theorem dX0_going_26 : decode cX0_going 26 = .ok (.invokestatic 416, 3) := dk_184 1 160 (dk_at dksX0_going_1 2 rfl rfl)
theorem dX0_going_29 : decode cX0_going 29 = .ok (.lmul, 1) := dk_105 (dk_at dksX0_going_1 5 rfl rfl)
theorem dX0_going_30 : decode cX0_going 30 = .ok (.lreturn, 1) := dk_173 (dk_at dksX0_going_1 6 rfl rfl)
abbrev cX0_power : ByteArray := prog_1_method_61_code
def yX0_power : MethodName := ⟨RX0, "power", "(II)J"⟩
def dkwX0_power_0 : List UInt8 := [10, 65, 3, 54, 4, 21, 4, 27, 162, 0, 14, 32, 26, 133, 105, 65, 132, 4, 1, 167, 255, 242, 32, 173]
abbrev dktX0_power_0 : List UInt8 := dkwX0_power_0 ++ []
theorem dksX0_power_0 : cX0_power.data.toList.drop 0 = dktX0_power_0 := by decide +kernel
theorem dX0_power_0 : decode cX0_power 0 = .ok (.lconst 1, 1) := dk_10 (dk_at dksX0_power_0 0 rfl rfl)
theorem dX0_power_1 : decode cX0_power 1 = .ok (.lstore_n 2, 1) := dk_65 (dk_at dksX0_power_0 1 rfl rfl)
theorem dX0_power_2 : decode cX0_power 2 = .ok (.iconst 0, 1) := dk_3 (dk_at dksX0_power_0 2 rfl rfl)
theorem dX0_power_3 : decode cX0_power 3 = .ok (.istore 4, 2) := dk_54 4 (dk_at dksX0_power_0 3 rfl rfl)
theorem dX0_power_5 : decode cX0_power 5 = .ok (.iload 4, 2) := dk_21 4 (dk_at dksX0_power_0 5 rfl rfl)
theorem dX0_power_7 : decode cX0_power 7 = .ok (.iload_n 1, 1) := dk_27 (dk_at dksX0_power_0 7 rfl rfl)
theorem dX0_power_8 : decode cX0_power 8 = .ok (.if_icmp .ge 14, 3) := dk_162 0 14 (dk_at dksX0_power_0 8 rfl rfl)
theorem dX0_power_11 : decode cX0_power 11 = .ok (.lload_n 2, 1) := dk_32 (dk_at dksX0_power_0 11 rfl rfl)
theorem dX0_power_12 : decode cX0_power 12 = .ok (.iload_n 0, 1) := dk_26 (dk_at dksX0_power_0 12 rfl rfl)
theorem dX0_power_13 : decode cX0_power 13 = .ok (.i2l, 1) := dk_133 (dk_at dksX0_power_0 13 rfl rfl)
theorem dX0_power_14 : decode cX0_power 14 = .ok (.lmul, 1) := dk_105 (dk_at dksX0_power_0 14 rfl rfl)
theorem dX0_power_15 : decode cX0_power 15 = .ok (.lstore_n 2, 1) := dk_65 (dk_at dksX0_power_0 15 rfl rfl)
theorem dX0_power_16 : decode cX0_power 16 = .ok (.iinc 4 1, 3) := dk_132 4 1 (dk_at dksX0_power_0 16 rfl rfl)
theorem dX0_power_19 : decode cX0_power 19 = .ok (.goto (-14), 3) := dk_167 255 242 (dk_at dksX0_power_0 19 rfl rfl)
theorem dX0_power_22 : decode cX0_power 22 = .ok (.lload_n 2, 1) := dk_32 (dk_at dksX0_power_0 22 rfl rfl)
theorem dX0_power_23 : decode cX0_power 23 = .ok (.lreturn, 1) := dk_173 (dk_at dksX0_power_0 23 rfl rfl)
abbrev cX0_staying : ByteArray := prog_1_method_63_code
def yX0_staying : MethodName := ⟨RX0, "staying", "(IIII)J"⟩
def dkwX0_staying_1 : List UInt8 := [21, 4, 182, 1, 164, 105, 97, 173]
abbrev dktX0_staying_1 : List UInt8 := dkwX0_staying_1 ++ []
def dkwX0_staying_0 : List UInt8 := [28, 21, 4, 104, 133, 29, 16, 7, 27, 100, 184, 1, 160, 105, 29, 28, 100, 133, 42, 27, 4, 96, 28, 29]
abbrev dktX0_staying_0 : List UInt8 := dkwX0_staying_0 ++ dktX0_staying_1
theorem dksX0_staying_0 : cX0_staying.data.toList.drop 0 = dktX0_staying_0 := by decide +kernel
theorem dksX0_staying_1 : cX0_staying.data.toList.drop 24 = dktX0_staying_1 := dk_seg dksX0_staying_0 24 rfl rfl
theorem dX0_staying_0 : decode cX0_staying 0 = .ok (.iload_n 2, 1) := dk_28 (dk_at dksX0_staying_0 0 rfl rfl)
theorem dX0_staying_1 : decode cX0_staying 1 = .ok (.iload 4, 2) := dk_21 4 (dk_at dksX0_staying_0 1 rfl rfl)
theorem dX0_staying_3 : decode cX0_staying 3 = .ok (.imul, 1) := dk_104 (dk_at dksX0_staying_0 3 rfl rfl)
theorem dX0_staying_4 : decode cX0_staying 4 = .ok (.i2l, 1) := dk_133 (dk_at dksX0_staying_0 4 rfl rfl)
theorem dX0_staying_5 : decode cX0_staying 5 = .ok (.iload_n 3, 1) := dk_29 (dk_at dksX0_staying_0 5 rfl rfl)
theorem dX0_staying_6 : decode cX0_staying 6 = .ok (.bipush 7, 2) := dk_16 7 (dk_at dksX0_staying_0 6 rfl rfl)
theorem dX0_staying_8 : decode cX0_staying 8 = .ok (.iload_n 1, 1) := dk_27 (dk_at dksX0_staying_0 8 rfl rfl)
theorem dX0_staying_9 : decode cX0_staying 9 = .ok (.isub, 1) := dk_100 (dk_at dksX0_staying_0 9 rfl rfl)
theorem dX0_staying_10 : decode cX0_staying 10 = .ok (.invokestatic 416, 3) := dk_184 1 160 (dk_at dksX0_staying_0 10 rfl rfl)
theorem dX0_staying_13 : decode cX0_staying 13 = .ok (.lmul, 1) := dk_105 (dk_at dksX0_staying_0 13 rfl rfl)
theorem dX0_staying_14 : decode cX0_staying 14 = .ok (.iload_n 3, 1) := dk_29 (dk_at dksX0_staying_0 14 rfl rfl)
theorem dX0_staying_15 : decode cX0_staying 15 = .ok (.iload_n 2, 1) := dk_28 (dk_at dksX0_staying_0 15 rfl rfl)
theorem dX0_staying_16 : decode cX0_staying 16 = .ok (.isub, 1) := dk_100 (dk_at dksX0_staying_0 16 rfl rfl)
theorem dX0_staying_17 : decode cX0_staying 17 = .ok (.i2l, 1) := dk_133 (dk_at dksX0_staying_0 17 rfl rfl)
theorem dX0_staying_18 : decode cX0_staying 18 = .ok (.aload_n 0, 1) := dk_42 (dk_at dksX0_staying_0 18 rfl rfl)
theorem dX0_staying_19 : decode cX0_staying 19 = .ok (.iload_n 1, 1) := dk_27 (dk_at dksX0_staying_0 19 rfl rfl)
theorem dX0_staying_20 : decode cX0_staying 20 = .ok (.iconst 1, 1) := dk_4 (dk_at dksX0_staying_0 20 rfl rfl)
theorem dX0_staying_21 : decode cX0_staying 21 = .ok (.iadd, 1) := dk_96 (dk_at dksX0_staying_0 21 rfl rfl)
theorem dX0_staying_22 : decode cX0_staying 22 = .ok (.iload_n 2, 1) := dk_28 (dk_at dksX0_staying_0 22 rfl rfl)
theorem dX0_staying_23 : decode cX0_staying 23 = .ok (.iload_n 3, 1) := dk_29 (dk_at dksX0_staying_0 23 rfl rfl)
theorem dX0_staying_24 : decode cX0_staying 24 = .ok (.iload 4, 2) := dk_21 4 (dk_at dksX0_staying_1 0 rfl rfl)
theorem dX0_staying_26 : decode cX0_staying 26 = .ok (.invokevirtual 420, 3) := dk_182 1 164 (dk_at dksX0_staying_1 2 rfl rfl)
theorem dX0_staying_29 : decode cX0_staying 29 = .ok (.lmul, 1) := dk_105 (dk_at dksX0_staying_1 5 rfl rfl)
theorem dX0_staying_30 : decode cX0_staying 30 = .ok (.ladd, 1) := dk_97 (dk_at dksX0_staying_1 6 rfl rfl)
theorem dX0_staying_31 : decode cX0_staying 31 = .ok (.lreturn, 1) := dk_173 (dk_at dksX0_staying_1 7 rfl rfl)
abbrev cX0_decide : ByteArray := prog_1_method_66_code
def yX0_decide : MethodName := ⟨RX0, "decide", "(III)I"⟩
def dkwX0_decide_3 : List UInt8 := [58, 4, 42, 25, 4, 182, 0, 133, 172]
abbrev dktX0_decide_3 : List UInt8 := dkwX0_decide_3 ++ []
def dkwX0_decide_2 : List UInt8 := [42, 27, 28, 16, 10, 108, 28, 16, 10, 112, 29, 182, 1, 170, 148, 155, 0, 7, 3, 167, 0, 4, 4, 172]
abbrev dktX0_decide_2 : List UInt8 := dkwX0_decide_2 ++ dktX0_decide_3
def dkwX0_decide_1 : List UInt8 := [184, 0, 86, 153, 0, 7, 4, 167, 0, 4, 3, 4, 182, 0, 94, 42, 27, 28, 16, 10, 112, 182, 1, 167]
abbrev dktX0_decide_1 : List UInt8 := dkwX0_decide_1 ++ dktX0_decide_2
def dkwX0_decide_0 : List UInt8 := [42, 27, 3, 16, 7, 184, 0, 86, 153, 0, 24, 28, 184, 1, 58, 153, 0, 17, 29, 3, 16, 24]
abbrev dktX0_decide_0 : List UInt8 := dkwX0_decide_0 ++ dktX0_decide_1
theorem dksX0_decide_0 : cX0_decide.data.toList.drop 0 = dktX0_decide_0 := by decide +kernel
theorem dksX0_decide_1 : cX0_decide.data.toList.drop 22 = dktX0_decide_1 := dk_seg dksX0_decide_0 22 rfl rfl
theorem dksX0_decide_2 : cX0_decide.data.toList.drop 46 = dktX0_decide_2 := dk_seg dksX0_decide_1 24 rfl rfl
theorem dksX0_decide_3 : cX0_decide.data.toList.drop 70 = dktX0_decide_3 := dk_seg dksX0_decide_2 24 rfl rfl
theorem dX0_decide_0 : decode cX0_decide 0 = .ok (.aload_n 0, 1) := dk_42 (dk_at dksX0_decide_0 0 rfl rfl)
theorem dX0_decide_1 : decode cX0_decide 1 = .ok (.iload_n 1, 1) := dk_27 (dk_at dksX0_decide_0 1 rfl rfl)
theorem dX0_decide_2 : decode cX0_decide 2 = .ok (.iconst 0, 1) := dk_3 (dk_at dksX0_decide_0 2 rfl rfl)
theorem dX0_decide_3 : decode cX0_decide 3 = .ok (.bipush 7, 2) := dk_16 7 (dk_at dksX0_decide_0 3 rfl rfl)
theorem dX0_decide_5 : decode cX0_decide 5 = .ok (.invokestatic 86, 3) := dk_184 0 86 (dk_at dksX0_decide_0 5 rfl rfl)
theorem dX0_decide_8 : decode cX0_decide 8 = .ok (.ifCond .eq 24, 3) := dk_153 0 24 (dk_at dksX0_decide_0 8 rfl rfl)
theorem dX0_decide_11 : decode cX0_decide 11 = .ok (.iload_n 2, 1) := dk_28 (dk_at dksX0_decide_0 11 rfl rfl)
theorem dX0_decide_12 : decode cX0_decide 12 = .ok (.invokestatic 314, 3) := dk_184 1 58 (dk_at dksX0_decide_0 12 rfl rfl)
theorem dX0_decide_15 : decode cX0_decide 15 = .ok (.ifCond .eq 17, 3) := dk_153 0 17 (dk_at dksX0_decide_0 15 rfl rfl)
theorem dX0_decide_18 : decode cX0_decide 18 = .ok (.iload_n 3, 1) := dk_29 (dk_at dksX0_decide_0 18 rfl rfl)
theorem dX0_decide_19 : decode cX0_decide 19 = .ok (.iconst 0, 1) := dk_3 (dk_at dksX0_decide_0 19 rfl rfl)
theorem dX0_decide_20 : decode cX0_decide 20 = .ok (.bipush 24, 2) := dk_16 24 (dk_at dksX0_decide_0 20 rfl rfl)
theorem dX0_decide_22 : decode cX0_decide 22 = .ok (.invokestatic 86, 3) := dk_184 0 86 (dk_at dksX0_decide_1 0 rfl rfl)
theorem dX0_decide_25 : decode cX0_decide 25 = .ok (.ifCond .eq 7, 3) := dk_153 0 7 (dk_at dksX0_decide_1 3 rfl rfl)
theorem dX0_decide_28 : decode cX0_decide 28 = .ok (.iconst 1, 1) := dk_4 (dk_at dksX0_decide_1 6 rfl rfl)
theorem dX0_decide_29 : decode cX0_decide 29 = .ok (.goto 4, 3) := dk_167 0 4 (dk_at dksX0_decide_1 7 rfl rfl)
theorem dX0_decide_32 : decode cX0_decide 32 = .ok (.iconst 0, 1) := dk_3 (dk_at dksX0_decide_1 10 rfl rfl)
theorem dX0_decide_33 : decode cX0_decide 33 = .ok (.iconst 1, 1) := dk_4 (dk_at dksX0_decide_1 11 rfl rfl)
theorem dX0_decide_34 : decode cX0_decide 34 = .ok (.invokevirtual 94, 3) := dk_182 0 94 (dk_at dksX0_decide_1 12 rfl rfl)
theorem dX0_decide_37 : decode cX0_decide 37 = .ok (.aload_n 0, 1) := dk_42 (dk_at dksX0_decide_1 15 rfl rfl)
theorem dX0_decide_38 : decode cX0_decide 38 = .ok (.iload_n 1, 1) := dk_27 (dk_at dksX0_decide_1 16 rfl rfl)
theorem dX0_decide_39 : decode cX0_decide 39 = .ok (.iload_n 2, 1) := dk_28 (dk_at dksX0_decide_1 17 rfl rfl)
theorem dX0_decide_40 : decode cX0_decide 40 = .ok (.bipush 10, 2) := dk_16 10 (dk_at dksX0_decide_1 18 rfl rfl)
theorem dX0_decide_42 : decode cX0_decide 42 = .ok (.irem, 1) := dk_112 (dk_at dksX0_decide_1 20 rfl rfl)
theorem dX0_decide_43 : decode cX0_decide 43 = .ok (.invokevirtual 423, 3) := dk_182 1 167 (dk_at dksX0_decide_1 21 rfl rfl)
theorem dX0_decide_46 : decode cX0_decide 46 = .ok (.aload_n 0, 1) := dk_42 (dk_at dksX0_decide_2 0 rfl rfl)
theorem dX0_decide_47 : decode cX0_decide 47 = .ok (.iload_n 1, 1) := dk_27 (dk_at dksX0_decide_2 1 rfl rfl)
theorem dX0_decide_48 : decode cX0_decide 48 = .ok (.iload_n 2, 1) := dk_28 (dk_at dksX0_decide_2 2 rfl rfl)
theorem dX0_decide_49 : decode cX0_decide 49 = .ok (.bipush 10, 2) := dk_16 10 (dk_at dksX0_decide_2 3 rfl rfl)
theorem dX0_decide_51 : decode cX0_decide 51 = .ok (.idiv, 1) := dk_108 (dk_at dksX0_decide_2 5 rfl rfl)
theorem dX0_decide_52 : decode cX0_decide 52 = .ok (.iload_n 2, 1) := dk_28 (dk_at dksX0_decide_2 6 rfl rfl)
theorem dX0_decide_53 : decode cX0_decide 53 = .ok (.bipush 10, 2) := dk_16 10 (dk_at dksX0_decide_2 7 rfl rfl)
theorem dX0_decide_55 : decode cX0_decide 55 = .ok (.irem, 1) := dk_112 (dk_at dksX0_decide_2 9 rfl rfl)
theorem dX0_decide_56 : decode cX0_decide 56 = .ok (.iload_n 3, 1) := dk_29 (dk_at dksX0_decide_2 10 rfl rfl)
theorem dX0_decide_57 : decode cX0_decide 57 = .ok (.invokevirtual 426, 3) := dk_182 1 170 (dk_at dksX0_decide_2 11 rfl rfl)
theorem dX0_decide_60 : decode cX0_decide 60 = .ok (.lcmp, 1) := dk_148 (dk_at dksX0_decide_2 14 rfl rfl)
theorem dX0_decide_61 : decode cX0_decide 61 = .ok (.ifCond .lt 7, 3) := dk_155 0 7 (dk_at dksX0_decide_2 15 rfl rfl)
theorem dX0_decide_64 : decode cX0_decide 64 = .ok (.iconst 0, 1) := dk_3 (dk_at dksX0_decide_2 18 rfl rfl)
theorem dX0_decide_65 : decode cX0_decide 65 = .ok (.goto 4, 3) := dk_167 0 4 (dk_at dksX0_decide_2 19 rfl rfl)
theorem dX0_decide_68 : decode cX0_decide 68 = .ok (.iconst 1, 1) := dk_4 (dk_at dksX0_decide_2 22 rfl rfl)
theorem dX0_decide_69 : decode cX0_decide 69 = .ok (.ireturn, 1) := dk_172 (dk_at dksX0_decide_2 23 rfl rfl)
theorem dX0_decide_70 : decode cX0_decide 70 = .ok (.astore 4, 2) := dk_58 4 (dk_at dksX0_decide_3 0 rfl rfl)
theorem dX0_decide_72 : decode cX0_decide 72 = .ok (.aload_n 0, 1) := dk_42 (dk_at dksX0_decide_3 2 rfl rfl)
theorem dX0_decide_73 : decode cX0_decide 73 = .ok (.aload 4, 2) := dk_25 4 (dk_at dksX0_decide_3 3 rfl rfl)
theorem dX0_decide_75 : decode cX0_decide 75 = .ok (.invokevirtual 133, 3) := dk_182 0 133 (dk_at dksX0_decide_3 5 rfl rfl)
theorem dX0_decide_78 : decode cX0_decide 78 = .ok (.ireturn, 1) := dk_172 (dk_at dksX0_decide_3 8 rfl rfl)
abbrev cX0_cause : ByteArray := prog_1_method_67_code
def yX0_cause : MethodName := ⟨RX0, "cause", "(II)I"⟩
def dkwX0_cause_5 : List UInt8 := [45, 182, 0, 133, 172]
abbrev dktX0_cause_5 : List UInt8 := dkwX0_cause_5 ++ []
def dkwX0_cause_4 : List UInt8 := [180, 0, 49, 89, 180, 1, 178, 4, 96, 181, 1, 178, 42, 180, 0, 49, 180, 1, 178, 4, 100, 172, 78, 42]
abbrev dktX0_cause_4 : List UInt8 := dkwX0_cause_4 ++ dktX0_cause_5
def dkwX0_cause_3 : List UInt8 := [180, 1, 178, 27, 79, 42, 180, 0, 49, 180, 1, 184, 42, 180, 0, 49, 180, 1, 178, 28, 79, 42]
abbrev dktX0_cause_3 : List UInt8 := dkwX0_cause_3 ++ dktX0_cause_4
def dkwX0_cause_2 : List UInt8 := [162, 0, 7, 4, 167, 0, 4, 3, 7, 182, 0, 94, 42, 180, 0, 49, 180, 1, 181, 42, 180, 0, 49]
abbrev dktX0_cause_2 : List UInt8 := dkwX0_cause_2 ++ dktX0_cause_3
def dkwX0_cause_1 : List UInt8 := [28, 126, 154, 0, 7, 4, 167, 0, 4, 3, 4, 182, 0, 94, 42, 42, 180, 0, 49, 180, 1, 178, 16, 10]
abbrev dktX0_cause_1 : List UInt8 := dkwX0_cause_1 ++ dktX0_cause_2
def dkwX0_cause_0 : List UInt8 := [42, 27, 3, 17, 15, 255, 184, 0, 86, 153, 0, 24, 28, 3, 17, 15, 255, 184, 0, 86, 153, 0, 13, 27]
abbrev dktX0_cause_0 : List UInt8 := dkwX0_cause_0 ++ dktX0_cause_1
theorem dksX0_cause_0 : cX0_cause.data.toList.drop 0 = dktX0_cause_0 := by decide +kernel
theorem dksX0_cause_1 : cX0_cause.data.toList.drop 24 = dktX0_cause_1 := dk_seg dksX0_cause_0 24 rfl rfl
theorem dksX0_cause_2 : cX0_cause.data.toList.drop 48 = dktX0_cause_2 := dk_seg dksX0_cause_1 24 rfl rfl
theorem dksX0_cause_3 : cX0_cause.data.toList.drop 71 = dktX0_cause_3 := dk_seg dksX0_cause_2 23 rfl rfl
theorem dksX0_cause_4 : cX0_cause.data.toList.drop 93 = dktX0_cause_4 := dk_seg dksX0_cause_3 22 rfl rfl
theorem dksX0_cause_5 : cX0_cause.data.toList.drop 117 = dktX0_cause_5 := dk_seg dksX0_cause_4 24 rfl rfl
theorem dX0_cause_0 : decode cX0_cause 0 = .ok (.aload_n 0, 1) := dk_42 (dk_at dksX0_cause_0 0 rfl rfl)
theorem dX0_cause_1 : decode cX0_cause 1 = .ok (.iload_n 1, 1) := dk_27 (dk_at dksX0_cause_0 1 rfl rfl)
theorem dX0_cause_2 : decode cX0_cause 2 = .ok (.iconst 0, 1) := dk_3 (dk_at dksX0_cause_0 2 rfl rfl)
theorem dX0_cause_3 : decode cX0_cause 3 = .ok (.sipush 4095, 3) := dk_17 15 255 (dk_at dksX0_cause_0 3 rfl rfl)
theorem dX0_cause_6 : decode cX0_cause 6 = .ok (.invokestatic 86, 3) := dk_184 0 86 (dk_at dksX0_cause_0 6 rfl rfl)
theorem dX0_cause_9 : decode cX0_cause 9 = .ok (.ifCond .eq 24, 3) := dk_153 0 24 (dk_at dksX0_cause_0 9 rfl rfl)
theorem dX0_cause_12 : decode cX0_cause 12 = .ok (.iload_n 2, 1) := dk_28 (dk_at dksX0_cause_0 12 rfl rfl)
theorem dX0_cause_13 : decode cX0_cause 13 = .ok (.iconst 0, 1) := dk_3 (dk_at dksX0_cause_0 13 rfl rfl)
theorem dX0_cause_14 : decode cX0_cause 14 = .ok (.sipush 4095, 3) := dk_17 15 255 (dk_at dksX0_cause_0 14 rfl rfl)
theorem dX0_cause_17 : decode cX0_cause 17 = .ok (.invokestatic 86, 3) := dk_184 0 86 (dk_at dksX0_cause_0 17 rfl rfl)
theorem dX0_cause_20 : decode cX0_cause 20 = .ok (.ifCond .eq 13, 3) := dk_153 0 13 (dk_at dksX0_cause_0 20 rfl rfl)
theorem dX0_cause_23 : decode cX0_cause 23 = .ok (.iload_n 1, 1) := dk_27 (dk_at dksX0_cause_0 23 rfl rfl)
theorem dX0_cause_24 : decode cX0_cause 24 = .ok (.iload_n 2, 1) := dk_28 (dk_at dksX0_cause_1 0 rfl rfl)
theorem dX0_cause_25 : decode cX0_cause 25 = .ok (.iand, 1) := dk_126 (dk_at dksX0_cause_1 1 rfl rfl)
theorem dX0_cause_26 : decode cX0_cause 26 = .ok (.ifCond .ne 7, 3) := dk_154 0 7 (dk_at dksX0_cause_1 2 rfl rfl)
theorem dX0_cause_29 : decode cX0_cause 29 = .ok (.iconst 1, 1) := dk_4 (dk_at dksX0_cause_1 5 rfl rfl)
theorem dX0_cause_30 : decode cX0_cause 30 = .ok (.goto 4, 3) := dk_167 0 4 (dk_at dksX0_cause_1 6 rfl rfl)
theorem dX0_cause_33 : decode cX0_cause 33 = .ok (.iconst 0, 1) := dk_3 (dk_at dksX0_cause_1 9 rfl rfl)
theorem dX0_cause_34 : decode cX0_cause 34 = .ok (.iconst 1, 1) := dk_4 (dk_at dksX0_cause_1 10 rfl rfl)
theorem dX0_cause_35 : decode cX0_cause 35 = .ok (.invokevirtual 94, 3) := dk_182 0 94 (dk_at dksX0_cause_1 11 rfl rfl)
theorem dX0_cause_38 : decode cX0_cause 38 = .ok (.aload_n 0, 1) := dk_42 (dk_at dksX0_cause_1 14 rfl rfl)
theorem dX0_cause_39 : decode cX0_cause 39 = .ok (.aload_n 0, 1) := dk_42 (dk_at dksX0_cause_1 15 rfl rfl)
theorem dX0_cause_40 : decode cX0_cause 40 = .ok (.getfield 49, 3) := dk_180 0 49 (dk_at dksX0_cause_1 16 rfl rfl)
theorem dX0_cause_43 : decode cX0_cause 43 = .ok (.getfield 434, 3) := dk_180 1 178 (dk_at dksX0_cause_1 19 rfl rfl)
theorem dX0_cause_46 : decode cX0_cause 46 = .ok (.bipush 10, 2) := dk_16 10 (dk_at dksX0_cause_1 22 rfl rfl)
theorem dX0_cause_48 : decode cX0_cause 48 = .ok (.if_icmp .ge 7, 3) := dk_162 0 7 (dk_at dksX0_cause_2 0 rfl rfl)
theorem dX0_cause_51 : decode cX0_cause 51 = .ok (.iconst 1, 1) := dk_4 (dk_at dksX0_cause_2 3 rfl rfl)
theorem dX0_cause_52 : decode cX0_cause 52 = .ok (.goto 4, 3) := dk_167 0 4 (dk_at dksX0_cause_2 4 rfl rfl)
theorem dX0_cause_55 : decode cX0_cause 55 = .ok (.iconst 0, 1) := dk_3 (dk_at dksX0_cause_2 7 rfl rfl)
theorem dX0_cause_56 : decode cX0_cause 56 = .ok (.iconst 4, 1) := dk_7 (dk_at dksX0_cause_2 8 rfl rfl)
theorem dX0_cause_57 : decode cX0_cause 57 = .ok (.invokevirtual 94, 3) := dk_182 0 94 (dk_at dksX0_cause_2 9 rfl rfl)
theorem dX0_cause_60 : decode cX0_cause 60 = .ok (.aload_n 0, 1) := dk_42 (dk_at dksX0_cause_2 12 rfl rfl)
theorem dX0_cause_61 : decode cX0_cause 61 = .ok (.getfield 49, 3) := dk_180 0 49 (dk_at dksX0_cause_2 13 rfl rfl)
theorem dX0_cause_64 : decode cX0_cause 64 = .ok (.getfield 437, 3) := dk_180 1 181 (dk_at dksX0_cause_2 16 rfl rfl)
theorem dX0_cause_67 : decode cX0_cause 67 = .ok (.aload_n 0, 1) := dk_42 (dk_at dksX0_cause_2 19 rfl rfl)
theorem dX0_cause_68 : decode cX0_cause 68 = .ok (.getfield 49, 3) := dk_180 0 49 (dk_at dksX0_cause_2 20 rfl rfl)
theorem dX0_cause_71 : decode cX0_cause 71 = .ok (.getfield 434, 3) := dk_180 1 178 (dk_at dksX0_cause_3 0 rfl rfl)
theorem dX0_cause_74 : decode cX0_cause 74 = .ok (.iload_n 1, 1) := dk_27 (dk_at dksX0_cause_3 3 rfl rfl)
theorem dX0_cause_75 : decode cX0_cause 75 = .ok (.iastore, 1) := dk_79 (dk_at dksX0_cause_3 4 rfl rfl)
theorem dX0_cause_76 : decode cX0_cause 76 = .ok (.aload_n 0, 1) := dk_42 (dk_at dksX0_cause_3 5 rfl rfl)
theorem dX0_cause_77 : decode cX0_cause 77 = .ok (.getfield 49, 3) := dk_180 0 49 (dk_at dksX0_cause_3 6 rfl rfl)
theorem dX0_cause_80 : decode cX0_cause 80 = .ok (.getfield 440, 3) := dk_180 1 184 (dk_at dksX0_cause_3 9 rfl rfl)
theorem dX0_cause_83 : decode cX0_cause 83 = .ok (.aload_n 0, 1) := dk_42 (dk_at dksX0_cause_3 12 rfl rfl)
theorem dX0_cause_84 : decode cX0_cause 84 = .ok (.getfield 49, 3) := dk_180 0 49 (dk_at dksX0_cause_3 13 rfl rfl)
theorem dX0_cause_87 : decode cX0_cause 87 = .ok (.getfield 434, 3) := dk_180 1 178 (dk_at dksX0_cause_3 16 rfl rfl)
theorem dX0_cause_90 : decode cX0_cause 90 = .ok (.iload_n 2, 1) := dk_28 (dk_at dksX0_cause_3 19 rfl rfl)
theorem dX0_cause_91 : decode cX0_cause 91 = .ok (.iastore, 1) := dk_79 (dk_at dksX0_cause_3 20 rfl rfl)
theorem dX0_cause_92 : decode cX0_cause 92 = .ok (.aload_n 0, 1) := dk_42 (dk_at dksX0_cause_3 21 rfl rfl)
theorem dX0_cause_93 : decode cX0_cause 93 = .ok (.getfield 49, 3) := dk_180 0 49 (dk_at dksX0_cause_4 0 rfl rfl)
theorem dX0_cause_96 : decode cX0_cause 96 = .ok (.dup, 1) := dk_89 (dk_at dksX0_cause_4 3 rfl rfl)
theorem dX0_cause_97 : decode cX0_cause 97 = .ok (.getfield 434, 3) := dk_180 1 178 (dk_at dksX0_cause_4 4 rfl rfl)
theorem dX0_cause_100 : decode cX0_cause 100 = .ok (.iconst 1, 1) := dk_4 (dk_at dksX0_cause_4 7 rfl rfl)
theorem dX0_cause_101 : decode cX0_cause 101 = .ok (.iadd, 1) := dk_96 (dk_at dksX0_cause_4 8 rfl rfl)
theorem dX0_cause_102 : decode cX0_cause 102 = .ok (.putfield 434, 3) := dk_181 1 178 (dk_at dksX0_cause_4 9 rfl rfl)
theorem dX0_cause_105 : decode cX0_cause 105 = .ok (.aload_n 0, 1) := dk_42 (dk_at dksX0_cause_4 12 rfl rfl)
theorem dX0_cause_106 : decode cX0_cause 106 = .ok (.getfield 49, 3) := dk_180 0 49 (dk_at dksX0_cause_4 13 rfl rfl)
theorem dX0_cause_109 : decode cX0_cause 109 = .ok (.getfield 434, 3) := dk_180 1 178 (dk_at dksX0_cause_4 16 rfl rfl)
theorem dX0_cause_112 : decode cX0_cause 112 = .ok (.iconst 1, 1) := dk_4 (dk_at dksX0_cause_4 19 rfl rfl)
theorem dX0_cause_113 : decode cX0_cause 113 = .ok (.isub, 1) := dk_100 (dk_at dksX0_cause_4 20 rfl rfl)
theorem dX0_cause_114 : decode cX0_cause 114 = .ok (.ireturn, 1) := dk_172 (dk_at dksX0_cause_4 21 rfl rfl)
theorem dX0_cause_115 : decode cX0_cause 115 = .ok (.astore_n 3, 1) := dk_78 (dk_at dksX0_cause_4 22 rfl rfl)
theorem dX0_cause_116 : decode cX0_cause 116 = .ok (.aload_n 0, 1) := dk_42 (dk_at dksX0_cause_4 23 rfl rfl)
theorem dX0_cause_117 : decode cX0_cause 117 = .ok (.aload_n 3, 1) := dk_45 (dk_at dksX0_cause_5 0 rfl rfl)
theorem dX0_cause_118 : decode cX0_cause 118 = .ok (.invokevirtual 133, 3) := dk_182 0 133 (dk_at dksX0_cause_5 1 rfl rfl)
theorem dX0_cause_121 : decode cX0_cause 121 = .ok (.ireturn, 1) := dk_172 (dk_at dksX0_cause_5 4 rfl rfl)
abbrev cX0_found : ByteArray := prog_1_method_68_code
def yX0_found : MethodName := ⟨RX0, "found", "(II)I"⟩
def dkwX0_found_6 : List UInt8 := [128, 181, 1, 193, 29, 172, 78, 42, 45, 182, 0, 133, 172]
abbrev dktX0_found_6 : List UInt8 := dkwX0_found_6 ++ []
def dkwX0_found_5 : List UInt8 := [3, 128, 181, 1, 187, 42, 180, 0, 49, 89, 180, 1, 193, 28, 154, 0, 9, 4, 27, 120, 167, 0, 4, 3]
abbrev dktX0_found_5 : List UInt8 := dkwX0_found_5 ++ dktX0_found_6
def dkwX0_found_4 : List UInt8 := [130, 126, 181, 1, 193, 42, 180, 0, 49, 89, 180, 1, 187, 28, 4, 160, 0, 9, 4, 27, 120, 167, 0, 4]
abbrev dktX0_found_4 : List UInt8 := dkwX0_found_4 ++ dktX0_found_5
def dkwX0_found_3 : List UInt8 := [180, 1, 187, 4, 27, 120, 2, 130, 126, 181, 1, 187, 42, 180, 0, 49, 89, 180, 1, 193, 4, 27, 120, 2]
abbrev dktX0_found_3 : List UInt8 := dkwX0_found_3 ++ dktX0_found_4
def dkwX0_found_2 : List UInt8 := [180, 0, 49, 180, 1, 193, 27, 184, 1, 190, 153, 0, 7, 3, 167, 0, 4, 2, 62, 42, 180, 0, 49, 89]
abbrev dktX0_found_2 : List UInt8 := dkwX0_found_2 ++ dktX0_found_3
def dkwX0_found_1 : List UInt8 := [3, 4, 182, 0, 94, 42, 180, 0, 49, 180, 1, 187, 27, 184, 1, 190, 153, 0, 7, 4, 167, 0, 22, 42]
abbrev dktX0_found_1 : List UInt8 := dkwX0_found_1 ++ dktX0_found_2
def dkwX0_found_0 : List UInt8 := [42, 27, 3, 16, 11, 184, 0, 86, 153, 0, 16, 28, 2, 4, 184, 0, 86, 153, 0, 7, 4, 167, 0, 4]
abbrev dktX0_found_0 : List UInt8 := dkwX0_found_0 ++ dktX0_found_1
theorem dksX0_found_0 : cX0_found.data.toList.drop 0 = dktX0_found_0 := by decide +kernel
theorem dksX0_found_1 : cX0_found.data.toList.drop 24 = dktX0_found_1 := dk_seg dksX0_found_0 24 rfl rfl
theorem dksX0_found_2 : cX0_found.data.toList.drop 48 = dktX0_found_2 := dk_seg dksX0_found_1 24 rfl rfl
theorem dksX0_found_3 : cX0_found.data.toList.drop 72 = dktX0_found_3 := dk_seg dksX0_found_2 24 rfl rfl
theorem dksX0_found_4 : cX0_found.data.toList.drop 96 = dktX0_found_4 := dk_seg dksX0_found_3 24 rfl rfl
theorem dksX0_found_5 : cX0_found.data.toList.drop 120 = dktX0_found_5 := dk_seg dksX0_found_4 24 rfl rfl
theorem dksX0_found_6 : cX0_found.data.toList.drop 144 = dktX0_found_6 := dk_seg dksX0_found_5 24 rfl rfl
theorem dX0_found_0 : decode cX0_found 0 = .ok (.aload_n 0, 1) := dk_42 (dk_at dksX0_found_0 0 rfl rfl)
theorem dX0_found_1 : decode cX0_found 1 = .ok (.iload_n 1, 1) := dk_27 (dk_at dksX0_found_0 1 rfl rfl)
theorem dX0_found_2 : decode cX0_found 2 = .ok (.iconst 0, 1) := dk_3 (dk_at dksX0_found_0 2 rfl rfl)
theorem dX0_found_3 : decode cX0_found 3 = .ok (.bipush 11, 2) := dk_16 11 (dk_at dksX0_found_0 3 rfl rfl)
theorem dX0_found_5 : decode cX0_found 5 = .ok (.invokestatic 86, 3) := dk_184 0 86 (dk_at dksX0_found_0 5 rfl rfl)
theorem dX0_found_8 : decode cX0_found 8 = .ok (.ifCond .eq 16, 3) := dk_153 0 16 (dk_at dksX0_found_0 8 rfl rfl)
theorem dX0_found_11 : decode cX0_found 11 = .ok (.iload_n 2, 1) := dk_28 (dk_at dksX0_found_0 11 rfl rfl)
theorem dX0_found_12 : decode cX0_found 12 = .ok (.iconst (-1), 1) := dk_2 (dk_at dksX0_found_0 12 rfl rfl)
theorem dX0_found_13 : decode cX0_found 13 = .ok (.iconst 1, 1) := dk_4 (dk_at dksX0_found_0 13 rfl rfl)
theorem dX0_found_14 : decode cX0_found 14 = .ok (.invokestatic 86, 3) := dk_184 0 86 (dk_at dksX0_found_0 14 rfl rfl)
theorem dX0_found_17 : decode cX0_found 17 = .ok (.ifCond .eq 7, 3) := dk_153 0 7 (dk_at dksX0_found_0 17 rfl rfl)
theorem dX0_found_20 : decode cX0_found 20 = .ok (.iconst 1, 1) := dk_4 (dk_at dksX0_found_0 20 rfl rfl)
theorem dX0_found_21 : decode cX0_found 21 = .ok (.goto 4, 3) := dk_167 0 4 (dk_at dksX0_found_0 21 rfl rfl)
theorem dX0_found_24 : decode cX0_found 24 = .ok (.iconst 0, 1) := dk_3 (dk_at dksX0_found_1 0 rfl rfl)
theorem dX0_found_25 : decode cX0_found 25 = .ok (.iconst 1, 1) := dk_4 (dk_at dksX0_found_1 1 rfl rfl)
theorem dX0_found_26 : decode cX0_found 26 = .ok (.invokevirtual 94, 3) := dk_182 0 94 (dk_at dksX0_found_1 2 rfl rfl)
theorem dX0_found_29 : decode cX0_found 29 = .ok (.aload_n 0, 1) := dk_42 (dk_at dksX0_found_1 5 rfl rfl)
theorem dX0_found_30 : decode cX0_found 30 = .ok (.getfield 49, 3) := dk_180 0 49 (dk_at dksX0_found_1 6 rfl rfl)
theorem dX0_found_33 : decode cX0_found 33 = .ok (.getfield 443, 3) := dk_180 1 187 (dk_at dksX0_found_1 9 rfl rfl)
theorem dX0_found_36 : decode cX0_found 36 = .ok (.iload_n 1, 1) := dk_27 (dk_at dksX0_found_1 12 rfl rfl)
theorem dX0_found_37 : decode cX0_found 37 = .ok (.invokestatic 446, 3) := dk_184 1 190 (dk_at dksX0_found_1 13 rfl rfl)
theorem dX0_found_40 : decode cX0_found 40 = .ok (.ifCond .eq 7, 3) := dk_153 0 7 (dk_at dksX0_found_1 16 rfl rfl)
theorem dX0_found_43 : decode cX0_found 43 = .ok (.iconst 1, 1) := dk_4 (dk_at dksX0_found_1 19 rfl rfl)
theorem dX0_found_44 : decode cX0_found 44 = .ok (.goto 22, 3) := dk_167 0 22 (dk_at dksX0_found_1 20 rfl rfl)
theorem dX0_found_47 : decode cX0_found 47 = .ok (.aload_n 0, 1) := dk_42 (dk_at dksX0_found_1 23 rfl rfl)
theorem dX0_found_48 : decode cX0_found 48 = .ok (.getfield 49, 3) := dk_180 0 49 (dk_at dksX0_found_2 0 rfl rfl)
theorem dX0_found_51 : decode cX0_found 51 = .ok (.getfield 449, 3) := dk_180 1 193 (dk_at dksX0_found_2 3 rfl rfl)
theorem dX0_found_54 : decode cX0_found 54 = .ok (.iload_n 1, 1) := dk_27 (dk_at dksX0_found_2 6 rfl rfl)
theorem dX0_found_55 : decode cX0_found 55 = .ok (.invokestatic 446, 3) := dk_184 1 190 (dk_at dksX0_found_2 7 rfl rfl)
theorem dX0_found_58 : decode cX0_found 58 = .ok (.ifCond .eq 7, 3) := dk_153 0 7 (dk_at dksX0_found_2 10 rfl rfl)
theorem dX0_found_61 : decode cX0_found 61 = .ok (.iconst 0, 1) := dk_3 (dk_at dksX0_found_2 13 rfl rfl)
theorem dX0_found_62 : decode cX0_found 62 = .ok (.goto 4, 3) := dk_167 0 4 (dk_at dksX0_found_2 14 rfl rfl)
theorem dX0_found_65 : decode cX0_found 65 = .ok (.iconst (-1), 1) := dk_2 (dk_at dksX0_found_2 17 rfl rfl)
theorem dX0_found_66 : decode cX0_found 66 = .ok (.istore_n 3, 1) := dk_62 (dk_at dksX0_found_2 18 rfl rfl)
theorem dX0_found_67 : decode cX0_found 67 = .ok (.aload_n 0, 1) := dk_42 (dk_at dksX0_found_2 19 rfl rfl)
theorem dX0_found_68 : decode cX0_found 68 = .ok (.getfield 49, 3) := dk_180 0 49 (dk_at dksX0_found_2 20 rfl rfl)
theorem dX0_found_71 : decode cX0_found 71 = .ok (.dup, 1) := dk_89 (dk_at dksX0_found_2 23 rfl rfl)
theorem dX0_found_72 : decode cX0_found 72 = .ok (.getfield 443, 3) := dk_180 1 187 (dk_at dksX0_found_3 0 rfl rfl)
theorem dX0_found_75 : decode cX0_found 75 = .ok (.iconst 1, 1) := dk_4 (dk_at dksX0_found_3 3 rfl rfl)
theorem dX0_found_76 : decode cX0_found 76 = .ok (.iload_n 1, 1) := dk_27 (dk_at dksX0_found_3 4 rfl rfl)
theorem dX0_found_77 : decode cX0_found 77 = .ok (.ishl, 1) := dk_120 (dk_at dksX0_found_3 5 rfl rfl)
theorem dX0_found_78 : decode cX0_found 78 = .ok (.iconst (-1), 1) := dk_2 (dk_at dksX0_found_3 6 rfl rfl)
theorem dX0_found_79 : decode cX0_found 79 = .ok (.ixor, 1) := dk_130 (dk_at dksX0_found_3 7 rfl rfl)
theorem dX0_found_80 : decode cX0_found 80 = .ok (.iand, 1) := dk_126 (dk_at dksX0_found_3 8 rfl rfl)
theorem dX0_found_81 : decode cX0_found 81 = .ok (.putfield 443, 3) := dk_181 1 187 (dk_at dksX0_found_3 9 rfl rfl)
theorem dX0_found_84 : decode cX0_found 84 = .ok (.aload_n 0, 1) := dk_42 (dk_at dksX0_found_3 12 rfl rfl)
theorem dX0_found_85 : decode cX0_found 85 = .ok (.getfield 49, 3) := dk_180 0 49 (dk_at dksX0_found_3 13 rfl rfl)
theorem dX0_found_88 : decode cX0_found 88 = .ok (.dup, 1) := dk_89 (dk_at dksX0_found_3 16 rfl rfl)
theorem dX0_found_89 : decode cX0_found 89 = .ok (.getfield 449, 3) := dk_180 1 193 (dk_at dksX0_found_3 17 rfl rfl)
theorem dX0_found_92 : decode cX0_found 92 = .ok (.iconst 1, 1) := dk_4 (dk_at dksX0_found_3 20 rfl rfl)
theorem dX0_found_93 : decode cX0_found 93 = .ok (.iload_n 1, 1) := dk_27 (dk_at dksX0_found_3 21 rfl rfl)
theorem dX0_found_94 : decode cX0_found 94 = .ok (.ishl, 1) := dk_120 (dk_at dksX0_found_3 22 rfl rfl)
theorem dX0_found_95 : decode cX0_found 95 = .ok (.iconst (-1), 1) := dk_2 (dk_at dksX0_found_3 23 rfl rfl)
theorem dX0_found_96 : decode cX0_found 96 = .ok (.ixor, 1) := dk_130 (dk_at dksX0_found_4 0 rfl rfl)
theorem dX0_found_97 : decode cX0_found 97 = .ok (.iand, 1) := dk_126 (dk_at dksX0_found_4 1 rfl rfl)
theorem dX0_found_98 : decode cX0_found 98 = .ok (.putfield 449, 3) := dk_181 1 193 (dk_at dksX0_found_4 2 rfl rfl)
theorem dX0_found_101 : decode cX0_found 101 = .ok (.aload_n 0, 1) := dk_42 (dk_at dksX0_found_4 5 rfl rfl)
theorem dX0_found_102 : decode cX0_found 102 = .ok (.getfield 49, 3) := dk_180 0 49 (dk_at dksX0_found_4 6 rfl rfl)
theorem dX0_found_105 : decode cX0_found 105 = .ok (.dup, 1) := dk_89 (dk_at dksX0_found_4 9 rfl rfl)
theorem dX0_found_106 : decode cX0_found 106 = .ok (.getfield 443, 3) := dk_180 1 187 (dk_at dksX0_found_4 10 rfl rfl)
theorem dX0_found_109 : decode cX0_found 109 = .ok (.iload_n 2, 1) := dk_28 (dk_at dksX0_found_4 13 rfl rfl)
theorem dX0_found_110 : decode cX0_found 110 = .ok (.iconst 1, 1) := dk_4 (dk_at dksX0_found_4 14 rfl rfl)
theorem dX0_found_111 : decode cX0_found 111 = .ok (.if_icmp .ne 9, 3) := dk_160 0 9 (dk_at dksX0_found_4 15 rfl rfl)
theorem dX0_found_114 : decode cX0_found 114 = .ok (.iconst 1, 1) := dk_4 (dk_at dksX0_found_4 18 rfl rfl)
theorem dX0_found_115 : decode cX0_found 115 = .ok (.iload_n 1, 1) := dk_27 (dk_at dksX0_found_4 19 rfl rfl)
theorem dX0_found_116 : decode cX0_found 116 = .ok (.ishl, 1) := dk_120 (dk_at dksX0_found_4 20 rfl rfl)
theorem dX0_found_117 : decode cX0_found 117 = .ok (.goto 4, 3) := dk_167 0 4 (dk_at dksX0_found_4 21 rfl rfl)
theorem dX0_found_120 : decode cX0_found 120 = .ok (.iconst 0, 1) := dk_3 (dk_at dksX0_found_5 0 rfl rfl)
theorem dX0_found_121 : decode cX0_found 121 = .ok (.ior, 1) := dk_128 (dk_at dksX0_found_5 1 rfl rfl)
theorem dX0_found_122 : decode cX0_found 122 = .ok (.putfield 443, 3) := dk_181 1 187 (dk_at dksX0_found_5 2 rfl rfl)
theorem dX0_found_125 : decode cX0_found 125 = .ok (.aload_n 0, 1) := dk_42 (dk_at dksX0_found_5 5 rfl rfl)
theorem dX0_found_126 : decode cX0_found 126 = .ok (.getfield 49, 3) := dk_180 0 49 (dk_at dksX0_found_5 6 rfl rfl)
theorem dX0_found_129 : decode cX0_found 129 = .ok (.dup, 1) := dk_89 (dk_at dksX0_found_5 9 rfl rfl)
theorem dX0_found_130 : decode cX0_found 130 = .ok (.getfield 449, 3) := dk_180 1 193 (dk_at dksX0_found_5 10 rfl rfl)
theorem dX0_found_133 : decode cX0_found 133 = .ok (.iload_n 2, 1) := dk_28 (dk_at dksX0_found_5 13 rfl rfl)
theorem dX0_found_134 : decode cX0_found 134 = .ok (.ifCond .ne 9, 3) := dk_154 0 9 (dk_at dksX0_found_5 14 rfl rfl)
theorem dX0_found_137 : decode cX0_found 137 = .ok (.iconst 1, 1) := dk_4 (dk_at dksX0_found_5 17 rfl rfl)
theorem dX0_found_138 : decode cX0_found 138 = .ok (.iload_n 1, 1) := dk_27 (dk_at dksX0_found_5 18 rfl rfl)
theorem dX0_found_139 : decode cX0_found 139 = .ok (.ishl, 1) := dk_120 (dk_at dksX0_found_5 19 rfl rfl)
theorem dX0_found_140 : decode cX0_found 140 = .ok (.goto 4, 3) := dk_167 0 4 (dk_at dksX0_found_5 20 rfl rfl)
theorem dX0_found_143 : decode cX0_found 143 = .ok (.iconst 0, 1) := dk_3 (dk_at dksX0_found_5 23 rfl rfl)
theorem dX0_found_144 : decode cX0_found 144 = .ok (.ior, 1) := dk_128 (dk_at dksX0_found_6 0 rfl rfl)
theorem dX0_found_145 : decode cX0_found 145 = .ok (.putfield 449, 3) := dk_181 1 193 (dk_at dksX0_found_6 1 rfl rfl)
theorem dX0_found_148 : decode cX0_found 148 = .ok (.iload_n 3, 1) := dk_29 (dk_at dksX0_found_6 4 rfl rfl)
theorem dX0_found_149 : decode cX0_found 149 = .ok (.ireturn, 1) := dk_172 (dk_at dksX0_found_6 5 rfl rfl)
theorem dX0_found_150 : decode cX0_found 150 = .ok (.astore_n 3, 1) := dk_78 (dk_at dksX0_found_6 6 rfl rfl)
theorem dX0_found_151 : decode cX0_found 151 = .ok (.aload_n 0, 1) := dk_42 (dk_at dksX0_found_6 7 rfl rfl)
theorem dX0_found_152 : decode cX0_found 152 = .ok (.aload_n 3, 1) := dk_45 (dk_at dksX0_found_6 8 rfl rfl)
theorem dX0_found_153 : decode cX0_found 153 = .ok (.invokevirtual 133, 3) := dk_182 0 133 (dk_at dksX0_found_6 9 rfl rfl)
theorem dX0_found_156 : decode cX0_found 156 = .ok (.ireturn, 1) := dk_172 (dk_at dksX0_found_6 12 rfl rfl)
abbrev cX0_why : ByteArray := prog_1_method_69_code
def yX0_why : MethodName := ⟨RX0, "why", "()I"⟩
def dkwX0_why_0 : List UInt8 := [42, 180, 0, 49, 42, 180, 0, 49, 180, 1, 187, 42, 180, 0, 49, 180, 1, 193, 182, 1, 196, 172]
abbrev dktX0_why_0 : List UInt8 := dkwX0_why_0 ++ []
theorem dksX0_why_0 : cX0_why.data.toList.drop 0 = dktX0_why_0 := by decide +kernel
theorem dX0_why_0 : decode cX0_why 0 = .ok (.aload_n 0, 1) := dk_42 (dk_at dksX0_why_0 0 rfl rfl)
theorem dX0_why_1 : decode cX0_why 1 = .ok (.getfield 49, 3) := dk_180 0 49 (dk_at dksX0_why_0 1 rfl rfl)
theorem dX0_why_4 : decode cX0_why 4 = .ok (.aload_n 0, 1) := dk_42 (dk_at dksX0_why_0 4 rfl rfl)
theorem dX0_why_5 : decode cX0_why 5 = .ok (.getfield 49, 3) := dk_180 0 49 (dk_at dksX0_why_0 5 rfl rfl)
theorem dX0_why_8 : decode cX0_why 8 = .ok (.getfield 443, 3) := dk_180 1 187 (dk_at dksX0_why_0 8 rfl rfl)
theorem dX0_why_11 : decode cX0_why 11 = .ok (.aload_n 0, 1) := dk_42 (dk_at dksX0_why_0 11 rfl rfl)
theorem dX0_why_12 : decode cX0_why 12 = .ok (.getfield 49, 3) := dk_180 0 49 (dk_at dksX0_why_0 12 rfl rfl)
theorem dX0_why_15 : decode cX0_why 15 = .ok (.getfield 449, 3) := dk_180 1 193 (dk_at dksX0_why_0 15 rfl rfl)
theorem dX0_why_18 : decode cX0_why 18 = .ok (.invokevirtual 452, 3) := dk_182 1 196 (dk_at dksX0_why_0 18 rfl rfl)
theorem dX0_why_21 : decode cX0_why 21 = .ok (.ireturn, 1) := dk_172 (dk_at dksX0_why_0 21 rfl rfl)
abbrev cX0_look : ByteArray := prog_1_method_71_code
def yX0_look : MethodName := ⟨RX0, "look", "()I"⟩
def dkwX0_look_4 : List UInt8 := [182, 0, 94, 27, 172, 76, 42, 43, 182, 0, 133, 172]
abbrev dktX0_look_4 : List UInt8 := dkwX0_look_4 ++ []
def dkwX0_look_3 : List UInt8 := [182, 1, 204, 61, 132, 3, 1, 167, 255, 208, 42, 27, 2, 159, 0, 7, 4, 167, 0, 4, 3, 5]
abbrev dktX0_look_3 : List UInt8 := dkwX0_look_3 ++ dktX0_look_4
def dkwX0_look_2 : List UInt8 := [180, 1, 193, 128, 29, 184, 1, 190, 154, 0, 20, 42, 29, 182, 1, 204, 28, 162, 0, 11, 29, 60, 42, 29]
abbrev dktX0_look_2 : List UInt8 := dkwX0_look_2 ++ dktX0_look_3
def dkwX0_look_1 : List UInt8 := [16, 11, 61, 3, 62, 29, 16, 12, 162, 0, 48, 42, 180, 0, 49, 180, 1, 187, 42, 180, 0, 49]
abbrev dktX0_look_1 : List UInt8 := dkwX0_look_1 ++ dktX0_look_2
def dkwX0_look_0 : List UInt8 := [42, 42, 182, 1, 201, 184, 0, 215, 4, 164, 0, 7, 4, 167, 0, 4, 3, 5, 182, 0, 94, 2, 60]
abbrev dktX0_look_0 : List UInt8 := dkwX0_look_0 ++ dktX0_look_1
theorem dksX0_look_0 : cX0_look.data.toList.drop 0 = dktX0_look_0 := by decide +kernel
theorem dksX0_look_1 : cX0_look.data.toList.drop 23 = dktX0_look_1 := dk_seg dksX0_look_0 23 rfl rfl
theorem dksX0_look_2 : cX0_look.data.toList.drop 45 = dktX0_look_2 := dk_seg dksX0_look_1 22 rfl rfl
theorem dksX0_look_3 : cX0_look.data.toList.drop 69 = dktX0_look_3 := dk_seg dksX0_look_2 24 rfl rfl
theorem dksX0_look_4 : cX0_look.data.toList.drop 91 = dktX0_look_4 := dk_seg dksX0_look_3 22 rfl rfl
theorem dX0_look_0 : decode cX0_look 0 = .ok (.aload_n 0, 1) := dk_42 (dk_at dksX0_look_0 0 rfl rfl)
theorem dX0_look_1 : decode cX0_look 1 = .ok (.aload_n 0, 1) := dk_42 (dk_at dksX0_look_0 1 rfl rfl)
theorem dX0_look_2 : decode cX0_look 2 = .ok (.invokevirtual 457, 3) := dk_182 1 201 (dk_at dksX0_look_0 2 rfl rfl)
theorem dX0_look_5 : decode cX0_look 5 = .ok (.invokestatic 215, 3) := dk_184 0 215 (dk_at dksX0_look_0 5 rfl rfl)
theorem dX0_look_8 : decode cX0_look 8 = .ok (.iconst 1, 1) := dk_4 (dk_at dksX0_look_0 8 rfl rfl)
theorem dX0_look_9 : decode cX0_look 9 = .ok (.if_icmp .le 7, 3) := dk_164 0 7 (dk_at dksX0_look_0 9 rfl rfl)
theorem dX0_look_12 : decode cX0_look 12 = .ok (.iconst 1, 1) := dk_4 (dk_at dksX0_look_0 12 rfl rfl)
theorem dX0_look_13 : decode cX0_look 13 = .ok (.goto 4, 3) := dk_167 0 4 (dk_at dksX0_look_0 13 rfl rfl)
theorem dX0_look_16 : decode cX0_look 16 = .ok (.iconst 0, 1) := dk_3 (dk_at dksX0_look_0 16 rfl rfl)
theorem dX0_look_17 : decode cX0_look 17 = .ok (.iconst 2, 1) := dk_5 (dk_at dksX0_look_0 17 rfl rfl)
theorem dX0_look_18 : decode cX0_look 18 = .ok (.invokevirtual 94, 3) := dk_182 0 94 (dk_at dksX0_look_0 18 rfl rfl)
theorem dX0_look_21 : decode cX0_look 21 = .ok (.iconst (-1), 1) := dk_2 (dk_at dksX0_look_0 21 rfl rfl)
theorem dX0_look_22 : decode cX0_look 22 = .ok (.istore_n 1, 1) := dk_60 (dk_at dksX0_look_0 22 rfl rfl)
theorem dX0_look_23 : decode cX0_look 23 = .ok (.bipush 11, 2) := dk_16 11 (dk_at dksX0_look_1 0 rfl rfl)
theorem dX0_look_25 : decode cX0_look 25 = .ok (.istore_n 2, 1) := dk_61 (dk_at dksX0_look_1 2 rfl rfl)
theorem dX0_look_26 : decode cX0_look 26 = .ok (.iconst 0, 1) := dk_3 (dk_at dksX0_look_1 3 rfl rfl)
theorem dX0_look_27 : decode cX0_look 27 = .ok (.istore_n 3, 1) := dk_62 (dk_at dksX0_look_1 4 rfl rfl)
theorem dX0_look_28 : decode cX0_look 28 = .ok (.iload_n 3, 1) := dk_29 (dk_at dksX0_look_1 5 rfl rfl)
theorem dX0_look_29 : decode cX0_look 29 = .ok (.bipush 12, 2) := dk_16 12 (dk_at dksX0_look_1 6 rfl rfl)
theorem dX0_look_31 : decode cX0_look 31 = .ok (.if_icmp .ge 48, 3) := dk_162 0 48 (dk_at dksX0_look_1 8 rfl rfl)
theorem dX0_look_34 : decode cX0_look 34 = .ok (.aload_n 0, 1) := dk_42 (dk_at dksX0_look_1 11 rfl rfl)
theorem dX0_look_35 : decode cX0_look 35 = .ok (.getfield 49, 3) := dk_180 0 49 (dk_at dksX0_look_1 12 rfl rfl)
theorem dX0_look_38 : decode cX0_look 38 = .ok (.getfield 443, 3) := dk_180 1 187 (dk_at dksX0_look_1 15 rfl rfl)
theorem dX0_look_41 : decode cX0_look 41 = .ok (.aload_n 0, 1) := dk_42 (dk_at dksX0_look_1 18 rfl rfl)
theorem dX0_look_42 : decode cX0_look 42 = .ok (.getfield 49, 3) := dk_180 0 49 (dk_at dksX0_look_1 19 rfl rfl)
theorem dX0_look_45 : decode cX0_look 45 = .ok (.getfield 449, 3) := dk_180 1 193 (dk_at dksX0_look_2 0 rfl rfl)
theorem dX0_look_48 : decode cX0_look 48 = .ok (.ior, 1) := dk_128 (dk_at dksX0_look_2 3 rfl rfl)
theorem dX0_look_49 : decode cX0_look 49 = .ok (.iload_n 3, 1) := dk_29 (dk_at dksX0_look_2 4 rfl rfl)
theorem dX0_look_50 : decode cX0_look 50 = .ok (.invokestatic 446, 3) := dk_184 1 190 (dk_at dksX0_look_2 5 rfl rfl)
theorem dX0_look_53 : decode cX0_look 53 = .ok (.ifCond .ne 20, 3) := dk_154 0 20 (dk_at dksX0_look_2 8 rfl rfl)
theorem dX0_look_56 : decode cX0_look 56 = .ok (.aload_n 0, 1) := dk_42 (dk_at dksX0_look_2 11 rfl rfl)
theorem dX0_look_57 : decode cX0_look 57 = .ok (.iload_n 3, 1) := dk_29 (dk_at dksX0_look_2 12 rfl rfl)
theorem dX0_look_58 : decode cX0_look 58 = .ok (.invokevirtual 460, 3) := dk_182 1 204 (dk_at dksX0_look_2 13 rfl rfl)
theorem dX0_look_61 : decode cX0_look 61 = .ok (.iload_n 2, 1) := dk_28 (dk_at dksX0_look_2 16 rfl rfl)
theorem dX0_look_62 : decode cX0_look 62 = .ok (.if_icmp .ge 11, 3) := dk_162 0 11 (dk_at dksX0_look_2 17 rfl rfl)
theorem dX0_look_65 : decode cX0_look 65 = .ok (.iload_n 3, 1) := dk_29 (dk_at dksX0_look_2 20 rfl rfl)
theorem dX0_look_66 : decode cX0_look 66 = .ok (.istore_n 1, 1) := dk_60 (dk_at dksX0_look_2 21 rfl rfl)
theorem dX0_look_67 : decode cX0_look 67 = .ok (.aload_n 0, 1) := dk_42 (dk_at dksX0_look_2 22 rfl rfl)
theorem dX0_look_68 : decode cX0_look 68 = .ok (.iload_n 3, 1) := dk_29 (dk_at dksX0_look_2 23 rfl rfl)
theorem dX0_look_69 : decode cX0_look 69 = .ok (.invokevirtual 460, 3) := dk_182 1 204 (dk_at dksX0_look_3 0 rfl rfl)
theorem dX0_look_72 : decode cX0_look 72 = .ok (.istore_n 2, 1) := dk_61 (dk_at dksX0_look_3 3 rfl rfl)
theorem dX0_look_73 : decode cX0_look 73 = .ok (.iinc 3 1, 3) := dk_132 3 1 (dk_at dksX0_look_3 4 rfl rfl)
theorem dX0_look_76 : decode cX0_look 76 = .ok (.goto (-48), 3) := dk_167 255 208 (dk_at dksX0_look_3 7 rfl rfl)
theorem dX0_look_79 : decode cX0_look 79 = .ok (.aload_n 0, 1) := dk_42 (dk_at dksX0_look_3 10 rfl rfl)
theorem dX0_look_80 : decode cX0_look 80 = .ok (.iload_n 1, 1) := dk_27 (dk_at dksX0_look_3 11 rfl rfl)
theorem dX0_look_81 : decode cX0_look 81 = .ok (.iconst (-1), 1) := dk_2 (dk_at dksX0_look_3 12 rfl rfl)
theorem dX0_look_82 : decode cX0_look 82 = .ok (.if_icmp .eq 7, 3) := dk_159 0 7 (dk_at dksX0_look_3 13 rfl rfl)
theorem dX0_look_85 : decode cX0_look 85 = .ok (.iconst 1, 1) := dk_4 (dk_at dksX0_look_3 16 rfl rfl)
theorem dX0_look_86 : decode cX0_look 86 = .ok (.goto 4, 3) := dk_167 0 4 (dk_at dksX0_look_3 17 rfl rfl)
theorem dX0_look_89 : decode cX0_look 89 = .ok (.iconst 0, 1) := dk_3 (dk_at dksX0_look_3 20 rfl rfl)
theorem dX0_look_90 : decode cX0_look 90 = .ok (.iconst 2, 1) := dk_5 (dk_at dksX0_look_3 21 rfl rfl)
theorem dX0_look_91 : decode cX0_look 91 = .ok (.invokevirtual 94, 3) := dk_182 0 94 (dk_at dksX0_look_4 0 rfl rfl)
theorem dX0_look_94 : decode cX0_look 94 = .ok (.iload_n 1, 1) := dk_27 (dk_at dksX0_look_4 3 rfl rfl)
theorem dX0_look_95 : decode cX0_look 95 = .ok (.ireturn, 1) := dk_172 (dk_at dksX0_look_4 4 rfl rfl)
theorem dX0_look_96 : decode cX0_look 96 = .ok (.astore_n 1, 1) := dk_76 (dk_at dksX0_look_4 5 rfl rfl)
theorem dX0_look_97 : decode cX0_look 97 = .ok (.aload_n 0, 1) := dk_42 (dk_at dksX0_look_4 6 rfl rfl)
theorem dX0_look_98 : decode cX0_look 98 = .ok (.aload_n 1, 1) := dk_43 (dk_at dksX0_look_4 7 rfl rfl)
theorem dX0_look_99 : decode cX0_look 99 = .ok (.invokevirtual 133, 3) := dk_182 0 133 (dk_at dksX0_look_4 8 rfl rfl)
theorem dX0_look_102 : decode cX0_look 102 = .ok (.ireturn, 1) := dk_172 (dk_at dksX0_look_4 11 rfl rfl)
abbrev cX0_leftBy : ByteArray := prog_1_method_70_code
def yX0_leftBy : MethodName := ⟨RX0, "leftBy", "(I)I"⟩
def dkwX0_leftBy_2 : List UInt8 := [180, 1, 193, 4, 27, 120, 128, 182, 1, 196, 184, 0, 215, 184, 1, 199, 172]
abbrev dktX0_leftBy_2 : List UInt8 := dkwX0_leftBy_2 ++ []
def dkwX0_leftBy_1 : List UInt8 := [182, 1, 196, 184, 0, 215, 61, 28, 42, 180, 0, 49, 42, 180, 0, 49, 180, 1, 187, 42, 180, 0, 49]
abbrev dktX0_leftBy_1 : List UInt8 := dkwX0_leftBy_1 ++ dktX0_leftBy_2
def dkwX0_leftBy_0 : List UInt8 := [42, 180, 0, 49, 42, 180, 0, 49, 180, 1, 187, 4, 27, 120, 128, 42, 180, 0, 49, 180, 1, 193]
abbrev dktX0_leftBy_0 : List UInt8 := dkwX0_leftBy_0 ++ dktX0_leftBy_1
theorem dksX0_leftBy_0 : cX0_leftBy.data.toList.drop 0 = dktX0_leftBy_0 := by decide +kernel
theorem dksX0_leftBy_1 : cX0_leftBy.data.toList.drop 22 = dktX0_leftBy_1 := dk_seg dksX0_leftBy_0 22 rfl rfl
theorem dksX0_leftBy_2 : cX0_leftBy.data.toList.drop 45 = dktX0_leftBy_2 := dk_seg dksX0_leftBy_1 23 rfl rfl
theorem dX0_leftBy_0 : decode cX0_leftBy 0 = .ok (.aload_n 0, 1) := dk_42 (dk_at dksX0_leftBy_0 0 rfl rfl)
theorem dX0_leftBy_1 : decode cX0_leftBy 1 = .ok (.getfield 49, 3) := dk_180 0 49 (dk_at dksX0_leftBy_0 1 rfl rfl)
theorem dX0_leftBy_4 : decode cX0_leftBy 4 = .ok (.aload_n 0, 1) := dk_42 (dk_at dksX0_leftBy_0 4 rfl rfl)
theorem dX0_leftBy_5 : decode cX0_leftBy 5 = .ok (.getfield 49, 3) := dk_180 0 49 (dk_at dksX0_leftBy_0 5 rfl rfl)
theorem dX0_leftBy_8 : decode cX0_leftBy 8 = .ok (.getfield 443, 3) := dk_180 1 187 (dk_at dksX0_leftBy_0 8 rfl rfl)
theorem dX0_leftBy_11 : decode cX0_leftBy 11 = .ok (.iconst 1, 1) := dk_4 (dk_at dksX0_leftBy_0 11 rfl rfl)
theorem dX0_leftBy_12 : decode cX0_leftBy 12 = .ok (.iload_n 1, 1) := dk_27 (dk_at dksX0_leftBy_0 12 rfl rfl)
theorem dX0_leftBy_13 : decode cX0_leftBy 13 = .ok (.ishl, 1) := dk_120 (dk_at dksX0_leftBy_0 13 rfl rfl)
theorem dX0_leftBy_14 : decode cX0_leftBy 14 = .ok (.ior, 1) := dk_128 (dk_at dksX0_leftBy_0 14 rfl rfl)
theorem dX0_leftBy_15 : decode cX0_leftBy 15 = .ok (.aload_n 0, 1) := dk_42 (dk_at dksX0_leftBy_0 15 rfl rfl)
theorem dX0_leftBy_16 : decode cX0_leftBy 16 = .ok (.getfield 49, 3) := dk_180 0 49 (dk_at dksX0_leftBy_0 16 rfl rfl)
theorem dX0_leftBy_19 : decode cX0_leftBy 19 = .ok (.getfield 449, 3) := dk_180 1 193 (dk_at dksX0_leftBy_0 19 rfl rfl)
theorem dX0_leftBy_22 : decode cX0_leftBy 22 = .ok (.invokevirtual 452, 3) := dk_182 1 196 (dk_at dksX0_leftBy_1 0 rfl rfl)
theorem dX0_leftBy_25 : decode cX0_leftBy 25 = .ok (.invokestatic 215, 3) := dk_184 0 215 (dk_at dksX0_leftBy_1 3 rfl rfl)
theorem dX0_leftBy_28 : decode cX0_leftBy 28 = .ok (.istore_n 2, 1) := dk_61 (dk_at dksX0_leftBy_1 6 rfl rfl)
theorem dX0_leftBy_29 : decode cX0_leftBy 29 = .ok (.iload_n 2, 1) := dk_28 (dk_at dksX0_leftBy_1 7 rfl rfl)
theorem dX0_leftBy_30 : decode cX0_leftBy 30 = .ok (.aload_n 0, 1) := dk_42 (dk_at dksX0_leftBy_1 8 rfl rfl)
theorem dX0_leftBy_31 : decode cX0_leftBy 31 = .ok (.getfield 49, 3) := dk_180 0 49 (dk_at dksX0_leftBy_1 9 rfl rfl)
theorem dX0_leftBy_34 : decode cX0_leftBy 34 = .ok (.aload_n 0, 1) := dk_42 (dk_at dksX0_leftBy_1 12 rfl rfl)
theorem dX0_leftBy_35 : decode cX0_leftBy 35 = .ok (.getfield 49, 3) := dk_180 0 49 (dk_at dksX0_leftBy_1 13 rfl rfl)
theorem dX0_leftBy_38 : decode cX0_leftBy 38 = .ok (.getfield 443, 3) := dk_180 1 187 (dk_at dksX0_leftBy_1 16 rfl rfl)
theorem dX0_leftBy_41 : decode cX0_leftBy 41 = .ok (.aload_n 0, 1) := dk_42 (dk_at dksX0_leftBy_1 19 rfl rfl)
theorem dX0_leftBy_42 : decode cX0_leftBy 42 = .ok (.getfield 49, 3) := dk_180 0 49 (dk_at dksX0_leftBy_1 20 rfl rfl)
theorem dX0_leftBy_45 : decode cX0_leftBy 45 = .ok (.getfield 449, 3) := dk_180 1 193 (dk_at dksX0_leftBy_2 0 rfl rfl)
theorem dX0_leftBy_48 : decode cX0_leftBy 48 = .ok (.iconst 1, 1) := dk_4 (dk_at dksX0_leftBy_2 3 rfl rfl)
theorem dX0_leftBy_49 : decode cX0_leftBy 49 = .ok (.iload_n 1, 1) := dk_27 (dk_at dksX0_leftBy_2 4 rfl rfl)
theorem dX0_leftBy_50 : decode cX0_leftBy 50 = .ok (.ishl, 1) := dk_120 (dk_at dksX0_leftBy_2 5 rfl rfl)
theorem dX0_leftBy_51 : decode cX0_leftBy 51 = .ok (.ior, 1) := dk_128 (dk_at dksX0_leftBy_2 6 rfl rfl)
theorem dX0_leftBy_52 : decode cX0_leftBy 52 = .ok (.invokevirtual 452, 3) := dk_182 1 196 (dk_at dksX0_leftBy_2 7 rfl rfl)
theorem dX0_leftBy_55 : decode cX0_leftBy 55 = .ok (.invokestatic 215, 3) := dk_184 0 215 (dk_at dksX0_leftBy_2 10 rfl rfl)
theorem dX0_leftBy_58 : decode cX0_leftBy 58 = .ok (.invokestatic 455, 3) := dk_184 1 199 (dk_at dksX0_leftBy_2 13 rfl rfl)
theorem dX0_leftBy_61 : decode cX0_leftBy 61 = .ok (.ireturn, 1) := dk_172 (dk_at dksX0_leftBy_2 16 rfl rfl)
abbrev cX0_seed : ByteArray := prog_1_method_72_code
def yX0_seed : MethodName := ⟨RX0, "seed", "(I)I"⟩
def dkwX0_seed_0 : List UInt8 := [42, 180, 0, 49, 180, 1, 207, 61, 42, 180, 0, 49, 27, 181, 1, 207, 28, 172]
abbrev dktX0_seed_0 : List UInt8 := dkwX0_seed_0 ++ []
theorem dksX0_seed_0 : cX0_seed.data.toList.drop 0 = dktX0_seed_0 := by decide +kernel
theorem dX0_seed_0 : decode cX0_seed 0 = .ok (.aload_n 0, 1) := dk_42 (dk_at dksX0_seed_0 0 rfl rfl)
theorem dX0_seed_1 : decode cX0_seed 1 = .ok (.getfield 49, 3) := dk_180 0 49 (dk_at dksX0_seed_0 1 rfl rfl)
theorem dX0_seed_4 : decode cX0_seed 4 = .ok (.getfield 463, 3) := dk_180 1 207 (dk_at dksX0_seed_0 4 rfl rfl)
theorem dX0_seed_7 : decode cX0_seed 7 = .ok (.istore_n 2, 1) := dk_61 (dk_at dksX0_seed_0 7 rfl rfl)
theorem dX0_seed_8 : decode cX0_seed 8 = .ok (.aload_n 0, 1) := dk_42 (dk_at dksX0_seed_0 8 rfl rfl)
theorem dX0_seed_9 : decode cX0_seed 9 = .ok (.getfield 49, 3) := dk_180 0 49 (dk_at dksX0_seed_0 9 rfl rfl)
theorem dX0_seed_12 : decode cX0_seed 12 = .ok (.iload_n 1, 1) := dk_27 (dk_at dksX0_seed_0 12 rfl rfl)
theorem dX0_seed_13 : decode cX0_seed 13 = .ok (.putfield 463, 3) := dk_181 1 207 (dk_at dksX0_seed_0 13 rfl rfl)
theorem dX0_seed_16 : decode cX0_seed 16 = .ok (.iload_n 2, 1) := dk_28 (dk_at dksX0_seed_0 16 rfl rfl)
theorem dX0_seed_17 : decode cX0_seed 17 = .ok (.ireturn, 1) := dk_172 (dk_at dksX0_seed_0 17 rfl rfl)
abbrev cX0_made : ByteArray := prog_1_method_73_code
def yX0_made : MethodName := ⟨RX0, "made", "(I)I"⟩
def dkwX0_made_5 : List UInt8 := [180, 0, 100, 180, 0, 104, 182, 0, 110, 172, 77, 42, 44, 182, 0, 133, 172]
abbrev dktX0_made_5 : List UInt8 := dkwX0_made_5 ++ []
def dkwX0_made_4 : List UInt8 := [182, 1, 210, 5, 112, 183, 0, 140, 182, 0, 143, 87, 132, 2, 1, 167, 255, 192, 42, 180, 0, 49]
abbrev dktX0_made_4 : List UInt8 := dkwX0_made_4 ++ dktX0_made_5
def dkwX0_made_3 : List UInt8 := [54, 4, 42, 180, 0, 49, 180, 0, 100, 180, 0, 104, 187, 0, 120, 89, 29, 21, 4, 42, 180, 0, 49]
abbrev dktX0_made_3 : List UInt8 := dkwX0_made_3 ++ dktX0_made_4
def dkwX0_made_2 : List UInt8 := [162, 0, 65, 42, 180, 0, 49, 182, 1, 210, 16, 8, 112, 62, 42, 180, 0, 49, 182, 1, 210, 16, 10, 112]
abbrev dktX0_made_2 : List UInt8 := dkwX0_made_2 ++ dktX0_made_3
def dkwX0_made_1 : List UInt8 := [182, 0, 110, 27, 96, 16, 16, 163, 0, 7, 4, 167, 0, 4, 3, 7, 182, 0, 94, 3, 61, 28, 27]
abbrev dktX0_made_1 : List UInt8 := dkwX0_made_1 ++ dktX0_made_2
def dkwX0_made_0 : List UInt8 := [42, 27, 4, 16, 16, 184, 0, 86, 4, 182, 0, 94, 42, 42, 180, 0, 49, 180, 0, 100, 180, 0, 104]
abbrev dktX0_made_0 : List UInt8 := dkwX0_made_0 ++ dktX0_made_1
theorem dksX0_made_0 : cX0_made.data.toList.drop 0 = dktX0_made_0 := by decide +kernel
theorem dksX0_made_1 : cX0_made.data.toList.drop 23 = dktX0_made_1 := dk_seg dksX0_made_0 23 rfl rfl
theorem dksX0_made_2 : cX0_made.data.toList.drop 46 = dktX0_made_2 := dk_seg dksX0_made_1 23 rfl rfl
theorem dksX0_made_3 : cX0_made.data.toList.drop 70 = dktX0_made_3 := dk_seg dksX0_made_2 24 rfl rfl
theorem dksX0_made_4 : cX0_made.data.toList.drop 93 = dktX0_made_4 := dk_seg dksX0_made_3 23 rfl rfl
theorem dksX0_made_5 : cX0_made.data.toList.drop 115 = dktX0_made_5 := dk_seg dksX0_made_4 22 rfl rfl
theorem dX0_made_0 : decode cX0_made 0 = .ok (.aload_n 0, 1) := dk_42 (dk_at dksX0_made_0 0 rfl rfl)
theorem dX0_made_1 : decode cX0_made 1 = .ok (.iload_n 1, 1) := dk_27 (dk_at dksX0_made_0 1 rfl rfl)
theorem dX0_made_2 : decode cX0_made 2 = .ok (.iconst 1, 1) := dk_4 (dk_at dksX0_made_0 2 rfl rfl)
theorem dX0_made_3 : decode cX0_made 3 = .ok (.bipush 16, 2) := dk_16 16 (dk_at dksX0_made_0 3 rfl rfl)
theorem dX0_made_5 : decode cX0_made 5 = .ok (.invokestatic 86, 3) := dk_184 0 86 (dk_at dksX0_made_0 5 rfl rfl)
theorem dX0_made_8 : decode cX0_made 8 = .ok (.iconst 1, 1) := dk_4 (dk_at dksX0_made_0 8 rfl rfl)
theorem dX0_made_9 : decode cX0_made 9 = .ok (.invokevirtual 94, 3) := dk_182 0 94 (dk_at dksX0_made_0 9 rfl rfl)
theorem dX0_made_12 : decode cX0_made 12 = .ok (.aload_n 0, 1) := dk_42 (dk_at dksX0_made_0 12 rfl rfl)
theorem dX0_made_13 : decode cX0_made 13 = .ok (.aload_n 0, 1) := dk_42 (dk_at dksX0_made_0 13 rfl rfl)
theorem dX0_made_14 : decode cX0_made 14 = .ok (.getfield 49, 3) := dk_180 0 49 (dk_at dksX0_made_0 14 rfl rfl)
theorem dX0_made_17 : decode cX0_made 17 = .ok (.getfield 100, 3) := dk_180 0 100 (dk_at dksX0_made_0 17 rfl rfl)
theorem dX0_made_20 : decode cX0_made 20 = .ok (.getfield 104, 3) := dk_180 0 104 (dk_at dksX0_made_0 20 rfl rfl)
theorem dX0_made_23 : decode cX0_made 23 = .ok (.invokevirtual 110, 3) := dk_182 0 110 (dk_at dksX0_made_1 0 rfl rfl)
theorem dX0_made_26 : decode cX0_made 26 = .ok (.iload_n 1, 1) := dk_27 (dk_at dksX0_made_1 3 rfl rfl)
theorem dX0_made_27 : decode cX0_made 27 = .ok (.iadd, 1) := dk_96 (dk_at dksX0_made_1 4 rfl rfl)
theorem dX0_made_28 : decode cX0_made 28 = .ok (.bipush 16, 2) := dk_16 16 (dk_at dksX0_made_1 5 rfl rfl)
theorem dX0_made_30 : decode cX0_made 30 = .ok (.if_icmp .gt 7, 3) := dk_163 0 7 (dk_at dksX0_made_1 7 rfl rfl)
theorem dX0_made_33 : decode cX0_made 33 = .ok (.iconst 1, 1) := dk_4 (dk_at dksX0_made_1 10 rfl rfl)
theorem dX0_made_34 : decode cX0_made 34 = .ok (.goto 4, 3) := dk_167 0 4 (dk_at dksX0_made_1 11 rfl rfl)
theorem dX0_made_37 : decode cX0_made 37 = .ok (.iconst 0, 1) := dk_3 (dk_at dksX0_made_1 14 rfl rfl)
theorem dX0_made_38 : decode cX0_made 38 = .ok (.iconst 4, 1) := dk_7 (dk_at dksX0_made_1 15 rfl rfl)
theorem dX0_made_39 : decode cX0_made 39 = .ok (.invokevirtual 94, 3) := dk_182 0 94 (dk_at dksX0_made_1 16 rfl rfl)
theorem dX0_made_42 : decode cX0_made 42 = .ok (.iconst 0, 1) := dk_3 (dk_at dksX0_made_1 19 rfl rfl)
theorem dX0_made_43 : decode cX0_made 43 = .ok (.istore_n 2, 1) := dk_61 (dk_at dksX0_made_1 20 rfl rfl)
theorem dX0_made_44 : decode cX0_made 44 = .ok (.iload_n 2, 1) := dk_28 (dk_at dksX0_made_1 21 rfl rfl)
theorem dX0_made_45 : decode cX0_made 45 = .ok (.iload_n 1, 1) := dk_27 (dk_at dksX0_made_1 22 rfl rfl)
theorem dX0_made_46 : decode cX0_made 46 = .ok (.if_icmp .ge 65, 3) := dk_162 0 65 (dk_at dksX0_made_2 0 rfl rfl)
theorem dX0_made_49 : decode cX0_made 49 = .ok (.aload_n 0, 1) := dk_42 (dk_at dksX0_made_2 3 rfl rfl)
theorem dX0_made_50 : decode cX0_made 50 = .ok (.getfield 49, 3) := dk_180 0 49 (dk_at dksX0_made_2 4 rfl rfl)
theorem dX0_made_53 : decode cX0_made 53 = .ok (.invokevirtual 466, 3) := dk_182 1 210 (dk_at dksX0_made_2 7 rfl rfl)
theorem dX0_made_56 : decode cX0_made 56 = .ok (.bipush 8, 2) := dk_16 8 (dk_at dksX0_made_2 10 rfl rfl)
theorem dX0_made_58 : decode cX0_made 58 = .ok (.irem, 1) := dk_112 (dk_at dksX0_made_2 12 rfl rfl)
theorem dX0_made_59 : decode cX0_made 59 = .ok (.istore_n 3, 1) := dk_62 (dk_at dksX0_made_2 13 rfl rfl)
theorem dX0_made_60 : decode cX0_made 60 = .ok (.aload_n 0, 1) := dk_42 (dk_at dksX0_made_2 14 rfl rfl)
theorem dX0_made_61 : decode cX0_made 61 = .ok (.getfield 49, 3) := dk_180 0 49 (dk_at dksX0_made_2 15 rfl rfl)
theorem dX0_made_64 : decode cX0_made 64 = .ok (.invokevirtual 466, 3) := dk_182 1 210 (dk_at dksX0_made_2 18 rfl rfl)
theorem dX0_made_67 : decode cX0_made 67 = .ok (.bipush 10, 2) := dk_16 10 (dk_at dksX0_made_2 21 rfl rfl)
theorem dX0_made_69 : decode cX0_made 69 = .ok (.irem, 1) := dk_112 (dk_at dksX0_made_2 23 rfl rfl)
theorem dX0_made_70 : decode cX0_made 70 = .ok (.istore 4, 2) := dk_54 4 (dk_at dksX0_made_3 0 rfl rfl)
theorem dX0_made_72 : decode cX0_made 72 = .ok (.aload_n 0, 1) := dk_42 (dk_at dksX0_made_3 2 rfl rfl)
theorem dX0_made_73 : decode cX0_made 73 = .ok (.getfield 49, 3) := dk_180 0 49 (dk_at dksX0_made_3 3 rfl rfl)
theorem dX0_made_76 : decode cX0_made 76 = .ok (.getfield 100, 3) := dk_180 0 100 (dk_at dksX0_made_3 6 rfl rfl)
theorem dX0_made_79 : decode cX0_made 79 = .ok (.getfield 104, 3) := dk_180 0 104 (dk_at dksX0_made_3 9 rfl rfl)
theorem dX0_made_82 : decode cX0_made 82 = .ok (.new 120, 3) := dk_187 0 120 (dk_at dksX0_made_3 12 rfl rfl)
theorem dX0_made_85 : decode cX0_made 85 = .ok (.dup, 1) := dk_89 (dk_at dksX0_made_3 15 rfl rfl)
theorem dX0_made_86 : decode cX0_made 86 = .ok (.iload_n 3, 1) := dk_29 (dk_at dksX0_made_3 16 rfl rfl)
theorem dX0_made_87 : decode cX0_made 87 = .ok (.iload 4, 2) := dk_21 4 (dk_at dksX0_made_3 17 rfl rfl)
theorem dX0_made_89 : decode cX0_made 89 = .ok (.aload_n 0, 1) := dk_42 (dk_at dksX0_made_3 19 rfl rfl)
theorem dX0_made_90 : decode cX0_made 90 = .ok (.getfield 49, 3) := dk_180 0 49 (dk_at dksX0_made_3 20 rfl rfl)
theorem dX0_made_93 : decode cX0_made 93 = .ok (.invokevirtual 466, 3) := dk_182 1 210 (dk_at dksX0_made_4 0 rfl rfl)
theorem dX0_made_96 : decode cX0_made 96 = .ok (.iconst 2, 1) := dk_5 (dk_at dksX0_made_4 3 rfl rfl)
theorem dX0_made_97 : decode cX0_made 97 = .ok (.irem, 1) := dk_112 (dk_at dksX0_made_4 4 rfl rfl)
theorem dX0_made_98 : decode cX0_made 98 = .ok (.invokespecial 140, 3) := dk_183 0 140 (dk_at dksX0_made_4 5 rfl rfl)
theorem dX0_made_101 : decode cX0_made 101 = .ok (.invokevirtual 143, 3) := dk_182 0 143 (dk_at dksX0_made_4 8 rfl rfl)
theorem dX0_made_104 : decode cX0_made 104 = .ok (.pop, 1) := dk_87 (dk_at dksX0_made_4 11 rfl rfl)
theorem dX0_made_105 : decode cX0_made 105 = .ok (.iinc 2 1, 3) := dk_132 2 1 (dk_at dksX0_made_4 12 rfl rfl)
theorem dX0_made_108 : decode cX0_made 108 = .ok (.goto (-64), 3) := dk_167 255 192 (dk_at dksX0_made_4 15 rfl rfl)
theorem dX0_made_111 : decode cX0_made 111 = .ok (.aload_n 0, 1) := dk_42 (dk_at dksX0_made_4 18 rfl rfl)
theorem dX0_made_112 : decode cX0_made 112 = .ok (.getfield 49, 3) := dk_180 0 49 (dk_at dksX0_made_4 19 rfl rfl)
theorem dX0_made_115 : decode cX0_made 115 = .ok (.getfield 100, 3) := dk_180 0 100 (dk_at dksX0_made_5 0 rfl rfl)
theorem dX0_made_118 : decode cX0_made 118 = .ok (.getfield 104, 3) := dk_180 0 104 (dk_at dksX0_made_5 3 rfl rfl)
theorem dX0_made_121 : decode cX0_made 121 = .ok (.invokevirtual 110, 3) := dk_182 0 110 (dk_at dksX0_made_5 6 rfl rfl)
theorem dX0_made_124 : decode cX0_made 124 = .ok (.ireturn, 1) := dk_172 (dk_at dksX0_made_5 9 rfl rfl)
theorem dX0_made_125 : decode cX0_made 125 = .ok (.astore_n 2, 1) := dk_77 (dk_at dksX0_made_5 10 rfl rfl)
theorem dX0_made_126 : decode cX0_made 126 = .ok (.aload_n 0, 1) := dk_42 (dk_at dksX0_made_5 11 rfl rfl)
theorem dX0_made_127 : decode cX0_made 127 = .ok (.aload_n 2, 1) := dk_44 (dk_at dksX0_made_5 12 rfl rfl)
theorem dX0_made_128 : decode cX0_made 128 = .ok (.invokevirtual 133, 3) := dk_182 0 133 (dk_at dksX0_made_5 13 rfl rfl)
theorem dX0_made_131 : decode cX0_made 131 = .ok (.ireturn, 1) := dk_172 (dk_at dksX0_made_5 16 rfl rfl)
abbrev cX0_voice : ByteArray := prog_1_method_74_code
def yX0_voice : MethodName := ⟨RX0, "voice", "(III)I"⟩
def dkwX0_voice_4 : List UInt8 := [185, 1, 224, 2, 0, 172, 25, 4, 29, 185, 1, 229, 2, 0, 172, 58, 4, 42, 25, 4, 182, 0, 133, 172]
abbrev dktX0_voice_4 : List UInt8 := dkwX0_voice_4 ++ []
def dkwX0_voice_3 : List UInt8 := [25, 4, 29, 185, 1, 214, 2, 0, 172, 25, 4, 29, 185, 1, 219, 2, 0, 172, 25, 4, 29]
abbrev dktX0_voice_3 : List UInt8 := dkwX0_voice_3 ++ dktX0_voice_4
def dkwX0_voice_2 : List UInt8 := [170, 0, 0, 0, 52, 0, 0, 0, 0, 0, 0, 0, 2, 0, 0, 0, 25, 0, 0, 0, 34, 0, 0, 0, 43]
abbrev dktX0_voice_2 : List UInt8 := dkwX0_voice_2 ++ dktX0_voice_3
def dkwX0_voice_1 : List UInt8 := [181, 1, 213, 28]
abbrev dktX0_voice_1 : List UInt8 := dkwX0_voice_1 ++ dktX0_voice_2
def dkwX0_voice_0 : List UInt8 := [42, 27, 182, 1, 6, 58, 4, 42, 28, 3, 6, 184, 0, 86, 4, 182, 0, 94, 42, 180, 0, 56, 3]
abbrev dktX0_voice_0 : List UInt8 := dkwX0_voice_0 ++ dktX0_voice_1
theorem dksX0_voice_0 : cX0_voice.data.toList.drop 0 = dktX0_voice_0 := by decide +kernel
theorem dksX0_voice_1 : cX0_voice.data.toList.drop 23 = dktX0_voice_1 := dk_seg dksX0_voice_0 23 rfl rfl
theorem dksX0_voice_2 : cX0_voice.data.toList.drop 27 = dktX0_voice_2 := dk_seg dksX0_voice_1 4 rfl rfl
theorem dksX0_voice_3 : cX0_voice.data.toList.drop 52 = dktX0_voice_3 := dk_seg dksX0_voice_2 25 rfl rfl
theorem dksX0_voice_4 : cX0_voice.data.toList.drop 73 = dktX0_voice_4 := dk_seg dksX0_voice_3 21 rfl rfl
theorem dX0_voice_0 : decode cX0_voice 0 = .ok (.aload_n 0, 1) := dk_42 (dk_at dksX0_voice_0 0 rfl rfl)
theorem dX0_voice_1 : decode cX0_voice 1 = .ok (.iload_n 1, 1) := dk_27 (dk_at dksX0_voice_0 1 rfl rfl)
theorem dX0_voice_2 : decode cX0_voice 2 = .ok (.invokevirtual 262, 3) := dk_182 1 6 (dk_at dksX0_voice_0 2 rfl rfl)
theorem dX0_voice_5 : decode cX0_voice 5 = .ok (.astore 4, 2) := dk_58 4 (dk_at dksX0_voice_0 5 rfl rfl)
theorem dX0_voice_7 : decode cX0_voice 7 = .ok (.aload_n 0, 1) := dk_42 (dk_at dksX0_voice_0 7 rfl rfl)
theorem dX0_voice_8 : decode cX0_voice 8 = .ok (.iload_n 2, 1) := dk_28 (dk_at dksX0_voice_0 8 rfl rfl)
theorem dX0_voice_9 : decode cX0_voice 9 = .ok (.iconst 0, 1) := dk_3 (dk_at dksX0_voice_0 9 rfl rfl)
theorem dX0_voice_10 : decode cX0_voice 10 = .ok (.iconst 3, 1) := dk_6 (dk_at dksX0_voice_0 10 rfl rfl)
theorem dX0_voice_11 : decode cX0_voice 11 = .ok (.invokestatic 86, 3) := dk_184 0 86 (dk_at dksX0_voice_0 11 rfl rfl)
theorem dX0_voice_14 : decode cX0_voice 14 = .ok (.iconst 1, 1) := dk_4 (dk_at dksX0_voice_0 14 rfl rfl)
theorem dX0_voice_15 : decode cX0_voice 15 = .ok (.invokevirtual 94, 3) := dk_182 0 94 (dk_at dksX0_voice_0 15 rfl rfl)
theorem dX0_voice_18 : decode cX0_voice 18 = .ok (.aload_n 0, 1) := dk_42 (dk_at dksX0_voice_0 18 rfl rfl)
theorem dX0_voice_19 : decode cX0_voice 19 = .ok (.getfield 56, 3) := dk_180 0 56 (dk_at dksX0_voice_0 19 rfl rfl)
theorem dX0_voice_22 : decode cX0_voice 22 = .ok (.iconst 0, 1) := dk_3 (dk_at dksX0_voice_0 22 rfl rfl)
theorem dX0_voice_23 : decode cX0_voice 23 = .ok (.putfield 469, 3) := dk_181 1 213 (dk_at dksX0_voice_1 0 rfl rfl)
theorem dX0_voice_26 : decode cX0_voice 26 = .ok (.iload_n 2, 1) := dk_28 (dk_at dksX0_voice_1 3 rfl rfl)
theorem dX0_voice_27 : decode cX0_voice 27 = .ok (.tableswitch 52 0 2 #[25, 34, 43], 25) := by decide +kernel
theorem dX0_voice_52 : decode cX0_voice 52 = .ok (.aload 4, 2) := dk_25 4 (dk_at dksX0_voice_3 0 rfl rfl)
theorem dX0_voice_54 : decode cX0_voice 54 = .ok (.iload_n 3, 1) := dk_29 (dk_at dksX0_voice_3 2 rfl rfl)
theorem dX0_voice_55 : decode cX0_voice 55 = .ok (.invokeinterface 470 2, 5) := by decide +kernel
theorem dX0_voice_60 : decode cX0_voice 60 = .ok (.ireturn, 1) := dk_172 (dk_at dksX0_voice_3 8 rfl rfl)
theorem dX0_voice_61 : decode cX0_voice 61 = .ok (.aload 4, 2) := dk_25 4 (dk_at dksX0_voice_3 9 rfl rfl)
theorem dX0_voice_63 : decode cX0_voice 63 = .ok (.iload_n 3, 1) := dk_29 (dk_at dksX0_voice_3 11 rfl rfl)
theorem dX0_voice_64 : decode cX0_voice 64 = .ok (.invokeinterface 475 2, 5) := by decide +kernel
theorem dX0_voice_69 : decode cX0_voice 69 = .ok (.ireturn, 1) := dk_172 (dk_at dksX0_voice_3 17 rfl rfl)
theorem dX0_voice_70 : decode cX0_voice 70 = .ok (.aload 4, 2) := dk_25 4 (dk_at dksX0_voice_3 18 rfl rfl)
theorem dX0_voice_72 : decode cX0_voice 72 = .ok (.iload_n 3, 1) := dk_29 (dk_at dksX0_voice_3 20 rfl rfl)
theorem dX0_voice_73 : decode cX0_voice 73 = .ok (.invokeinterface 480 2, 5) := by decide +kernel
theorem dX0_voice_78 : decode cX0_voice 78 = .ok (.ireturn, 1) := dk_172 (dk_at dksX0_voice_4 5 rfl rfl)
theorem dX0_voice_79 : decode cX0_voice 79 = .ok (.aload 4, 2) := dk_25 4 (dk_at dksX0_voice_4 6 rfl rfl)
theorem dX0_voice_81 : decode cX0_voice 81 = .ok (.iload_n 3, 1) := dk_29 (dk_at dksX0_voice_4 8 rfl rfl)
theorem dX0_voice_82 : decode cX0_voice 82 = .ok (.invokeinterface 485 2, 5) := by decide +kernel
theorem dX0_voice_87 : decode cX0_voice 87 = .ok (.ireturn, 1) := dk_172 (dk_at dksX0_voice_4 14 rfl rfl)
theorem dX0_voice_88 : decode cX0_voice 88 = .ok (.astore 4, 2) := dk_58 4 (dk_at dksX0_voice_4 15 rfl rfl)
theorem dX0_voice_90 : decode cX0_voice 90 = .ok (.aload_n 0, 1) := dk_42 (dk_at dksX0_voice_4 17 rfl rfl)
theorem dX0_voice_91 : decode cX0_voice 91 = .ok (.aload 4, 2) := dk_25 4 (dk_at dksX0_voice_4 18 rfl rfl)
theorem dX0_voice_93 : decode cX0_voice 93 = .ok (.invokevirtual 133, 3) := dk_182 0 133 (dk_at dksX0_voice_4 20 rfl rfl)
theorem dX0_voice_96 : decode cX0_voice 96 = .ok (.ireturn, 1) := dk_172 (dk_at dksX0_voice_4 23 rfl rfl)
abbrev cX0_trace : ByteArray := prog_1_method_75_code
def yX0_trace : MethodName := ⟨RX0, "trace", "(I)I"⟩
def dkwX0_trace_1 : List UInt8 := [180, 1, 234, 27, 46, 172, 77, 42, 44, 182, 0, 133, 172]
abbrev dktX0_trace_1 : List UInt8 := dkwX0_trace_1 ++ []
def dkwX0_trace_0 : List UInt8 := [42, 27, 3, 42, 180, 0, 56, 180, 1, 213, 4, 100, 184, 0, 86, 5, 182, 0, 94, 42, 180, 0, 56]
abbrev dktX0_trace_0 : List UInt8 := dkwX0_trace_0 ++ dktX0_trace_1
theorem dksX0_trace_0 : cX0_trace.data.toList.drop 0 = dktX0_trace_0 := by decide +kernel
theorem dksX0_trace_1 : cX0_trace.data.toList.drop 23 = dktX0_trace_1 := dk_seg dksX0_trace_0 23 rfl rfl
theorem dX0_trace_0 : decode cX0_trace 0 = .ok (.aload_n 0, 1) := dk_42 (dk_at dksX0_trace_0 0 rfl rfl)
theorem dX0_trace_1 : decode cX0_trace 1 = .ok (.iload_n 1, 1) := dk_27 (dk_at dksX0_trace_0 1 rfl rfl)
theorem dX0_trace_2 : decode cX0_trace 2 = .ok (.iconst 0, 1) := dk_3 (dk_at dksX0_trace_0 2 rfl rfl)
theorem dX0_trace_3 : decode cX0_trace 3 = .ok (.aload_n 0, 1) := dk_42 (dk_at dksX0_trace_0 3 rfl rfl)
theorem dX0_trace_4 : decode cX0_trace 4 = .ok (.getfield 56, 3) := dk_180 0 56 (dk_at dksX0_trace_0 4 rfl rfl)
theorem dX0_trace_7 : decode cX0_trace 7 = .ok (.getfield 469, 3) := dk_180 1 213 (dk_at dksX0_trace_0 7 rfl rfl)
theorem dX0_trace_10 : decode cX0_trace 10 = .ok (.iconst 1, 1) := dk_4 (dk_at dksX0_trace_0 10 rfl rfl)
theorem dX0_trace_11 : decode cX0_trace 11 = .ok (.isub, 1) := dk_100 (dk_at dksX0_trace_0 11 rfl rfl)
theorem dX0_trace_12 : decode cX0_trace 12 = .ok (.invokestatic 86, 3) := dk_184 0 86 (dk_at dksX0_trace_0 12 rfl rfl)
theorem dX0_trace_15 : decode cX0_trace 15 = .ok (.iconst 2, 1) := dk_5 (dk_at dksX0_trace_0 15 rfl rfl)
theorem dX0_trace_16 : decode cX0_trace 16 = .ok (.invokevirtual 94, 3) := dk_182 0 94 (dk_at dksX0_trace_0 16 rfl rfl)
theorem dX0_trace_19 : decode cX0_trace 19 = .ok (.aload_n 0, 1) := dk_42 (dk_at dksX0_trace_0 19 rfl rfl)
theorem dX0_trace_20 : decode cX0_trace 20 = .ok (.getfield 56, 3) := dk_180 0 56 (dk_at dksX0_trace_0 20 rfl rfl)
theorem dX0_trace_23 : decode cX0_trace 23 = .ok (.getfield 490, 3) := dk_180 1 234 (dk_at dksX0_trace_1 0 rfl rfl)
theorem dX0_trace_26 : decode cX0_trace 26 = .ok (.iload_n 1, 1) := dk_27 (dk_at dksX0_trace_1 3 rfl rfl)
theorem dX0_trace_27 : decode cX0_trace 27 = .ok (.iaload, 1) := dk_46 (dk_at dksX0_trace_1 4 rfl rfl)
theorem dX0_trace_28 : decode cX0_trace 28 = .ok (.ireturn, 1) := dk_172 (dk_at dksX0_trace_1 5 rfl rfl)
theorem dX0_trace_29 : decode cX0_trace 29 = .ok (.astore_n 2, 1) := dk_77 (dk_at dksX0_trace_1 6 rfl rfl)
theorem dX0_trace_30 : decode cX0_trace 30 = .ok (.aload_n 0, 1) := dk_42 (dk_at dksX0_trace_1 7 rfl rfl)
theorem dX0_trace_31 : decode cX0_trace 31 = .ok (.aload_n 2, 1) := dk_44 (dk_at dksX0_trace_1 8 rfl rfl)
theorem dX0_trace_32 : decode cX0_trace 32 = .ok (.invokevirtual 133, 3) := dk_182 0 133 (dk_at dksX0_trace_1 9 rfl rfl)
theorem dX0_trace_35 : decode cX0_trace 35 = .ok (.ireturn, 1) := dk_172 (dk_at dksX0_trace_1 12 rfl rfl)
abbrev cX0_sheet : ByteArray := prog_1_method_76_code
def yX0_sheet : MethodName := ⟨RX0, "sheet", "(III)I"⟩
def dkwX0_sheet_5 : List UInt8 := [29, 183, 1, 245, 181, 0, 90, 4, 172, 58, 4, 42, 25, 4, 182, 0, 133, 172]
abbrev dktX0_sheet_5 : List UInt8 := dkwX0_sheet_5 ++ []
def dkwX0_sheet_4 : List UInt8 := [167, 0, 28, 28, 16, 16, 160, 0, 14, 187, 1, 240, 89, 29, 183, 1, 242, 167, 0, 11, 187, 1, 243, 89]
abbrev dktX0_sheet_4 : List UInt8 := dkwX0_sheet_4 ++ dktX0_sheet_5
def dkwX0_sheet_3 : List UInt8 := [4, 182, 0, 94, 42, 180, 0, 76, 27, 50, 28, 16, 8, 160, 0, 14, 187, 1, 119, 89, 29, 183, 1, 121]
abbrev dktX0_sheet_3 : List UInt8 := dkwX0_sheet_3 ++ dktX0_sheet_4
def dkwX0_sheet_2 : List UInt8 := [155, 0, 7, 4, 167, 0, 4, 3, 6, 182, 0, 94, 42, 29, 16, 40, 163, 0, 7, 4, 167, 0, 4, 3]
abbrev dktX0_sheet_2 : List UInt8 := dkwX0_sheet_2 ++ dktX0_sheet_3
def dkwX0_sheet_1 : List UInt8 := [4, 182, 0, 94, 28, 154, 0, 15, 42, 180, 0, 76, 27, 50, 1, 181, 0, 90, 4, 172, 42, 29]
abbrev dktX0_sheet_1 : List UInt8 := dkwX0_sheet_1 ++ dktX0_sheet_2
def dkwX0_sheet_0 : List UInt8 := [42, 27, 184, 1, 113, 153, 0, 18, 28, 153, 0, 10, 28, 184, 1, 237, 153, 0, 7, 4, 167, 0, 4, 3]
abbrev dktX0_sheet_0 : List UInt8 := dkwX0_sheet_0 ++ dktX0_sheet_1
theorem dksX0_sheet_0 : cX0_sheet.data.toList.drop 0 = dktX0_sheet_0 := by decide +kernel
theorem dksX0_sheet_1 : cX0_sheet.data.toList.drop 24 = dktX0_sheet_1 := dk_seg dksX0_sheet_0 24 rfl rfl
theorem dksX0_sheet_2 : cX0_sheet.data.toList.drop 46 = dktX0_sheet_2 := dk_seg dksX0_sheet_1 22 rfl rfl
theorem dksX0_sheet_3 : cX0_sheet.data.toList.drop 70 = dktX0_sheet_3 := dk_seg dksX0_sheet_2 24 rfl rfl
theorem dksX0_sheet_4 : cX0_sheet.data.toList.drop 94 = dktX0_sheet_4 := dk_seg dksX0_sheet_3 24 rfl rfl
theorem dksX0_sheet_5 : cX0_sheet.data.toList.drop 118 = dktX0_sheet_5 := dk_seg dksX0_sheet_4 24 rfl rfl
theorem dX0_sheet_0 : decode cX0_sheet 0 = .ok (.aload_n 0, 1) := dk_42 (dk_at dksX0_sheet_0 0 rfl rfl)
theorem dX0_sheet_1 : decode cX0_sheet 1 = .ok (.iload_n 1, 1) := dk_27 (dk_at dksX0_sheet_0 1 rfl rfl)
theorem dX0_sheet_2 : decode cX0_sheet 2 = .ok (.invokestatic 369, 3) := dk_184 1 113 (dk_at dksX0_sheet_0 2 rfl rfl)
theorem dX0_sheet_5 : decode cX0_sheet 5 = .ok (.ifCond .eq 18, 3) := dk_153 0 18 (dk_at dksX0_sheet_0 5 rfl rfl)
theorem dX0_sheet_8 : decode cX0_sheet 8 = .ok (.iload_n 2, 1) := dk_28 (dk_at dksX0_sheet_0 8 rfl rfl)
theorem dX0_sheet_9 : decode cX0_sheet 9 = .ok (.ifCond .eq 10, 3) := dk_153 0 10 (dk_at dksX0_sheet_0 9 rfl rfl)
theorem dX0_sheet_12 : decode cX0_sheet 12 = .ok (.iload_n 2, 1) := dk_28 (dk_at dksX0_sheet_0 12 rfl rfl)
theorem dX0_sheet_13 : decode cX0_sheet 13 = .ok (.invokestatic 493, 3) := dk_184 1 237 (dk_at dksX0_sheet_0 13 rfl rfl)
theorem dX0_sheet_16 : decode cX0_sheet 16 = .ok (.ifCond .eq 7, 3) := dk_153 0 7 (dk_at dksX0_sheet_0 16 rfl rfl)
theorem dX0_sheet_19 : decode cX0_sheet 19 = .ok (.iconst 1, 1) := dk_4 (dk_at dksX0_sheet_0 19 rfl rfl)
theorem dX0_sheet_20 : decode cX0_sheet 20 = .ok (.goto 4, 3) := dk_167 0 4 (dk_at dksX0_sheet_0 20 rfl rfl)
theorem dX0_sheet_23 : decode cX0_sheet 23 = .ok (.iconst 0, 1) := dk_3 (dk_at dksX0_sheet_0 23 rfl rfl)
theorem dX0_sheet_24 : decode cX0_sheet 24 = .ok (.iconst 1, 1) := dk_4 (dk_at dksX0_sheet_1 0 rfl rfl)
theorem dX0_sheet_25 : decode cX0_sheet 25 = .ok (.invokevirtual 94, 3) := dk_182 0 94 (dk_at dksX0_sheet_1 1 rfl rfl)
theorem dX0_sheet_28 : decode cX0_sheet 28 = .ok (.iload_n 2, 1) := dk_28 (dk_at dksX0_sheet_1 4 rfl rfl)
theorem dX0_sheet_29 : decode cX0_sheet 29 = .ok (.ifCond .ne 15, 3) := dk_154 0 15 (dk_at dksX0_sheet_1 5 rfl rfl)
theorem dX0_sheet_32 : decode cX0_sheet 32 = .ok (.aload_n 0, 1) := dk_42 (dk_at dksX0_sheet_1 8 rfl rfl)
theorem dX0_sheet_33 : decode cX0_sheet 33 = .ok (.getfield 76, 3) := dk_180 0 76 (dk_at dksX0_sheet_1 9 rfl rfl)
theorem dX0_sheet_36 : decode cX0_sheet 36 = .ok (.iload_n 1, 1) := dk_27 (dk_at dksX0_sheet_1 12 rfl rfl)
theorem dX0_sheet_37 : decode cX0_sheet 37 = .ok (.aaload, 1) := dk_50 (dk_at dksX0_sheet_1 13 rfl rfl)
theorem dX0_sheet_38 : decode cX0_sheet 38 = .ok (.aconst_null, 1) := dk_1 (dk_at dksX0_sheet_1 14 rfl rfl)
theorem dX0_sheet_39 : decode cX0_sheet 39 = .ok (.putfield 90, 3) := dk_181 0 90 (dk_at dksX0_sheet_1 15 rfl rfl)
theorem dX0_sheet_42 : decode cX0_sheet 42 = .ok (.iconst 1, 1) := dk_4 (dk_at dksX0_sheet_1 18 rfl rfl)
theorem dX0_sheet_43 : decode cX0_sheet 43 = .ok (.ireturn, 1) := dk_172 (dk_at dksX0_sheet_1 19 rfl rfl)
theorem dX0_sheet_44 : decode cX0_sheet 44 = .ok (.aload_n 0, 1) := dk_42 (dk_at dksX0_sheet_1 20 rfl rfl)
theorem dX0_sheet_45 : decode cX0_sheet 45 = .ok (.iload_n 3, 1) := dk_29 (dk_at dksX0_sheet_1 21 rfl rfl)
theorem dX0_sheet_46 : decode cX0_sheet 46 = .ok (.ifCond .lt 7, 3) := dk_155 0 7 (dk_at dksX0_sheet_2 0 rfl rfl)
theorem dX0_sheet_49 : decode cX0_sheet 49 = .ok (.iconst 1, 1) := dk_4 (dk_at dksX0_sheet_2 3 rfl rfl)
theorem dX0_sheet_50 : decode cX0_sheet 50 = .ok (.goto 4, 3) := dk_167 0 4 (dk_at dksX0_sheet_2 4 rfl rfl)
theorem dX0_sheet_53 : decode cX0_sheet 53 = .ok (.iconst 0, 1) := dk_3 (dk_at dksX0_sheet_2 7 rfl rfl)
theorem dX0_sheet_54 : decode cX0_sheet 54 = .ok (.iconst 3, 1) := dk_6 (dk_at dksX0_sheet_2 8 rfl rfl)
theorem dX0_sheet_55 : decode cX0_sheet 55 = .ok (.invokevirtual 94, 3) := dk_182 0 94 (dk_at dksX0_sheet_2 9 rfl rfl)
theorem dX0_sheet_58 : decode cX0_sheet 58 = .ok (.aload_n 0, 1) := dk_42 (dk_at dksX0_sheet_2 12 rfl rfl)
theorem dX0_sheet_59 : decode cX0_sheet 59 = .ok (.iload_n 3, 1) := dk_29 (dk_at dksX0_sheet_2 13 rfl rfl)
theorem dX0_sheet_60 : decode cX0_sheet 60 = .ok (.bipush 40, 2) := dk_16 40 (dk_at dksX0_sheet_2 14 rfl rfl)
theorem dX0_sheet_62 : decode cX0_sheet 62 = .ok (.if_icmp .gt 7, 3) := dk_163 0 7 (dk_at dksX0_sheet_2 16 rfl rfl)
theorem dX0_sheet_65 : decode cX0_sheet 65 = .ok (.iconst 1, 1) := dk_4 (dk_at dksX0_sheet_2 19 rfl rfl)
theorem dX0_sheet_66 : decode cX0_sheet 66 = .ok (.goto 4, 3) := dk_167 0 4 (dk_at dksX0_sheet_2 20 rfl rfl)
theorem dX0_sheet_69 : decode cX0_sheet 69 = .ok (.iconst 0, 1) := dk_3 (dk_at dksX0_sheet_2 23 rfl rfl)
theorem dX0_sheet_70 : decode cX0_sheet 70 = .ok (.iconst 1, 1) := dk_4 (dk_at dksX0_sheet_3 0 rfl rfl)
theorem dX0_sheet_71 : decode cX0_sheet 71 = .ok (.invokevirtual 94, 3) := dk_182 0 94 (dk_at dksX0_sheet_3 1 rfl rfl)
theorem dX0_sheet_74 : decode cX0_sheet 74 = .ok (.aload_n 0, 1) := dk_42 (dk_at dksX0_sheet_3 4 rfl rfl)
theorem dX0_sheet_75 : decode cX0_sheet 75 = .ok (.getfield 76, 3) := dk_180 0 76 (dk_at dksX0_sheet_3 5 rfl rfl)
theorem dX0_sheet_78 : decode cX0_sheet 78 = .ok (.iload_n 1, 1) := dk_27 (dk_at dksX0_sheet_3 8 rfl rfl)
theorem dX0_sheet_79 : decode cX0_sheet 79 = .ok (.aaload, 1) := dk_50 (dk_at dksX0_sheet_3 9 rfl rfl)
theorem dX0_sheet_80 : decode cX0_sheet 80 = .ok (.iload_n 2, 1) := dk_28 (dk_at dksX0_sheet_3 10 rfl rfl)
theorem dX0_sheet_81 : decode cX0_sheet 81 = .ok (.bipush 8, 2) := dk_16 8 (dk_at dksX0_sheet_3 11 rfl rfl)
theorem dX0_sheet_83 : decode cX0_sheet 83 = .ok (.if_icmp .ne 14, 3) := dk_160 0 14 (dk_at dksX0_sheet_3 13 rfl rfl)
theorem dX0_sheet_86 : decode cX0_sheet 86 = .ok (.new 375, 3) := dk_187 1 119 (dk_at dksX0_sheet_3 16 rfl rfl)
theorem dX0_sheet_89 : decode cX0_sheet 89 = .ok (.dup, 1) := dk_89 (dk_at dksX0_sheet_3 19 rfl rfl)
theorem dX0_sheet_90 : decode cX0_sheet 90 = .ok (.iload_n 3, 1) := dk_29 (dk_at dksX0_sheet_3 20 rfl rfl)
theorem dX0_sheet_91 : decode cX0_sheet 91 = .ok (.invokespecial 377, 3) := dk_183 1 121 (dk_at dksX0_sheet_3 21 rfl rfl)
theorem dX0_sheet_94 : decode cX0_sheet 94 = .ok (.goto 28, 3) := dk_167 0 28 (dk_at dksX0_sheet_4 0 rfl rfl)
theorem dX0_sheet_97 : decode cX0_sheet 97 = .ok (.iload_n 2, 1) := dk_28 (dk_at dksX0_sheet_4 3 rfl rfl)
theorem dX0_sheet_98 : decode cX0_sheet 98 = .ok (.bipush 16, 2) := dk_16 16 (dk_at dksX0_sheet_4 4 rfl rfl)
theorem dX0_sheet_100 : decode cX0_sheet 100 = .ok (.if_icmp .ne 14, 3) := dk_160 0 14 (dk_at dksX0_sheet_4 6 rfl rfl)
theorem dX0_sheet_103 : decode cX0_sheet 103 = .ok (.new 496, 3) := dk_187 1 240 (dk_at dksX0_sheet_4 9 rfl rfl)
theorem dX0_sheet_106 : decode cX0_sheet 106 = .ok (.dup, 1) := dk_89 (dk_at dksX0_sheet_4 12 rfl rfl)
theorem dX0_sheet_107 : decode cX0_sheet 107 = .ok (.iload_n 3, 1) := dk_29 (dk_at dksX0_sheet_4 13 rfl rfl)
theorem dX0_sheet_108 : decode cX0_sheet 108 = .ok (.invokespecial 498, 3) := dk_183 1 242 (dk_at dksX0_sheet_4 14 rfl rfl)
theorem dX0_sheet_111 : decode cX0_sheet 111 = .ok (.goto 11, 3) := dk_167 0 11 (dk_at dksX0_sheet_4 17 rfl rfl)
theorem dX0_sheet_114 : decode cX0_sheet 114 = .ok (.new 499, 3) := dk_187 1 243 (dk_at dksX0_sheet_4 20 rfl rfl)
theorem dX0_sheet_117 : decode cX0_sheet 117 = .ok (.dup, 1) := dk_89 (dk_at dksX0_sheet_4 23 rfl rfl)
theorem dX0_sheet_118 : decode cX0_sheet 118 = .ok (.iload_n 3, 1) := dk_29 (dk_at dksX0_sheet_5 0 rfl rfl)
theorem dX0_sheet_119 : decode cX0_sheet 119 = .ok (.invokespecial 501, 3) := dk_183 1 245 (dk_at dksX0_sheet_5 1 rfl rfl)
theorem dX0_sheet_122 : decode cX0_sheet 122 = .ok (.putfield 90, 3) := dk_181 0 90 (dk_at dksX0_sheet_5 4 rfl rfl)
theorem dX0_sheet_125 : decode cX0_sheet 125 = .ok (.iconst 1, 1) := dk_4 (dk_at dksX0_sheet_5 7 rfl rfl)
theorem dX0_sheet_126 : decode cX0_sheet 126 = .ok (.ireturn, 1) := dk_172 (dk_at dksX0_sheet_5 8 rfl rfl)
theorem dX0_sheet_127 : decode cX0_sheet 127 = .ok (.astore 4, 2) := dk_58 4 (dk_at dksX0_sheet_5 9 rfl rfl)
theorem dX0_sheet_129 : decode cX0_sheet 129 = .ok (.aload_n 0, 1) := dk_42 (dk_at dksX0_sheet_5 11 rfl rfl)
theorem dX0_sheet_130 : decode cX0_sheet 130 = .ok (.aload 4, 2) := dk_25 4 (dk_at dksX0_sheet_5 12 rfl rfl)
theorem dX0_sheet_132 : decode cX0_sheet 132 = .ok (.invokevirtual 133, 3) := dk_182 0 133 (dk_at dksX0_sheet_5 14 rfl rfl)
theorem dX0_sheet_135 : decode cX0_sheet 135 = .ok (.ireturn, 1) := dk_172 (dk_at dksX0_sheet_5 17 rfl rfl)
abbrev cX0_isWidth : ByteArray := prog_1_method_11_code
def yX0_isWidth : MethodName := ⟨RX0, "isWidth", "(I)Z"⟩
def dkwX0_isWidth_0 : List UInt8 := [26, 16, 8, 159, 0, 15, 26, 16, 16, 159, 0, 9, 26, 16, 32, 160, 0, 7, 4, 167, 0, 4, 3, 172]
abbrev dktX0_isWidth_0 : List UInt8 := dkwX0_isWidth_0 ++ []
theorem dksX0_isWidth_0 : cX0_isWidth.data.toList.drop 0 = dktX0_isWidth_0 := by decide +kernel
theorem dX0_isWidth_0 : decode cX0_isWidth 0 = .ok (.iload_n 0, 1) := dk_26 (dk_at dksX0_isWidth_0 0 rfl rfl)
theorem dX0_isWidth_1 : decode cX0_isWidth 1 = .ok (.bipush 8, 2) := dk_16 8 (dk_at dksX0_isWidth_0 1 rfl rfl)
theorem dX0_isWidth_3 : decode cX0_isWidth 3 = .ok (.if_icmp .eq 15, 3) := dk_159 0 15 (dk_at dksX0_isWidth_0 3 rfl rfl)
theorem dX0_isWidth_6 : decode cX0_isWidth 6 = .ok (.iload_n 0, 1) := dk_26 (dk_at dksX0_isWidth_0 6 rfl rfl)
theorem dX0_isWidth_7 : decode cX0_isWidth 7 = .ok (.bipush 16, 2) := dk_16 16 (dk_at dksX0_isWidth_0 7 rfl rfl)
theorem dX0_isWidth_9 : decode cX0_isWidth 9 = .ok (.if_icmp .eq 9, 3) := dk_159 0 9 (dk_at dksX0_isWidth_0 9 rfl rfl)
theorem dX0_isWidth_12 : decode cX0_isWidth 12 = .ok (.iload_n 0, 1) := dk_26 (dk_at dksX0_isWidth_0 12 rfl rfl)
theorem dX0_isWidth_13 : decode cX0_isWidth 13 = .ok (.bipush 32, 2) := dk_16 32 (dk_at dksX0_isWidth_0 13 rfl rfl)
theorem dX0_isWidth_15 : decode cX0_isWidth 15 = .ok (.if_icmp .ne 7, 3) := dk_160 0 7 (dk_at dksX0_isWidth_0 15 rfl rfl)
theorem dX0_isWidth_18 : decode cX0_isWidth 18 = .ok (.iconst 1, 1) := dk_4 (dk_at dksX0_isWidth_0 18 rfl rfl)
theorem dX0_isWidth_19 : decode cX0_isWidth 19 = .ok (.goto 4, 3) := dk_167 0 4 (dk_at dksX0_isWidth_0 19 rfl rfl)
theorem dX0_isWidth_22 : decode cX0_isWidth 22 = .ok (.iconst 0, 1) := dk_3 (dk_at dksX0_isWidth_0 22 rfl rfl)
theorem dX0_isWidth_23 : decode cX0_isWidth 23 = .ok (.ireturn, 1) := dk_172 (dk_at dksX0_isWidth_0 23 rfl rfl)
abbrev cX0_put : ByteArray := prog_1_method_77_code
def yX0_put : MethodName := ⟨RX0, "put", "(III)I"⟩
def dkwX0_put_2 : List UInt8 := [182, 0, 133, 172]
abbrev dktX0_put_2 : List UInt8 := dkwX0_put_2 ++ []
def dkwX0_put_1 : List UInt8 := [4, 100, 184, 0, 86, 4, 182, 0, 94, 25, 4, 28, 29, 182, 1, 110, 4, 172, 58, 4, 42, 25, 4]
abbrev dktX0_put_1 : List UInt8 := dkwX0_put_1 ++ dktX0_put_2
def dkwX0_put_0 : List UInt8 := [42, 27, 184, 1, 113, 4, 182, 0, 94, 42, 27, 182, 1, 134, 58, 4, 42, 28, 3, 25, 4, 182, 1, 132]
abbrev dktX0_put_0 : List UInt8 := dkwX0_put_0 ++ dktX0_put_1
theorem dksX0_put_0 : cX0_put.data.toList.drop 0 = dktX0_put_0 := by decide +kernel
theorem dksX0_put_1 : cX0_put.data.toList.drop 24 = dktX0_put_1 := dk_seg dksX0_put_0 24 rfl rfl
theorem dksX0_put_2 : cX0_put.data.toList.drop 47 = dktX0_put_2 := dk_seg dksX0_put_1 23 rfl rfl
theorem dX0_put_0 : decode cX0_put 0 = .ok (.aload_n 0, 1) := dk_42 (dk_at dksX0_put_0 0 rfl rfl)
theorem dX0_put_1 : decode cX0_put 1 = .ok (.iload_n 1, 1) := dk_27 (dk_at dksX0_put_0 1 rfl rfl)
theorem dX0_put_2 : decode cX0_put 2 = .ok (.invokestatic 369, 3) := dk_184 1 113 (dk_at dksX0_put_0 2 rfl rfl)
theorem dX0_put_5 : decode cX0_put 5 = .ok (.iconst 1, 1) := dk_4 (dk_at dksX0_put_0 5 rfl rfl)
theorem dX0_put_6 : decode cX0_put 6 = .ok (.invokevirtual 94, 3) := dk_182 0 94 (dk_at dksX0_put_0 6 rfl rfl)
theorem dX0_put_9 : decode cX0_put 9 = .ok (.aload_n 0, 1) := dk_42 (dk_at dksX0_put_0 9 rfl rfl)
theorem dX0_put_10 : decode cX0_put 10 = .ok (.iload_n 1, 1) := dk_27 (dk_at dksX0_put_0 10 rfl rfl)
theorem dX0_put_11 : decode cX0_put 11 = .ok (.invokevirtual 390, 3) := dk_182 1 134 (dk_at dksX0_put_0 11 rfl rfl)
theorem dX0_put_14 : decode cX0_put 14 = .ok (.astore 4, 2) := dk_58 4 (dk_at dksX0_put_0 14 rfl rfl)
theorem dX0_put_16 : decode cX0_put 16 = .ok (.aload_n 0, 1) := dk_42 (dk_at dksX0_put_0 16 rfl rfl)
theorem dX0_put_17 : decode cX0_put 17 = .ok (.iload_n 2, 1) := dk_28 (dk_at dksX0_put_0 17 rfl rfl)
theorem dX0_put_18 : decode cX0_put 18 = .ok (.iconst 0, 1) := dk_3 (dk_at dksX0_put_0 18 rfl rfl)
theorem dX0_put_19 : decode cX0_put 19 = .ok (.aload 4, 2) := dk_25 4 (dk_at dksX0_put_0 19 rfl rfl)
theorem dX0_put_21 : decode cX0_put 21 = .ok (.invokevirtual 388, 3) := dk_182 1 132 (dk_at dksX0_put_0 21 rfl rfl)
theorem dX0_put_24 : decode cX0_put 24 = .ok (.iconst 1, 1) := dk_4 (dk_at dksX0_put_1 0 rfl rfl)
theorem dX0_put_25 : decode cX0_put 25 = .ok (.isub, 1) := dk_100 (dk_at dksX0_put_1 1 rfl rfl)
theorem dX0_put_26 : decode cX0_put 26 = .ok (.invokestatic 86, 3) := dk_184 0 86 (dk_at dksX0_put_1 2 rfl rfl)
theorem dX0_put_29 : decode cX0_put 29 = .ok (.iconst 1, 1) := dk_4 (dk_at dksX0_put_1 5 rfl rfl)
theorem dX0_put_30 : decode cX0_put 30 = .ok (.invokevirtual 94, 3) := dk_182 0 94 (dk_at dksX0_put_1 6 rfl rfl)
theorem dX0_put_33 : decode cX0_put 33 = .ok (.aload 4, 2) := dk_25 4 (dk_at dksX0_put_1 9 rfl rfl)
theorem dX0_put_35 : decode cX0_put 35 = .ok (.iload_n 2, 1) := dk_28 (dk_at dksX0_put_1 11 rfl rfl)
theorem dX0_put_36 : decode cX0_put 36 = .ok (.iload_n 3, 1) := dk_29 (dk_at dksX0_put_1 12 rfl rfl)
theorem dX0_put_37 : decode cX0_put 37 = .ok (.invokevirtual 366, 3) := dk_182 1 110 (dk_at dksX0_put_1 13 rfl rfl)
theorem dX0_put_40 : decode cX0_put 40 = .ok (.iconst 1, 1) := dk_4 (dk_at dksX0_put_1 16 rfl rfl)
theorem dX0_put_41 : decode cX0_put 41 = .ok (.ireturn, 1) := dk_172 (dk_at dksX0_put_1 17 rfl rfl)
theorem dX0_put_42 : decode cX0_put 42 = .ok (.astore 4, 2) := dk_58 4 (dk_at dksX0_put_1 18 rfl rfl)
theorem dX0_put_44 : decode cX0_put 44 = .ok (.aload_n 0, 1) := dk_42 (dk_at dksX0_put_1 20 rfl rfl)
theorem dX0_put_45 : decode cX0_put 45 = .ok (.aload 4, 2) := dk_25 4 (dk_at dksX0_put_1 21 rfl rfl)
theorem dX0_put_47 : decode cX0_put 47 = .ok (.invokevirtual 133, 3) := dk_182 0 133 (dk_at dksX0_put_2 0 rfl rfl)
theorem dX0_put_50 : decode cX0_put 50 = .ok (.ireturn, 1) := dk_172 (dk_at dksX0_put_2 3 rfl rfl)
abbrev cX0_move : ByteArray := prog_1_method_78_code
def yX0_move : MethodName := ⟨RX0, "move", "(IIIII)I"⟩
def dkwX0_move_6 : List UInt8 := [96, 46, 182, 1, 110, 132, 9, 1, 167, 255, 229, 21, 5, 172, 58, 6, 42, 25, 6, 182, 0, 133, 172]
abbrev dktX0_move_6 : List UInt8 := dkwX0_move_6 ++ []
def dkwX0_move_5 : List UInt8 := [58, 8, 3, 54, 9, 21, 9, 21, 5, 162, 0, 26, 25, 7, 21, 4, 21, 9, 96, 25, 8, 28, 21, 9]
abbrev dktX0_move_5 : List UInt8 := dkwX0_move_5 ++ dktX0_move_6
def dkwX0_move_4 : List UInt8 := [182, 1, 132, 21, 5, 100, 163, 0, 7, 4, 167, 0, 4, 3, 4, 182, 0, 94, 25, 6, 182, 1, 248]
abbrev dktX0_move_4 : List UInt8 := dkwX0_move_4 ++ dktX0_move_5
def dkwX0_move_3 : List UInt8 := [155, 0, 37, 21, 4, 155, 0, 32, 28, 25, 6, 182, 1, 132, 21, 5, 100, 163, 0, 20, 21, 4, 25, 7]
abbrev dktX0_move_3 : List UInt8 := dkwX0_move_3 ++ dktX0_move_4
def dkwX0_move_2 : List UInt8 := [182, 1, 246, 160, 0, 7, 4, 167, 0, 4, 3, 8, 182, 0, 94, 42, 21, 5, 155, 0, 41, 28]
abbrev dktX0_move_2 : List UInt8 := dkwX0_move_2 ++ dktX0_move_3
def dkwX0_move_1 : List UInt8 := [42, 27, 182, 1, 134, 58, 6, 42, 29, 182, 1, 134, 58, 7, 42, 25, 6, 182, 1, 246, 25, 7]
abbrev dktX0_move_1 : List UInt8 := dkwX0_move_1 ++ dktX0_move_2
def dkwX0_move_0 : List UInt8 := [42, 27, 184, 1, 113, 153, 0, 14, 29, 184, 1, 113, 153, 0, 7, 4, 167, 0, 4, 3, 4, 182, 0, 94]
abbrev dktX0_move_0 : List UInt8 := dkwX0_move_0 ++ dktX0_move_1
theorem dksX0_move_0 : cX0_move.data.toList.drop 0 = dktX0_move_0 := by decide +kernel
theorem dksX0_move_1 : cX0_move.data.toList.drop 24 = dktX0_move_1 := dk_seg dksX0_move_0 24 rfl rfl
theorem dksX0_move_2 : cX0_move.data.toList.drop 46 = dktX0_move_2 := dk_seg dksX0_move_1 22 rfl rfl
theorem dksX0_move_3 : cX0_move.data.toList.drop 68 = dktX0_move_3 := dk_seg dksX0_move_2 22 rfl rfl
theorem dksX0_move_4 : cX0_move.data.toList.drop 92 = dktX0_move_4 := dk_seg dksX0_move_3 24 rfl rfl
theorem dksX0_move_5 : cX0_move.data.toList.drop 115 = dktX0_move_5 := dk_seg dksX0_move_4 23 rfl rfl
theorem dksX0_move_6 : cX0_move.data.toList.drop 139 = dktX0_move_6 := dk_seg dksX0_move_5 24 rfl rfl
theorem dX0_move_0 : decode cX0_move 0 = .ok (.aload_n 0, 1) := dk_42 (dk_at dksX0_move_0 0 rfl rfl)
theorem dX0_move_1 : decode cX0_move 1 = .ok (.iload_n 1, 1) := dk_27 (dk_at dksX0_move_0 1 rfl rfl)
theorem dX0_move_2 : decode cX0_move 2 = .ok (.invokestatic 369, 3) := dk_184 1 113 (dk_at dksX0_move_0 2 rfl rfl)
theorem dX0_move_5 : decode cX0_move 5 = .ok (.ifCond .eq 14, 3) := dk_153 0 14 (dk_at dksX0_move_0 5 rfl rfl)
theorem dX0_move_8 : decode cX0_move 8 = .ok (.iload_n 3, 1) := dk_29 (dk_at dksX0_move_0 8 rfl rfl)
theorem dX0_move_9 : decode cX0_move 9 = .ok (.invokestatic 369, 3) := dk_184 1 113 (dk_at dksX0_move_0 9 rfl rfl)
theorem dX0_move_12 : decode cX0_move 12 = .ok (.ifCond .eq 7, 3) := dk_153 0 7 (dk_at dksX0_move_0 12 rfl rfl)
theorem dX0_move_15 : decode cX0_move 15 = .ok (.iconst 1, 1) := dk_4 (dk_at dksX0_move_0 15 rfl rfl)
theorem dX0_move_16 : decode cX0_move 16 = .ok (.goto 4, 3) := dk_167 0 4 (dk_at dksX0_move_0 16 rfl rfl)
theorem dX0_move_19 : decode cX0_move 19 = .ok (.iconst 0, 1) := dk_3 (dk_at dksX0_move_0 19 rfl rfl)
theorem dX0_move_20 : decode cX0_move 20 = .ok (.iconst 1, 1) := dk_4 (dk_at dksX0_move_0 20 rfl rfl)
theorem dX0_move_21 : decode cX0_move 21 = .ok (.invokevirtual 94, 3) := dk_182 0 94 (dk_at dksX0_move_0 21 rfl rfl)
theorem dX0_move_24 : decode cX0_move 24 = .ok (.aload_n 0, 1) := dk_42 (dk_at dksX0_move_1 0 rfl rfl)
theorem dX0_move_25 : decode cX0_move 25 = .ok (.iload_n 1, 1) := dk_27 (dk_at dksX0_move_1 1 rfl rfl)
theorem dX0_move_26 : decode cX0_move 26 = .ok (.invokevirtual 390, 3) := dk_182 1 134 (dk_at dksX0_move_1 2 rfl rfl)
theorem dX0_move_29 : decode cX0_move 29 = .ok (.astore 6, 2) := dk_58 6 (dk_at dksX0_move_1 5 rfl rfl)
theorem dX0_move_31 : decode cX0_move 31 = .ok (.aload_n 0, 1) := dk_42 (dk_at dksX0_move_1 7 rfl rfl)
theorem dX0_move_32 : decode cX0_move 32 = .ok (.iload_n 3, 1) := dk_29 (dk_at dksX0_move_1 8 rfl rfl)
theorem dX0_move_33 : decode cX0_move 33 = .ok (.invokevirtual 390, 3) := dk_182 1 134 (dk_at dksX0_move_1 9 rfl rfl)
theorem dX0_move_36 : decode cX0_move 36 = .ok (.astore 7, 2) := dk_58 7 (dk_at dksX0_move_1 12 rfl rfl)
theorem dX0_move_38 : decode cX0_move 38 = .ok (.aload_n 0, 1) := dk_42 (dk_at dksX0_move_1 14 rfl rfl)
theorem dX0_move_39 : decode cX0_move 39 = .ok (.aload 6, 2) := dk_25 6 (dk_at dksX0_move_1 15 rfl rfl)
theorem dX0_move_41 : decode cX0_move 41 = .ok (.invokevirtual 502, 3) := dk_182 1 246 (dk_at dksX0_move_1 17 rfl rfl)
theorem dX0_move_44 : decode cX0_move 44 = .ok (.aload 7, 2) := dk_25 7 (dk_at dksX0_move_1 20 rfl rfl)
theorem dX0_move_46 : decode cX0_move 46 = .ok (.invokevirtual 502, 3) := dk_182 1 246 (dk_at dksX0_move_2 0 rfl rfl)
theorem dX0_move_49 : decode cX0_move 49 = .ok (.if_icmp .ne 7, 3) := dk_160 0 7 (dk_at dksX0_move_2 3 rfl rfl)
theorem dX0_move_52 : decode cX0_move 52 = .ok (.iconst 1, 1) := dk_4 (dk_at dksX0_move_2 6 rfl rfl)
theorem dX0_move_53 : decode cX0_move 53 = .ok (.goto 4, 3) := dk_167 0 4 (dk_at dksX0_move_2 7 rfl rfl)
theorem dX0_move_56 : decode cX0_move 56 = .ok (.iconst 0, 1) := dk_3 (dk_at dksX0_move_2 10 rfl rfl)
theorem dX0_move_57 : decode cX0_move 57 = .ok (.iconst 5, 1) := dk_8 (dk_at dksX0_move_2 11 rfl rfl)
theorem dX0_move_58 : decode cX0_move 58 = .ok (.invokevirtual 94, 3) := dk_182 0 94 (dk_at dksX0_move_2 12 rfl rfl)
theorem dX0_move_61 : decode cX0_move 61 = .ok (.aload_n 0, 1) := dk_42 (dk_at dksX0_move_2 15 rfl rfl)
theorem dX0_move_62 : decode cX0_move 62 = .ok (.iload 5, 2) := dk_21 5 (dk_at dksX0_move_2 16 rfl rfl)
theorem dX0_move_64 : decode cX0_move 64 = .ok (.ifCond .lt 41, 3) := dk_155 0 41 (dk_at dksX0_move_2 18 rfl rfl)
theorem dX0_move_67 : decode cX0_move 67 = .ok (.iload_n 2, 1) := dk_28 (dk_at dksX0_move_2 21 rfl rfl)
theorem dX0_move_68 : decode cX0_move 68 = .ok (.ifCond .lt 37, 3) := dk_155 0 37 (dk_at dksX0_move_3 0 rfl rfl)
theorem dX0_move_71 : decode cX0_move 71 = .ok (.iload 4, 2) := dk_21 4 (dk_at dksX0_move_3 3 rfl rfl)
theorem dX0_move_73 : decode cX0_move 73 = .ok (.ifCond .lt 32, 3) := dk_155 0 32 (dk_at dksX0_move_3 5 rfl rfl)
theorem dX0_move_76 : decode cX0_move 76 = .ok (.iload_n 2, 1) := dk_28 (dk_at dksX0_move_3 8 rfl rfl)
theorem dX0_move_77 : decode cX0_move 77 = .ok (.aload 6, 2) := dk_25 6 (dk_at dksX0_move_3 9 rfl rfl)
theorem dX0_move_79 : decode cX0_move 79 = .ok (.invokevirtual 388, 3) := dk_182 1 132 (dk_at dksX0_move_3 11 rfl rfl)
theorem dX0_move_82 : decode cX0_move 82 = .ok (.iload 5, 2) := dk_21 5 (dk_at dksX0_move_3 14 rfl rfl)
theorem dX0_move_84 : decode cX0_move 84 = .ok (.isub, 1) := dk_100 (dk_at dksX0_move_3 16 rfl rfl)
theorem dX0_move_85 : decode cX0_move 85 = .ok (.if_icmp .gt 20, 3) := dk_163 0 20 (dk_at dksX0_move_3 17 rfl rfl)
theorem dX0_move_88 : decode cX0_move 88 = .ok (.iload 4, 2) := dk_21 4 (dk_at dksX0_move_3 20 rfl rfl)
theorem dX0_move_90 : decode cX0_move 90 = .ok (.aload 7, 2) := dk_25 7 (dk_at dksX0_move_3 22 rfl rfl)
theorem dX0_move_92 : decode cX0_move 92 = .ok (.invokevirtual 388, 3) := dk_182 1 132 (dk_at dksX0_move_4 0 rfl rfl)
theorem dX0_move_95 : decode cX0_move 95 = .ok (.iload 5, 2) := dk_21 5 (dk_at dksX0_move_4 3 rfl rfl)
theorem dX0_move_97 : decode cX0_move 97 = .ok (.isub, 1) := dk_100 (dk_at dksX0_move_4 5 rfl rfl)
theorem dX0_move_98 : decode cX0_move 98 = .ok (.if_icmp .gt 7, 3) := dk_163 0 7 (dk_at dksX0_move_4 6 rfl rfl)
theorem dX0_move_101 : decode cX0_move 101 = .ok (.iconst 1, 1) := dk_4 (dk_at dksX0_move_4 9 rfl rfl)
theorem dX0_move_102 : decode cX0_move 102 = .ok (.goto 4, 3) := dk_167 0 4 (dk_at dksX0_move_4 10 rfl rfl)
theorem dX0_move_105 : decode cX0_move 105 = .ok (.iconst 0, 1) := dk_3 (dk_at dksX0_move_4 13 rfl rfl)
theorem dX0_move_106 : decode cX0_move 106 = .ok (.iconst 1, 1) := dk_4 (dk_at dksX0_move_4 14 rfl rfl)
theorem dX0_move_107 : decode cX0_move 107 = .ok (.invokevirtual 94, 3) := dk_182 0 94 (dk_at dksX0_move_4 15 rfl rfl)
theorem dX0_move_110 : decode cX0_move 110 = .ok (.aload 6, 2) := dk_25 6 (dk_at dksX0_move_4 18 rfl rfl)
theorem dX0_move_112 : decode cX0_move 112 = .ok (.invokevirtual 504, 3) := dk_182 1 248 (dk_at dksX0_move_4 20 rfl rfl)
theorem dX0_move_115 : decode cX0_move 115 = .ok (.astore 8, 2) := dk_58 8 (dk_at dksX0_move_5 0 rfl rfl)
theorem dX0_move_117 : decode cX0_move 117 = .ok (.iconst 0, 1) := dk_3 (dk_at dksX0_move_5 2 rfl rfl)
theorem dX0_move_118 : decode cX0_move 118 = .ok (.istore 9, 2) := dk_54 9 (dk_at dksX0_move_5 3 rfl rfl)
theorem dX0_move_120 : decode cX0_move 120 = .ok (.iload 9, 2) := dk_21 9 (dk_at dksX0_move_5 5 rfl rfl)
theorem dX0_move_122 : decode cX0_move 122 = .ok (.iload 5, 2) := dk_21 5 (dk_at dksX0_move_5 7 rfl rfl)
theorem dX0_move_124 : decode cX0_move 124 = .ok (.if_icmp .ge 26, 3) := dk_162 0 26 (dk_at dksX0_move_5 9 rfl rfl)
theorem dX0_move_127 : decode cX0_move 127 = .ok (.aload 7, 2) := dk_25 7 (dk_at dksX0_move_5 12 rfl rfl)
theorem dX0_move_129 : decode cX0_move 129 = .ok (.iload 4, 2) := dk_21 4 (dk_at dksX0_move_5 14 rfl rfl)
theorem dX0_move_131 : decode cX0_move 131 = .ok (.iload 9, 2) := dk_21 9 (dk_at dksX0_move_5 16 rfl rfl)
theorem dX0_move_133 : decode cX0_move 133 = .ok (.iadd, 1) := dk_96 (dk_at dksX0_move_5 18 rfl rfl)
theorem dX0_move_134 : decode cX0_move 134 = .ok (.aload 8, 2) := dk_25 8 (dk_at dksX0_move_5 19 rfl rfl)
theorem dX0_move_136 : decode cX0_move 136 = .ok (.iload_n 2, 1) := dk_28 (dk_at dksX0_move_5 21 rfl rfl)
theorem dX0_move_137 : decode cX0_move 137 = .ok (.iload 9, 2) := dk_21 9 (dk_at dksX0_move_5 22 rfl rfl)
theorem dX0_move_139 : decode cX0_move 139 = .ok (.iadd, 1) := dk_96 (dk_at dksX0_move_6 0 rfl rfl)
theorem dX0_move_140 : decode cX0_move 140 = .ok (.iaload, 1) := dk_46 (dk_at dksX0_move_6 1 rfl rfl)
theorem dX0_move_141 : decode cX0_move 141 = .ok (.invokevirtual 366, 3) := dk_182 1 110 (dk_at dksX0_move_6 2 rfl rfl)
theorem dX0_move_144 : decode cX0_move 144 = .ok (.iinc 9 1, 3) := dk_132 9 1 (dk_at dksX0_move_6 5 rfl rfl)
theorem dX0_move_147 : decode cX0_move 147 = .ok (.goto (-27), 3) := dk_167 255 229 (dk_at dksX0_move_6 8 rfl rfl)
theorem dX0_move_150 : decode cX0_move 150 = .ok (.iload 5, 2) := dk_21 5 (dk_at dksX0_move_6 11 rfl rfl)
theorem dX0_move_152 : decode cX0_move 152 = .ok (.ireturn, 1) := dk_172 (dk_at dksX0_move_6 13 rfl rfl)
theorem dX0_move_153 : decode cX0_move 153 = .ok (.astore 6, 2) := dk_58 6 (dk_at dksX0_move_6 14 rfl rfl)
theorem dX0_move_155 : decode cX0_move 155 = .ok (.aload_n 0, 1) := dk_42 (dk_at dksX0_move_6 16 rfl rfl)
theorem dX0_move_156 : decode cX0_move 156 = .ok (.aload 6, 2) := dk_25 6 (dk_at dksX0_move_6 17 rfl rfl)
theorem dX0_move_158 : decode cX0_move 158 = .ok (.invokevirtual 133, 3) := dk_182 0 133 (dk_at dksX0_move_6 19 rfl rfl)
theorem dX0_move_161 : decode cX0_move 161 = .ok (.ireturn, 1) := dk_172 (dk_at dksX0_move_6 22 rfl rfl)
abbrev cX0_image : ByteArray := prog_1_method_79_code
def yX0_image : MethodName := ⟨RX0, "image", "()I"⟩
def dkwX0_image_1 : List UInt8 := [180, 2, 2, 172]
abbrev dktX0_image_1 : List UInt8 := dkwX0_image_1 ++ []
def dkwX0_image_0 : List UInt8 := [42, 42, 180, 0, 49, 182, 1, 252, 181, 1, 255, 42, 89, 180, 2, 2, 4, 96, 181, 2, 2, 42]
abbrev dktX0_image_0 : List UInt8 := dkwX0_image_0 ++ dktX0_image_1
theorem dksX0_image_0 : cX0_image.data.toList.drop 0 = dktX0_image_0 := by decide +kernel
theorem dksX0_image_1 : cX0_image.data.toList.drop 22 = dktX0_image_1 := dk_seg dksX0_image_0 22 rfl rfl
theorem dX0_image_0 : decode cX0_image 0 = .ok (.aload_n 0, 1) := dk_42 (dk_at dksX0_image_0 0 rfl rfl)
theorem dX0_image_1 : decode cX0_image 1 = .ok (.aload_n 0, 1) := dk_42 (dk_at dksX0_image_0 1 rfl rfl)
theorem dX0_image_2 : decode cX0_image 2 = .ok (.getfield 49, 3) := dk_180 0 49 (dk_at dksX0_image_0 2 rfl rfl)
theorem dX0_image_5 : decode cX0_image 5 = .ok (.invokevirtual 508, 3) := dk_182 1 252 (dk_at dksX0_image_0 5 rfl rfl)
theorem dX0_image_8 : decode cX0_image 8 = .ok (.putfield 511, 3) := dk_181 1 255 (dk_at dksX0_image_0 8 rfl rfl)
theorem dX0_image_11 : decode cX0_image 11 = .ok (.aload_n 0, 1) := dk_42 (dk_at dksX0_image_0 11 rfl rfl)
theorem dX0_image_12 : decode cX0_image 12 = .ok (.dup, 1) := dk_89 (dk_at dksX0_image_0 12 rfl rfl)
theorem dX0_image_13 : decode cX0_image 13 = .ok (.getfield 514, 3) := dk_180 2 2 (dk_at dksX0_image_0 13 rfl rfl)
theorem dX0_image_16 : decode cX0_image 16 = .ok (.iconst 1, 1) := dk_4 (dk_at dksX0_image_0 16 rfl rfl)
theorem dX0_image_17 : decode cX0_image 17 = .ok (.iadd, 1) := dk_96 (dk_at dksX0_image_0 17 rfl rfl)
theorem dX0_image_18 : decode cX0_image 18 = .ok (.putfield 514, 3) := dk_181 2 2 (dk_at dksX0_image_0 18 rfl rfl)
theorem dX0_image_21 : decode cX0_image 21 = .ok (.aload_n 0, 1) := dk_42 (dk_at dksX0_image_0 21 rfl rfl)
theorem dX0_image_22 : decode cX0_image 22 = .ok (.getfield 514, 3) := dk_180 2 2 (dk_at dksX0_image_1 0 rfl rfl)
theorem dX0_image_25 : decode cX0_image 25 = .ok (.ireturn, 1) := dk_172 (dk_at dksX0_image_1 3 rfl rfl)
abbrev cX0_restore : ByteArray := prog_1_method_80_code
def yX0_restore : MethodName := ⟨RX0, "restore", "()I"⟩
def dkwX0_restore_1 : List UInt8 := [182, 1, 252, 181, 0, 49, 42, 180, 0, 49, 180, 0, 100, 180, 0, 189, 172, 76, 42, 43, 182, 0, 133, 172]
abbrev dktX0_restore_1 : List UInt8 := dkwX0_restore_1 ++ []
def dkwX0_restore_0 : List UInt8 := [42, 42, 180, 1, 255, 198, 0, 7, 4, 167, 0, 4, 3, 5, 182, 0, 94, 42, 42, 180, 1, 255]
abbrev dktX0_restore_0 : List UInt8 := dkwX0_restore_0 ++ dktX0_restore_1
theorem dksX0_restore_0 : cX0_restore.data.toList.drop 0 = dktX0_restore_0 := by decide +kernel
theorem dksX0_restore_1 : cX0_restore.data.toList.drop 22 = dktX0_restore_1 := dk_seg dksX0_restore_0 22 rfl rfl
theorem dX0_restore_0 : decode cX0_restore 0 = .ok (.aload_n 0, 1) := dk_42 (dk_at dksX0_restore_0 0 rfl rfl)
theorem dX0_restore_1 : decode cX0_restore 1 = .ok (.aload_n 0, 1) := dk_42 (dk_at dksX0_restore_0 1 rfl rfl)
theorem dX0_restore_2 : decode cX0_restore 2 = .ok (.getfield 511, 3) := dk_180 1 255 (dk_at dksX0_restore_0 2 rfl rfl)
theorem dX0_restore_5 : decode cX0_restore 5 = .ok (.ifnull 7, 3) := dk_198 0 7 (dk_at dksX0_restore_0 5 rfl rfl)
theorem dX0_restore_8 : decode cX0_restore 8 = .ok (.iconst 1, 1) := dk_4 (dk_at dksX0_restore_0 8 rfl rfl)
theorem dX0_restore_9 : decode cX0_restore 9 = .ok (.goto 4, 3) := dk_167 0 4 (dk_at dksX0_restore_0 9 rfl rfl)
theorem dX0_restore_12 : decode cX0_restore 12 = .ok (.iconst 0, 1) := dk_3 (dk_at dksX0_restore_0 12 rfl rfl)
theorem dX0_restore_13 : decode cX0_restore 13 = .ok (.iconst 2, 1) := dk_5 (dk_at dksX0_restore_0 13 rfl rfl)
theorem dX0_restore_14 : decode cX0_restore 14 = .ok (.invokevirtual 94, 3) := dk_182 0 94 (dk_at dksX0_restore_0 14 rfl rfl)
theorem dX0_restore_17 : decode cX0_restore 17 = .ok (.aload_n 0, 1) := dk_42 (dk_at dksX0_restore_0 17 rfl rfl)
theorem dX0_restore_18 : decode cX0_restore 18 = .ok (.aload_n 0, 1) := dk_42 (dk_at dksX0_restore_0 18 rfl rfl)
theorem dX0_restore_19 : decode cX0_restore 19 = .ok (.getfield 511, 3) := dk_180 1 255 (dk_at dksX0_restore_0 19 rfl rfl)
theorem dX0_restore_22 : decode cX0_restore 22 = .ok (.invokevirtual 508, 3) := dk_182 1 252 (dk_at dksX0_restore_1 0 rfl rfl)
theorem dX0_restore_25 : decode cX0_restore 25 = .ok (.putfield 49, 3) := dk_181 0 49 (dk_at dksX0_restore_1 3 rfl rfl)
theorem dX0_restore_28 : decode cX0_restore 28 = .ok (.aload_n 0, 1) := dk_42 (dk_at dksX0_restore_1 6 rfl rfl)
theorem dX0_restore_29 : decode cX0_restore 29 = .ok (.getfield 49, 3) := dk_180 0 49 (dk_at dksX0_restore_1 7 rfl rfl)
theorem dX0_restore_32 : decode cX0_restore 32 = .ok (.getfield 100, 3) := dk_180 0 100 (dk_at dksX0_restore_1 10 rfl rfl)
theorem dX0_restore_35 : decode cX0_restore 35 = .ok (.getfield 189, 3) := dk_180 0 189 (dk_at dksX0_restore_1 13 rfl rfl)
theorem dX0_restore_38 : decode cX0_restore 38 = .ok (.ireturn, 1) := dk_172 (dk_at dksX0_restore_1 16 rfl rfl)
theorem dX0_restore_39 : decode cX0_restore 39 = .ok (.astore_n 1, 1) := dk_76 (dk_at dksX0_restore_1 17 rfl rfl)
theorem dX0_restore_40 : decode cX0_restore 40 = .ok (.aload_n 0, 1) := dk_42 (dk_at dksX0_restore_1 18 rfl rfl)
theorem dX0_restore_41 : decode cX0_restore 41 = .ok (.aload_n 1, 1) := dk_43 (dk_at dksX0_restore_1 19 rfl rfl)
theorem dX0_restore_42 : decode cX0_restore 42 = .ok (.invokevirtual 133, 3) := dk_182 0 133 (dk_at dksX0_restore_1 20 rfl rfl)
theorem dX0_restore_45 : decode cX0_restore 45 = .ok (.ireturn, 1) := dk_172 (dk_at dksX0_restore_1 23 rfl rfl)
abbrev cX0_tell : ByteArray := prog_1_method_81_code
def yX0_tell : MethodName := ⟨RX0, "tell", "(I)I"⟩
def dkwX0_tell_2 : List UInt8 := [96, 181, 1, 52, 42, 180, 0, 49, 180, 1, 52, 172, 77, 42, 44, 182, 0, 133, 172]
abbrev dktX0_tell_2 : List UInt8 := dkwX0_tell_2 ++ []
def dkwX0_tell_1 : List UInt8 := [180, 0, 49, 180, 1, 43, 42, 180, 0, 49, 180, 1, 52, 27, 79, 42, 180, 0, 49, 89, 180, 1, 52, 4]
abbrev dktX0_tell_1 : List UInt8 := dkwX0_tell_1 ++ dktX0_tell_2
def dkwX0_tell_0 : List UInt8 := [42, 42, 180, 0, 49, 180, 1, 52, 16, 20, 162, 0, 7, 4, 167, 0, 4, 3, 7, 182, 0, 94, 42]
abbrev dktX0_tell_0 : List UInt8 := dkwX0_tell_0 ++ dktX0_tell_1
theorem dksX0_tell_0 : cX0_tell.data.toList.drop 0 = dktX0_tell_0 := by decide +kernel
theorem dksX0_tell_1 : cX0_tell.data.toList.drop 23 = dktX0_tell_1 := dk_seg dksX0_tell_0 23 rfl rfl
theorem dksX0_tell_2 : cX0_tell.data.toList.drop 47 = dktX0_tell_2 := dk_seg dksX0_tell_1 24 rfl rfl
theorem dX0_tell_0 : decode cX0_tell 0 = .ok (.aload_n 0, 1) := dk_42 (dk_at dksX0_tell_0 0 rfl rfl)
theorem dX0_tell_1 : decode cX0_tell 1 = .ok (.aload_n 0, 1) := dk_42 (dk_at dksX0_tell_0 1 rfl rfl)
theorem dX0_tell_2 : decode cX0_tell 2 = .ok (.getfield 49, 3) := dk_180 0 49 (dk_at dksX0_tell_0 2 rfl rfl)
theorem dX0_tell_5 : decode cX0_tell 5 = .ok (.getfield 308, 3) := dk_180 1 52 (dk_at dksX0_tell_0 5 rfl rfl)
theorem dX0_tell_8 : decode cX0_tell 8 = .ok (.bipush 20, 2) := dk_16 20 (dk_at dksX0_tell_0 8 rfl rfl)
theorem dX0_tell_10 : decode cX0_tell 10 = .ok (.if_icmp .ge 7, 3) := dk_162 0 7 (dk_at dksX0_tell_0 10 rfl rfl)
theorem dX0_tell_13 : decode cX0_tell 13 = .ok (.iconst 1, 1) := dk_4 (dk_at dksX0_tell_0 13 rfl rfl)
theorem dX0_tell_14 : decode cX0_tell 14 = .ok (.goto 4, 3) := dk_167 0 4 (dk_at dksX0_tell_0 14 rfl rfl)
theorem dX0_tell_17 : decode cX0_tell 17 = .ok (.iconst 0, 1) := dk_3 (dk_at dksX0_tell_0 17 rfl rfl)
theorem dX0_tell_18 : decode cX0_tell 18 = .ok (.iconst 4, 1) := dk_7 (dk_at dksX0_tell_0 18 rfl rfl)
theorem dX0_tell_19 : decode cX0_tell 19 = .ok (.invokevirtual 94, 3) := dk_182 0 94 (dk_at dksX0_tell_0 19 rfl rfl)
theorem dX0_tell_22 : decode cX0_tell 22 = .ok (.aload_n 0, 1) := dk_42 (dk_at dksX0_tell_0 22 rfl rfl)
theorem dX0_tell_23 : decode cX0_tell 23 = .ok (.getfield 49, 3) := dk_180 0 49 (dk_at dksX0_tell_1 0 rfl rfl)
theorem dX0_tell_26 : decode cX0_tell 26 = .ok (.getfield 299, 3) := dk_180 1 43 (dk_at dksX0_tell_1 3 rfl rfl)
theorem dX0_tell_29 : decode cX0_tell 29 = .ok (.aload_n 0, 1) := dk_42 (dk_at dksX0_tell_1 6 rfl rfl)
theorem dX0_tell_30 : decode cX0_tell 30 = .ok (.getfield 49, 3) := dk_180 0 49 (dk_at dksX0_tell_1 7 rfl rfl)
theorem dX0_tell_33 : decode cX0_tell 33 = .ok (.getfield 308, 3) := dk_180 1 52 (dk_at dksX0_tell_1 10 rfl rfl)
theorem dX0_tell_36 : decode cX0_tell 36 = .ok (.iload_n 1, 1) := dk_27 (dk_at dksX0_tell_1 13 rfl rfl)
theorem dX0_tell_37 : decode cX0_tell 37 = .ok (.iastore, 1) := dk_79 (dk_at dksX0_tell_1 14 rfl rfl)
theorem dX0_tell_38 : decode cX0_tell 38 = .ok (.aload_n 0, 1) := dk_42 (dk_at dksX0_tell_1 15 rfl rfl)
theorem dX0_tell_39 : decode cX0_tell 39 = .ok (.getfield 49, 3) := dk_180 0 49 (dk_at dksX0_tell_1 16 rfl rfl)
theorem dX0_tell_42 : decode cX0_tell 42 = .ok (.dup, 1) := dk_89 (dk_at dksX0_tell_1 19 rfl rfl)
theorem dX0_tell_43 : decode cX0_tell 43 = .ok (.getfield 308, 3) := dk_180 1 52 (dk_at dksX0_tell_1 20 rfl rfl)
theorem dX0_tell_46 : decode cX0_tell 46 = .ok (.iconst 1, 1) := dk_4 (dk_at dksX0_tell_1 23 rfl rfl)
theorem dX0_tell_47 : decode cX0_tell 47 = .ok (.iadd, 1) := dk_96 (dk_at dksX0_tell_2 0 rfl rfl)
theorem dX0_tell_48 : decode cX0_tell 48 = .ok (.putfield 308, 3) := dk_181 1 52 (dk_at dksX0_tell_2 1 rfl rfl)
theorem dX0_tell_51 : decode cX0_tell 51 = .ok (.aload_n 0, 1) := dk_42 (dk_at dksX0_tell_2 4 rfl rfl)
theorem dX0_tell_52 : decode cX0_tell 52 = .ok (.getfield 49, 3) := dk_180 0 49 (dk_at dksX0_tell_2 5 rfl rfl)
theorem dX0_tell_55 : decode cX0_tell 55 = .ok (.getfield 308, 3) := dk_180 1 52 (dk_at dksX0_tell_2 8 rfl rfl)
theorem dX0_tell_58 : decode cX0_tell 58 = .ok (.ireturn, 1) := dk_172 (dk_at dksX0_tell_2 11 rfl rfl)
theorem dX0_tell_59 : decode cX0_tell 59 = .ok (.astore_n 2, 1) := dk_77 (dk_at dksX0_tell_2 12 rfl rfl)
theorem dX0_tell_60 : decode cX0_tell 60 = .ok (.aload_n 0, 1) := dk_42 (dk_at dksX0_tell_2 13 rfl rfl)
theorem dX0_tell_61 : decode cX0_tell 61 = .ok (.aload_n 2, 1) := dk_44 (dk_at dksX0_tell_2 14 rfl rfl)
theorem dX0_tell_62 : decode cX0_tell 62 = .ok (.invokevirtual 133, 3) := dk_182 0 133 (dk_at dksX0_tell_2 15 rfl rfl)
theorem dX0_tell_65 : decode cX0_tell 65 = .ok (.ireturn, 1) := dk_172 (dk_at dksX0_tell_2 18 rfl rfl)
abbrev cX0_count : ByteArray := prog_1_method_82_code
def yX0_count : MethodName := ⟨RX0, "count", "(I)I"⟩
def dkwX0_count_6 : List UInt8 := [180, 1, 207, 172, 77, 42, 44, 182, 0, 133, 172]
abbrev dktX0_count_6 : List UInt8 := dkwX0_count_6 ++ []
def dkwX0_count_5 : List UInt8 := [180, 0, 220, 172, 42, 180, 0, 49, 180, 1, 52, 172, 42, 180, 0, 56, 180, 1, 213, 172, 42, 180, 0, 49]
abbrev dktX0_count_5 : List UInt8 := dkwX0_count_5 ++ dktX0_count_6
def dkwX0_count_4 : List UInt8 := [180, 0, 49, 180, 1, 73, 180, 1, 77, 172, 42, 180, 0, 49, 180, 1, 178, 172, 42, 180, 0, 49]
abbrev dktX0_count_4 : List UInt8 := dkwX0_count_4 ++ dktX0_count_5
def dkwX0_count_3 : List UInt8 := [172, 42, 180, 0, 49, 180, 0, 100, 180, 0, 168, 172, 42, 180, 0, 49, 180, 0, 255, 182, 0, 110, 172, 42]
abbrev dktX0_count_3 : List UInt8 := dkwX0_count_3 ++ dktX0_count_4
def dkwX0_count_2 : List UInt8 := [42, 180, 0, 49, 180, 0, 100, 180, 0, 189, 172, 42, 180, 0, 49, 180, 0, 100, 180, 0, 104, 182, 0, 110]
abbrev dktX0_count_2 : List UInt8 := dkwX0_count_2 ++ dktX0_count_3
def dkwX0_count_1 : List UInt8 := [170, 0, 0, 0, 0, 0, 141, 0, 0, 0, 0, 0, 0, 0, 8, 0, 0, 0, 51, 0, 0, 0, 62, 0, 0, 0, 76, 0, 0, 0, 87, 0, 0, 0, 98, 0, 0, 0, 109, 0, 0, 0, 117, 0, 0, 0, 125, 0, 0, 0, 133]
abbrev dktX0_count_1 : List UInt8 := dkwX0_count_1 ++ dktX0_count_2
def dkwX0_count_0 : List UInt8 := [42, 27, 3, 16, 9, 184, 0, 86, 4, 182, 0, 94, 27]
abbrev dktX0_count_0 : List UInt8 := dkwX0_count_0 ++ dktX0_count_1
theorem dksX0_count_0 : cX0_count.data.toList.drop 0 = dktX0_count_0 := by decide +kernel
theorem dksX0_count_1 : cX0_count.data.toList.drop 13 = dktX0_count_1 := dk_seg dksX0_count_0 13 rfl rfl
theorem dksX0_count_2 : cX0_count.data.toList.drop 64 = dktX0_count_2 := dk_seg dksX0_count_1 51 rfl rfl
theorem dksX0_count_3 : cX0_count.data.toList.drop 88 = dktX0_count_3 := dk_seg dksX0_count_2 24 rfl rfl
theorem dksX0_count_4 : cX0_count.data.toList.drop 112 = dktX0_count_4 := dk_seg dksX0_count_3 24 rfl rfl
theorem dksX0_count_5 : cX0_count.data.toList.drop 134 = dktX0_count_5 := dk_seg dksX0_count_4 22 rfl rfl
theorem dksX0_count_6 : cX0_count.data.toList.drop 158 = dktX0_count_6 := dk_seg dksX0_count_5 24 rfl rfl
theorem dX0_count_0 : decode cX0_count 0 = .ok (.aload_n 0, 1) := dk_42 (dk_at dksX0_count_0 0 rfl rfl)
theorem dX0_count_1 : decode cX0_count 1 = .ok (.iload_n 1, 1) := dk_27 (dk_at dksX0_count_0 1 rfl rfl)
theorem dX0_count_2 : decode cX0_count 2 = .ok (.iconst 0, 1) := dk_3 (dk_at dksX0_count_0 2 rfl rfl)
theorem dX0_count_3 : decode cX0_count 3 = .ok (.bipush 9, 2) := dk_16 9 (dk_at dksX0_count_0 3 rfl rfl)
theorem dX0_count_5 : decode cX0_count 5 = .ok (.invokestatic 86, 3) := dk_184 0 86 (dk_at dksX0_count_0 5 rfl rfl)
theorem dX0_count_8 : decode cX0_count 8 = .ok (.iconst 1, 1) := dk_4 (dk_at dksX0_count_0 8 rfl rfl)
theorem dX0_count_9 : decode cX0_count 9 = .ok (.invokevirtual 94, 3) := dk_182 0 94 (dk_at dksX0_count_0 9 rfl rfl)
theorem dX0_count_12 : decode cX0_count 12 = .ok (.iload_n 1, 1) := dk_27 (dk_at dksX0_count_0 12 rfl rfl)
theorem dX0_count_13 : decode cX0_count 13 = .ok (.tableswitch 141 0 8 #[51, 62, 76, 87, 98, 109, 117, 125, 133], 51) := by decide +kernel
theorem dX0_count_64 : decode cX0_count 64 = .ok (.aload_n 0, 1) := dk_42 (dk_at dksX0_count_2 0 rfl rfl)
theorem dX0_count_65 : decode cX0_count 65 = .ok (.getfield 49, 3) := dk_180 0 49 (dk_at dksX0_count_2 1 rfl rfl)
theorem dX0_count_68 : decode cX0_count 68 = .ok (.getfield 100, 3) := dk_180 0 100 (dk_at dksX0_count_2 4 rfl rfl)
theorem dX0_count_71 : decode cX0_count 71 = .ok (.getfield 189, 3) := dk_180 0 189 (dk_at dksX0_count_2 7 rfl rfl)
theorem dX0_count_74 : decode cX0_count 74 = .ok (.ireturn, 1) := dk_172 (dk_at dksX0_count_2 10 rfl rfl)
theorem dX0_count_75 : decode cX0_count 75 = .ok (.aload_n 0, 1) := dk_42 (dk_at dksX0_count_2 11 rfl rfl)
theorem dX0_count_76 : decode cX0_count 76 = .ok (.getfield 49, 3) := dk_180 0 49 (dk_at dksX0_count_2 12 rfl rfl)
theorem dX0_count_79 : decode cX0_count 79 = .ok (.getfield 100, 3) := dk_180 0 100 (dk_at dksX0_count_2 15 rfl rfl)
theorem dX0_count_82 : decode cX0_count 82 = .ok (.getfield 104, 3) := dk_180 0 104 (dk_at dksX0_count_2 18 rfl rfl)
theorem dX0_count_85 : decode cX0_count 85 = .ok (.invokevirtual 110, 3) := dk_182 0 110 (dk_at dksX0_count_2 21 rfl rfl)
theorem dX0_count_88 : decode cX0_count 88 = .ok (.ireturn, 1) := dk_172 (dk_at dksX0_count_3 0 rfl rfl)
theorem dX0_count_89 : decode cX0_count 89 = .ok (.aload_n 0, 1) := dk_42 (dk_at dksX0_count_3 1 rfl rfl)
theorem dX0_count_90 : decode cX0_count 90 = .ok (.getfield 49, 3) := dk_180 0 49 (dk_at dksX0_count_3 2 rfl rfl)
theorem dX0_count_93 : decode cX0_count 93 = .ok (.getfield 100, 3) := dk_180 0 100 (dk_at dksX0_count_3 5 rfl rfl)
theorem dX0_count_96 : decode cX0_count 96 = .ok (.getfield 168, 3) := dk_180 0 168 (dk_at dksX0_count_3 8 rfl rfl)
theorem dX0_count_99 : decode cX0_count 99 = .ok (.ireturn, 1) := dk_172 (dk_at dksX0_count_3 11 rfl rfl)
theorem dX0_count_100 : decode cX0_count 100 = .ok (.aload_n 0, 1) := dk_42 (dk_at dksX0_count_3 12 rfl rfl)
theorem dX0_count_101 : decode cX0_count 101 = .ok (.getfield 49, 3) := dk_180 0 49 (dk_at dksX0_count_3 13 rfl rfl)
theorem dX0_count_104 : decode cX0_count 104 = .ok (.getfield 255, 3) := dk_180 0 255 (dk_at dksX0_count_3 16 rfl rfl)
theorem dX0_count_107 : decode cX0_count 107 = .ok (.invokevirtual 110, 3) := dk_182 0 110 (dk_at dksX0_count_3 19 rfl rfl)
theorem dX0_count_110 : decode cX0_count 110 = .ok (.ireturn, 1) := dk_172 (dk_at dksX0_count_3 22 rfl rfl)
theorem dX0_count_111 : decode cX0_count 111 = .ok (.aload_n 0, 1) := dk_42 (dk_at dksX0_count_3 23 rfl rfl)
theorem dX0_count_112 : decode cX0_count 112 = .ok (.getfield 49, 3) := dk_180 0 49 (dk_at dksX0_count_4 0 rfl rfl)
theorem dX0_count_115 : decode cX0_count 115 = .ok (.getfield 329, 3) := dk_180 1 73 (dk_at dksX0_count_4 3 rfl rfl)
theorem dX0_count_118 : decode cX0_count 118 = .ok (.getfield 333, 3) := dk_180 1 77 (dk_at dksX0_count_4 6 rfl rfl)
theorem dX0_count_121 : decode cX0_count 121 = .ok (.ireturn, 1) := dk_172 (dk_at dksX0_count_4 9 rfl rfl)
theorem dX0_count_122 : decode cX0_count 122 = .ok (.aload_n 0, 1) := dk_42 (dk_at dksX0_count_4 10 rfl rfl)
theorem dX0_count_123 : decode cX0_count 123 = .ok (.getfield 49, 3) := dk_180 0 49 (dk_at dksX0_count_4 11 rfl rfl)
theorem dX0_count_126 : decode cX0_count 126 = .ok (.getfield 434, 3) := dk_180 1 178 (dk_at dksX0_count_4 14 rfl rfl)
theorem dX0_count_129 : decode cX0_count 129 = .ok (.ireturn, 1) := dk_172 (dk_at dksX0_count_4 17 rfl rfl)
theorem dX0_count_130 : decode cX0_count 130 = .ok (.aload_n 0, 1) := dk_42 (dk_at dksX0_count_4 18 rfl rfl)
theorem dX0_count_131 : decode cX0_count 131 = .ok (.getfield 49, 3) := dk_180 0 49 (dk_at dksX0_count_4 19 rfl rfl)
theorem dX0_count_134 : decode cX0_count 134 = .ok (.getfield 220, 3) := dk_180 0 220 (dk_at dksX0_count_5 0 rfl rfl)
theorem dX0_count_137 : decode cX0_count 137 = .ok (.ireturn, 1) := dk_172 (dk_at dksX0_count_5 3 rfl rfl)
theorem dX0_count_138 : decode cX0_count 138 = .ok (.aload_n 0, 1) := dk_42 (dk_at dksX0_count_5 4 rfl rfl)
theorem dX0_count_139 : decode cX0_count 139 = .ok (.getfield 49, 3) := dk_180 0 49 (dk_at dksX0_count_5 5 rfl rfl)
theorem dX0_count_142 : decode cX0_count 142 = .ok (.getfield 308, 3) := dk_180 1 52 (dk_at dksX0_count_5 8 rfl rfl)
theorem dX0_count_145 : decode cX0_count 145 = .ok (.ireturn, 1) := dk_172 (dk_at dksX0_count_5 11 rfl rfl)
theorem dX0_count_146 : decode cX0_count 146 = .ok (.aload_n 0, 1) := dk_42 (dk_at dksX0_count_5 12 rfl rfl)
theorem dX0_count_147 : decode cX0_count 147 = .ok (.getfield 56, 3) := dk_180 0 56 (dk_at dksX0_count_5 13 rfl rfl)
theorem dX0_count_150 : decode cX0_count 150 = .ok (.getfield 469, 3) := dk_180 1 213 (dk_at dksX0_count_5 16 rfl rfl)
theorem dX0_count_153 : decode cX0_count 153 = .ok (.ireturn, 1) := dk_172 (dk_at dksX0_count_5 19 rfl rfl)
theorem dX0_count_154 : decode cX0_count 154 = .ok (.aload_n 0, 1) := dk_42 (dk_at dksX0_count_5 20 rfl rfl)
theorem dX0_count_155 : decode cX0_count 155 = .ok (.getfield 49, 3) := dk_180 0 49 (dk_at dksX0_count_5 21 rfl rfl)
theorem dX0_count_158 : decode cX0_count 158 = .ok (.getfield 463, 3) := dk_180 1 207 (dk_at dksX0_count_6 0 rfl rfl)
theorem dX0_count_161 : decode cX0_count 161 = .ok (.ireturn, 1) := dk_172 (dk_at dksX0_count_6 3 rfl rfl)
theorem dX0_count_162 : decode cX0_count 162 = .ok (.astore_n 2, 1) := dk_77 (dk_at dksX0_count_6 4 rfl rfl)
theorem dX0_count_163 : decode cX0_count 163 = .ok (.aload_n 0, 1) := dk_42 (dk_at dksX0_count_6 5 rfl rfl)
theorem dX0_count_164 : decode cX0_count 164 = .ok (.aload_n 2, 1) := dk_44 (dk_at dksX0_count_6 6 rfl rfl)
theorem dX0_count_165 : decode cX0_count 165 = .ok (.invokevirtual 133, 3) := dk_182 0 133 (dk_at dksX0_count_6 7 rfl rfl)
theorem dX0_count_168 : decode cX0_count 168 = .ok (.ireturn, 1) := dk_172 (dk_at dksX0_count_6 10 rfl rfl)
abbrev cX0_told : ByteArray := prog_1_method_83_code
def yX0_told : MethodName := ⟨RX0, "told", "(I)I"⟩
def dkwX0_told_1 : List UInt8 := [172]
abbrev dktX0_told_1 : List UInt8 := dkwX0_told_1 ++ []
def dkwX0_told_0 : List UInt8 := [42, 27, 4, 8, 184, 0, 86, 4, 182, 0, 94, 42, 180, 0, 71, 27, 46, 172, 77, 42, 44, 182, 0, 133]
abbrev dktX0_told_0 : List UInt8 := dkwX0_told_0 ++ dktX0_told_1
theorem dksX0_told_0 : cX0_told.data.toList.drop 0 = dktX0_told_0 := by decide +kernel
theorem dksX0_told_1 : cX0_told.data.toList.drop 24 = dktX0_told_1 := dk_seg dksX0_told_0 24 rfl rfl
theorem dX0_told_0 : decode cX0_told 0 = .ok (.aload_n 0, 1) := dk_42 (dk_at dksX0_told_0 0 rfl rfl)
theorem dX0_told_1 : decode cX0_told 1 = .ok (.iload_n 1, 1) := dk_27 (dk_at dksX0_told_0 1 rfl rfl)
theorem dX0_told_2 : decode cX0_told 2 = .ok (.iconst 1, 1) := dk_4 (dk_at dksX0_told_0 2 rfl rfl)
theorem dX0_told_3 : decode cX0_told 3 = .ok (.iconst 5, 1) := dk_8 (dk_at dksX0_told_0 3 rfl rfl)
theorem dX0_told_4 : decode cX0_told 4 = .ok (.invokestatic 86, 3) := dk_184 0 86 (dk_at dksX0_told_0 4 rfl rfl)
theorem dX0_told_7 : decode cX0_told 7 = .ok (.iconst 1, 1) := dk_4 (dk_at dksX0_told_0 7 rfl rfl)
theorem dX0_told_8 : decode cX0_told 8 = .ok (.invokevirtual 94, 3) := dk_182 0 94 (dk_at dksX0_told_0 8 rfl rfl)
theorem dX0_told_11 : decode cX0_told 11 = .ok (.aload_n 0, 1) := dk_42 (dk_at dksX0_told_0 11 rfl rfl)
theorem dX0_told_12 : decode cX0_told 12 = .ok (.getfield 71, 3) := dk_180 0 71 (dk_at dksX0_told_0 12 rfl rfl)
theorem dX0_told_15 : decode cX0_told 15 = .ok (.iload_n 1, 1) := dk_27 (dk_at dksX0_told_0 15 rfl rfl)
theorem dX0_told_16 : decode cX0_told 16 = .ok (.iaload, 1) := dk_46 (dk_at dksX0_told_0 16 rfl rfl)
theorem dX0_told_17 : decode cX0_told 17 = .ok (.ireturn, 1) := dk_172 (dk_at dksX0_told_0 17 rfl rfl)
theorem dX0_told_18 : decode cX0_told 18 = .ok (.astore_n 2, 1) := dk_77 (dk_at dksX0_told_0 18 rfl rfl)
theorem dX0_told_19 : decode cX0_told 19 = .ok (.aload_n 0, 1) := dk_42 (dk_at dksX0_told_0 19 rfl rfl)
theorem dX0_told_20 : decode cX0_told 20 = .ok (.aload_n 2, 1) := dk_44 (dk_at dksX0_told_0 20 rfl rfl)
theorem dX0_told_21 : decode cX0_told 21 = .ok (.invokevirtual 133, 3) := dk_182 0 133 (dk_at dksX0_told_0 21 rfl rfl)
theorem dX0_told_24 : decode cX0_told 24 = .ok (.ireturn, 1) := dk_172 (dk_at dksX0_told_1 0 rfl rfl)
theorem q79 : (Jvm.Cond.initialized "LastHatch") ∈ lw_all := lw_g (lw_at lw_m1 1 rfl) rfl
theorem q128 : (Jvm.Cond.instantiable "LastHatch" (11 : Nat)) ∈ lw_all := lw_g (lw_at lw_m1 50 rfl) rfl
theorem q130 : (Jvm.Cond.instanceMethod ({ cls := "LastHatch", name := "<init>", desc := "()V" } : Jvm.MethodName)) ∈ lw_all := lw_g (lw_at lw_m1 52 rfl) rfl
theorem q131 : (Jvm.Cond.code ({ cls := "LastHatch", name := "<init>", desc := "()V" } : Jvm.MethodName) prog_1_method_5_code (2 : Nat) (Option.none : Option Jvm.ClassFile.FieldType)) ∈ lw_all := lw_g (lw_at lw_m1 53 rfl) rfl
theorem q132 : (Jvm.Cond.methodLink "LastHatch" (40 : Nat) ({ cls := "java/lang/Object", name := "<init>", desc := "()V" } : Jvm.MethodName)) ∈ lw_all := lw_g (lw_at lw_m1 54 rfl) rfl
theorem q135 : (Jvm.Cond.classLink "LastHatch" (8 : Nat) "LastHatch$Finding") ∈ lw_all := lw_g (lw_at lw_m1 57 rfl) rfl
theorem q175 : (Jvm.Cond.methodLink "LastHatch" (45 : Nat) ({ cls := "LastHatch$Finding", name := "<init>", desc := "()V" } : Jvm.MethodName)) ∈ lw_all := lw_g (lw_at lw_m1 97 rfl) rfl
theorem q188 : (Jvm.Cond.fieldLinkNest "LastHatch" (81 : Nat) "LastHatch$Finding" "code" "I" "LastHatch") ∈ lw_tbl := lw_at lw_m1 110 rfl
theorem q204 : (Jvm.Cond.classLink "LastHatch" (46 : Nat) "LastHatch$Boat") ∈ lw_all := lw_g (lw_at lw_m1 126 rfl) rfl
theorem q206 : (Jvm.Cond.methodLinkNest "LastHatch" (48 : Nat) ({ cls := "LastHatch$Boat", name := "<init>", desc := "()V" } : Jvm.MethodName) "LastHatch") ∈ lw_tbl := lw_at lw_m1 128 rfl
theorem q246 : (Jvm.Cond.fieldLinkNest "LastHatch" (189 : Nat) "LastHatch$Hull" "now" "I" "LastHatch") ∈ lw_tbl := lw_at lw_m1 168 rfl
theorem q248 : (Jvm.Cond.fieldLinkNest "LastHatch" (127 : Nat) "LastHatch$Hull" "depth" "I" "LastHatch") ∈ lw_tbl := lw_at lw_m1 170 rfl
theorem q250 : (Jvm.Cond.fieldLinkNest "LastHatch" (130 : Nat) "LastHatch$Hull" "limit" "I" "LastHatch") ∈ lw_tbl := lw_at lw_m1 172 rfl
theorem q252 : (Jvm.Cond.fieldLinkNest "LastHatch" (180 : Nat) "LastHatch$Hull" "water" "[I" "LastHatch") ∈ lw_tbl := lw_at lw_m1 174 rfl
theorem q254 : (Jvm.Cond.fieldLinkNest "LastHatch" (183 : Nat) "LastHatch$Hull" "poison" "[I" "LastHatch") ∈ lw_tbl := lw_at lw_m1 176 rfl
theorem q256 : (Jvm.Cond.fieldLinkNest "LastHatch" (165 : Nat) "LastHatch$Hull" "doors" "I" "LastHatch") ∈ lw_tbl := lw_at lw_m1 178 rfl
theorem q258 : (Jvm.Cond.fieldLinkNest "LastHatch" (171 : Nat) "LastHatch$Hull" "valveRoom" "[I" "LastHatch") ∈ lw_tbl := lw_at lw_m1 180 rfl
theorem q260 : (Jvm.Cond.fieldLinkNest "LastHatch" (174 : Nat) "LastHatch$Hull" "width" "[I" "LastHatch") ∈ lw_tbl := lw_at lw_m1 182 rfl
theorem q262 : (Jvm.Cond.fieldLinkNest "LastHatch" (168 : Nat) "LastHatch$Hull" "valves" "I" "LastHatch") ∈ lw_tbl := lw_at lw_m1 184 rfl
theorem q264 : (Jvm.Cond.fieldLinkNest "LastHatch" (177 : Nat) "LastHatch$Hull" "open" "I" "LastHatch") ∈ lw_tbl := lw_at lw_m1 186 rfl
theorem q267 : (Jvm.Cond.fieldLinkNest "LastHatch" (104 : Nat) "LastHatch$Hull" "men" "Ljava/util/ArrayList;" "LastHatch") ∈ lw_tbl := lw_at lw_m1 189 rfl
theorem q311 : (Jvm.Cond.fieldLinkNest "LastHatch" (227 : Nat) "LastHatch$Laws" "text" "[LLastHatch$Term;" "LastHatch") ∈ lw_tbl := lw_at lw_m1 233 rfl
theorem q325 : (Jvm.Cond.fieldLinkNest "LastHatch" (338 : Nat) "LastHatch$Tanks" "place" "[I" "LastHatch") ∈ lw_tbl := lw_at lw_m2 7 rfl
theorem q327 : (Jvm.Cond.fieldLinkNest "LastHatch" (340 : Nat) "LastHatch$Tanks" "size" "[I" "LastHatch") ∈ lw_tbl := lw_at lw_m2 9 rfl
theorem q329 : (Jvm.Cond.fieldLinkNest "LastHatch" (333 : Nat) "LastHatch$Tanks" "many" "I" "LastHatch") ∈ lw_tbl := lw_at lw_m2 11 rfl
theorem q331 : (Jvm.Cond.fieldLinkNest "LastHatch" (342 : Nat) "LastHatch$Tanks" "blown" "I" "LastHatch") ∈ lw_tbl := lw_at lw_m2 13 rfl
theorem q333 : (Jvm.Cond.fieldLinkNest "LastHatch" (354 : Nat) "LastHatch$Tanks" "more" "[I" "LastHatch") ∈ lw_tbl := lw_at lw_m2 15 rfl
theorem q348 : (Jvm.Cond.fieldLinkNest "LastHatch" (100 : Nat) "LastHatch$Boat" "hull" "LLastHatch$Hull;" "LastHatch") ∈ lw_tbl := lw_at lw_m2 30 rfl
theorem q350 : (Jvm.Cond.fieldLinkNest "LastHatch" (196 : Nat) "LastHatch$Boat" "laws" "LLastHatch$Laws;" "LastHatch") ∈ lw_tbl := lw_at lw_m2 32 rfl
theorem q352 : (Jvm.Cond.fieldLinkNest "LastHatch" (329 : Nat) "LastHatch$Boat" "tanks" "LLastHatch$Tanks;" "LastHatch") ∈ lw_tbl := lw_at lw_m2 34 rfl
theorem q354 : (Jvm.Cond.fieldLinkNest "LastHatch" (255 : Nat) "LastHatch$Boat" "ways" "Ljava/util/ArrayList;" "LastHatch") ∈ lw_tbl := lw_at lw_m2 36 rfl
theorem q356 : (Jvm.Cond.fieldLinkNest "LastHatch" (223 : Nat) "LastHatch$Boat" "tape" "[B" "LastHatch") ∈ lw_tbl := lw_at lw_m2 38 rfl
theorem q358 : (Jvm.Cond.fieldLinkNest "LastHatch" (220 : Nat) "LastHatch$Boat" "taped" "I" "LastHatch") ∈ lw_tbl := lw_at lw_m2 40 rfl
theorem q360 : (Jvm.Cond.fieldLinkNest "LastHatch" (410 : Nat) "LastHatch$Boat" "goes" "[I" "LastHatch") ∈ lw_tbl := lw_at lw_m2 42 rfl
theorem q362 : (Jvm.Cond.fieldLinkNest "LastHatch" (401 : Nat) "LastHatch$Boat" "plans" "[I" "LastHatch") ∈ lw_tbl := lw_at lw_m2 44 rfl
theorem q364 : (Jvm.Cond.fieldLinkNest "LastHatch" (398 : Nat) "LastHatch$Boat" "planned" "[I" "LastHatch") ∈ lw_tbl := lw_at lw_m2 46 rfl
theorem q366 : (Jvm.Cond.fieldLinkNest "LastHatch" (437 : Nat) "LastHatch$Boat" "causeOpen" "[I" "LastHatch") ∈ lw_tbl := lw_at lw_m2 48 rfl
theorem q368 : (Jvm.Cond.fieldLinkNest "LastHatch" (440 : Nat) "LastHatch$Boat" "causeShut" "[I" "LastHatch") ∈ lw_tbl := lw_at lw_m2 50 rfl
theorem q370 : (Jvm.Cond.fieldLinkNest "LastHatch" (434 : Nat) "LastHatch$Boat" "causes" "I" "LastHatch") ∈ lw_tbl := lw_at lw_m2 52 rfl
theorem q372 : (Jvm.Cond.fieldLinkNest "LastHatch" (443 : Nat) "LastHatch$Boat" "foundOpen" "I" "LastHatch") ∈ lw_tbl := lw_at lw_m2 54 rfl
theorem q374 : (Jvm.Cond.fieldLinkNest "LastHatch" (449 : Nat) "LastHatch$Boat" "foundShut" "I" "LastHatch") ∈ lw_tbl := lw_at lw_m2 56 rfl
theorem q376 : (Jvm.Cond.fieldLinkNest "LastHatch" (463 : Nat) "LastHatch$Boat" "z" "I" "LastHatch") ∈ lw_tbl := lw_at lw_m2 58 rfl
theorem q378 : (Jvm.Cond.fieldLinkNest "LastHatch" (299 : Nat) "LastHatch$Boat" "waiting" "[I" "LastHatch") ∈ lw_tbl := lw_at lw_m2 60 rfl
theorem q380 : (Jvm.Cond.fieldLinkNest "LastHatch" (308 : Nat) "LastHatch$Boat" "waits" "I" "LastHatch") ∈ lw_tbl := lw_at lw_m2 62 rfl
theorem q417 : (Jvm.Cond.classLink "LastHatch" (53 : Nat) "LastHatch$Trace") ∈ lw_all := lw_g (lw_at lw_m2 99 rfl) rfl
theorem q419 : (Jvm.Cond.methodLinkNest "LastHatch" (55 : Nat) ({ cls := "LastHatch$Trace", name := "<init>", desc := "()V" } : Jvm.MethodName) "LastHatch") ∈ lw_tbl := lw_at lw_m2 101 rfl
theorem q424 : (Jvm.Cond.fieldLinkNest "LastHatch" (490 : Nat) "LastHatch$Trace" "ran" "[I" "LastHatch") ∈ lw_tbl := lw_at lw_m2 106 rfl
theorem q426 : (Jvm.Cond.fieldLinkNest "LastHatch" (469 : Nat) "LastHatch$Trace" "many" "I" "LastHatch") ∈ lw_tbl := lw_at lw_m2 108 rfl
theorem q432 : (Jvm.Cond.classLink "LastHatch" (60 : Nat) "LastHatch$Hatch") ∈ lw_all := lw_g (lw_at lw_m2 114 rfl) rfl
theorem q434 : (Jvm.Cond.methodLinkNest "LastHatch" (62 : Nat) ({ cls := "LastHatch$Hatch", name := "<init>", desc := "()V" } : Jvm.MethodName) "LastHatch") ∈ lw_tbl := lw_at lw_m2 116 rfl
theorem q441 : (Jvm.Cond.fieldLinkNest "LastHatch" (293 : Nat) "LastHatch$Hatch" "turns" "[I" "LastHatch") ∈ lw_tbl := lw_at lw_m2 123 rfl
theorem q444 : (Jvm.Cond.fieldLinkNest "LastHatch" (287 : Nat) "LastHatch$Hatch" "best" "I" "LastHatch") ∈ lw_tbl := lw_at lw_m2 126 rfl
theorem q462 : (Jvm.Cond.classLink "LastHatch" (74 : Nat) "LastHatch$Shelf") ∈ lw_all := lw_g (lw_at lw_m2 144 rfl) rfl
theorem q465 : (Jvm.Cond.methodLinkNest "LastHatch" (80 : Nat) ({ cls := "LastHatch$Shelf", name := "<init>", desc := "()V" } : Jvm.MethodName) "LastHatch") ∈ lw_tbl := lw_at lw_m2 147 rfl
theorem q469 : (Jvm.Cond.fieldLinkNest "LastHatch" (90 : Nat) "LastHatch$Shelf" "held" "Ljava/lang/Object;" "LastHatch") ∈ lw_tbl := lw_at lw_m2 151 rfl
theorem q473 : (Jvm.Cond.fieldLink "LastHatch" (1 : Nat) "LastHatch" "finding" "LLastHatch$Finding;") ∈ lw_all := lw_g (lw_at lw_m2 155 rfl) rfl
theorem q474 : (Jvm.Cond.fieldLink "LastHatch" (49 : Nat) "LastHatch" "boat" "LLastHatch$Boat;") ∈ lw_all := lw_g (lw_at lw_m2 156 rfl) rfl
theorem q475 : (Jvm.Cond.fieldLink "LastHatch" (511 : Nat) "LastHatch" "image" "LLastHatch$Boat;") ∈ lw_all := lw_g (lw_at lw_m2 157 rfl) rfl
theorem q476 : (Jvm.Cond.fieldLink "LastHatch" (514 : Nat) "LastHatch" "images" "I") ∈ lw_all := lw_g (lw_at lw_m2 158 rfl) rfl
theorem q477 : (Jvm.Cond.fieldLink "LastHatch" (56 : Nat) "LastHatch" "trace" "LLastHatch$Trace;") ∈ lw_all := lw_g (lw_at lw_m2 159 rfl) rfl
theorem q478 : (Jvm.Cond.fieldLink "LastHatch" (63 : Nat) "LastHatch" "hatch" "LLastHatch$Hatch;") ∈ lw_all := lw_g (lw_at lw_m2 160 rfl) rfl
theorem q479 : (Jvm.Cond.fieldLink "LastHatch" (67 : Nat) "LastHatch" "letters" "[I") ∈ lw_all := lw_g (lw_at lw_m2 161 rfl) rfl
theorem q480 : (Jvm.Cond.fieldLink "LastHatch" (71 : Nat) "LastHatch" "errors" "[I") ∈ lw_all := lw_g (lw_at lw_m2 162 rfl) rfl
theorem q481 : (Jvm.Cond.fieldLink "LastHatch" (76 : Nat) "LastHatch" "sheets" "[LLastHatch$Shelf;") ∈ lw_all := lw_g (lw_at lw_m2 163 rfl) rfl
theorem q482 : (Jvm.Cond.fieldLink "LastHatch" (383 : Nat) "LastHatch" "read" "I") ∈ lw_all := lw_g (lw_at lw_m2 164 rfl) rfl
theorem q483 : (Jvm.Cond.fieldLink "LastHatch" (385 : Nat) "LastHatch" "stops" "I") ∈ lw_all := lw_g (lw_at lw_m2 165 rfl) rfl
theorem q484 : (Jvm.Cond.laysFinal "LastHatch" "LastHatch" "finding" "LLastHatch$Finding;") ∈ lw_all := lw_g (lw_at lw_m2 166 rfl) rfl
theorem q485 : (Jvm.Cond.soleField "LastHatch" "finding") ∈ lw_all := lw_g (lw_at lw_m2 167 rfl) rfl
theorem q486 : (Jvm.Cond.lays "LastHatch" "LastHatch" "boat" "LLastHatch$Boat;") ∈ lw_all := lw_g (lw_at lw_m2 168 rfl) rfl
theorem q487 : (Jvm.Cond.soleField "LastHatch" "boat") ∈ lw_all := lw_g (lw_at lw_m2 169 rfl) rfl
theorem q488 : (Jvm.Cond.lays "LastHatch" "LastHatch" "image" "LLastHatch$Boat;") ∈ lw_all := lw_g (lw_at lw_m2 170 rfl) rfl
theorem q489 : (Jvm.Cond.soleField "LastHatch" "image") ∈ lw_all := lw_g (lw_at lw_m2 171 rfl) rfl
theorem q490 : (Jvm.Cond.lays "LastHatch" "LastHatch" "images" "I") ∈ lw_all := lw_g (lw_at lw_m2 172 rfl) rfl
theorem q491 : (Jvm.Cond.soleField "LastHatch" "images") ∈ lw_all := lw_g (lw_at lw_m2 173 rfl) rfl
theorem q492 : (Jvm.Cond.laysFinal "LastHatch" "LastHatch" "trace" "LLastHatch$Trace;") ∈ lw_all := lw_g (lw_at lw_m2 174 rfl) rfl
theorem q493 : (Jvm.Cond.soleField "LastHatch" "trace") ∈ lw_all := lw_g (lw_at lw_m2 175 rfl) rfl
theorem q494 : (Jvm.Cond.laysFinal "LastHatch" "LastHatch" "hatch" "LLastHatch$Hatch;") ∈ lw_all := lw_g (lw_at lw_m2 176 rfl) rfl
theorem q495 : (Jvm.Cond.soleField "LastHatch" "hatch") ∈ lw_all := lw_g (lw_at lw_m2 177 rfl) rfl
theorem q496 : (Jvm.Cond.laysFinal "LastHatch" "LastHatch" "letters" "[I") ∈ lw_all := lw_g (lw_at lw_m2 178 rfl) rfl
theorem q497 : (Jvm.Cond.soleField "LastHatch" "letters") ∈ lw_all := lw_g (lw_at lw_m2 179 rfl) rfl
theorem q498 : (Jvm.Cond.laysFinal "LastHatch" "LastHatch" "errors" "[I") ∈ lw_all := lw_g (lw_at lw_m2 180 rfl) rfl
theorem q499 : (Jvm.Cond.soleField "LastHatch" "errors") ∈ lw_all := lw_g (lw_at lw_m2 181 rfl) rfl
theorem q500 : (Jvm.Cond.laysFinal "LastHatch" "LastHatch" "sheets" "[LLastHatch$Shelf;") ∈ lw_all := lw_g (lw_at lw_m2 182 rfl) rfl
theorem q501 : (Jvm.Cond.soleField "LastHatch" "sheets") ∈ lw_all := lw_g (lw_at lw_m2 183 rfl) rfl
theorem q502 : (Jvm.Cond.lays "LastHatch" "LastHatch" "read" "I") ∈ lw_all := lw_g (lw_at lw_m2 184 rfl) rfl
theorem q503 : (Jvm.Cond.soleField "LastHatch" "read") ∈ lw_all := lw_g (lw_at lw_m2 185 rfl) rfl
theorem q504 : (Jvm.Cond.lays "LastHatch" "LastHatch" "stops" "I") ∈ lw_all := lw_g (lw_at lw_m2 186 rfl) rfl
theorem q505 : (Jvm.Cond.soleField "LastHatch" "stops") ∈ lw_all := lw_g (lw_at lw_m2 187 rfl) rfl
theorem q506 : (Jvm.Cond.superclass "LastHatch" "java/lang/Object") ∈ lw_all := lw_g (lw_at lw_m2 188 rfl) rfl
theorem q508 : (Jvm.Cond.instanceMethod ({ cls := "LastHatch", name := "boat", desc := "(II)I" } : Jvm.MethodName)) ∈ lw_all := lw_g (lw_at lw_m2 190 rfl) rfl
theorem q509 : (Jvm.Cond.selects "LastHatch" ({ cls := "LastHatch", name := "boat", desc := "(II)I" } : Jvm.MethodName) ({ cls := "LastHatch", name := "boat", desc := "(II)I" } : Jvm.MethodName)) ∈ lw_all := lw_g (lw_at lw_m2 191 rfl) rfl
theorem q510 : (Jvm.Cond.codeWith ({ cls := "LastHatch", name := "boat", desc := "(II)I" } : Jvm.MethodName) prog_1_method_15_code (4 : Nat) (Option.some Jvm.ClassFile.FieldType.int) [((0 : Nat), (95 : Nat), (96 : Nat), (8 : Nat))]) ∈ lw_all := lw_g (lw_at lw_m2 192 rfl) rfl
theorem q511 : (Jvm.Cond.methodLink "LastHatch" (122 : Nat) ({ cls := "LastHatch", name := "isBit", desc := "(I)Z" } : Jvm.MethodName)) ∈ lw_all := lw_g (lw_at lw_m2 193 rfl) rfl
theorem q512 : (Jvm.Cond.static ({ cls := "LastHatch", name := "isBit", desc := "(I)Z" } : Jvm.MethodName)) ∈ lw_all := lw_g (lw_at lw_m2 194 rfl) rfl
theorem q513 : (Jvm.Cond.code ({ cls := "LastHatch", name := "isBit", desc := "(I)Z" } : Jvm.MethodName) prog_1_method_8_code (1 : Nat) (Option.some Jvm.ClassFile.FieldType.boolean)) ∈ lw_all := lw_g (lw_at lw_m2 195 rfl) rfl
theorem q514 : (Jvm.Cond.methodLink "LastHatch" (86 : Nat) ({ cls := "LastHatch", name := "in", desc := "(III)Z" } : Jvm.MethodName)) ∈ lw_all := lw_g (lw_at lw_m2 196 rfl) rfl
theorem q515 : (Jvm.Cond.static ({ cls := "LastHatch", name := "in", desc := "(III)Z" } : Jvm.MethodName)) ∈ lw_all := lw_g (lw_at lw_m2 197 rfl) rfl
theorem q516 : (Jvm.Cond.code ({ cls := "LastHatch", name := "in", desc := "(III)Z" } : Jvm.MethodName) prog_1_method_1_code (3 : Nat) (Option.some Jvm.ClassFile.FieldType.boolean)) ∈ lw_all := lw_g (lw_at lw_m2 198 rfl) rfl
theorem q517 : (Jvm.Cond.constant "LastHatch" (126 : Nat) (99999 : Int32)) ∈ lw_all := lw_g (lw_at lw_m2 199 rfl) rfl
theorem q518 : (Jvm.Cond.methodLink "LastHatch" (94 : Nat) ({ cls := "LastHatch", name := "need", desc := "(ZI)V" } : Jvm.MethodName)) ∈ lw_all := lw_g (lw_at lw_m2 200 rfl) rfl
theorem q519 : (Jvm.Cond.privateMethod ({ cls := "LastHatch", name := "need", desc := "(ZI)V" } : Jvm.MethodName)) ∈ lw_tbl := lw_at lw_m2 201 rfl
theorem q520 : (Jvm.Cond.instanceMethod ({ cls := "LastHatch", name := "need", desc := "(ZI)V" } : Jvm.MethodName)) ∈ lw_all := lw_g (lw_at lw_m2 202 rfl) rfl
theorem q521 : (Jvm.Cond.code ({ cls := "LastHatch", name := "need", desc := "(ZI)V" } : Jvm.MethodName) prog_1_method_3_code (3 : Nat) (Option.none : Option Jvm.ClassFile.FieldType)) ∈ lw_all := lw_g (lw_at lw_m2 203 rfl) rfl
theorem q522 : (Jvm.Cond.methodLink "LastHatch" (7 : Nat) ({ cls := "LastHatch$Finding", name := "of", desc := "(I)LLastHatch$Finding;" } : Jvm.MethodName)) ∈ lw_all := lw_g (lw_at lw_m2 204 rfl) rfl
theorem q526 : (Jvm.Cond.methodLink "LastHatch" (133 : Nat) ({ cls := "LastHatch", name := "finds", desc := "(LLastHatch$Finding;)I" } : Jvm.MethodName)) ∈ lw_all := lw_g (lw_at lw_m2 208 rfl) rfl
theorem q527 : (Jvm.Cond.privateMethod ({ cls := "LastHatch", name := "finds", desc := "(LLastHatch$Finding;)I" } : Jvm.MethodName)) ∈ lw_tbl := lw_at lw_m2 209 rfl
theorem q528 : (Jvm.Cond.instanceMethod ({ cls := "LastHatch", name := "finds", desc := "(LLastHatch$Finding;)I" } : Jvm.MethodName)) ∈ lw_all := lw_g (lw_at lw_m2 210 rfl) rfl
theorem q529 : (Jvm.Cond.code ({ cls := "LastHatch", name := "finds", desc := "(LLastHatch$Finding;)I" } : Jvm.MethodName) prog_1_method_6_code (2 : Nat) (Option.some Jvm.ClassFile.FieldType.int)) ∈ lw_all := lw_g (lw_at lw_m2 211 rfl) rfl
theorem q530 : (Jvm.Cond.constant "LastHatch" (85 : Nat) (-1000000 : Int32)) ∈ lw_all := lw_g (lw_at lw_m2 212 rfl) rfl
theorem q532 : (Jvm.Cond.instanceMethod ({ cls := "LastHatch", name := "man", desc := "(III)I" } : Jvm.MethodName)) ∈ lw_all := lw_g (lw_at lw_m2 214 rfl) rfl
theorem q533 : (Jvm.Cond.selects "LastHatch" ({ cls := "LastHatch", name := "man", desc := "(III)I" } : Jvm.MethodName) ({ cls := "LastHatch", name := "man", desc := "(III)I" } : Jvm.MethodName)) ∈ lw_all := lw_g (lw_at lw_m2 215 rfl) rfl
theorem q534 : (Jvm.Cond.codeWith ({ cls := "LastHatch", name := "man", desc := "(III)I" } : Jvm.MethodName) prog_1_method_16_code (5 : Nat) (Option.some Jvm.ClassFile.FieldType.int) [((0 : Nat), (101 : Nat), (102 : Nat), (8 : Nat))]) ∈ lw_all := lw_g (lw_at lw_m2 216 rfl) rfl
theorem q535 : (Jvm.Cond.methodLink "LastHatch" (137 : Nat) ({ cls := "LastHatch", name := "isRoom", desc := "(I)Z" } : Jvm.MethodName)) ∈ lw_all := lw_g (lw_at lw_m2 217 rfl) rfl
theorem q536 : (Jvm.Cond.static ({ cls := "LastHatch", name := "isRoom", desc := "(I)Z" } : Jvm.MethodName)) ∈ lw_all := lw_g (lw_at lw_m2 218 rfl) rfl
theorem q537 : (Jvm.Cond.code ({ cls := "LastHatch", name := "isRoom", desc := "(I)Z" } : Jvm.MethodName) prog_1_method_7_code (1 : Nat) (Option.some Jvm.ClassFile.FieldType.boolean)) ∈ lw_all := lw_g (lw_at lw_m2 219 rfl) rfl
theorem q538 : (Jvm.Cond.methodLink "LastHatch" (110 : Nat) ({ cls := "java/util/ArrayList", name := "size", desc := "()I" } : Jvm.MethodName)) ∈ lw_all := lw_g (lw_at lw_m2 220 rfl) rfl
theorem q542 : (Jvm.Cond.classLink "LastHatch" (120 : Nat) "LastHatch$Man") ∈ lw_all := lw_g (lw_at lw_m2 224 rfl) rfl
theorem q544 : (Jvm.Cond.methodLink "LastHatch" (140 : Nat) ({ cls := "LastHatch$Man", name := "<init>", desc := "(III)V" } : Jvm.MethodName)) ∈ lw_all := lw_g (lw_at lw_m2 226 rfl) rfl
theorem q560 : (Jvm.Cond.methodLink "LastHatch" (143 : Nat) ({ cls := "java/util/ArrayList", name := "add", desc := "(Ljava/lang/Object;)Z" } : Jvm.MethodName)) ∈ lw_all := lw_g (lw_at lw_m3 2 rfl) rfl
theorem q592 : (Jvm.Cond.selects "LastHatch" ({ cls := "java/lang/Object", name := "getClass", desc := "()Ljava/lang/Class;" } : Jvm.MethodName) ({ cls := "java/lang/Object", name := "getClass", desc := "()Ljava/lang/Class;" } : Jvm.MethodName)) ∈ lw_all := lw_g (lw_at lw_m3 34 rfl) rfl
theorem q638 : (Jvm.Cond.instanceMethod ({ cls := "LastHatch", name := "does", desc := "(III)I" } : Jvm.MethodName)) ∈ lw_all := lw_g (lw_at lw_m3 80 rfl) rfl
theorem q639 : (Jvm.Cond.selects "LastHatch" ({ cls := "LastHatch", name := "does", desc := "(III)I" } : Jvm.MethodName) ({ cls := "LastHatch", name := "does", desc := "(III)I" } : Jvm.MethodName)) ∈ lw_all := lw_g (lw_at lw_m3 81 rfl) rfl
theorem q640 : (Jvm.Cond.codeWith ({ cls := "LastHatch", name := "does", desc := "(III)I" } : Jvm.MethodName) prog_1_method_18_code (5 : Nat) (Option.some Jvm.ClassFile.FieldType.int) [((0 : Nat), (67 : Nat), (68 : Nat), (8 : Nat))]) ∈ lw_all := lw_g (lw_at lw_m3 82 rfl) rfl
theorem q641 : (Jvm.Cond.methodLink "LastHatch" (147 : Nat) ({ cls := "LastHatch", name := "manAt", desc := "(I)LLastHatch$Man;" } : Jvm.MethodName)) ∈ lw_all := lw_g (lw_at lw_m3 83 rfl) rfl
theorem q642 : (Jvm.Cond.privateMethod ({ cls := "LastHatch", name := "manAt", desc := "(I)LLastHatch$Man;" } : Jvm.MethodName)) ∈ lw_tbl := lw_at lw_m3 84 rfl
theorem q643 : (Jvm.Cond.instanceMethod ({ cls := "LastHatch", name := "manAt", desc := "(I)LLastHatch$Man;" } : Jvm.MethodName)) ∈ lw_all := lw_g (lw_at lw_m3 85 rfl) rfl
theorem q644 : (Jvm.Cond.code ({ cls := "LastHatch", name := "manAt", desc := "(I)LLastHatch$Man;" } : Jvm.MethodName) prog_1_method_14_code (2 : Nat) (Option.some (Jvm.ClassFile.FieldType.object "LastHatch$Man"))) ∈ lw_all := lw_g (lw_at lw_m3 86 rfl) rfl
theorem q645 : (Jvm.Cond.methodLink "LastHatch" (116 : Nat) ({ cls := "java/util/ArrayList", name := "get", desc := "(I)Ljava/lang/Object;" } : Jvm.MethodName)) ∈ lw_all := lw_g (lw_at lw_m3 87 rfl) rfl
theorem q659 : (Jvm.Cond.methodLink "LastHatch" (151 : Nat) ({ cls := "LastHatch", name := "mostOf", desc := "(I)I" } : Jvm.MethodName)) ∈ lw_all := lw_g (lw_at lw_m3 101 rfl) rfl
theorem q660 : (Jvm.Cond.static ({ cls := "LastHatch", name := "mostOf", desc := "(I)I" } : Jvm.MethodName)) ∈ lw_all := lw_g (lw_at lw_m3 102 rfl) rfl
theorem q661 : (Jvm.Cond.code ({ cls := "LastHatch", name := "mostOf", desc := "(I)I" } : Jvm.MethodName) prog_1_method_17_code (1 : Nat) (Option.some Jvm.ClassFile.FieldType.int)) ∈ lw_all := lw_g (lw_at lw_m3 103 rfl) rfl
theorem q662 : (Jvm.Cond.methodLink "LastHatch" (155 : Nat) ({ cls := "LastHatch$Man", name := "isDead", desc := "()Z" } : Jvm.MethodName)) ∈ lw_all := lw_g (lw_at lw_m3 104 rfl) rfl
theorem q666 : (Jvm.Cond.methodLink "LastHatch" (159 : Nat) ({ cls := "LastHatch$Man", name := "become", desc := "(II)I" } : Jvm.MethodName)) ∈ lw_all := lw_g (lw_at lw_m3 108 rfl) rfl
theorem q675 : (Jvm.Cond.instanceMethod ({ cls := "LastHatch", name := "of", desc := "(II)I" } : Jvm.MethodName)) ∈ lw_all := lw_g (lw_at lw_m3 117 rfl) rfl
theorem q676 : (Jvm.Cond.selects "LastHatch" ({ cls := "LastHatch", name := "of", desc := "(II)I" } : Jvm.MethodName) ({ cls := "LastHatch", name := "of", desc := "(II)I" } : Jvm.MethodName)) ∈ lw_all := lw_g (lw_at lw_m3 118 rfl) rfl
theorem q677 : (Jvm.Cond.codeWith ({ cls := "LastHatch", name := "of", desc := "(II)I" } : Jvm.MethodName) prog_1_method_19_code (4 : Nat) (Option.some Jvm.ClassFile.FieldType.int) [((0 : Nat), (22 : Nat), (23 : Nat), (8 : Nat))]) ∈ lw_all := lw_g (lw_at lw_m3 119 rfl) rfl
theorem q678 : (Jvm.Cond.methodLink "LastHatch" (163 : Nat) ({ cls := "LastHatch$Man", name := "get", desc := "(I)I" } : Jvm.MethodName)) ∈ lw_all := lw_g (lw_at lw_m3 120 rfl) rfl
theorem q680 : (Jvm.Cond.instanceMethod ({ cls := "LastHatch", name := "door", desc := "(II)I" } : Jvm.MethodName)) ∈ lw_all := lw_g (lw_at lw_m3 122 rfl) rfl
theorem q681 : (Jvm.Cond.selects "LastHatch" ({ cls := "LastHatch", name := "door", desc := "(II)I" } : Jvm.MethodName) ({ cls := "LastHatch", name := "door", desc := "(II)I" } : Jvm.MethodName)) ∈ lw_all := lw_g (lw_at lw_m3 123 rfl) rfl
theorem q682 : (Jvm.Cond.codeWith ({ cls := "LastHatch", name := "door", desc := "(II)I" } : Jvm.MethodName) prog_1_method_20_code (4 : Nat) (Option.some Jvm.ClassFile.FieldType.int) [((0 : Nat), (73 : Nat), (74 : Nat), (8 : Nat))]) ∈ lw_all := lw_g (lw_at lw_m3 124 rfl) rfl
theorem q684 : (Jvm.Cond.instanceMethod ({ cls := "LastHatch", name := "valve", desc := "(II)I" } : Jvm.MethodName)) ∈ lw_all := lw_g (lw_at lw_m3 126 rfl) rfl
theorem q685 : (Jvm.Cond.selects "LastHatch" ({ cls := "LastHatch", name := "valve", desc := "(II)I" } : Jvm.MethodName) ({ cls := "LastHatch", name := "valve", desc := "(II)I" } : Jvm.MethodName)) ∈ lw_all := lw_g (lw_at lw_m3 127 rfl) rfl
theorem q686 : (Jvm.Cond.codeWith ({ cls := "LastHatch", name := "valve", desc := "(II)I" } : Jvm.MethodName) prog_1_method_21_code (4 : Nat) (Option.some Jvm.ClassFile.FieldType.int) [((0 : Nat), (90 : Nat), (91 : Nat), (8 : Nat))]) ∈ lw_all := lw_g (lw_at lw_m3 128 rfl) rfl
theorem q688 : (Jvm.Cond.instanceMethod ({ cls := "LastHatch", name := "turn", desc := "(II)I" } : Jvm.MethodName)) ∈ lw_all := lw_g (lw_at lw_m3 130 rfl) rfl
theorem q689 : (Jvm.Cond.selects "LastHatch" ({ cls := "LastHatch", name := "turn", desc := "(II)I" } : Jvm.MethodName) ({ cls := "LastHatch", name := "turn", desc := "(II)I" } : Jvm.MethodName)) ∈ lw_all := lw_g (lw_at lw_m3 131 rfl) rfl
theorem q690 : (Jvm.Cond.codeWith ({ cls := "LastHatch", name := "turn", desc := "(II)I" } : Jvm.MethodName) prog_1_method_22_code (5 : Nat) (Option.some Jvm.ClassFile.FieldType.int) [((0 : Nat), (69 : Nat), (70 : Nat), (8 : Nat))]) ∈ lw_all := lw_g (lw_at lw_m3 132 rfl) rfl
theorem q692 : (Jvm.Cond.instanceMethod ({ cls := "LastHatch", name := "room", desc := "(II)I" } : Jvm.MethodName)) ∈ lw_all := lw_g (lw_at lw_m3 134 rfl) rfl
theorem q693 : (Jvm.Cond.selects "LastHatch" ({ cls := "LastHatch", name := "room", desc := "(II)I" } : Jvm.MethodName) ({ cls := "LastHatch", name := "room", desc := "(II)I" } : Jvm.MethodName)) ∈ lw_all := lw_g (lw_at lw_m3 135 rfl) rfl
theorem q694 : (Jvm.Cond.codeWith ({ cls := "LastHatch", name := "room", desc := "(II)I" } : Jvm.MethodName) prog_1_method_23_code (4 : Nat) (Option.some Jvm.ClassFile.FieldType.int) [((0 : Nat), (76 : Nat), (77 : Nat), (8 : Nat))]) ∈ lw_all := lw_g (lw_at lw_m3 136 rfl) rfl
theorem q695 : (Jvm.Cond.methodLink "LastHatch" (186 : Nat) ({ cls := "LastHatch$Hull", name := "menIn", desc := "(I)I" } : Jvm.MethodName)) ∈ lw_all := lw_g (lw_at lw_m3 137 rfl) rfl
theorem q707 : (Jvm.Cond.instanceMethod ({ cls := "LastHatch", name := "pour", desc := "(III)I" } : Jvm.MethodName)) ∈ lw_all := lw_g (lw_at lw_m3 149 rfl) rfl
theorem q708 : (Jvm.Cond.selects "LastHatch" ({ cls := "LastHatch", name := "pour", desc := "(III)I" } : Jvm.MethodName) ({ cls := "LastHatch", name := "pour", desc := "(III)I" } : Jvm.MethodName)) ∈ lw_all := lw_g (lw_at lw_m3 150 rfl) rfl
theorem q709 : (Jvm.Cond.codeWith ({ cls := "LastHatch", name := "pour", desc := "(III)I" } : Jvm.MethodName) prog_1_method_24_code (6 : Nat) (Option.some Jvm.ClassFile.FieldType.int) [((0 : Nat), (86 : Nat), (87 : Nat), (8 : Nat))]) ∈ lw_all := lw_g (lw_at lw_m3 151 rfl) rfl
theorem q711 : (Jvm.Cond.instanceMethod ({ cls := "LastHatch", name := "minute", desc := "(I)I" } : Jvm.MethodName)) ∈ lw_all := lw_g (lw_at lw_m3 153 rfl) rfl
theorem q712 : (Jvm.Cond.selects "LastHatch" ({ cls := "LastHatch", name := "minute", desc := "(I)I" } : Jvm.MethodName) ({ cls := "LastHatch", name := "minute", desc := "(I)I" } : Jvm.MethodName)) ∈ lw_all := lw_g (lw_at lw_m3 154 rfl) rfl
theorem q713 : (Jvm.Cond.codeWith ({ cls := "LastHatch", name := "minute", desc := "(I)I" } : Jvm.MethodName) prog_1_method_26_code (3 : Nat) (Option.some Jvm.ClassFile.FieldType.int) [((0 : Nat), (33 : Nat), (34 : Nat), (8 : Nat))]) ∈ lw_all := lw_g (lw_at lw_m3 155 rfl) rfl
theorem q714 : (Jvm.Cond.methodLink "LastHatch" (192 : Nat) ({ cls := "LastHatch", name := "mustGo", desc := "(I)V" } : Jvm.MethodName)) ∈ lw_all := lw_g (lw_at lw_m3 156 rfl) rfl
theorem q715 : (Jvm.Cond.privateMethod ({ cls := "LastHatch", name := "mustGo", desc := "(I)V" } : Jvm.MethodName)) ∈ lw_tbl := lw_at lw_m3 157 rfl
theorem q716 : (Jvm.Cond.instanceMethod ({ cls := "LastHatch", name := "mustGo", desc := "(I)V" } : Jvm.MethodName)) ∈ lw_all := lw_g (lw_at lw_m3 158 rfl) rfl
theorem q717 : (Jvm.Cond.code ({ cls := "LastHatch", name := "mustGo", desc := "(I)V" } : Jvm.MethodName) prog_1_method_25_code (2 : Nat) (Option.none : Option Jvm.ClassFile.FieldType)) ∈ lw_all := lw_g (lw_at lw_m3 159 rfl) rfl
theorem q718 : (Jvm.Cond.methodLink "LastHatch" (200 : Nat) ({ cls := "LastHatch$Hull", name := "go", desc := "(ILLastHatch$Laws;)V" } : Jvm.MethodName)) ∈ lw_all := lw_g (lw_at lw_m3 160 rfl) rfl
theorem q769 : (Jvm.Cond.static ({ cls := "LastHatch", name := "has", desc := "(II)Z" } : Jvm.MethodName)) ∈ lw_all := lw_g (lw_at lw_m3 211 rfl) rfl
theorem q770 : (Jvm.Cond.code ({ cls := "LastHatch", name := "has", desc := "(II)Z" } : Jvm.MethodName) prog_1_method_2_code (2 : Nat) (Option.some Jvm.ClassFile.FieldType.boolean)) ∈ lw_all := lw_g (lw_at lw_m3 212 rfl) rfl
theorem q781 : (Jvm.Cond.instanceMethod ({ cls := "LastHatch", name := "last", desc := "(I)I" } : Jvm.MethodName)) ∈ lw_all := lw_g (lw_at lw_m3 223 rfl) rfl
theorem q782 : (Jvm.Cond.selects "LastHatch" ({ cls := "LastHatch", name := "last", desc := "(I)I" } : Jvm.MethodName) ({ cls := "LastHatch", name := "last", desc := "(I)I" } : Jvm.MethodName)) ∈ lw_all := lw_g (lw_at lw_m3 224 rfl) rfl
theorem q783 : (Jvm.Cond.codeWith ({ cls := "LastHatch", name := "last", desc := "(I)I" } : Jvm.MethodName) prog_1_method_27_code (4 : Nat) (Option.some Jvm.ClassFile.FieldType.int) [((0 : Nat), (103 : Nat), (104 : Nat), (8 : Nat))]) ∈ lw_all := lw_g (lw_at lw_m3 225 rfl) rfl
theorem q784 : (Jvm.Cond.methodLink "LastHatch" (204 : Nat) ({ cls := "LastHatch$Hull", name := "copy", desc := "()LLastHatch$Hull;" } : Jvm.MethodName)) ∈ lw_all := lw_g (lw_at lw_m3 226 rfl) rfl
theorem q798 : (Jvm.Cond.methodLink "LastHatch" (208 : Nat) ({ cls := "LastHatch$Hull", name := "breathe", desc := "(LLastHatch$Laws;)V" } : Jvm.MethodName)) ∈ lw_all := lw_g (lw_at lw_m4 0 rfl) rfl
theorem q799 : (Jvm.Cond.methodLink "LastHatch" (212 : Nat) ({ cls := "LastHatch$Hull", name := "flood", desc := "()V" } : Jvm.MethodName)) ∈ lw_all := lw_g (lw_at lw_m4 1 rfl) rfl
theorem q801 : (Jvm.Cond.instanceMethod ({ cls := "LastHatch", name := "dead", desc := "(I)I" } : Jvm.MethodName)) ∈ lw_all := lw_g (lw_at lw_m4 3 rfl) rfl
theorem q802 : (Jvm.Cond.selects "LastHatch" ({ cls := "LastHatch", name := "dead", desc := "(I)I" } : Jvm.MethodName) ({ cls := "LastHatch", name := "dead", desc := "(I)I" } : Jvm.MethodName)) ∈ lw_all := lw_g (lw_at lw_m4 4 rfl) rfl
theorem q803 : (Jvm.Cond.codeWith ({ cls := "LastHatch", name := "dead", desc := "(I)I" } : Jvm.MethodName) prog_1_method_28_code (3 : Nat) (Option.some Jvm.ClassFile.FieldType.int) [((0 : Nat), (37 : Nat), (38 : Nat), (8 : Nat))]) ∈ lw_all := lw_g (lw_at lw_m4 5 rfl) rfl
theorem q804 : (Jvm.Cond.methodLink "LastHatch" (215 : Nat) ({ cls := "java/lang/Integer", name := "bitCount", desc := "(I)I" } : Jvm.MethodName)) ∈ lw_all := lw_g (lw_at lw_m4 6 rfl) rfl
theorem q811 : (Jvm.Cond.instanceMethod ({ cls := "LastHatch", name := "feed", desc := "(JI)I" } : Jvm.MethodName)) ∈ lw_all := lw_g (lw_at lw_m4 13 rfl) rfl
theorem q812 : (Jvm.Cond.selects "LastHatch" ({ cls := "LastHatch", name := "feed", desc := "(JI)I" } : Jvm.MethodName) ({ cls := "LastHatch", name := "feed", desc := "(JI)I" } : Jvm.MethodName)) ∈ lw_all := lw_g (lw_at lw_m4 14 rfl) rfl
theorem q813 : (Jvm.Cond.codeWith ({ cls := "LastHatch", name := "feed", desc := "(JI)I" } : Jvm.MethodName) prog_1_method_29_code (5 : Nat) (Option.some Jvm.ClassFile.FieldType.int) [((0 : Nat), (95 : Nat), (96 : Nat), (8 : Nat))]) ∈ lw_all := lw_g (lw_at lw_m4 15 rfl) rfl
theorem q815 : (Jvm.Cond.instanceMethod ({ cls := "LastHatch", name := "text", desc := "(I)I" } : Jvm.MethodName)) ∈ lw_all := lw_g (lw_at lw_m4 17 rfl) rfl
theorem q816 : (Jvm.Cond.selects "LastHatch" ({ cls := "LastHatch", name := "text", desc := "(I)I" } : Jvm.MethodName) ({ cls := "LastHatch", name := "text", desc := "(I)I" } : Jvm.MethodName)) ∈ lw_all := lw_g (lw_at lw_m4 18 rfl) rfl
theorem q817 : (Jvm.Cond.codeWith ({ cls := "LastHatch", name := "text", desc := "(I)I" } : Jvm.MethodName) prog_1_method_30_code (3 : Nat) (Option.some Jvm.ClassFile.FieldType.int) [((0 : Nat), (62 : Nat), (63 : Nat), (246 : Nat)), ((0 : Nat), (62 : Nat), (72 : Nat), (8 : Nat))]) ∈ lw_all := lw_g (lw_at lw_m4 19 rfl) rfl
theorem q818 : (Jvm.Cond.classLink "LastHatch" (246 : Nat) "LastHatch$Fault") ∈ lw_all := lw_g (lw_at lw_m4 20 rfl) rfl
theorem q819 : (Jvm.Cond.classLink "LastHatch" (233 : Nat) "LastHatch$Reader") ∈ lw_all := lw_g (lw_at lw_m4 21 rfl) rfl
theorem q821 : (Jvm.Cond.methodLink "LastHatch" (235 : Nat) ({ cls := "LastHatch$Laws", name := "names", desc := "(I)Ljava/lang/String;" } : Jvm.MethodName)) ∈ lw_all := lw_g (lw_at lw_m4 23 rfl) rfl
theorem q828 : (Jvm.Cond.methodLink "LastHatch" (239 : Nat) ({ cls := "LastHatch$Reader", name := "<init>", desc := "(Ljava/lang/String;[BI)V" } : Jvm.MethodName)) ∈ lw_all := lw_g (lw_at lw_m4 30 rfl) rfl
theorem q848 : (Jvm.Cond.methodLink "LastHatch" (242 : Nat) ({ cls := "LastHatch$Reader", name := "read", desc := "()LLastHatch$Term;" } : Jvm.MethodName)) ∈ lw_all := lw_g (lw_at lw_m4 50 rfl) rfl
theorem q1002 : (Jvm.Cond.fieldLinkNest "LastHatch" (248 : Nat) "LastHatch$Fault" "place" "I" "LastHatch") ∈ lw_tbl := lw_at lw_m4 204 rfl
theorem q1051 : (Jvm.Cond.instanceMethod ({ cls := "LastHatch", name := "law", desc := "(IIII)I" } : Jvm.MethodName)) ∈ lw_all := lw_g (lw_at lw_m5 13 rfl) rfl
theorem q1052 : (Jvm.Cond.selects "LastHatch" ({ cls := "LastHatch", name := "law", desc := "(IIII)I" } : Jvm.MethodName) ({ cls := "LastHatch", name := "law", desc := "(IIII)I" } : Jvm.MethodName)) ∈ lw_all := lw_g (lw_at lw_m5 14 rfl) rfl
theorem q1053 : (Jvm.Cond.codeWith ({ cls := "LastHatch", name := "law", desc := "(IIII)I" } : Jvm.MethodName) prog_1_method_31_code (6 : Nat) (Option.some Jvm.ClassFile.FieldType.int) [((0 : Nat), (26 : Nat), (27 : Nat), (8 : Nat))]) ∈ lw_all := lw_g (lw_at lw_m5 15 rfl) rfl
theorem q1054 : (Jvm.Cond.methodLink "LastHatch" (251 : Nat) ({ cls := "LastHatch$Laws", name := "gives", desc := "(IIII)I" } : Jvm.MethodName)) ∈ lw_all := lw_g (lw_at lw_m5 16 rfl) rfl
theorem q1072 : (Jvm.Cond.instanceMethod ({ cls := "LastHatch", name := "way", desc := "(IIII)I" } : Jvm.MethodName)) ∈ lw_all := lw_g (lw_at lw_m5 34 rfl) rfl
theorem q1073 : (Jvm.Cond.selects "LastHatch" ({ cls := "LastHatch", name := "way", desc := "(IIII)I" } : Jvm.MethodName) ({ cls := "LastHatch", name := "way", desc := "(IIII)I" } : Jvm.MethodName)) ∈ lw_all := lw_g (lw_at lw_m5 35 rfl) rfl
theorem q1074 : (Jvm.Cond.codeWith ({ cls := "LastHatch", name := "way", desc := "(IIII)I" } : Jvm.MethodName) prog_1_method_33_code (6 : Nat) (Option.some Jvm.ClassFile.FieldType.int) [((0 : Nat), (122 : Nat), (123 : Nat), (8 : Nat))]) ∈ lw_all := lw_g (lw_at lw_m5 36 rfl) rfl
theorem q1075 : (Jvm.Cond.methodLink "LastHatch" (258 : Nat) ({ cls := "LastHatch", name := "wayOf", desc := "(ILLastHatch$Trace;IIII)LLastHatch$Way;" } : Jvm.MethodName)) ∈ lw_all := lw_g (lw_at lw_m5 37 rfl) rfl
theorem q1076 : (Jvm.Cond.static ({ cls := "LastHatch", name := "wayOf", desc := "(ILLastHatch$Trace;IIII)LLastHatch$Way;" } : Jvm.MethodName)) ∈ lw_all := lw_g (lw_at lw_m5 38 rfl) rfl
theorem q1077 : (Jvm.Cond.code ({ cls := "LastHatch", name := "wayOf", desc := "(ILLastHatch$Trace;IIII)LLastHatch$Way;" } : Jvm.MethodName) prog_1_method_4_code (6 : Nat) (Option.some (Jvm.ClassFile.FieldType.object "LastHatch$Way"))) ∈ lw_all := lw_g (lw_at lw_m5 39 rfl) rfl
theorem q1078 : (Jvm.Cond.classLink "LastHatch" (13 : Nat) "LastHatch$Lock") ∈ lw_all := lw_g (lw_at lw_m5 40 rfl) rfl
theorem q1080 : (Jvm.Cond.methodLink "LastHatch" (15 : Nat) ({ cls := "LastHatch$Lock", name := "<init>", desc := "(LLastHatch$Trace;IIII)V" } : Jvm.MethodName)) ∈ lw_all := lw_g (lw_at lw_m5 42 rfl) rfl
theorem q1114 : (Jvm.Cond.fieldLink "LastHatch" (269 : Nat) "LastHatch$Way" "t" "I") ∈ lw_all := lw_g (lw_at lw_m5 76 rfl) rfl
theorem q1132 : (Jvm.Cond.classLink "LastHatch" (19 : Nat) "LastHatch$Rush") ∈ lw_all := lw_g (lw_at lw_m5 94 rfl) rfl
theorem q1134 : (Jvm.Cond.methodLink "LastHatch" (21 : Nat) ({ cls := "LastHatch$Rush", name := "<init>", desc := "(LLastHatch$Trace;IIII)V" } : Jvm.MethodName)) ∈ lw_all := lw_g (lw_at lw_m5 96 rfl) rfl
theorem q1144 : (Jvm.Cond.classLink "LastHatch" (22 : Nat) "LastHatch$Bell") ∈ lw_all := lw_g (lw_at lw_m5 106 rfl) rfl
theorem q1146 : (Jvm.Cond.methodLink "LastHatch" (24 : Nat) ({ cls := "LastHatch$Bell", name := "<init>", desc := "(LLastHatch$Trace;IIII)V" } : Jvm.MethodName)) ∈ lw_all := lw_g (lw_at lw_m5 108 rfl) rfl
theorem q1156 : (Jvm.Cond.classLink "LastHatch" (25 : Nat) "LastHatch$Raised") ∈ lw_all := lw_g (lw_at lw_m5 118 rfl) rfl
theorem q1158 : (Jvm.Cond.methodLink "LastHatch" (27 : Nat) ({ cls := "LastHatch$Raised", name := "<init>", desc := "(LLastHatch$Trace;IIII)V" } : Jvm.MethodName)) ∈ lw_all := lw_g (lw_at lw_m5 120 rfl) rfl
theorem q1168 : (Jvm.Cond.classLink "LastHatch" (28 : Nat) "LastHatch$Waiting") ∈ lw_all := lw_g (lw_at lw_m5 130 rfl) rfl
theorem q1170 : (Jvm.Cond.methodLink "LastHatch" (30 : Nat) ({ cls := "LastHatch$Waiting", name := "<init>", desc := "(LLastHatch$Trace;IIII)V" } : Jvm.MethodName)) ∈ lw_all := lw_g (lw_at lw_m5 132 rfl) rfl
theorem q1180 : (Jvm.Cond.classLink "LastHatch" (31 : Nat) "LastHatch$Lost") ∈ lw_all := lw_g (lw_at lw_m5 142 rfl) rfl
theorem q1182 : (Jvm.Cond.methodLink "LastHatch" (33 : Nat) ({ cls := "LastHatch$Lost", name := "<init>", desc := "(LLastHatch$Trace;IIII)V" } : Jvm.MethodName)) ∈ lw_all := lw_g (lw_at lw_m5 144 rfl) rfl
theorem q1192 : (Jvm.Cond.classLink "LastHatch" (34 : Nat) "LastHatch$Tapped") ∈ lw_all := lw_g (lw_at lw_m5 154 rfl) rfl
theorem q1194 : (Jvm.Cond.methodLink "LastHatch" (36 : Nat) ({ cls := "LastHatch$Tapped", name := "<init>", desc := "(LLastHatch$Trace;IIII)V" } : Jvm.MethodName)) ∈ lw_all := lw_g (lw_at lw_m5 156 rfl) rfl
theorem q1204 : (Jvm.Cond.classLink "LastHatch" (37 : Nat) "LastHatch$Way") ∈ lw_all := lw_g (lw_at lw_m5 166 rfl) rfl
theorem q1206 : (Jvm.Cond.methodLink "LastHatch" (39 : Nat) ({ cls := "LastHatch$Way", name := "<init>", desc := "(LLastHatch$Trace;IIII)V" } : Jvm.MethodName)) ∈ lw_all := lw_g (lw_at lw_m5 168 rfl) rfl
theorem q1214 : (Jvm.Cond.instanceMethod ({ cls := "LastHatch", name := "as", desc := "(II)I" } : Jvm.MethodName)) ∈ lw_all := lw_g (lw_at lw_m5 176 rfl) rfl
theorem q1215 : (Jvm.Cond.selects "LastHatch" ({ cls := "LastHatch", name := "as", desc := "(II)I" } : Jvm.MethodName) ({ cls := "LastHatch", name := "as", desc := "(II)I" } : Jvm.MethodName)) ∈ lw_all := lw_g (lw_at lw_m5 177 rfl) rfl
theorem q1216 : (Jvm.Cond.codeWith ({ cls := "LastHatch", name := "as", desc := "(II)I" } : Jvm.MethodName) prog_1_method_34_code (4 : Nat) (Option.some Jvm.ClassFile.FieldType.int) [((0 : Nat), (32 : Nat), (33 : Nat), (8 : Nat))]) ∈ lw_all := lw_g (lw_at lw_m5 178 rfl) rfl
theorem q1217 : (Jvm.Cond.methodLink "LastHatch" (262 : Nat) ({ cls := "LastHatch", name := "wayAt", desc := "(I)LLastHatch$Way;" } : Jvm.MethodName)) ∈ lw_all := lw_g (lw_at lw_m5 179 rfl) rfl
theorem q1218 : (Jvm.Cond.privateMethod ({ cls := "LastHatch", name := "wayAt", desc := "(I)LLastHatch$Way;" } : Jvm.MethodName)) ∈ lw_tbl := lw_at lw_m5 180 rfl
theorem q1219 : (Jvm.Cond.instanceMethod ({ cls := "LastHatch", name := "wayAt", desc := "(I)LLastHatch$Way;" } : Jvm.MethodName)) ∈ lw_all := lw_g (lw_at lw_m5 181 rfl) rfl
theorem q1220 : (Jvm.Cond.code ({ cls := "LastHatch", name := "wayAt", desc := "(I)LLastHatch$Way;" } : Jvm.MethodName) prog_1_method_32_code (2 : Nat) (Option.some (Jvm.ClassFile.FieldType.object "LastHatch$Way"))) ∈ lw_all := lw_g (lw_at lw_m5 182 rfl) rfl
theorem q1221 : (Jvm.Cond.methodLink "LastHatch" (266 : Nat) ({ cls := "LastHatch$Way", name := "isOf", desc := "(I)Z" } : Jvm.MethodName)) ∈ lw_all := lw_g (lw_at lw_m5 183 rfl) rfl
theorem q1255 : (Jvm.Cond.instanceMethod ({ cls := "LastHatch", name := "out", desc := "(III)I" } : Jvm.MethodName)) ∈ lw_all := lw_g (lw_at lw_m5 217 rfl) rfl
theorem q1256 : (Jvm.Cond.selects "LastHatch" ({ cls := "LastHatch", name := "out", desc := "(III)I" } : Jvm.MethodName) ({ cls := "LastHatch", name := "out", desc := "(III)I" } : Jvm.MethodName)) ∈ lw_all := lw_g (lw_at lw_m5 218 rfl) rfl
theorem q1257 : (Jvm.Cond.codeWith ({ cls := "LastHatch", name := "out", desc := "(III)I" } : Jvm.MethodName) prog_1_method_36_code (5 : Nat) (Option.some Jvm.ClassFile.FieldType.int) [((0 : Nat), (28 : Nat), (29 : Nat), (8 : Nat))]) ∈ lw_all := lw_g (lw_at lw_m5 219 rfl) rfl
theorem q1258 : (Jvm.Cond.methodLink "LastHatch" (272 : Nat) ({ cls := "LastHatch", name := "isCrew", desc := "(II)Z" } : Jvm.MethodName)) ∈ lw_all := lw_g (lw_at lw_m5 220 rfl) rfl
theorem q1259 : (Jvm.Cond.static ({ cls := "LastHatch", name := "isCrew", desc := "(II)Z" } : Jvm.MethodName)) ∈ lw_all := lw_g (lw_at lw_m5 221 rfl) rfl
theorem q1260 : (Jvm.Cond.code ({ cls := "LastHatch", name := "isCrew", desc := "(II)Z" } : Jvm.MethodName) prog_1_method_35_code (2 : Nat) (Option.some Jvm.ClassFile.FieldType.boolean)) ∈ lw_all := lw_g (lw_at lw_m5 222 rfl) rfl
theorem q1261 : (Jvm.Cond.methodLink "LastHatch" (276 : Nat) ({ cls := "LastHatch$Way", name := "out", desc := "(IILLastHatch$Divers;)I" } : Jvm.MethodName)) ∈ lw_all := lw_g (lw_at lw_m5 223 rfl) rfl
theorem q1305 : (Jvm.Cond.instanceMethod ({ cls := "LastHatch", name := "best", desc := "(II)I" } : Jvm.MethodName)) ∈ lw_all := lw_g (lw_at lw_m6 27 rfl) rfl
theorem q1306 : (Jvm.Cond.selects "LastHatch" ({ cls := "LastHatch", name := "best", desc := "(II)I" } : Jvm.MethodName) ({ cls := "LastHatch", name := "best", desc := "(II)I" } : Jvm.MethodName)) ∈ lw_all := lw_g (lw_at lw_m6 28 rfl) rfl
theorem q1307 : (Jvm.Cond.codeWith ({ cls := "LastHatch", name := "best", desc := "(II)I" } : Jvm.MethodName) prog_1_method_37_code (7 : Nat) (Option.some Jvm.ClassFile.FieldType.int) [((0 : Nat), (103 : Nat), (104 : Nat), (8 : Nat))]) ∈ lw_all := lw_g (lw_at lw_m6 29 rfl) rfl
theorem q1309 : (Jvm.Cond.instanceMethod ({ cls := "LastHatch", name := "most", desc := "(III)I" } : Jvm.MethodName)) ∈ lw_all := lw_g (lw_at lw_m6 31 rfl) rfl
theorem q1310 : (Jvm.Cond.selects "LastHatch" ({ cls := "LastHatch", name := "most", desc := "(III)I" } : Jvm.MethodName) ({ cls := "LastHatch", name := "most", desc := "(III)I" } : Jvm.MethodName)) ∈ lw_all := lw_g (lw_at lw_m6 32 rfl) rfl
theorem q1311 : (Jvm.Cond.codeWith ({ cls := "LastHatch", name := "most", desc := "(III)I" } : Jvm.MethodName) prog_1_method_39_code (5 : Nat) (Option.some Jvm.ClassFile.FieldType.int) [((0 : Nat), (103 : Nat), (104 : Nat), (8 : Nat))]) ∈ lw_all := lw_g (lw_at lw_m6 33 rfl) rfl
theorem q1312 : (Jvm.Cond.methodLink "LastHatch" (280 : Nat) ({ cls := "LastHatch", name := "isTurn", desc := "(I)Z" } : Jvm.MethodName)) ∈ lw_all := lw_g (lw_at lw_m6 34 rfl) rfl
theorem q1313 : (Jvm.Cond.static ({ cls := "LastHatch", name := "isTurn", desc := "(I)Z" } : Jvm.MethodName)) ∈ lw_all := lw_g (lw_at lw_m6 35 rfl) rfl
theorem q1314 : (Jvm.Cond.code ({ cls := "LastHatch", name := "isTurn", desc := "(I)Z" } : Jvm.MethodName) prog_1_method_38_code (1 : Nat) (Option.some Jvm.ClassFile.FieldType.boolean)) ∈ lw_all := lw_g (lw_at lw_m6 36 rfl) rfl
theorem q1315 : (Jvm.Cond.methodLink "LastHatch" (283 : Nat) ({ cls := "LastHatch$Hatch", name := "find", desc := "(LLastHatch$Hull;II)V" } : Jvm.MethodName)) ∈ lw_all := lw_g (lw_at lw_m6 37 rfl) rfl
theorem q1349 : (Jvm.Cond.methodLink "LastHatch" (290 : Nat) ({ cls := "LastHatch$Hatch", name := "named", desc := "(I)I" } : Jvm.MethodName)) ∈ lw_all := lw_g (lw_at lw_m6 71 rfl) rfl
theorem q1354 : (Jvm.Cond.instanceMethod ({ cls := "LastHatch", name := "row", desc := "(III)I" } : Jvm.MethodName)) ∈ lw_all := lw_g (lw_at lw_m6 76 rfl) rfl
theorem q1355 : (Jvm.Cond.selects "LastHatch" ({ cls := "LastHatch", name := "row", desc := "(III)I" } : Jvm.MethodName) ({ cls := "LastHatch", name := "row", desc := "(III)I" } : Jvm.MethodName)) ∈ lw_all := lw_g (lw_at lw_m6 77 rfl) rfl
theorem q1356 : (Jvm.Cond.codeWith ({ cls := "LastHatch", name := "row", desc := "(III)I" } : Jvm.MethodName) prog_1_method_40_code (5 : Nat) (Option.some Jvm.ClassFile.FieldType.int) [((0 : Nat), (88 : Nat), (89 : Nat), (8 : Nat))]) ∈ lw_all := lw_g (lw_at lw_m6 78 rfl) rfl
theorem q1357 : (Jvm.Cond.methodLink "LastHatch" (296 : Nat) ({ cls := "LastHatch$Hatch", name := "turn", desc := "(I)I" } : Jvm.MethodName)) ∈ lw_all := lw_g (lw_at lw_m6 79 rfl) rfl
theorem q1362 : (Jvm.Cond.instanceMethod ({ cls := "LastHatch", name := "goes", desc := "(II)I" } : Jvm.MethodName)) ∈ lw_all := lw_g (lw_at lw_m6 84 rfl) rfl
theorem q1363 : (Jvm.Cond.selects "LastHatch" ({ cls := "LastHatch", name := "goes", desc := "(II)I" } : Jvm.MethodName) ({ cls := "LastHatch", name := "goes", desc := "(II)I" } : Jvm.MethodName)) ∈ lw_all := lw_g (lw_at lw_m6 85 rfl) rfl
theorem q1364 : (Jvm.Cond.codeWith ({ cls := "LastHatch", name := "goes", desc := "(II)I" } : Jvm.MethodName) prog_1_method_42_code (5 : Nat) (Option.some Jvm.ClassFile.FieldType.int) [((16 : Nat), (77 : Nat), (78 : Nat), (8 : Nat))]) ∈ lw_all := lw_g (lw_at lw_m6 86 rfl) rfl
theorem q1365 : (Jvm.Cond.methodLink "LastHatch" (311 : Nat) ({ cls := "LastHatch", name := "rightOf", desc := "(I)I" } : Jvm.MethodName)) ∈ lw_all := lw_g (lw_at lw_m6 87 rfl) rfl
theorem q1366 : (Jvm.Cond.privateMethod ({ cls := "LastHatch", name := "rightOf", desc := "(I)I" } : Jvm.MethodName)) ∈ lw_tbl := lw_at lw_m6 88 rfl
theorem q1367 : (Jvm.Cond.instanceMethod ({ cls := "LastHatch", name := "rightOf", desc := "(I)I" } : Jvm.MethodName)) ∈ lw_all := lw_g (lw_at lw_m6 89 rfl) rfl
theorem q1368 : (Jvm.Cond.code ({ cls := "LastHatch", name := "rightOf", desc := "(I)I" } : Jvm.MethodName) prog_1_method_41_code (6 : Nat) (Option.some Jvm.ClassFile.FieldType.int)) ∈ lw_all := lw_g (lw_at lw_m6 90 rfl) rfl
theorem q1369 : (Jvm.Cond.methodLink "LastHatch" (302 : Nat) ({ cls := "LastHatch$Hatch", name := "placed", desc := "(I)I" } : Jvm.MethodName)) ∈ lw_all := lw_g (lw_at lw_m6 91 rfl) rfl
theorem q1374 : (Jvm.Cond.methodLinkNest "LastHatch" (305 : Nat) ({ cls := "LastHatch$Hatch", name := "mayGo", desc := "(II)Z" } : Jvm.MethodName) "LastHatch") ∈ lw_tbl := lw_at lw_m6 96 rfl
theorem q1376 : (Jvm.Cond.instanceMethod ({ cls := "LastHatch", name := "odds", desc := "(IIII)J" } : Jvm.MethodName)) ∈ lw_all := lw_g (lw_at lw_m6 98 rfl) rfl
theorem q1377 : (Jvm.Cond.selects "LastHatch" ({ cls := "LastHatch", name := "odds", desc := "(IIII)J" } : Jvm.MethodName) ({ cls := "LastHatch", name := "odds", desc := "(IIII)J" } : Jvm.MethodName)) ∈ lw_all := lw_g (lw_at lw_m6 99 rfl) rfl
theorem q1378 : (Jvm.Cond.codeWith ({ cls := "LastHatch", name := "odds", desc := "(IIII)J" } : Jvm.MethodName) prog_1_method_45_code (11 : Nat) (Option.some Jvm.ClassFile.FieldType.long) [((0 : Nat), (115 : Nat), (116 : Nat), (8 : Nat))]) ∈ lw_all := lw_g (lw_at lw_m6 100 rfl) rfl
theorem q1379 : (Jvm.Cond.methodLink "LastHatch" (314 : Nat) ({ cls := "LastHatch", name := "isPart", desc := "(I)Z" } : Jvm.MethodName)) ∈ lw_all := lw_g (lw_at lw_m6 101 rfl) rfl
theorem q1380 : (Jvm.Cond.static ({ cls := "LastHatch", name := "isPart", desc := "(I)Z" } : Jvm.MethodName)) ∈ lw_all := lw_g (lw_at lw_m6 102 rfl) rfl
theorem q1381 : (Jvm.Cond.code ({ cls := "LastHatch", name := "isPart", desc := "(I)Z" } : Jvm.MethodName) prog_1_method_12_code (1 : Nat) (Option.some Jvm.ClassFile.FieldType.boolean)) ∈ lw_all := lw_g (lw_at lw_m6 103 rfl) rfl
theorem q1382 : (Jvm.Cond.methodLink "LastHatch" (317 : Nat) ({ cls := "LastHatch", name := "waysOut", desc := "(IIII)J" } : Jvm.MethodName)) ∈ lw_all := lw_g (lw_at lw_m6 104 rfl) rfl
theorem q1383 : (Jvm.Cond.static ({ cls := "LastHatch", name := "waysOut", desc := "(IIII)J" } : Jvm.MethodName)) ∈ lw_all := lw_g (lw_at lw_m6 105 rfl) rfl
theorem q1384 : (Jvm.Cond.code ({ cls := "LastHatch", name := "waysOut", desc := "(IIII)J" } : Jvm.MethodName) prog_1_method_44_code (10 : Nat) (Option.some Jvm.ClassFile.FieldType.long)) ∈ lw_all := lw_g (lw_at lw_m6 106 rfl) rfl
theorem q1385 : (Jvm.Cond.methodLink "LastHatch" (321 : Nat) ({ cls := "LastHatch", name := "divisor", desc := "(JJ)J" } : Jvm.MethodName)) ∈ lw_all := lw_g (lw_at lw_m6 107 rfl) rfl
theorem q1386 : (Jvm.Cond.static ({ cls := "LastHatch", name := "divisor", desc := "(JJ)J" } : Jvm.MethodName)) ∈ lw_all := lw_g (lw_at lw_m6 108 rfl) rfl
theorem q1387 : (Jvm.Cond.code ({ cls := "LastHatch", name := "divisor", desc := "(JJ)J" } : Jvm.MethodName) prog_1_method_43_code (10 : Nat) (Option.some Jvm.ClassFile.FieldType.long)) ∈ lw_all := lw_g (lw_at lw_m6 109 rfl) rfl
theorem q1389 : (Jvm.Cond.instanceMethod ({ cls := "LastHatch", name := "beside", desc := "(III)I" } : Jvm.MethodName)) ∈ lw_all := lw_g (lw_at lw_m6 111 rfl) rfl
theorem q1390 : (Jvm.Cond.selects "LastHatch" ({ cls := "LastHatch", name := "beside", desc := "(III)I" } : Jvm.MethodName) ({ cls := "LastHatch", name := "beside", desc := "(III)I" } : Jvm.MethodName)) ∈ lw_all := lw_g (lw_at lw_m6 112 rfl) rfl
theorem q1391 : (Jvm.Cond.codeWith ({ cls := "LastHatch", name := "beside", desc := "(III)I" } : Jvm.MethodName) prog_1_method_46_code (5 : Nat) (Option.some Jvm.ClassFile.FieldType.int) [((0 : Nat), (70 : Nat), (71 : Nat), (8 : Nat))]) ∈ lw_all := lw_g (lw_at lw_m6 113 rfl) rfl
theorem q1393 : (Jvm.Cond.instanceMethod ({ cls := "LastHatch", name := "stop", desc := "(III)I" } : Jvm.MethodName)) ∈ lw_all := lw_g (lw_at lw_m6 115 rfl) rfl
theorem q1394 : (Jvm.Cond.selects "LastHatch" ({ cls := "LastHatch", name := "stop", desc := "(III)I" } : Jvm.MethodName) ({ cls := "LastHatch", name := "stop", desc := "(III)I" } : Jvm.MethodName)) ∈ lw_all := lw_g (lw_at lw_m6 116 rfl) rfl
theorem q1395 : (Jvm.Cond.codeWith ({ cls := "LastHatch", name := "stop", desc := "(III)I" } : Jvm.MethodName) prog_1_method_47_code (5 : Nat) (Option.some Jvm.ClassFile.FieldType.int) [((0 : Nat), (98 : Nat), (99 : Nat), (8 : Nat))]) ∈ lw_all := lw_g (lw_at lw_m6 117 rfl) rfl
theorem q1396 : (Jvm.Cond.methodLink "LastHatch" (325 : Nat) ({ cls := "LastHatch$Laws", name := "harm", desc := "(III)I" } : Jvm.MethodName)) ∈ lw_all := lw_g (lw_at lw_m6 118 rfl) rfl
theorem q1398 : (Jvm.Cond.instanceMethod ({ cls := "LastHatch", name := "tank", desc := "(II)I" } : Jvm.MethodName)) ∈ lw_all := lw_g (lw_at lw_m6 120 rfl) rfl
theorem q1399 : (Jvm.Cond.selects "LastHatch" ({ cls := "LastHatch", name := "tank", desc := "(II)I" } : Jvm.MethodName) ({ cls := "LastHatch", name := "tank", desc := "(II)I" } : Jvm.MethodName)) ∈ lw_all := lw_g (lw_at lw_m6 121 rfl) rfl
theorem q1400 : (Jvm.Cond.codeWith ({ cls := "LastHatch", name := "tank", desc := "(II)I" } : Jvm.MethodName) prog_1_method_48_code (4 : Nat) (Option.some Jvm.ClassFile.FieldType.int) [((0 : Nat), (94 : Nat), (95 : Nat), (8 : Nat))]) ∈ lw_all := lw_g (lw_at lw_m6 122 rfl) rfl
theorem q1402 : (Jvm.Cond.instanceMethod ({ cls := "LastHatch", name := "blow", desc := "(II)I" } : Jvm.MethodName)) ∈ lw_all := lw_g (lw_at lw_m6 124 rfl) rfl
theorem q1403 : (Jvm.Cond.selects "LastHatch" ({ cls := "LastHatch", name := "blow", desc := "(II)I" } : Jvm.MethodName) ({ cls := "LastHatch", name := "blow", desc := "(II)I" } : Jvm.MethodName)) ∈ lw_all := lw_g (lw_at lw_m6 125 rfl) rfl
theorem q1404 : (Jvm.Cond.codeWith ({ cls := "LastHatch", name := "blow", desc := "(II)I" } : Jvm.MethodName) prog_1_method_49_code (5 : Nat) (Option.some Jvm.ClassFile.FieldType.int) [((0 : Nat), (69 : Nat), (70 : Nat), (8 : Nat))]) ∈ lw_all := lw_g (lw_at lw_m6 126 rfl) rfl
theorem q1406 : (Jvm.Cond.instanceMethod ({ cls := "LastHatch", name := "lift", desc := "(II)I" } : Jvm.MethodName)) ∈ lw_all := lw_g (lw_at lw_m6 128 rfl) rfl
theorem q1407 : (Jvm.Cond.selects "LastHatch" ({ cls := "LastHatch", name := "lift", desc := "(II)I" } : Jvm.MethodName) ({ cls := "LastHatch", name := "lift", desc := "(II)I" } : Jvm.MethodName)) ∈ lw_all := lw_g (lw_at lw_m6 129 rfl) rfl
theorem q1408 : (Jvm.Cond.codeWith ({ cls := "LastHatch", name := "lift", desc := "(II)I" } : Jvm.MethodName) prog_1_method_50_code (5 : Nat) (Option.some Jvm.ClassFile.FieldType.int) [((0 : Nat), (74 : Nat), (75 : Nat), (8 : Nat))]) ∈ lw_all := lw_g (lw_at lw_m6 130 rfl) rfl
theorem q1409 : (Jvm.Cond.methodLink "LastHatch" (345 : Nat) ({ cls := "LastHatch$Tanks", name := "lift", desc := "(I)I" } : Jvm.MethodName)) ∈ lw_all := lw_g (lw_at lw_m6 131 rfl) rfl
theorem q1414 : (Jvm.Cond.methodLink "LastHatch" (348 : Nat) ({ cls := "LastHatch$Tanks", name := "lean", desc := "(I)I" } : Jvm.MethodName)) ∈ lw_all := lw_g (lw_at lw_m6 136 rfl) rfl
theorem q1419 : (Jvm.Cond.instanceMethod ({ cls := "LastHatch", name := "raise", desc := "(III)I" } : Jvm.MethodName)) ∈ lw_all := lw_g (lw_at lw_m6 141 rfl) rfl
theorem q1420 : (Jvm.Cond.selects "LastHatch" ({ cls := "LastHatch", name := "raise", desc := "(III)I" } : Jvm.MethodName) ({ cls := "LastHatch", name := "raise", desc := "(III)I" } : Jvm.MethodName)) ∈ lw_all := lw_g (lw_at lw_m6 142 rfl) rfl
theorem q1421 : (Jvm.Cond.codeWith ({ cls := "LastHatch", name := "raise", desc := "(III)I" } : Jvm.MethodName) prog_1_method_51_code (6 : Nat) (Option.some Jvm.ClassFile.FieldType.int) [((0 : Nat), (104 : Nat), (105 : Nat), (8 : Nat))]) ∈ lw_all := lw_g (lw_at lw_m6 143 rfl) rfl
theorem q1422 : (Jvm.Cond.methodLink "LastHatch" (351 : Nat) ({ cls := "LastHatch$Tanks", name := "find", desc := "(II)V" } : Jvm.MethodName)) ∈ lw_all := lw_g (lw_at lw_m6 144 rfl) rfl
theorem q1433 : (Jvm.Cond.methodLink "LastHatch" (357 : Nat) ({ cls := "LastHatch$Tanks", name := "next", desc := "(II)I" } : Jvm.MethodName)) ∈ lw_all := lw_g (lw_at lw_m6 155 rfl) rfl
theorem q1438 : (Jvm.Cond.instanceMethod ({ cls := "LastHatch", name := "tide", desc := "(II)I" } : Jvm.MethodName)) ∈ lw_all := lw_g (lw_at lw_m6 160 rfl) rfl
theorem q1439 : (Jvm.Cond.selects "LastHatch" ({ cls := "LastHatch", name := "tide", desc := "(II)I" } : Jvm.MethodName) ({ cls := "LastHatch", name := "tide", desc := "(II)I" } : Jvm.MethodName)) ∈ lw_all := lw_g (lw_at lw_m6 161 rfl) rfl
theorem q1440 : (Jvm.Cond.codeWith ({ cls := "LastHatch", name := "tide", desc := "(II)I" } : Jvm.MethodName) prog_1_method_52_code (5 : Nat) (Option.some Jvm.ClassFile.FieldType.int) [((0 : Nat), (69 : Nat), (70 : Nat), (8 : Nat))]) ∈ lw_all := lw_g (lw_at lw_m6 162 rfl) rfl
theorem q1441 : (Jvm.Cond.methodLink "LastHatch" (360 : Nat) ({ cls := "LastHatch", name := "isMinute", desc := "(I)Z" } : Jvm.MethodName)) ∈ lw_all := lw_g (lw_at lw_m6 163 rfl) rfl
theorem q1442 : (Jvm.Cond.static ({ cls := "LastHatch", name := "isMinute", desc := "(I)Z" } : Jvm.MethodName)) ∈ lw_all := lw_g (lw_at lw_m6 164 rfl) rfl
theorem q1443 : (Jvm.Cond.code ({ cls := "LastHatch", name := "isMinute", desc := "(I)Z" } : Jvm.MethodName) prog_1_method_9_code (1 : Nat) (Option.some Jvm.ClassFile.FieldType.boolean)) ∈ lw_all := lw_g (lw_at lw_m6 165 rfl) rfl
theorem q1444 : (Jvm.Cond.methodLink "LastHatch" (363 : Nat) ({ cls := "LastHatch$Laws", name := "isTide", desc := "(I)Z" } : Jvm.MethodName)) ∈ lw_all := lw_g (lw_at lw_m6 166 rfl) rfl
theorem q1446 : (Jvm.Cond.instanceMethod ({ cls := "LastHatch", name := "say", desc := "(I)I" } : Jvm.MethodName)) ∈ lw_all := lw_g (lw_at lw_m6 168 rfl) rfl
theorem q1447 : (Jvm.Cond.selects "LastHatch" ({ cls := "LastHatch", name := "say", desc := "(I)I" } : Jvm.MethodName) ({ cls := "LastHatch", name := "say", desc := "(I)I" } : Jvm.MethodName)) ∈ lw_all := lw_g (lw_at lw_m6 169 rfl) rfl
theorem q1448 : (Jvm.Cond.codeWith ({ cls := "LastHatch", name := "say", desc := "(I)I" } : Jvm.MethodName) prog_1_method_55_code (8 : Nat) (Option.some Jvm.ClassFile.FieldType.int) [((16 : Nat), (200 : Nat), (201 : Nat), (8 : Nat))]) ∈ lw_all := lw_g (lw_at lw_m6 170 rfl) rfl
theorem q1449 : (Jvm.Cond.methodLink "LastHatch" (369 : Nat) ({ cls := "LastHatch", name := "isSheet", desc := "(I)Z" } : Jvm.MethodName)) ∈ lw_all := lw_g (lw_at lw_m6 171 rfl) rfl
theorem q1450 : (Jvm.Cond.static ({ cls := "LastHatch", name := "isSheet", desc := "(I)Z" } : Jvm.MethodName)) ∈ lw_all := lw_g (lw_at lw_m6 172 rfl) rfl
theorem q1451 : (Jvm.Cond.code ({ cls := "LastHatch", name := "isSheet", desc := "(I)Z" } : Jvm.MethodName) prog_1_method_10_code (1 : Nat) (Option.some Jvm.ClassFile.FieldType.boolean)) ∈ lw_all := lw_g (lw_at lw_m6 173 rfl) rfl
theorem q1452 : (Jvm.Cond.methodLink "LastHatch" (372 : Nat) ({ cls := "LastHatch", name := "knocksOf", desc := "(I)I" } : Jvm.MethodName)) ∈ lw_all := lw_g (lw_at lw_m6 174 rfl) rfl
theorem q1453 : (Jvm.Cond.static ({ cls := "LastHatch", name := "knocksOf", desc := "(I)I" } : Jvm.MethodName)) ∈ lw_all := lw_g (lw_at lw_m6 175 rfl) rfl
theorem q1454 : (Jvm.Cond.code ({ cls := "LastHatch", name := "knocksOf", desc := "(I)I" } : Jvm.MethodName) prog_1_method_53_code (1 : Nat) (Option.some Jvm.ClassFile.FieldType.int)) ∈ lw_all := lw_g (lw_at lw_m6 176 rfl) rfl
theorem q1455 : (Jvm.Cond.classLink "LastHatch" (375 : Nat) "LastHatch$Bytes") ∈ lw_all := lw_g (lw_at lw_m6 177 rfl) rfl
theorem q1457 : (Jvm.Cond.methodLink "LastHatch" (377 : Nat) ({ cls := "LastHatch$Bytes", name := "<init>", desc := "(I)V" } : Jvm.MethodName)) ∈ lw_all := lw_g (lw_at lw_m6 179 rfl) rfl
theorem q1468 : (Jvm.Cond.methodLink "LastHatch" (379 : Nat) ({ cls := "LastHatch", name := "lays", desc := "(LLastHatch$Sheet;II)I" } : Jvm.MethodName)) ∈ lw_all := lw_g (lw_at lw_m6 190 rfl) rfl
theorem q1469 : (Jvm.Cond.static ({ cls := "LastHatch", name := "lays", desc := "(LLastHatch$Sheet;II)I" } : Jvm.MethodName)) ∈ lw_all := lw_g (lw_at lw_m6 191 rfl) rfl
theorem q1470 : (Jvm.Cond.code ({ cls := "LastHatch", name := "lays", desc := "(LLastHatch$Sheet;II)I" } : Jvm.MethodName) prog_1_method_54_code (4 : Nat) (Option.some Jvm.ClassFile.FieldType.int)) ∈ lw_all := lw_g (lw_at lw_m6 192 rfl) rfl
theorem q1471 : (Jvm.Cond.methodLink "LastHatch" (366 : Nat) ({ cls := "LastHatch$Sheet", name := "put", desc := "(II)V" } : Jvm.MethodName)) ∈ lw_all := lw_g (lw_at lw_m6 193 rfl) rfl
theorem q1484 : (Jvm.Cond.instanceMethod ({ cls := "LastHatch", name := "read", desc := "(II)I" } : Jvm.MethodName)) ∈ lw_all := lw_g (lw_at lw_m6 206 rfl) rfl
theorem q1485 : (Jvm.Cond.selects "LastHatch" ({ cls := "LastHatch", name := "read", desc := "(II)I" } : Jvm.MethodName) ({ cls := "LastHatch", name := "read", desc := "(II)I" } : Jvm.MethodName)) ∈ lw_all := lw_g (lw_at lw_m6 207 rfl) rfl
theorem q1486 : (Jvm.Cond.codeWith ({ cls := "LastHatch", name := "read", desc := "(II)I" } : Jvm.MethodName) prog_1_method_57_code (4 : Nat) (Option.some Jvm.ClassFile.FieldType.int) [((0 : Nat), (102 : Nat), (103 : Nat), (8 : Nat))]) ∈ lw_all := lw_g (lw_at lw_m6 208 rfl) rfl
theorem q1487 : (Jvm.Cond.methodLink "LastHatch" (390 : Nat) ({ cls := "LastHatch", name := "sheetAt", desc := "(I)LLastHatch$Sheet;" } : Jvm.MethodName)) ∈ lw_all := lw_g (lw_at lw_m6 209 rfl) rfl
theorem q1488 : (Jvm.Cond.privateMethod ({ cls := "LastHatch", name := "sheetAt", desc := "(I)LLastHatch$Sheet;" } : Jvm.MethodName)) ∈ lw_tbl := lw_at lw_m6 210 rfl
theorem q1489 : (Jvm.Cond.instanceMethod ({ cls := "LastHatch", name := "sheetAt", desc := "(I)LLastHatch$Sheet;" } : Jvm.MethodName)) ∈ lw_all := lw_g (lw_at lw_m6 211 rfl) rfl
theorem q1490 : (Jvm.Cond.code ({ cls := "LastHatch", name := "sheetAt", desc := "(I)LLastHatch$Sheet;" } : Jvm.MethodName) prog_1_method_13_code (2 : Nat) (Option.some (Jvm.ClassFile.FieldType.object "LastHatch$Sheet"))) ∈ lw_all := lw_g (lw_at lw_m6 212 rfl) rfl
theorem q1491 : (Jvm.Cond.classLink "LastHatch" (98 : Nat) "LastHatch$Sheet") ∈ lw_all := lw_g (lw_at lw_m6 213 rfl) rfl
theorem q1492 : (Jvm.Cond.methodLink "LastHatch" (394 : Nat) ({ cls := "LastHatch", name := "reads", desc := "(LLastHatch$Sheet;)V" } : Jvm.MethodName)) ∈ lw_all := lw_g (lw_at lw_m6 214 rfl) rfl
theorem q1493 : (Jvm.Cond.privateMethod ({ cls := "LastHatch", name := "reads", desc := "(LLastHatch$Sheet;)V" } : Jvm.MethodName)) ∈ lw_tbl := lw_at lw_m6 215 rfl
theorem q1494 : (Jvm.Cond.instanceMethod ({ cls := "LastHatch", name := "reads", desc := "(LLastHatch$Sheet;)V" } : Jvm.MethodName)) ∈ lw_all := lw_g (lw_at lw_m6 216 rfl) rfl
theorem q1495 : (Jvm.Cond.code ({ cls := "LastHatch", name := "reads", desc := "(LLastHatch$Sheet;)V" } : Jvm.MethodName) prog_1_method_56_code (8 : Nat) (Option.none : Option Jvm.ClassFile.FieldType)) ∈ lw_all := lw_g (lw_at lw_m6 217 rfl) rfl
theorem q1496 : (Jvm.Cond.methodLink "LastHatch" (388 : Nat) ({ cls := "LastHatch$Sheet", name := "size", desc := "()I" } : Jvm.MethodName)) ∈ lw_all := lw_g (lw_at lw_m6 218 rfl) rfl
theorem q1508 : (Jvm.Cond.methodLink "LastHatch" (389 : Nat) ({ cls := "LastHatch$Sheet", name := "get", desc := "(I)I" } : Jvm.MethodName)) ∈ lw_all := lw_g (lw_at lw_m6 230 rfl) rfl
theorem q1521 : (Jvm.Cond.instanceMethod ({ cls := "LastHatch", name := "plan", desc := "(IIII)I" } : Jvm.MethodName)) ∈ lw_all := lw_g (lw_at lw_m7 3 rfl) rfl
theorem q1522 : (Jvm.Cond.selects "LastHatch" ({ cls := "LastHatch", name := "plan", desc := "(IIII)I" } : Jvm.MethodName) ({ cls := "LastHatch", name := "plan", desc := "(IIII)I" } : Jvm.MethodName)) ∈ lw_all := lw_g (lw_at lw_m7 4 rfl) rfl
theorem q1523 : (Jvm.Cond.codeWith ({ cls := "LastHatch", name := "plan", desc := "(IIII)I" } : Jvm.MethodName) prog_1_method_58_code (6 : Nat) (Option.some Jvm.ClassFile.FieldType.int) [((0 : Nat), (148 : Nat), (149 : Nat), (8 : Nat))]) ∈ lw_all := lw_g (lw_at lw_m7 5 rfl) rfl
theorem q1525 : (Jvm.Cond.instanceMethod ({ cls := "LastHatch", name := "cross", desc := "(I)I" } : Jvm.MethodName)) ∈ lw_all := lw_g (lw_at lw_m7 7 rfl) rfl
theorem q1526 : (Jvm.Cond.selects "LastHatch" ({ cls := "LastHatch", name := "cross", desc := "(I)I" } : Jvm.MethodName) ({ cls := "LastHatch", name := "cross", desc := "(I)I" } : Jvm.MethodName)) ∈ lw_all := lw_g (lw_at lw_m7 8 rfl) rfl
theorem q1527 : (Jvm.Cond.codeWith ({ cls := "LastHatch", name := "cross", desc := "(I)I" } : Jvm.MethodName) prog_1_method_59_code (4 : Nat) (Option.some Jvm.ClassFile.FieldType.int) [((0 : Nat), (85 : Nat), (86 : Nat), (8 : Nat))]) ∈ lw_all := lw_g (lw_at lw_m7 9 rfl) rfl
theorem q1528 : (Jvm.Cond.methodLink "LastHatch" (404 : Nat) ({ cls := "LastHatch$Boat", name := "placesAt", desc := "(II)I" } : Jvm.MethodName)) ∈ lw_all := lw_g (lw_at lw_m7 10 rfl) rfl
theorem q1533 : (Jvm.Cond.methodLink "LastHatch" (407 : Nat) ({ cls := "java/lang/Integer", name := "numberOfTrailingZeros", desc := "(I)I" } : Jvm.MethodName)) ∈ lw_all := lw_g (lw_at lw_m7 15 rfl) rfl
theorem q1538 : (Jvm.Cond.instanceMethod ({ cls := "LastHatch", name := "hour", desc := "(II)I" } : Jvm.MethodName)) ∈ lw_all := lw_g (lw_at lw_m7 20 rfl) rfl
theorem q1539 : (Jvm.Cond.selects "LastHatch" ({ cls := "LastHatch", name := "hour", desc := "(II)I" } : Jvm.MethodName) ({ cls := "LastHatch", name := "hour", desc := "(II)I" } : Jvm.MethodName)) ∈ lw_all := lw_g (lw_at lw_m7 21 rfl) rfl
theorem q1540 : (Jvm.Cond.codeWith ({ cls := "LastHatch", name := "hour", desc := "(II)I" } : Jvm.MethodName) prog_1_method_60_code (4 : Nat) (Option.some Jvm.ClassFile.FieldType.int) [((0 : Nat), (51 : Nat), (52 : Nat), (8 : Nat))]) ∈ lw_all := lw_g (lw_at lw_m7 22 rfl) rfl
theorem q1542 : (Jvm.Cond.instanceMethod ({ cls := "LastHatch", name := "table", desc := "(III)J" } : Jvm.MethodName)) ∈ lw_all := lw_g (lw_at lw_m7 24 rfl) rfl
theorem q1543 : (Jvm.Cond.selects "LastHatch" ({ cls := "LastHatch", name := "table", desc := "(III)J" } : Jvm.MethodName) ({ cls := "LastHatch", name := "table", desc := "(III)J" } : Jvm.MethodName)) ∈ lw_all := lw_g (lw_at lw_m7 25 rfl) rfl
theorem q1544 : (Jvm.Cond.codeWith ({ cls := "LastHatch", name := "table", desc := "(III)J" } : Jvm.MethodName) prog_1_method_65_code (5 : Nat) (Option.some Jvm.ClassFile.FieldType.long) [((0 : Nat), (51 : Nat), (52 : Nat), (8 : Nat))]) ∈ lw_all := lw_g (lw_at lw_m7 26 rfl) rfl
theorem q1545 : (Jvm.Cond.methodLink "LastHatch" (420 : Nat) ({ cls := "LastHatch", name := "tableOf", desc := "(IIII)J" } : Jvm.MethodName)) ∈ lw_all := lw_g (lw_at lw_m7 27 rfl) rfl
theorem q1546 : (Jvm.Cond.privateMethod ({ cls := "LastHatch", name := "tableOf", desc := "(IIII)J" } : Jvm.MethodName)) ∈ lw_tbl := lw_at lw_m7 28 rfl
theorem q1547 : (Jvm.Cond.instanceMethod ({ cls := "LastHatch", name := "tableOf", desc := "(IIII)J" } : Jvm.MethodName)) ∈ lw_all := lw_g (lw_at lw_m7 29 rfl) rfl
theorem q1548 : (Jvm.Cond.code ({ cls := "LastHatch", name := "tableOf", desc := "(IIII)J" } : Jvm.MethodName) prog_1_method_64_code (5 : Nat) (Option.some Jvm.ClassFile.FieldType.long)) ∈ lw_all := lw_g (lw_at lw_m7 30 rfl) rfl
theorem q1549 : (Jvm.Cond.methodLink "LastHatch" (423 : Nat) ({ cls := "LastHatch", name := "going", desc := "(II)J" } : Jvm.MethodName)) ∈ lw_all := lw_g (lw_at lw_m7 31 rfl) rfl
theorem q1550 : (Jvm.Cond.privateMethod ({ cls := "LastHatch", name := "going", desc := "(II)J" } : Jvm.MethodName)) ∈ lw_tbl := lw_at lw_m7 32 rfl
theorem q1551 : (Jvm.Cond.instanceMethod ({ cls := "LastHatch", name := "going", desc := "(II)J" } : Jvm.MethodName)) ∈ lw_all := lw_g (lw_at lw_m7 33 rfl) rfl
theorem q1552 : (Jvm.Cond.code ({ cls := "LastHatch", name := "going", desc := "(II)J" } : Jvm.MethodName) prog_1_method_62_code (3 : Nat) (Option.some Jvm.ClassFile.FieldType.long)) ∈ lw_all := lw_g (lw_at lw_m7 34 rfl) rfl
theorem q1553 : (Jvm.Cond.methodLink "LastHatch" (413 : Nat) ({ cls := "LastHatch$Laws", name := "odd", desc := "(II)I" } : Jvm.MethodName)) ∈ lw_all := lw_g (lw_at lw_m7 35 rfl) rfl
theorem q1554 : (Jvm.Cond.methodLink "LastHatch" (416 : Nat) ({ cls := "LastHatch", name := "power", desc := "(II)J" } : Jvm.MethodName)) ∈ lw_all := lw_g (lw_at lw_m7 36 rfl) rfl
theorem q1555 : (Jvm.Cond.static ({ cls := "LastHatch", name := "power", desc := "(II)J" } : Jvm.MethodName)) ∈ lw_all := lw_g (lw_at lw_m7 37 rfl) rfl
theorem q1556 : (Jvm.Cond.code ({ cls := "LastHatch", name := "power", desc := "(II)J" } : Jvm.MethodName) prog_1_method_61_code (5 : Nat) (Option.some Jvm.ClassFile.FieldType.long)) ∈ lw_all := lw_g (lw_at lw_m7 38 rfl) rfl
theorem q1557 : (Jvm.Cond.methodLink "LastHatch" (426 : Nat) ({ cls := "LastHatch", name := "staying", desc := "(IIII)J" } : Jvm.MethodName)) ∈ lw_all := lw_g (lw_at lw_m7 39 rfl) rfl
theorem q1558 : (Jvm.Cond.privateMethod ({ cls := "LastHatch", name := "staying", desc := "(IIII)J" } : Jvm.MethodName)) ∈ lw_tbl := lw_at lw_m7 40 rfl
theorem q1559 : (Jvm.Cond.instanceMethod ({ cls := "LastHatch", name := "staying", desc := "(IIII)J" } : Jvm.MethodName)) ∈ lw_all := lw_g (lw_at lw_m7 41 rfl) rfl
theorem q1560 : (Jvm.Cond.code ({ cls := "LastHatch", name := "staying", desc := "(IIII)J" } : Jvm.MethodName) prog_1_method_63_code (5 : Nat) (Option.some Jvm.ClassFile.FieldType.long)) ∈ lw_all := lw_g (lw_at lw_m7 42 rfl) rfl
theorem q1561 : (Jvm.Cond.methodLink "LastHatch" (429 : Nat) ({ cls := "java/lang/Math", name := "max", desc := "(JJ)J" } : Jvm.MethodName)) ∈ lw_all := lw_g (lw_at lw_m7 43 rfl) rfl
theorem q1565 : (Jvm.Cond.instanceMethod ({ cls := "LastHatch", name := "decide", desc := "(III)I" } : Jvm.MethodName)) ∈ lw_all := lw_g (lw_at lw_m7 47 rfl) rfl
theorem q1566 : (Jvm.Cond.selects "LastHatch" ({ cls := "LastHatch", name := "decide", desc := "(III)I" } : Jvm.MethodName) ({ cls := "LastHatch", name := "decide", desc := "(III)I" } : Jvm.MethodName)) ∈ lw_all := lw_g (lw_at lw_m7 48 rfl) rfl
theorem q1567 : (Jvm.Cond.codeWith ({ cls := "LastHatch", name := "decide", desc := "(III)I" } : Jvm.MethodName) prog_1_method_66_code (5 : Nat) (Option.some Jvm.ClassFile.FieldType.int) [((0 : Nat), (69 : Nat), (70 : Nat), (8 : Nat))]) ∈ lw_all := lw_g (lw_at lw_m7 49 rfl) rfl
theorem q1569 : (Jvm.Cond.instanceMethod ({ cls := "LastHatch", name := "cause", desc := "(II)I" } : Jvm.MethodName)) ∈ lw_all := lw_g (lw_at lw_m7 51 rfl) rfl
theorem q1570 : (Jvm.Cond.selects "LastHatch" ({ cls := "LastHatch", name := "cause", desc := "(II)I" } : Jvm.MethodName) ({ cls := "LastHatch", name := "cause", desc := "(II)I" } : Jvm.MethodName)) ∈ lw_all := lw_g (lw_at lw_m7 52 rfl) rfl
theorem q1571 : (Jvm.Cond.codeWith ({ cls := "LastHatch", name := "cause", desc := "(II)I" } : Jvm.MethodName) prog_1_method_67_code (4 : Nat) (Option.some Jvm.ClassFile.FieldType.int) [((0 : Nat), (114 : Nat), (115 : Nat), (8 : Nat))]) ∈ lw_all := lw_g (lw_at lw_m7 53 rfl) rfl
theorem q1573 : (Jvm.Cond.instanceMethod ({ cls := "LastHatch", name := "found", desc := "(II)I" } : Jvm.MethodName)) ∈ lw_all := lw_g (lw_at lw_m7 55 rfl) rfl
theorem q1574 : (Jvm.Cond.selects "LastHatch" ({ cls := "LastHatch", name := "found", desc := "(II)I" } : Jvm.MethodName) ({ cls := "LastHatch", name := "found", desc := "(II)I" } : Jvm.MethodName)) ∈ lw_all := lw_g (lw_at lw_m7 56 rfl) rfl
theorem q1575 : (Jvm.Cond.codeWith ({ cls := "LastHatch", name := "found", desc := "(II)I" } : Jvm.MethodName) prog_1_method_68_code (4 : Nat) (Option.some Jvm.ClassFile.FieldType.int) [((0 : Nat), (149 : Nat), (150 : Nat), (8 : Nat))]) ∈ lw_all := lw_g (lw_at lw_m7 57 rfl) rfl
theorem q1576 : (Jvm.Cond.methodLink "LastHatch" (446 : Nat) ({ cls := "LastHatch", name := "has", desc := "(II)Z" } : Jvm.MethodName)) ∈ lw_all := lw_g (lw_at lw_m7 58 rfl) rfl
theorem q1578 : (Jvm.Cond.instanceMethod ({ cls := "LastHatch", name := "why", desc := "()I" } : Jvm.MethodName)) ∈ lw_all := lw_g (lw_at lw_m7 60 rfl) rfl
theorem q1579 : (Jvm.Cond.selects "LastHatch" ({ cls := "LastHatch", name := "why", desc := "()I" } : Jvm.MethodName) ({ cls := "LastHatch", name := "why", desc := "()I" } : Jvm.MethodName)) ∈ lw_all := lw_g (lw_at lw_m7 61 rfl) rfl
theorem q1580 : (Jvm.Cond.code ({ cls := "LastHatch", name := "why", desc := "()I" } : Jvm.MethodName) prog_1_method_69_code (1 : Nat) (Option.some Jvm.ClassFile.FieldType.int)) ∈ lw_all := lw_g (lw_at lw_m7 62 rfl) rfl
theorem q1581 : (Jvm.Cond.methodLink "LastHatch" (452 : Nat) ({ cls := "LastHatch$Boat", name := "mayBe", desc := "(II)I" } : Jvm.MethodName)) ∈ lw_all := lw_g (lw_at lw_m7 63 rfl) rfl
theorem q1586 : (Jvm.Cond.instanceMethod ({ cls := "LastHatch", name := "look", desc := "()I" } : Jvm.MethodName)) ∈ lw_all := lw_g (lw_at lw_m7 68 rfl) rfl
theorem q1587 : (Jvm.Cond.selects "LastHatch" ({ cls := "LastHatch", name := "look", desc := "()I" } : Jvm.MethodName) ({ cls := "LastHatch", name := "look", desc := "()I" } : Jvm.MethodName)) ∈ lw_all := lw_g (lw_at lw_m7 69 rfl) rfl
theorem q1588 : (Jvm.Cond.codeWith ({ cls := "LastHatch", name := "look", desc := "()I" } : Jvm.MethodName) prog_1_method_71_code (4 : Nat) (Option.some Jvm.ClassFile.FieldType.int) [((0 : Nat), (95 : Nat), (96 : Nat), (8 : Nat))]) ∈ lw_all := lw_g (lw_at lw_m7 70 rfl) rfl
theorem q1589 : (Jvm.Cond.methodLink "LastHatch" (457 : Nat) ({ cls := "LastHatch", name := "why", desc := "()I" } : Jvm.MethodName)) ∈ lw_all := lw_g (lw_at lw_m7 71 rfl) rfl
theorem q1590 : (Jvm.Cond.methodLink "LastHatch" (460 : Nat) ({ cls := "LastHatch", name := "leftBy", desc := "(I)I" } : Jvm.MethodName)) ∈ lw_all := lw_g (lw_at lw_m7 72 rfl) rfl
theorem q1591 : (Jvm.Cond.privateMethod ({ cls := "LastHatch", name := "leftBy", desc := "(I)I" } : Jvm.MethodName)) ∈ lw_tbl := lw_at lw_m7 73 rfl
theorem q1592 : (Jvm.Cond.instanceMethod ({ cls := "LastHatch", name := "leftBy", desc := "(I)I" } : Jvm.MethodName)) ∈ lw_all := lw_g (lw_at lw_m7 74 rfl) rfl
theorem q1593 : (Jvm.Cond.code ({ cls := "LastHatch", name := "leftBy", desc := "(I)I" } : Jvm.MethodName) prog_1_method_70_code (3 : Nat) (Option.some Jvm.ClassFile.FieldType.int)) ∈ lw_all := lw_g (lw_at lw_m7 75 rfl) rfl
theorem q1594 : (Jvm.Cond.methodLink "LastHatch" (455 : Nat) ({ cls := "java/lang/Math", name := "max", desc := "(II)I" } : Jvm.MethodName)) ∈ lw_all := lw_g (lw_at lw_m7 76 rfl) rfl
theorem q1596 : (Jvm.Cond.instanceMethod ({ cls := "LastHatch", name := "seed", desc := "(I)I" } : Jvm.MethodName)) ∈ lw_all := lw_g (lw_at lw_m7 78 rfl) rfl
theorem q1597 : (Jvm.Cond.selects "LastHatch" ({ cls := "LastHatch", name := "seed", desc := "(I)I" } : Jvm.MethodName) ({ cls := "LastHatch", name := "seed", desc := "(I)I" } : Jvm.MethodName)) ∈ lw_all := lw_g (lw_at lw_m7 79 rfl) rfl
theorem q1598 : (Jvm.Cond.code ({ cls := "LastHatch", name := "seed", desc := "(I)I" } : Jvm.MethodName) prog_1_method_72_code (3 : Nat) (Option.some Jvm.ClassFile.FieldType.int)) ∈ lw_all := lw_g (lw_at lw_m7 80 rfl) rfl
theorem q1600 : (Jvm.Cond.instanceMethod ({ cls := "LastHatch", name := "made", desc := "(I)I" } : Jvm.MethodName)) ∈ lw_all := lw_g (lw_at lw_m7 82 rfl) rfl
theorem q1601 : (Jvm.Cond.selects "LastHatch" ({ cls := "LastHatch", name := "made", desc := "(I)I" } : Jvm.MethodName) ({ cls := "LastHatch", name := "made", desc := "(I)I" } : Jvm.MethodName)) ∈ lw_all := lw_g (lw_at lw_m7 83 rfl) rfl
theorem q1602 : (Jvm.Cond.codeWith ({ cls := "LastHatch", name := "made", desc := "(I)I" } : Jvm.MethodName) prog_1_method_73_code (5 : Nat) (Option.some Jvm.ClassFile.FieldType.int) [((0 : Nat), (124 : Nat), (125 : Nat), (8 : Nat))]) ∈ lw_all := lw_g (lw_at lw_m7 84 rfl) rfl
theorem q1603 : (Jvm.Cond.methodLink "LastHatch" (466 : Nat) ({ cls := "LastHatch$Boat", name := "draw", desc := "()I" } : Jvm.MethodName)) ∈ lw_all := lw_g (lw_at lw_m7 85 rfl) rfl
theorem q1609 : (Jvm.Cond.instanceMethod ({ cls := "LastHatch", name := "voice", desc := "(III)I" } : Jvm.MethodName)) ∈ lw_all := lw_g (lw_at lw_m7 91 rfl) rfl
theorem q1610 : (Jvm.Cond.selects "LastHatch" ({ cls := "LastHatch", name := "voice", desc := "(III)I" } : Jvm.MethodName) ({ cls := "LastHatch", name := "voice", desc := "(III)I" } : Jvm.MethodName)) ∈ lw_all := lw_g (lw_at lw_m7 92 rfl) rfl
theorem q1611 : (Jvm.Cond.codeWith ({ cls := "LastHatch", name := "voice", desc := "(III)I" } : Jvm.MethodName) prog_1_method_74_code (5 : Nat) (Option.some Jvm.ClassFile.FieldType.int) [((0 : Nat), (60 : Nat), (88 : Nat), (8 : Nat)), ((61 : Nat), (69 : Nat), (88 : Nat), (8 : Nat)), ((70 : Nat), (78 : Nat), (88 : Nat), (8 : Nat)), ((79 : Nat), (87 : Nat), (88 : Nat), (8 : Nat))]) ∈ lw_all := lw_g (lw_at lw_m7 93 rfl) rfl
theorem q1612 : (Jvm.Cond.interfaceEntry "LastHatch" (470 : Nat)) ∈ lw_tbl := lw_at lw_m7 94 rfl
theorem q1613 : (Jvm.Cond.methodLink "LastHatch" (470 : Nat) ({ cls := "LastHatch$Needs", name := "needs", desc := "(I)I" } : Jvm.MethodName)) ∈ lw_all := lw_g (lw_at lw_m7 95 rfl) rfl
theorem q1659 : (Jvm.Cond.interfaceEntry "LastHatch" (475 : Nat)) ∈ lw_tbl := lw_at lw_m7 141 rfl
theorem q1660 : (Jvm.Cond.methodLink "LastHatch" (475 : Nat) ({ cls := "LastHatch$Takes", name := "takes", desc := "(I)I" } : Jvm.MethodName)) ∈ lw_all := lw_g (lw_at lw_m7 142 rfl) rfl
theorem q1708 : (Jvm.Cond.interfaceEntry "LastHatch" (480 : Nat)) ∈ lw_tbl := lw_at lw_m7 190 rfl
theorem q1709 : (Jvm.Cond.methodLink "LastHatch" (480 : Nat) ({ cls := "LastHatch$Risks", name := "risks", desc := "(I)I" } : Jvm.MethodName)) ∈ lw_all := lw_g (lw_at lw_m7 191 rfl) rfl
theorem q1755 : (Jvm.Cond.interfaceEntry "LastHatch" (485 : Nat)) ∈ lw_tbl := lw_at lw_m7 237 rfl
theorem q1756 : (Jvm.Cond.methodLink "LastHatch" (485 : Nat) ({ cls := "LastHatch$Tells", name := "tells", desc := "(I)I" } : Jvm.MethodName)) ∈ lw_all := lw_g (lw_at lw_m7 238 rfl) rfl
theorem q1808 : (Jvm.Cond.instanceMethod ({ cls := "LastHatch", name := "trace", desc := "(I)I" } : Jvm.MethodName)) ∈ lw_all := lw_g (lw_at lw_m8 50 rfl) rfl
theorem q1809 : (Jvm.Cond.selects "LastHatch" ({ cls := "LastHatch", name := "trace", desc := "(I)I" } : Jvm.MethodName) ({ cls := "LastHatch", name := "trace", desc := "(I)I" } : Jvm.MethodName)) ∈ lw_all := lw_g (lw_at lw_m8 51 rfl) rfl
theorem q1810 : (Jvm.Cond.codeWith ({ cls := "LastHatch", name := "trace", desc := "(I)I" } : Jvm.MethodName) prog_1_method_75_code (3 : Nat) (Option.some Jvm.ClassFile.FieldType.int) [((0 : Nat), (28 : Nat), (29 : Nat), (8 : Nat))]) ∈ lw_all := lw_g (lw_at lw_m8 52 rfl) rfl
theorem q1812 : (Jvm.Cond.instanceMethod ({ cls := "LastHatch", name := "sheet", desc := "(III)I" } : Jvm.MethodName)) ∈ lw_all := lw_g (lw_at lw_m8 54 rfl) rfl
theorem q1813 : (Jvm.Cond.selects "LastHatch" ({ cls := "LastHatch", name := "sheet", desc := "(III)I" } : Jvm.MethodName) ({ cls := "LastHatch", name := "sheet", desc := "(III)I" } : Jvm.MethodName)) ∈ lw_all := lw_g (lw_at lw_m8 55 rfl) rfl
theorem q1814 : (Jvm.Cond.codeWith ({ cls := "LastHatch", name := "sheet", desc := "(III)I" } : Jvm.MethodName) prog_1_method_76_code (5 : Nat) (Option.some Jvm.ClassFile.FieldType.int) [((0 : Nat), (43 : Nat), (127 : Nat), (8 : Nat)), ((44 : Nat), (126 : Nat), (127 : Nat), (8 : Nat))]) ∈ lw_all := lw_g (lw_at lw_m8 56 rfl) rfl
theorem q1815 : (Jvm.Cond.methodLink "LastHatch" (493 : Nat) ({ cls := "LastHatch", name := "isWidth", desc := "(I)Z" } : Jvm.MethodName)) ∈ lw_all := lw_g (lw_at lw_m8 57 rfl) rfl
theorem q1816 : (Jvm.Cond.static ({ cls := "LastHatch", name := "isWidth", desc := "(I)Z" } : Jvm.MethodName)) ∈ lw_all := lw_g (lw_at lw_m8 58 rfl) rfl
theorem q1817 : (Jvm.Cond.code ({ cls := "LastHatch", name := "isWidth", desc := "(I)Z" } : Jvm.MethodName) prog_1_method_11_code (1 : Nat) (Option.some Jvm.ClassFile.FieldType.boolean)) ∈ lw_all := lw_g (lw_at lw_m8 59 rfl) rfl
theorem q1818 : (Jvm.Cond.classLink "LastHatch" (496 : Nat) "LastHatch$Shorts") ∈ lw_all := lw_g (lw_at lw_m8 60 rfl) rfl
theorem q1820 : (Jvm.Cond.methodLink "LastHatch" (498 : Nat) ({ cls := "LastHatch$Shorts", name := "<init>", desc := "(I)V" } : Jvm.MethodName)) ∈ lw_all := lw_g (lw_at lw_m8 62 rfl) rfl
theorem q1829 : (Jvm.Cond.classLink "LastHatch" (499 : Nat) "LastHatch$Ints") ∈ lw_all := lw_g (lw_at lw_m8 71 rfl) rfl
theorem q1831 : (Jvm.Cond.methodLink "LastHatch" (501 : Nat) ({ cls := "LastHatch$Ints", name := "<init>", desc := "(I)V" } : Jvm.MethodName)) ∈ lw_all := lw_g (lw_at lw_m8 73 rfl) rfl
theorem q1840 : (Jvm.Cond.instanceMethod ({ cls := "LastHatch", name := "put", desc := "(III)I" } : Jvm.MethodName)) ∈ lw_all := lw_g (lw_at lw_m8 82 rfl) rfl
theorem q1841 : (Jvm.Cond.selects "LastHatch" ({ cls := "LastHatch", name := "put", desc := "(III)I" } : Jvm.MethodName) ({ cls := "LastHatch", name := "put", desc := "(III)I" } : Jvm.MethodName)) ∈ lw_all := lw_g (lw_at lw_m8 83 rfl) rfl
theorem q1842 : (Jvm.Cond.codeWith ({ cls := "LastHatch", name := "put", desc := "(III)I" } : Jvm.MethodName) prog_1_method_77_code (5 : Nat) (Option.some Jvm.ClassFile.FieldType.int) [((0 : Nat), (41 : Nat), (42 : Nat), (8 : Nat))]) ∈ lw_all := lw_g (lw_at lw_m8 84 rfl) rfl
theorem q1844 : (Jvm.Cond.instanceMethod ({ cls := "LastHatch", name := "move", desc := "(IIIII)I" } : Jvm.MethodName)) ∈ lw_all := lw_g (lw_at lw_m8 86 rfl) rfl
theorem q1845 : (Jvm.Cond.selects "LastHatch" ({ cls := "LastHatch", name := "move", desc := "(IIIII)I" } : Jvm.MethodName) ({ cls := "LastHatch", name := "move", desc := "(IIIII)I" } : Jvm.MethodName)) ∈ lw_all := lw_g (lw_at lw_m8 87 rfl) rfl
theorem q1846 : (Jvm.Cond.codeWith ({ cls := "LastHatch", name := "move", desc := "(IIIII)I" } : Jvm.MethodName) prog_1_method_78_code (10 : Nat) (Option.some Jvm.ClassFile.FieldType.int) [((0 : Nat), (152 : Nat), (153 : Nat), (8 : Nat))]) ∈ lw_all := lw_g (lw_at lw_m8 88 rfl) rfl
theorem q1847 : (Jvm.Cond.methodLink "LastHatch" (502 : Nat) ({ cls := "LastHatch$Sheet", name := "width", desc := "()I" } : Jvm.MethodName)) ∈ lw_all := lw_g (lw_at lw_m8 89 rfl) rfl
theorem q1859 : (Jvm.Cond.methodLink "LastHatch" (504 : Nat) ({ cls := "LastHatch$Sheet", name := "row", desc := "()[I" } : Jvm.MethodName)) ∈ lw_all := lw_g (lw_at lw_m8 101 rfl) rfl
theorem q1869 : (Jvm.Cond.instanceMethod ({ cls := "LastHatch", name := "image", desc := "()I" } : Jvm.MethodName)) ∈ lw_all := lw_g (lw_at lw_m8 111 rfl) rfl
theorem q1870 : (Jvm.Cond.selects "LastHatch" ({ cls := "LastHatch", name := "image", desc := "()I" } : Jvm.MethodName) ({ cls := "LastHatch", name := "image", desc := "()I" } : Jvm.MethodName)) ∈ lw_all := lw_g (lw_at lw_m8 112 rfl) rfl
theorem q1871 : (Jvm.Cond.code ({ cls := "LastHatch", name := "image", desc := "()I" } : Jvm.MethodName) prog_1_method_79_code (1 : Nat) (Option.some Jvm.ClassFile.FieldType.int)) ∈ lw_all := lw_g (lw_at lw_m8 113 rfl) rfl
theorem q1872 : (Jvm.Cond.methodLink "LastHatch" (508 : Nat) ({ cls := "LastHatch$Boat", name := "copy", desc := "()LLastHatch$Boat;" } : Jvm.MethodName)) ∈ lw_all := lw_g (lw_at lw_m8 114 rfl) rfl
theorem q1902 : (Jvm.Cond.instanceMethod ({ cls := "LastHatch", name := "restore", desc := "()I" } : Jvm.MethodName)) ∈ lw_all := lw_g (lw_at lw_m8 144 rfl) rfl
theorem q1903 : (Jvm.Cond.selects "LastHatch" ({ cls := "LastHatch", name := "restore", desc := "()I" } : Jvm.MethodName) ({ cls := "LastHatch", name := "restore", desc := "()I" } : Jvm.MethodName)) ∈ lw_all := lw_g (lw_at lw_m8 145 rfl) rfl
theorem q1904 : (Jvm.Cond.codeWith ({ cls := "LastHatch", name := "restore", desc := "()I" } : Jvm.MethodName) prog_1_method_80_code (2 : Nat) (Option.some Jvm.ClassFile.FieldType.int) [((0 : Nat), (38 : Nat), (39 : Nat), (8 : Nat))]) ∈ lw_all := lw_g (lw_at lw_m8 146 rfl) rfl
theorem q1906 : (Jvm.Cond.instanceMethod ({ cls := "LastHatch", name := "tell", desc := "(I)I" } : Jvm.MethodName)) ∈ lw_all := lw_g (lw_at lw_m8 148 rfl) rfl
theorem q1907 : (Jvm.Cond.selects "LastHatch" ({ cls := "LastHatch", name := "tell", desc := "(I)I" } : Jvm.MethodName) ({ cls := "LastHatch", name := "tell", desc := "(I)I" } : Jvm.MethodName)) ∈ lw_all := lw_g (lw_at lw_m8 149 rfl) rfl
theorem q1908 : (Jvm.Cond.codeWith ({ cls := "LastHatch", name := "tell", desc := "(I)I" } : Jvm.MethodName) prog_1_method_81_code (3 : Nat) (Option.some Jvm.ClassFile.FieldType.int) [((0 : Nat), (58 : Nat), (59 : Nat), (8 : Nat))]) ∈ lw_all := lw_g (lw_at lw_m8 150 rfl) rfl
theorem q1910 : (Jvm.Cond.instanceMethod ({ cls := "LastHatch", name := "count", desc := "(I)I" } : Jvm.MethodName)) ∈ lw_all := lw_g (lw_at lw_m8 152 rfl) rfl
theorem q1911 : (Jvm.Cond.selects "LastHatch" ({ cls := "LastHatch", name := "count", desc := "(I)I" } : Jvm.MethodName) ({ cls := "LastHatch", name := "count", desc := "(I)I" } : Jvm.MethodName)) ∈ lw_all := lw_g (lw_at lw_m8 153 rfl) rfl
theorem q1912 : (Jvm.Cond.codeWith ({ cls := "LastHatch", name := "count", desc := "(I)I" } : Jvm.MethodName) prog_1_method_82_code (3 : Nat) (Option.some Jvm.ClassFile.FieldType.int) [((0 : Nat), (74 : Nat), (162 : Nat), (8 : Nat)), ((75 : Nat), (88 : Nat), (162 : Nat), (8 : Nat)), ((89 : Nat), (99 : Nat), (162 : Nat), (8 : Nat)), ((100 : Nat), (110 : Nat), (162 : Nat), (8 : Nat)), ((111 : Nat), (121 : Nat), (162 : Nat), (8 : Nat)), ((122 : Nat), (129 : Nat), (162 : Nat), (8 : Nat)), ((130 : Nat), (137 : Nat), (162 : Nat), (8 : Nat)), ((138 : Nat), (145 : Nat), (162 : Nat), (8 : Nat)), ((146 : Nat), (153 : Nat), (162 : Nat), (8 : Nat)), ((154 : Nat), (161 : Nat), (162 : Nat), (8 : Nat))]) ∈ lw_all := lw_g (lw_at lw_m8 154 rfl) rfl
theorem q1914 : (Jvm.Cond.instanceMethod ({ cls := "LastHatch", name := "told", desc := "(I)I" } : Jvm.MethodName)) ∈ lw_all := lw_g (lw_at lw_m8 156 rfl) rfl
theorem q1915 : (Jvm.Cond.selects "LastHatch" ({ cls := "LastHatch", name := "told", desc := "(I)I" } : Jvm.MethodName) ({ cls := "LastHatch", name := "told", desc := "(I)I" } : Jvm.MethodName)) ∈ lw_all := lw_g (lw_at lw_m8 157 rfl) rfl
theorem q1916 : (Jvm.Cond.codeWith ({ cls := "LastHatch", name := "told", desc := "(I)I" } : Jvm.MethodName) prog_1_method_83_code (3 : Nat) (Option.some Jvm.ClassFile.FieldType.int) [((0 : Nat), (17 : Nat), (18 : Nat), (8 : Nat))]) ∈ lw_all := lw_g (lw_at lw_m8 158 rfl) rfl
theorem q2533 : (Jvm.Cond.castable "LastHatch" "java/lang/Object") ∈ lw_tbl := lw_at lw_m11 55 rfl
theorem in_X0 : ∀ w ∈ wsX00, w ∈ lw_all := lw_in wsX00 [484, 486, 488, 490, 492, 494, 496, 498, 500, 502, 504] (by decide +kernel) (by decide +kernel)
