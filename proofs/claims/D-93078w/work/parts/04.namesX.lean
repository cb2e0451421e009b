/-! LastHatch$Finding -/
set_option maxRecDepth 100000
def RX1 : String := "LastHatch$Finding"
def TX1 : u_T := fun k => match k with
  | 0 => ("java/lang/Throwable", "cause", "Ljava/lang/Throwable;", false)
  | 1 => ("java/lang/Throwable", "stackTrace", "[Ljava/lang/StackTraceElement;", false)
  | 2 => ("java/lang/Throwable", "suppressedExceptions", "Ljava/util/List;", false)
  | 3 => ("java/lang/Throwable", "detailMessage", "Ljava/lang/String;", false)
  | 4 => ("java/lang/Throwable", "backtrace", "Ljava/lang/Object;", false)
  | 5 => ("java/lang/Throwable", "depth", "I", false)
  | _ => ("LastHatch$Finding", "code", "I", false)
def tyX1 : Nat → FieldType := fun k => match k with
  | 0 => .object "java/lang/Throwable"
  | 1 => .array (.object "java/lang/StackTraceElement")
  | 2 => .object "java/util/List"
  | 3 => .object "java/lang/String"
  | 4 => .object "java/lang/Object"
  | 5 => .int
  | _ => .int
abbrev wsX10 : List Cond := u_ws RX1 TX1 7
theorem nmX1 : ∀ a, a < 7 → ∀ b, b < 7 → a ≠ b → (TX1 a).2.1 ≠ (TX1 b).2.1 := by decide +kernel
theorem tyX1_ok : ∀ k, k < 7 → parseFieldDescriptor (TX1 k).2.2.1 = some (tyX1 k) := by decide +kernel
abbrev cX1_init : ByteArray := prog_9_method_1_code
def yX1_init : MethodName := ⟨RX1, "<init>", "()V"⟩
def dkwX1_init_0 : List UInt8 := [42, 1, 1, 3, 3, 183, 0, 1, 177]
abbrev dktX1_init_0 : List UInt8 := dkwX1_init_0 ++ []
theorem dksX1_init_0 : cX1_init.data.toList.drop 0 = dktX1_init_0 := by decide +kernel
theorem dX1_init_0 : decode cX1_init 0 = .ok (.aload_n 0, 1) := dk_42 (dk_at dksX1_init_0 0 rfl rfl)
theorem dX1_init_1 : decode cX1_init 1 = .ok (.aconst_null, 1) := dk_1 (dk_at dksX1_init_0 1 rfl rfl)
theorem dX1_init_2 : decode cX1_init 2 = .ok (.aconst_null, 1) := dk_1 (dk_at dksX1_init_0 2 rfl rfl)
theorem dX1_init_3 : decode cX1_init 3 = .ok (.iconst 0, 1) := dk_3 (dk_at dksX1_init_0 3 rfl rfl)
theorem dX1_init_4 : decode cX1_init 4 = .ok (.iconst 0, 1) := dk_3 (dk_at dksX1_init_0 4 rfl rfl)
theorem dX1_init_5 : decode cX1_init 5 = .ok (.invokespecial 1, 3) := dk_183 0 1 (dk_at dksX1_init_0 5 rfl rfl)
theorem dX1_init_8 : decode cX1_init 8 = .ok (.return_, 1) := dk_177 (dk_at dksX1_init_0 8 rfl rfl)
abbrev cX1_of : ByteArray := prog_9_method_2_code
def yX1_of : MethodName := ⟨RX1, "of", "(I)LLastHatch$Finding;"⟩
def dkwX1_of_0 : List UInt8 := [42, 27, 181, 0, 7, 42, 176]
abbrev dktX1_of_0 : List UInt8 := dkwX1_of_0 ++ []
theorem dksX1_of_0 : cX1_of.data.toList.drop 0 = dktX1_of_0 := by decide +kernel
theorem dX1_of_0 : decode cX1_of 0 = .ok (.aload_n 0, 1) := dk_42 (dk_at dksX1_of_0 0 rfl rfl)
theorem dX1_of_1 : decode cX1_of 1 = .ok (.iload_n 1, 1) := dk_27 (dk_at dksX1_of_0 1 rfl rfl)
theorem dX1_of_2 : decode cX1_of 2 = .ok (.putfield 7, 3) := dk_181 0 7 (dk_at dksX1_of_0 2 rfl rfl)
theorem dX1_of_5 : decode cX1_of 5 = .ok (.aload_n 0, 1) := dk_42 (dk_at dksX1_of_0 5 rfl rfl)
theorem dX1_of_6 : decode cX1_of 6 = .ok (.areturn, 1) := dk_176 (dk_at dksX1_of_0 6 rfl rfl)
theorem q83 : (Jvm.Cond.initialized "LastHatch$Finding") ∈ lw_all := lw_g (lw_at lw_m1 5 rfl) rfl
theorem q136 : (Jvm.Cond.instantiable "LastHatch$Finding" (7 : Nat)) ∈ lw_all := lw_g (lw_at lw_m1 58 rfl) rfl
theorem q137 : (Jvm.Cond.castable "LastHatch$Finding" "LastHatch$Finding") ∈ lw_tbl := lw_at lw_m1 59 rfl
theorem q144 : (Jvm.Cond.selects "LastHatch$Finding" ({ cls := "java/lang/Throwable", name := "fillInStackTrace", desc := "(I)Ljava/lang/Throwable;" } : Jvm.MethodName) ({ cls := "java/lang/Throwable", name := "fillInStackTrace", desc := "(I)Ljava/lang/Throwable;" } : Jvm.MethodName)) ∈ lw_all := lw_g (lw_at lw_m1 66 rfl) rfl
theorem q145 : (Jvm.Cond.selects "LastHatch$Finding" ({ cls := "java/lang/Throwable", name := "fillInStackTrace", desc := "()Ljava/lang/Throwable;" } : Jvm.MethodName) ({ cls := "java/lang/Throwable", name := "fillInStackTrace", desc := "()Ljava/lang/Throwable;" } : Jvm.MethodName)) ∈ lw_all := lw_g (lw_at lw_m1 67 rfl) rfl
theorem q146 : (Jvm.Cond.lays "LastHatch$Finding" "java/lang/Throwable" "cause" "Ljava/lang/Throwable;") ∈ lw_all := lw_g (lw_at lw_m1 68 rfl) rfl
theorem q148 : (Jvm.Cond.lays "LastHatch$Finding" "java/lang/Throwable" "stackTrace" "[Ljava/lang/StackTraceElement;") ∈ lw_all := lw_g (lw_at lw_m1 70 rfl) rfl
theorem q150 : (Jvm.Cond.lays "LastHatch$Finding" "java/lang/Throwable" "suppressedExceptions" "Ljava/util/List;") ∈ lw_all := lw_g (lw_at lw_m1 72 rfl) rfl
theorem q152 : (Jvm.Cond.lays "LastHatch$Finding" "java/lang/Throwable" "detailMessage" "Ljava/lang/String;") ∈ lw_all := lw_g (lw_at lw_m1 74 rfl) rfl
theorem q154 : (Jvm.Cond.lays "LastHatch$Finding" "java/lang/Throwable" "backtrace" "Ljava/lang/Object;") ∈ lw_all := lw_g (lw_at lw_m1 76 rfl) rfl
theorem q176 : (Jvm.Cond.instanceMethod ({ cls := "LastHatch$Finding", name := "<init>", desc := "()V" } : Jvm.MethodName)) ∈ lw_all := lw_g (lw_at lw_m1 98 rfl) rfl
theorem q177 : (Jvm.Cond.code ({ cls := "LastHatch$Finding", name := "<init>", desc := "()V" } : Jvm.MethodName) prog_9_method_1_code (1 : Nat) (Option.none : Option Jvm.ClassFile.FieldType)) ∈ lw_all := lw_g (lw_at lw_m1 99 rfl) rfl
theorem q178 : (Jvm.Cond.methodLink "LastHatch$Finding" (1 : Nat) ({ cls := "java/lang/RuntimeException", name := "<init>", desc := "(Ljava/lang/String;Ljava/lang/Throwable;ZZ)V" } : Jvm.MethodName)) ∈ lw_all := lw_g (lw_at lw_m1 100 rfl) rfl
theorem q187 : (Jvm.Cond.fieldLink "LastHatch$Finding" (7 : Nat) "LastHatch$Finding" "code" "I") ∈ lw_all := lw_g (lw_at lw_m1 109 rfl) rfl
theorem q194 : (Jvm.Cond.lays "LastHatch$Finding" "LastHatch$Finding" "code" "I") ∈ lw_all := lw_g (lw_at lw_m1 116 rfl) rfl
theorem q195 : (Jvm.Cond.soleField "LastHatch$Finding" "code") ∈ lw_all := lw_g (lw_at lw_m1 117 rfl) rfl
theorem q200 : (Jvm.Cond.lays "LastHatch$Finding" "java/lang/Throwable" "depth" "I") ∈ lw_all := lw_g (lw_at lw_m1 122 rfl) rfl
theorem q203 : (Jvm.Cond.superclass "LastHatch$Finding" "java/lang/RuntimeException") ∈ lw_all := lw_g (lw_at lw_m1 125 rfl) rfl
theorem q523 : (Jvm.Cond.instanceMethod ({ cls := "LastHatch$Finding", name := "of", desc := "(I)LLastHatch$Finding;" } : Jvm.MethodName)) ∈ lw_all := lw_g (lw_at lw_m2 205 rfl) rfl
theorem q524 : (Jvm.Cond.selects "LastHatch$Finding" ({ cls := "LastHatch$Finding", name := "of", desc := "(I)LLastHatch$Finding;" } : Jvm.MethodName) ({ cls := "LastHatch$Finding", name := "of", desc := "(I)LLastHatch$Finding;" } : Jvm.MethodName)) ∈ lw_all := lw_g (lw_at lw_m2 206 rfl) rfl
theorem q525 : (Jvm.Cond.code ({ cls := "LastHatch$Finding", name := "of", desc := "(I)LLastHatch$Finding;" } : Jvm.MethodName) prog_9_method_2_code (2 : Nat) (Option.some (Jvm.ClassFile.FieldType.object "LastHatch$Finding"))) ∈ lw_all := lw_g (lw_at lw_m2 207 rfl) rfl
theorem q599 : (Jvm.Cond.selects "LastHatch$Finding" ({ cls := "java/lang/Object", name := "getClass", desc := "()Ljava/lang/Class;" } : Jvm.MethodName) ({ cls := "java/lang/Object", name := "getClass", desc := "()Ljava/lang/Class;" } : Jvm.MethodName)) ∈ lw_all := lw_g (lw_at lw_m3 41 rfl) rfl
theorem q2534 : (Jvm.Cond.castable "LastHatch$Finding" "java/lang/Object") ∈ lw_tbl := lw_at lw_m11 56 rfl
theorem in_X1 : ∀ w ∈ wsX10, w ∈ lw_all := lw_in wsX10 [146, 148, 150, 152, 154, 200, 194] (by decide +kernel) (by decide +kernel)

/-! LastHatch$Boat -/
set_option maxRecDepth 100000
def RX2 : String := "LastHatch$Boat"
def TX2 : u_T := fun k => match k with
  | 0 => ("LastHatch$Boat", "hull", "LLastHatch$Hull;", false)
  | 1 => ("LastHatch$Boat", "laws", "LLastHatch$Laws;", false)
  | 2 => ("LastHatch$Boat", "tanks", "LLastHatch$Tanks;", false)
  | 3 => ("LastHatch$Boat", "ways", "Ljava/util/ArrayList;", true)
  | 4 => ("LastHatch$Boat", "tape", "[B", true)
  | 5 => ("LastHatch$Boat", "taped", "I", false)
  | 6 => ("LastHatch$Boat", "goes", "[I", true)
  | 7 => ("LastHatch$Boat", "plans", "[I", true)
  | 8 => ("LastHatch$Boat", "planned", "[I", true)
  | 9 => ("LastHatch$Boat", "causeOpen", "[I", true)
  | 10 => ("LastHatch$Boat", "causeShut", "[I", true)
  | 11 => ("LastHatch$Boat", "causes", "I", false)
  | 12 => ("LastHatch$Boat", "foundOpen", "I", false)
  | 13 => ("LastHatch$Boat", "foundShut", "I", false)
  | 14 => ("LastHatch$Boat", "z", "I", false)
  | 15 => ("LastHatch$Boat", "waiting", "[I", true)
  | _ => ("LastHatch$Boat", "waits", "I", false)
def tyX2 : Nat → FieldType := fun k => match k with
  | 0 => .object "LastHatch$Hull"
  | 1 => .object "LastHatch$Laws"
  | 2 => .object "LastHatch$Tanks"
  | 3 => .object "java/util/ArrayList"
  | 4 => .array .byte
  | 5 => .int
  | 6 => .array .int
  | 7 => .array .int
  | 8 => .array .int
  | 9 => .array .int
  | 10 => .array .int
  | 11 => .int
  | 12 => .int
  | 13 => .int
  | 14 => .int
  | 15 => .array .int
  | _ => .int
abbrev wsX20 : List Cond := u_ws RX2 TX2 17
set_option maxRecDepth 100000 in
theorem nmX2 : ∀ a, a < 17 → ∀ b, b < 17 → a ≠ b → (TX2 a).2.1 ≠ (TX2 b).2.1 := by decide +kernel
set_option maxRecDepth 100000 in
theorem tyX2_ok : ∀ k, k < 17 → parseFieldDescriptor (TX2 k).2.2.1 = some (tyX2 k) := by decide +kernel
abbrev cX2_init : ByteArray := prog_3_method_1_code
def yX2_init : MethodName := ⟨RX2, "<init>", "()V"⟩
def dkwX2_init_4 : List UInt8 := [181, 0, 56, 42, 4, 181, 0, 59, 42, 16, 20, 188, 10, 181, 0, 63, 177]
abbrev dktX2_init_4 : List UInt8 := dkwX2_init_4 ++ []
def dkwX2_init_3 : List UInt8 := [181, 0, 47, 42, 5, 188, 10, 181, 0, 50, 42, 16, 10, 188, 10, 181, 0, 53, 42, 16, 10, 188, 10]
abbrev dktX2_init_3 : List UInt8 := dkwX2_init_3 ++ dktX2_init_4
def dkwX2_init_2 : List UInt8 := [181, 0, 35, 42, 16, 50, 188, 8, 181, 0, 39, 42, 16, 8, 188, 10, 181, 0, 43, 42, 16, 60, 188, 10]
abbrev dktX2_init_2 : List UInt8 := dkwX2_init_2 ++ dktX2_init_3
def dkwX2_init_1 : List UInt8 := [181, 0, 21, 42, 187, 0, 25, 89, 183, 0, 27, 181, 0, 28, 42, 187, 0, 32, 89, 183, 0, 34]
abbrev dktX2_init_1 : List UInt8 := dkwX2_init_1 ++ dktX2_init_2
def dkwX2_init_0 : List UInt8 := [42, 183, 0, 3, 42, 187, 0, 9, 89, 183, 0, 11, 181, 0, 12, 42, 187, 0, 18, 89, 183, 0, 20]
abbrev dktX2_init_0 : List UInt8 := dkwX2_init_0 ++ dktX2_init_1
theorem dksX2_init_0 : cX2_init.data.toList.drop 0 = dktX2_init_0 := by decide +kernel
theorem dksX2_init_1 : cX2_init.data.toList.drop 23 = dktX2_init_1 := dk_seg dksX2_init_0 23 rfl rfl
theorem dksX2_init_2 : cX2_init.data.toList.drop 45 = dktX2_init_2 := dk_seg dksX2_init_1 22 rfl rfl
theorem dksX2_init_3 : cX2_init.data.toList.drop 69 = dktX2_init_3 := dk_seg dksX2_init_2 24 rfl rfl
theorem dksX2_init_4 : cX2_init.data.toList.drop 92 = dktX2_init_4 := dk_seg dksX2_init_3 23 rfl rfl
theorem dX2_init_0 : decode cX2_init 0 = .ok (.aload_n 0, 1) := dk_42 (dk_at dksX2_init_0 0 rfl rfl)
theorem dX2_init_1 : decode cX2_init 1 = .ok (.invokespecial 3, 3) := dk_183 0 3 (dk_at dksX2_init_0 1 rfl rfl)
theorem dX2_init_4 : decode cX2_init 4 = .ok (.aload_n 0, 1) := dk_42 (dk_at dksX2_init_0 4 rfl rfl)
theorem dX2_init_5 : decode cX2_init 5 = .ok (.new 9, 3) := dk_187 0 9 (dk_at dksX2_init_0 5 rfl rfl)
theorem dX2_init_8 : decode cX2_init 8 = .ok (.dup, 1) := dk_89 (dk_at dksX2_init_0 8 rfl rfl)
theorem dX2_init_9 : decode cX2_init 9 = .ok (.invokespecial 11, 3) := dk_183 0 11 (dk_at dksX2_init_0 9 rfl rfl)
theorem dX2_init_12 : decode cX2_init 12 = .ok (.putfield 12, 3) := dk_181 0 12 (dk_at dksX2_init_0 12 rfl rfl)
theorem dX2_init_15 : decode cX2_init 15 = .ok (.aload_n 0, 1) := dk_42 (dk_at dksX2_init_0 15 rfl rfl)
theorem dX2_init_16 : decode cX2_init 16 = .ok (.new 18, 3) := dk_187 0 18 (dk_at dksX2_init_0 16 rfl rfl)
theorem dX2_init_19 : decode cX2_init 19 = .ok (.dup, 1) := dk_89 (dk_at dksX2_init_0 19 rfl rfl)
theorem dX2_init_20 : decode cX2_init 20 = .ok (.invokespecial 20, 3) := dk_183 0 20 (dk_at dksX2_init_0 20 rfl rfl)
theorem dX2_init_23 : decode cX2_init 23 = .ok (.putfield 21, 3) := dk_181 0 21 (dk_at dksX2_init_1 0 rfl rfl)
theorem dX2_init_26 : decode cX2_init 26 = .ok (.aload_n 0, 1) := dk_42 (dk_at dksX2_init_1 3 rfl rfl)
theorem dX2_init_27 : decode cX2_init 27 = .ok (.new 25, 3) := dk_187 0 25 (dk_at dksX2_init_1 4 rfl rfl)
theorem dX2_init_30 : decode cX2_init 30 = .ok (.dup, 1) := dk_89 (dk_at dksX2_init_1 7 rfl rfl)
theorem dX2_init_31 : decode cX2_init 31 = .ok (.invokespecial 27, 3) := dk_183 0 27 (dk_at dksX2_init_1 8 rfl rfl)
theorem dX2_init_34 : decode cX2_init 34 = .ok (.putfield 28, 3) := dk_181 0 28 (dk_at dksX2_init_1 11 rfl rfl)
theorem dX2_init_37 : decode cX2_init 37 = .ok (.aload_n 0, 1) := dk_42 (dk_at dksX2_init_1 14 rfl rfl)
theorem dX2_init_38 : decode cX2_init 38 = .ok (.new 32, 3) := dk_187 0 32 (dk_at dksX2_init_1 15 rfl rfl)
theorem dX2_init_41 : decode cX2_init 41 = .ok (.dup, 1) := dk_89 (dk_at dksX2_init_1 18 rfl rfl)
theorem dX2_init_42 : decode cX2_init 42 = .ok (.invokespecial 34, 3) := dk_183 0 34 (dk_at dksX2_init_1 19 rfl rfl)
theorem dX2_init_45 : decode cX2_init 45 = .ok (.putfield 35, 3) := dk_181 0 35 (dk_at dksX2_init_2 0 rfl rfl)
theorem dX2_init_48 : decode cX2_init 48 = .ok (.aload_n 0, 1) := dk_42 (dk_at dksX2_init_2 3 rfl rfl)
theorem dX2_init_49 : decode cX2_init 49 = .ok (.bipush 50, 2) := dk_16 50 (dk_at dksX2_init_2 4 rfl rfl)
theorem dX2_init_51 : decode cX2_init 51 = .ok (.newarray .byte, 2) := dk_188_8 (dk_at dksX2_init_2 6 rfl rfl)
theorem dX2_init_53 : decode cX2_init 53 = .ok (.putfield 39, 3) := dk_181 0 39 (dk_at dksX2_init_2 8 rfl rfl)
theorem dX2_init_56 : decode cX2_init 56 = .ok (.aload_n 0, 1) := dk_42 (dk_at dksX2_init_2 11 rfl rfl)
theorem dX2_init_57 : decode cX2_init 57 = .ok (.bipush 8, 2) := dk_16 8 (dk_at dksX2_init_2 12 rfl rfl)
theorem dX2_init_59 : decode cX2_init 59 = .ok (.newarray .int, 2) := dk_188_10 (dk_at dksX2_init_2 14 rfl rfl)
theorem dX2_init_61 : decode cX2_init 61 = .ok (.putfield 43, 3) := dk_181 0 43 (dk_at dksX2_init_2 16 rfl rfl)
theorem dX2_init_64 : decode cX2_init 64 = .ok (.aload_n 0, 1) := dk_42 (dk_at dksX2_init_2 19 rfl rfl)
theorem dX2_init_65 : decode cX2_init 65 = .ok (.bipush 60, 2) := dk_16 60 (dk_at dksX2_init_2 20 rfl rfl)
theorem dX2_init_67 : decode cX2_init 67 = .ok (.newarray .int, 2) := dk_188_10 (dk_at dksX2_init_2 22 rfl rfl)
theorem dX2_init_69 : decode cX2_init 69 = .ok (.putfield 47, 3) := dk_181 0 47 (dk_at dksX2_init_3 0 rfl rfl)
theorem dX2_init_72 : decode cX2_init 72 = .ok (.aload_n 0, 1) := dk_42 (dk_at dksX2_init_3 3 rfl rfl)
theorem dX2_init_73 : decode cX2_init 73 = .ok (.iconst 2, 1) := dk_5 (dk_at dksX2_init_3 4 rfl rfl)
theorem dX2_init_74 : decode cX2_init 74 = .ok (.newarray .int, 2) := dk_188_10 (dk_at dksX2_init_3 5 rfl rfl)
theorem dX2_init_76 : decode cX2_init 76 = .ok (.putfield 50, 3) := dk_181 0 50 (dk_at dksX2_init_3 7 rfl rfl)
theorem dX2_init_79 : decode cX2_init 79 = .ok (.aload_n 0, 1) := dk_42 (dk_at dksX2_init_3 10 rfl rfl)
theorem dX2_init_80 : decode cX2_init 80 = .ok (.bipush 10, 2) := dk_16 10 (dk_at dksX2_init_3 11 rfl rfl)
theorem dX2_init_82 : decode cX2_init 82 = .ok (.newarray .int, 2) := dk_188_10 (dk_at dksX2_init_3 13 rfl rfl)
theorem dX2_init_84 : decode cX2_init 84 = .ok (.putfield 53, 3) := dk_181 0 53 (dk_at dksX2_init_3 15 rfl rfl)
theorem dX2_init_87 : decode cX2_init 87 = .ok (.aload_n 0, 1) := dk_42 (dk_at dksX2_init_3 18 rfl rfl)
theorem dX2_init_88 : decode cX2_init 88 = .ok (.bipush 10, 2) := dk_16 10 (dk_at dksX2_init_3 19 rfl rfl)
theorem dX2_init_90 : decode cX2_init 90 = .ok (.newarray .int, 2) := dk_188_10 (dk_at dksX2_init_3 21 rfl rfl)
theorem dX2_init_92 : decode cX2_init 92 = .ok (.putfield 56, 3) := dk_181 0 56 (dk_at dksX2_init_4 0 rfl rfl)
theorem dX2_init_95 : decode cX2_init 95 = .ok (.aload_n 0, 1) := dk_42 (dk_at dksX2_init_4 3 rfl rfl)
theorem dX2_init_96 : decode cX2_init 96 = .ok (.iconst 1, 1) := dk_4 (dk_at dksX2_init_4 4 rfl rfl)
theorem dX2_init_97 : decode cX2_init 97 = .ok (.putfield 59, 3) := dk_181 0 59 (dk_at dksX2_init_4 5 rfl rfl)
theorem dX2_init_100 : decode cX2_init 100 = .ok (.aload_n 0, 1) := dk_42 (dk_at dksX2_init_4 8 rfl rfl)
theorem dX2_init_101 : decode cX2_init 101 = .ok (.bipush 20, 2) := dk_16 20 (dk_at dksX2_init_4 9 rfl rfl)
theorem dX2_init_103 : decode cX2_init 103 = .ok (.newarray .int, 2) := dk_188_10 (dk_at dksX2_init_4 11 rfl rfl)
theorem dX2_init_105 : decode cX2_init 105 = .ok (.putfield 63, 3) := dk_181 0 63 (dk_at dksX2_init_4 13 rfl rfl)
theorem dX2_init_108 : decode cX2_init 108 = .ok (.return_, 1) := dk_177 (dk_at dksX2_init_4 16 rfl rfl)
abbrev cX2_minutes : ByteArray := prog_3_method_4_code
def yX2_minutes : MethodName := ⟨RX2, "minutes", "(I)I"⟩
def dkwX2_minutes_1 : List UInt8 := [182, 0, 119, 153, 0, 7, 4, 167, 0, 4, 3, 96, 61, 132, 3, 1, 167, 255, 221, 28, 172]
abbrev dktX2_minutes_1 : List UInt8 := dkwX2_minutes_1 ++ []
def dkwX2_minutes_0 : List UInt8 := [3, 61, 3, 62, 29, 27, 162, 0, 36, 28, 42, 180, 0, 21, 42, 180, 0, 12, 180, 0, 116, 29, 96]
abbrev dktX2_minutes_0 : List UInt8 := dkwX2_minutes_0 ++ dktX2_minutes_1
theorem dksX2_minutes_0 : cX2_minutes.data.toList.drop 0 = dktX2_minutes_0 := by decide +kernel
theorem dksX2_minutes_1 : cX2_minutes.data.toList.drop 23 = dktX2_minutes_1 := dk_seg dksX2_minutes_0 23 rfl rfl
theorem dX2_minutes_0 : decode cX2_minutes 0 = .ok (.iconst 0, 1) := dk_3 (dk_at dksX2_minutes_0 0 rfl rfl)
theorem dX2_minutes_1 : decode cX2_minutes 1 = .ok (.istore_n 2, 1) := dk_61 (dk_at dksX2_minutes_0 1 rfl rfl)
theorem dX2_minutes_2 : decode cX2_minutes 2 = .ok (.iconst 0, 1) := dk_3 (dk_at dksX2_minutes_0 2 rfl rfl)
theorem dX2_minutes_3 : decode cX2_minutes 3 = .ok (.istore_n 3, 1) := dk_62 (dk_at dksX2_minutes_0 3 rfl rfl)
theorem dX2_minutes_4 : decode cX2_minutes 4 = .ok (.iload_n 3, 1) := dk_29 (dk_at dksX2_minutes_0 4 rfl rfl)
theorem dX2_minutes_5 : decode cX2_minutes 5 = .ok (.iload_n 1, 1) := dk_27 (dk_at dksX2_minutes_0 5 rfl rfl)
theorem dX2_minutes_6 : decode cX2_minutes 6 = .ok (.if_icmp .ge 36, 3) := dk_162 0 36 (dk_at dksX2_minutes_0 6 rfl rfl)
theorem dX2_minutes_9 : decode cX2_minutes 9 = .ok (.iload_n 2, 1) := dk_28 (dk_at dksX2_minutes_0 9 rfl rfl)
theorem dX2_minutes_10 : decode cX2_minutes 10 = .ok (.aload_n 0, 1) := dk_42 (dk_at dksX2_minutes_0 10 rfl rfl)
theorem dX2_minutes_11 : decode cX2_minutes 11 = .ok (.getfield 21, 3) := dk_180 0 21 (dk_at dksX2_minutes_0 11 rfl rfl)
theorem dX2_minutes_14 : decode cX2_minutes 14 = .ok (.aload_n 0, 1) := dk_42 (dk_at dksX2_minutes_0 14 rfl rfl)
theorem dX2_minutes_15 : decode cX2_minutes 15 = .ok (.getfield 12, 3) := dk_180 0 12 (dk_at dksX2_minutes_0 15 rfl rfl)
theorem dX2_minutes_18 : decode cX2_minutes 18 = .ok (.getfield 116, 3) := dk_180 0 116 (dk_at dksX2_minutes_0 18 rfl rfl)
theorem dX2_minutes_21 : decode cX2_minutes 21 = .ok (.iload_n 3, 1) := dk_29 (dk_at dksX2_minutes_0 21 rfl rfl)
theorem dX2_minutes_22 : decode cX2_minutes 22 = .ok (.iadd, 1) := dk_96 (dk_at dksX2_minutes_0 22 rfl rfl)
theorem dX2_minutes_23 : decode cX2_minutes 23 = .ok (.invokevirtual 119, 3) := dk_182 0 119 (dk_at dksX2_minutes_1 0 rfl rfl)
theorem dX2_minutes_26 : decode cX2_minutes 26 = .ok (.ifCond .eq 7, 3) := dk_153 0 7 (dk_at dksX2_minutes_1 3 rfl rfl)
theorem dX2_minutes_29 : decode cX2_minutes 29 = .ok (.iconst 1, 1) := dk_4 (dk_at dksX2_minutes_1 6 rfl rfl)
theorem dX2_minutes_30 : decode cX2_minutes 30 = .ok (.goto 4, 3) := dk_167 0 4 (dk_at dksX2_minutes_1 7 rfl rfl)
theorem dX2_minutes_33 : decode cX2_minutes 33 = .ok (.iconst 0, 1) := dk_3 (dk_at dksX2_minutes_1 10 rfl rfl)
theorem dX2_minutes_34 : decode cX2_minutes 34 = .ok (.iadd, 1) := dk_96 (dk_at dksX2_minutes_1 11 rfl rfl)
theorem dX2_minutes_35 : decode cX2_minutes 35 = .ok (.istore_n 2, 1) := dk_61 (dk_at dksX2_minutes_1 12 rfl rfl)
theorem dX2_minutes_36 : decode cX2_minutes 36 = .ok (.iinc 3 1, 3) := dk_132 3 1 (dk_at dksX2_minutes_1 13 rfl rfl)
theorem dX2_minutes_39 : decode cX2_minutes 39 = .ok (.goto (-35), 3) := dk_167 255 221 (dk_at dksX2_minutes_1 16 rfl rfl)
theorem dX2_minutes_42 : decode cX2_minutes 42 = .ok (.iload_n 2, 1) := dk_28 (dk_at dksX2_minutes_1 19 rfl rfl)
theorem dX2_minutes_43 : decode cX2_minutes 43 = .ok (.ireturn, 1) := dk_172 (dk_at dksX2_minutes_1 20 rfl rfl)
abbrev cX2_placesAt : ByteArray := prog_3_method_5_code
def yX2_placesAt : MethodName := ⟨RX2, "placesAt", "(II)I"⟩
def dkwX2_placesAt_3 : List UInt8 := [167, 255, 190, 29, 172]
abbrev dktX2_placesAt_3 : List UInt8 := dkwX2_placesAt_3 ++ []
def dkwX2_placesAt_2 : List UInt8 := [153, 0, 17, 4, 42, 180, 0, 47, 21, 5, 5, 96, 46, 120, 167, 0, 4, 3, 128, 62, 132, 4, 1]
abbrev dktX2_placesAt_2 : List UInt8 := dkwX2_placesAt_2 ++ dktX2_placesAt_3
def dkwX2_placesAt_1 : List UInt8 := [104, 54, 5, 29, 28, 42, 180, 0, 47, 21, 5, 46, 42, 180, 0, 47, 21, 5, 4, 96, 46, 184, 0, 123]
abbrev dktX2_placesAt_1 : List UInt8 := dkwX2_placesAt_1 ++ dktX2_placesAt_2
def dkwX2_placesAt_0 : List UInt8 := [3, 62, 3, 54, 4, 21, 4, 42, 180, 0, 50, 27, 46, 162, 0, 61, 6, 16, 10, 27, 104, 21, 4, 96]
abbrev dktX2_placesAt_0 : List UInt8 := dkwX2_placesAt_0 ++ dktX2_placesAt_1
theorem dksX2_placesAt_0 : cX2_placesAt.data.toList.drop 0 = dktX2_placesAt_0 := by decide +kernel
theorem dksX2_placesAt_1 : cX2_placesAt.data.toList.drop 24 = dktX2_placesAt_1 := dk_seg dksX2_placesAt_0 24 rfl rfl
theorem dksX2_placesAt_2 : cX2_placesAt.data.toList.drop 48 = dktX2_placesAt_2 := dk_seg dksX2_placesAt_1 24 rfl rfl
theorem dksX2_placesAt_3 : cX2_placesAt.data.toList.drop 71 = dktX2_placesAt_3 := dk_seg dksX2_placesAt_2 23 rfl rfl
theorem dX2_placesAt_0 : decode cX2_placesAt 0 = .ok (.iconst 0, 1) := dk_3 (dk_at dksX2_placesAt_0 0 rfl rfl)
theorem dX2_placesAt_1 : decode cX2_placesAt 1 = .ok (.istore_n 3, 1) := dk_62 (dk_at dksX2_placesAt_0 1 rfl rfl)
theorem dX2_placesAt_2 : decode cX2_placesAt 2 = .ok (.iconst 0, 1) := dk_3 (dk_at dksX2_placesAt_0 2 rfl rfl)
theorem dX2_placesAt_3 : decode cX2_placesAt 3 = .ok (.istore 4, 2) := dk_54 4 (dk_at dksX2_placesAt_0 3 rfl rfl)
theorem dX2_placesAt_5 : decode cX2_placesAt 5 = .ok (.iload 4, 2) := dk_21 4 (dk_at dksX2_placesAt_0 5 rfl rfl)
theorem dX2_placesAt_7 : decode cX2_placesAt 7 = .ok (.aload_n 0, 1) := dk_42 (dk_at dksX2_placesAt_0 7 rfl rfl)
theorem dX2_placesAt_8 : decode cX2_placesAt 8 = .ok (.getfield 50, 3) := dk_180 0 50 (dk_at dksX2_placesAt_0 8 rfl rfl)
theorem dX2_placesAt_11 : decode cX2_placesAt 11 = .ok (.iload_n 1, 1) := dk_27 (dk_at dksX2_placesAt_0 11 rfl rfl)
theorem dX2_placesAt_12 : decode cX2_placesAt 12 = .ok (.iaload, 1) := dk_46 (dk_at dksX2_placesAt_0 12 rfl rfl)
theorem dX2_placesAt_13 : decode cX2_placesAt 13 = .ok (.if_icmp .ge 61, 3) := dk_162 0 61 (dk_at dksX2_placesAt_0 13 rfl rfl)
theorem dX2_placesAt_16 : decode cX2_placesAt 16 = .ok (.iconst 3, 1) := dk_6 (dk_at dksX2_placesAt_0 16 rfl rfl)
theorem dX2_placesAt_17 : decode cX2_placesAt 17 = .ok (.bipush 10, 2) := dk_16 10 (dk_at dksX2_placesAt_0 17 rfl rfl)
theorem dX2_placesAt_19 : decode cX2_placesAt 19 = .ok (.iload_n 1, 1) := dk_27 (dk_at dksX2_placesAt_0 19 rfl rfl)
theorem dX2_placesAt_20 : decode cX2_placesAt 20 = .ok (.imul, 1) := dk_104 (dk_at dksX2_placesAt_0 20 rfl rfl)
theorem dX2_placesAt_21 : decode cX2_placesAt 21 = .ok (.iload 4, 2) := dk_21 4 (dk_at dksX2_placesAt_0 21 rfl rfl)
theorem dX2_placesAt_23 : decode cX2_placesAt 23 = .ok (.iadd, 1) := dk_96 (dk_at dksX2_placesAt_0 23 rfl rfl)
theorem dX2_placesAt_24 : decode cX2_placesAt 24 = .ok (.imul, 1) := dk_104 (dk_at dksX2_placesAt_1 0 rfl rfl)
theorem dX2_placesAt_25 : decode cX2_placesAt 25 = .ok (.istore 5, 2) := dk_54 5 (dk_at dksX2_placesAt_1 1 rfl rfl)
theorem dX2_placesAt_27 : decode cX2_placesAt 27 = .ok (.iload_n 3, 1) := dk_29 (dk_at dksX2_placesAt_1 3 rfl rfl)
theorem dX2_placesAt_28 : decode cX2_placesAt 28 = .ok (.iload_n 2, 1) := dk_28 (dk_at dksX2_placesAt_1 4 rfl rfl)
theorem dX2_placesAt_29 : decode cX2_placesAt 29 = .ok (.aload_n 0, 1) := dk_42 (dk_at dksX2_placesAt_1 5 rfl rfl)
theorem dX2_placesAt_30 : decode cX2_placesAt 30 = .ok (.getfield 47, 3) := dk_180 0 47 (dk_at dksX2_placesAt_1 6 rfl rfl)
theorem dX2_placesAt_33 : decode cX2_placesAt 33 = .ok (.iload 5, 2) := dk_21 5 (dk_at dksX2_placesAt_1 9 rfl rfl)
theorem dX2_placesAt_35 : decode cX2_placesAt 35 = .ok (.iaload, 1) := dk_46 (dk_at dksX2_placesAt_1 11 rfl rfl)
theorem dX2_placesAt_36 : decode cX2_placesAt 36 = .ok (.aload_n 0, 1) := dk_42 (dk_at dksX2_placesAt_1 12 rfl rfl)
theorem dX2_placesAt_37 : decode cX2_placesAt 37 = .ok (.getfield 47, 3) := dk_180 0 47 (dk_at dksX2_placesAt_1 13 rfl rfl)
theorem dX2_placesAt_40 : decode cX2_placesAt 40 = .ok (.iload 5, 2) := dk_21 5 (dk_at dksX2_placesAt_1 16 rfl rfl)
theorem dX2_placesAt_42 : decode cX2_placesAt 42 = .ok (.iconst 1, 1) := dk_4 (dk_at dksX2_placesAt_1 18 rfl rfl)
theorem dX2_placesAt_43 : decode cX2_placesAt 43 = .ok (.iadd, 1) := dk_96 (dk_at dksX2_placesAt_1 19 rfl rfl)
theorem dX2_placesAt_44 : decode cX2_placesAt 44 = .ok (.iaload, 1) := dk_46 (dk_at dksX2_placesAt_1 20 rfl rfl)
theorem dX2_placesAt_45 : decode cX2_placesAt 45 = .ok (.invokestatic 123, 3) := dk_184 0 123 (dk_at dksX2_placesAt_1 21 rfl rfl)
theorem dX2_placesAt_48 : decode cX2_placesAt 48 = .ok (.ifCond .eq 17, 3) := dk_153 0 17 (dk_at dksX2_placesAt_2 0 rfl rfl)
theorem dX2_placesAt_51 : decode cX2_placesAt 51 = .ok (.iconst 1, 1) := dk_4 (dk_at dksX2_placesAt_2 3 rfl rfl)
theorem dX2_placesAt_52 : decode cX2_placesAt 52 = .ok (.aload_n 0, 1) := dk_42 (dk_at dksX2_placesAt_2 4 rfl rfl)
theorem dX2_placesAt_53 : decode cX2_placesAt 53 = .ok (.getfield 47, 3) := dk_180 0 47 (dk_at dksX2_placesAt_2 5 rfl rfl)
theorem dX2_placesAt_56 : decode cX2_placesAt 56 = .ok (.iload 5, 2) := dk_21 5 (dk_at dksX2_placesAt_2 8 rfl rfl)
theorem dX2_placesAt_58 : decode cX2_placesAt 58 = .ok (.iconst 2, 1) := dk_5 (dk_at dksX2_placesAt_2 10 rfl rfl)
theorem dX2_placesAt_59 : decode cX2_placesAt 59 = .ok (.iadd, 1) := dk_96 (dk_at dksX2_placesAt_2 11 rfl rfl)
theorem dX2_placesAt_60 : decode cX2_placesAt 60 = .ok (.iaload, 1) := dk_46 (dk_at dksX2_placesAt_2 12 rfl rfl)
theorem dX2_placesAt_61 : decode cX2_placesAt 61 = .ok (.ishl, 1) := dk_120 (dk_at dksX2_placesAt_2 13 rfl rfl)
theorem dX2_placesAt_62 : decode cX2_placesAt 62 = .ok (.goto 4, 3) := dk_167 0 4 (dk_at dksX2_placesAt_2 14 rfl rfl)
theorem dX2_placesAt_65 : decode cX2_placesAt 65 = .ok (.iconst 0, 1) := dk_3 (dk_at dksX2_placesAt_2 17 rfl rfl)
theorem dX2_placesAt_66 : decode cX2_placesAt 66 = .ok (.ior, 1) := dk_128 (dk_at dksX2_placesAt_2 18 rfl rfl)
theorem dX2_placesAt_67 : decode cX2_placesAt 67 = .ok (.istore_n 3, 1) := dk_62 (dk_at dksX2_placesAt_2 19 rfl rfl)
theorem dX2_placesAt_68 : decode cX2_placesAt 68 = .ok (.iinc 4 1, 3) := dk_132 4 1 (dk_at dksX2_placesAt_2 20 rfl rfl)
theorem dX2_placesAt_71 : decode cX2_placesAt 71 = .ok (.goto (-66), 3) := dk_167 255 190 (dk_at dksX2_placesAt_3 0 rfl rfl)
theorem dX2_placesAt_74 : decode cX2_placesAt 74 = .ok (.iload_n 3, 1) := dk_29 (dk_at dksX2_placesAt_3 3 rfl rfl)
theorem dX2_placesAt_75 : decode cX2_placesAt 75 = .ok (.ireturn, 1) := dk_172 (dk_at dksX2_placesAt_3 4 rfl rfl)
abbrev cX2_mayBe : ByteArray := prog_3_method_6_code
def yX2_mayBe : MethodName := ⟨RX2, "mayBe", "(II)I"⟩
def dkwX2_mayBe_2 : List UInt8 := [62, 132, 4, 1, 167, 255, 209, 29, 172]
abbrev dktX2_mayBe_2 : List UInt8 := dkwX2_mayBe_2 ++ []
def dkwX2_mayBe_1 : List UInt8 := [154, 0, 22, 42, 180, 0, 56, 21, 4, 46, 27, 126, 154, 0, 10, 4, 21, 4, 120, 167, 0, 4, 3, 128]
abbrev dktX2_mayBe_1 : List UInt8 := dkwX2_mayBe_1 ++ dktX2_mayBe_2
def dkwX2_mayBe_0 : List UInt8 := [3, 62, 3, 54, 4, 21, 4, 42, 180, 0, 104, 162, 0, 44, 29, 42, 180, 0, 53, 21, 4, 46, 28, 126]
abbrev dktX2_mayBe_0 : List UInt8 := dkwX2_mayBe_0 ++ dktX2_mayBe_1
theorem dksX2_mayBe_0 : cX2_mayBe.data.toList.drop 0 = dktX2_mayBe_0 := by decide +kernel
theorem dksX2_mayBe_1 : cX2_mayBe.data.toList.drop 24 = dktX2_mayBe_1 := dk_seg dksX2_mayBe_0 24 rfl rfl
theorem dksX2_mayBe_2 : cX2_mayBe.data.toList.drop 48 = dktX2_mayBe_2 := dk_seg dksX2_mayBe_1 24 rfl rfl
theorem dX2_mayBe_0 : decode cX2_mayBe 0 = .ok (.iconst 0, 1) := dk_3 (dk_at dksX2_mayBe_0 0 rfl rfl)
theorem dX2_mayBe_1 : decode cX2_mayBe 1 = .ok (.istore_n 3, 1) := dk_62 (dk_at dksX2_mayBe_0 1 rfl rfl)
theorem dX2_mayBe_2 : decode cX2_mayBe 2 = .ok (.iconst 0, 1) := dk_3 (dk_at dksX2_mayBe_0 2 rfl rfl)
theorem dX2_mayBe_3 : decode cX2_mayBe 3 = .ok (.istore 4, 2) := dk_54 4 (dk_at dksX2_mayBe_0 3 rfl rfl)
theorem dX2_mayBe_5 : decode cX2_mayBe 5 = .ok (.iload 4, 2) := dk_21 4 (dk_at dksX2_mayBe_0 5 rfl rfl)
theorem dX2_mayBe_7 : decode cX2_mayBe 7 = .ok (.aload_n 0, 1) := dk_42 (dk_at dksX2_mayBe_0 7 rfl rfl)
theorem dX2_mayBe_8 : decode cX2_mayBe 8 = .ok (.getfield 104, 3) := dk_180 0 104 (dk_at dksX2_mayBe_0 8 rfl rfl)
theorem dX2_mayBe_11 : decode cX2_mayBe 11 = .ok (.if_icmp .ge 44, 3) := dk_162 0 44 (dk_at dksX2_mayBe_0 11 rfl rfl)
theorem dX2_mayBe_14 : decode cX2_mayBe 14 = .ok (.iload_n 3, 1) := dk_29 (dk_at dksX2_mayBe_0 14 rfl rfl)
theorem dX2_mayBe_15 : decode cX2_mayBe 15 = .ok (.aload_n 0, 1) := dk_42 (dk_at dksX2_mayBe_0 15 rfl rfl)
theorem dX2_mayBe_16 : decode cX2_mayBe 16 = .ok (.getfield 53, 3) := dk_180 0 53 (dk_at dksX2_mayBe_0 16 rfl rfl)
theorem dX2_mayBe_19 : decode cX2_mayBe 19 = .ok (.iload 4, 2) := dk_21 4 (dk_at dksX2_mayBe_0 19 rfl rfl)
theorem dX2_mayBe_21 : decode cX2_mayBe 21 = .ok (.iaload, 1) := dk_46 (dk_at dksX2_mayBe_0 21 rfl rfl)
theorem dX2_mayBe_22 : decode cX2_mayBe 22 = .ok (.iload_n 2, 1) := dk_28 (dk_at dksX2_mayBe_0 22 rfl rfl)
theorem dX2_mayBe_23 : decode cX2_mayBe 23 = .ok (.iand, 1) := dk_126 (dk_at dksX2_mayBe_0 23 rfl rfl)
theorem dX2_mayBe_24 : decode cX2_mayBe 24 = .ok (.ifCond .ne 22, 3) := dk_154 0 22 (dk_at dksX2_mayBe_1 0 rfl rfl)
theorem dX2_mayBe_27 : decode cX2_mayBe 27 = .ok (.aload_n 0, 1) := dk_42 (dk_at dksX2_mayBe_1 3 rfl rfl)
theorem dX2_mayBe_28 : decode cX2_mayBe 28 = .ok (.getfield 56, 3) := dk_180 0 56 (dk_at dksX2_mayBe_1 4 rfl rfl)
theorem dX2_mayBe_31 : decode cX2_mayBe 31 = .ok (.iload 4, 2) := dk_21 4 (dk_at dksX2_mayBe_1 7 rfl rfl)
theorem dX2_mayBe_33 : decode cX2_mayBe 33 = .ok (.iaload, 1) := dk_46 (dk_at dksX2_mayBe_1 9 rfl rfl)
theorem dX2_mayBe_34 : decode cX2_mayBe 34 = .ok (.iload_n 1, 1) := dk_27 (dk_at dksX2_mayBe_1 10 rfl rfl)
theorem dX2_mayBe_35 : decode cX2_mayBe 35 = .ok (.iand, 1) := dk_126 (dk_at dksX2_mayBe_1 11 rfl rfl)
theorem dX2_mayBe_36 : decode cX2_mayBe 36 = .ok (.ifCond .ne 10, 3) := dk_154 0 10 (dk_at dksX2_mayBe_1 12 rfl rfl)
theorem dX2_mayBe_39 : decode cX2_mayBe 39 = .ok (.iconst 1, 1) := dk_4 (dk_at dksX2_mayBe_1 15 rfl rfl)
theorem dX2_mayBe_40 : decode cX2_mayBe 40 = .ok (.iload 4, 2) := dk_21 4 (dk_at dksX2_mayBe_1 16 rfl rfl)
theorem dX2_mayBe_42 : decode cX2_mayBe 42 = .ok (.ishl, 1) := dk_120 (dk_at dksX2_mayBe_1 18 rfl rfl)
theorem dX2_mayBe_43 : decode cX2_mayBe 43 = .ok (.goto 4, 3) := dk_167 0 4 (dk_at dksX2_mayBe_1 19 rfl rfl)
theorem dX2_mayBe_46 : decode cX2_mayBe 46 = .ok (.iconst 0, 1) := dk_3 (dk_at dksX2_mayBe_1 22 rfl rfl)
theorem dX2_mayBe_47 : decode cX2_mayBe 47 = .ok (.ior, 1) := dk_128 (dk_at dksX2_mayBe_1 23 rfl rfl)
theorem dX2_mayBe_48 : decode cX2_mayBe 48 = .ok (.istore_n 3, 1) := dk_62 (dk_at dksX2_mayBe_2 0 rfl rfl)
theorem dX2_mayBe_49 : decode cX2_mayBe 49 = .ok (.iinc 4 1, 3) := dk_132 4 1 (dk_at dksX2_mayBe_2 1 rfl rfl)
theorem dX2_mayBe_52 : decode cX2_mayBe 52 = .ok (.goto (-47), 3) := dk_167 255 209 (dk_at dksX2_mayBe_2 4 rfl rfl)
theorem dX2_mayBe_55 : decode cX2_mayBe 55 = .ok (.iload_n 3, 1) := dk_29 (dk_at dksX2_mayBe_2 7 rfl rfl)
theorem dX2_mayBe_56 : decode cX2_mayBe 56 = .ok (.ireturn, 1) := dk_172 (dk_at dksX2_mayBe_2 8 rfl rfl)
abbrev cX2_draw : ByteArray := prog_3_method_7_code
def yX2_draw : MethodName := ⟨RX2, "draw", "()I"⟩
def dkwX2_draw_0 : List UInt8 := [42, 42, 180, 0, 59, 18, 127, 104, 17, 48, 57, 96, 181, 0, 59, 42, 180, 0, 59, 16, 8, 124, 172]
abbrev dktX2_draw_0 : List UInt8 := dkwX2_draw_0 ++ []
theorem dksX2_draw_0 : cX2_draw.data.toList.drop 0 = dktX2_draw_0 := by decide +kernel
theorem dX2_draw_0 : decode cX2_draw 0 = .ok (.aload_n 0, 1) := dk_42 (dk_at dksX2_draw_0 0 rfl rfl)
theorem dX2_draw_1 : decode cX2_draw 1 = .ok (.aload_n 0, 1) := dk_42 (dk_at dksX2_draw_0 1 rfl rfl)
theorem dX2_draw_2 : decode cX2_draw 2 = .ok (.getfield 59, 3) := dk_180 0 59 (dk_at dksX2_draw_0 2 rfl rfl)
theorem dX2_draw_5 : decode cX2_draw 5 = .ok (.ldc 127, 2) := dk_18 127 (dk_at dksX2_draw_0 5 rfl rfl)
theorem dX2_draw_7 : decode cX2_draw 7 = .ok (.imul, 1) := dk_104 (dk_at dksX2_draw_0 7 rfl rfl)
theorem dX2_draw_8 : decode cX2_draw 8 = .ok (.sipush 12345, 3) := dk_17 48 57 (dk_at dksX2_draw_0 8 rfl rfl)
theorem dX2_draw_11 : decode cX2_draw 11 = .ok (.iadd, 1) := dk_96 (dk_at dksX2_draw_0 11 rfl rfl)
theorem dX2_draw_12 : decode cX2_draw 12 = .ok (.putfield 59, 3) := dk_181 0 59 (dk_at dksX2_draw_0 12 rfl rfl)
theorem dX2_draw_15 : decode cX2_draw 15 = .ok (.aload_n 0, 1) := dk_42 (dk_at dksX2_draw_0 15 rfl rfl)
theorem dX2_draw_16 : decode cX2_draw 16 = .ok (.getfield 59, 3) := dk_180 0 59 (dk_at dksX2_draw_0 16 rfl rfl)
theorem dX2_draw_19 : decode cX2_draw 19 = .ok (.bipush 8, 2) := dk_16 8 (dk_at dksX2_draw_0 19 rfl rfl)
theorem dX2_draw_21 : decode cX2_draw 21 = .ok (.iushr, 1) := dk_124 (dk_at dksX2_draw_0 21 rfl rfl)
theorem dX2_draw_22 : decode cX2_draw 22 = .ok (.ireturn, 1) := dk_172 (dk_at dksX2_draw_0 22 rfl rfl)
abbrev cX2_copy : ByteArray := prog_3_method_3_code
def yX2_copy : MethodName := ⟨RX2, "copy", "()LLastHatch$Boat;"⟩
def dkwX2_copy_8 : List UInt8 := [181, 0, 59, 42, 180, 0, 63, 43, 180, 0, 63, 184, 0, 100, 43, 42, 180, 0, 113, 181, 0, 113, 43, 176]
abbrev dktX2_copy_8 : List UInt8 := dkwX2_copy_8 ++ []
def dkwX2_copy_7 : List UInt8 := [181, 0, 104, 43, 42, 180, 0, 107, 181, 0, 107, 43, 42, 180, 0, 110, 181, 0, 110, 43, 42, 180, 0, 59]
abbrev dktX2_copy_7 : List UInt8 := dkwX2_copy_7 ++ dktX2_copy_8
def dkwX2_copy_6 : List UInt8 := [180, 0, 53, 184, 0, 100, 42, 180, 0, 56, 43, 180, 0, 56, 184, 0, 100, 43, 42, 180, 0, 104]
abbrev dktX2_copy_6 : List UInt8 := dkwX2_copy_6 ++ dktX2_copy_7
def dkwX2_copy_5 : List UInt8 := [180, 0, 47, 184, 0, 100, 42, 180, 0, 50, 43, 180, 0, 50, 184, 0, 100, 42, 180, 0, 53, 43]
abbrev dktX2_copy_5 : List UInt8 := dkwX2_copy_5 ++ dktX2_copy_6
def dkwX2_copy_4 : List UInt8 := [180, 0, 97, 181, 0, 97, 42, 180, 0, 43, 43, 180, 0, 43, 184, 0, 100, 42, 180, 0, 47, 43]
abbrev dktX2_copy_4 : List UInt8 := dkwX2_copy_4 ++ dktX2_copy_5
def dkwX2_copy_3 : List UInt8 := [87, 132, 2, 1, 167, 255, 223, 42, 180, 0, 39, 3, 43, 180, 0, 39, 3, 16, 50, 184, 0, 66, 43, 42]
abbrev dktX2_copy_3 : List UInt8 := dkwX2_copy_3 ++ dktX2_copy_4
def dkwX2_copy_2 : List UInt8 := [182, 0, 83, 162, 0, 28, 43, 180, 0, 35, 42, 180, 0, 35, 28, 182, 0, 87, 192, 0, 91, 182, 0, 93]
abbrev dktX2_copy_2 : List UInt8 := dkwX2_copy_2 ++ dktX2_copy_3
def dkwX2_copy_1 : List UInt8 := [182, 0, 77, 181, 0, 21, 43, 42, 180, 0, 28, 182, 0, 80, 181, 0, 28, 3, 61, 28, 42, 180, 0, 35]
abbrev dktX2_copy_1 : List UInt8 := dkwX2_copy_1 ++ dktX2_copy_2
def dkwX2_copy_0 : List UInt8 := [187, 0, 13, 89, 183, 0, 72, 76, 43, 42, 180, 0, 12, 182, 0, 73, 181, 0, 12, 43, 42, 180, 0, 21]
abbrev dktX2_copy_0 : List UInt8 := dkwX2_copy_0 ++ dktX2_copy_1
theorem dksX2_copy_0 : cX2_copy.data.toList.drop 0 = dktX2_copy_0 := by decide +kernel
theorem dksX2_copy_1 : cX2_copy.data.toList.drop 24 = dktX2_copy_1 := dk_seg dksX2_copy_0 24 rfl rfl
theorem dksX2_copy_2 : cX2_copy.data.toList.drop 48 = dktX2_copy_2 := dk_seg dksX2_copy_1 24 rfl rfl
theorem dksX2_copy_3 : cX2_copy.data.toList.drop 72 = dktX2_copy_3 := dk_seg dksX2_copy_2 24 rfl rfl
theorem dksX2_copy_4 : cX2_copy.data.toList.drop 96 = dktX2_copy_4 := dk_seg dksX2_copy_3 24 rfl rfl
theorem dksX2_copy_5 : cX2_copy.data.toList.drop 118 = dktX2_copy_5 := dk_seg dksX2_copy_4 22 rfl rfl
theorem dksX2_copy_6 : cX2_copy.data.toList.drop 140 = dktX2_copy_6 := dk_seg dksX2_copy_5 22 rfl rfl
theorem dksX2_copy_7 : cX2_copy.data.toList.drop 162 = dktX2_copy_7 := dk_seg dksX2_copy_6 22 rfl rfl
theorem dksX2_copy_8 : cX2_copy.data.toList.drop 186 = dktX2_copy_8 := dk_seg dksX2_copy_7 24 rfl rfl
theorem dX2_copy_0 : decode cX2_copy 0 = .ok (.new 13, 3) := dk_187 0 13 (dk_at dksX2_copy_0 0 rfl rfl)
theorem dX2_copy_3 : decode cX2_copy 3 = .ok (.dup, 1) := dk_89 (dk_at dksX2_copy_0 3 rfl rfl)
theorem dX2_copy_4 : decode cX2_copy 4 = .ok (.invokespecial 72, 3) := dk_183 0 72 (dk_at dksX2_copy_0 4 rfl rfl)
theorem dX2_copy_7 : decode cX2_copy 7 = .ok (.astore_n 1, 1) := dk_76 (dk_at dksX2_copy_0 7 rfl rfl)
theorem dX2_copy_8 : decode cX2_copy 8 = .ok (.aload_n 1, 1) := dk_43 (dk_at dksX2_copy_0 8 rfl rfl)
theorem dX2_copy_9 : decode cX2_copy 9 = .ok (.aload_n 0, 1) := dk_42 (dk_at dksX2_copy_0 9 rfl rfl)
theorem dX2_copy_10 : decode cX2_copy 10 = .ok (.getfield 12, 3) := dk_180 0 12 (dk_at dksX2_copy_0 10 rfl rfl)
theorem dX2_copy_13 : decode cX2_copy 13 = .ok (.invokevirtual 73, 3) := dk_182 0 73 (dk_at dksX2_copy_0 13 rfl rfl)
theorem dX2_copy_16 : decode cX2_copy 16 = .ok (.putfield 12, 3) := dk_181 0 12 (dk_at dksX2_copy_0 16 rfl rfl)
theorem dX2_copy_19 : decode cX2_copy 19 = .ok (.aload_n 1, 1) := dk_43 (dk_at dksX2_copy_0 19 rfl rfl)
theorem dX2_copy_20 : decode cX2_copy 20 = .ok (.aload_n 0, 1) := dk_42 (dk_at dksX2_copy_0 20 rfl rfl)
theorem dX2_copy_21 : decode cX2_copy 21 = .ok (.getfield 21, 3) := dk_180 0 21 (dk_at dksX2_copy_0 21 rfl rfl)
theorem dX2_copy_24 : decode cX2_copy 24 = .ok (.invokevirtual 77, 3) := dk_182 0 77 (dk_at dksX2_copy_1 0 rfl rfl)
theorem dX2_copy_27 : decode cX2_copy 27 = .ok (.putfield 21, 3) := dk_181 0 21 (dk_at dksX2_copy_1 3 rfl rfl)
theorem dX2_copy_30 : decode cX2_copy 30 = .ok (.aload_n 1, 1) := dk_43 (dk_at dksX2_copy_1 6 rfl rfl)
theorem dX2_copy_31 : decode cX2_copy 31 = .ok (.aload_n 0, 1) := dk_42 (dk_at dksX2_copy_1 7 rfl rfl)
theorem dX2_copy_32 : decode cX2_copy 32 = .ok (.getfield 28, 3) := dk_180 0 28 (dk_at dksX2_copy_1 8 rfl rfl)
theorem dX2_copy_35 : decode cX2_copy 35 = .ok (.invokevirtual 80, 3) := dk_182 0 80 (dk_at dksX2_copy_1 11 rfl rfl)
theorem dX2_copy_38 : decode cX2_copy 38 = .ok (.putfield 28, 3) := dk_181 0 28 (dk_at dksX2_copy_1 14 rfl rfl)
theorem dX2_copy_41 : decode cX2_copy 41 = .ok (.iconst 0, 1) := dk_3 (dk_at dksX2_copy_1 17 rfl rfl)
theorem dX2_copy_42 : decode cX2_copy 42 = .ok (.istore_n 2, 1) := dk_61 (dk_at dksX2_copy_1 18 rfl rfl)
theorem dX2_copy_43 : decode cX2_copy 43 = .ok (.iload_n 2, 1) := dk_28 (dk_at dksX2_copy_1 19 rfl rfl)
theorem dX2_copy_44 : decode cX2_copy 44 = .ok (.aload_n 0, 1) := dk_42 (dk_at dksX2_copy_1 20 rfl rfl)
theorem dX2_copy_45 : decode cX2_copy 45 = .ok (.getfield 35, 3) := dk_180 0 35 (dk_at dksX2_copy_1 21 rfl rfl)
theorem dX2_copy_48 : decode cX2_copy 48 = .ok (.invokevirtual 83, 3) := dk_182 0 83 (dk_at dksX2_copy_2 0 rfl rfl)
theorem dX2_copy_51 : decode cX2_copy 51 = .ok (.if_icmp .ge 28, 3) := dk_162 0 28 (dk_at dksX2_copy_2 3 rfl rfl)
theorem dX2_copy_54 : decode cX2_copy 54 = .ok (.aload_n 1, 1) := dk_43 (dk_at dksX2_copy_2 6 rfl rfl)
theorem dX2_copy_55 : decode cX2_copy 55 = .ok (.getfield 35, 3) := dk_180 0 35 (dk_at dksX2_copy_2 7 rfl rfl)
theorem dX2_copy_58 : decode cX2_copy 58 = .ok (.aload_n 0, 1) := dk_42 (dk_at dksX2_copy_2 10 rfl rfl)
theorem dX2_copy_59 : decode cX2_copy 59 = .ok (.getfield 35, 3) := dk_180 0 35 (dk_at dksX2_copy_2 11 rfl rfl)
theorem dX2_copy_62 : decode cX2_copy 62 = .ok (.iload_n 2, 1) := dk_28 (dk_at dksX2_copy_2 14 rfl rfl)
theorem dX2_copy_63 : decode cX2_copy 63 = .ok (.invokevirtual 87, 3) := dk_182 0 87 (dk_at dksX2_copy_2 15 rfl rfl)
theorem dX2_copy_66 : decode cX2_copy 66 = .ok (.checkcast 91, 3) := dk_192 0 91 (dk_at dksX2_copy_2 18 rfl rfl)
theorem dX2_copy_69 : decode cX2_copy 69 = .ok (.invokevirtual 93, 3) := dk_182 0 93 (dk_at dksX2_copy_2 21 rfl rfl)
theorem dX2_copy_72 : decode cX2_copy 72 = .ok (.pop, 1) := dk_87 (dk_at dksX2_copy_3 0 rfl rfl)
theorem dX2_copy_73 : decode cX2_copy 73 = .ok (.iinc 2 1, 3) := dk_132 2 1 (dk_at dksX2_copy_3 1 rfl rfl)
theorem dX2_copy_76 : decode cX2_copy 76 = .ok (.goto (-33), 3) := dk_167 255 223 (dk_at dksX2_copy_3 4 rfl rfl)
theorem dX2_copy_79 : decode cX2_copy 79 = .ok (.aload_n 0, 1) := dk_42 (dk_at dksX2_copy_3 7 rfl rfl)
theorem dX2_copy_80 : decode cX2_copy 80 = .ok (.getfield 39, 3) := dk_180 0 39 (dk_at dksX2_copy_3 8 rfl rfl)
theorem dX2_copy_83 : decode cX2_copy 83 = .ok (.iconst 0, 1) := dk_3 (dk_at dksX2_copy_3 11 rfl rfl)
theorem dX2_copy_84 : decode cX2_copy 84 = .ok (.aload_n 1, 1) := dk_43 (dk_at dksX2_copy_3 12 rfl rfl)
theorem dX2_copy_85 : decode cX2_copy 85 = .ok (.getfield 39, 3) := dk_180 0 39 (dk_at dksX2_copy_3 13 rfl rfl)
theorem dX2_copy_88 : decode cX2_copy 88 = .ok (.iconst 0, 1) := dk_3 (dk_at dksX2_copy_3 16 rfl rfl)
theorem dX2_copy_89 : decode cX2_copy 89 = .ok (.bipush 50, 2) := dk_16 50 (dk_at dksX2_copy_3 17 rfl rfl)
theorem dX2_copy_91 : decode cX2_copy 91 = .ok (.invokestatic 66, 3) := dk_184 0 66 (dk_at dksX2_copy_3 19 rfl rfl)
theorem dX2_copy_94 : decode cX2_copy 94 = .ok (.aload_n 1, 1) := dk_43 (dk_at dksX2_copy_3 22 rfl rfl)
theorem dX2_copy_95 : decode cX2_copy 95 = .ok (.aload_n 0, 1) := dk_42 (dk_at dksX2_copy_3 23 rfl rfl)
theorem dX2_copy_96 : decode cX2_copy 96 = .ok (.getfield 97, 3) := dk_180 0 97 (dk_at dksX2_copy_4 0 rfl rfl)
theorem dX2_copy_99 : decode cX2_copy 99 = .ok (.putfield 97, 3) := dk_181 0 97 (dk_at dksX2_copy_4 3 rfl rfl)
theorem dX2_copy_102 : decode cX2_copy 102 = .ok (.aload_n 0, 1) := dk_42 (dk_at dksX2_copy_4 6 rfl rfl)
theorem dX2_copy_103 : decode cX2_copy 103 = .ok (.getfield 43, 3) := dk_180 0 43 (dk_at dksX2_copy_4 7 rfl rfl)
theorem dX2_copy_106 : decode cX2_copy 106 = .ok (.aload_n 1, 1) := dk_43 (dk_at dksX2_copy_4 10 rfl rfl)
theorem dX2_copy_107 : decode cX2_copy 107 = .ok (.getfield 43, 3) := dk_180 0 43 (dk_at dksX2_copy_4 11 rfl rfl)
theorem dX2_copy_110 : decode cX2_copy 110 = .ok (.invokestatic 100, 3) := dk_184 0 100 (dk_at dksX2_copy_4 14 rfl rfl)
theorem dX2_copy_113 : decode cX2_copy 113 = .ok (.aload_n 0, 1) := dk_42 (dk_at dksX2_copy_4 17 rfl rfl)
theorem dX2_copy_114 : decode cX2_copy 114 = .ok (.getfield 47, 3) := dk_180 0 47 (dk_at dksX2_copy_4 18 rfl rfl)
theorem dX2_copy_117 : decode cX2_copy 117 = .ok (.aload_n 1, 1) := dk_43 (dk_at dksX2_copy_4 21 rfl rfl)
theorem dX2_copy_118 : decode cX2_copy 118 = .ok (.getfield 47, 3) := dk_180 0 47 (dk_at dksX2_copy_5 0 rfl rfl)
theorem dX2_copy_121 : decode cX2_copy 121 = .ok (.invokestatic 100, 3) := dk_184 0 100 (dk_at dksX2_copy_5 3 rfl rfl)
theorem dX2_copy_124 : decode cX2_copy 124 = .ok (.aload_n 0, 1) := dk_42 (dk_at dksX2_copy_5 6 rfl rfl)
theorem dX2_copy_125 : decode cX2_copy 125 = .ok (.getfield 50, 3) := dk_180 0 50 (dk_at dksX2_copy_5 7 rfl rfl)
theorem dX2_copy_128 : decode cX2_copy 128 = .ok (.aload_n 1, 1) := dk_43 (dk_at dksX2_copy_5 10 rfl rfl)
theorem dX2_copy_129 : decode cX2_copy 129 = .ok (.getfield 50, 3) := dk_180 0 50 (dk_at dksX2_copy_5 11 rfl rfl)
theorem dX2_copy_132 : decode cX2_copy 132 = .ok (.invokestatic 100, 3) := dk_184 0 100 (dk_at dksX2_copy_5 14 rfl rfl)
theorem dX2_copy_135 : decode cX2_copy 135 = .ok (.aload_n 0, 1) := dk_42 (dk_at dksX2_copy_5 17 rfl rfl)
theorem dX2_copy_136 : decode cX2_copy 136 = .ok (.getfield 53, 3) := dk_180 0 53 (dk_at dksX2_copy_5 18 rfl rfl)
theorem dX2_copy_139 : decode cX2_copy 139 = .ok (.aload_n 1, 1) := dk_43 (dk_at dksX2_copy_5 21 rfl rfl)
theorem dX2_copy_140 : decode cX2_copy 140 = .ok (.getfield 53, 3) := dk_180 0 53 (dk_at dksX2_copy_6 0 rfl rfl)
theorem dX2_copy_143 : decode cX2_copy 143 = .ok (.invokestatic 100, 3) := dk_184 0 100 (dk_at dksX2_copy_6 3 rfl rfl)
theorem dX2_copy_146 : decode cX2_copy 146 = .ok (.aload_n 0, 1) := dk_42 (dk_at dksX2_copy_6 6 rfl rfl)
theorem dX2_copy_147 : decode cX2_copy 147 = .ok (.getfield 56, 3) := dk_180 0 56 (dk_at dksX2_copy_6 7 rfl rfl)
theorem dX2_copy_150 : decode cX2_copy 150 = .ok (.aload_n 1, 1) := dk_43 (dk_at dksX2_copy_6 10 rfl rfl)
theorem dX2_copy_151 : decode cX2_copy 151 = .ok (.getfield 56, 3) := dk_180 0 56 (dk_at dksX2_copy_6 11 rfl rfl)
theorem dX2_copy_154 : decode cX2_copy 154 = .ok (.invokestatic 100, 3) := dk_184 0 100 (dk_at dksX2_copy_6 14 rfl rfl)
theorem dX2_copy_157 : decode cX2_copy 157 = .ok (.aload_n 1, 1) := dk_43 (dk_at dksX2_copy_6 17 rfl rfl)
theorem dX2_copy_158 : decode cX2_copy 158 = .ok (.aload_n 0, 1) := dk_42 (dk_at dksX2_copy_6 18 rfl rfl)
theorem dX2_copy_159 : decode cX2_copy 159 = .ok (.getfield 104, 3) := dk_180 0 104 (dk_at dksX2_copy_6 19 rfl rfl)
theorem dX2_copy_162 : decode cX2_copy 162 = .ok (.putfield 104, 3) := dk_181 0 104 (dk_at dksX2_copy_7 0 rfl rfl)
theorem dX2_copy_165 : decode cX2_copy 165 = .ok (.aload_n 1, 1) := dk_43 (dk_at dksX2_copy_7 3 rfl rfl)
theorem dX2_copy_166 : decode cX2_copy 166 = .ok (.aload_n 0, 1) := dk_42 (dk_at dksX2_copy_7 4 rfl rfl)
theorem dX2_copy_167 : decode cX2_copy 167 = .ok (.getfield 107, 3) := dk_180 0 107 (dk_at dksX2_copy_7 5 rfl rfl)
theorem dX2_copy_170 : decode cX2_copy 170 = .ok (.putfield 107, 3) := dk_181 0 107 (dk_at dksX2_copy_7 8 rfl rfl)
theorem dX2_copy_173 : decode cX2_copy 173 = .ok (.aload_n 1, 1) := dk_43 (dk_at dksX2_copy_7 11 rfl rfl)
theorem dX2_copy_174 : decode cX2_copy 174 = .ok (.aload_n 0, 1) := dk_42 (dk_at dksX2_copy_7 12 rfl rfl)
theorem dX2_copy_175 : decode cX2_copy 175 = .ok (.getfield 110, 3) := dk_180 0 110 (dk_at dksX2_copy_7 13 rfl rfl)
theorem dX2_copy_178 : decode cX2_copy 178 = .ok (.putfield 110, 3) := dk_181 0 110 (dk_at dksX2_copy_7 16 rfl rfl)
theorem dX2_copy_181 : decode cX2_copy 181 = .ok (.aload_n 1, 1) := dk_43 (dk_at dksX2_copy_7 19 rfl rfl)
theorem dX2_copy_182 : decode cX2_copy 182 = .ok (.aload_n 0, 1) := dk_42 (dk_at dksX2_copy_7 20 rfl rfl)
theorem dX2_copy_183 : decode cX2_copy 183 = .ok (.getfield 59, 3) := dk_180 0 59 (dk_at dksX2_copy_7 21 rfl rfl)
theorem dX2_copy_186 : decode cX2_copy 186 = .ok (.putfield 59, 3) := dk_181 0 59 (dk_at dksX2_copy_8 0 rfl rfl)
theorem dX2_copy_189 : decode cX2_copy 189 = .ok (.aload_n 0, 1) := dk_42 (dk_at dksX2_copy_8 3 rfl rfl)
theorem dX2_copy_190 : decode cX2_copy 190 = .ok (.getfield 63, 3) := dk_180 0 63 (dk_at dksX2_copy_8 4 rfl rfl)
theorem dX2_copy_193 : decode cX2_copy 193 = .ok (.aload_n 1, 1) := dk_43 (dk_at dksX2_copy_8 7 rfl rfl)
theorem dX2_copy_194 : decode cX2_copy 194 = .ok (.getfield 63, 3) := dk_180 0 63 (dk_at dksX2_copy_8 8 rfl rfl)
theorem dX2_copy_197 : decode cX2_copy 197 = .ok (.invokestatic 100, 3) := dk_184 0 100 (dk_at dksX2_copy_8 11 rfl rfl)
theorem dX2_copy_200 : decode cX2_copy 200 = .ok (.aload_n 1, 1) := dk_43 (dk_at dksX2_copy_8 14 rfl rfl)
theorem dX2_copy_201 : decode cX2_copy 201 = .ok (.aload_n 0, 1) := dk_42 (dk_at dksX2_copy_8 15 rfl rfl)
theorem dX2_copy_202 : decode cX2_copy 202 = .ok (.getfield 113, 3) := dk_180 0 113 (dk_at dksX2_copy_8 16 rfl rfl)
theorem dX2_copy_205 : decode cX2_copy 205 = .ok (.putfield 113, 3) := dk_181 0 113 (dk_at dksX2_copy_8 19 rfl rfl)
theorem dX2_copy_208 : decode cX2_copy 208 = .ok (.aload_n 1, 1) := dk_43 (dk_at dksX2_copy_8 22 rfl rfl)
theorem dX2_copy_209 : decode cX2_copy 209 = .ok (.areturn, 1) := dk_176 (dk_at dksX2_copy_8 23 rfl rfl)
abbrev cX2_copyRow : ByteArray := prog_3_method_2_code
def yX2_copyRow : MethodName := ⟨RX2, "copyRow", "([I[I)V"⟩
def dkwX2_copyRow_0 : List UInt8 := [42, 3, 43, 3, 43, 190, 184, 0, 66, 177]
abbrev dktX2_copyRow_0 : List UInt8 := dkwX2_copyRow_0 ++ []
theorem dksX2_copyRow_0 : cX2_copyRow.data.toList.drop 0 = dktX2_copyRow_0 := by decide +kernel
theorem dX2_copyRow_0 : decode cX2_copyRow 0 = .ok (.aload_n 0, 1) := dk_42 (dk_at dksX2_copyRow_0 0 rfl rfl)
theorem dX2_copyRow_1 : decode cX2_copyRow 1 = .ok (.iconst 0, 1) := dk_3 (dk_at dksX2_copyRow_0 1 rfl rfl)
theorem dX2_copyRow_2 : decode cX2_copyRow 2 = .ok (.aload_n 1, 1) := dk_43 (dk_at dksX2_copyRow_0 2 rfl rfl)
theorem dX2_copyRow_3 : decode cX2_copyRow 3 = .ok (.iconst 0, 1) := dk_3 (dk_at dksX2_copyRow_0 3 rfl rfl)
theorem dX2_copyRow_4 : decode cX2_copyRow 4 = .ok (.aload_n 1, 1) := dk_43 (dk_at dksX2_copyRow_0 4 rfl rfl)
theorem dX2_copyRow_5 : decode cX2_copyRow 5 = .ok (.arraylength, 1) := dk_190 (dk_at dksX2_copyRow_0 5 rfl rfl)
theorem dX2_copyRow_6 : decode cX2_copyRow 6 = .ok (.invokestatic 66, 3) := dk_184 0 66 (dk_at dksX2_copyRow_0 6 rfl rfl)
theorem dX2_copyRow_9 : decode cX2_copyRow 9 = .ok (.return_, 1) := dk_177 (dk_at dksX2_copyRow_0 9 rfl rfl)
theorem q84 : (Jvm.Cond.initialized "LastHatch$Boat") ∈ lw_all := lw_g (lw_at lw_m1 6 rfl) rfl
theorem q205 : (Jvm.Cond.instantiable "LastHatch$Boat" (17 : Nat)) ∈ lw_all := lw_g (lw_at lw_m1 127 rfl) rfl
theorem q207 : (Jvm.Cond.instanceMethod ({ cls := "LastHatch$Boat", name := "<init>", desc := "()V" } : Jvm.MethodName)) ∈ lw_all := lw_g (lw_at lw_m1 129 rfl) rfl
theorem q208 : (Jvm.Cond.code ({ cls := "LastHatch$Boat", name := "<init>", desc := "()V" } : Jvm.MethodName) prog_3_method_1_code (1 : Nat) (Option.none : Option Jvm.ClassFile.FieldType)) ∈ lw_all := lw_g (lw_at lw_m1 130 rfl) rfl
theorem q209 : (Jvm.Cond.methodLink "LastHatch$Boat" (3 : Nat) ({ cls := "java/lang/Object", name := "<init>", desc := "()V" } : Jvm.MethodName)) ∈ lw_all := lw_g (lw_at lw_m1 131 rfl) rfl
theorem q210 : (Jvm.Cond.classLink "LastHatch$Boat" (9 : Nat) "LastHatch$Hull") ∈ lw_all := lw_g (lw_at lw_m1 132 rfl) rfl
theorem q212 : (Jvm.Cond.methodLinkNest "LastHatch$Boat" (11 : Nat) ({ cls := "LastHatch$Hull", name := "<init>", desc := "()V" } : Jvm.MethodName) "LastHatch") ∈ lw_tbl := lw_at lw_m1 134 rfl
theorem q245 : (Jvm.Cond.fieldLinkNest "LastHatch$Boat" (116 : Nat) "LastHatch$Hull" "now" "I" "LastHatch") ∈ lw_tbl := lw_at lw_m1 167 rfl
theorem q291 : (Jvm.Cond.classLink "LastHatch$Boat" (18 : Nat) "LastHatch$Laws") ∈ lw_all := lw_g (lw_at lw_m1 213 rfl) rfl
theorem q293 : (Jvm.Cond.methodLinkNest "LastHatch$Boat" (20 : Nat) ({ cls := "LastHatch$Laws", name := "<init>", desc := "()V" } : Jvm.MethodName) "LastHatch") ∈ lw_tbl := lw_at lw_m1 215 rfl
theorem q318 : (Jvm.Cond.classLink "LastHatch$Boat" (25 : Nat) "LastHatch$Tanks") ∈ lw_all := lw_g (lw_at lw_m2 0 rfl) rfl
theorem q320 : (Jvm.Cond.methodLinkNest "LastHatch$Boat" (27 : Nat) ({ cls := "LastHatch$Tanks", name := "<init>", desc := "()V" } : Jvm.MethodName) "LastHatch") ∈ lw_tbl := lw_at lw_m2 2 rfl
theorem q345 : (Jvm.Cond.classLink "LastHatch$Boat" (32 : Nat) "java/util/ArrayList") ∈ lw_all := lw_g (lw_at lw_m2 27 rfl) rfl
theorem q346 : (Jvm.Cond.methodLink "LastHatch$Boat" (34 : Nat) ({ cls := "java/util/ArrayList", name := "<init>", desc := "()V" } : Jvm.MethodName)) ∈ lw_all := lw_g (lw_at lw_m2 28 rfl) rfl
theorem q347 : (Jvm.Cond.fieldLink "LastHatch$Boat" (12 : Nat) "LastHatch$Boat" "hull" "LLastHatch$Hull;") ∈ lw_all := lw_g (lw_at lw_m2 29 rfl) rfl
theorem q349 : (Jvm.Cond.fieldLink "LastHatch$Boat" (21 : Nat) "LastHatch$Boat" "laws" "LLastHatch$Laws;") ∈ lw_all := lw_g (lw_at lw_m2 31 rfl) rfl
theorem q351 : (Jvm.Cond.fieldLink "LastHatch$Boat" (28 : Nat) "LastHatch$Boat" "tanks" "LLastHatch$Tanks;") ∈ lw_all := lw_g (lw_at lw_m2 33 rfl) rfl
theorem q353 : (Jvm.Cond.fieldLink "LastHatch$Boat" (35 : Nat) "LastHatch$Boat" "ways" "Ljava/util/ArrayList;") ∈ lw_all := lw_g (lw_at lw_m2 35 rfl) rfl
theorem q355 : (Jvm.Cond.fieldLink "LastHatch$Boat" (39 : Nat) "LastHatch$Boat" "tape" "[B") ∈ lw_all := lw_g (lw_at lw_m2 37 rfl) rfl
theorem q357 : (Jvm.Cond.fieldLink "LastHatch$Boat" (97 : Nat) "LastHatch$Boat" "taped" "I") ∈ lw_all := lw_g (lw_at lw_m2 39 rfl) rfl
theorem q359 : (Jvm.Cond.fieldLink "LastHatch$Boat" (43 : Nat) "LastHatch$Boat" "goes" "[I") ∈ lw_all := lw_g (lw_at lw_m2 41 rfl) rfl
theorem q361 : (Jvm.Cond.fieldLink "LastHatch$Boat" (47 : Nat) "LastHatch$Boat" "plans" "[I") ∈ lw_all := lw_g (lw_at lw_m2 43 rfl) rfl
theorem q363 : (Jvm.Cond.fieldLink "LastHatch$Boat" (50 : Nat) "LastHatch$Boat" "planned" "[I") ∈ lw_all := lw_g (lw_at lw_m2 45 rfl) rfl
theorem q365 : (Jvm.Cond.fieldLink "LastHatch$Boat" (53 : Nat) "LastHatch$Boat" "causeOpen" "[I") ∈ lw_all := lw_g (lw_at lw_m2 47 rfl) rfl
theorem q367 : (Jvm.Cond.fieldLink "LastHatch$Boat" (56 : Nat) "LastHatch$Boat" "causeShut" "[I") ∈ lw_all := lw_g (lw_at lw_m2 49 rfl) rfl
theorem q369 : (Jvm.Cond.fieldLink "LastHatch$Boat" (104 : Nat) "LastHatch$Boat" "causes" "I") ∈ lw_all := lw_g (lw_at lw_m2 51 rfl) rfl
theorem q371 : (Jvm.Cond.fieldLink "LastHatch$Boat" (107 : Nat) "LastHatch$Boat" "foundOpen" "I") ∈ lw_all := lw_g (lw_at lw_m2 53 rfl) rfl
theorem q373 : (Jvm.Cond.fieldLink "LastHatch$Boat" (110 : Nat) "LastHatch$Boat" "foundShut" "I") ∈ lw_all := lw_g (lw_at lw_m2 55 rfl) rfl
theorem q375 : (Jvm.Cond.fieldLink "LastHatch$Boat" (59 : Nat) "LastHatch$Boat" "z" "I") ∈ lw_all := lw_g (lw_at lw_m2 57 rfl) rfl
theorem q377 : (Jvm.Cond.fieldLink "LastHatch$Boat" (63 : Nat) "LastHatch$Boat" "waiting" "[I") ∈ lw_all := lw_g (lw_at lw_m2 59 rfl) rfl
theorem q379 : (Jvm.Cond.fieldLink "LastHatch$Boat" (113 : Nat) "LastHatch$Boat" "waits" "I") ∈ lw_all := lw_g (lw_at lw_m2 61 rfl) rfl
theorem q381 : (Jvm.Cond.lays "LastHatch$Boat" "LastHatch$Boat" "hull" "LLastHatch$Hull;") ∈ lw_all := lw_g (lw_at lw_m2 63 rfl) rfl
theorem q382 : (Jvm.Cond.soleField "LastHatch$Boat" "hull") ∈ lw_all := lw_g (lw_at lw_m2 64 rfl) rfl
theorem q383 : (Jvm.Cond.lays "LastHatch$Boat" "LastHatch$Boat" "laws" "LLastHatch$Laws;") ∈ lw_all := lw_g (lw_at lw_m2 65 rfl) rfl
theorem q384 : (Jvm.Cond.soleField "LastHatch$Boat" "laws") ∈ lw_all := lw_g (lw_at lw_m2 66 rfl) rfl
theorem q385 : (Jvm.Cond.lays "LastHatch$Boat" "LastHatch$Boat" "tanks" "LLastHatch$Tanks;") ∈ lw_all := lw_g (lw_at lw_m2 67 rfl) rfl
theorem q386 : (Jvm.Cond.soleField "LastHatch$Boat" "tanks") ∈ lw_all := lw_g (lw_at lw_m2 68 rfl) rfl
theorem q387 : (Jvm.Cond.laysFinal "LastHatch$Boat" "LastHatch$Boat" "ways" "Ljava/util/ArrayList;") ∈ lw_all := lw_g (lw_at lw_m2 69 rfl) rfl
theorem q388 : (Jvm.Cond.soleField "LastHatch$Boat" "ways") ∈ lw_all := lw_g (lw_at lw_m2 70 rfl) rfl
theorem q389 : (Jvm.Cond.laysFinal "LastHatch$Boat" "LastHatch$Boat" "tape" "[B") ∈ lw_all := lw_g (lw_at lw_m2 71 rfl) rfl
theorem q390 : (Jvm.Cond.soleField "LastHatch$Boat" "tape") ∈ lw_all := lw_g (lw_at lw_m2 72 rfl) rfl
theorem q391 : (Jvm.Cond.lays "LastHatch$Boat" "LastHatch$Boat" "taped" "I") ∈ lw_all := lw_g (lw_at lw_m2 73 rfl) rfl
theorem q392 : (Jvm.Cond.soleField "LastHatch$Boat" "taped") ∈ lw_all := lw_g (lw_at lw_m2 74 rfl) rfl
theorem q393 : (Jvm.Cond.laysFinal "LastHatch$Boat" "LastHatch$Boat" "goes" "[I") ∈ lw_all := lw_g (lw_at lw_m2 75 rfl) rfl
theorem q394 : (Jvm.Cond.soleField "LastHatch$Boat" "goes") ∈ lw_all := lw_g (lw_at lw_m2 76 rfl) rfl
theorem q395 : (Jvm.Cond.laysFinal "LastHatch$Boat" "LastHatch$Boat" "plans" "[I") ∈ lw_all := lw_g (lw_at lw_m2 77 rfl) rfl
theorem q396 : (Jvm.Cond.soleField "LastHatch$Boat" "plans") ∈ lw_all := lw_g (lw_at lw_m2 78 rfl) rfl
theorem q397 : (Jvm.Cond.laysFinal "LastHatch$Boat" "LastHatch$Boat" "planned" "[I") ∈ lw_all := lw_g (lw_at lw_m2 79 rfl) rfl
theorem q398 : (Jvm.Cond.soleField "LastHatch$Boat" "planned") ∈ lw_all := lw_g (lw_at lw_m2 80 rfl) rfl
theorem q399 : (Jvm.Cond.laysFinal "LastHatch$Boat" "LastHatch$Boat" "causeOpen" "[I") ∈ lw_all := lw_g (lw_at lw_m2 81 rfl) rfl
theorem q400 : (Jvm.Cond.soleField "LastHatch$Boat" "causeOpen") ∈ lw_all := lw_g (lw_at lw_m2 82 rfl) rfl
theorem q401 : (Jvm.Cond.laysFinal "LastHatch$Boat" "LastHatch$Boat" "causeShut" "[I") ∈ lw_all := lw_g (lw_at lw_m2 83 rfl) rfl
theorem q402 : (Jvm.Cond.soleField "LastHatch$Boat" "causeShut") ∈ lw_all := lw_g (lw_at lw_m2 84 rfl) rfl
theorem q403 : (Jvm.Cond.lays "LastHatch$Boat" "LastHatch$Boat" "causes" "I") ∈ lw_all := lw_g (lw_at lw_m2 85 rfl) rfl
theorem q404 : (Jvm.Cond.soleField "LastHatch$Boat" "causes") ∈ lw_all := lw_g (lw_at lw_m2 86 rfl) rfl
theorem q405 : (Jvm.Cond.lays "LastHatch$Boat" "LastHatch$Boat" "foundOpen" "I") ∈ lw_all := lw_g (lw_at lw_m2 87 rfl) rfl
theorem q406 : (Jvm.Cond.soleField "LastHatch$Boat" "foundOpen") ∈ lw_all := lw_g (lw_at lw_m2 88 rfl) rfl
theorem q407 : (Jvm.Cond.lays "LastHatch$Boat" "LastHatch$Boat" "foundShut" "I") ∈ lw_all := lw_g (lw_at lw_m2 89 rfl) rfl
theorem q408 : (Jvm.Cond.soleField "LastHatch$Boat" "foundShut") ∈ lw_all := lw_g (lw_at lw_m2 90 rfl) rfl
theorem q409 : (Jvm.Cond.lays "LastHatch$Boat" "LastHatch$Boat" "z" "I") ∈ lw_all := lw_g (lw_at lw_m2 91 rfl) rfl
theorem q410 : (Jvm.Cond.soleField "LastHatch$Boat" "z") ∈ lw_all := lw_g (lw_at lw_m2 92 rfl) rfl
theorem q411 : (Jvm.Cond.laysFinal "LastHatch$Boat" "LastHatch$Boat" "waiting" "[I") ∈ lw_all := lw_g (lw_at lw_m2 93 rfl) rfl
theorem q412 : (Jvm.Cond.soleField "LastHatch$Boat" "waiting") ∈ lw_all := lw_g (lw_at lw_m2 94 rfl) rfl
theorem q413 : (Jvm.Cond.lays "LastHatch$Boat" "LastHatch$Boat" "waits" "I") ∈ lw_all := lw_g (lw_at lw_m2 95 rfl) rfl
theorem q414 : (Jvm.Cond.soleField "LastHatch$Boat" "waits") ∈ lw_all := lw_g (lw_at lw_m2 96 rfl) rfl
theorem q415 : (Jvm.Cond.superclass "LastHatch$Boat" "java/lang/Object") ∈ lw_all := lw_g (lw_at lw_m2 97 rfl) rfl
theorem q594 : (Jvm.Cond.selects "LastHatch$Boat" ({ cls := "java/lang/Object", name := "getClass", desc := "()Ljava/lang/Class;" } : Jvm.MethodName) ({ cls := "java/lang/Object", name := "getClass", desc := "()Ljava/lang/Class;" } : Jvm.MethodName)) ∈ lw_all := lw_g (lw_at lw_m3 36 rfl) rfl
theorem q1272 : (Jvm.Cond.castable "LastHatch$Boat" "LastHatch$Divers") ∈ lw_tbl := lw_at lw_m5 234 rfl
theorem q1273 : (Jvm.Cond.selects "LastHatch$Boat" ({ cls := "LastHatch$Divers", name := "minutes", desc := "(I)I" } : Jvm.MethodName) ({ cls := "LastHatch$Boat", name := "minutes", desc := "(I)I" } : Jvm.MethodName)) ∈ lw_all := lw_g (lw_at lw_m5 235 rfl) rfl
theorem q1274 : (Jvm.Cond.unhidden "LastHatch$Boat" "minutes" "(I)I") ∈ lw_tbl := lw_at lw_m5 236 rfl
theorem q1275 : (Jvm.Cond.instanceMethod ({ cls := "LastHatch$Boat", name := "minutes", desc := "(I)I" } : Jvm.MethodName)) ∈ lw_all := lw_g (lw_at lw_m5 237 rfl) rfl
theorem q1276 : (Jvm.Cond.publicMethod ({ cls := "LastHatch$Boat", name := "minutes", desc := "(I)I" } : Jvm.MethodName)) ∈ lw_tbl := lw_at lw_m5 238 rfl
theorem q1277 : (Jvm.Cond.code ({ cls := "LastHatch$Boat", name := "minutes", desc := "(I)I" } : Jvm.MethodName) prog_3_method_4_code (4 : Nat) (Option.some Jvm.ClassFile.FieldType.int)) ∈ lw_all := lw_g (lw_at lw_m5 239 rfl) rfl
theorem q1278 : (Jvm.Cond.methodLink "LastHatch$Boat" (119 : Nat) ({ cls := "LastHatch$Laws", name := "isTide", desc := "(I)Z" } : Jvm.MethodName)) ∈ lw_all := lw_g (lw_at lw_m6 0 rfl) rfl
theorem q1529 : (Jvm.Cond.instanceMethod ({ cls := "LastHatch$Boat", name := "placesAt", desc := "(II)I" } : Jvm.MethodName)) ∈ lw_all := lw_g (lw_at lw_m7 11 rfl) rfl
theorem q1530 : (Jvm.Cond.selects "LastHatch$Boat" ({ cls := "LastHatch$Boat", name := "placesAt", desc := "(II)I" } : Jvm.MethodName) ({ cls := "LastHatch$Boat", name := "placesAt", desc := "(II)I" } : Jvm.MethodName)) ∈ lw_all := lw_g (lw_at lw_m7 12 rfl) rfl
theorem q1531 : (Jvm.Cond.code ({ cls := "LastHatch$Boat", name := "placesAt", desc := "(II)I" } : Jvm.MethodName) prog_3_method_5_code (6 : Nat) (Option.some Jvm.ClassFile.FieldType.int)) ∈ lw_all := lw_g (lw_at lw_m7 13 rfl) rfl
theorem q1532 : (Jvm.Cond.methodLinkNest "LastHatch$Boat" (123 : Nat) ({ cls := "LastHatch", name := "in", desc := "(III)Z" } : Jvm.MethodName) "LastHatch") ∈ lw_tbl := lw_at lw_m7 14 rfl
theorem q1582 : (Jvm.Cond.instanceMethod ({ cls := "LastHatch$Boat", name := "mayBe", desc := "(II)I" } : Jvm.MethodName)) ∈ lw_all := lw_g (lw_at lw_m7 64 rfl) rfl
theorem q1583 : (Jvm.Cond.selects "LastHatch$Boat" ({ cls := "LastHatch$Boat", name := "mayBe", desc := "(II)I" } : Jvm.MethodName) ({ cls := "LastHatch$Boat", name := "mayBe", desc := "(II)I" } : Jvm.MethodName)) ∈ lw_all := lw_g (lw_at lw_m7 65 rfl) rfl
theorem q1584 : (Jvm.Cond.code ({ cls := "LastHatch$Boat", name := "mayBe", desc := "(II)I" } : Jvm.MethodName) prog_3_method_6_code (5 : Nat) (Option.some Jvm.ClassFile.FieldType.int)) ∈ lw_all := lw_g (lw_at lw_m7 66 rfl) rfl
theorem q1604 : (Jvm.Cond.instanceMethod ({ cls := "LastHatch$Boat", name := "draw", desc := "()I" } : Jvm.MethodName)) ∈ lw_all := lw_g (lw_at lw_m7 86 rfl) rfl
theorem q1605 : (Jvm.Cond.selects "LastHatch$Boat" ({ cls := "LastHatch$Boat", name := "draw", desc := "()I" } : Jvm.MethodName) ({ cls := "LastHatch$Boat", name := "draw", desc := "()I" } : Jvm.MethodName)) ∈ lw_all := lw_g (lw_at lw_m7 87 rfl) rfl
theorem q1606 : (Jvm.Cond.code ({ cls := "LastHatch$Boat", name := "draw", desc := "()I" } : Jvm.MethodName) prog_3_method_7_code (1 : Nat) (Option.some Jvm.ClassFile.FieldType.int)) ∈ lw_all := lw_g (lw_at lw_m7 88 rfl) rfl
theorem q1607 : (Jvm.Cond.constant "LastHatch$Boat" (127 : Nat) (1103515245 : Int32)) ∈ lw_all := lw_g (lw_at lw_m7 89 rfl) rfl
theorem q1873 : (Jvm.Cond.instanceMethod ({ cls := "LastHatch$Boat", name := "copy", desc := "()LLastHatch$Boat;" } : Jvm.MethodName)) ∈ lw_all := lw_g (lw_at lw_m8 115 rfl) rfl
theorem q1874 : (Jvm.Cond.selects "LastHatch$Boat" ({ cls := "LastHatch$Boat", name := "copy", desc := "()LLastHatch$Boat;" } : Jvm.MethodName) ({ cls := "LastHatch$Boat", name := "copy", desc := "()LLastHatch$Boat;" } : Jvm.MethodName)) ∈ lw_all := lw_g (lw_at lw_m8 116 rfl) rfl
theorem q1875 : (Jvm.Cond.code ({ cls := "LastHatch$Boat", name := "copy", desc := "()LLastHatch$Boat;" } : Jvm.MethodName) prog_3_method_3_code (3 : Nat) (Option.some (Jvm.ClassFile.FieldType.object "LastHatch$Boat"))) ∈ lw_all := lw_g (lw_at lw_m8 117 rfl) rfl
theorem q1876 : (Jvm.Cond.classLink "LastHatch$Boat" (13 : Nat) "LastHatch$Boat") ∈ lw_all := lw_g (lw_at lw_m8 118 rfl) rfl
theorem q1877 : (Jvm.Cond.methodLink "LastHatch$Boat" (72 : Nat) ({ cls := "LastHatch$Boat", name := "<init>", desc := "()V" } : Jvm.MethodName)) ∈ lw_all := lw_g (lw_at lw_m8 119 rfl) rfl
theorem q1878 : (Jvm.Cond.methodLink "LastHatch$Boat" (73 : Nat) ({ cls := "LastHatch$Hull", name := "copy", desc := "()LLastHatch$Hull;" } : Jvm.MethodName)) ∈ lw_all := lw_g (lw_at lw_m8 120 rfl) rfl
theorem q1879 : (Jvm.Cond.methodLink "LastHatch$Boat" (77 : Nat) ({ cls := "LastHatch$Laws", name := "copy", desc := "()LLastHatch$Laws;" } : Jvm.MethodName)) ∈ lw_all := lw_g (lw_at lw_m8 121 rfl) rfl
theorem q1886 : (Jvm.Cond.methodLink "LastHatch$Boat" (80 : Nat) ({ cls := "LastHatch$Tanks", name := "copy", desc := "()LLastHatch$Tanks;" } : Jvm.MethodName)) ∈ lw_all := lw_g (lw_at lw_m8 128 rfl) rfl
theorem q1893 : (Jvm.Cond.methodLink "LastHatch$Boat" (83 : Nat) ({ cls := "java/util/ArrayList", name := "size", desc := "()I" } : Jvm.MethodName)) ∈ lw_all := lw_g (lw_at lw_m8 135 rfl) rfl
theorem q1894 : (Jvm.Cond.methodLink "LastHatch$Boat" (87 : Nat) ({ cls := "java/util/ArrayList", name := "get", desc := "(I)Ljava/lang/Object;" } : Jvm.MethodName)) ∈ lw_all := lw_g (lw_at lw_m8 136 rfl) rfl
theorem q1895 : (Jvm.Cond.classLink "LastHatch$Boat" (91 : Nat) "LastHatch$Way") ∈ lw_all := lw_g (lw_at lw_m8 137 rfl) rfl
theorem q1896 : (Jvm.Cond.methodLink "LastHatch$Boat" (93 : Nat) ({ cls := "java/util/ArrayList", name := "add", desc := "(Ljava/lang/Object;)Z" } : Jvm.MethodName)) ∈ lw_all := lw_g (lw_at lw_m8 138 rfl) rfl
theorem q1897 : (Jvm.Cond.methodLink "LastHatch$Boat" (66 : Nat) ({ cls := "java/lang/System", name := "arraycopy", desc := "(Ljava/lang/Object;ILjava/lang/Object;II)V" } : Jvm.MethodName)) ∈ lw_all := lw_g (lw_at lw_m8 139 rfl) rfl
theorem q1898 : (Jvm.Cond.methodLink "LastHatch$Boat" (100 : Nat) ({ cls := "LastHatch$Boat", name := "copyRow", desc := "([I[I)V" } : Jvm.MethodName)) ∈ lw_all := lw_g (lw_at lw_m8 140 rfl) rfl
theorem q1899 : (Jvm.Cond.static ({ cls := "LastHatch$Boat", name := "copyRow", desc := "([I[I)V" } : Jvm.MethodName)) ∈ lw_all := lw_g (lw_at lw_m8 141 rfl) rfl
theorem q1900 : (Jvm.Cond.code ({ cls := "LastHatch$Boat", name := "copyRow", desc := "([I[I)V" } : Jvm.MethodName) prog_3_method_2_code (2 : Nat) (Option.none : Option Jvm.ClassFile.FieldType)) ∈ lw_all := lw_g (lw_at lw_m8 142 rfl) rfl
theorem q2535 : (Jvm.Cond.castable "LastHatch$Boat" "java/lang/Object") ∈ lw_tbl := lw_at lw_m11 57 rfl
theorem in_X2 : ∀ w ∈ wsX20, w ∈ lw_all := lw_in wsX20 [381, 383, 385, 387, 389, 391, 393, 395, 397, 399, 401, 403, 405, 407, 409, 411, 413] (by decide +kernel) (by decide +kernel)

/-! LastHatch$Hull -/
set_option maxRecDepth 100000
def RX3 : String := "LastHatch$Hull"
def TX3 : u_T := fun k => match k with
  | 0 => ("LastHatch$Hull", "now", "I", false)
  | 1 => ("LastHatch$Hull", "depth", "I", false)
  | 2 => ("LastHatch$Hull", "limit", "I", false)
  | 3 => ("LastHatch$Hull", "water", "[I", true)
  | 4 => ("LastHatch$Hull", "poison", "[I", true)
  | 5 => ("LastHatch$Hull", "doors", "I", false)
  | 6 => ("LastHatch$Hull", "valveRoom", "[I", true)
  | 7 => ("LastHatch$Hull", "width", "[I", true)
  | 8 => ("LastHatch$Hull", "valves", "I", false)
  | 9 => ("LastHatch$Hull", "open", "I", false)
  | _ => ("LastHatch$Hull", "men", "Ljava/util/ArrayList;", true)
def tyX3 : Nat → FieldType := fun k => match k with
  | 0 => .int
  | 1 => .int
  | 2 => .int
  | 3 => .array .int
  | 4 => .array .int
  | 5 => .int
  | 6 => .array .int
  | 7 => .array .int
  | 8 => .int
  | 9 => .int
  | _ => .object "java/util/ArrayList"
abbrev wsX30 : List Cond := u_ws RX3 TX3 11
theorem nmX3 : ∀ a, a < 11 → ∀ b, b < 11 → a ≠ b → (TX3 a).2.1 ≠ (TX3 b).2.1 := by decide +kernel
theorem tyX3_ok : ∀ k, k < 11 → parseFieldDescriptor (TX3 k).2.2.1 = some (tyX3 k) := by decide +kernel
abbrev cX3_init : ByteArray := prog_11_method_1_code
def yX3_init : MethodName := ⟨RX3, "<init>", "()V"⟩
def dkwX3_init_2 : List UInt8 := [181, 0, 28, 42, 16, 12, 188, 10, 181, 0, 31, 42, 187, 0, 34, 89, 183, 0, 36, 181, 0, 37, 177]
abbrev dktX3_init_2 : List UInt8 := dkwX3_init_2 ++ []
def dkwX3_init_1 : List UInt8 := [181, 0, 18, 42, 16, 8, 188, 10, 181, 0, 22, 42, 16, 127, 181, 0, 25, 42, 16, 12, 188, 10]
abbrev dktX3_init_1 : List UInt8 := dkwX3_init_1 ++ dktX3_init_2
def dkwX3_init_0 : List UInt8 := [42, 183, 0, 3, 42, 16, 100, 181, 0, 9, 42, 17, 3, 232, 181, 0, 15, 42, 16, 8, 188, 10]
abbrev dktX3_init_0 : List UInt8 := dkwX3_init_0 ++ dktX3_init_1
theorem dksX3_init_0 : cX3_init.data.toList.drop 0 = dktX3_init_0 := by decide +kernel
theorem dksX3_init_1 : cX3_init.data.toList.drop 22 = dktX3_init_1 := dk_seg dksX3_init_0 22 rfl rfl
theorem dksX3_init_2 : cX3_init.data.toList.drop 44 = dktX3_init_2 := dk_seg dksX3_init_1 22 rfl rfl
theorem dX3_init_0 : decode cX3_init 0 = .ok (.aload_n 0, 1) := dk_42 (dk_at dksX3_init_0 0 rfl rfl)
theorem dX3_init_1 : decode cX3_init 1 = .ok (.invokespecial 3, 3) := dk_183 0 3 (dk_at dksX3_init_0 1 rfl rfl)
theorem dX3_init_4 : decode cX3_init 4 = .ok (.aload_n 0, 1) := dk_42 (dk_at dksX3_init_0 4 rfl rfl)
theorem dX3_init_5 : decode cX3_init 5 = .ok (.bipush 100, 2) := dk_16 100 (dk_at dksX3_init_0 5 rfl rfl)
theorem dX3_init_7 : decode cX3_init 7 = .ok (.putfield 9, 3) := dk_181 0 9 (dk_at dksX3_init_0 7 rfl rfl)
theorem dX3_init_10 : decode cX3_init 10 = .ok (.aload_n 0, 1) := dk_42 (dk_at dksX3_init_0 10 rfl rfl)
theorem dX3_init_11 : decode cX3_init 11 = .ok (.sipush 1000, 3) := dk_17 3 232 (dk_at dksX3_init_0 11 rfl rfl)
theorem dX3_init_14 : decode cX3_init 14 = .ok (.putfield 15, 3) := dk_181 0 15 (dk_at dksX3_init_0 14 rfl rfl)
theorem dX3_init_17 : decode cX3_init 17 = .ok (.aload_n 0, 1) := dk_42 (dk_at dksX3_init_0 17 rfl rfl)
theorem dX3_init_18 : decode cX3_init 18 = .ok (.bipush 8, 2) := dk_16 8 (dk_at dksX3_init_0 18 rfl rfl)
theorem dX3_init_20 : decode cX3_init 20 = .ok (.newarray .int, 2) := dk_188_10 (dk_at dksX3_init_0 20 rfl rfl)
theorem dX3_init_22 : decode cX3_init 22 = .ok (.putfield 18, 3) := dk_181 0 18 (dk_at dksX3_init_1 0 rfl rfl)
theorem dX3_init_25 : decode cX3_init 25 = .ok (.aload_n 0, 1) := dk_42 (dk_at dksX3_init_1 3 rfl rfl)
theorem dX3_init_26 : decode cX3_init 26 = .ok (.bipush 8, 2) := dk_16 8 (dk_at dksX3_init_1 4 rfl rfl)
theorem dX3_init_28 : decode cX3_init 28 = .ok (.newarray .int, 2) := dk_188_10 (dk_at dksX3_init_1 6 rfl rfl)
theorem dX3_init_30 : decode cX3_init 30 = .ok (.putfield 22, 3) := dk_181 0 22 (dk_at dksX3_init_1 8 rfl rfl)
theorem dX3_init_33 : decode cX3_init 33 = .ok (.aload_n 0, 1) := dk_42 (dk_at dksX3_init_1 11 rfl rfl)
theorem dX3_init_34 : decode cX3_init 34 = .ok (.bipush 127, 2) := dk_16 127 (dk_at dksX3_init_1 12 rfl rfl)
theorem dX3_init_36 : decode cX3_init 36 = .ok (.putfield 25, 3) := dk_181 0 25 (dk_at dksX3_init_1 14 rfl rfl)
theorem dX3_init_39 : decode cX3_init 39 = .ok (.aload_n 0, 1) := dk_42 (dk_at dksX3_init_1 17 rfl rfl)
theorem dX3_init_40 : decode cX3_init 40 = .ok (.bipush 12, 2) := dk_16 12 (dk_at dksX3_init_1 18 rfl rfl)
theorem dX3_init_42 : decode cX3_init 42 = .ok (.newarray .int, 2) := dk_188_10 (dk_at dksX3_init_1 20 rfl rfl)
theorem dX3_init_44 : decode cX3_init 44 = .ok (.putfield 28, 3) := dk_181 0 28 (dk_at dksX3_init_2 0 rfl rfl)
theorem dX3_init_47 : decode cX3_init 47 = .ok (.aload_n 0, 1) := dk_42 (dk_at dksX3_init_2 3 rfl rfl)
theorem dX3_init_48 : decode cX3_init 48 = .ok (.bipush 12, 2) := dk_16 12 (dk_at dksX3_init_2 4 rfl rfl)
theorem dX3_init_50 : decode cX3_init 50 = .ok (.newarray .int, 2) := dk_188_10 (dk_at dksX3_init_2 6 rfl rfl)
theorem dX3_init_52 : decode cX3_init 52 = .ok (.putfield 31, 3) := dk_181 0 31 (dk_at dksX3_init_2 8 rfl rfl)
theorem dX3_init_55 : decode cX3_init 55 = .ok (.aload_n 0, 1) := dk_42 (dk_at dksX3_init_2 11 rfl rfl)
theorem dX3_init_56 : decode cX3_init 56 = .ok (.new 34, 3) := dk_187 0 34 (dk_at dksX3_init_2 12 rfl rfl)
theorem dX3_init_59 : decode cX3_init 59 = .ok (.dup, 1) := dk_89 (dk_at dksX3_init_2 15 rfl rfl)
theorem dX3_init_60 : decode cX3_init 60 = .ok (.invokespecial 36, 3) := dk_183 0 36 (dk_at dksX3_init_2 16 rfl rfl)
theorem dX3_init_63 : decode cX3_init 63 = .ok (.putfield 37, 3) := dk_181 0 37 (dk_at dksX3_init_2 19 rfl rfl)
theorem dX3_init_66 : decode cX3_init 66 = .ok (.return_, 1) := dk_177 (dk_at dksX3_init_2 22 rfl rfl)
abbrev cX3_menIn : ByteArray := prog_11_method_8_code
def yX3_menIn : MethodName := ⟨RX3, "menIn", "(I)I"⟩
def dkwX3_menIn_2 : List UInt8 := [167, 255, 214, 28, 172]
abbrev dktX3_menIn_2 : List UInt8 := dkwX3_menIn_2 ++ []
def dkwX3_menIn_1 : List UInt8 := [192, 0, 65, 27, 182, 0, 115, 153, 0, 9, 4, 29, 120, 167, 0, 4, 3, 128, 61, 132, 3, 1]
abbrev dktX3_menIn_1 : List UInt8 := dkwX3_menIn_1 ++ dktX3_menIn_2
def dkwX3_menIn_0 : List UInt8 := [3, 61, 3, 62, 29, 42, 180, 0, 37, 182, 0, 57, 162, 0, 37, 28, 42, 180, 0, 37, 29, 182, 0, 61]
abbrev dktX3_menIn_0 : List UInt8 := dkwX3_menIn_0 ++ dktX3_menIn_1
theorem dksX3_menIn_0 : cX3_menIn.data.toList.drop 0 = dktX3_menIn_0 := by decide +kernel
theorem dksX3_menIn_1 : cX3_menIn.data.toList.drop 24 = dktX3_menIn_1 := dk_seg dksX3_menIn_0 24 rfl rfl
theorem dksX3_menIn_2 : cX3_menIn.data.toList.drop 46 = dktX3_menIn_2 := dk_seg dksX3_menIn_1 22 rfl rfl
theorem dX3_menIn_0 : decode cX3_menIn 0 = .ok (.iconst 0, 1) := dk_3 (dk_at dksX3_menIn_0 0 rfl rfl)
theorem dX3_menIn_1 : decode cX3_menIn 1 = .ok (.istore_n 2, 1) := dk_61 (dk_at dksX3_menIn_0 1 rfl rfl)
theorem dX3_menIn_2 : decode cX3_menIn 2 = .ok (.iconst 0, 1) := dk_3 (dk_at dksX3_menIn_0 2 rfl rfl)
theorem dX3_menIn_3 : decode cX3_menIn 3 = .ok (.istore_n 3, 1) := dk_62 (dk_at dksX3_menIn_0 3 rfl rfl)
theorem dX3_menIn_4 : decode cX3_menIn 4 = .ok (.iload_n 3, 1) := dk_29 (dk_at dksX3_menIn_0 4 rfl rfl)
theorem dX3_menIn_5 : decode cX3_menIn 5 = .ok (.aload_n 0, 1) := dk_42 (dk_at dksX3_menIn_0 5 rfl rfl)
theorem dX3_menIn_6 : decode cX3_menIn 6 = .ok (.getfield 37, 3) := dk_180 0 37 (dk_at dksX3_menIn_0 6 rfl rfl)
theorem dX3_menIn_9 : decode cX3_menIn 9 = .ok (.invokevirtual 57, 3) := dk_182 0 57 (dk_at dksX3_menIn_0 9 rfl rfl)
theorem dX3_menIn_12 : decode cX3_menIn 12 = .ok (.if_icmp .ge 37, 3) := dk_162 0 37 (dk_at dksX3_menIn_0 12 rfl rfl)
theorem dX3_menIn_15 : decode cX3_menIn 15 = .ok (.iload_n 2, 1) := dk_28 (dk_at dksX3_menIn_0 15 rfl rfl)
theorem dX3_menIn_16 : decode cX3_menIn 16 = .ok (.aload_n 0, 1) := dk_42 (dk_at dksX3_menIn_0 16 rfl rfl)
theorem dX3_menIn_17 : decode cX3_menIn 17 = .ok (.getfield 37, 3) := dk_180 0 37 (dk_at dksX3_menIn_0 17 rfl rfl)
theorem dX3_menIn_20 : decode cX3_menIn 20 = .ok (.iload_n 3, 1) := dk_29 (dk_at dksX3_menIn_0 20 rfl rfl)
theorem dX3_menIn_21 : decode cX3_menIn 21 = .ok (.invokevirtual 61, 3) := dk_182 0 61 (dk_at dksX3_menIn_0 21 rfl rfl)
theorem dX3_menIn_24 : decode cX3_menIn 24 = .ok (.checkcast 65, 3) := dk_192 0 65 (dk_at dksX3_menIn_1 0 rfl rfl)
theorem dX3_menIn_27 : decode cX3_menIn 27 = .ok (.iload_n 1, 1) := dk_27 (dk_at dksX3_menIn_1 3 rfl rfl)
theorem dX3_menIn_28 : decode cX3_menIn 28 = .ok (.invokevirtual 115, 3) := dk_182 0 115 (dk_at dksX3_menIn_1 4 rfl rfl)
theorem dX3_menIn_31 : decode cX3_menIn 31 = .ok (.ifCond .eq 9, 3) := dk_153 0 9 (dk_at dksX3_menIn_1 7 rfl rfl)
theorem dX3_menIn_34 : decode cX3_menIn 34 = .ok (.iconst 1, 1) := dk_4 (dk_at dksX3_menIn_1 10 rfl rfl)
theorem dX3_menIn_35 : decode cX3_menIn 35 = .ok (.iload_n 3, 1) := dk_29 (dk_at dksX3_menIn_1 11 rfl rfl)
theorem dX3_menIn_36 : decode cX3_menIn 36 = .ok (.ishl, 1) := dk_120 (dk_at dksX3_menIn_1 12 rfl rfl)
theorem dX3_menIn_37 : decode cX3_menIn 37 = .ok (.goto 4, 3) := dk_167 0 4 (dk_at dksX3_menIn_1 13 rfl rfl)
theorem dX3_menIn_40 : decode cX3_menIn 40 = .ok (.iconst 0, 1) := dk_3 (dk_at dksX3_menIn_1 16 rfl rfl)
theorem dX3_menIn_41 : decode cX3_menIn 41 = .ok (.ior, 1) := dk_128 (dk_at dksX3_menIn_1 17 rfl rfl)
theorem dX3_menIn_42 : decode cX3_menIn 42 = .ok (.istore_n 2, 1) := dk_61 (dk_at dksX3_menIn_1 18 rfl rfl)
theorem dX3_menIn_43 : decode cX3_menIn 43 = .ok (.iinc 3 1, 3) := dk_132 3 1 (dk_at dksX3_menIn_1 19 rfl rfl)
theorem dX3_menIn_46 : decode cX3_menIn 46 = .ok (.goto (-42), 3) := dk_167 255 214 (dk_at dksX3_menIn_2 0 rfl rfl)
theorem dX3_menIn_49 : decode cX3_menIn 49 = .ok (.iload_n 2, 1) := dk_28 (dk_at dksX3_menIn_2 3 rfl rfl)
theorem dX3_menIn_50 : decode cX3_menIn 50 = .ok (.ireturn, 1) := dk_172 (dk_at dksX3_menIn_2 4 rfl rfl)
abbrev cX3_go : ByteArray := prog_11_method_7_code
def yX3_go : MethodName := ⟨RX3, "go", "(ILLastHatch$Laws;)V"⟩
def dkwX3_go_0 : List UInt8 := [3, 62, 29, 27, 162, 0, 18, 42, 44, 182, 0, 108, 42, 182, 0, 112, 132, 3, 1, 167, 255, 239, 177]
abbrev dktX3_go_0 : List UInt8 := dkwX3_go_0 ++ []
theorem dksX3_go_0 : cX3_go.data.toList.drop 0 = dktX3_go_0 := by decide +kernel
theorem dX3_go_0 : decode cX3_go 0 = .ok (.iconst 0, 1) := dk_3 (dk_at dksX3_go_0 0 rfl rfl)
theorem dX3_go_1 : decode cX3_go 1 = .ok (.istore_n 3, 1) := dk_62 (dk_at dksX3_go_0 1 rfl rfl)
theorem dX3_go_2 : decode cX3_go 2 = .ok (.iload_n 3, 1) := dk_29 (dk_at dksX3_go_0 2 rfl rfl)
theorem dX3_go_3 : decode cX3_go 3 = .ok (.iload_n 1, 1) := dk_27 (dk_at dksX3_go_0 3 rfl rfl)
theorem dX3_go_4 : decode cX3_go 4 = .ok (.if_icmp .ge 18, 3) := dk_162 0 18 (dk_at dksX3_go_0 4 rfl rfl)
theorem dX3_go_7 : decode cX3_go 7 = .ok (.aload_n 0, 1) := dk_42 (dk_at dksX3_go_0 7 rfl rfl)
theorem dX3_go_8 : decode cX3_go 8 = .ok (.aload_n 2, 1) := dk_44 (dk_at dksX3_go_0 8 rfl rfl)
theorem dX3_go_9 : decode cX3_go 9 = .ok (.invokevirtual 108, 3) := dk_182 0 108 (dk_at dksX3_go_0 9 rfl rfl)
theorem dX3_go_12 : decode cX3_go 12 = .ok (.aload_n 0, 1) := dk_42 (dk_at dksX3_go_0 12 rfl rfl)
theorem dX3_go_13 : decode cX3_go 13 = .ok (.invokevirtual 112, 3) := dk_182 0 112 (dk_at dksX3_go_0 13 rfl rfl)
theorem dX3_go_16 : decode cX3_go 16 = .ok (.iinc 3 1, 3) := dk_132 3 1 (dk_at dksX3_go_0 16 rfl rfl)
theorem dX3_go_19 : decode cX3_go 19 = .ok (.goto (-17), 3) := dk_167 255 239 (dk_at dksX3_go_0 19 rfl rfl)
theorem dX3_go_22 : decode cX3_go 22 = .ok (.return_, 1) := dk_177 (dk_at dksX3_go_0 22 rfl rfl)
abbrev cX3_breathe : ByteArray := prog_11_method_4_code
def yX3_breathe : MethodName := ⟨RX3, "breathe", "(LLastHatch$Laws;)V"⟩
def dkwX3_breathe_3 : List UInt8 := [167, 255, 188, 42, 42, 180, 0, 22, 182, 0, 94, 177]
abbrev dktX3_breathe_3 : List UInt8 := dkwX3_breathe_3 ++ []
def dkwX3_breathe_2 : List UInt8 := [180, 0, 82, 45, 182, 0, 85, 42, 180, 0, 22, 45, 180, 0, 79, 46, 182, 0, 88, 96, 79, 132, 2, 1]
abbrev dktX3_breathe_2 : List UInt8 := dkwX3_breathe_2 ++ dktX3_breathe_3
def dkwX3_breathe_1 : List UInt8 := [78, 45, 180, 0, 79, 16, 8, 162, 0, 36, 42, 180, 0, 22, 45, 180, 0, 79, 92, 46, 43, 45]
abbrev dktX3_breathe_1 : List UInt8 := dkwX3_breathe_1 ++ dktX3_breathe_2
def dkwX3_breathe_0 : List UInt8 := [3, 61, 28, 42, 180, 0, 37, 182, 0, 57, 162, 0, 63, 42, 180, 0, 37, 28, 182, 0, 61, 192, 0, 65]
abbrev dktX3_breathe_0 : List UInt8 := dkwX3_breathe_0 ++ dktX3_breathe_1
theorem dksX3_breathe_0 : cX3_breathe.data.toList.drop 0 = dktX3_breathe_0 := by decide +kernel
theorem dksX3_breathe_1 : cX3_breathe.data.toList.drop 24 = dktX3_breathe_1 := dk_seg dksX3_breathe_0 24 rfl rfl
theorem dksX3_breathe_2 : cX3_breathe.data.toList.drop 46 = dktX3_breathe_2 := dk_seg dksX3_breathe_1 22 rfl rfl
theorem dksX3_breathe_3 : cX3_breathe.data.toList.drop 70 = dktX3_breathe_3 := dk_seg dksX3_breathe_2 24 rfl rfl
theorem dX3_breathe_0 : decode cX3_breathe 0 = .ok (.iconst 0, 1) := dk_3 (dk_at dksX3_breathe_0 0 rfl rfl)
theorem dX3_breathe_1 : decode cX3_breathe 1 = .ok (.istore_n 2, 1) := dk_61 (dk_at dksX3_breathe_0 1 rfl rfl)
theorem dX3_breathe_2 : decode cX3_breathe 2 = .ok (.iload_n 2, 1) := dk_28 (dk_at dksX3_breathe_0 2 rfl rfl)
theorem dX3_breathe_3 : decode cX3_breathe 3 = .ok (.aload_n 0, 1) := dk_42 (dk_at dksX3_breathe_0 3 rfl rfl)
theorem dX3_breathe_4 : decode cX3_breathe 4 = .ok (.getfield 37, 3) := dk_180 0 37 (dk_at dksX3_breathe_0 4 rfl rfl)
theorem dX3_breathe_7 : decode cX3_breathe 7 = .ok (.invokevirtual 57, 3) := dk_182 0 57 (dk_at dksX3_breathe_0 7 rfl rfl)
theorem dX3_breathe_10 : decode cX3_breathe 10 = .ok (.if_icmp .ge 63, 3) := dk_162 0 63 (dk_at dksX3_breathe_0 10 rfl rfl)
theorem dX3_breathe_13 : decode cX3_breathe 13 = .ok (.aload_n 0, 1) := dk_42 (dk_at dksX3_breathe_0 13 rfl rfl)
theorem dX3_breathe_14 : decode cX3_breathe 14 = .ok (.getfield 37, 3) := dk_180 0 37 (dk_at dksX3_breathe_0 14 rfl rfl)
theorem dX3_breathe_17 : decode cX3_breathe 17 = .ok (.iload_n 2, 1) := dk_28 (dk_at dksX3_breathe_0 17 rfl rfl)
theorem dX3_breathe_18 : decode cX3_breathe 18 = .ok (.invokevirtual 61, 3) := dk_182 0 61 (dk_at dksX3_breathe_0 18 rfl rfl)
theorem dX3_breathe_21 : decode cX3_breathe 21 = .ok (.checkcast 65, 3) := dk_192 0 65 (dk_at dksX3_breathe_0 21 rfl rfl)
theorem dX3_breathe_24 : decode cX3_breathe 24 = .ok (.astore_n 3, 1) := dk_78 (dk_at dksX3_breathe_1 0 rfl rfl)
theorem dX3_breathe_25 : decode cX3_breathe 25 = .ok (.aload_n 3, 1) := dk_45 (dk_at dksX3_breathe_1 1 rfl rfl)
theorem dX3_breathe_26 : decode cX3_breathe 26 = .ok (.getfield 79, 3) := dk_180 0 79 (dk_at dksX3_breathe_1 2 rfl rfl)
theorem dX3_breathe_29 : decode cX3_breathe 29 = .ok (.bipush 8, 2) := dk_16 8 (dk_at dksX3_breathe_1 5 rfl rfl)
theorem dX3_breathe_31 : decode cX3_breathe 31 = .ok (.if_icmp .ge 36, 3) := dk_162 0 36 (dk_at dksX3_breathe_1 7 rfl rfl)
theorem dX3_breathe_34 : decode cX3_breathe 34 = .ok (.aload_n 0, 1) := dk_42 (dk_at dksX3_breathe_1 10 rfl rfl)
theorem dX3_breathe_35 : decode cX3_breathe 35 = .ok (.getfield 22, 3) := dk_180 0 22 (dk_at dksX3_breathe_1 11 rfl rfl)
theorem dX3_breathe_38 : decode cX3_breathe 38 = .ok (.aload_n 3, 1) := dk_45 (dk_at dksX3_breathe_1 14 rfl rfl)
theorem dX3_breathe_39 : decode cX3_breathe 39 = .ok (.getfield 79, 3) := dk_180 0 79 (dk_at dksX3_breathe_1 15 rfl rfl)
theorem dX3_breathe_42 : decode cX3_breathe 42 = .ok (.dup2, 1) := dk_92 (dk_at dksX3_breathe_1 18 rfl rfl)
theorem dX3_breathe_43 : decode cX3_breathe 43 = .ok (.iaload, 1) := dk_46 (dk_at dksX3_breathe_1 19 rfl rfl)
theorem dX3_breathe_44 : decode cX3_breathe 44 = .ok (.aload_n 1, 1) := dk_43 (dk_at dksX3_breathe_1 20 rfl rfl)
theorem dX3_breathe_45 : decode cX3_breathe 45 = .ok (.aload_n 3, 1) := dk_45 (dk_at dksX3_breathe_1 21 rfl rfl)
theorem dX3_breathe_46 : decode cX3_breathe 46 = .ok (.getfield 82, 3) := dk_180 0 82 (dk_at dksX3_breathe_2 0 rfl rfl)
theorem dX3_breathe_49 : decode cX3_breathe 49 = .ok (.aload_n 3, 1) := dk_45 (dk_at dksX3_breathe_2 3 rfl rfl)
theorem dX3_breathe_50 : decode cX3_breathe 50 = .ok (.invokevirtual 85, 3) := dk_182 0 85 (dk_at dksX3_breathe_2 4 rfl rfl)
theorem dX3_breathe_53 : decode cX3_breathe 53 = .ok (.aload_n 0, 1) := dk_42 (dk_at dksX3_breathe_2 7 rfl rfl)
theorem dX3_breathe_54 : decode cX3_breathe 54 = .ok (.getfield 22, 3) := dk_180 0 22 (dk_at dksX3_breathe_2 8 rfl rfl)
theorem dX3_breathe_57 : decode cX3_breathe 57 = .ok (.aload_n 3, 1) := dk_45 (dk_at dksX3_breathe_2 11 rfl rfl)
theorem dX3_breathe_58 : decode cX3_breathe 58 = .ok (.getfield 79, 3) := dk_180 0 79 (dk_at dksX3_breathe_2 12 rfl rfl)
theorem dX3_breathe_61 : decode cX3_breathe 61 = .ok (.iaload, 1) := dk_46 (dk_at dksX3_breathe_2 15 rfl rfl)
theorem dX3_breathe_62 : decode cX3_breathe 62 = .ok (.invokevirtual 88, 3) := dk_182 0 88 (dk_at dksX3_breathe_2 16 rfl rfl)
theorem dX3_breathe_65 : decode cX3_breathe 65 = .ok (.iadd, 1) := dk_96 (dk_at dksX3_breathe_2 19 rfl rfl)
theorem dX3_breathe_66 : decode cX3_breathe 66 = .ok (.iastore, 1) := dk_79 (dk_at dksX3_breathe_2 20 rfl rfl)
theorem dX3_breathe_67 : decode cX3_breathe 67 = .ok (.iinc 2 1, 3) := dk_132 2 1 (dk_at dksX3_breathe_2 21 rfl rfl)
theorem dX3_breathe_70 : decode cX3_breathe 70 = .ok (.goto (-68), 3) := dk_167 255 188 (dk_at dksX3_breathe_3 0 rfl rfl)
theorem dX3_breathe_73 : decode cX3_breathe 73 = .ok (.aload_n 0, 1) := dk_42 (dk_at dksX3_breathe_3 3 rfl rfl)
theorem dX3_breathe_74 : decode cX3_breathe 74 = .ok (.aload_n 0, 1) := dk_42 (dk_at dksX3_breathe_3 4 rfl rfl)
theorem dX3_breathe_75 : decode cX3_breathe 75 = .ok (.getfield 22, 3) := dk_180 0 22 (dk_at dksX3_breathe_3 5 rfl rfl)
theorem dX3_breathe_78 : decode cX3_breathe 78 = .ok (.invokevirtual 94, 3) := dk_182 0 94 (dk_at dksX3_breathe_3 8 rfl rfl)
theorem dX3_breathe_81 : decode cX3_breathe 81 = .ok (.return_, 1) := dk_177 (dk_at dksX3_breathe_3 11 rfl rfl)
abbrev cX3_even : ByteArray := prog_11_method_3_code
def yX3_even : MethodName := ⟨RX3, "even", "([I)V"⟩
def dkwX3_even_2 : List UInt8 := [167, 255, 210, 177]
abbrev dktX3_even_2 : List UInt8 := dkwX3_even_2 ++ []
def dkwX3_even_1 : List UInt8 := [4, 96, 46, 96, 62, 43, 28, 4, 96, 29, 5, 108, 79, 43, 28, 29, 29, 5, 108, 100, 79, 132, 2, 1]
abbrev dktX3_even_1 : List UInt8 := dkwX3_even_1 ++ dktX3_even_2
def dkwX3_even_0 : List UInt8 := [3, 61, 28, 16, 7, 162, 0, 46, 42, 180, 0, 25, 28, 184, 0, 75, 153, 0, 29, 43, 28, 46, 43, 28]
abbrev dktX3_even_0 : List UInt8 := dkwX3_even_0 ++ dktX3_even_1
theorem dksX3_even_0 : cX3_even.data.toList.drop 0 = dktX3_even_0 := by decide +kernel
theorem dksX3_even_1 : cX3_even.data.toList.drop 24 = dktX3_even_1 := dk_seg dksX3_even_0 24 rfl rfl
theorem dksX3_even_2 : cX3_even.data.toList.drop 48 = dktX3_even_2 := dk_seg dksX3_even_1 24 rfl rfl
theorem dX3_even_0 : decode cX3_even 0 = .ok (.iconst 0, 1) := dk_3 (dk_at dksX3_even_0 0 rfl rfl)
theorem dX3_even_1 : decode cX3_even 1 = .ok (.istore_n 2, 1) := dk_61 (dk_at dksX3_even_0 1 rfl rfl)
theorem dX3_even_2 : decode cX3_even 2 = .ok (.iload_n 2, 1) := dk_28 (dk_at dksX3_even_0 2 rfl rfl)
theorem dX3_even_3 : decode cX3_even 3 = .ok (.bipush 7, 2) := dk_16 7 (dk_at dksX3_even_0 3 rfl rfl)
theorem dX3_even_5 : decode cX3_even 5 = .ok (.if_icmp .ge 46, 3) := dk_162 0 46 (dk_at dksX3_even_0 5 rfl rfl)
theorem dX3_even_8 : decode cX3_even 8 = .ok (.aload_n 0, 1) := dk_42 (dk_at dksX3_even_0 8 rfl rfl)
theorem dX3_even_9 : decode cX3_even 9 = .ok (.getfield 25, 3) := dk_180 0 25 (dk_at dksX3_even_0 9 rfl rfl)
theorem dX3_even_12 : decode cX3_even 12 = .ok (.iload_n 2, 1) := dk_28 (dk_at dksX3_even_0 12 rfl rfl)
theorem dX3_even_13 : decode cX3_even 13 = .ok (.invokestatic 75, 3) := dk_184 0 75 (dk_at dksX3_even_0 13 rfl rfl)
theorem dX3_even_16 : decode cX3_even 16 = .ok (.ifCond .eq 29, 3) := dk_153 0 29 (dk_at dksX3_even_0 16 rfl rfl)
theorem dX3_even_19 : decode cX3_even 19 = .ok (.aload_n 1, 1) := dk_43 (dk_at dksX3_even_0 19 rfl rfl)
theorem dX3_even_20 : decode cX3_even 20 = .ok (.iload_n 2, 1) := dk_28 (dk_at dksX3_even_0 20 rfl rfl)
theorem dX3_even_21 : decode cX3_even 21 = .ok (.iaload, 1) := dk_46 (dk_at dksX3_even_0 21 rfl rfl)
theorem dX3_even_22 : decode cX3_even 22 = .ok (.aload_n 1, 1) := dk_43 (dk_at dksX3_even_0 22 rfl rfl)
theorem dX3_even_23 : decode cX3_even 23 = .ok (.iload_n 2, 1) := dk_28 (dk_at dksX3_even_0 23 rfl rfl)
theorem dX3_even_24 : decode cX3_even 24 = .ok (.iconst 1, 1) := dk_4 (dk_at dksX3_even_1 0 rfl rfl)
theorem dX3_even_25 : decode cX3_even 25 = .ok (.iadd, 1) := dk_96 (dk_at dksX3_even_1 1 rfl rfl)
theorem dX3_even_26 : decode cX3_even 26 = .ok (.iaload, 1) := dk_46 (dk_at dksX3_even_1 2 rfl rfl)
theorem dX3_even_27 : decode cX3_even 27 = .ok (.iadd, 1) := dk_96 (dk_at dksX3_even_1 3 rfl rfl)
theorem dX3_even_28 : decode cX3_even 28 = .ok (.istore_n 3, 1) := dk_62 (dk_at dksX3_even_1 4 rfl rfl)
theorem dX3_even_29 : decode cX3_even 29 = .ok (.aload_n 1, 1) := dk_43 (dk_at dksX3_even_1 5 rfl rfl)
theorem dX3_even_30 : decode cX3_even 30 = .ok (.iload_n 2, 1) := dk_28 (dk_at dksX3_even_1 6 rfl rfl)
theorem dX3_even_31 : decode cX3_even 31 = .ok (.iconst 1, 1) := dk_4 (dk_at dksX3_even_1 7 rfl rfl)
theorem dX3_even_32 : decode cX3_even 32 = .ok (.iadd, 1) := dk_96 (dk_at dksX3_even_1 8 rfl rfl)
theorem dX3_even_33 : decode cX3_even 33 = .ok (.iload_n 3, 1) := dk_29 (dk_at dksX3_even_1 9 rfl rfl)
theorem dX3_even_34 : decode cX3_even 34 = .ok (.iconst 2, 1) := dk_5 (dk_at dksX3_even_1 10 rfl rfl)
theorem dX3_even_35 : decode cX3_even 35 = .ok (.idiv, 1) := dk_108 (dk_at dksX3_even_1 11 rfl rfl)
theorem dX3_even_36 : decode cX3_even 36 = .ok (.iastore, 1) := dk_79 (dk_at dksX3_even_1 12 rfl rfl)
theorem dX3_even_37 : decode cX3_even 37 = .ok (.aload_n 1, 1) := dk_43 (dk_at dksX3_even_1 13 rfl rfl)
theorem dX3_even_38 : decode cX3_even 38 = .ok (.iload_n 2, 1) := dk_28 (dk_at dksX3_even_1 14 rfl rfl)
theorem dX3_even_39 : decode cX3_even 39 = .ok (.iload_n 3, 1) := dk_29 (dk_at dksX3_even_1 15 rfl rfl)
theorem dX3_even_40 : decode cX3_even 40 = .ok (.iload_n 3, 1) := dk_29 (dk_at dksX3_even_1 16 rfl rfl)
theorem dX3_even_41 : decode cX3_even 41 = .ok (.iconst 2, 1) := dk_5 (dk_at dksX3_even_1 17 rfl rfl)
theorem dX3_even_42 : decode cX3_even 42 = .ok (.idiv, 1) := dk_108 (dk_at dksX3_even_1 18 rfl rfl)
theorem dX3_even_43 : decode cX3_even 43 = .ok (.isub, 1) := dk_100 (dk_at dksX3_even_1 19 rfl rfl)
theorem dX3_even_44 : decode cX3_even 44 = .ok (.iastore, 1) := dk_79 (dk_at dksX3_even_1 20 rfl rfl)
theorem dX3_even_45 : decode cX3_even 45 = .ok (.iinc 2 1, 3) := dk_132 2 1 (dk_at dksX3_even_1 21 rfl rfl)
theorem dX3_even_48 : decode cX3_even 48 = .ok (.goto (-46), 3) := dk_167 255 210 (dk_at dksX3_even_2 0 rfl rfl)
theorem dX3_even_51 : decode cX3_even 51 = .ok (.return_, 1) := dk_177 (dk_at dksX3_even_2 3 rfl rfl)
abbrev cX3_flood : ByteArray := prog_11_method_6_code
def yX3_flood : MethodName := ⟨RX3, "flood", "()V"⟩
def dkwX3_flood_4 : List UInt8 := [17, 3, 232, 182, 0, 98, 42, 89, 180, 0, 42, 4, 96, 181, 0, 42, 177]
abbrev dktX3_flood_4 : List UInt8 := dkwX3_flood_4 ++ []
def dkwX3_flood_3 : List UInt8 := [96, 184, 0, 102, 79, 132, 1, 1, 167, 255, 191, 42, 42, 180, 0, 18, 182, 0, 94, 42, 42, 180, 0, 18]
abbrev dktX3_flood_3 : List UInt8 := dkwX3_flood_3 ++ dktX3_flood_4
def dkwX3_flood_2 : List UInt8 := [180, 0, 18, 42, 180, 0, 28, 27, 46, 46, 42, 180, 0, 31, 27, 46, 42, 180, 0, 9, 104, 16, 100, 108]
abbrev dktX3_flood_2 : List UInt8 := dkwX3_flood_2 ++ dktX3_flood_3
def dkwX3_flood_1 : List UInt8 := [180, 0, 54, 27, 184, 0, 75, 153, 0, 46, 42, 180, 0, 18, 42, 180, 0, 28, 27, 46, 17, 3, 232, 42]
abbrev dktX3_flood_1 : List UInt8 := dkwX3_flood_1 ++ dktX3_flood_2
def dkwX3_flood_0 : List UInt8 := [42, 42, 180, 0, 22, 42, 180, 0, 15, 182, 0, 98, 3, 60, 27, 42, 180, 0, 51, 162, 0, 63, 42]
abbrev dktX3_flood_0 : List UInt8 := dkwX3_flood_0 ++ dktX3_flood_1
theorem dksX3_flood_0 : cX3_flood.data.toList.drop 0 = dktX3_flood_0 := by decide +kernel
theorem dksX3_flood_1 : cX3_flood.data.toList.drop 23 = dktX3_flood_1 := dk_seg dksX3_flood_0 23 rfl rfl
theorem dksX3_flood_2 : cX3_flood.data.toList.drop 47 = dktX3_flood_2 := dk_seg dksX3_flood_1 24 rfl rfl
theorem dksX3_flood_3 : cX3_flood.data.toList.drop 71 = dktX3_flood_3 := dk_seg dksX3_flood_2 24 rfl rfl
theorem dksX3_flood_4 : cX3_flood.data.toList.drop 95 = dktX3_flood_4 := dk_seg dksX3_flood_3 24 rfl rfl
theorem dX3_flood_0 : decode cX3_flood 0 = .ok (.aload_n 0, 1) := dk_42 (dk_at dksX3_flood_0 0 rfl rfl)
theorem dX3_flood_1 : decode cX3_flood 1 = .ok (.aload_n 0, 1) := dk_42 (dk_at dksX3_flood_0 1 rfl rfl)
theorem dX3_flood_2 : decode cX3_flood 2 = .ok (.getfield 22, 3) := dk_180 0 22 (dk_at dksX3_flood_0 2 rfl rfl)
theorem dX3_flood_5 : decode cX3_flood 5 = .ok (.aload_n 0, 1) := dk_42 (dk_at dksX3_flood_0 5 rfl rfl)
theorem dX3_flood_6 : decode cX3_flood 6 = .ok (.getfield 15, 3) := dk_180 0 15 (dk_at dksX3_flood_0 6 rfl rfl)
theorem dX3_flood_9 : decode cX3_flood 9 = .ok (.invokevirtual 98, 3) := dk_182 0 98 (dk_at dksX3_flood_0 9 rfl rfl)
theorem dX3_flood_12 : decode cX3_flood 12 = .ok (.iconst 0, 1) := dk_3 (dk_at dksX3_flood_0 12 rfl rfl)
theorem dX3_flood_13 : decode cX3_flood 13 = .ok (.istore_n 1, 1) := dk_60 (dk_at dksX3_flood_0 13 rfl rfl)
theorem dX3_flood_14 : decode cX3_flood 14 = .ok (.iload_n 1, 1) := dk_27 (dk_at dksX3_flood_0 14 rfl rfl)
theorem dX3_flood_15 : decode cX3_flood 15 = .ok (.aload_n 0, 1) := dk_42 (dk_at dksX3_flood_0 15 rfl rfl)
theorem dX3_flood_16 : decode cX3_flood 16 = .ok (.getfield 51, 3) := dk_180 0 51 (dk_at dksX3_flood_0 16 rfl rfl)
theorem dX3_flood_19 : decode cX3_flood 19 = .ok (.if_icmp .ge 63, 3) := dk_162 0 63 (dk_at dksX3_flood_0 19 rfl rfl)
theorem dX3_flood_22 : decode cX3_flood 22 = .ok (.aload_n 0, 1) := dk_42 (dk_at dksX3_flood_0 22 rfl rfl)
theorem dX3_flood_23 : decode cX3_flood 23 = .ok (.getfield 54, 3) := dk_180 0 54 (dk_at dksX3_flood_1 0 rfl rfl)
theorem dX3_flood_26 : decode cX3_flood 26 = .ok (.iload_n 1, 1) := dk_27 (dk_at dksX3_flood_1 3 rfl rfl)
theorem dX3_flood_27 : decode cX3_flood 27 = .ok (.invokestatic 75, 3) := dk_184 0 75 (dk_at dksX3_flood_1 4 rfl rfl)
theorem dX3_flood_30 : decode cX3_flood 30 = .ok (.ifCond .eq 46, 3) := dk_153 0 46 (dk_at dksX3_flood_1 7 rfl rfl)
theorem dX3_flood_33 : decode cX3_flood 33 = .ok (.aload_n 0, 1) := dk_42 (dk_at dksX3_flood_1 10 rfl rfl)
theorem dX3_flood_34 : decode cX3_flood 34 = .ok (.getfield 18, 3) := dk_180 0 18 (dk_at dksX3_flood_1 11 rfl rfl)
theorem dX3_flood_37 : decode cX3_flood 37 = .ok (.aload_n 0, 1) := dk_42 (dk_at dksX3_flood_1 14 rfl rfl)
theorem dX3_flood_38 : decode cX3_flood 38 = .ok (.getfield 28, 3) := dk_180 0 28 (dk_at dksX3_flood_1 15 rfl rfl)
theorem dX3_flood_41 : decode cX3_flood 41 = .ok (.iload_n 1, 1) := dk_27 (dk_at dksX3_flood_1 18 rfl rfl)
theorem dX3_flood_42 : decode cX3_flood 42 = .ok (.iaload, 1) := dk_46 (dk_at dksX3_flood_1 19 rfl rfl)
theorem dX3_flood_43 : decode cX3_flood 43 = .ok (.sipush 1000, 3) := dk_17 3 232 (dk_at dksX3_flood_1 20 rfl rfl)
theorem dX3_flood_46 : decode cX3_flood 46 = .ok (.aload_n 0, 1) := dk_42 (dk_at dksX3_flood_1 23 rfl rfl)
theorem dX3_flood_47 : decode cX3_flood 47 = .ok (.getfield 18, 3) := dk_180 0 18 (dk_at dksX3_flood_2 0 rfl rfl)
theorem dX3_flood_50 : decode cX3_flood 50 = .ok (.aload_n 0, 1) := dk_42 (dk_at dksX3_flood_2 3 rfl rfl)
theorem dX3_flood_51 : decode cX3_flood 51 = .ok (.getfield 28, 3) := dk_180 0 28 (dk_at dksX3_flood_2 4 rfl rfl)
theorem dX3_flood_54 : decode cX3_flood 54 = .ok (.iload_n 1, 1) := dk_27 (dk_at dksX3_flood_2 7 rfl rfl)
theorem dX3_flood_55 : decode cX3_flood 55 = .ok (.iaload, 1) := dk_46 (dk_at dksX3_flood_2 8 rfl rfl)
theorem dX3_flood_56 : decode cX3_flood 56 = .ok (.iaload, 1) := dk_46 (dk_at dksX3_flood_2 9 rfl rfl)
theorem dX3_flood_57 : decode cX3_flood 57 = .ok (.aload_n 0, 1) := dk_42 (dk_at dksX3_flood_2 10 rfl rfl)
theorem dX3_flood_58 : decode cX3_flood 58 = .ok (.getfield 31, 3) := dk_180 0 31 (dk_at dksX3_flood_2 11 rfl rfl)
theorem dX3_flood_61 : decode cX3_flood 61 = .ok (.iload_n 1, 1) := dk_27 (dk_at dksX3_flood_2 14 rfl rfl)
theorem dX3_flood_62 : decode cX3_flood 62 = .ok (.iaload, 1) := dk_46 (dk_at dksX3_flood_2 15 rfl rfl)
theorem dX3_flood_63 : decode cX3_flood 63 = .ok (.aload_n 0, 1) := dk_42 (dk_at dksX3_flood_2 16 rfl rfl)
theorem dX3_flood_64 : decode cX3_flood 64 = .ok (.getfield 9, 3) := dk_180 0 9 (dk_at dksX3_flood_2 17 rfl rfl)
theorem dX3_flood_67 : decode cX3_flood 67 = .ok (.imul, 1) := dk_104 (dk_at dksX3_flood_2 20 rfl rfl)
theorem dX3_flood_68 : decode cX3_flood 68 = .ok (.bipush 100, 2) := dk_16 100 (dk_at dksX3_flood_2 21 rfl rfl)
theorem dX3_flood_70 : decode cX3_flood 70 = .ok (.idiv, 1) := dk_108 (dk_at dksX3_flood_2 23 rfl rfl)
theorem dX3_flood_71 : decode cX3_flood 71 = .ok (.iadd, 1) := dk_96 (dk_at dksX3_flood_3 0 rfl rfl)
theorem dX3_flood_72 : decode cX3_flood 72 = .ok (.invokestatic 102, 3) := dk_184 0 102 (dk_at dksX3_flood_3 1 rfl rfl)
theorem dX3_flood_75 : decode cX3_flood 75 = .ok (.iastore, 1) := dk_79 (dk_at dksX3_flood_3 4 rfl rfl)
theorem dX3_flood_76 : decode cX3_flood 76 = .ok (.iinc 1 1, 3) := dk_132 1 1 (dk_at dksX3_flood_3 5 rfl rfl)
theorem dX3_flood_79 : decode cX3_flood 79 = .ok (.goto (-65), 3) := dk_167 255 191 (dk_at dksX3_flood_3 8 rfl rfl)
theorem dX3_flood_82 : decode cX3_flood 82 = .ok (.aload_n 0, 1) := dk_42 (dk_at dksX3_flood_3 11 rfl rfl)
theorem dX3_flood_83 : decode cX3_flood 83 = .ok (.aload_n 0, 1) := dk_42 (dk_at dksX3_flood_3 12 rfl rfl)
theorem dX3_flood_84 : decode cX3_flood 84 = .ok (.getfield 18, 3) := dk_180 0 18 (dk_at dksX3_flood_3 13 rfl rfl)
theorem dX3_flood_87 : decode cX3_flood 87 = .ok (.invokevirtual 94, 3) := dk_182 0 94 (dk_at dksX3_flood_3 16 rfl rfl)
theorem dX3_flood_90 : decode cX3_flood 90 = .ok (.aload_n 0, 1) := dk_42 (dk_at dksX3_flood_3 19 rfl rfl)
theorem dX3_flood_91 : decode cX3_flood 91 = .ok (.aload_n 0, 1) := dk_42 (dk_at dksX3_flood_3 20 rfl rfl)
theorem dX3_flood_92 : decode cX3_flood 92 = .ok (.getfield 18, 3) := dk_180 0 18 (dk_at dksX3_flood_3 21 rfl rfl)
theorem dX3_flood_95 : decode cX3_flood 95 = .ok (.sipush 1000, 3) := dk_17 3 232 (dk_at dksX3_flood_4 0 rfl rfl)
theorem dX3_flood_98 : decode cX3_flood 98 = .ok (.invokevirtual 98, 3) := dk_182 0 98 (dk_at dksX3_flood_4 3 rfl rfl)
theorem dX3_flood_101 : decode cX3_flood 101 = .ok (.aload_n 0, 1) := dk_42 (dk_at dksX3_flood_4 6 rfl rfl)
theorem dX3_flood_102 : decode cX3_flood 102 = .ok (.dup, 1) := dk_89 (dk_at dksX3_flood_4 7 rfl rfl)
theorem dX3_flood_103 : decode cX3_flood 103 = .ok (.getfield 42, 3) := dk_180 0 42 (dk_at dksX3_flood_4 8 rfl rfl)
theorem dX3_flood_106 : decode cX3_flood 106 = .ok (.iconst 1, 1) := dk_4 (dk_at dksX3_flood_4 11 rfl rfl)
theorem dX3_flood_107 : decode cX3_flood 107 = .ok (.iadd, 1) := dk_96 (dk_at dksX3_flood_4 12 rfl rfl)
theorem dX3_flood_108 : decode cX3_flood 108 = .ok (.putfield 42, 3) := dk_181 0 42 (dk_at dksX3_flood_4 13 rfl rfl)
theorem dX3_flood_111 : decode cX3_flood 111 = .ok (.return_, 1) := dk_177 (dk_at dksX3_flood_4 16 rfl rfl)
abbrev cX3_die : ByteArray := prog_11_method_5_code
def yX3_die : MethodName := ⟨RX3, "die", "([II)V"⟩
def dkwX3_die_2 : List UInt8 := [25, 4, 16, 10, 181, 0, 79, 132, 3, 1, 167, 255, 201, 177]
abbrev dktX3_die_2 : List UInt8 := dkwX3_die_2 ++ []
def dkwX3_die_1 : List UInt8 := [58, 4, 25, 4, 180, 0, 79, 16, 8, 162, 0, 21, 43, 25, 4, 180, 0, 79, 46, 28, 161, 0, 10]
abbrev dktX3_die_1 : List UInt8 := dkwX3_die_1 ++ dktX3_die_2
def dkwX3_die_0 : List UInt8 := [3, 62, 29, 42, 180, 0, 37, 182, 0, 57, 162, 0, 50, 42, 180, 0, 37, 29, 182, 0, 61, 192, 0, 65]
abbrev dktX3_die_0 : List UInt8 := dkwX3_die_0 ++ dktX3_die_1
theorem dksX3_die_0 : cX3_die.data.toList.drop 0 = dktX3_die_0 := by decide +kernel
theorem dksX3_die_1 : cX3_die.data.toList.drop 24 = dktX3_die_1 := dk_seg dksX3_die_0 24 rfl rfl
theorem dksX3_die_2 : cX3_die.data.toList.drop 47 = dktX3_die_2 := dk_seg dksX3_die_1 23 rfl rfl
theorem dX3_die_0 : decode cX3_die 0 = .ok (.iconst 0, 1) := dk_3 (dk_at dksX3_die_0 0 rfl rfl)
theorem dX3_die_1 : decode cX3_die 1 = .ok (.istore_n 3, 1) := dk_62 (dk_at dksX3_die_0 1 rfl rfl)
theorem dX3_die_2 : decode cX3_die 2 = .ok (.iload_n 3, 1) := dk_29 (dk_at dksX3_die_0 2 rfl rfl)
theorem dX3_die_3 : decode cX3_die 3 = .ok (.aload_n 0, 1) := dk_42 (dk_at dksX3_die_0 3 rfl rfl)
theorem dX3_die_4 : decode cX3_die 4 = .ok (.getfield 37, 3) := dk_180 0 37 (dk_at dksX3_die_0 4 rfl rfl)
theorem dX3_die_7 : decode cX3_die 7 = .ok (.invokevirtual 57, 3) := dk_182 0 57 (dk_at dksX3_die_0 7 rfl rfl)
theorem dX3_die_10 : decode cX3_die 10 = .ok (.if_icmp .ge 50, 3) := dk_162 0 50 (dk_at dksX3_die_0 10 rfl rfl)
theorem dX3_die_13 : decode cX3_die 13 = .ok (.aload_n 0, 1) := dk_42 (dk_at dksX3_die_0 13 rfl rfl)
theorem dX3_die_14 : decode cX3_die 14 = .ok (.getfield 37, 3) := dk_180 0 37 (dk_at dksX3_die_0 14 rfl rfl)
theorem dX3_die_17 : decode cX3_die 17 = .ok (.iload_n 3, 1) := dk_29 (dk_at dksX3_die_0 17 rfl rfl)
theorem dX3_die_18 : decode cX3_die 18 = .ok (.invokevirtual 61, 3) := dk_182 0 61 (dk_at dksX3_die_0 18 rfl rfl)
theorem dX3_die_21 : decode cX3_die 21 = .ok (.checkcast 65, 3) := dk_192 0 65 (dk_at dksX3_die_0 21 rfl rfl)
theorem dX3_die_24 : decode cX3_die 24 = .ok (.astore 4, 2) := dk_58 4 (dk_at dksX3_die_1 0 rfl rfl)
theorem dX3_die_26 : decode cX3_die 26 = .ok (.aload 4, 2) := dk_25 4 (dk_at dksX3_die_1 2 rfl rfl)
theorem dX3_die_28 : decode cX3_die 28 = .ok (.getfield 79, 3) := dk_180 0 79 (dk_at dksX3_die_1 4 rfl rfl)
theorem dX3_die_31 : decode cX3_die 31 = .ok (.bipush 8, 2) := dk_16 8 (dk_at dksX3_die_1 7 rfl rfl)
theorem dX3_die_33 : decode cX3_die 33 = .ok (.if_icmp .ge 21, 3) := dk_162 0 21 (dk_at dksX3_die_1 9 rfl rfl)
theorem dX3_die_36 : decode cX3_die 36 = .ok (.aload_n 1, 1) := dk_43 (dk_at dksX3_die_1 12 rfl rfl)
theorem dX3_die_37 : decode cX3_die 37 = .ok (.aload 4, 2) := dk_25 4 (dk_at dksX3_die_1 13 rfl rfl)
theorem dX3_die_39 : decode cX3_die 39 = .ok (.getfield 79, 3) := dk_180 0 79 (dk_at dksX3_die_1 15 rfl rfl)
theorem dX3_die_42 : decode cX3_die 42 = .ok (.iaload, 1) := dk_46 (dk_at dksX3_die_1 18 rfl rfl)
theorem dX3_die_43 : decode cX3_die 43 = .ok (.iload_n 2, 1) := dk_28 (dk_at dksX3_die_1 19 rfl rfl)
theorem dX3_die_44 : decode cX3_die 44 = .ok (.if_icmp .lt 10, 3) := dk_161 0 10 (dk_at dksX3_die_1 20 rfl rfl)
theorem dX3_die_47 : decode cX3_die 47 = .ok (.aload 4, 2) := dk_25 4 (dk_at dksX3_die_2 0 rfl rfl)
theorem dX3_die_49 : decode cX3_die 49 = .ok (.bipush 10, 2) := dk_16 10 (dk_at dksX3_die_2 2 rfl rfl)
theorem dX3_die_51 : decode cX3_die 51 = .ok (.putfield 79, 3) := dk_181 0 79 (dk_at dksX3_die_2 4 rfl rfl)
theorem dX3_die_54 : decode cX3_die 54 = .ok (.iinc 3 1, 3) := dk_132 3 1 (dk_at dksX3_die_2 7 rfl rfl)
theorem dX3_die_57 : decode cX3_die 57 = .ok (.goto (-55), 3) := dk_167 255 201 (dk_at dksX3_die_2 10 rfl rfl)
theorem dX3_die_60 : decode cX3_die 60 = .ok (.return_, 1) := dk_177 (dk_at dksX3_die_2 13 rfl rfl)
abbrev cX3_copy : ByteArray := prog_11_method_2_code
def yX3_copy : MethodName := ⟨RX3, "copy", "()LLastHatch$Hull;"⟩
def dkwX3_copy_6 : List UInt8 := [192, 0, 65, 182, 0, 67, 182, 0, 71, 87, 132, 2, 1, 167, 255, 220, 43, 176]
abbrev dktX3_copy_6 : List UInt8 := dkwX3_copy_6 ++ []
def dkwX3_copy_5 : List UInt8 := [42, 180, 0, 37, 182, 0, 57, 162, 0, 31, 43, 180, 0, 37, 42, 180, 0, 37, 28, 182, 0, 61]
abbrev dktX3_copy_5 : List UInt8 := dkwX3_copy_5 ++ dktX3_copy_6
def dkwX3_copy_4 : List UInt8 := [16, 12, 184, 0, 45, 43, 42, 180, 0, 51, 181, 0, 51, 43, 42, 180, 0, 54, 181, 0, 54, 3, 61, 28]
abbrev dktX3_copy_4 : List UInt8 := dkwX3_copy_4 ++ dktX3_copy_5
def dkwX3_copy_3 : List UInt8 := [180, 0, 28, 3, 43, 180, 0, 28, 3, 16, 12, 184, 0, 45, 42, 180, 0, 31, 3, 43, 180, 0, 31, 3]
abbrev dktX3_copy_3 : List UInt8 := dkwX3_copy_3 ++ dktX3_copy_4
def dkwX3_copy_2 : List UInt8 := [180, 0, 22, 3, 43, 180, 0, 22, 3, 16, 8, 184, 0, 45, 43, 42, 180, 0, 25, 181, 0, 25, 42]
abbrev dktX3_copy_2 : List UInt8 := dkwX3_copy_2 ++ dktX3_copy_3
def dkwX3_copy_1 : List UInt8 := [43, 42, 180, 0, 15, 181, 0, 15, 42, 180, 0, 18, 3, 43, 180, 0, 18, 3, 16, 8, 184, 0, 45, 42]
abbrev dktX3_copy_1 : List UInt8 := dkwX3_copy_1 ++ dktX3_copy_2
def dkwX3_copy_0 : List UInt8 := [187, 0, 10, 89, 183, 0, 41, 76, 43, 42, 180, 0, 42, 181, 0, 42, 43, 42, 180, 0, 9, 181, 0, 9]
abbrev dktX3_copy_0 : List UInt8 := dkwX3_copy_0 ++ dktX3_copy_1
theorem dksX3_copy_0 : cX3_copy.data.toList.drop 0 = dktX3_copy_0 := by decide +kernel
theorem dksX3_copy_1 : cX3_copy.data.toList.drop 24 = dktX3_copy_1 := dk_seg dksX3_copy_0 24 rfl rfl
theorem dksX3_copy_2 : cX3_copy.data.toList.drop 48 = dktX3_copy_2 := dk_seg dksX3_copy_1 24 rfl rfl
theorem dksX3_copy_3 : cX3_copy.data.toList.drop 71 = dktX3_copy_3 := dk_seg dksX3_copy_2 23 rfl rfl
theorem dksX3_copy_4 : cX3_copy.data.toList.drop 95 = dktX3_copy_4 := dk_seg dksX3_copy_3 24 rfl rfl
theorem dksX3_copy_5 : cX3_copy.data.toList.drop 119 = dktX3_copy_5 := dk_seg dksX3_copy_4 24 rfl rfl
theorem dksX3_copy_6 : cX3_copy.data.toList.drop 141 = dktX3_copy_6 := dk_seg dksX3_copy_5 22 rfl rfl
theorem dX3_copy_0 : decode cX3_copy 0 = .ok (.new 10, 3) := dk_187 0 10 (dk_at dksX3_copy_0 0 rfl rfl)
theorem dX3_copy_3 : decode cX3_copy 3 = .ok (.dup, 1) := dk_89 (dk_at dksX3_copy_0 3 rfl rfl)
theorem dX3_copy_4 : decode cX3_copy 4 = .ok (.invokespecial 41, 3) := dk_183 0 41 (dk_at dksX3_copy_0 4 rfl rfl)
theorem dX3_copy_7 : decode cX3_copy 7 = .ok (.astore_n 1, 1) := dk_76 (dk_at dksX3_copy_0 7 rfl rfl)
theorem dX3_copy_8 : decode cX3_copy 8 = .ok (.aload_n 1, 1) := dk_43 (dk_at dksX3_copy_0 8 rfl rfl)
theorem dX3_copy_9 : decode cX3_copy 9 = .ok (.aload_n 0, 1) := dk_42 (dk_at dksX3_copy_0 9 rfl rfl)
theorem dX3_copy_10 : decode cX3_copy 10 = .ok (.getfield 42, 3) := dk_180 0 42 (dk_at dksX3_copy_0 10 rfl rfl)
theorem dX3_copy_13 : decode cX3_copy 13 = .ok (.putfield 42, 3) := dk_181 0 42 (dk_at dksX3_copy_0 13 rfl rfl)
theorem dX3_copy_16 : decode cX3_copy 16 = .ok (.aload_n 1, 1) := dk_43 (dk_at dksX3_copy_0 16 rfl rfl)
theorem dX3_copy_17 : decode cX3_copy 17 = .ok (.aload_n 0, 1) := dk_42 (dk_at dksX3_copy_0 17 rfl rfl)
theorem dX3_copy_18 : decode cX3_copy 18 = .ok (.getfield 9, 3) := dk_180 0 9 (dk_at dksX3_copy_0 18 rfl rfl)
theorem dX3_copy_21 : decode cX3_copy 21 = .ok (.putfield 9, 3) := dk_181 0 9 (dk_at dksX3_copy_0 21 rfl rfl)
theorem dX3_copy_24 : decode cX3_copy 24 = .ok (.aload_n 1, 1) := dk_43 (dk_at dksX3_copy_1 0 rfl rfl)
theorem dX3_copy_25 : decode cX3_copy 25 = .ok (.aload_n 0, 1) := dk_42 (dk_at dksX3_copy_1 1 rfl rfl)
theorem dX3_copy_26 : decode cX3_copy 26 = .ok (.getfield 15, 3) := dk_180 0 15 (dk_at dksX3_copy_1 2 rfl rfl)
theorem dX3_copy_29 : decode cX3_copy 29 = .ok (.putfield 15, 3) := dk_181 0 15 (dk_at dksX3_copy_1 5 rfl rfl)
theorem dX3_copy_32 : decode cX3_copy 32 = .ok (.aload_n 0, 1) := dk_42 (dk_at dksX3_copy_1 8 rfl rfl)
theorem dX3_copy_33 : decode cX3_copy 33 = .ok (.getfield 18, 3) := dk_180 0 18 (dk_at dksX3_copy_1 9 rfl rfl)
theorem dX3_copy_36 : decode cX3_copy 36 = .ok (.iconst 0, 1) := dk_3 (dk_at dksX3_copy_1 12 rfl rfl)
theorem dX3_copy_37 : decode cX3_copy 37 = .ok (.aload_n 1, 1) := dk_43 (dk_at dksX3_copy_1 13 rfl rfl)
theorem dX3_copy_38 : decode cX3_copy 38 = .ok (.getfield 18, 3) := dk_180 0 18 (dk_at dksX3_copy_1 14 rfl rfl)
theorem dX3_copy_41 : decode cX3_copy 41 = .ok (.iconst 0, 1) := dk_3 (dk_at dksX3_copy_1 17 rfl rfl)
theorem dX3_copy_42 : decode cX3_copy 42 = .ok (.bipush 8, 2) := dk_16 8 (dk_at dksX3_copy_1 18 rfl rfl)
theorem dX3_copy_44 : decode cX3_copy 44 = .ok (.invokestatic 45, 3) := dk_184 0 45 (dk_at dksX3_copy_1 20 rfl rfl)
theorem dX3_copy_47 : decode cX3_copy 47 = .ok (.aload_n 0, 1) := dk_42 (dk_at dksX3_copy_1 23 rfl rfl)
theorem dX3_copy_48 : decode cX3_copy 48 = .ok (.getfield 22, 3) := dk_180 0 22 (dk_at dksX3_copy_2 0 rfl rfl)
theorem dX3_copy_51 : decode cX3_copy 51 = .ok (.iconst 0, 1) := dk_3 (dk_at dksX3_copy_2 3 rfl rfl)
theorem dX3_copy_52 : decode cX3_copy 52 = .ok (.aload_n 1, 1) := dk_43 (dk_at dksX3_copy_2 4 rfl rfl)
theorem dX3_copy_53 : decode cX3_copy 53 = .ok (.getfield 22, 3) := dk_180 0 22 (dk_at dksX3_copy_2 5 rfl rfl)
theorem dX3_copy_56 : decode cX3_copy 56 = .ok (.iconst 0, 1) := dk_3 (dk_at dksX3_copy_2 8 rfl rfl)
theorem dX3_copy_57 : decode cX3_copy 57 = .ok (.bipush 8, 2) := dk_16 8 (dk_at dksX3_copy_2 9 rfl rfl)
theorem dX3_copy_59 : decode cX3_copy 59 = .ok (.invokestatic 45, 3) := dk_184 0 45 (dk_at dksX3_copy_2 11 rfl rfl)
theorem dX3_copy_62 : decode cX3_copy 62 = .ok (.aload_n 1, 1) := dk_43 (dk_at dksX3_copy_2 14 rfl rfl)
theorem dX3_copy_63 : decode cX3_copy 63 = .ok (.aload_n 0, 1) := dk_42 (dk_at dksX3_copy_2 15 rfl rfl)
theorem dX3_copy_64 : decode cX3_copy 64 = .ok (.getfield 25, 3) := dk_180 0 25 (dk_at dksX3_copy_2 16 rfl rfl)
theorem dX3_copy_67 : decode cX3_copy 67 = .ok (.putfield 25, 3) := dk_181 0 25 (dk_at dksX3_copy_2 19 rfl rfl)
theorem dX3_copy_70 : decode cX3_copy 70 = .ok (.aload_n 0, 1) := dk_42 (dk_at dksX3_copy_2 22 rfl rfl)
theorem dX3_copy_71 : decode cX3_copy 71 = .ok (.getfield 28, 3) := dk_180 0 28 (dk_at dksX3_copy_3 0 rfl rfl)
theorem dX3_copy_74 : decode cX3_copy 74 = .ok (.iconst 0, 1) := dk_3 (dk_at dksX3_copy_3 3 rfl rfl)
theorem dX3_copy_75 : decode cX3_copy 75 = .ok (.aload_n 1, 1) := dk_43 (dk_at dksX3_copy_3 4 rfl rfl)
theorem dX3_copy_76 : decode cX3_copy 76 = .ok (.getfield 28, 3) := dk_180 0 28 (dk_at dksX3_copy_3 5 rfl rfl)
theorem dX3_copy_79 : decode cX3_copy 79 = .ok (.iconst 0, 1) := dk_3 (dk_at dksX3_copy_3 8 rfl rfl)
theorem dX3_copy_80 : decode cX3_copy 80 = .ok (.bipush 12, 2) := dk_16 12 (dk_at dksX3_copy_3 9 rfl rfl)
theorem dX3_copy_82 : decode cX3_copy 82 = .ok (.invokestatic 45, 3) := dk_184 0 45 (dk_at dksX3_copy_3 11 rfl rfl)
theorem dX3_copy_85 : decode cX3_copy 85 = .ok (.aload_n 0, 1) := dk_42 (dk_at dksX3_copy_3 14 rfl rfl)
theorem dX3_copy_86 : decode cX3_copy 86 = .ok (.getfield 31, 3) := dk_180 0 31 (dk_at dksX3_copy_3 15 rfl rfl)
theorem dX3_copy_89 : decode cX3_copy 89 = .ok (.iconst 0, 1) := dk_3 (dk_at dksX3_copy_3 18 rfl rfl)
theorem dX3_copy_90 : decode cX3_copy 90 = .ok (.aload_n 1, 1) := dk_43 (dk_at dksX3_copy_3 19 rfl rfl)
theorem dX3_copy_91 : decode cX3_copy 91 = .ok (.getfield 31, 3) := dk_180 0 31 (dk_at dksX3_copy_3 20 rfl rfl)
theorem dX3_copy_94 : decode cX3_copy 94 = .ok (.iconst 0, 1) := dk_3 (dk_at dksX3_copy_3 23 rfl rfl)
theorem dX3_copy_95 : decode cX3_copy 95 = .ok (.bipush 12, 2) := dk_16 12 (dk_at dksX3_copy_4 0 rfl rfl)
theorem dX3_copy_97 : decode cX3_copy 97 = .ok (.invokestatic 45, 3) := dk_184 0 45 (dk_at dksX3_copy_4 2 rfl rfl)
theorem dX3_copy_100 : decode cX3_copy 100 = .ok (.aload_n 1, 1) := dk_43 (dk_at dksX3_copy_4 5 rfl rfl)
theorem dX3_copy_101 : decode cX3_copy 101 = .ok (.aload_n 0, 1) := dk_42 (dk_at dksX3_copy_4 6 rfl rfl)
theorem dX3_copy_102 : decode cX3_copy 102 = .ok (.getfield 51, 3) := dk_180 0 51 (dk_at dksX3_copy_4 7 rfl rfl)
theorem dX3_copy_105 : decode cX3_copy 105 = .ok (.putfield 51, 3) := dk_181 0 51 (dk_at dksX3_copy_4 10 rfl rfl)
theorem dX3_copy_108 : decode cX3_copy 108 = .ok (.aload_n 1, 1) := dk_43 (dk_at dksX3_copy_4 13 rfl rfl)
theorem dX3_copy_109 : decode cX3_copy 109 = .ok (.aload_n 0, 1) := dk_42 (dk_at dksX3_copy_4 14 rfl rfl)
theorem dX3_copy_110 : decode cX3_copy 110 = .ok (.getfield 54, 3) := dk_180 0 54 (dk_at dksX3_copy_4 15 rfl rfl)
theorem dX3_copy_113 : decode cX3_copy 113 = .ok (.putfield 54, 3) := dk_181 0 54 (dk_at dksX3_copy_4 18 rfl rfl)
theorem dX3_copy_116 : decode cX3_copy 116 = .ok (.iconst 0, 1) := dk_3 (dk_at dksX3_copy_4 21 rfl rfl)
theorem dX3_copy_117 : decode cX3_copy 117 = .ok (.istore_n 2, 1) := dk_61 (dk_at dksX3_copy_4 22 rfl rfl)
theorem dX3_copy_118 : decode cX3_copy 118 = .ok (.iload_n 2, 1) := dk_28 (dk_at dksX3_copy_4 23 rfl rfl)
theorem dX3_copy_119 : decode cX3_copy 119 = .ok (.aload_n 0, 1) := dk_42 (dk_at dksX3_copy_5 0 rfl rfl)
theorem dX3_copy_120 : decode cX3_copy 120 = .ok (.getfield 37, 3) := dk_180 0 37 (dk_at dksX3_copy_5 1 rfl rfl)
theorem dX3_copy_123 : decode cX3_copy 123 = .ok (.invokevirtual 57, 3) := dk_182 0 57 (dk_at dksX3_copy_5 4 rfl rfl)
theorem dX3_copy_126 : decode cX3_copy 126 = .ok (.if_icmp .ge 31, 3) := dk_162 0 31 (dk_at dksX3_copy_5 7 rfl rfl)
theorem dX3_copy_129 : decode cX3_copy 129 = .ok (.aload_n 1, 1) := dk_43 (dk_at dksX3_copy_5 10 rfl rfl)
theorem dX3_copy_130 : decode cX3_copy 130 = .ok (.getfield 37, 3) := dk_180 0 37 (dk_at dksX3_copy_5 11 rfl rfl)
theorem dX3_copy_133 : decode cX3_copy 133 = .ok (.aload_n 0, 1) := dk_42 (dk_at dksX3_copy_5 14 rfl rfl)
theorem dX3_copy_134 : decode cX3_copy 134 = .ok (.getfield 37, 3) := dk_180 0 37 (dk_at dksX3_copy_5 15 rfl rfl)
theorem dX3_copy_137 : decode cX3_copy 137 = .ok (.iload_n 2, 1) := dk_28 (dk_at dksX3_copy_5 18 rfl rfl)
theorem dX3_copy_138 : decode cX3_copy 138 = .ok (.invokevirtual 61, 3) := dk_182 0 61 (dk_at dksX3_copy_5 19 rfl rfl)
theorem dX3_copy_141 : decode cX3_copy 141 = .ok (.checkcast 65, 3) := dk_192 0 65 (dk_at dksX3_copy_6 0 rfl rfl)
theorem dX3_copy_144 : decode cX3_copy 144 = .ok (.invokevirtual 67, 3) := dk_182 0 67 (dk_at dksX3_copy_6 3 rfl rfl)
theorem dX3_copy_147 : decode cX3_copy 147 = .ok (.invokevirtual 71, 3) := dk_182 0 71 (dk_at dksX3_copy_6 6 rfl rfl)
theorem dX3_copy_150 : decode cX3_copy 150 = .ok (.pop, 1) := dk_87 (dk_at dksX3_copy_6 9 rfl rfl)
theorem dX3_copy_151 : decode cX3_copy 151 = .ok (.iinc 2 1, 3) := dk_132 2 1 (dk_at dksX3_copy_6 10 rfl rfl)
theorem dX3_copy_154 : decode cX3_copy 154 = .ok (.goto (-36), 3) := dk_167 255 220 (dk_at dksX3_copy_6 13 rfl rfl)
theorem dX3_copy_157 : decode cX3_copy 157 = .ok (.aload_n 1, 1) := dk_43 (dk_at dksX3_copy_6 16 rfl rfl)
theorem dX3_copy_158 : decode cX3_copy 158 = .ok (.areturn, 1) := dk_176 (dk_at dksX3_copy_6 17 rfl rfl)
theorem q85 : (Jvm.Cond.initialized "LastHatch$Hull") ∈ lw_all := lw_g (lw_at lw_m1 7 rfl) rfl
theorem q211 : (Jvm.Cond.instantiable "LastHatch$Hull" (11 : Nat)) ∈ lw_all := lw_g (lw_at lw_m1 133 rfl) rfl
theorem q213 : (Jvm.Cond.instanceMethod ({ cls := "LastHatch$Hull", name := "<init>", desc := "()V" } : Jvm.MethodName)) ∈ lw_all := lw_g (lw_at lw_m1 135 rfl) rfl
theorem q214 : (Jvm.Cond.code ({ cls := "LastHatch$Hull", name := "<init>", desc := "()V" } : Jvm.MethodName) prog_11_method_1_code (1 : Nat) (Option.none : Option Jvm.ClassFile.FieldType)) ∈ lw_all := lw_g (lw_at lw_m1 136 rfl) rfl
theorem q215 : (Jvm.Cond.methodLink "LastHatch$Hull" (3 : Nat) ({ cls := "java/lang/Object", name := "<init>", desc := "()V" } : Jvm.MethodName)) ∈ lw_all := lw_g (lw_at lw_m1 137 rfl) rfl
theorem q216 : (Jvm.Cond.classLink "LastHatch$Hull" (34 : Nat) "java/util/ArrayList") ∈ lw_all := lw_g (lw_at lw_m1 138 rfl) rfl
theorem q218 : (Jvm.Cond.methodLink "LastHatch$Hull" (36 : Nat) ({ cls := "java/util/ArrayList", name := "<init>", desc := "()V" } : Jvm.MethodName)) ∈ lw_all := lw_g (lw_at lw_m1 140 rfl) rfl
theorem q243 : (Jvm.Cond.fieldLink "LastHatch$Hull" (42 : Nat) "LastHatch$Hull" "now" "I") ∈ lw_all := lw_g (lw_at lw_m1 165 rfl) rfl
theorem q247 : (Jvm.Cond.fieldLink "LastHatch$Hull" (9 : Nat) "LastHatch$Hull" "depth" "I") ∈ lw_all := lw_g (lw_at lw_m1 169 rfl) rfl
theorem q249 : (Jvm.Cond.fieldLink "LastHatch$Hull" (15 : Nat) "LastHatch$Hull" "limit" "I") ∈ lw_all := lw_g (lw_at lw_m1 171 rfl) rfl
theorem q251 : (Jvm.Cond.fieldLink "LastHatch$Hull" (18 : Nat) "LastHatch$Hull" "water" "[I") ∈ lw_all := lw_g (lw_at lw_m1 173 rfl) rfl
theorem q253 : (Jvm.Cond.fieldLink "LastHatch$Hull" (22 : Nat) "LastHatch$Hull" "poison" "[I") ∈ lw_all := lw_g (lw_at lw_m1 175 rfl) rfl
theorem q255 : (Jvm.Cond.fieldLink "LastHatch$Hull" (25 : Nat) "LastHatch$Hull" "doors" "I") ∈ lw_all := lw_g (lw_at lw_m1 177 rfl) rfl
theorem q257 : (Jvm.Cond.fieldLink "LastHatch$Hull" (28 : Nat) "LastHatch$Hull" "valveRoom" "[I") ∈ lw_all := lw_g (lw_at lw_m1 179 rfl) rfl
theorem q259 : (Jvm.Cond.fieldLink "LastHatch$Hull" (31 : Nat) "LastHatch$Hull" "width" "[I") ∈ lw_all := lw_g (lw_at lw_m1 181 rfl) rfl
theorem q261 : (Jvm.Cond.fieldLink "LastHatch$Hull" (51 : Nat) "LastHatch$Hull" "valves" "I") ∈ lw_all := lw_g (lw_at lw_m1 183 rfl) rfl
theorem q263 : (Jvm.Cond.fieldLink "LastHatch$Hull" (54 : Nat) "LastHatch$Hull" "open" "I") ∈ lw_all := lw_g (lw_at lw_m1 185 rfl) rfl
theorem q265 : (Jvm.Cond.fieldLink "LastHatch$Hull" (37 : Nat) "LastHatch$Hull" "men" "Ljava/util/ArrayList;") ∈ lw_all := lw_g (lw_at lw_m1 187 rfl) rfl
theorem q268 : (Jvm.Cond.lays "LastHatch$Hull" "LastHatch$Hull" "now" "I") ∈ lw_all := lw_g (lw_at lw_m1 190 rfl) rfl
theorem q269 : (Jvm.Cond.soleField "LastHatch$Hull" "now") ∈ lw_all := lw_g (lw_at lw_m1 191 rfl) rfl
theorem q270 : (Jvm.Cond.lays "LastHatch$Hull" "LastHatch$Hull" "depth" "I") ∈ lw_all := lw_g (lw_at lw_m1 192 rfl) rfl
theorem q271 : (Jvm.Cond.soleField "LastHatch$Hull" "depth") ∈ lw_all := lw_g (lw_at lw_m1 193 rfl) rfl
theorem q272 : (Jvm.Cond.lays "LastHatch$Hull" "LastHatch$Hull" "limit" "I") ∈ lw_all := lw_g (lw_at lw_m1 194 rfl) rfl
theorem q273 : (Jvm.Cond.soleField "LastHatch$Hull" "limit") ∈ lw_all := lw_g (lw_at lw_m1 195 rfl) rfl
theorem q274 : (Jvm.Cond.laysFinal "LastHatch$Hull" "LastHatch$Hull" "water" "[I") ∈ lw_all := lw_g (lw_at lw_m1 196 rfl) rfl
theorem q275 : (Jvm.Cond.soleField "LastHatch$Hull" "water") ∈ lw_all := lw_g (lw_at lw_m1 197 rfl) rfl
theorem q276 : (Jvm.Cond.laysFinal "LastHatch$Hull" "LastHatch$Hull" "poison" "[I") ∈ lw_all := lw_g (lw_at lw_m1 198 rfl) rfl
theorem q277 : (Jvm.Cond.soleField "LastHatch$Hull" "poison") ∈ lw_all := lw_g (lw_at lw_m1 199 rfl) rfl
theorem q278 : (Jvm.Cond.lays "LastHatch$Hull" "LastHatch$Hull" "doors" "I") ∈ lw_all := lw_g (lw_at lw_m1 200 rfl) rfl
theorem q279 : (Jvm.Cond.soleField "LastHatch$Hull" "doors") ∈ lw_all := lw_g (lw_at lw_m1 201 rfl) rfl
theorem q280 : (Jvm.Cond.laysFinal "LastHatch$Hull" "LastHatch$Hull" "valveRoom" "[I") ∈ lw_all := lw_g (lw_at lw_m1 202 rfl) rfl
theorem q281 : (Jvm.Cond.soleField "LastHatch$Hull" "valveRoom") ∈ lw_all := lw_g (lw_at lw_m1 203 rfl) rfl
theorem q282 : (Jvm.Cond.laysFinal "LastHatch$Hull" "LastHatch$Hull" "width" "[I") ∈ lw_all := lw_g (lw_at lw_m1 204 rfl) rfl
theorem q283 : (Jvm.Cond.soleField "LastHatch$Hull" "width") ∈ lw_all := lw_g (lw_at lw_m1 205 rfl) rfl
theorem q284 : (Jvm.Cond.lays "LastHatch$Hull" "LastHatch$Hull" "valves" "I") ∈ lw_all := lw_g (lw_at lw_m1 206 rfl) rfl
theorem q285 : (Jvm.Cond.soleField "LastHatch$Hull" "valves") ∈ lw_all := lw_g (lw_at lw_m1 207 rfl) rfl
theorem q286 : (Jvm.Cond.lays "LastHatch$Hull" "LastHatch$Hull" "open" "I") ∈ lw_all := lw_g (lw_at lw_m1 208 rfl) rfl
theorem q287 : (Jvm.Cond.soleField "LastHatch$Hull" "open") ∈ lw_all := lw_g (lw_at lw_m1 209 rfl) rfl
theorem q288 : (Jvm.Cond.laysFinal "LastHatch$Hull" "LastHatch$Hull" "men" "Ljava/util/ArrayList;") ∈ lw_all := lw_g (lw_at lw_m1 210 rfl) rfl
theorem q289 : (Jvm.Cond.soleField "LastHatch$Hull" "men") ∈ lw_all := lw_g (lw_at lw_m1 211 rfl) rfl
theorem q290 : (Jvm.Cond.superclass "LastHatch$Hull" "java/lang/Object") ∈ lw_all := lw_g (lw_at lw_m1 212 rfl) rfl
theorem q549 : (Jvm.Cond.fieldLinkNest "LastHatch$Hull" (79 : Nat) "LastHatch$Man" "place" "I" "LastHatch") ∈ lw_tbl := lw_at lw_m2 231 rfl
theorem q551 : (Jvm.Cond.fieldLinkNest "LastHatch$Hull" (82 : Nat) "LastHatch$Man" "doing" "I" "LastHatch") ∈ lw_tbl := lw_at lw_m2 233 rfl
theorem q601 : (Jvm.Cond.selects "LastHatch$Hull" ({ cls := "java/lang/Object", name := "getClass", desc := "()Ljava/lang/Class;" } : Jvm.MethodName) ({ cls := "java/lang/Object", name := "getClass", desc := "()Ljava/lang/Class;" } : Jvm.MethodName)) ∈ lw_all := lw_g (lw_at lw_m3 43 rfl) rfl
theorem q696 : (Jvm.Cond.instanceMethod ({ cls := "LastHatch$Hull", name := "menIn", desc := "(I)I" } : Jvm.MethodName)) ∈ lw_all := lw_g (lw_at lw_m3 138 rfl) rfl
theorem q697 : (Jvm.Cond.selects "LastHatch$Hull" ({ cls := "LastHatch$Hull", name := "menIn", desc := "(I)I" } : Jvm.MethodName) ({ cls := "LastHatch$Hull", name := "menIn", desc := "(I)I" } : Jvm.MethodName)) ∈ lw_all := lw_g (lw_at lw_m3 139 rfl) rfl
theorem q698 : (Jvm.Cond.code ({ cls := "LastHatch$Hull", name := "menIn", desc := "(I)I" } : Jvm.MethodName) prog_11_method_8_code (4 : Nat) (Option.some Jvm.ClassFile.FieldType.int)) ∈ lw_all := lw_g (lw_at lw_m3 140 rfl) rfl
theorem q699 : (Jvm.Cond.methodLink "LastHatch$Hull" (57 : Nat) ({ cls := "java/util/ArrayList", name := "size", desc := "()I" } : Jvm.MethodName)) ∈ lw_all := lw_g (lw_at lw_m3 141 rfl) rfl
theorem q700 : (Jvm.Cond.methodLink "LastHatch$Hull" (61 : Nat) ({ cls := "java/util/ArrayList", name := "get", desc := "(I)Ljava/lang/Object;" } : Jvm.MethodName)) ∈ lw_all := lw_g (lw_at lw_m3 142 rfl) rfl
theorem q701 : (Jvm.Cond.classLink "LastHatch$Hull" (65 : Nat) "LastHatch$Man") ∈ lw_all := lw_g (lw_at lw_m3 143 rfl) rfl
theorem q702 : (Jvm.Cond.methodLink "LastHatch$Hull" (115 : Nat) ({ cls := "LastHatch$Man", name := "isIn", desc := "(I)Z" } : Jvm.MethodName)) ∈ lw_all := lw_g (lw_at lw_m3 144 rfl) rfl
theorem q719 : (Jvm.Cond.instanceMethod ({ cls := "LastHatch$Hull", name := "go", desc := "(ILLastHatch$Laws;)V" } : Jvm.MethodName)) ∈ lw_all := lw_g (lw_at lw_m3 161 rfl) rfl
theorem q720 : (Jvm.Cond.selects "LastHatch$Hull" ({ cls := "LastHatch$Hull", name := "go", desc := "(ILLastHatch$Laws;)V" } : Jvm.MethodName) ({ cls := "LastHatch$Hull", name := "go", desc := "(ILLastHatch$Laws;)V" } : Jvm.MethodName)) ∈ lw_all := lw_g (lw_at lw_m3 162 rfl) rfl
theorem q721 : (Jvm.Cond.code ({ cls := "LastHatch$Hull", name := "go", desc := "(ILLastHatch$Laws;)V" } : Jvm.MethodName) prog_11_method_7_code (4 : Nat) (Option.none : Option Jvm.ClassFile.FieldType)) ∈ lw_all := lw_g (lw_at lw_m3 163 rfl) rfl
theorem q722 : (Jvm.Cond.methodLink "LastHatch$Hull" (108 : Nat) ({ cls := "LastHatch$Hull", name := "breathe", desc := "(LLastHatch$Laws;)V" } : Jvm.MethodName)) ∈ lw_all := lw_g (lw_at lw_m3 164 rfl) rfl
theorem q723 : (Jvm.Cond.instanceMethod ({ cls := "LastHatch$Hull", name := "breathe", desc := "(LLastHatch$Laws;)V" } : Jvm.MethodName)) ∈ lw_all := lw_g (lw_at lw_m3 165 rfl) rfl
theorem q724 : (Jvm.Cond.selects "LastHatch$Hull" ({ cls := "LastHatch$Hull", name := "breathe", desc := "(LLastHatch$Laws;)V" } : Jvm.MethodName) ({ cls := "LastHatch$Hull", name := "breathe", desc := "(LLastHatch$Laws;)V" } : Jvm.MethodName)) ∈ lw_all := lw_g (lw_at lw_m3 166 rfl) rfl
theorem q725 : (Jvm.Cond.code ({ cls := "LastHatch$Hull", name := "breathe", desc := "(LLastHatch$Laws;)V" } : Jvm.MethodName) prog_11_method_4_code (4 : Nat) (Option.none : Option Jvm.ClassFile.FieldType)) ∈ lw_all := lw_g (lw_at lw_m3 167 rfl) rfl
theorem q726 : (Jvm.Cond.methodLink "LastHatch$Hull" (85 : Nat) ({ cls := "LastHatch$Man", name := "cold", desc := "()I" } : Jvm.MethodName)) ∈ lw_all := lw_g (lw_at lw_m3 168 rfl) rfl
theorem q730 : (Jvm.Cond.methodLink "LastHatch$Hull" (88 : Nat) ({ cls := "LastHatch$Laws", name := "breath", desc := "(III)I" } : Jvm.MethodName)) ∈ lw_all := lw_g (lw_at lw_m3 172 rfl) rfl
theorem q764 : (Jvm.Cond.methodLink "LastHatch$Hull" (94 : Nat) ({ cls := "LastHatch$Hull", name := "even", desc := "([I)V" } : Jvm.MethodName)) ∈ lw_all := lw_g (lw_at lw_m3 206 rfl) rfl
theorem q765 : (Jvm.Cond.privateMethod ({ cls := "LastHatch$Hull", name := "even", desc := "([I)V" } : Jvm.MethodName)) ∈ lw_tbl := lw_at lw_m3 207 rfl
theorem q766 : (Jvm.Cond.instanceMethod ({ cls := "LastHatch$Hull", name := "even", desc := "([I)V" } : Jvm.MethodName)) ∈ lw_all := lw_g (lw_at lw_m3 208 rfl) rfl
theorem q767 : (Jvm.Cond.code ({ cls := "LastHatch$Hull", name := "even", desc := "([I)V" } : Jvm.MethodName) prog_11_method_3_code (4 : Nat) (Option.none : Option Jvm.ClassFile.FieldType)) ∈ lw_all := lw_g (lw_at lw_m3 209 rfl) rfl
theorem q768 : (Jvm.Cond.methodLinkNest "LastHatch$Hull" (75 : Nat) ({ cls := "LastHatch", name := "has", desc := "(II)Z" } : Jvm.MethodName) "LastHatch") ∈ lw_tbl := lw_at lw_m3 210 rfl
theorem q771 : (Jvm.Cond.methodLink "LastHatch$Hull" (112 : Nat) ({ cls := "LastHatch$Hull", name := "flood", desc := "()V" } : Jvm.MethodName)) ∈ lw_all := lw_g (lw_at lw_m3 213 rfl) rfl
theorem q772 : (Jvm.Cond.instanceMethod ({ cls := "LastHatch$Hull", name := "flood", desc := "()V" } : Jvm.MethodName)) ∈ lw_all := lw_g (lw_at lw_m3 214 rfl) rfl
theorem q773 : (Jvm.Cond.selects "LastHatch$Hull" ({ cls := "LastHatch$Hull", name := "flood", desc := "()V" } : Jvm.MethodName) ({ cls := "LastHatch$Hull", name := "flood", desc := "()V" } : Jvm.MethodName)) ∈ lw_all := lw_g (lw_at lw_m3 215 rfl) rfl
theorem q774 : (Jvm.Cond.code ({ cls := "LastHatch$Hull", name := "flood", desc := "()V" } : Jvm.MethodName) prog_11_method_6_code (2 : Nat) (Option.none : Option Jvm.ClassFile.FieldType)) ∈ lw_all := lw_g (lw_at lw_m3 216 rfl) rfl
theorem q775 : (Jvm.Cond.methodLink "LastHatch$Hull" (98 : Nat) ({ cls := "LastHatch$Hull", name := "die", desc := "([II)V" } : Jvm.MethodName)) ∈ lw_all := lw_g (lw_at lw_m3 217 rfl) rfl
theorem q776 : (Jvm.Cond.privateMethod ({ cls := "LastHatch$Hull", name := "die", desc := "([II)V" } : Jvm.MethodName)) ∈ lw_tbl := lw_at lw_m3 218 rfl
theorem q777 : (Jvm.Cond.instanceMethod ({ cls := "LastHatch$Hull", name := "die", desc := "([II)V" } : Jvm.MethodName)) ∈ lw_all := lw_g (lw_at lw_m3 219 rfl) rfl
theorem q778 : (Jvm.Cond.code ({ cls := "LastHatch$Hull", name := "die", desc := "([II)V" } : Jvm.MethodName) prog_11_method_5_code (5 : Nat) (Option.none : Option Jvm.ClassFile.FieldType)) ∈ lw_all := lw_g (lw_at lw_m3 220 rfl) rfl
theorem q779 : (Jvm.Cond.methodLink "LastHatch$Hull" (102 : Nat) ({ cls := "java/lang/Math", name := "min", desc := "(II)I" } : Jvm.MethodName)) ∈ lw_all := lw_g (lw_at lw_m3 221 rfl) rfl
theorem q785 : (Jvm.Cond.instanceMethod ({ cls := "LastHatch$Hull", name := "copy", desc := "()LLastHatch$Hull;" } : Jvm.MethodName)) ∈ lw_all := lw_g (lw_at lw_m3 227 rfl) rfl
theorem q786 : (Jvm.Cond.selects "LastHatch$Hull" ({ cls := "LastHatch$Hull", name := "copy", desc := "()LLastHatch$Hull;" } : Jvm.MethodName) ({ cls := "LastHatch$Hull", name := "copy", desc := "()LLastHatch$Hull;" } : Jvm.MethodName)) ∈ lw_all := lw_g (lw_at lw_m3 228 rfl) rfl
theorem q787 : (Jvm.Cond.code ({ cls := "LastHatch$Hull", name := "copy", desc := "()LLastHatch$Hull;" } : Jvm.MethodName) prog_11_method_2_code (3 : Nat) (Option.some (Jvm.ClassFile.FieldType.object "LastHatch$Hull"))) ∈ lw_all := lw_g (lw_at lw_m3 229 rfl) rfl
theorem q788 : (Jvm.Cond.classLink "LastHatch$Hull" (10 : Nat) "LastHatch$Hull") ∈ lw_all := lw_g (lw_at lw_m3 230 rfl) rfl
theorem q789 : (Jvm.Cond.methodLink "LastHatch$Hull" (41 : Nat) ({ cls := "LastHatch$Hull", name := "<init>", desc := "()V" } : Jvm.MethodName)) ∈ lw_all := lw_g (lw_at lw_m3 231 rfl) rfl
theorem q790 : (Jvm.Cond.methodLink "LastHatch$Hull" (45 : Nat) ({ cls := "java/lang/System", name := "arraycopy", desc := "(Ljava/lang/Object;ILjava/lang/Object;II)V" } : Jvm.MethodName)) ∈ lw_all := lw_g (lw_at lw_m3 232 rfl) rfl
theorem q791 : (Jvm.Cond.methodLink "LastHatch$Hull" (67 : Nat) ({ cls := "LastHatch$Man", name := "copy", desc := "()LLastHatch$Man;" } : Jvm.MethodName)) ∈ lw_all := lw_g (lw_at lw_m3 233 rfl) rfl
theorem q797 : (Jvm.Cond.methodLink "LastHatch$Hull" (71 : Nat) ({ cls := "java/util/ArrayList", name := "add", desc := "(Ljava/lang/Object;)Z" } : Jvm.MethodName)) ∈ lw_all := lw_g (lw_at lw_m3 239 rfl) rfl
theorem q2536 : (Jvm.Cond.castable "LastHatch$Hull" "java/lang/Object") ∈ lw_tbl := lw_at lw_m11 58 rfl
theorem in_X3 : ∀ w ∈ wsX30, w ∈ lw_all := lw_in wsX30 [268, 270, 272, 274, 276, 278, 280, 282, 284, 286, 288] (by decide +kernel) (by decide +kernel)

/-! LastHatch$Laws -/
set_option maxRecDepth 100000
def RX4 : String := "LastHatch$Laws"
def TX4 : u_T := fun k => match k with
  | 0 => ("LastHatch$Laws", "text", "[LLastHatch$Term;", true)
  | _ => ("LastHatch$Laws", "facts", "LLastHatch$Facts;", true)
def tyX4 : Nat → FieldType := fun k => match k with
  | 0 => .array (.object "LastHatch$Term")
  | _ => .object "LastHatch$Facts"
abbrev wsX40 : List Cond := u_ws RX4 TX4 2
theorem nmX4 : ∀ a, a < 2 → ∀ b, b < 2 → a ≠ b → (TX4 a).2.1 ≠ (TX4 b).2.1 := by decide +kernel
theorem tyX4_ok : ∀ k, k < 2 → parseFieldDescriptor (TX4 k).2.2.1 = some (tyX4 k) := by decide +kernel
abbrev cX4_init : ByteArray := prog_13_method_1_code
def yX4_init : MethodName := ⟨RX4, "<init>", "()V"⟩
def dkwX4_init_0 : List UInt8 := [42, 183, 0, 3, 42, 7, 189, 0, 9, 181, 0, 11, 42, 187, 0, 17, 89, 183, 0, 19, 181, 0, 20, 177]
abbrev dktX4_init_0 : List UInt8 := dkwX4_init_0 ++ []
theorem dksX4_init_0 : cX4_init.data.toList.drop 0 = dktX4_init_0 := by decide +kernel
theorem dX4_init_0 : decode cX4_init 0 = .ok (.aload_n 0, 1) := dk_42 (dk_at dksX4_init_0 0 rfl rfl)
theorem dX4_init_1 : decode cX4_init 1 = .ok (.invokespecial 3, 3) := dk_183 0 3 (dk_at dksX4_init_0 1 rfl rfl)
theorem dX4_init_4 : decode cX4_init 4 = .ok (.aload_n 0, 1) := dk_42 (dk_at dksX4_init_0 4 rfl rfl)
theorem dX4_init_5 : decode cX4_init 5 = .ok (.iconst 4, 1) := dk_7 (dk_at dksX4_init_0 5 rfl rfl)
theorem dX4_init_6 : decode cX4_init 6 = .ok (.anewarray 9, 3) := dk_189 0 9 (dk_at dksX4_init_0 6 rfl rfl)
theorem dX4_init_9 : decode cX4_init 9 = .ok (.putfield 11, 3) := dk_181 0 11 (dk_at dksX4_init_0 9 rfl rfl)
theorem dX4_init_12 : decode cX4_init 12 = .ok (.aload_n 0, 1) := dk_42 (dk_at dksX4_init_0 12 rfl rfl)
theorem dX4_init_13 : decode cX4_init 13 = .ok (.new 17, 3) := dk_187 0 17 (dk_at dksX4_init_0 13 rfl rfl)
theorem dX4_init_16 : decode cX4_init 16 = .ok (.dup, 1) := dk_89 (dk_at dksX4_init_0 16 rfl rfl)
theorem dX4_init_17 : decode cX4_init 17 = .ok (.invokespecial 19, 3) := dk_183 0 19 (dk_at dksX4_init_0 17 rfl rfl)
theorem dX4_init_20 : decode cX4_init 20 = .ok (.putfield 20, 3) := dk_181 0 20 (dk_at dksX4_init_0 20 rfl rfl)
theorem dX4_init_23 : decode cX4_init 23 = .ok (.return_, 1) := dk_177 (dk_at dksX4_init_0 23 rfl rfl)
abbrev cX4_breath : ByteArray := prog_13_method_5_code
def yX4_breath : MethodName := ⟨RX4, "breath", "(III)I"⟩
def dkwX4_breath_2 : List UInt8 := [3, 16, 99, 182, 0, 56, 172]
abbrev dktX4_breath_2 : List UInt8 := dkwX4_breath_2 ++ []
def dkwX4_breath_1 : List UInt8 := [180, 0, 20, 16, 119, 27, 182, 0, 52, 16, 99, 28, 182, 0, 52, 16, 112, 29, 182, 0, 52, 87, 42, 3]
abbrev dktX4_breath_1 : List UInt8 := dkwX4_breath_1 ++ dktX4_breath_2
def dkwX4_breath_0 : List UInt8 := [42, 180, 0, 11, 3, 50, 199, 0, 16, 3, 16, 99, 4, 27, 96, 184, 0, 43, 184, 0, 49, 172, 42]
abbrev dktX4_breath_0 : List UInt8 := dkwX4_breath_0 ++ dktX4_breath_1
theorem dksX4_breath_0 : cX4_breath.data.toList.drop 0 = dktX4_breath_0 := by decide +kernel
theorem dksX4_breath_1 : cX4_breath.data.toList.drop 23 = dktX4_breath_1 := dk_seg dksX4_breath_0 23 rfl rfl
theorem dksX4_breath_2 : cX4_breath.data.toList.drop 47 = dktX4_breath_2 := dk_seg dksX4_breath_1 24 rfl rfl
theorem dX4_breath_0 : decode cX4_breath 0 = .ok (.aload_n 0, 1) := dk_42 (dk_at dksX4_breath_0 0 rfl rfl)
theorem dX4_breath_1 : decode cX4_breath 1 = .ok (.getfield 11, 3) := dk_180 0 11 (dk_at dksX4_breath_0 1 rfl rfl)
theorem dX4_breath_4 : decode cX4_breath 4 = .ok (.iconst 0, 1) := dk_3 (dk_at dksX4_breath_0 4 rfl rfl)
theorem dX4_breath_5 : decode cX4_breath 5 = .ok (.aaload, 1) := dk_50 (dk_at dksX4_breath_0 5 rfl rfl)
theorem dX4_breath_6 : decode cX4_breath 6 = .ok (.ifnonnull 16, 3) := dk_199 0 16 (dk_at dksX4_breath_0 6 rfl rfl)
theorem dX4_breath_9 : decode cX4_breath 9 = .ok (.iconst 0, 1) := dk_3 (dk_at dksX4_breath_0 9 rfl rfl)
theorem dX4_breath_10 : decode cX4_breath 10 = .ok (.bipush 99, 2) := dk_16 99 (dk_at dksX4_breath_0 10 rfl rfl)
theorem dX4_breath_12 : decode cX4_breath 12 = .ok (.iconst 1, 1) := dk_4 (dk_at dksX4_breath_0 12 rfl rfl)
theorem dX4_breath_13 : decode cX4_breath 13 = .ok (.iload_n 1, 1) := dk_27 (dk_at dksX4_breath_0 13 rfl rfl)
theorem dX4_breath_14 : decode cX4_breath 14 = .ok (.iadd, 1) := dk_96 (dk_at dksX4_breath_0 14 rfl rfl)
theorem dX4_breath_15 : decode cX4_breath 15 = .ok (.invokestatic 43, 3) := dk_184 0 43 (dk_at dksX4_breath_0 15 rfl rfl)
theorem dX4_breath_18 : decode cX4_breath 18 = .ok (.invokestatic 49, 3) := dk_184 0 49 (dk_at dksX4_breath_0 18 rfl rfl)
theorem dX4_breath_21 : decode cX4_breath 21 = .ok (.ireturn, 1) := dk_172 (dk_at dksX4_breath_0 21 rfl rfl)
theorem dX4_breath_22 : decode cX4_breath 22 = .ok (.aload_n 0, 1) := dk_42 (dk_at dksX4_breath_0 22 rfl rfl)
theorem dX4_breath_23 : decode cX4_breath 23 = .ok (.getfield 20, 3) := dk_180 0 20 (dk_at dksX4_breath_1 0 rfl rfl)
theorem dX4_breath_26 : decode cX4_breath 26 = .ok (.bipush 119, 2) := dk_16 119 (dk_at dksX4_breath_1 3 rfl rfl)
theorem dX4_breath_28 : decode cX4_breath 28 = .ok (.iload_n 1, 1) := dk_27 (dk_at dksX4_breath_1 5 rfl rfl)
theorem dX4_breath_29 : decode cX4_breath 29 = .ok (.invokevirtual 52, 3) := dk_182 0 52 (dk_at dksX4_breath_1 6 rfl rfl)
theorem dX4_breath_32 : decode cX4_breath 32 = .ok (.bipush 99, 2) := dk_16 99 (dk_at dksX4_breath_1 9 rfl rfl)
theorem dX4_breath_34 : decode cX4_breath 34 = .ok (.iload_n 2, 1) := dk_28 (dk_at dksX4_breath_1 11 rfl rfl)
theorem dX4_breath_35 : decode cX4_breath 35 = .ok (.invokevirtual 52, 3) := dk_182 0 52 (dk_at dksX4_breath_1 12 rfl rfl)
theorem dX4_breath_38 : decode cX4_breath 38 = .ok (.bipush 112, 2) := dk_16 112 (dk_at dksX4_breath_1 15 rfl rfl)
theorem dX4_breath_40 : decode cX4_breath 40 = .ok (.iload_n 3, 1) := dk_29 (dk_at dksX4_breath_1 17 rfl rfl)
theorem dX4_breath_41 : decode cX4_breath 41 = .ok (.invokevirtual 52, 3) := dk_182 0 52 (dk_at dksX4_breath_1 18 rfl rfl)
theorem dX4_breath_44 : decode cX4_breath 44 = .ok (.pop, 1) := dk_87 (dk_at dksX4_breath_1 21 rfl rfl)
theorem dX4_breath_45 : decode cX4_breath 45 = .ok (.aload_n 0, 1) := dk_42 (dk_at dksX4_breath_1 22 rfl rfl)
theorem dX4_breath_46 : decode cX4_breath 46 = .ok (.iconst 0, 1) := dk_3 (dk_at dksX4_breath_1 23 rfl rfl)
theorem dX4_breath_47 : decode cX4_breath 47 = .ok (.iconst 0, 1) := dk_3 (dk_at dksX4_breath_2 0 rfl rfl)
theorem dX4_breath_48 : decode cX4_breath 48 = .ok (.bipush 99, 2) := dk_16 99 (dk_at dksX4_breath_2 1 rfl rfl)
theorem dX4_breath_50 : decode cX4_breath 50 = .ok (.invokevirtual 56, 3) := dk_182 0 56 (dk_at dksX4_breath_2 3 rfl rfl)
theorem dX4_breath_53 : decode cX4_breath 53 = .ok (.ireturn, 1) := dk_172 (dk_at dksX4_breath_2 6 rfl rfl)
abbrev cX4_given : ByteArray := prog_13_method_4_code
def yX4_given : MethodName := ⟨RX4, "given", "(III)I"⟩
def dkwX4_given_0 : List UInt8 := [28, 29, 42, 180, 0, 11, 27, 50, 42, 180, 0, 20, 182, 0, 39, 184, 0, 43, 184, 0, 49, 172]
abbrev dktX4_given_0 : List UInt8 := dkwX4_given_0 ++ []
theorem dksX4_given_0 : cX4_given.data.toList.drop 0 = dktX4_given_0 := by decide +kernel
theorem dX4_given_0 : decode cX4_given 0 = .ok (.iload_n 2, 1) := dk_28 (dk_at dksX4_given_0 0 rfl rfl)
theorem dX4_given_1 : decode cX4_given 1 = .ok (.iload_n 3, 1) := dk_29 (dk_at dksX4_given_0 1 rfl rfl)
theorem dX4_given_2 : decode cX4_given 2 = .ok (.aload_n 0, 1) := dk_42 (dk_at dksX4_given_0 2 rfl rfl)
theorem dX4_given_3 : decode cX4_given 3 = .ok (.getfield 11, 3) := dk_180 0 11 (dk_at dksX4_given_0 3 rfl rfl)
theorem dX4_given_6 : decode cX4_given 6 = .ok (.iload_n 1, 1) := dk_27 (dk_at dksX4_given_0 6 rfl rfl)
theorem dX4_given_7 : decode cX4_given 7 = .ok (.aaload, 1) := dk_50 (dk_at dksX4_given_0 7 rfl rfl)
theorem dX4_given_8 : decode cX4_given 8 = .ok (.aload_n 0, 1) := dk_42 (dk_at dksX4_given_0 8 rfl rfl)
theorem dX4_given_9 : decode cX4_given 9 = .ok (.getfield 20, 3) := dk_180 0 20 (dk_at dksX4_given_0 9 rfl rfl)
theorem dX4_given_12 : decode cX4_given 12 = .ok (.invokevirtual 39, 3) := dk_182 0 39 (dk_at dksX4_given_0 12 rfl rfl)
theorem dX4_given_15 : decode cX4_given 15 = .ok (.invokestatic 43, 3) := dk_184 0 43 (dk_at dksX4_given_0 15 rfl rfl)
theorem dX4_given_18 : decode cX4_given 18 = .ok (.invokestatic 49, 3) := dk_184 0 49 (dk_at dksX4_given_0 18 rfl rfl)
theorem dX4_given_21 : decode cX4_given 21 = .ok (.ireturn, 1) := dk_172 (dk_at dksX4_given_0 21 rfl rfl)
abbrev cX4_names : ByteArray := prog_13_method_3_code
def yX4_names : MethodName := ⟨RX4, "names", "(I)Ljava/lang/String;"⟩
def dkwX4_names_1 : List UInt8 := [18, 35, 167, 0, 5, 18, 37, 176]
abbrev dktX4_names_1 : List UInt8 := dkwX4_names_1 ++ []
def dkwX4_names_0 : List UInt8 := [26, 154, 0, 8, 18, 31, 167, 0, 25, 26, 4, 160, 0, 8, 18, 33, 167, 0, 15, 26, 5, 160, 0, 8]
abbrev dktX4_names_0 : List UInt8 := dkwX4_names_0 ++ dktX4_names_1
theorem dksX4_names_0 : cX4_names.data.toList.drop 0 = dktX4_names_0 := by decide +kernel
theorem dksX4_names_1 : cX4_names.data.toList.drop 24 = dktX4_names_1 := dk_seg dksX4_names_0 24 rfl rfl
theorem dX4_names_0 : decode cX4_names 0 = .ok (.iload_n 0, 1) := dk_26 (dk_at dksX4_names_0 0 rfl rfl)
theorem dX4_names_1 : decode cX4_names 1 = .ok (.ifCond .ne 8, 3) := dk_154 0 8 (dk_at dksX4_names_0 1 rfl rfl)
theorem dX4_names_4 : decode cX4_names 4 = .ok (.ldc 31, 2) := dk_18 31 (dk_at dksX4_names_0 4 rfl rfl)
theorem dX4_names_6 : decode cX4_names 6 = .ok (.goto 25, 3) := dk_167 0 25 (dk_at dksX4_names_0 6 rfl rfl)
theorem dX4_names_9 : decode cX4_names 9 = .ok (.iload_n 0, 1) := dk_26 (dk_at dksX4_names_0 9 rfl rfl)
theorem dX4_names_10 : decode cX4_names 10 = .ok (.iconst 1, 1) := dk_4 (dk_at dksX4_names_0 10 rfl rfl)
theorem dX4_names_11 : decode cX4_names 11 = .ok (.if_icmp .ne 8, 3) := dk_160 0 8 (dk_at dksX4_names_0 11 rfl rfl)
theorem dX4_names_14 : decode cX4_names 14 = .ok (.ldc 33, 2) := dk_18 33 (dk_at dksX4_names_0 14 rfl rfl)
theorem dX4_names_16 : decode cX4_names 16 = .ok (.goto 15, 3) := dk_167 0 15 (dk_at dksX4_names_0 16 rfl rfl)
theorem dX4_names_19 : decode cX4_names 19 = .ok (.iload_n 0, 1) := dk_26 (dk_at dksX4_names_0 19 rfl rfl)
theorem dX4_names_20 : decode cX4_names 20 = .ok (.iconst 2, 1) := dk_5 (dk_at dksX4_names_0 20 rfl rfl)
theorem dX4_names_21 : decode cX4_names 21 = .ok (.if_icmp .ne 8, 3) := dk_160 0 8 (dk_at dksX4_names_0 21 rfl rfl)
theorem dX4_names_24 : decode cX4_names 24 = .ok (.ldc 35, 2) := dk_18 35 (dk_at dksX4_names_1 0 rfl rfl)
theorem dX4_names_26 : decode cX4_names 26 = .ok (.goto 5, 3) := dk_167 0 5 (dk_at dksX4_names_1 2 rfl rfl)
theorem dX4_names_29 : decode cX4_names 29 = .ok (.ldc 37, 2) := dk_18 37 (dk_at dksX4_names_1 5 rfl rfl)
theorem dX4_names_31 : decode cX4_names 31 = .ok (.areturn, 1) := dk_176 (dk_at dksX4_names_1 7 rfl rfl)
abbrev cX4_gives : ByteArray := prog_13_method_9_code
def yX4_gives : MethodName := ⟨RX4, "gives", "(IIII)I"⟩
def dkwX4_gives_3 : List UInt8 := [153, 0, 7, 4, 167, 0, 4, 3, 172, 42, 28, 29, 182, 0, 70, 172]
abbrev dktX4_gives_3 : List UInt8 := dkwX4_gives_3 ++ []
def dkwX4_gives_2 : List UInt8 := [42, 28, 29, 21, 4, 182, 0, 60, 172, 42, 28, 29, 21, 4, 182, 0, 63, 172, 42, 28, 182, 0, 66]
abbrev dktX4_gives_2 : List UInt8 := dkwX4_gives_2 ++ dktX4_gives_3
def dkwX4_gives_1 : List UInt8 := [170, 0, 0, 0, 0, 0, 59, 0, 0, 0, 0, 0, 0, 0, 2, 0, 0, 0, 27, 0, 0, 0, 36, 0, 0, 0, 45]
abbrev dktX4_gives_1 : List UInt8 := dkwX4_gives_1 ++ dktX4_gives_2
def dkwX4_gives_0 : List UInt8 := [27]
abbrev dktX4_gives_0 : List UInt8 := dkwX4_gives_0 ++ dktX4_gives_1
theorem dksX4_gives_0 : cX4_gives.data.toList.drop 0 = dktX4_gives_0 := by decide +kernel
theorem dksX4_gives_1 : cX4_gives.data.toList.drop 1 = dktX4_gives_1 := dk_seg dksX4_gives_0 1 rfl rfl
theorem dksX4_gives_2 : cX4_gives.data.toList.drop 28 = dktX4_gives_2 := dk_seg dksX4_gives_1 27 rfl rfl
theorem dksX4_gives_3 : cX4_gives.data.toList.drop 51 = dktX4_gives_3 := dk_seg dksX4_gives_2 23 rfl rfl
theorem dX4_gives_0 : decode cX4_gives 0 = .ok (.iload_n 1, 1) := dk_27 (dk_at dksX4_gives_0 0 rfl rfl)
theorem dX4_gives_1 : decode cX4_gives 1 = .ok (.tableswitch 59 0 2 #[27, 36, 45], 27) := by decide +kernel
theorem dX4_gives_28 : decode cX4_gives 28 = .ok (.aload_n 0, 1) := dk_42 (dk_at dksX4_gives_2 0 rfl rfl)
theorem dX4_gives_29 : decode cX4_gives 29 = .ok (.iload_n 2, 1) := dk_28 (dk_at dksX4_gives_2 1 rfl rfl)
theorem dX4_gives_30 : decode cX4_gives 30 = .ok (.iload_n 3, 1) := dk_29 (dk_at dksX4_gives_2 2 rfl rfl)
theorem dX4_gives_31 : decode cX4_gives 31 = .ok (.iload 4, 2) := dk_21 4 (dk_at dksX4_gives_2 3 rfl rfl)
theorem dX4_gives_33 : decode cX4_gives 33 = .ok (.invokevirtual 60, 3) := dk_182 0 60 (dk_at dksX4_gives_2 5 rfl rfl)
theorem dX4_gives_36 : decode cX4_gives 36 = .ok (.ireturn, 1) := dk_172 (dk_at dksX4_gives_2 8 rfl rfl)
theorem dX4_gives_37 : decode cX4_gives 37 = .ok (.aload_n 0, 1) := dk_42 (dk_at dksX4_gives_2 9 rfl rfl)
theorem dX4_gives_38 : decode cX4_gives 38 = .ok (.iload_n 2, 1) := dk_28 (dk_at dksX4_gives_2 10 rfl rfl)
theorem dX4_gives_39 : decode cX4_gives 39 = .ok (.iload_n 3, 1) := dk_29 (dk_at dksX4_gives_2 11 rfl rfl)
theorem dX4_gives_40 : decode cX4_gives 40 = .ok (.iload 4, 2) := dk_21 4 (dk_at dksX4_gives_2 12 rfl rfl)
theorem dX4_gives_42 : decode cX4_gives 42 = .ok (.invokevirtual 63, 3) := dk_182 0 63 (dk_at dksX4_gives_2 14 rfl rfl)
theorem dX4_gives_45 : decode cX4_gives 45 = .ok (.ireturn, 1) := dk_172 (dk_at dksX4_gives_2 17 rfl rfl)
theorem dX4_gives_46 : decode cX4_gives 46 = .ok (.aload_n 0, 1) := dk_42 (dk_at dksX4_gives_2 18 rfl rfl)
theorem dX4_gives_47 : decode cX4_gives 47 = .ok (.iload_n 2, 1) := dk_28 (dk_at dksX4_gives_2 19 rfl rfl)
theorem dX4_gives_48 : decode cX4_gives 48 = .ok (.invokevirtual 66, 3) := dk_182 0 66 (dk_at dksX4_gives_2 20 rfl rfl)
theorem dX4_gives_51 : decode cX4_gives 51 = .ok (.ifCond .eq 7, 3) := dk_153 0 7 (dk_at dksX4_gives_3 0 rfl rfl)
theorem dX4_gives_54 : decode cX4_gives 54 = .ok (.iconst 1, 1) := dk_4 (dk_at dksX4_gives_3 3 rfl rfl)
theorem dX4_gives_55 : decode cX4_gives 55 = .ok (.goto 4, 3) := dk_167 0 4 (dk_at dksX4_gives_3 4 rfl rfl)
theorem dX4_gives_58 : decode cX4_gives 58 = .ok (.iconst 0, 1) := dk_3 (dk_at dksX4_gives_3 7 rfl rfl)
theorem dX4_gives_59 : decode cX4_gives 59 = .ok (.ireturn, 1) := dk_172 (dk_at dksX4_gives_3 8 rfl rfl)
theorem dX4_gives_60 : decode cX4_gives 60 = .ok (.aload_n 0, 1) := dk_42 (dk_at dksX4_gives_3 9 rfl rfl)
theorem dX4_gives_61 : decode cX4_gives 61 = .ok (.iload_n 2, 1) := dk_28 (dk_at dksX4_gives_3 10 rfl rfl)
theorem dX4_gives_62 : decode cX4_gives 62 = .ok (.iload_n 3, 1) := dk_29 (dk_at dksX4_gives_3 11 rfl rfl)
theorem dX4_gives_63 : decode cX4_gives 63 = .ok (.invokevirtual 70, 3) := dk_182 0 70 (dk_at dksX4_gives_3 12 rfl rfl)
theorem dX4_gives_66 : decode cX4_gives 66 = .ok (.ireturn, 1) := dk_172 (dk_at dksX4_gives_3 15 rfl rfl)
abbrev cX4_harm : ByteArray := prog_13_method_6_code
def yX4_harm : MethodName := ⟨RX4, "harm", "(III)I"⟩
def dkwX4_harm_2 : List UInt8 := [182, 0, 52, 87, 42, 4, 3, 17, 3, 232, 182, 0, 56, 172]
abbrev dktX4_harm_2 : List UInt8 := dkwX4_harm_2 ++ []
def dkwX4_harm_1 : List UInt8 := [184, 0, 49, 172, 42, 180, 0, 20, 16, 100, 27, 182, 0, 52, 16, 109, 28, 182, 0, 52, 16, 115, 29]
abbrev dktX4_harm_1 : List UInt8 := dkwX4_harm_1 ++ dktX4_harm_2
def dkwX4_harm_0 : List UInt8 := [42, 180, 0, 11, 4, 50, 199, 0, 22, 3, 17, 3, 232, 27, 28, 16, 10, 108, 96, 29, 100, 184, 0, 43]
abbrev dktX4_harm_0 : List UInt8 := dkwX4_harm_0 ++ dktX4_harm_1
theorem dksX4_harm_0 : cX4_harm.data.toList.drop 0 = dktX4_harm_0 := by decide +kernel
theorem dksX4_harm_1 : cX4_harm.data.toList.drop 24 = dktX4_harm_1 := dk_seg dksX4_harm_0 24 rfl rfl
theorem dksX4_harm_2 : cX4_harm.data.toList.drop 47 = dktX4_harm_2 := dk_seg dksX4_harm_1 23 rfl rfl
theorem dX4_harm_0 : decode cX4_harm 0 = .ok (.aload_n 0, 1) := dk_42 (dk_at dksX4_harm_0 0 rfl rfl)
theorem dX4_harm_1 : decode cX4_harm 1 = .ok (.getfield 11, 3) := dk_180 0 11 (dk_at dksX4_harm_0 1 rfl rfl)
theorem dX4_harm_4 : decode cX4_harm 4 = .ok (.iconst 1, 1) := dk_4 (dk_at dksX4_harm_0 4 rfl rfl)
theorem dX4_harm_5 : decode cX4_harm 5 = .ok (.aaload, 1) := dk_50 (dk_at dksX4_harm_0 5 rfl rfl)
theorem dX4_harm_6 : decode cX4_harm 6 = .ok (.ifnonnull 22, 3) := dk_199 0 22 (dk_at dksX4_harm_0 6 rfl rfl)
theorem dX4_harm_9 : decode cX4_harm 9 = .ok (.iconst 0, 1) := dk_3 (dk_at dksX4_harm_0 9 rfl rfl)
theorem dX4_harm_10 : decode cX4_harm 10 = .ok (.sipush 1000, 3) := dk_17 3 232 (dk_at dksX4_harm_0 10 rfl rfl)
theorem dX4_harm_13 : decode cX4_harm 13 = .ok (.iload_n 1, 1) := dk_27 (dk_at dksX4_harm_0 13 rfl rfl)
theorem dX4_harm_14 : decode cX4_harm 14 = .ok (.iload_n 2, 1) := dk_28 (dk_at dksX4_harm_0 14 rfl rfl)
theorem dX4_harm_15 : decode cX4_harm 15 = .ok (.bipush 10, 2) := dk_16 10 (dk_at dksX4_harm_0 15 rfl rfl)
theorem dX4_harm_17 : decode cX4_harm 17 = .ok (.idiv, 1) := dk_108 (dk_at dksX4_harm_0 17 rfl rfl)
theorem dX4_harm_18 : decode cX4_harm 18 = .ok (.iadd, 1) := dk_96 (dk_at dksX4_harm_0 18 rfl rfl)
theorem dX4_harm_19 : decode cX4_harm 19 = .ok (.iload_n 3, 1) := dk_29 (dk_at dksX4_harm_0 19 rfl rfl)
theorem dX4_harm_20 : decode cX4_harm 20 = .ok (.isub, 1) := dk_100 (dk_at dksX4_harm_0 20 rfl rfl)
theorem dX4_harm_21 : decode cX4_harm 21 = .ok (.invokestatic 43, 3) := dk_184 0 43 (dk_at dksX4_harm_0 21 rfl rfl)
theorem dX4_harm_24 : decode cX4_harm 24 = .ok (.invokestatic 49, 3) := dk_184 0 49 (dk_at dksX4_harm_1 0 rfl rfl)
theorem dX4_harm_27 : decode cX4_harm 27 = .ok (.ireturn, 1) := dk_172 (dk_at dksX4_harm_1 3 rfl rfl)
theorem dX4_harm_28 : decode cX4_harm 28 = .ok (.aload_n 0, 1) := dk_42 (dk_at dksX4_harm_1 4 rfl rfl)
theorem dX4_harm_29 : decode cX4_harm 29 = .ok (.getfield 20, 3) := dk_180 0 20 (dk_at dksX4_harm_1 5 rfl rfl)
theorem dX4_harm_32 : decode cX4_harm 32 = .ok (.bipush 100, 2) := dk_16 100 (dk_at dksX4_harm_1 8 rfl rfl)
theorem dX4_harm_34 : decode cX4_harm 34 = .ok (.iload_n 1, 1) := dk_27 (dk_at dksX4_harm_1 10 rfl rfl)
theorem dX4_harm_35 : decode cX4_harm 35 = .ok (.invokevirtual 52, 3) := dk_182 0 52 (dk_at dksX4_harm_1 11 rfl rfl)
theorem dX4_harm_38 : decode cX4_harm 38 = .ok (.bipush 109, 2) := dk_16 109 (dk_at dksX4_harm_1 14 rfl rfl)
theorem dX4_harm_40 : decode cX4_harm 40 = .ok (.iload_n 2, 1) := dk_28 (dk_at dksX4_harm_1 16 rfl rfl)
theorem dX4_harm_41 : decode cX4_harm 41 = .ok (.invokevirtual 52, 3) := dk_182 0 52 (dk_at dksX4_harm_1 17 rfl rfl)
theorem dX4_harm_44 : decode cX4_harm 44 = .ok (.bipush 115, 2) := dk_16 115 (dk_at dksX4_harm_1 20 rfl rfl)
theorem dX4_harm_46 : decode cX4_harm 46 = .ok (.iload_n 3, 1) := dk_29 (dk_at dksX4_harm_1 22 rfl rfl)
theorem dX4_harm_47 : decode cX4_harm 47 = .ok (.invokevirtual 52, 3) := dk_182 0 52 (dk_at dksX4_harm_2 0 rfl rfl)
theorem dX4_harm_50 : decode cX4_harm 50 = .ok (.pop, 1) := dk_87 (dk_at dksX4_harm_2 3 rfl rfl)
theorem dX4_harm_51 : decode cX4_harm 51 = .ok (.aload_n 0, 1) := dk_42 (dk_at dksX4_harm_2 4 rfl rfl)
theorem dX4_harm_52 : decode cX4_harm 52 = .ok (.iconst 1, 1) := dk_4 (dk_at dksX4_harm_2 5 rfl rfl)
theorem dX4_harm_53 : decode cX4_harm 53 = .ok (.iconst 0, 1) := dk_3 (dk_at dksX4_harm_2 6 rfl rfl)
theorem dX4_harm_54 : decode cX4_harm 54 = .ok (.sipush 1000, 3) := dk_17 3 232 (dk_at dksX4_harm_2 7 rfl rfl)
theorem dX4_harm_57 : decode cX4_harm 57 = .ok (.invokevirtual 56, 3) := dk_182 0 56 (dk_at dksX4_harm_2 10 rfl rfl)
theorem dX4_harm_60 : decode cX4_harm 60 = .ok (.ireturn, 1) := dk_172 (dk_at dksX4_harm_2 13 rfl rfl)
abbrev cX4_isTide : ByteArray := prog_13_method_7_code
def yX4_isTide : MethodName := ⟨RX4, "isTide", "(I)Z"⟩
def dkwX4_isTide_2 : List UInt8 := [153, 0, 7, 4, 167, 0, 4, 3, 172]
abbrev dktX4_isTide_2 : List UInt8 := dkwX4_isTide_2 ++ []
def dkwX4_isTide_1 : List UInt8 := [167, 0, 30, 42, 180, 0, 11, 5, 50, 42, 180, 0, 20, 16, 109, 27, 182, 0, 52, 182, 0, 39]
abbrev dktX4_isTide_1 : List UInt8 := dkwX4_isTide_1 ++ dktX4_isTide_2
def dkwX4_isTide_0 : List UInt8 := [42, 180, 0, 11, 5, 50, 199, 0, 21, 27, 17, 1, 104, 112, 16, 40, 162, 0, 7, 4, 167, 0, 34, 3]
abbrev dktX4_isTide_0 : List UInt8 := dkwX4_isTide_0 ++ dktX4_isTide_1
theorem dksX4_isTide_0 : cX4_isTide.data.toList.drop 0 = dktX4_isTide_0 := by decide +kernel
theorem dksX4_isTide_1 : cX4_isTide.data.toList.drop 24 = dktX4_isTide_1 := dk_seg dksX4_isTide_0 24 rfl rfl
theorem dksX4_isTide_2 : cX4_isTide.data.toList.drop 46 = dktX4_isTide_2 := dk_seg dksX4_isTide_1 22 rfl rfl
theorem dX4_isTide_0 : decode cX4_isTide 0 = .ok (.aload_n 0, 1) := dk_42 (dk_at dksX4_isTide_0 0 rfl rfl)
theorem dX4_isTide_1 : decode cX4_isTide 1 = .ok (.getfield 11, 3) := dk_180 0 11 (dk_at dksX4_isTide_0 1 rfl rfl)
theorem dX4_isTide_4 : decode cX4_isTide 4 = .ok (.iconst 2, 1) := dk_5 (dk_at dksX4_isTide_0 4 rfl rfl)
theorem dX4_isTide_5 : decode cX4_isTide 5 = .ok (.aaload, 1) := dk_50 (dk_at dksX4_isTide_0 5 rfl rfl)
theorem dX4_isTide_6 : decode cX4_isTide 6 = .ok (.ifnonnull 21, 3) := dk_199 0 21 (dk_at dksX4_isTide_0 6 rfl rfl)
theorem dX4_isTide_9 : decode cX4_isTide 9 = .ok (.iload_n 1, 1) := dk_27 (dk_at dksX4_isTide_0 9 rfl rfl)
theorem dX4_isTide_10 : decode cX4_isTide 10 = .ok (.sipush 360, 3) := dk_17 1 104 (dk_at dksX4_isTide_0 10 rfl rfl)
theorem dX4_isTide_13 : decode cX4_isTide 13 = .ok (.irem, 1) := dk_112 (dk_at dksX4_isTide_0 13 rfl rfl)
theorem dX4_isTide_14 : decode cX4_isTide 14 = .ok (.bipush 40, 2) := dk_16 40 (dk_at dksX4_isTide_0 14 rfl rfl)
theorem dX4_isTide_16 : decode cX4_isTide 16 = .ok (.if_icmp .ge 7, 3) := dk_162 0 7 (dk_at dksX4_isTide_0 16 rfl rfl)
theorem dX4_isTide_19 : decode cX4_isTide 19 = .ok (.iconst 1, 1) := dk_4 (dk_at dksX4_isTide_0 19 rfl rfl)
theorem dX4_isTide_20 : decode cX4_isTide 20 = .ok (.goto 34, 3) := dk_167 0 34 (dk_at dksX4_isTide_0 20 rfl rfl)
theorem dX4_isTide_23 : decode cX4_isTide 23 = .ok (.iconst 0, 1) := dk_3 (dk_at dksX4_isTide_0 23 rfl rfl)
theorem dX4_isTide_24 : decode cX4_isTide 24 = .ok (.goto 30, 3) := dk_167 0 30 (dk_at dksX4_isTide_1 0 rfl rfl)
theorem dX4_isTide_27 : decode cX4_isTide 27 = .ok (.aload_n 0, 1) := dk_42 (dk_at dksX4_isTide_1 3 rfl rfl)
theorem dX4_isTide_28 : decode cX4_isTide 28 = .ok (.getfield 11, 3) := dk_180 0 11 (dk_at dksX4_isTide_1 4 rfl rfl)
theorem dX4_isTide_31 : decode cX4_isTide 31 = .ok (.iconst 2, 1) := dk_5 (dk_at dksX4_isTide_1 7 rfl rfl)
theorem dX4_isTide_32 : decode cX4_isTide 32 = .ok (.aaload, 1) := dk_50 (dk_at dksX4_isTide_1 8 rfl rfl)
theorem dX4_isTide_33 : decode cX4_isTide 33 = .ok (.aload_n 0, 1) := dk_42 (dk_at dksX4_isTide_1 9 rfl rfl)
theorem dX4_isTide_34 : decode cX4_isTide 34 = .ok (.getfield 20, 3) := dk_180 0 20 (dk_at dksX4_isTide_1 10 rfl rfl)
theorem dX4_isTide_37 : decode cX4_isTide 37 = .ok (.bipush 109, 2) := dk_16 109 (dk_at dksX4_isTide_1 13 rfl rfl)
theorem dX4_isTide_39 : decode cX4_isTide 39 = .ok (.iload_n 1, 1) := dk_27 (dk_at dksX4_isTide_1 15 rfl rfl)
theorem dX4_isTide_40 : decode cX4_isTide 40 = .ok (.invokevirtual 52, 3) := dk_182 0 52 (dk_at dksX4_isTide_1 16 rfl rfl)
theorem dX4_isTide_43 : decode cX4_isTide 43 = .ok (.invokevirtual 39, 3) := dk_182 0 39 (dk_at dksX4_isTide_1 19 rfl rfl)
theorem dX4_isTide_46 : decode cX4_isTide 46 = .ok (.ifCond .eq 7, 3) := dk_153 0 7 (dk_at dksX4_isTide_2 0 rfl rfl)
theorem dX4_isTide_49 : decode cX4_isTide 49 = .ok (.iconst 1, 1) := dk_4 (dk_at dksX4_isTide_2 3 rfl rfl)
theorem dX4_isTide_50 : decode cX4_isTide 50 = .ok (.goto 4, 3) := dk_167 0 4 (dk_at dksX4_isTide_2 4 rfl rfl)
theorem dX4_isTide_53 : decode cX4_isTide 53 = .ok (.iconst 0, 1) := dk_3 (dk_at dksX4_isTide_2 7 rfl rfl)
theorem dX4_isTide_54 : decode cX4_isTide 54 = .ok (.ireturn, 1) := dk_172 (dk_at dksX4_isTide_2 8 rfl rfl)
abbrev cX4_odd : ByteArray := prog_13_method_8_code
def yX4_odd : MethodName := ⟨RX4, "odd", "(II)I"⟩
def dkwX4_odd_1 : List UInt8 := [16, 104, 27, 182, 0, 52, 16, 110, 28, 182, 0, 52, 87, 42, 6, 3, 16, 24, 182, 0, 56, 172]
abbrev dktX4_odd_1 : List UInt8 := dkwX4_odd_1 ++ []
def dkwX4_odd_0 : List UInt8 := [42, 180, 0, 11, 6, 50, 199, 0, 14, 3, 16, 24, 28, 184, 0, 43, 184, 0, 49, 172, 42, 180, 0, 20]
abbrev dktX4_odd_0 : List UInt8 := dkwX4_odd_0 ++ dktX4_odd_1
theorem dksX4_odd_0 : cX4_odd.data.toList.drop 0 = dktX4_odd_0 := by decide +kernel
theorem dksX4_odd_1 : cX4_odd.data.toList.drop 24 = dktX4_odd_1 := dk_seg dksX4_odd_0 24 rfl rfl
theorem dX4_odd_0 : decode cX4_odd 0 = .ok (.aload_n 0, 1) := dk_42 (dk_at dksX4_odd_0 0 rfl rfl)
theorem dX4_odd_1 : decode cX4_odd 1 = .ok (.getfield 11, 3) := dk_180 0 11 (dk_at dksX4_odd_0 1 rfl rfl)
theorem dX4_odd_4 : decode cX4_odd 4 = .ok (.iconst 3, 1) := dk_6 (dk_at dksX4_odd_0 4 rfl rfl)
theorem dX4_odd_5 : decode cX4_odd 5 = .ok (.aaload, 1) := dk_50 (dk_at dksX4_odd_0 5 rfl rfl)
theorem dX4_odd_6 : decode cX4_odd 6 = .ok (.ifnonnull 14, 3) := dk_199 0 14 (dk_at dksX4_odd_0 6 rfl rfl)
theorem dX4_odd_9 : decode cX4_odd 9 = .ok (.iconst 0, 1) := dk_3 (dk_at dksX4_odd_0 9 rfl rfl)
theorem dX4_odd_10 : decode cX4_odd 10 = .ok (.bipush 24, 2) := dk_16 24 (dk_at dksX4_odd_0 10 rfl rfl)
theorem dX4_odd_12 : decode cX4_odd 12 = .ok (.iload_n 2, 1) := dk_28 (dk_at dksX4_odd_0 12 rfl rfl)
theorem dX4_odd_13 : decode cX4_odd 13 = .ok (.invokestatic 43, 3) := dk_184 0 43 (dk_at dksX4_odd_0 13 rfl rfl)
theorem dX4_odd_16 : decode cX4_odd 16 = .ok (.invokestatic 49, 3) := dk_184 0 49 (dk_at dksX4_odd_0 16 rfl rfl)
theorem dX4_odd_19 : decode cX4_odd 19 = .ok (.ireturn, 1) := dk_172 (dk_at dksX4_odd_0 19 rfl rfl)
theorem dX4_odd_20 : decode cX4_odd 20 = .ok (.aload_n 0, 1) := dk_42 (dk_at dksX4_odd_0 20 rfl rfl)
theorem dX4_odd_21 : decode cX4_odd 21 = .ok (.getfield 20, 3) := dk_180 0 20 (dk_at dksX4_odd_0 21 rfl rfl)
theorem dX4_odd_24 : decode cX4_odd 24 = .ok (.bipush 104, 2) := dk_16 104 (dk_at dksX4_odd_1 0 rfl rfl)
theorem dX4_odd_26 : decode cX4_odd 26 = .ok (.iload_n 1, 1) := dk_27 (dk_at dksX4_odd_1 2 rfl rfl)
theorem dX4_odd_27 : decode cX4_odd 27 = .ok (.invokevirtual 52, 3) := dk_182 0 52 (dk_at dksX4_odd_1 3 rfl rfl)
theorem dX4_odd_30 : decode cX4_odd 30 = .ok (.bipush 110, 2) := dk_16 110 (dk_at dksX4_odd_1 6 rfl rfl)
theorem dX4_odd_32 : decode cX4_odd 32 = .ok (.iload_n 2, 1) := dk_28 (dk_at dksX4_odd_1 8 rfl rfl)
theorem dX4_odd_33 : decode cX4_odd 33 = .ok (.invokevirtual 52, 3) := dk_182 0 52 (dk_at dksX4_odd_1 9 rfl rfl)
theorem dX4_odd_36 : decode cX4_odd 36 = .ok (.pop, 1) := dk_87 (dk_at dksX4_odd_1 12 rfl rfl)
theorem dX4_odd_37 : decode cX4_odd 37 = .ok (.aload_n 0, 1) := dk_42 (dk_at dksX4_odd_1 13 rfl rfl)
theorem dX4_odd_38 : decode cX4_odd 38 = .ok (.iconst 3, 1) := dk_6 (dk_at dksX4_odd_1 14 rfl rfl)
theorem dX4_odd_39 : decode cX4_odd 39 = .ok (.iconst 0, 1) := dk_3 (dk_at dksX4_odd_1 15 rfl rfl)
theorem dX4_odd_40 : decode cX4_odd 40 = .ok (.bipush 24, 2) := dk_16 24 (dk_at dksX4_odd_1 16 rfl rfl)
theorem dX4_odd_42 : decode cX4_odd 42 = .ok (.invokevirtual 56, 3) := dk_182 0 56 (dk_at dksX4_odd_1 18 rfl rfl)
theorem dX4_odd_45 : decode cX4_odd 45 = .ok (.ireturn, 1) := dk_172 (dk_at dksX4_odd_1 21 rfl rfl)
abbrev cX4_copy : ByteArray := prog_13_method_2_code
def yX4_copy : MethodName := ⟨RX4, "copy", "()LLastHatch$Laws;"⟩
def dkwX4_copy_0 : List UInt8 := [187, 0, 12, 89, 183, 0, 24, 76, 42, 180, 0, 11, 3, 43, 180, 0, 11, 3, 7, 184, 0, 25, 43, 176]
abbrev dktX4_copy_0 : List UInt8 := dkwX4_copy_0 ++ []
theorem dksX4_copy_0 : cX4_copy.data.toList.drop 0 = dktX4_copy_0 := by decide +kernel
theorem dX4_copy_0 : decode cX4_copy 0 = .ok (.new 12, 3) := dk_187 0 12 (dk_at dksX4_copy_0 0 rfl rfl)
theorem dX4_copy_3 : decode cX4_copy 3 = .ok (.dup, 1) := dk_89 (dk_at dksX4_copy_0 3 rfl rfl)
theorem dX4_copy_4 : decode cX4_copy 4 = .ok (.invokespecial 24, 3) := dk_183 0 24 (dk_at dksX4_copy_0 4 rfl rfl)
theorem dX4_copy_7 : decode cX4_copy 7 = .ok (.astore_n 1, 1) := dk_76 (dk_at dksX4_copy_0 7 rfl rfl)
theorem dX4_copy_8 : decode cX4_copy 8 = .ok (.aload_n 0, 1) := dk_42 (dk_at dksX4_copy_0 8 rfl rfl)
theorem dX4_copy_9 : decode cX4_copy 9 = .ok (.getfield 11, 3) := dk_180 0 11 (dk_at dksX4_copy_0 9 rfl rfl)
theorem dX4_copy_12 : decode cX4_copy 12 = .ok (.iconst 0, 1) := dk_3 (dk_at dksX4_copy_0 12 rfl rfl)
theorem dX4_copy_13 : decode cX4_copy 13 = .ok (.aload_n 1, 1) := dk_43 (dk_at dksX4_copy_0 13 rfl rfl)
theorem dX4_copy_14 : decode cX4_copy 14 = .ok (.getfield 11, 3) := dk_180 0 11 (dk_at dksX4_copy_0 14 rfl rfl)
theorem dX4_copy_17 : decode cX4_copy 17 = .ok (.iconst 0, 1) := dk_3 (dk_at dksX4_copy_0 17 rfl rfl)
theorem dX4_copy_18 : decode cX4_copy 18 = .ok (.iconst 4, 1) := dk_7 (dk_at dksX4_copy_0 18 rfl rfl)
theorem dX4_copy_19 : decode cX4_copy 19 = .ok (.invokestatic 25, 3) := dk_184 0 25 (dk_at dksX4_copy_0 19 rfl rfl)
theorem dX4_copy_22 : decode cX4_copy 22 = .ok (.aload_n 1, 1) := dk_43 (dk_at dksX4_copy_0 22 rfl rfl)
theorem dX4_copy_23 : decode cX4_copy 23 = .ok (.areturn, 1) := dk_176 (dk_at dksX4_copy_0 23 rfl rfl)
theorem q89 : (Jvm.Cond.initialized "LastHatch$Laws") ∈ lw_all := lw_g (lw_at lw_m1 11 rfl) rfl
theorem q292 : (Jvm.Cond.instantiable "LastHatch$Laws" (2 : Nat)) ∈ lw_all := lw_g (lw_at lw_m1 214 rfl) rfl
theorem q294 : (Jvm.Cond.instanceMethod ({ cls := "LastHatch$Laws", name := "<init>", desc := "()V" } : Jvm.MethodName)) ∈ lw_all := lw_g (lw_at lw_m1 216 rfl) rfl
theorem q295 : (Jvm.Cond.code ({ cls := "LastHatch$Laws", name := "<init>", desc := "()V" } : Jvm.MethodName) prog_13_method_1_code (1 : Nat) (Option.none : Option Jvm.ClassFile.FieldType)) ∈ lw_all := lw_g (lw_at lw_m1 217 rfl) rfl
theorem q296 : (Jvm.Cond.methodLink "LastHatch$Laws" (3 : Nat) ({ cls := "java/lang/Object", name := "<init>", desc := "()V" } : Jvm.MethodName)) ∈ lw_all := lw_g (lw_at lw_m1 218 rfl) rfl
theorem q297 : (Jvm.Cond.classLink "LastHatch$Laws" (9 : Nat) "LastHatch$Term") ∈ lw_all := lw_g (lw_at lw_m1 219 rfl) rfl
theorem q299 : (Jvm.Cond.classLink "LastHatch$Laws" (17 : Nat) "LastHatch$Facts") ∈ lw_all := lw_g (lw_at lw_m1 221 rfl) rfl
theorem q301 : (Jvm.Cond.methodLinkNest "LastHatch$Laws" (19 : Nat) ({ cls := "LastHatch$Facts", name := "<init>", desc := "()V" } : Jvm.MethodName) "LastHatch") ∈ lw_tbl := lw_at lw_m1 223 rfl
theorem q310 : (Jvm.Cond.fieldLink "LastHatch$Laws" (11 : Nat) "LastHatch$Laws" "text" "[LLastHatch$Term;") ∈ lw_all := lw_g (lw_at lw_m1 232 rfl) rfl
theorem q312 : (Jvm.Cond.fieldLink "LastHatch$Laws" (20 : Nat) "LastHatch$Laws" "facts" "LLastHatch$Facts;") ∈ lw_all := lw_g (lw_at lw_m1 234 rfl) rfl
theorem q313 : (Jvm.Cond.laysFinal "LastHatch$Laws" "LastHatch$Laws" "text" "[LLastHatch$Term;") ∈ lw_all := lw_g (lw_at lw_m1 235 rfl) rfl
theorem q314 : (Jvm.Cond.soleField "LastHatch$Laws" "text") ∈ lw_all := lw_g (lw_at lw_m1 236 rfl) rfl
theorem q315 : (Jvm.Cond.laysFinal "LastHatch$Laws" "LastHatch$Laws" "facts" "LLastHatch$Facts;") ∈ lw_all := lw_g (lw_at lw_m1 237 rfl) rfl
theorem q316 : (Jvm.Cond.soleField "LastHatch$Laws" "facts") ∈ lw_all := lw_g (lw_at lw_m1 238 rfl) rfl
theorem q317 : (Jvm.Cond.superclass "LastHatch$Laws" "java/lang/Object") ∈ lw_all := lw_g (lw_at lw_m1 239 rfl) rfl
theorem q603 : (Jvm.Cond.selects "LastHatch$Laws" ({ cls := "java/lang/Object", name := "getClass", desc := "()Ljava/lang/Class;" } : Jvm.MethodName) ({ cls := "java/lang/Object", name := "getClass", desc := "()Ljava/lang/Class;" } : Jvm.MethodName)) ∈ lw_all := lw_g (lw_at lw_m3 45 rfl) rfl
theorem q731 : (Jvm.Cond.instanceMethod ({ cls := "LastHatch$Laws", name := "breath", desc := "(III)I" } : Jvm.MethodName)) ∈ lw_all := lw_g (lw_at lw_m3 173 rfl) rfl
theorem q732 : (Jvm.Cond.selects "LastHatch$Laws" ({ cls := "LastHatch$Laws", name := "breath", desc := "(III)I" } : Jvm.MethodName) ({ cls := "LastHatch$Laws", name := "breath", desc := "(III)I" } : Jvm.MethodName)) ∈ lw_all := lw_g (lw_at lw_m3 174 rfl) rfl
theorem q733 : (Jvm.Cond.code ({ cls := "LastHatch$Laws", name := "breath", desc := "(III)I" } : Jvm.MethodName) prog_13_method_5_code (4 : Nat) (Option.some Jvm.ClassFile.FieldType.int)) ∈ lw_all := lw_g (lw_at lw_m3 175 rfl) rfl
theorem q734 : (Jvm.Cond.methodLink "LastHatch$Laws" (43 : Nat) ({ cls := "java/lang/Math", name := "min", desc := "(II)I" } : Jvm.MethodName)) ∈ lw_all := lw_g (lw_at lw_m3 176 rfl) rfl
theorem q735 : (Jvm.Cond.methodLink "LastHatch$Laws" (49 : Nat) ({ cls := "java/lang/Math", name := "max", desc := "(II)I" } : Jvm.MethodName)) ∈ lw_all := lw_g (lw_at lw_m3 177 rfl) rfl
theorem q736 : (Jvm.Cond.methodLink "LastHatch$Laws" (52 : Nat) ({ cls := "LastHatch$Facts", name := "with", desc := "(CI)LLastHatch$Facts;" } : Jvm.MethodName)) ∈ lw_all := lw_g (lw_at lw_m3 178 rfl) rfl
theorem q740 : (Jvm.Cond.methodLink "LastHatch$Laws" (56 : Nat) ({ cls := "LastHatch$Laws", name := "given", desc := "(III)I" } : Jvm.MethodName)) ∈ lw_all := lw_g (lw_at lw_m3 182 rfl) rfl
theorem q741 : (Jvm.Cond.privateMethod ({ cls := "LastHatch$Laws", name := "given", desc := "(III)I" } : Jvm.MethodName)) ∈ lw_tbl := lw_at lw_m3 183 rfl
theorem q742 : (Jvm.Cond.instanceMethod ({ cls := "LastHatch$Laws", name := "given", desc := "(III)I" } : Jvm.MethodName)) ∈ lw_all := lw_g (lw_at lw_m3 184 rfl) rfl
theorem q743 : (Jvm.Cond.code ({ cls := "LastHatch$Laws", name := "given", desc := "(III)I" } : Jvm.MethodName) prog_13_method_4_code (4 : Nat) (Option.some Jvm.ClassFile.FieldType.int)) ∈ lw_all := lw_g (lw_at lw_m3 185 rfl) rfl
theorem q744 : (Jvm.Cond.methodLink "LastHatch$Laws" (39 : Nat) ({ cls := "LastHatch$Term", name := "value", desc := "(LLastHatch$Facts;)I" } : Jvm.MethodName)) ∈ lw_all := lw_g (lw_at lw_m3 186 rfl) rfl
theorem q822 : (Jvm.Cond.static ({ cls := "LastHatch$Laws", name := "names", desc := "(I)Ljava/lang/String;" } : Jvm.MethodName)) ∈ lw_all := lw_g (lw_at lw_m4 24 rfl) rfl
theorem q823 : (Jvm.Cond.code ({ cls := "LastHatch$Laws", name := "names", desc := "(I)Ljava/lang/String;" } : Jvm.MethodName) prog_13_method_3_code (1 : Nat) (Option.some (Jvm.ClassFile.FieldType.object "java/lang/String"))) ∈ lw_all := lw_g (lw_at lw_m4 25 rfl) rfl
theorem q824 : (Jvm.Cond.stringRef "LastHatch$Laws" (31 : Nat) "wcp") ∈ lw_tbl := lw_at lw_m4 26 rfl
theorem q825 : (Jvm.Cond.stringRef "LastHatch$Laws" (33 : Nat) "dms") ∈ lw_tbl := lw_at lw_m4 27 rfl
theorem q826 : (Jvm.Cond.stringRef "LastHatch$Laws" (35 : Nat) "m") ∈ lw_tbl := lw_at lw_m4 28 rfl
theorem q827 : (Jvm.Cond.stringRef "LastHatch$Laws" (37 : Nat) "hn") ∈ lw_tbl := lw_at lw_m4 29 rfl
theorem q1055 : (Jvm.Cond.instanceMethod ({ cls := "LastHatch$Laws", name := "gives", desc := "(IIII)I" } : Jvm.MethodName)) ∈ lw_all := lw_g (lw_at lw_m5 17 rfl) rfl
theorem q1056 : (Jvm.Cond.selects "LastHatch$Laws" ({ cls := "LastHatch$Laws", name := "gives", desc := "(IIII)I" } : Jvm.MethodName) ({ cls := "LastHatch$Laws", name := "gives", desc := "(IIII)I" } : Jvm.MethodName)) ∈ lw_all := lw_g (lw_at lw_m5 18 rfl) rfl
theorem q1057 : (Jvm.Cond.code ({ cls := "LastHatch$Laws", name := "gives", desc := "(IIII)I" } : Jvm.MethodName) prog_13_method_9_code (5 : Nat) (Option.some Jvm.ClassFile.FieldType.int)) ∈ lw_all := lw_g (lw_at lw_m5 19 rfl) rfl
theorem q1058 : (Jvm.Cond.methodLink "LastHatch$Laws" (60 : Nat) ({ cls := "LastHatch$Laws", name := "breath", desc := "(III)I" } : Jvm.MethodName)) ∈ lw_all := lw_g (lw_at lw_m5 20 rfl) rfl
theorem q1059 : (Jvm.Cond.methodLink "LastHatch$Laws" (63 : Nat) ({ cls := "LastHatch$Laws", name := "harm", desc := "(III)I" } : Jvm.MethodName)) ∈ lw_all := lw_g (lw_at lw_m5 21 rfl) rfl
theorem q1060 : (Jvm.Cond.instanceMethod ({ cls := "LastHatch$Laws", name := "harm", desc := "(III)I" } : Jvm.MethodName)) ∈ lw_all := lw_g (lw_at lw_m5 22 rfl) rfl
theorem q1061 : (Jvm.Cond.selects "LastHatch$Laws" ({ cls := "LastHatch$Laws", name := "harm", desc := "(III)I" } : Jvm.MethodName) ({ cls := "LastHatch$Laws", name := "harm", desc := "(III)I" } : Jvm.MethodName)) ∈ lw_all := lw_g (lw_at lw_m5 23 rfl) rfl
theorem q1062 : (Jvm.Cond.code ({ cls := "LastHatch$Laws", name := "harm", desc := "(III)I" } : Jvm.MethodName) prog_13_method_6_code (4 : Nat) (Option.some Jvm.ClassFile.FieldType.int)) ∈ lw_all := lw_g (lw_at lw_m5 24 rfl) rfl
theorem q1063 : (Jvm.Cond.methodLink "LastHatch$Laws" (66 : Nat) ({ cls := "LastHatch$Laws", name := "isTide", desc := "(I)Z" } : Jvm.MethodName)) ∈ lw_all := lw_g (lw_at lw_m5 25 rfl) rfl
theorem q1064 : (Jvm.Cond.instanceMethod ({ cls := "LastHatch$Laws", name := "isTide", desc := "(I)Z" } : Jvm.MethodName)) ∈ lw_all := lw_g (lw_at lw_m5 26 rfl) rfl
theorem q1065 : (Jvm.Cond.selects "LastHatch$Laws" ({ cls := "LastHatch$Laws", name := "isTide", desc := "(I)Z" } : Jvm.MethodName) ({ cls := "LastHatch$Laws", name := "isTide", desc := "(I)Z" } : Jvm.MethodName)) ∈ lw_all := lw_g (lw_at lw_m5 27 rfl) rfl
theorem q1066 : (Jvm.Cond.code ({ cls := "LastHatch$Laws", name := "isTide", desc := "(I)Z" } : Jvm.MethodName) prog_13_method_7_code (2 : Nat) (Option.some Jvm.ClassFile.FieldType.boolean)) ∈ lw_all := lw_g (lw_at lw_m5 28 rfl) rfl
theorem q1067 : (Jvm.Cond.methodLink "LastHatch$Laws" (70 : Nat) ({ cls := "LastHatch$Laws", name := "odd", desc := "(II)I" } : Jvm.MethodName)) ∈ lw_all := lw_g (lw_at lw_m5 29 rfl) rfl
theorem q1068 : (Jvm.Cond.instanceMethod ({ cls := "LastHatch$Laws", name := "odd", desc := "(II)I" } : Jvm.MethodName)) ∈ lw_all := lw_g (lw_at lw_m5 30 rfl) rfl
theorem q1069 : (Jvm.Cond.selects "LastHatch$Laws" ({ cls := "LastHatch$Laws", name := "odd", desc := "(II)I" } : Jvm.MethodName) ({ cls := "LastHatch$Laws", name := "odd", desc := "(II)I" } : Jvm.MethodName)) ∈ lw_all := lw_g (lw_at lw_m5 31 rfl) rfl
theorem q1070 : (Jvm.Cond.code ({ cls := "LastHatch$Laws", name := "odd", desc := "(II)I" } : Jvm.MethodName) prog_13_method_8_code (3 : Nat) (Option.some Jvm.ClassFile.FieldType.int)) ∈ lw_all := lw_g (lw_at lw_m5 32 rfl) rfl
theorem q1880 : (Jvm.Cond.instanceMethod ({ cls := "LastHatch$Laws", name := "copy", desc := "()LLastHatch$Laws;" } : Jvm.MethodName)) ∈ lw_all := lw_g (lw_at lw_m8 122 rfl) rfl
theorem q1881 : (Jvm.Cond.selects "LastHatch$Laws" ({ cls := "LastHatch$Laws", name := "copy", desc := "()LLastHatch$Laws;" } : Jvm.MethodName) ({ cls := "LastHatch$Laws", name := "copy", desc := "()LLastHatch$Laws;" } : Jvm.MethodName)) ∈ lw_all := lw_g (lw_at lw_m8 123 rfl) rfl
theorem q1882 : (Jvm.Cond.code ({ cls := "LastHatch$Laws", name := "copy", desc := "()LLastHatch$Laws;" } : Jvm.MethodName) prog_13_method_2_code (2 : Nat) (Option.some (Jvm.ClassFile.FieldType.object "LastHatch$Laws"))) ∈ lw_all := lw_g (lw_at lw_m8 124 rfl) rfl
theorem q1883 : (Jvm.Cond.classLink "LastHatch$Laws" (12 : Nat) "LastHatch$Laws") ∈ lw_all := lw_g (lw_at lw_m8 125 rfl) rfl
theorem q1884 : (Jvm.Cond.methodLink "LastHatch$Laws" (24 : Nat) ({ cls := "LastHatch$Laws", name := "<init>", desc := "()V" } : Jvm.MethodName)) ∈ lw_all := lw_g (lw_at lw_m8 126 rfl) rfl
theorem q1885 : (Jvm.Cond.methodLink "LastHatch$Laws" (25 : Nat) ({ cls := "java/lang/System", name := "arraycopy", desc := "(Ljava/lang/Object;ILjava/lang/Object;II)V" } : Jvm.MethodName)) ∈ lw_all := lw_g (lw_at lw_m8 127 rfl) rfl
theorem q2538 : (Jvm.Cond.castable "LastHatch$Laws" "java/lang/Object") ∈ lw_tbl := lw_at lw_m11 60 rfl
theorem in_X4 : ∀ w ∈ wsX40, w ∈ lw_all := lw_in wsX40 [313, 315] (by decide +kernel) (by decide +kernel)

/-! LastHatch$Facts -/
set_option maxRecDepth 100000
def RX5 : String := "LastHatch$Facts"
def TX5 : u_T := fun k => match k with
  | _ => ("LastHatch$Facts", "named", "[I", true)
def tyX5 : Nat → FieldType := fun k => match k with
  | _ => .array .int
abbrev wsX50 : List Cond := u_ws RX5 TX5 1
theorem nmX5 : ∀ a, a < 1 → ∀ b, b < 1 → a ≠ b → (TX5 a).2.1 ≠ (TX5 b).2.1 := by decide +kernel
theorem tyX5_ok : ∀ k, k < 1 → parseFieldDescriptor (TX5 k).2.2.1 = some (tyX5 k) := by decide +kernel
abbrev cX5_init : ByteArray := prog_6_method_1_code
def yX5_init : MethodName := ⟨RX5, "<init>", "()V"⟩
def dkwX5_init_0 : List UInt8 := [42, 183, 0, 1, 42, 17, 0, 128, 188, 10, 181, 0, 7, 177]
abbrev dktX5_init_0 : List UInt8 := dkwX5_init_0 ++ []
theorem dksX5_init_0 : cX5_init.data.toList.drop 0 = dktX5_init_0 := by decide +kernel
theorem dX5_init_0 : decode cX5_init 0 = .ok (.aload_n 0, 1) := dk_42 (dk_at dksX5_init_0 0 rfl rfl)
theorem dX5_init_1 : decode cX5_init 1 = .ok (.invokespecial 1, 3) := dk_183 0 1 (dk_at dksX5_init_0 1 rfl rfl)
theorem dX5_init_4 : decode cX5_init 4 = .ok (.aload_n 0, 1) := dk_42 (dk_at dksX5_init_0 4 rfl rfl)
theorem dX5_init_5 : decode cX5_init 5 = .ok (.sipush 128, 3) := dk_17 0 128 (dk_at dksX5_init_0 5 rfl rfl)
theorem dX5_init_8 : decode cX5_init 8 = .ok (.newarray .int, 2) := dk_188_10 (dk_at dksX5_init_0 8 rfl rfl)
theorem dX5_init_10 : decode cX5_init 10 = .ok (.putfield 7, 3) := dk_181 0 7 (dk_at dksX5_init_0 10 rfl rfl)
theorem dX5_init_13 : decode cX5_init 13 = .ok (.return_, 1) := dk_177 (dk_at dksX5_init_0 13 rfl rfl)
abbrev cX5_with : ByteArray := prog_6_method_2_code
def yX5_with : MethodName := ⟨RX5, "with", "(CI)LLastHatch$Facts;"⟩
def dkwX5_with_0 : List UInt8 := [42, 180, 0, 7, 27, 28, 79, 42, 176]
abbrev dktX5_with_0 : List UInt8 := dkwX5_with_0 ++ []
theorem dksX5_with_0 : cX5_with.data.toList.drop 0 = dktX5_with_0 := by decide +kernel
theorem dX5_with_0 : decode cX5_with 0 = .ok (.aload_n 0, 1) := dk_42 (dk_at dksX5_with_0 0 rfl rfl)
theorem dX5_with_1 : decode cX5_with 1 = .ok (.getfield 7, 3) := dk_180 0 7 (dk_at dksX5_with_0 1 rfl rfl)
theorem dX5_with_4 : decode cX5_with 4 = .ok (.iload_n 1, 1) := dk_27 (dk_at dksX5_with_0 4 rfl rfl)
theorem dX5_with_5 : decode cX5_with 5 = .ok (.iload_n 2, 1) := dk_28 (dk_at dksX5_with_0 5 rfl rfl)
theorem dX5_with_6 : decode cX5_with 6 = .ok (.iastore, 1) := dk_79 (dk_at dksX5_with_0 6 rfl rfl)
theorem dX5_with_7 : decode cX5_with 7 = .ok (.aload_n 0, 1) := dk_42 (dk_at dksX5_with_0 7 rfl rfl)
theorem dX5_with_8 : decode cX5_with 8 = .ok (.areturn, 1) := dk_176 (dk_at dksX5_with_0 8 rfl rfl)
theorem q90 : (Jvm.Cond.initialized "LastHatch$Facts") ∈ lw_all := lw_g (lw_at lw_m1 12 rfl) rfl
theorem q300 : (Jvm.Cond.instantiable "LastHatch$Facts" (1 : Nat)) ∈ lw_all := lw_g (lw_at lw_m1 222 rfl) rfl
theorem q302 : (Jvm.Cond.instanceMethod ({ cls := "LastHatch$Facts", name := "<init>", desc := "()V" } : Jvm.MethodName)) ∈ lw_all := lw_g (lw_at lw_m1 224 rfl) rfl
theorem q303 : (Jvm.Cond.code ({ cls := "LastHatch$Facts", name := "<init>", desc := "()V" } : Jvm.MethodName) prog_6_method_1_code (1 : Nat) (Option.none : Option Jvm.ClassFile.FieldType)) ∈ lw_all := lw_g (lw_at lw_m1 225 rfl) rfl
theorem q304 : (Jvm.Cond.methodLink "LastHatch$Facts" (1 : Nat) ({ cls := "java/lang/Object", name := "<init>", desc := "()V" } : Jvm.MethodName)) ∈ lw_all := lw_g (lw_at lw_m1 226 rfl) rfl
theorem q305 : (Jvm.Cond.fieldLink "LastHatch$Facts" (7 : Nat) "LastHatch$Facts" "named" "[I") ∈ lw_all := lw_g (lw_at lw_m1 227 rfl) rfl
theorem q307 : (Jvm.Cond.laysFinal "LastHatch$Facts" "LastHatch$Facts" "named" "[I") ∈ lw_all := lw_g (lw_at lw_m1 229 rfl) rfl
theorem q308 : (Jvm.Cond.soleField "LastHatch$Facts" "named") ∈ lw_all := lw_g (lw_at lw_m1 230 rfl) rfl
theorem q309 : (Jvm.Cond.superclass "LastHatch$Facts" "java/lang/Object") ∈ lw_all := lw_g (lw_at lw_m1 231 rfl) rfl
theorem q596 : (Jvm.Cond.selects "LastHatch$Facts" ({ cls := "java/lang/Object", name := "getClass", desc := "()Ljava/lang/Class;" } : Jvm.MethodName) ({ cls := "java/lang/Object", name := "getClass", desc := "()Ljava/lang/Class;" } : Jvm.MethodName)) ∈ lw_all := lw_g (lw_at lw_m3 38 rfl) rfl
theorem q737 : (Jvm.Cond.instanceMethod ({ cls := "LastHatch$Facts", name := "with", desc := "(CI)LLastHatch$Facts;" } : Jvm.MethodName)) ∈ lw_all := lw_g (lw_at lw_m3 179 rfl) rfl
theorem q738 : (Jvm.Cond.selects "LastHatch$Facts" ({ cls := "LastHatch$Facts", name := "with", desc := "(CI)LLastHatch$Facts;" } : Jvm.MethodName) ({ cls := "LastHatch$Facts", name := "with", desc := "(CI)LLastHatch$Facts;" } : Jvm.MethodName)) ∈ lw_all := lw_g (lw_at lw_m3 180 rfl) rfl
theorem q739 : (Jvm.Cond.code ({ cls := "LastHatch$Facts", name := "with", desc := "(CI)LLastHatch$Facts;" } : Jvm.MethodName) prog_6_method_2_code (3 : Nat) (Option.some (Jvm.ClassFile.FieldType.object "LastHatch$Facts"))) ∈ lw_all := lw_g (lw_at lw_m3 181 rfl) rfl
theorem q2539 : (Jvm.Cond.castable "LastHatch$Facts" "java/lang/Object") ∈ lw_tbl := lw_at lw_m11 61 rfl
theorem in_X5 : ∀ w ∈ wsX50, w ∈ lw_all := lw_in wsX50 [307] (by decide +kernel) (by decide +kernel)

/-! LastHatch$Tanks -/
set_option maxRecDepth 100000
def RX6 : String := "LastHatch$Tanks"
def TX6 : u_T := fun k => match k with
  | 0 => ("LastHatch$Tanks", "place", "[I", true)
  | 1 => ("LastHatch$Tanks", "size", "[I", true)
  | 2 => ("LastHatch$Tanks", "many", "I", false)
  | 3 => ("LastHatch$Tanks", "blown", "I", false)
  | _ => ("LastHatch$Tanks", "more", "[I", true)
def tyX6 : Nat → FieldType := fun k => match k with
  | 0 => .array .int
  | 1 => .array .int
  | 2 => .int
  | 3 => .int
  | _ => .array .int
abbrev wsX60 : List Cond := u_ws RX6 TX6 5
theorem nmX6 : ∀ a, a < 5 → ∀ b, b < 5 → a ≠ b → (TX6 a).2.1 ≠ (TX6 b).2.1 := by decide +kernel
theorem tyX6_ok : ∀ k, k < 5 → parseFieldDescriptor (TX6 k).2.2.1 = some (tyX6 k) := by decide +kernel
abbrev cX6_init : ByteArray := prog_27_method_1_code
def yX6_init : MethodName := ⟨RX6, "<init>", "()V"⟩
def dkwX6_init_1 : List UInt8 := [188, 10, 181, 0, 18, 177]
abbrev dktX6_init_1 : List UInt8 := dkwX6_init_1 ++ []
def dkwX6_init_0 : List UInt8 := [42, 183, 0, 3, 42, 16, 8, 188, 10, 181, 0, 9, 42, 16, 8, 188, 10, 181, 0, 15, 42, 17, 1, 0]
abbrev dktX6_init_0 : List UInt8 := dkwX6_init_0 ++ dktX6_init_1
theorem dksX6_init_0 : cX6_init.data.toList.drop 0 = dktX6_init_0 := by decide +kernel
theorem dksX6_init_1 : cX6_init.data.toList.drop 24 = dktX6_init_1 := dk_seg dksX6_init_0 24 rfl rfl
theorem dX6_init_0 : decode cX6_init 0 = .ok (.aload_n 0, 1) := dk_42 (dk_at dksX6_init_0 0 rfl rfl)
theorem dX6_init_1 : decode cX6_init 1 = .ok (.invokespecial 3, 3) := dk_183 0 3 (dk_at dksX6_init_0 1 rfl rfl)
theorem dX6_init_4 : decode cX6_init 4 = .ok (.aload_n 0, 1) := dk_42 (dk_at dksX6_init_0 4 rfl rfl)
theorem dX6_init_5 : decode cX6_init 5 = .ok (.bipush 8, 2) := dk_16 8 (dk_at dksX6_init_0 5 rfl rfl)
theorem dX6_init_7 : decode cX6_init 7 = .ok (.newarray .int, 2) := dk_188_10 (dk_at dksX6_init_0 7 rfl rfl)
theorem dX6_init_9 : decode cX6_init 9 = .ok (.putfield 9, 3) := dk_181 0 9 (dk_at dksX6_init_0 9 rfl rfl)
theorem dX6_init_12 : decode cX6_init 12 = .ok (.aload_n 0, 1) := dk_42 (dk_at dksX6_init_0 12 rfl rfl)
theorem dX6_init_13 : decode cX6_init 13 = .ok (.bipush 8, 2) := dk_16 8 (dk_at dksX6_init_0 13 rfl rfl)
theorem dX6_init_15 : decode cX6_init 15 = .ok (.newarray .int, 2) := dk_188_10 (dk_at dksX6_init_0 15 rfl rfl)
theorem dX6_init_17 : decode cX6_init 17 = .ok (.putfield 15, 3) := dk_181 0 15 (dk_at dksX6_init_0 17 rfl rfl)
theorem dX6_init_20 : decode cX6_init 20 = .ok (.aload_n 0, 1) := dk_42 (dk_at dksX6_init_0 20 rfl rfl)
theorem dX6_init_21 : decode cX6_init 21 = .ok (.sipush 256, 3) := dk_17 1 0 (dk_at dksX6_init_0 21 rfl rfl)
theorem dX6_init_24 : decode cX6_init 24 = .ok (.newarray .int, 2) := dk_188_10 (dk_at dksX6_init_1 0 rfl rfl)
theorem dX6_init_26 : decode cX6_init 26 = .ok (.putfield 18, 3) := dk_181 0 18 (dk_at dksX6_init_1 2 rfl rfl)
theorem dX6_init_29 : decode cX6_init 29 = .ok (.return_, 1) := dk_177 (dk_at dksX6_init_1 5 rfl rfl)
abbrev cX6_lift : ByteArray := prog_27_method_3_code
def yX6_lift : MethodName := ⟨RX6, "lift", "(I)I"⟩
def dkwX6_lift_1 : List UInt8 := [180, 0, 15, 29, 46, 167, 0, 4, 3, 96, 61, 132, 3, 1, 167, 255, 224, 28, 172]
abbrev dktX6_lift_1 : List UInt8 := dkwX6_lift_1 ++ []
def dkwX6_lift_0 : List UInt8 := [3, 61, 3, 62, 29, 42, 180, 0, 28, 162, 0, 30, 28, 27, 29, 184, 0, 35, 153, 0, 12, 42]
abbrev dktX6_lift_0 : List UInt8 := dkwX6_lift_0 ++ dktX6_lift_1
theorem dksX6_lift_0 : cX6_lift.data.toList.drop 0 = dktX6_lift_0 := by decide +kernel
theorem dksX6_lift_1 : cX6_lift.data.toList.drop 22 = dktX6_lift_1 := dk_seg dksX6_lift_0 22 rfl rfl
theorem dX6_lift_0 : decode cX6_lift 0 = .ok (.iconst 0, 1) := dk_3 (dk_at dksX6_lift_0 0 rfl rfl)
theorem dX6_lift_1 : decode cX6_lift 1 = .ok (.istore_n 2, 1) := dk_61 (dk_at dksX6_lift_0 1 rfl rfl)
theorem dX6_lift_2 : decode cX6_lift 2 = .ok (.iconst 0, 1) := dk_3 (dk_at dksX6_lift_0 2 rfl rfl)
theorem dX6_lift_3 : decode cX6_lift 3 = .ok (.istore_n 3, 1) := dk_62 (dk_at dksX6_lift_0 3 rfl rfl)
theorem dX6_lift_4 : decode cX6_lift 4 = .ok (.iload_n 3, 1) := dk_29 (dk_at dksX6_lift_0 4 rfl rfl)
theorem dX6_lift_5 : decode cX6_lift 5 = .ok (.aload_n 0, 1) := dk_42 (dk_at dksX6_lift_0 5 rfl rfl)
theorem dX6_lift_6 : decode cX6_lift 6 = .ok (.getfield 28, 3) := dk_180 0 28 (dk_at dksX6_lift_0 6 rfl rfl)
theorem dX6_lift_9 : decode cX6_lift 9 = .ok (.if_icmp .ge 30, 3) := dk_162 0 30 (dk_at dksX6_lift_0 9 rfl rfl)
theorem dX6_lift_12 : decode cX6_lift 12 = .ok (.iload_n 2, 1) := dk_28 (dk_at dksX6_lift_0 12 rfl rfl)
theorem dX6_lift_13 : decode cX6_lift 13 = .ok (.iload_n 1, 1) := dk_27 (dk_at dksX6_lift_0 13 rfl rfl)
theorem dX6_lift_14 : decode cX6_lift 14 = .ok (.iload_n 3, 1) := dk_29 (dk_at dksX6_lift_0 14 rfl rfl)
theorem dX6_lift_15 : decode cX6_lift 15 = .ok (.invokestatic 35, 3) := dk_184 0 35 (dk_at dksX6_lift_0 15 rfl rfl)
theorem dX6_lift_18 : decode cX6_lift 18 = .ok (.ifCond .eq 12, 3) := dk_153 0 12 (dk_at dksX6_lift_0 18 rfl rfl)
theorem dX6_lift_21 : decode cX6_lift 21 = .ok (.aload_n 0, 1) := dk_42 (dk_at dksX6_lift_0 21 rfl rfl)
theorem dX6_lift_22 : decode cX6_lift 22 = .ok (.getfield 15, 3) := dk_180 0 15 (dk_at dksX6_lift_1 0 rfl rfl)
theorem dX6_lift_25 : decode cX6_lift 25 = .ok (.iload_n 3, 1) := dk_29 (dk_at dksX6_lift_1 3 rfl rfl)
theorem dX6_lift_26 : decode cX6_lift 26 = .ok (.iaload, 1) := dk_46 (dk_at dksX6_lift_1 4 rfl rfl)
theorem dX6_lift_27 : decode cX6_lift 27 = .ok (.goto 4, 3) := dk_167 0 4 (dk_at dksX6_lift_1 5 rfl rfl)
theorem dX6_lift_30 : decode cX6_lift 30 = .ok (.iconst 0, 1) := dk_3 (dk_at dksX6_lift_1 8 rfl rfl)
theorem dX6_lift_31 : decode cX6_lift 31 = .ok (.iadd, 1) := dk_96 (dk_at dksX6_lift_1 9 rfl rfl)
theorem dX6_lift_32 : decode cX6_lift 32 = .ok (.istore_n 2, 1) := dk_61 (dk_at dksX6_lift_1 10 rfl rfl)
theorem dX6_lift_33 : decode cX6_lift 33 = .ok (.iinc 3 1, 3) := dk_132 3 1 (dk_at dksX6_lift_1 11 rfl rfl)
theorem dX6_lift_36 : decode cX6_lift 36 = .ok (.goto (-32), 3) := dk_167 255 224 (dk_at dksX6_lift_1 14 rfl rfl)
theorem dX6_lift_39 : decode cX6_lift 39 = .ok (.iload_n 2, 1) := dk_28 (dk_at dksX6_lift_1 17 rfl rfl)
theorem dX6_lift_40 : decode cX6_lift 40 = .ok (.ireturn, 1) := dk_172 (dk_at dksX6_lift_1 18 rfl rfl)
abbrev cX6_lean : ByteArray := prog_27_method_4_code
def yX6_lean : MethodName := ⟨RX6, "lean", "(I)I"⟩
def dkwX6_lean_2 : List UInt8 := [28, 172]
abbrev dktX6_lean_2 : List UInt8 := dkwX6_lean_2 ++ []
def dkwX6_lean_1 : List UInt8 := [180, 0, 15, 29, 46, 42, 180, 0, 9, 29, 46, 104, 167, 0, 4, 3, 96, 61, 132, 3, 1, 167, 255, 217]
abbrev dktX6_lean_1 : List UInt8 := dkwX6_lean_1 ++ dktX6_lean_2
def dkwX6_lean_0 : List UInt8 := [3, 61, 3, 62, 29, 42, 180, 0, 28, 162, 0, 37, 28, 27, 29, 184, 0, 35, 153, 0, 19, 42]
abbrev dktX6_lean_0 : List UInt8 := dkwX6_lean_0 ++ dktX6_lean_1
theorem dksX6_lean_0 : cX6_lean.data.toList.drop 0 = dktX6_lean_0 := by decide +kernel
theorem dksX6_lean_1 : cX6_lean.data.toList.drop 22 = dktX6_lean_1 := dk_seg dksX6_lean_0 22 rfl rfl
theorem dksX6_lean_2 : cX6_lean.data.toList.drop 46 = dktX6_lean_2 := dk_seg dksX6_lean_1 24 rfl rfl
theorem dX6_lean_0 : decode cX6_lean 0 = .ok (.iconst 0, 1) := dk_3 (dk_at dksX6_lean_0 0 rfl rfl)
theorem dX6_lean_1 : decode cX6_lean 1 = .ok (.istore_n 2, 1) := dk_61 (dk_at dksX6_lean_0 1 rfl rfl)
theorem dX6_lean_2 : decode cX6_lean 2 = .ok (.iconst 0, 1) := dk_3 (dk_at dksX6_lean_0 2 rfl rfl)
theorem dX6_lean_3 : decode cX6_lean 3 = .ok (.istore_n 3, 1) := dk_62 (dk_at dksX6_lean_0 3 rfl rfl)
theorem dX6_lean_4 : decode cX6_lean 4 = .ok (.iload_n 3, 1) := dk_29 (dk_at dksX6_lean_0 4 rfl rfl)
theorem dX6_lean_5 : decode cX6_lean 5 = .ok (.aload_n 0, 1) := dk_42 (dk_at dksX6_lean_0 5 rfl rfl)
theorem dX6_lean_6 : decode cX6_lean 6 = .ok (.getfield 28, 3) := dk_180 0 28 (dk_at dksX6_lean_0 6 rfl rfl)
theorem dX6_lean_9 : decode cX6_lean 9 = .ok (.if_icmp .ge 37, 3) := dk_162 0 37 (dk_at dksX6_lean_0 9 rfl rfl)
theorem dX6_lean_12 : decode cX6_lean 12 = .ok (.iload_n 2, 1) := dk_28 (dk_at dksX6_lean_0 12 rfl rfl)
theorem dX6_lean_13 : decode cX6_lean 13 = .ok (.iload_n 1, 1) := dk_27 (dk_at dksX6_lean_0 13 rfl rfl)
theorem dX6_lean_14 : decode cX6_lean 14 = .ok (.iload_n 3, 1) := dk_29 (dk_at dksX6_lean_0 14 rfl rfl)
theorem dX6_lean_15 : decode cX6_lean 15 = .ok (.invokestatic 35, 3) := dk_184 0 35 (dk_at dksX6_lean_0 15 rfl rfl)
theorem dX6_lean_18 : decode cX6_lean 18 = .ok (.ifCond .eq 19, 3) := dk_153 0 19 (dk_at dksX6_lean_0 18 rfl rfl)
theorem dX6_lean_21 : decode cX6_lean 21 = .ok (.aload_n 0, 1) := dk_42 (dk_at dksX6_lean_0 21 rfl rfl)
theorem dX6_lean_22 : decode cX6_lean 22 = .ok (.getfield 15, 3) := dk_180 0 15 (dk_at dksX6_lean_1 0 rfl rfl)
theorem dX6_lean_25 : decode cX6_lean 25 = .ok (.iload_n 3, 1) := dk_29 (dk_at dksX6_lean_1 3 rfl rfl)
theorem dX6_lean_26 : decode cX6_lean 26 = .ok (.iaload, 1) := dk_46 (dk_at dksX6_lean_1 4 rfl rfl)
theorem dX6_lean_27 : decode cX6_lean 27 = .ok (.aload_n 0, 1) := dk_42 (dk_at dksX6_lean_1 5 rfl rfl)
theorem dX6_lean_28 : decode cX6_lean 28 = .ok (.getfield 9, 3) := dk_180 0 9 (dk_at dksX6_lean_1 6 rfl rfl)
theorem dX6_lean_31 : decode cX6_lean 31 = .ok (.iload_n 3, 1) := dk_29 (dk_at dksX6_lean_1 9 rfl rfl)
theorem dX6_lean_32 : decode cX6_lean 32 = .ok (.iaload, 1) := dk_46 (dk_at dksX6_lean_1 10 rfl rfl)
theorem dX6_lean_33 : decode cX6_lean 33 = .ok (.imul, 1) := dk_104 (dk_at dksX6_lean_1 11 rfl rfl)
theorem dX6_lean_34 : decode cX6_lean 34 = .ok (.goto 4, 3) := dk_167 0 4 (dk_at dksX6_lean_1 12 rfl rfl)
theorem dX6_lean_37 : decode cX6_lean 37 = .ok (.iconst 0, 1) := dk_3 (dk_at dksX6_lean_1 15 rfl rfl)
theorem dX6_lean_38 : decode cX6_lean 38 = .ok (.iadd, 1) := dk_96 (dk_at dksX6_lean_1 16 rfl rfl)
theorem dX6_lean_39 : decode cX6_lean 39 = .ok (.istore_n 2, 1) := dk_61 (dk_at dksX6_lean_1 17 rfl rfl)
theorem dX6_lean_40 : decode cX6_lean 40 = .ok (.iinc 3 1, 3) := dk_132 3 1 (dk_at dksX6_lean_1 18 rfl rfl)
theorem dX6_lean_43 : decode cX6_lean 43 = .ok (.goto (-39), 3) := dk_167 255 217 (dk_at dksX6_lean_1 21 rfl rfl)
theorem dX6_lean_46 : decode cX6_lean 46 = .ok (.iload_n 2, 1) := dk_28 (dk_at dksX6_lean_2 0 rfl rfl)
theorem dX6_lean_47 : decode cX6_lean 47 = .ok (.ireturn, 1) := dk_172 (dk_at dksX6_lean_2 1 rfl rfl)
abbrev cX6_find : ByteArray := prog_27_method_6_code
def yX6_find : MethodName := ⟨RX6, "find", "(II)V"⟩
def dkwX6_find_7 : List UInt8 := [132, 3, 255, 167, 255, 99, 177]
abbrev dktX6_find_7 : List UInt8 := dkwX6_find_7 ++ []
def dkwX6_find_6 : List UInt8 := [162, 0, 18, 42, 180, 0, 18, 29, 42, 180, 0, 18, 21, 5, 46, 4, 96, 79, 132, 4, 1, 167, 255, 154]
abbrev dktX6_find_6 : List UInt8 := dkwX6_find_6 ++ dktX6_find_7
def dkwX6_find_5 : List UInt8 := [180, 0, 18, 29, 46, 2, 159, 0, 21, 42, 180, 0, 18, 21, 5, 46, 4, 96, 42, 180, 0, 18, 29, 46]
abbrev dktX6_find_5 : List UInt8 := dkwX6_find_5 ++ dktX6_find_6
def dkwX6_find_4 : List UInt8 := [21, 5, 28, 182, 0, 50, 153, 0, 7, 4, 167, 0, 4, 3, 54, 6, 21, 6, 153, 0, 46, 42]
abbrev dktX6_find_4 : List UInt8 := dkwX6_find_4 ++ dktX6_find_5
def dkwX6_find_3 : List UInt8 := [21, 4, 120, 128, 54, 5, 21, 5, 29, 159, 0, 28, 42, 180, 0, 18, 21, 5, 46, 2, 159, 0, 17, 42]
abbrev dktX6_find_3 : List UInt8 := dkwX6_find_3 ++ dktX6_find_4
def dkwX6_find_2 : List UInt8 := [180, 0, 18, 29, 3, 79, 167, 0, 111, 3, 54, 4, 21, 4, 42, 180, 0, 28, 162, 0, 99, 29, 4]
abbrev dktX6_find_2 : List UInt8 := dkwX6_find_2 ++ dktX6_find_3
def dkwX6_find_1 : List UInt8 := [180, 0, 32, 126, 42, 180, 0, 32, 159, 0, 6, 167, 0, 130, 42, 29, 182, 0, 47, 27, 161, 0, 13, 42]
abbrev dktX6_find_1 : List UInt8 := dkwX6_find_1 ++ dktX6_find_2
def dkwX6_find_0 : List UInt8 := [4, 42, 180, 0, 28, 120, 4, 100, 62, 29, 155, 0, 159, 42, 180, 0, 18, 29, 2, 79, 29, 42]
abbrev dktX6_find_0 : List UInt8 := dkwX6_find_0 ++ dktX6_find_1
theorem dksX6_find_0 : cX6_find.data.toList.drop 0 = dktX6_find_0 := by decide +kernel
theorem dksX6_find_1 : cX6_find.data.toList.drop 22 = dktX6_find_1 := dk_seg dksX6_find_0 22 rfl rfl
theorem dksX6_find_2 : cX6_find.data.toList.drop 46 = dktX6_find_2 := dk_seg dksX6_find_1 24 rfl rfl
theorem dksX6_find_3 : cX6_find.data.toList.drop 69 = dktX6_find_3 := dk_seg dksX6_find_2 23 rfl rfl
theorem dksX6_find_4 : cX6_find.data.toList.drop 93 = dktX6_find_4 := dk_seg dksX6_find_3 24 rfl rfl
theorem dksX6_find_5 : cX6_find.data.toList.drop 115 = dktX6_find_5 := dk_seg dksX6_find_4 22 rfl rfl
theorem dksX6_find_6 : cX6_find.data.toList.drop 139 = dktX6_find_6 := dk_seg dksX6_find_5 24 rfl rfl
theorem dksX6_find_7 : cX6_find.data.toList.drop 163 = dktX6_find_7 := dk_seg dksX6_find_6 24 rfl rfl
theorem dX6_find_0 : decode cX6_find 0 = .ok (.iconst 1, 1) := dk_4 (dk_at dksX6_find_0 0 rfl rfl)
theorem dX6_find_1 : decode cX6_find 1 = .ok (.aload_n 0, 1) := dk_42 (dk_at dksX6_find_0 1 rfl rfl)
theorem dX6_find_2 : decode cX6_find 2 = .ok (.getfield 28, 3) := dk_180 0 28 (dk_at dksX6_find_0 2 rfl rfl)
theorem dX6_find_5 : decode cX6_find 5 = .ok (.ishl, 1) := dk_120 (dk_at dksX6_find_0 5 rfl rfl)
theorem dX6_find_6 : decode cX6_find 6 = .ok (.iconst 1, 1) := dk_4 (dk_at dksX6_find_0 6 rfl rfl)
theorem dX6_find_7 : decode cX6_find 7 = .ok (.isub, 1) := dk_100 (dk_at dksX6_find_0 7 rfl rfl)
theorem dX6_find_8 : decode cX6_find 8 = .ok (.istore_n 3, 1) := dk_62 (dk_at dksX6_find_0 8 rfl rfl)
theorem dX6_find_9 : decode cX6_find 9 = .ok (.iload_n 3, 1) := dk_29 (dk_at dksX6_find_0 9 rfl rfl)
theorem dX6_find_10 : decode cX6_find 10 = .ok (.ifCond .lt 159, 3) := dk_155 0 159 (dk_at dksX6_find_0 10 rfl rfl)
theorem dX6_find_13 : decode cX6_find 13 = .ok (.aload_n 0, 1) := dk_42 (dk_at dksX6_find_0 13 rfl rfl)
theorem dX6_find_14 : decode cX6_find 14 = .ok (.getfield 18, 3) := dk_180 0 18 (dk_at dksX6_find_0 14 rfl rfl)
theorem dX6_find_17 : decode cX6_find 17 = .ok (.iload_n 3, 1) := dk_29 (dk_at dksX6_find_0 17 rfl rfl)
theorem dX6_find_18 : decode cX6_find 18 = .ok (.iconst (-1), 1) := dk_2 (dk_at dksX6_find_0 18 rfl rfl)
theorem dX6_find_19 : decode cX6_find 19 = .ok (.iastore, 1) := dk_79 (dk_at dksX6_find_0 19 rfl rfl)
theorem dX6_find_20 : decode cX6_find 20 = .ok (.iload_n 3, 1) := dk_29 (dk_at dksX6_find_0 20 rfl rfl)
theorem dX6_find_21 : decode cX6_find 21 = .ok (.aload_n 0, 1) := dk_42 (dk_at dksX6_find_0 21 rfl rfl)
theorem dX6_find_22 : decode cX6_find 22 = .ok (.getfield 32, 3) := dk_180 0 32 (dk_at dksX6_find_1 0 rfl rfl)
theorem dX6_find_25 : decode cX6_find 25 = .ok (.iand, 1) := dk_126 (dk_at dksX6_find_1 3 rfl rfl)
theorem dX6_find_26 : decode cX6_find 26 = .ok (.aload_n 0, 1) := dk_42 (dk_at dksX6_find_1 4 rfl rfl)
theorem dX6_find_27 : decode cX6_find 27 = .ok (.getfield 32, 3) := dk_180 0 32 (dk_at dksX6_find_1 5 rfl rfl)
theorem dX6_find_30 : decode cX6_find 30 = .ok (.if_icmp .eq 6, 3) := dk_159 0 6 (dk_at dksX6_find_1 8 rfl rfl)
theorem dX6_find_33 : decode cX6_find 33 = .ok (.goto 130, 3) := dk_167 0 130 (dk_at dksX6_find_1 11 rfl rfl)
theorem dX6_find_36 : decode cX6_find 36 = .ok (.aload_n 0, 1) := dk_42 (dk_at dksX6_find_1 14 rfl rfl)
theorem dX6_find_37 : decode cX6_find 37 = .ok (.iload_n 3, 1) := dk_29 (dk_at dksX6_find_1 15 rfl rfl)
theorem dX6_find_38 : decode cX6_find 38 = .ok (.invokevirtual 47, 3) := dk_182 0 47 (dk_at dksX6_find_1 16 rfl rfl)
theorem dX6_find_41 : decode cX6_find 41 = .ok (.iload_n 1, 1) := dk_27 (dk_at dksX6_find_1 19 rfl rfl)
theorem dX6_find_42 : decode cX6_find 42 = .ok (.if_icmp .lt 13, 3) := dk_161 0 13 (dk_at dksX6_find_1 20 rfl rfl)
theorem dX6_find_45 : decode cX6_find 45 = .ok (.aload_n 0, 1) := dk_42 (dk_at dksX6_find_1 23 rfl rfl)
theorem dX6_find_46 : decode cX6_find 46 = .ok (.getfield 18, 3) := dk_180 0 18 (dk_at dksX6_find_2 0 rfl rfl)
theorem dX6_find_49 : decode cX6_find 49 = .ok (.iload_n 3, 1) := dk_29 (dk_at dksX6_find_2 3 rfl rfl)
theorem dX6_find_50 : decode cX6_find 50 = .ok (.iconst 0, 1) := dk_3 (dk_at dksX6_find_2 4 rfl rfl)
theorem dX6_find_51 : decode cX6_find 51 = .ok (.iastore, 1) := dk_79 (dk_at dksX6_find_2 5 rfl rfl)
theorem dX6_find_52 : decode cX6_find 52 = .ok (.goto 111, 3) := dk_167 0 111 (dk_at dksX6_find_2 6 rfl rfl)
theorem dX6_find_55 : decode cX6_find 55 = .ok (.iconst 0, 1) := dk_3 (dk_at dksX6_find_2 9 rfl rfl)
theorem dX6_find_56 : decode cX6_find 56 = .ok (.istore 4, 2) := dk_54 4 (dk_at dksX6_find_2 10 rfl rfl)
theorem dX6_find_58 : decode cX6_find 58 = .ok (.iload 4, 2) := dk_21 4 (dk_at dksX6_find_2 12 rfl rfl)
theorem dX6_find_60 : decode cX6_find 60 = .ok (.aload_n 0, 1) := dk_42 (dk_at dksX6_find_2 14 rfl rfl)
theorem dX6_find_61 : decode cX6_find 61 = .ok (.getfield 28, 3) := dk_180 0 28 (dk_at dksX6_find_2 15 rfl rfl)
theorem dX6_find_64 : decode cX6_find 64 = .ok (.if_icmp .ge 99, 3) := dk_162 0 99 (dk_at dksX6_find_2 18 rfl rfl)
theorem dX6_find_67 : decode cX6_find 67 = .ok (.iload_n 3, 1) := dk_29 (dk_at dksX6_find_2 21 rfl rfl)
theorem dX6_find_68 : decode cX6_find 68 = .ok (.iconst 1, 1) := dk_4 (dk_at dksX6_find_2 22 rfl rfl)
theorem dX6_find_69 : decode cX6_find 69 = .ok (.iload 4, 2) := dk_21 4 (dk_at dksX6_find_3 0 rfl rfl)
theorem dX6_find_71 : decode cX6_find 71 = .ok (.ishl, 1) := dk_120 (dk_at dksX6_find_3 2 rfl rfl)
theorem dX6_find_72 : decode cX6_find 72 = .ok (.ior, 1) := dk_128 (dk_at dksX6_find_3 3 rfl rfl)
theorem dX6_find_73 : decode cX6_find 73 = .ok (.istore 5, 2) := dk_54 5 (dk_at dksX6_find_3 4 rfl rfl)
theorem dX6_find_75 : decode cX6_find 75 = .ok (.iload 5, 2) := dk_21 5 (dk_at dksX6_find_3 6 rfl rfl)
theorem dX6_find_77 : decode cX6_find 77 = .ok (.iload_n 3, 1) := dk_29 (dk_at dksX6_find_3 8 rfl rfl)
theorem dX6_find_78 : decode cX6_find 78 = .ok (.if_icmp .eq 28, 3) := dk_159 0 28 (dk_at dksX6_find_3 9 rfl rfl)
theorem dX6_find_81 : decode cX6_find 81 = .ok (.aload_n 0, 1) := dk_42 (dk_at dksX6_find_3 12 rfl rfl)
theorem dX6_find_82 : decode cX6_find 82 = .ok (.getfield 18, 3) := dk_180 0 18 (dk_at dksX6_find_3 13 rfl rfl)
theorem dX6_find_85 : decode cX6_find 85 = .ok (.iload 5, 2) := dk_21 5 (dk_at dksX6_find_3 16 rfl rfl)
theorem dX6_find_87 : decode cX6_find 87 = .ok (.iaload, 1) := dk_46 (dk_at dksX6_find_3 18 rfl rfl)
theorem dX6_find_88 : decode cX6_find 88 = .ok (.iconst (-1), 1) := dk_2 (dk_at dksX6_find_3 19 rfl rfl)
theorem dX6_find_89 : decode cX6_find 89 = .ok (.if_icmp .eq 17, 3) := dk_159 0 17 (dk_at dksX6_find_3 20 rfl rfl)
theorem dX6_find_92 : decode cX6_find 92 = .ok (.aload_n 0, 1) := dk_42 (dk_at dksX6_find_3 23 rfl rfl)
theorem dX6_find_93 : decode cX6_find 93 = .ok (.iload 5, 2) := dk_21 5 (dk_at dksX6_find_4 0 rfl rfl)
theorem dX6_find_95 : decode cX6_find 95 = .ok (.iload_n 2, 1) := dk_28 (dk_at dksX6_find_4 2 rfl rfl)
theorem dX6_find_96 : decode cX6_find 96 = .ok (.invokevirtual 50, 3) := dk_182 0 50 (dk_at dksX6_find_4 3 rfl rfl)
theorem dX6_find_99 : decode cX6_find 99 = .ok (.ifCond .eq 7, 3) := dk_153 0 7 (dk_at dksX6_find_4 6 rfl rfl)
theorem dX6_find_102 : decode cX6_find 102 = .ok (.iconst 1, 1) := dk_4 (dk_at dksX6_find_4 9 rfl rfl)
theorem dX6_find_103 : decode cX6_find 103 = .ok (.goto 4, 3) := dk_167 0 4 (dk_at dksX6_find_4 10 rfl rfl)
theorem dX6_find_106 : decode cX6_find 106 = .ok (.iconst 0, 1) := dk_3 (dk_at dksX6_find_4 13 rfl rfl)
theorem dX6_find_107 : decode cX6_find 107 = .ok (.istore 6, 2) := dk_54 6 (dk_at dksX6_find_4 14 rfl rfl)
theorem dX6_find_109 : decode cX6_find 109 = .ok (.iload 6, 2) := dk_21 6 (dk_at dksX6_find_4 16 rfl rfl)
theorem dX6_find_111 : decode cX6_find 111 = .ok (.ifCond .eq 46, 3) := dk_153 0 46 (dk_at dksX6_find_4 18 rfl rfl)
theorem dX6_find_114 : decode cX6_find 114 = .ok (.aload_n 0, 1) := dk_42 (dk_at dksX6_find_4 21 rfl rfl)
theorem dX6_find_115 : decode cX6_find 115 = .ok (.getfield 18, 3) := dk_180 0 18 (dk_at dksX6_find_5 0 rfl rfl)
theorem dX6_find_118 : decode cX6_find 118 = .ok (.iload_n 3, 1) := dk_29 (dk_at dksX6_find_5 3 rfl rfl)
theorem dX6_find_119 : decode cX6_find 119 = .ok (.iaload, 1) := dk_46 (dk_at dksX6_find_5 4 rfl rfl)
theorem dX6_find_120 : decode cX6_find 120 = .ok (.iconst (-1), 1) := dk_2 (dk_at dksX6_find_5 5 rfl rfl)
theorem dX6_find_121 : decode cX6_find 121 = .ok (.if_icmp .eq 21, 3) := dk_159 0 21 (dk_at dksX6_find_5 6 rfl rfl)
theorem dX6_find_124 : decode cX6_find 124 = .ok (.aload_n 0, 1) := dk_42 (dk_at dksX6_find_5 9 rfl rfl)
theorem dX6_find_125 : decode cX6_find 125 = .ok (.getfield 18, 3) := dk_180 0 18 (dk_at dksX6_find_5 10 rfl rfl)
theorem dX6_find_128 : decode cX6_find 128 = .ok (.iload 5, 2) := dk_21 5 (dk_at dksX6_find_5 13 rfl rfl)
theorem dX6_find_130 : decode cX6_find 130 = .ok (.iaload, 1) := dk_46 (dk_at dksX6_find_5 15 rfl rfl)
theorem dX6_find_131 : decode cX6_find 131 = .ok (.iconst 1, 1) := dk_4 (dk_at dksX6_find_5 16 rfl rfl)
theorem dX6_find_132 : decode cX6_find 132 = .ok (.iadd, 1) := dk_96 (dk_at dksX6_find_5 17 rfl rfl)
theorem dX6_find_133 : decode cX6_find 133 = .ok (.aload_n 0, 1) := dk_42 (dk_at dksX6_find_5 18 rfl rfl)
theorem dX6_find_134 : decode cX6_find 134 = .ok (.getfield 18, 3) := dk_180 0 18 (dk_at dksX6_find_5 19 rfl rfl)
theorem dX6_find_137 : decode cX6_find 137 = .ok (.iload_n 3, 1) := dk_29 (dk_at dksX6_find_5 22 rfl rfl)
theorem dX6_find_138 : decode cX6_find 138 = .ok (.iaload, 1) := dk_46 (dk_at dksX6_find_5 23 rfl rfl)
theorem dX6_find_139 : decode cX6_find 139 = .ok (.if_icmp .ge 18, 3) := dk_162 0 18 (dk_at dksX6_find_6 0 rfl rfl)
theorem dX6_find_142 : decode cX6_find 142 = .ok (.aload_n 0, 1) := dk_42 (dk_at dksX6_find_6 3 rfl rfl)
theorem dX6_find_143 : decode cX6_find 143 = .ok (.getfield 18, 3) := dk_180 0 18 (dk_at dksX6_find_6 4 rfl rfl)
theorem dX6_find_146 : decode cX6_find 146 = .ok (.iload_n 3, 1) := dk_29 (dk_at dksX6_find_6 7 rfl rfl)
theorem dX6_find_147 : decode cX6_find 147 = .ok (.aload_n 0, 1) := dk_42 (dk_at dksX6_find_6 8 rfl rfl)
theorem dX6_find_148 : decode cX6_find 148 = .ok (.getfield 18, 3) := dk_180 0 18 (dk_at dksX6_find_6 9 rfl rfl)
theorem dX6_find_151 : decode cX6_find 151 = .ok (.iload 5, 2) := dk_21 5 (dk_at dksX6_find_6 12 rfl rfl)
theorem dX6_find_153 : decode cX6_find 153 = .ok (.iaload, 1) := dk_46 (dk_at dksX6_find_6 14 rfl rfl)
theorem dX6_find_154 : decode cX6_find 154 = .ok (.iconst 1, 1) := dk_4 (dk_at dksX6_find_6 15 rfl rfl)
theorem dX6_find_155 : decode cX6_find 155 = .ok (.iadd, 1) := dk_96 (dk_at dksX6_find_6 16 rfl rfl)
theorem dX6_find_156 : decode cX6_find 156 = .ok (.iastore, 1) := dk_79 (dk_at dksX6_find_6 17 rfl rfl)
theorem dX6_find_157 : decode cX6_find 157 = .ok (.iinc 4 1, 3) := dk_132 4 1 (dk_at dksX6_find_6 18 rfl rfl)
theorem dX6_find_160 : decode cX6_find 160 = .ok (.goto (-102), 3) := dk_167 255 154 (dk_at dksX6_find_6 21 rfl rfl)
theorem dX6_find_163 : decode cX6_find 163 = .ok (.iinc 3 (-1), 3) := dk_132 3 255 (dk_at dksX6_find_7 0 rfl rfl)
theorem dX6_find_166 : decode cX6_find 166 = .ok (.goto (-157), 3) := dk_167 255 99 (dk_at dksX6_find_7 3 rfl rfl)
theorem dX6_find_169 : decode cX6_find 169 = .ok (.return_, 1) := dk_177 (dk_at dksX6_find_7 6 rfl rfl)
abbrev cX6_isHeld : ByteArray := prog_27_method_5_code
def yX6_isHeld : MethodName := ⟨RX6, "isHeld", "(II)Z"⟩
def dkwX6_isHeld_0 : List UInt8 := [42, 27, 182, 0, 39, 28, 116, 28, 184, 0, 43, 172]
abbrev dktX6_isHeld_0 : List UInt8 := dkwX6_isHeld_0 ++ []
theorem dksX6_isHeld_0 : cX6_isHeld.data.toList.drop 0 = dktX6_isHeld_0 := by decide +kernel
theorem dX6_isHeld_0 : decode cX6_isHeld 0 = .ok (.aload_n 0, 1) := dk_42 (dk_at dksX6_isHeld_0 0 rfl rfl)
theorem dX6_isHeld_1 : decode cX6_isHeld 1 = .ok (.iload_n 1, 1) := dk_27 (dk_at dksX6_isHeld_0 1 rfl rfl)
theorem dX6_isHeld_2 : decode cX6_isHeld 2 = .ok (.invokevirtual 39, 3) := dk_182 0 39 (dk_at dksX6_isHeld_0 2 rfl rfl)
theorem dX6_isHeld_5 : decode cX6_isHeld 5 = .ok (.iload_n 2, 1) := dk_28 (dk_at dksX6_isHeld_0 5 rfl rfl)
theorem dX6_isHeld_6 : decode cX6_isHeld 6 = .ok (.ineg, 1) := dk_116 (dk_at dksX6_isHeld_0 6 rfl rfl)
theorem dX6_isHeld_7 : decode cX6_isHeld 7 = .ok (.iload_n 2, 1) := dk_28 (dk_at dksX6_isHeld_0 7 rfl rfl)
theorem dX6_isHeld_8 : decode cX6_isHeld 8 = .ok (.invokestatic 43, 3) := dk_184 0 43 (dk_at dksX6_isHeld_0 8 rfl rfl)
theorem dX6_isHeld_11 : decode cX6_isHeld 11 = .ok (.ireturn, 1) := dk_172 (dk_at dksX6_isHeld_0 11 rfl rfl)
abbrev cX6_next : ByteArray := prog_27_method_7_code
def yX6_next : MethodName := ⟨RX6, "next", "(II)I"⟩
def dkwX6_next_3 : List UInt8 := [29, 4, 21, 4, 120, 128, 62, 132, 5, 1, 167, 255, 186, 21, 4, 172]
abbrev dktX6_next_3 : List UInt8 := dkwX6_next_3 ++ []
def dkwX6_next_2 : List UInt8 := [100, 160, 0, 17, 42, 29, 4, 21, 4, 120, 128, 28, 182, 0, 50, 154, 0, 9, 132, 4, 1, 167, 255, 208]
abbrev dktX6_next_2 : List UInt8 := dkwX6_next_2 ++ dktX6_next_3
def dkwX6_next_1 : List UInt8 := [184, 0, 35, 154, 0, 39, 42, 180, 0, 18, 29, 4, 21, 4, 120, 128, 46, 42, 180, 0, 18, 29, 46, 4]
abbrev dktX6_next_1 : List UInt8 := dkwX6_next_1 ++ dktX6_next_2
def dkwX6_next_0 : List UInt8 := [42, 180, 0, 32, 62, 2, 54, 4, 3, 54, 5, 21, 5, 27, 163, 0, 70, 3, 54, 4, 29, 21, 4]
abbrev dktX6_next_0 : List UInt8 := dkwX6_next_0 ++ dktX6_next_1
theorem dksX6_next_0 : cX6_next.data.toList.drop 0 = dktX6_next_0 := by decide +kernel
theorem dksX6_next_1 : cX6_next.data.toList.drop 23 = dktX6_next_1 := dk_seg dksX6_next_0 23 rfl rfl
theorem dksX6_next_2 : cX6_next.data.toList.drop 47 = dktX6_next_2 := dk_seg dksX6_next_1 24 rfl rfl
theorem dksX6_next_3 : cX6_next.data.toList.drop 71 = dktX6_next_3 := dk_seg dksX6_next_2 24 rfl rfl
theorem dX6_next_0 : decode cX6_next 0 = .ok (.aload_n 0, 1) := dk_42 (dk_at dksX6_next_0 0 rfl rfl)
theorem dX6_next_1 : decode cX6_next 1 = .ok (.getfield 32, 3) := dk_180 0 32 (dk_at dksX6_next_0 1 rfl rfl)
theorem dX6_next_4 : decode cX6_next 4 = .ok (.istore_n 3, 1) := dk_62 (dk_at dksX6_next_0 4 rfl rfl)
theorem dX6_next_5 : decode cX6_next 5 = .ok (.iconst (-1), 1) := dk_2 (dk_at dksX6_next_0 5 rfl rfl)
theorem dX6_next_6 : decode cX6_next 6 = .ok (.istore 4, 2) := dk_54 4 (dk_at dksX6_next_0 6 rfl rfl)
theorem dX6_next_8 : decode cX6_next 8 = .ok (.iconst 0, 1) := dk_3 (dk_at dksX6_next_0 8 rfl rfl)
theorem dX6_next_9 : decode cX6_next 9 = .ok (.istore 5, 2) := dk_54 5 (dk_at dksX6_next_0 9 rfl rfl)
theorem dX6_next_11 : decode cX6_next 11 = .ok (.iload 5, 2) := dk_21 5 (dk_at dksX6_next_0 11 rfl rfl)
theorem dX6_next_13 : decode cX6_next 13 = .ok (.iload_n 1, 1) := dk_27 (dk_at dksX6_next_0 13 rfl rfl)
theorem dX6_next_14 : decode cX6_next 14 = .ok (.if_icmp .gt 70, 3) := dk_163 0 70 (dk_at dksX6_next_0 14 rfl rfl)
theorem dX6_next_17 : decode cX6_next 17 = .ok (.iconst 0, 1) := dk_3 (dk_at dksX6_next_0 17 rfl rfl)
theorem dX6_next_18 : decode cX6_next 18 = .ok (.istore 4, 2) := dk_54 4 (dk_at dksX6_next_0 18 rfl rfl)
theorem dX6_next_20 : decode cX6_next 20 = .ok (.iload_n 3, 1) := dk_29 (dk_at dksX6_next_0 20 rfl rfl)
theorem dX6_next_21 : decode cX6_next 21 = .ok (.iload 4, 2) := dk_21 4 (dk_at dksX6_next_0 21 rfl rfl)
theorem dX6_next_23 : decode cX6_next 23 = .ok (.invokestatic 35, 3) := dk_184 0 35 (dk_at dksX6_next_1 0 rfl rfl)
theorem dX6_next_26 : decode cX6_next 26 = .ok (.ifCond .ne 39, 3) := dk_154 0 39 (dk_at dksX6_next_1 3 rfl rfl)
theorem dX6_next_29 : decode cX6_next 29 = .ok (.aload_n 0, 1) := dk_42 (dk_at dksX6_next_1 6 rfl rfl)
theorem dX6_next_30 : decode cX6_next 30 = .ok (.getfield 18, 3) := dk_180 0 18 (dk_at dksX6_next_1 7 rfl rfl)
theorem dX6_next_33 : decode cX6_next 33 = .ok (.iload_n 3, 1) := dk_29 (dk_at dksX6_next_1 10 rfl rfl)
theorem dX6_next_34 : decode cX6_next 34 = .ok (.iconst 1, 1) := dk_4 (dk_at dksX6_next_1 11 rfl rfl)
theorem dX6_next_35 : decode cX6_next 35 = .ok (.iload 4, 2) := dk_21 4 (dk_at dksX6_next_1 12 rfl rfl)
theorem dX6_next_37 : decode cX6_next 37 = .ok (.ishl, 1) := dk_120 (dk_at dksX6_next_1 14 rfl rfl)
theorem dX6_next_38 : decode cX6_next 38 = .ok (.ior, 1) := dk_128 (dk_at dksX6_next_1 15 rfl rfl)
theorem dX6_next_39 : decode cX6_next 39 = .ok (.iaload, 1) := dk_46 (dk_at dksX6_next_1 16 rfl rfl)
theorem dX6_next_40 : decode cX6_next 40 = .ok (.aload_n 0, 1) := dk_42 (dk_at dksX6_next_1 17 rfl rfl)
theorem dX6_next_41 : decode cX6_next 41 = .ok (.getfield 18, 3) := dk_180 0 18 (dk_at dksX6_next_1 18 rfl rfl)
theorem dX6_next_44 : decode cX6_next 44 = .ok (.iload_n 3, 1) := dk_29 (dk_at dksX6_next_1 21 rfl rfl)
theorem dX6_next_45 : decode cX6_next 45 = .ok (.iaload, 1) := dk_46 (dk_at dksX6_next_1 22 rfl rfl)
theorem dX6_next_46 : decode cX6_next 46 = .ok (.iconst 1, 1) := dk_4 (dk_at dksX6_next_1 23 rfl rfl)
theorem dX6_next_47 : decode cX6_next 47 = .ok (.isub, 1) := dk_100 (dk_at dksX6_next_2 0 rfl rfl)
theorem dX6_next_48 : decode cX6_next 48 = .ok (.if_icmp .ne 17, 3) := dk_160 0 17 (dk_at dksX6_next_2 1 rfl rfl)
theorem dX6_next_51 : decode cX6_next 51 = .ok (.aload_n 0, 1) := dk_42 (dk_at dksX6_next_2 4 rfl rfl)
theorem dX6_next_52 : decode cX6_next 52 = .ok (.iload_n 3, 1) := dk_29 (dk_at dksX6_next_2 5 rfl rfl)
theorem dX6_next_53 : decode cX6_next 53 = .ok (.iconst 1, 1) := dk_4 (dk_at dksX6_next_2 6 rfl rfl)
theorem dX6_next_54 : decode cX6_next 54 = .ok (.iload 4, 2) := dk_21 4 (dk_at dksX6_next_2 7 rfl rfl)
theorem dX6_next_56 : decode cX6_next 56 = .ok (.ishl, 1) := dk_120 (dk_at dksX6_next_2 9 rfl rfl)
theorem dX6_next_57 : decode cX6_next 57 = .ok (.ior, 1) := dk_128 (dk_at dksX6_next_2 10 rfl rfl)
theorem dX6_next_58 : decode cX6_next 58 = .ok (.iload_n 2, 1) := dk_28 (dk_at dksX6_next_2 11 rfl rfl)
theorem dX6_next_59 : decode cX6_next 59 = .ok (.invokevirtual 50, 3) := dk_182 0 50 (dk_at dksX6_next_2 12 rfl rfl)
theorem dX6_next_62 : decode cX6_next 62 = .ok (.ifCond .ne 9, 3) := dk_154 0 9 (dk_at dksX6_next_2 15 rfl rfl)
theorem dX6_next_65 : decode cX6_next 65 = .ok (.iinc 4 1, 3) := dk_132 4 1 (dk_at dksX6_next_2 18 rfl rfl)
theorem dX6_next_68 : decode cX6_next 68 = .ok (.goto (-48), 3) := dk_167 255 208 (dk_at dksX6_next_2 21 rfl rfl)
theorem dX6_next_71 : decode cX6_next 71 = .ok (.iload_n 3, 1) := dk_29 (dk_at dksX6_next_3 0 rfl rfl)
theorem dX6_next_72 : decode cX6_next 72 = .ok (.iconst 1, 1) := dk_4 (dk_at dksX6_next_3 1 rfl rfl)
theorem dX6_next_73 : decode cX6_next 73 = .ok (.iload 4, 2) := dk_21 4 (dk_at dksX6_next_3 2 rfl rfl)
theorem dX6_next_75 : decode cX6_next 75 = .ok (.ishl, 1) := dk_120 (dk_at dksX6_next_3 4 rfl rfl)
theorem dX6_next_76 : decode cX6_next 76 = .ok (.ior, 1) := dk_128 (dk_at dksX6_next_3 5 rfl rfl)
theorem dX6_next_77 : decode cX6_next 77 = .ok (.istore_n 3, 1) := dk_62 (dk_at dksX6_next_3 6 rfl rfl)
theorem dX6_next_78 : decode cX6_next 78 = .ok (.iinc 5 1, 3) := dk_132 5 1 (dk_at dksX6_next_3 7 rfl rfl)
theorem dX6_next_81 : decode cX6_next 81 = .ok (.goto (-70), 3) := dk_167 255 186 (dk_at dksX6_next_3 10 rfl rfl)
theorem dX6_next_84 : decode cX6_next 84 = .ok (.iload 4, 2) := dk_21 4 (dk_at dksX6_next_3 13 rfl rfl)
theorem dX6_next_86 : decode cX6_next 86 = .ok (.ireturn, 1) := dk_172 (dk_at dksX6_next_3 15 rfl rfl)
abbrev cX6_copy : ByteArray := prog_27_method_2_code
def yX6_copy : MethodName := ⟨RX6, "copy", "()LLastHatch$Tanks;"⟩
def dkwX6_copy_2 : List UInt8 := [180, 0, 32, 181, 0, 32, 43, 176]
abbrev dktX6_copy_2 : List UInt8 := dkwX6_copy_2 ++ []
def dkwX6_copy_1 : List UInt8 := [180, 0, 15, 3, 43, 180, 0, 15, 3, 16, 8, 184, 0, 22, 43, 42, 180, 0, 28, 181, 0, 28, 43, 42]
abbrev dktX6_copy_1 : List UInt8 := dkwX6_copy_1 ++ dktX6_copy_2
def dkwX6_copy_0 : List UInt8 := [187, 0, 10, 89, 183, 0, 21, 76, 42, 180, 0, 9, 3, 43, 180, 0, 9, 3, 16, 8, 184, 0, 22, 42]
abbrev dktX6_copy_0 : List UInt8 := dkwX6_copy_0 ++ dktX6_copy_1
theorem dksX6_copy_0 : cX6_copy.data.toList.drop 0 = dktX6_copy_0 := by decide +kernel
theorem dksX6_copy_1 : cX6_copy.data.toList.drop 24 = dktX6_copy_1 := dk_seg dksX6_copy_0 24 rfl rfl
theorem dksX6_copy_2 : cX6_copy.data.toList.drop 48 = dktX6_copy_2 := dk_seg dksX6_copy_1 24 rfl rfl
theorem dX6_copy_0 : decode cX6_copy 0 = .ok (.new 10, 3) := dk_187 0 10 (dk_at dksX6_copy_0 0 rfl rfl)
theorem dX6_copy_3 : decode cX6_copy 3 = .ok (.dup, 1) := dk_89 (dk_at dksX6_copy_0 3 rfl rfl)
theorem dX6_copy_4 : decode cX6_copy 4 = .ok (.invokespecial 21, 3) := dk_183 0 21 (dk_at dksX6_copy_0 4 rfl rfl)
theorem dX6_copy_7 : decode cX6_copy 7 = .ok (.astore_n 1, 1) := dk_76 (dk_at dksX6_copy_0 7 rfl rfl)
theorem dX6_copy_8 : decode cX6_copy 8 = .ok (.aload_n 0, 1) := dk_42 (dk_at dksX6_copy_0 8 rfl rfl)
theorem dX6_copy_9 : decode cX6_copy 9 = .ok (.getfield 9, 3) := dk_180 0 9 (dk_at dksX6_copy_0 9 rfl rfl)
theorem dX6_copy_12 : decode cX6_copy 12 = .ok (.iconst 0, 1) := dk_3 (dk_at dksX6_copy_0 12 rfl rfl)
theorem dX6_copy_13 : decode cX6_copy 13 = .ok (.aload_n 1, 1) := dk_43 (dk_at dksX6_copy_0 13 rfl rfl)
theorem dX6_copy_14 : decode cX6_copy 14 = .ok (.getfield 9, 3) := dk_180 0 9 (dk_at dksX6_copy_0 14 rfl rfl)
theorem dX6_copy_17 : decode cX6_copy 17 = .ok (.iconst 0, 1) := dk_3 (dk_at dksX6_copy_0 17 rfl rfl)
theorem dX6_copy_18 : decode cX6_copy 18 = .ok (.bipush 8, 2) := dk_16 8 (dk_at dksX6_copy_0 18 rfl rfl)
theorem dX6_copy_20 : decode cX6_copy 20 = .ok (.invokestatic 22, 3) := dk_184 0 22 (dk_at dksX6_copy_0 20 rfl rfl)
theorem dX6_copy_23 : decode cX6_copy 23 = .ok (.aload_n 0, 1) := dk_42 (dk_at dksX6_copy_0 23 rfl rfl)
theorem dX6_copy_24 : decode cX6_copy 24 = .ok (.getfield 15, 3) := dk_180 0 15 (dk_at dksX6_copy_1 0 rfl rfl)
theorem dX6_copy_27 : decode cX6_copy 27 = .ok (.iconst 0, 1) := dk_3 (dk_at dksX6_copy_1 3 rfl rfl)
theorem dX6_copy_28 : decode cX6_copy 28 = .ok (.aload_n 1, 1) := dk_43 (dk_at dksX6_copy_1 4 rfl rfl)
theorem dX6_copy_29 : decode cX6_copy 29 = .ok (.getfield 15, 3) := dk_180 0 15 (dk_at dksX6_copy_1 5 rfl rfl)
theorem dX6_copy_32 : decode cX6_copy 32 = .ok (.iconst 0, 1) := dk_3 (dk_at dksX6_copy_1 8 rfl rfl)
theorem dX6_copy_33 : decode cX6_copy 33 = .ok (.bipush 8, 2) := dk_16 8 (dk_at dksX6_copy_1 9 rfl rfl)
theorem dX6_copy_35 : decode cX6_copy 35 = .ok (.invokestatic 22, 3) := dk_184 0 22 (dk_at dksX6_copy_1 11 rfl rfl)
theorem dX6_copy_38 : decode cX6_copy 38 = .ok (.aload_n 1, 1) := dk_43 (dk_at dksX6_copy_1 14 rfl rfl)
theorem dX6_copy_39 : decode cX6_copy 39 = .ok (.aload_n 0, 1) := dk_42 (dk_at dksX6_copy_1 15 rfl rfl)
theorem dX6_copy_40 : decode cX6_copy 40 = .ok (.getfield 28, 3) := dk_180 0 28 (dk_at dksX6_copy_1 16 rfl rfl)
theorem dX6_copy_43 : decode cX6_copy 43 = .ok (.putfield 28, 3) := dk_181 0 28 (dk_at dksX6_copy_1 19 rfl rfl)
theorem dX6_copy_46 : decode cX6_copy 46 = .ok (.aload_n 1, 1) := dk_43 (dk_at dksX6_copy_1 22 rfl rfl)
theorem dX6_copy_47 : decode cX6_copy 47 = .ok (.aload_n 0, 1) := dk_42 (dk_at dksX6_copy_1 23 rfl rfl)
theorem dX6_copy_48 : decode cX6_copy 48 = .ok (.getfield 32, 3) := dk_180 0 32 (dk_at dksX6_copy_2 0 rfl rfl)
theorem dX6_copy_51 : decode cX6_copy 51 = .ok (.putfield 32, 3) := dk_181 0 32 (dk_at dksX6_copy_2 3 rfl rfl)
theorem dX6_copy_54 : decode cX6_copy 54 = .ok (.aload_n 1, 1) := dk_43 (dk_at dksX6_copy_2 6 rfl rfl)
theorem dX6_copy_55 : decode cX6_copy 55 = .ok (.areturn, 1) := dk_176 (dk_at dksX6_copy_2 7 rfl rfl)
theorem q91 : (Jvm.Cond.initialized "LastHatch$Tanks") ∈ lw_all := lw_g (lw_at lw_m1 13 rfl) rfl
theorem q319 : (Jvm.Cond.instantiable "LastHatch$Tanks" (5 : Nat)) ∈ lw_all := lw_g (lw_at lw_m2 1 rfl) rfl
theorem q321 : (Jvm.Cond.instanceMethod ({ cls := "LastHatch$Tanks", name := "<init>", desc := "()V" } : Jvm.MethodName)) ∈ lw_all := lw_g (lw_at lw_m2 3 rfl) rfl
theorem q322 : (Jvm.Cond.code ({ cls := "LastHatch$Tanks", name := "<init>", desc := "()V" } : Jvm.MethodName) prog_27_method_1_code (1 : Nat) (Option.none : Option Jvm.ClassFile.FieldType)) ∈ lw_all := lw_g (lw_at lw_m2 4 rfl) rfl
theorem q323 : (Jvm.Cond.methodLink "LastHatch$Tanks" (3 : Nat) ({ cls := "java/lang/Object", name := "<init>", desc := "()V" } : Jvm.MethodName)) ∈ lw_all := lw_g (lw_at lw_m2 5 rfl) rfl
theorem q324 : (Jvm.Cond.fieldLink "LastHatch$Tanks" (9 : Nat) "LastHatch$Tanks" "place" "[I") ∈ lw_all := lw_g (lw_at lw_m2 6 rfl) rfl
theorem q326 : (Jvm.Cond.fieldLink "LastHatch$Tanks" (15 : Nat) "LastHatch$Tanks" "size" "[I") ∈ lw_all := lw_g (lw_at lw_m2 8 rfl) rfl
theorem q328 : (Jvm.Cond.fieldLink "LastHatch$Tanks" (28 : Nat) "LastHatch$Tanks" "many" "I") ∈ lw_all := lw_g (lw_at lw_m2 10 rfl) rfl
theorem q330 : (Jvm.Cond.fieldLink "LastHatch$Tanks" (32 : Nat) "LastHatch$Tanks" "blown" "I") ∈ lw_all := lw_g (lw_at lw_m2 12 rfl) rfl
theorem q332 : (Jvm.Cond.fieldLink "LastHatch$Tanks" (18 : Nat) "LastHatch$Tanks" "more" "[I") ∈ lw_all := lw_g (lw_at lw_m2 14 rfl) rfl
theorem q334 : (Jvm.Cond.laysFinal "LastHatch$Tanks" "LastHatch$Tanks" "place" "[I") ∈ lw_all := lw_g (lw_at lw_m2 16 rfl) rfl
theorem q335 : (Jvm.Cond.soleField "LastHatch$Tanks" "place") ∈ lw_all := lw_g (lw_at lw_m2 17 rfl) rfl
theorem q336 : (Jvm.Cond.laysFinal "LastHatch$Tanks" "LastHatch$Tanks" "size" "[I") ∈ lw_all := lw_g (lw_at lw_m2 18 rfl) rfl
theorem q337 : (Jvm.Cond.soleField "LastHatch$Tanks" "size") ∈ lw_all := lw_g (lw_at lw_m2 19 rfl) rfl
theorem q338 : (Jvm.Cond.lays "LastHatch$Tanks" "LastHatch$Tanks" "many" "I") ∈ lw_all := lw_g (lw_at lw_m2 20 rfl) rfl
theorem q339 : (Jvm.Cond.soleField "LastHatch$Tanks" "many") ∈ lw_all := lw_g (lw_at lw_m2 21 rfl) rfl
theorem q340 : (Jvm.Cond.lays "LastHatch$Tanks" "LastHatch$Tanks" "blown" "I") ∈ lw_all := lw_g (lw_at lw_m2 22 rfl) rfl
theorem q341 : (Jvm.Cond.soleField "LastHatch$Tanks" "blown") ∈ lw_all := lw_g (lw_at lw_m2 23 rfl) rfl
theorem q342 : (Jvm.Cond.laysFinal "LastHatch$Tanks" "LastHatch$Tanks" "more" "[I") ∈ lw_all := lw_g (lw_at lw_m2 24 rfl) rfl
theorem q343 : (Jvm.Cond.soleField "LastHatch$Tanks" "more") ∈ lw_all := lw_g (lw_at lw_m2 25 rfl) rfl
theorem q344 : (Jvm.Cond.superclass "LastHatch$Tanks" "java/lang/Object") ∈ lw_all := lw_g (lw_at lw_m2 26 rfl) rfl
theorem q613 : (Jvm.Cond.selects "LastHatch$Tanks" ({ cls := "java/lang/Object", name := "getClass", desc := "()Ljava/lang/Class;" } : Jvm.MethodName) ({ cls := "java/lang/Object", name := "getClass", desc := "()Ljava/lang/Class;" } : Jvm.MethodName)) ∈ lw_all := lw_g (lw_at lw_m3 55 rfl) rfl
theorem q1410 : (Jvm.Cond.instanceMethod ({ cls := "LastHatch$Tanks", name := "lift", desc := "(I)I" } : Jvm.MethodName)) ∈ lw_all := lw_g (lw_at lw_m6 132 rfl) rfl
theorem q1411 : (Jvm.Cond.selects "LastHatch$Tanks" ({ cls := "LastHatch$Tanks", name := "lift", desc := "(I)I" } : Jvm.MethodName) ({ cls := "LastHatch$Tanks", name := "lift", desc := "(I)I" } : Jvm.MethodName)) ∈ lw_all := lw_g (lw_at lw_m6 133 rfl) rfl
theorem q1412 : (Jvm.Cond.code ({ cls := "LastHatch$Tanks", name := "lift", desc := "(I)I" } : Jvm.MethodName) prog_27_method_3_code (4 : Nat) (Option.some Jvm.ClassFile.FieldType.int)) ∈ lw_all := lw_g (lw_at lw_m6 134 rfl) rfl
theorem q1413 : (Jvm.Cond.methodLinkNest "LastHatch$Tanks" (35 : Nat) ({ cls := "LastHatch", name := "has", desc := "(II)Z" } : Jvm.MethodName) "LastHatch") ∈ lw_tbl := lw_at lw_m6 135 rfl
theorem q1415 : (Jvm.Cond.instanceMethod ({ cls := "LastHatch$Tanks", name := "lean", desc := "(I)I" } : Jvm.MethodName)) ∈ lw_all := lw_g (lw_at lw_m6 137 rfl) rfl
theorem q1416 : (Jvm.Cond.selects "LastHatch$Tanks" ({ cls := "LastHatch$Tanks", name := "lean", desc := "(I)I" } : Jvm.MethodName) ({ cls := "LastHatch$Tanks", name := "lean", desc := "(I)I" } : Jvm.MethodName)) ∈ lw_all := lw_g (lw_at lw_m6 138 rfl) rfl
theorem q1417 : (Jvm.Cond.code ({ cls := "LastHatch$Tanks", name := "lean", desc := "(I)I" } : Jvm.MethodName) prog_27_method_4_code (4 : Nat) (Option.some Jvm.ClassFile.FieldType.int)) ∈ lw_all := lw_g (lw_at lw_m6 139 rfl) rfl
theorem q1423 : (Jvm.Cond.instanceMethod ({ cls := "LastHatch$Tanks", name := "find", desc := "(II)V" } : Jvm.MethodName)) ∈ lw_all := lw_g (lw_at lw_m6 145 rfl) rfl
theorem q1424 : (Jvm.Cond.selects "LastHatch$Tanks" ({ cls := "LastHatch$Tanks", name := "find", desc := "(II)V" } : Jvm.MethodName) ({ cls := "LastHatch$Tanks", name := "find", desc := "(II)V" } : Jvm.MethodName)) ∈ lw_all := lw_g (lw_at lw_m6 146 rfl) rfl
theorem q1425 : (Jvm.Cond.code ({ cls := "LastHatch$Tanks", name := "find", desc := "(II)V" } : Jvm.MethodName) prog_27_method_6_code (7 : Nat) (Option.none : Option Jvm.ClassFile.FieldType)) ∈ lw_all := lw_g (lw_at lw_m6 147 rfl) rfl
theorem q1426 : (Jvm.Cond.methodLink "LastHatch$Tanks" (47 : Nat) ({ cls := "LastHatch$Tanks", name := "lift", desc := "(I)I" } : Jvm.MethodName)) ∈ lw_all := lw_g (lw_at lw_m6 148 rfl) rfl
theorem q1427 : (Jvm.Cond.methodLink "LastHatch$Tanks" (50 : Nat) ({ cls := "LastHatch$Tanks", name := "isHeld", desc := "(II)Z" } : Jvm.MethodName)) ∈ lw_all := lw_g (lw_at lw_m6 149 rfl) rfl
theorem q1428 : (Jvm.Cond.privateMethod ({ cls := "LastHatch$Tanks", name := "isHeld", desc := "(II)Z" } : Jvm.MethodName)) ∈ lw_tbl := lw_at lw_m6 150 rfl
theorem q1429 : (Jvm.Cond.instanceMethod ({ cls := "LastHatch$Tanks", name := "isHeld", desc := "(II)Z" } : Jvm.MethodName)) ∈ lw_all := lw_g (lw_at lw_m6 151 rfl) rfl
theorem q1430 : (Jvm.Cond.code ({ cls := "LastHatch$Tanks", name := "isHeld", desc := "(II)Z" } : Jvm.MethodName) prog_27_method_5_code (3 : Nat) (Option.some Jvm.ClassFile.FieldType.boolean)) ∈ lw_all := lw_g (lw_at lw_m6 152 rfl) rfl
theorem q1431 : (Jvm.Cond.methodLink "LastHatch$Tanks" (39 : Nat) ({ cls := "LastHatch$Tanks", name := "lean", desc := "(I)I" } : Jvm.MethodName)) ∈ lw_all := lw_g (lw_at lw_m6 153 rfl) rfl
theorem q1432 : (Jvm.Cond.methodLinkNest "LastHatch$Tanks" (43 : Nat) ({ cls := "LastHatch", name := "in", desc := "(III)Z" } : Jvm.MethodName) "LastHatch") ∈ lw_tbl := lw_at lw_m6 154 rfl
theorem q1434 : (Jvm.Cond.instanceMethod ({ cls := "LastHatch$Tanks", name := "next", desc := "(II)I" } : Jvm.MethodName)) ∈ lw_all := lw_g (lw_at lw_m6 156 rfl) rfl
theorem q1435 : (Jvm.Cond.selects "LastHatch$Tanks" ({ cls := "LastHatch$Tanks", name := "next", desc := "(II)I" } : Jvm.MethodName) ({ cls := "LastHatch$Tanks", name := "next", desc := "(II)I" } : Jvm.MethodName)) ∈ lw_all := lw_g (lw_at lw_m6 157 rfl) rfl
theorem q1436 : (Jvm.Cond.code ({ cls := "LastHatch$Tanks", name := "next", desc := "(II)I" } : Jvm.MethodName) prog_27_method_7_code (6 : Nat) (Option.some Jvm.ClassFile.FieldType.int)) ∈ lw_all := lw_g (lw_at lw_m6 158 rfl) rfl
theorem q1887 : (Jvm.Cond.instanceMethod ({ cls := "LastHatch$Tanks", name := "copy", desc := "()LLastHatch$Tanks;" } : Jvm.MethodName)) ∈ lw_all := lw_g (lw_at lw_m8 129 rfl) rfl
theorem q1888 : (Jvm.Cond.selects "LastHatch$Tanks" ({ cls := "LastHatch$Tanks", name := "copy", desc := "()LLastHatch$Tanks;" } : Jvm.MethodName) ({ cls := "LastHatch$Tanks", name := "copy", desc := "()LLastHatch$Tanks;" } : Jvm.MethodName)) ∈ lw_all := lw_g (lw_at lw_m8 130 rfl) rfl
theorem q1889 : (Jvm.Cond.code ({ cls := "LastHatch$Tanks", name := "copy", desc := "()LLastHatch$Tanks;" } : Jvm.MethodName) prog_27_method_2_code (2 : Nat) (Option.some (Jvm.ClassFile.FieldType.object "LastHatch$Tanks"))) ∈ lw_all := lw_g (lw_at lw_m8 131 rfl) rfl
theorem q1890 : (Jvm.Cond.classLink "LastHatch$Tanks" (10 : Nat) "LastHatch$Tanks") ∈ lw_all := lw_g (lw_at lw_m8 132 rfl) rfl
theorem q1891 : (Jvm.Cond.methodLink "LastHatch$Tanks" (21 : Nat) ({ cls := "LastHatch$Tanks", name := "<init>", desc := "()V" } : Jvm.MethodName)) ∈ lw_all := lw_g (lw_at lw_m8 133 rfl) rfl
theorem q1892 : (Jvm.Cond.methodLink "LastHatch$Tanks" (22 : Nat) ({ cls := "java/lang/System", name := "arraycopy", desc := "(Ljava/lang/Object;ILjava/lang/Object;II)V" } : Jvm.MethodName)) ∈ lw_all := lw_g (lw_at lw_m8 134 rfl) rfl
theorem q2540 : (Jvm.Cond.castable "LastHatch$Tanks" "java/lang/Object") ∈ lw_tbl := lw_at lw_m11 62 rfl
theorem in_X6 : ∀ w ∈ wsX60, w ∈ lw_all := lw_in wsX60 [334, 336, 338, 340, 342] (by decide +kernel) (by decide +kernel)

/-! LastHatch$Trace -/
set_option maxRecDepth 100000
def RX7 : String := "LastHatch$Trace"
def TX7 : u_T := fun k => match k with
  | 0 => ("LastHatch$Trace", "ran", "[I", true)
  | _ => ("LastHatch$Trace", "many", "I", false)
def tyX7 : Nat → FieldType := fun k => match k with
  | 0 => .array .int
  | _ => .int
abbrev wsX70 : List Cond := u_ws RX7 TX7 2
theorem nmX7 : ∀ a, a < 2 → ∀ b, b < 2 → a ≠ b → (TX7 a).2.1 ≠ (TX7 b).2.1 := by decide +kernel
theorem tyX7_ok : ∀ k, k < 2 → parseFieldDescriptor (TX7 k).2.2.1 = some (tyX7 k) := by decide +kernel
abbrev cX7_init : ByteArray := prog_31_method_1_code
def yX7_init : MethodName := ⟨RX7, "<init>", "()V"⟩
def dkwX7_init_0 : List UInt8 := [42, 183, 0, 3, 42, 16, 40, 188, 10, 181, 0, 9, 177]
abbrev dktX7_init_0 : List UInt8 := dkwX7_init_0 ++ []
theorem dksX7_init_0 : cX7_init.data.toList.drop 0 = dktX7_init_0 := by decide +kernel
theorem dX7_init_0 : decode cX7_init 0 = .ok (.aload_n 0, 1) := dk_42 (dk_at dksX7_init_0 0 rfl rfl)
theorem dX7_init_1 : decode cX7_init 1 = .ok (.invokespecial 3, 3) := dk_183 0 3 (dk_at dksX7_init_0 1 rfl rfl)
theorem dX7_init_4 : decode cX7_init 4 = .ok (.aload_n 0, 1) := dk_42 (dk_at dksX7_init_0 4 rfl rfl)
theorem dX7_init_5 : decode cX7_init 5 = .ok (.bipush 40, 2) := dk_16 40 (dk_at dksX7_init_0 5 rfl rfl)
theorem dX7_init_7 : decode cX7_init 7 = .ok (.newarray .int, 2) := dk_188_10 (dk_at dksX7_init_0 7 rfl rfl)
theorem dX7_init_9 : decode cX7_init 9 = .ok (.putfield 9, 3) := dk_181 0 9 (dk_at dksX7_init_0 9 rfl rfl)
theorem dX7_init_12 : decode cX7_init 12 = .ok (.return_, 1) := dk_177 (dk_at dksX7_init_0 12 rfl rfl)
abbrev cX7_begins : ByteArray := prog_31_method_2_code
def yX7_begins : MethodName := ⟨RX7, "begins", "(I)V"⟩
def dkwX7_begins_1 : List UInt8 := [4, 96, 181, 0, 15, 177]
abbrev dktX7_begins_1 : List UInt8 := dkwX7_begins_1 ++ []
def dkwX7_begins_0 : List UInt8 := [42, 180, 0, 15, 16, 40, 162, 0, 23, 42, 180, 0, 9, 42, 180, 0, 15, 27, 79, 42, 89, 180, 0, 15]
abbrev dktX7_begins_0 : List UInt8 := dkwX7_begins_0 ++ dktX7_begins_1
theorem dksX7_begins_0 : cX7_begins.data.toList.drop 0 = dktX7_begins_0 := by decide +kernel
theorem dksX7_begins_1 : cX7_begins.data.toList.drop 24 = dktX7_begins_1 := dk_seg dksX7_begins_0 24 rfl rfl
theorem dX7_begins_0 : decode cX7_begins 0 = .ok (.aload_n 0, 1) := dk_42 (dk_at dksX7_begins_0 0 rfl rfl)
theorem dX7_begins_1 : decode cX7_begins 1 = .ok (.getfield 15, 3) := dk_180 0 15 (dk_at dksX7_begins_0 1 rfl rfl)
theorem dX7_begins_4 : decode cX7_begins 4 = .ok (.bipush 40, 2) := dk_16 40 (dk_at dksX7_begins_0 4 rfl rfl)
theorem dX7_begins_6 : decode cX7_begins 6 = .ok (.if_icmp .ge 23, 3) := dk_162 0 23 (dk_at dksX7_begins_0 6 rfl rfl)
theorem dX7_begins_9 : decode cX7_begins 9 = .ok (.aload_n 0, 1) := dk_42 (dk_at dksX7_begins_0 9 rfl rfl)
theorem dX7_begins_10 : decode cX7_begins 10 = .ok (.getfield 9, 3) := dk_180 0 9 (dk_at dksX7_begins_0 10 rfl rfl)
theorem dX7_begins_13 : decode cX7_begins 13 = .ok (.aload_n 0, 1) := dk_42 (dk_at dksX7_begins_0 13 rfl rfl)
theorem dX7_begins_14 : decode cX7_begins 14 = .ok (.getfield 15, 3) := dk_180 0 15 (dk_at dksX7_begins_0 14 rfl rfl)
theorem dX7_begins_17 : decode cX7_begins 17 = .ok (.iload_n 1, 1) := dk_27 (dk_at dksX7_begins_0 17 rfl rfl)
theorem dX7_begins_18 : decode cX7_begins 18 = .ok (.iastore, 1) := dk_79 (dk_at dksX7_begins_0 18 rfl rfl)
theorem dX7_begins_19 : decode cX7_begins 19 = .ok (.aload_n 0, 1) := dk_42 (dk_at dksX7_begins_0 19 rfl rfl)
theorem dX7_begins_20 : decode cX7_begins 20 = .ok (.dup, 1) := dk_89 (dk_at dksX7_begins_0 20 rfl rfl)
theorem dX7_begins_21 : decode cX7_begins 21 = .ok (.getfield 15, 3) := dk_180 0 15 (dk_at dksX7_begins_0 21 rfl rfl)
theorem dX7_begins_24 : decode cX7_begins 24 = .ok (.iconst 1, 1) := dk_4 (dk_at dksX7_begins_1 0 rfl rfl)
theorem dX7_begins_25 : decode cX7_begins 25 = .ok (.iadd, 1) := dk_96 (dk_at dksX7_begins_1 1 rfl rfl)
theorem dX7_begins_26 : decode cX7_begins 26 = .ok (.putfield 15, 3) := dk_181 0 15 (dk_at dksX7_begins_1 2 rfl rfl)
theorem dX7_begins_29 : decode cX7_begins 29 = .ok (.return_, 1) := dk_177 (dk_at dksX7_begins_1 5 rfl rfl)
theorem q92 : (Jvm.Cond.initialized "LastHatch$Trace") ∈ lw_all := lw_g (lw_at lw_m1 14 rfl) rfl
theorem q418 : (Jvm.Cond.instantiable "LastHatch$Trace" (2 : Nat)) ∈ lw_all := lw_g (lw_at lw_m2 100 rfl) rfl
theorem q420 : (Jvm.Cond.instanceMethod ({ cls := "LastHatch$Trace", name := "<init>", desc := "()V" } : Jvm.MethodName)) ∈ lw_all := lw_g (lw_at lw_m2 102 rfl) rfl
theorem q421 : (Jvm.Cond.code ({ cls := "LastHatch$Trace", name := "<init>", desc := "()V" } : Jvm.MethodName) prog_31_method_1_code (1 : Nat) (Option.none : Option Jvm.ClassFile.FieldType)) ∈ lw_all := lw_g (lw_at lw_m2 103 rfl) rfl
theorem q422 : (Jvm.Cond.methodLink "LastHatch$Trace" (3 : Nat) ({ cls := "java/lang/Object", name := "<init>", desc := "()V" } : Jvm.MethodName)) ∈ lw_all := lw_g (lw_at lw_m2 104 rfl) rfl
theorem q423 : (Jvm.Cond.fieldLink "LastHatch$Trace" (9 : Nat) "LastHatch$Trace" "ran" "[I") ∈ lw_all := lw_g (lw_at lw_m2 105 rfl) rfl
theorem q425 : (Jvm.Cond.fieldLink "LastHatch$Trace" (15 : Nat) "LastHatch$Trace" "many" "I") ∈ lw_all := lw_g (lw_at lw_m2 107 rfl) rfl
theorem q427 : (Jvm.Cond.laysFinal "LastHatch$Trace" "LastHatch$Trace" "ran" "[I") ∈ lw_all := lw_g (lw_at lw_m2 109 rfl) rfl
theorem q428 : (Jvm.Cond.soleField "LastHatch$Trace" "ran") ∈ lw_all := lw_g (lw_at lw_m2 110 rfl) rfl
theorem q429 : (Jvm.Cond.lays "LastHatch$Trace" "LastHatch$Trace" "many" "I") ∈ lw_all := lw_g (lw_at lw_m2 111 rfl) rfl
theorem q430 : (Jvm.Cond.soleField "LastHatch$Trace" "many") ∈ lw_all := lw_g (lw_at lw_m2 112 rfl) rfl
theorem q431 : (Jvm.Cond.superclass "LastHatch$Trace" "java/lang/Object") ∈ lw_all := lw_g (lw_at lw_m2 113 rfl) rfl
theorem q615 : (Jvm.Cond.selects "LastHatch$Trace" ({ cls := "java/lang/Object", name := "getClass", desc := "()Ljava/lang/Class;" } : Jvm.MethodName) ({ cls := "java/lang/Object", name := "getClass", desc := "()Ljava/lang/Class;" } : Jvm.MethodName)) ∈ lw_all := lw_g (lw_at lw_m3 57 rfl) rfl
theorem q1623 : (Jvm.Cond.instanceMethod ({ cls := "LastHatch$Trace", name := "begins", desc := "(I)V" } : Jvm.MethodName)) ∈ lw_all := lw_g (lw_at lw_m7 105 rfl) rfl
theorem q1624 : (Jvm.Cond.selects "LastHatch$Trace" ({ cls := "LastHatch$Trace", name := "begins", desc := "(I)V" } : Jvm.MethodName) ({ cls := "LastHatch$Trace", name := "begins", desc := "(I)V" } : Jvm.MethodName)) ∈ lw_all := lw_g (lw_at lw_m7 106 rfl) rfl
theorem q1625 : (Jvm.Cond.code ({ cls := "LastHatch$Trace", name := "begins", desc := "(I)V" } : Jvm.MethodName) prog_31_method_2_code (2 : Nat) (Option.none : Option Jvm.ClassFile.FieldType)) ∈ lw_all := lw_g (lw_at lw_m7 107 rfl) rfl
theorem q2541 : (Jvm.Cond.castable "LastHatch$Trace" "java/lang/Object") ∈ lw_tbl := lw_at lw_m11 63 rfl
theorem in_X7 : ∀ w ∈ wsX70, w ∈ lw_all := lw_in wsX70 [427, 429] (by decide +kernel) (by decide +kernel)

/-! LastHatch$Hatch -/
set_option maxRecDepth 100000
def RX8 : String := "LastHatch$Hatch"
def TX8 : u_T := fun k => match k with
  | 0 => ("LastHatch$Hatch", "who", "[I", true)
  | 1 => ("LastHatch$Hatch", "many", "I", false)
  | 2 => ("LastHatch$Hatch", "turns", "[I", true)
  | 3 => ("LastHatch$Hatch", "last", "[I", true)
  | 4 => ("LastHatch$Hatch", "best", "I", false)
  | 5 => ("LastHatch$Hatch", "hull", "LLastHatch$Hull;", false)
  | _ => ("LastHatch$Hatch", "each", "I", false)
def tyX8 : Nat → FieldType := fun k => match k with
  | 0 => .array .int
  | 1 => .int
  | 2 => .array .int
  | 3 => .array .int
  | 4 => .int
  | 5 => .object "LastHatch$Hull"
  | _ => .int
abbrev wsX80 : List Cond := u_ws RX8 TX8 7
theorem nmX8 : ∀ a, a < 7 → ∀ b, b < 7 → a ≠ b → (TX8 a).2.1 ≠ (TX8 b).2.1 := by decide +kernel
theorem tyX8_ok : ∀ k, k < 7 → parseFieldDescriptor (TX8 k).2.2.1 = some (tyX8 k) := by decide +kernel
abbrev cX8_init : ByteArray := prog_10_method_1_code
def yX8_init : MethodName := ⟨RX8, "<init>", "()V"⟩
def dkwX8_init_1 : List UInt8 := [17, 4, 0, 188, 10, 181, 0, 18, 177]
abbrev dktX8_init_1 : List UInt8 := dkwX8_init_1 ++ []
def dkwX8_init_0 : List UInt8 := [42, 183, 0, 3, 42, 16, 10, 188, 10, 181, 0, 9, 42, 17, 4, 0, 188, 10, 181, 0, 15, 42]
abbrev dktX8_init_0 : List UInt8 := dkwX8_init_0 ++ dktX8_init_1
theorem dksX8_init_0 : cX8_init.data.toList.drop 0 = dktX8_init_0 := by decide +kernel
theorem dksX8_init_1 : cX8_init.data.toList.drop 22 = dktX8_init_1 := dk_seg dksX8_init_0 22 rfl rfl
theorem dX8_init_0 : decode cX8_init 0 = .ok (.aload_n 0, 1) := dk_42 (dk_at dksX8_init_0 0 rfl rfl)
theorem dX8_init_1 : decode cX8_init 1 = .ok (.invokespecial 3, 3) := dk_183 0 3 (dk_at dksX8_init_0 1 rfl rfl)
theorem dX8_init_4 : decode cX8_init 4 = .ok (.aload_n 0, 1) := dk_42 (dk_at dksX8_init_0 4 rfl rfl)
theorem dX8_init_5 : decode cX8_init 5 = .ok (.bipush 10, 2) := dk_16 10 (dk_at dksX8_init_0 5 rfl rfl)
theorem dX8_init_7 : decode cX8_init 7 = .ok (.newarray .int, 2) := dk_188_10 (dk_at dksX8_init_0 7 rfl rfl)
theorem dX8_init_9 : decode cX8_init 9 = .ok (.putfield 9, 3) := dk_181 0 9 (dk_at dksX8_init_0 9 rfl rfl)
theorem dX8_init_12 : decode cX8_init 12 = .ok (.aload_n 0, 1) := dk_42 (dk_at dksX8_init_0 12 rfl rfl)
theorem dX8_init_13 : decode cX8_init 13 = .ok (.sipush 1024, 3) := dk_17 4 0 (dk_at dksX8_init_0 13 rfl rfl)
theorem dX8_init_16 : decode cX8_init 16 = .ok (.newarray .int, 2) := dk_188_10 (dk_at dksX8_init_0 16 rfl rfl)
theorem dX8_init_18 : decode cX8_init 18 = .ok (.putfield 15, 3) := dk_181 0 15 (dk_at dksX8_init_0 18 rfl rfl)
theorem dX8_init_21 : decode cX8_init 21 = .ok (.aload_n 0, 1) := dk_42 (dk_at dksX8_init_0 21 rfl rfl)
theorem dX8_init_22 : decode cX8_init 22 = .ok (.sipush 1024, 3) := dk_17 4 0 (dk_at dksX8_init_1 0 rfl rfl)
theorem dX8_init_25 : decode cX8_init 25 = .ok (.newarray .int, 2) := dk_188_10 (dk_at dksX8_init_1 3 rfl rfl)
theorem dX8_init_27 : decode cX8_init 27 = .ok (.putfield 18, 3) := dk_181 0 18 (dk_at dksX8_init_1 5 rfl rfl)
theorem dX8_init_30 : decode cX8_init 30 = .ok (.return_, 1) := dk_177 (dk_at dksX8_init_1 8 rfl rfl)
abbrev cX8_find : ByteArray := prog_10_method_4_code
def yX8_find : MethodName := ⟨RX8, "find", "(LLastHatch$Hull;II)V"⟩
def dkwX8_find_9 : List UInt8 := [153, 0, 9, 42, 21, 4, 181, 0, 72, 132, 4, 1, 167, 255, 139, 177]
abbrev dktX8_find_9 : List UInt8 := dkwX8_find_9 ++ []
def dkwX8_find_8 : List UInt8 := [132, 5, 1, 167, 255, 193, 42, 180, 0, 15, 21, 4, 46, 2, 159, 0, 18, 42, 21, 4, 182, 0, 79]
abbrev dktX8_find_8 : List UInt8 := dkwX8_find_8 ++ dktX8_find_9
def dkwX8_find_7 : List UInt8 := [153, 0, 18, 42, 21, 4, 4, 21, 5, 120, 4, 21, 6, 120, 128, 182, 0, 75, 132, 6, 1, 167, 255, 211]
abbrev dktX8_find_7 : List UInt8 := dkwX8_find_7 ++ dktX8_find_8
def dkwX8_find_6 : List UInt8 := [21, 6, 21, 5, 163, 0, 44, 21, 4, 21, 5, 184, 0, 43, 153, 0, 34, 21, 4, 21, 6, 184, 0, 43]
abbrev dktX8_find_6 : List UInt8 := dkwX8_find_6 ++ dktX8_find_7
def dkwX8_find_5 : List UInt8 := [42, 180, 0, 15, 21, 4, 2, 79, 3, 54, 5, 21, 5, 42, 180, 0, 39, 162, 0, 60, 3, 54, 6]
abbrev dktX8_find_5 : List UInt8 := dkwX8_find_5 ++ dktX8_find_6
def dkwX8_find_4 : List UInt8 := [181, 0, 72, 42, 180, 0, 15, 3, 3, 79, 4, 54, 4, 21, 4, 4, 42, 180, 0, 39, 120, 162, 0, 112]
abbrev dktX8_find_4 : List UInt8 := dkwX8_find_4 ++ dktX8_find_5
def dkwX8_find_3 : List UInt8 := [180, 0, 39, 21, 4, 79, 42, 89, 180, 0, 39, 4, 96, 181, 0, 39, 132, 4, 1, 167, 255, 186, 42, 3]
abbrev dktX8_find_3 : List UInt8 := dkwX8_find_3 ++ dktX8_find_4
def dkwX8_find_2 : List UInt8 := [180, 0, 25, 21, 4, 182, 0, 31, 192, 0, 37, 28, 182, 0, 68, 153, 0, 24, 42, 180, 0, 9, 42]
abbrev dktX8_find_2 : List UInt8 := dkwX8_find_2 ++ dktX8_find_3
def dkwX8_find_1 : List UInt8 := [180, 0, 25, 182, 0, 65, 162, 0, 61, 42, 180, 0, 39, 16, 10, 162, 0, 52, 42, 180, 0, 21]
abbrev dktX8_find_1 : List UInt8 := dkwX8_find_1 ++ dktX8_find_2
def dkwX8_find_0 : List UInt8 := [42, 43, 181, 0, 21, 42, 29, 181, 0, 62, 42, 3, 181, 0, 39, 3, 54, 4, 21, 4, 42, 180, 0, 21]
abbrev dktX8_find_0 : List UInt8 := dkwX8_find_0 ++ dktX8_find_1
theorem dksX8_find_0 : cX8_find.data.toList.drop 0 = dktX8_find_0 := by decide +kernel
theorem dksX8_find_1 : cX8_find.data.toList.drop 24 = dktX8_find_1 := dk_seg dksX8_find_0 24 rfl rfl
theorem dksX8_find_2 : cX8_find.data.toList.drop 46 = dktX8_find_2 := dk_seg dksX8_find_1 22 rfl rfl
theorem dksX8_find_3 : cX8_find.data.toList.drop 69 = dktX8_find_3 := dk_seg dksX8_find_2 23 rfl rfl
theorem dksX8_find_4 : cX8_find.data.toList.drop 93 = dktX8_find_4 := dk_seg dksX8_find_3 24 rfl rfl
theorem dksX8_find_5 : cX8_find.data.toList.drop 117 = dktX8_find_5 := dk_seg dksX8_find_4 24 rfl rfl
theorem dksX8_find_6 : cX8_find.data.toList.drop 140 = dktX8_find_6 := dk_seg dksX8_find_5 23 rfl rfl
theorem dksX8_find_7 : cX8_find.data.toList.drop 164 = dktX8_find_7 := dk_seg dksX8_find_6 24 rfl rfl
theorem dksX8_find_8 : cX8_find.data.toList.drop 188 = dktX8_find_8 := dk_seg dksX8_find_7 24 rfl rfl
theorem dksX8_find_9 : cX8_find.data.toList.drop 211 = dktX8_find_9 := dk_seg dksX8_find_8 23 rfl rfl
theorem dX8_find_0 : decode cX8_find 0 = .ok (.aload_n 0, 1) := dk_42 (dk_at dksX8_find_0 0 rfl rfl)
theorem dX8_find_1 : decode cX8_find 1 = .ok (.aload_n 1, 1) := dk_43 (dk_at dksX8_find_0 1 rfl rfl)
theorem dX8_find_2 : decode cX8_find 2 = .ok (.putfield 21, 3) := dk_181 0 21 (dk_at dksX8_find_0 2 rfl rfl)
theorem dX8_find_5 : decode cX8_find 5 = .ok (.aload_n 0, 1) := dk_42 (dk_at dksX8_find_0 5 rfl rfl)
theorem dX8_find_6 : decode cX8_find 6 = .ok (.iload_n 3, 1) := dk_29 (dk_at dksX8_find_0 6 rfl rfl)
theorem dX8_find_7 : decode cX8_find 7 = .ok (.putfield 62, 3) := dk_181 0 62 (dk_at dksX8_find_0 7 rfl rfl)
theorem dX8_find_10 : decode cX8_find 10 = .ok (.aload_n 0, 1) := dk_42 (dk_at dksX8_find_0 10 rfl rfl)
theorem dX8_find_11 : decode cX8_find 11 = .ok (.iconst 0, 1) := dk_3 (dk_at dksX8_find_0 11 rfl rfl)
theorem dX8_find_12 : decode cX8_find 12 = .ok (.putfield 39, 3) := dk_181 0 39 (dk_at dksX8_find_0 12 rfl rfl)
theorem dX8_find_15 : decode cX8_find 15 = .ok (.iconst 0, 1) := dk_3 (dk_at dksX8_find_0 15 rfl rfl)
theorem dX8_find_16 : decode cX8_find 16 = .ok (.istore 4, 2) := dk_54 4 (dk_at dksX8_find_0 16 rfl rfl)
theorem dX8_find_18 : decode cX8_find 18 = .ok (.iload 4, 2) := dk_21 4 (dk_at dksX8_find_0 18 rfl rfl)
theorem dX8_find_20 : decode cX8_find 20 = .ok (.aload_n 0, 1) := dk_42 (dk_at dksX8_find_0 20 rfl rfl)
theorem dX8_find_21 : decode cX8_find 21 = .ok (.getfield 21, 3) := dk_180 0 21 (dk_at dksX8_find_0 21 rfl rfl)
theorem dX8_find_24 : decode cX8_find 24 = .ok (.getfield 25, 3) := dk_180 0 25 (dk_at dksX8_find_1 0 rfl rfl)
theorem dX8_find_27 : decode cX8_find 27 = .ok (.invokevirtual 65, 3) := dk_182 0 65 (dk_at dksX8_find_1 3 rfl rfl)
theorem dX8_find_30 : decode cX8_find 30 = .ok (.if_icmp .ge 61, 3) := dk_162 0 61 (dk_at dksX8_find_1 6 rfl rfl)
theorem dX8_find_33 : decode cX8_find 33 = .ok (.aload_n 0, 1) := dk_42 (dk_at dksX8_find_1 9 rfl rfl)
theorem dX8_find_34 : decode cX8_find 34 = .ok (.getfield 39, 3) := dk_180 0 39 (dk_at dksX8_find_1 10 rfl rfl)
theorem dX8_find_37 : decode cX8_find 37 = .ok (.bipush 10, 2) := dk_16 10 (dk_at dksX8_find_1 13 rfl rfl)
theorem dX8_find_39 : decode cX8_find 39 = .ok (.if_icmp .ge 52, 3) := dk_162 0 52 (dk_at dksX8_find_1 15 rfl rfl)
theorem dX8_find_42 : decode cX8_find 42 = .ok (.aload_n 0, 1) := dk_42 (dk_at dksX8_find_1 18 rfl rfl)
theorem dX8_find_43 : decode cX8_find 43 = .ok (.getfield 21, 3) := dk_180 0 21 (dk_at dksX8_find_1 19 rfl rfl)
theorem dX8_find_46 : decode cX8_find 46 = .ok (.getfield 25, 3) := dk_180 0 25 (dk_at dksX8_find_2 0 rfl rfl)
theorem dX8_find_49 : decode cX8_find 49 = .ok (.iload 4, 2) := dk_21 4 (dk_at dksX8_find_2 3 rfl rfl)
theorem dX8_find_51 : decode cX8_find 51 = .ok (.invokevirtual 31, 3) := dk_182 0 31 (dk_at dksX8_find_2 5 rfl rfl)
theorem dX8_find_54 : decode cX8_find 54 = .ok (.checkcast 37, 3) := dk_192 0 37 (dk_at dksX8_find_2 8 rfl rfl)
theorem dX8_find_57 : decode cX8_find 57 = .ok (.iload_n 2, 1) := dk_28 (dk_at dksX8_find_2 11 rfl rfl)
theorem dX8_find_58 : decode cX8_find 58 = .ok (.invokevirtual 68, 3) := dk_182 0 68 (dk_at dksX8_find_2 12 rfl rfl)
theorem dX8_find_61 : decode cX8_find 61 = .ok (.ifCond .eq 24, 3) := dk_153 0 24 (dk_at dksX8_find_2 15 rfl rfl)
theorem dX8_find_64 : decode cX8_find 64 = .ok (.aload_n 0, 1) := dk_42 (dk_at dksX8_find_2 18 rfl rfl)
theorem dX8_find_65 : decode cX8_find 65 = .ok (.getfield 9, 3) := dk_180 0 9 (dk_at dksX8_find_2 19 rfl rfl)
theorem dX8_find_68 : decode cX8_find 68 = .ok (.aload_n 0, 1) := dk_42 (dk_at dksX8_find_2 22 rfl rfl)
theorem dX8_find_69 : decode cX8_find 69 = .ok (.getfield 39, 3) := dk_180 0 39 (dk_at dksX8_find_3 0 rfl rfl)
theorem dX8_find_72 : decode cX8_find 72 = .ok (.iload 4, 2) := dk_21 4 (dk_at dksX8_find_3 3 rfl rfl)
theorem dX8_find_74 : decode cX8_find 74 = .ok (.iastore, 1) := dk_79 (dk_at dksX8_find_3 5 rfl rfl)
theorem dX8_find_75 : decode cX8_find 75 = .ok (.aload_n 0, 1) := dk_42 (dk_at dksX8_find_3 6 rfl rfl)
theorem dX8_find_76 : decode cX8_find 76 = .ok (.dup, 1) := dk_89 (dk_at dksX8_find_3 7 rfl rfl)
theorem dX8_find_77 : decode cX8_find 77 = .ok (.getfield 39, 3) := dk_180 0 39 (dk_at dksX8_find_3 8 rfl rfl)
theorem dX8_find_80 : decode cX8_find 80 = .ok (.iconst 1, 1) := dk_4 (dk_at dksX8_find_3 11 rfl rfl)
theorem dX8_find_81 : decode cX8_find 81 = .ok (.iadd, 1) := dk_96 (dk_at dksX8_find_3 12 rfl rfl)
theorem dX8_find_82 : decode cX8_find 82 = .ok (.putfield 39, 3) := dk_181 0 39 (dk_at dksX8_find_3 13 rfl rfl)
theorem dX8_find_85 : decode cX8_find 85 = .ok (.iinc 4 1, 3) := dk_132 4 1 (dk_at dksX8_find_3 16 rfl rfl)
theorem dX8_find_88 : decode cX8_find 88 = .ok (.goto (-70), 3) := dk_167 255 186 (dk_at dksX8_find_3 19 rfl rfl)
theorem dX8_find_91 : decode cX8_find 91 = .ok (.aload_n 0, 1) := dk_42 (dk_at dksX8_find_3 22 rfl rfl)
theorem dX8_find_92 : decode cX8_find 92 = .ok (.iconst 0, 1) := dk_3 (dk_at dksX8_find_3 23 rfl rfl)
theorem dX8_find_93 : decode cX8_find 93 = .ok (.putfield 72, 3) := dk_181 0 72 (dk_at dksX8_find_4 0 rfl rfl)
theorem dX8_find_96 : decode cX8_find 96 = .ok (.aload_n 0, 1) := dk_42 (dk_at dksX8_find_4 3 rfl rfl)
theorem dX8_find_97 : decode cX8_find 97 = .ok (.getfield 15, 3) := dk_180 0 15 (dk_at dksX8_find_4 4 rfl rfl)
theorem dX8_find_100 : decode cX8_find 100 = .ok (.iconst 0, 1) := dk_3 (dk_at dksX8_find_4 7 rfl rfl)
theorem dX8_find_101 : decode cX8_find 101 = .ok (.iconst 0, 1) := dk_3 (dk_at dksX8_find_4 8 rfl rfl)
theorem dX8_find_102 : decode cX8_find 102 = .ok (.iastore, 1) := dk_79 (dk_at dksX8_find_4 9 rfl rfl)
theorem dX8_find_103 : decode cX8_find 103 = .ok (.iconst 1, 1) := dk_4 (dk_at dksX8_find_4 10 rfl rfl)
theorem dX8_find_104 : decode cX8_find 104 = .ok (.istore 4, 2) := dk_54 4 (dk_at dksX8_find_4 11 rfl rfl)
theorem dX8_find_106 : decode cX8_find 106 = .ok (.iload 4, 2) := dk_21 4 (dk_at dksX8_find_4 13 rfl rfl)
theorem dX8_find_108 : decode cX8_find 108 = .ok (.iconst 1, 1) := dk_4 (dk_at dksX8_find_4 15 rfl rfl)
theorem dX8_find_109 : decode cX8_find 109 = .ok (.aload_n 0, 1) := dk_42 (dk_at dksX8_find_4 16 rfl rfl)
theorem dX8_find_110 : decode cX8_find 110 = .ok (.getfield 39, 3) := dk_180 0 39 (dk_at dksX8_find_4 17 rfl rfl)
theorem dX8_find_113 : decode cX8_find 113 = .ok (.ishl, 1) := dk_120 (dk_at dksX8_find_4 20 rfl rfl)
theorem dX8_find_114 : decode cX8_find 114 = .ok (.if_icmp .ge 112, 3) := dk_162 0 112 (dk_at dksX8_find_4 21 rfl rfl)
theorem dX8_find_117 : decode cX8_find 117 = .ok (.aload_n 0, 1) := dk_42 (dk_at dksX8_find_5 0 rfl rfl)
theorem dX8_find_118 : decode cX8_find 118 = .ok (.getfield 15, 3) := dk_180 0 15 (dk_at dksX8_find_5 1 rfl rfl)
theorem dX8_find_121 : decode cX8_find 121 = .ok (.iload 4, 2) := dk_21 4 (dk_at dksX8_find_5 4 rfl rfl)
theorem dX8_find_123 : decode cX8_find 123 = .ok (.iconst (-1), 1) := dk_2 (dk_at dksX8_find_5 6 rfl rfl)
theorem dX8_find_124 : decode cX8_find 124 = .ok (.iastore, 1) := dk_79 (dk_at dksX8_find_5 7 rfl rfl)
theorem dX8_find_125 : decode cX8_find 125 = .ok (.iconst 0, 1) := dk_3 (dk_at dksX8_find_5 8 rfl rfl)
theorem dX8_find_126 : decode cX8_find 126 = .ok (.istore 5, 2) := dk_54 5 (dk_at dksX8_find_5 9 rfl rfl)
theorem dX8_find_128 : decode cX8_find 128 = .ok (.iload 5, 2) := dk_21 5 (dk_at dksX8_find_5 11 rfl rfl)
theorem dX8_find_130 : decode cX8_find 130 = .ok (.aload_n 0, 1) := dk_42 (dk_at dksX8_find_5 13 rfl rfl)
theorem dX8_find_131 : decode cX8_find 131 = .ok (.getfield 39, 3) := dk_180 0 39 (dk_at dksX8_find_5 14 rfl rfl)
theorem dX8_find_134 : decode cX8_find 134 = .ok (.if_icmp .ge 60, 3) := dk_162 0 60 (dk_at dksX8_find_5 17 rfl rfl)
theorem dX8_find_137 : decode cX8_find 137 = .ok (.iconst 0, 1) := dk_3 (dk_at dksX8_find_5 20 rfl rfl)
theorem dX8_find_138 : decode cX8_find 138 = .ok (.istore 6, 2) := dk_54 6 (dk_at dksX8_find_5 21 rfl rfl)
theorem dX8_find_140 : decode cX8_find 140 = .ok (.iload 6, 2) := dk_21 6 (dk_at dksX8_find_6 0 rfl rfl)
theorem dX8_find_142 : decode cX8_find 142 = .ok (.iload 5, 2) := dk_21 5 (dk_at dksX8_find_6 2 rfl rfl)
theorem dX8_find_144 : decode cX8_find 144 = .ok (.if_icmp .gt 44, 3) := dk_163 0 44 (dk_at dksX8_find_6 4 rfl rfl)
theorem dX8_find_147 : decode cX8_find 147 = .ok (.iload 4, 2) := dk_21 4 (dk_at dksX8_find_6 7 rfl rfl)
theorem dX8_find_149 : decode cX8_find 149 = .ok (.iload 5, 2) := dk_21 5 (dk_at dksX8_find_6 9 rfl rfl)
theorem dX8_find_151 : decode cX8_find 151 = .ok (.invokestatic 43, 3) := dk_184 0 43 (dk_at dksX8_find_6 11 rfl rfl)
theorem dX8_find_154 : decode cX8_find 154 = .ok (.ifCond .eq 34, 3) := dk_153 0 34 (dk_at dksX8_find_6 14 rfl rfl)
theorem dX8_find_157 : decode cX8_find 157 = .ok (.iload 4, 2) := dk_21 4 (dk_at dksX8_find_6 17 rfl rfl)
theorem dX8_find_159 : decode cX8_find 159 = .ok (.iload 6, 2) := dk_21 6 (dk_at dksX8_find_6 19 rfl rfl)
theorem dX8_find_161 : decode cX8_find 161 = .ok (.invokestatic 43, 3) := dk_184 0 43 (dk_at dksX8_find_6 21 rfl rfl)
theorem dX8_find_164 : decode cX8_find 164 = .ok (.ifCond .eq 18, 3) := dk_153 0 18 (dk_at dksX8_find_7 0 rfl rfl)
theorem dX8_find_167 : decode cX8_find 167 = .ok (.aload_n 0, 1) := dk_42 (dk_at dksX8_find_7 3 rfl rfl)
theorem dX8_find_168 : decode cX8_find 168 = .ok (.iload 4, 2) := dk_21 4 (dk_at dksX8_find_7 4 rfl rfl)
theorem dX8_find_170 : decode cX8_find 170 = .ok (.iconst 1, 1) := dk_4 (dk_at dksX8_find_7 6 rfl rfl)
theorem dX8_find_171 : decode cX8_find 171 = .ok (.iload 5, 2) := dk_21 5 (dk_at dksX8_find_7 7 rfl rfl)
theorem dX8_find_173 : decode cX8_find 173 = .ok (.ishl, 1) := dk_120 (dk_at dksX8_find_7 9 rfl rfl)
theorem dX8_find_174 : decode cX8_find 174 = .ok (.iconst 1, 1) := dk_4 (dk_at dksX8_find_7 10 rfl rfl)
theorem dX8_find_175 : decode cX8_find 175 = .ok (.iload 6, 2) := dk_21 6 (dk_at dksX8_find_7 11 rfl rfl)
theorem dX8_find_177 : decode cX8_find 177 = .ok (.ishl, 1) := dk_120 (dk_at dksX8_find_7 13 rfl rfl)
theorem dX8_find_178 : decode cX8_find 178 = .ok (.ior, 1) := dk_128 (dk_at dksX8_find_7 14 rfl rfl)
theorem dX8_find_179 : decode cX8_find 179 = .ok (.invokevirtual 75, 3) := dk_182 0 75 (dk_at dksX8_find_7 15 rfl rfl)
theorem dX8_find_182 : decode cX8_find 182 = .ok (.iinc 6 1, 3) := dk_132 6 1 (dk_at dksX8_find_7 18 rfl rfl)
theorem dX8_find_185 : decode cX8_find 185 = .ok (.goto (-45), 3) := dk_167 255 211 (dk_at dksX8_find_7 21 rfl rfl)
theorem dX8_find_188 : decode cX8_find 188 = .ok (.iinc 5 1, 3) := dk_132 5 1 (dk_at dksX8_find_8 0 rfl rfl)
theorem dX8_find_191 : decode cX8_find 191 = .ok (.goto (-63), 3) := dk_167 255 193 (dk_at dksX8_find_8 3 rfl rfl)
theorem dX8_find_194 : decode cX8_find 194 = .ok (.aload_n 0, 1) := dk_42 (dk_at dksX8_find_8 6 rfl rfl)
theorem dX8_find_195 : decode cX8_find 195 = .ok (.getfield 15, 3) := dk_180 0 15 (dk_at dksX8_find_8 7 rfl rfl)
theorem dX8_find_198 : decode cX8_find 198 = .ok (.iload 4, 2) := dk_21 4 (dk_at dksX8_find_8 10 rfl rfl)
theorem dX8_find_200 : decode cX8_find 200 = .ok (.iaload, 1) := dk_46 (dk_at dksX8_find_8 12 rfl rfl)
theorem dX8_find_201 : decode cX8_find 201 = .ok (.iconst (-1), 1) := dk_2 (dk_at dksX8_find_8 13 rfl rfl)
theorem dX8_find_202 : decode cX8_find 202 = .ok (.if_icmp .eq 18, 3) := dk_159 0 18 (dk_at dksX8_find_8 14 rfl rfl)
theorem dX8_find_205 : decode cX8_find 205 = .ok (.aload_n 0, 1) := dk_42 (dk_at dksX8_find_8 17 rfl rfl)
theorem dX8_find_206 : decode cX8_find 206 = .ok (.iload 4, 2) := dk_21 4 (dk_at dksX8_find_8 18 rfl rfl)
theorem dX8_find_208 : decode cX8_find 208 = .ok (.invokevirtual 79, 3) := dk_182 0 79 (dk_at dksX8_find_8 20 rfl rfl)
theorem dX8_find_211 : decode cX8_find 211 = .ok (.ifCond .eq 9, 3) := dk_153 0 9 (dk_at dksX8_find_9 0 rfl rfl)
theorem dX8_find_214 : decode cX8_find 214 = .ok (.aload_n 0, 1) := dk_42 (dk_at dksX8_find_9 3 rfl rfl)
theorem dX8_find_215 : decode cX8_find 215 = .ok (.iload 4, 2) := dk_21 4 (dk_at dksX8_find_9 4 rfl rfl)
theorem dX8_find_217 : decode cX8_find 217 = .ok (.putfield 72, 3) := dk_181 0 72 (dk_at dksX8_find_9 6 rfl rfl)
theorem dX8_find_220 : decode cX8_find 220 = .ok (.iinc 4 1, 3) := dk_132 4 1 (dk_at dksX8_find_9 9 rfl rfl)
theorem dX8_find_223 : decode cX8_find 223 = .ok (.goto (-117), 3) := dk_167 255 139 (dk_at dksX8_find_9 12 rfl rfl)
theorem dX8_find_226 : decode cX8_find 226 = .ok (.return_, 1) := dk_177 (dk_at dksX8_find_9 15 rfl rfl)
abbrev cX8_tries : ByteArray := prog_10_method_5_code
def yX8_tries : MethodName := ⟨RX8, "tries", "(II)V"⟩
def dkwX8_tries_4 : List UInt8 := [180, 0, 18, 27, 28, 79, 177]
abbrev dktX8_tries_4 : List UInt8 := dkwX8_tries_4 ++ []
def dkwX8_tries_3 : List UInt8 := [160, 0, 29, 28, 42, 180, 0, 18, 27, 46, 162, 0, 19, 42, 180, 0, 15, 27, 29, 4, 96, 79, 42]
abbrev dktX8_tries_3 : List UInt8 := dkwX8_tries_3 ++ dktX8_tries_4
def dkwX8_tries_2 : List UInt8 := [162, 0, 7, 4, 167, 0, 4, 3, 54, 4, 21, 4, 154, 0, 25, 29, 4, 96, 42, 180, 0, 15, 27, 46]
abbrev dktX8_tries_2 : List UInt8 := dkwX8_tries_2 ++ dktX8_tries_3
def dkwX8_tries_1 : List UInt8 := [154, 0, 4, 177, 42, 180, 0, 15, 27, 46, 2, 159, 0, 15, 29, 4, 96, 42, 180, 0, 15, 27, 46]
abbrev dktX8_tries_1 : List UInt8 := dkwX8_tries_1 ++ dktX8_tries_2
def dkwX8_tries_0 : List UInt8 := [42, 180, 0, 15, 27, 28, 2, 130, 126, 46, 62, 29, 2, 159, 0, 14, 42, 28, 29, 4, 96, 182, 0, 82]
abbrev dktX8_tries_0 : List UInt8 := dkwX8_tries_0 ++ dktX8_tries_1
theorem dksX8_tries_0 : cX8_tries.data.toList.drop 0 = dktX8_tries_0 := by decide +kernel
theorem dksX8_tries_1 : cX8_tries.data.toList.drop 24 = dktX8_tries_1 := dk_seg dksX8_tries_0 24 rfl rfl
theorem dksX8_tries_2 : cX8_tries.data.toList.drop 47 = dktX8_tries_2 := dk_seg dksX8_tries_1 23 rfl rfl
theorem dksX8_tries_3 : cX8_tries.data.toList.drop 71 = dktX8_tries_3 := dk_seg dksX8_tries_2 24 rfl rfl
theorem dksX8_tries_4 : cX8_tries.data.toList.drop 94 = dktX8_tries_4 := dk_seg dksX8_tries_3 23 rfl rfl
theorem dX8_tries_0 : decode cX8_tries 0 = .ok (.aload_n 0, 1) := dk_42 (dk_at dksX8_tries_0 0 rfl rfl)
theorem dX8_tries_1 : decode cX8_tries 1 = .ok (.getfield 15, 3) := dk_180 0 15 (dk_at dksX8_tries_0 1 rfl rfl)
theorem dX8_tries_4 : decode cX8_tries 4 = .ok (.iload_n 1, 1) := dk_27 (dk_at dksX8_tries_0 4 rfl rfl)
theorem dX8_tries_5 : decode cX8_tries 5 = .ok (.iload_n 2, 1) := dk_28 (dk_at dksX8_tries_0 5 rfl rfl)
theorem dX8_tries_6 : decode cX8_tries 6 = .ok (.iconst (-1), 1) := dk_2 (dk_at dksX8_tries_0 6 rfl rfl)
theorem dX8_tries_7 : decode cX8_tries 7 = .ok (.ixor, 1) := dk_130 (dk_at dksX8_tries_0 7 rfl rfl)
theorem dX8_tries_8 : decode cX8_tries 8 = .ok (.iand, 1) := dk_126 (dk_at dksX8_tries_0 8 rfl rfl)
theorem dX8_tries_9 : decode cX8_tries 9 = .ok (.iaload, 1) := dk_46 (dk_at dksX8_tries_0 9 rfl rfl)
theorem dX8_tries_10 : decode cX8_tries 10 = .ok (.istore_n 3, 1) := dk_62 (dk_at dksX8_tries_0 10 rfl rfl)
theorem dX8_tries_11 : decode cX8_tries 11 = .ok (.iload_n 3, 1) := dk_29 (dk_at dksX8_tries_0 11 rfl rfl)
theorem dX8_tries_12 : decode cX8_tries 12 = .ok (.iconst (-1), 1) := dk_2 (dk_at dksX8_tries_0 12 rfl rfl)
theorem dX8_tries_13 : decode cX8_tries 13 = .ok (.if_icmp .eq 14, 3) := dk_159 0 14 (dk_at dksX8_tries_0 13 rfl rfl)
theorem dX8_tries_16 : decode cX8_tries 16 = .ok (.aload_n 0, 1) := dk_42 (dk_at dksX8_tries_0 16 rfl rfl)
theorem dX8_tries_17 : decode cX8_tries 17 = .ok (.iload_n 2, 1) := dk_28 (dk_at dksX8_tries_0 17 rfl rfl)
theorem dX8_tries_18 : decode cX8_tries 18 = .ok (.iload_n 3, 1) := dk_29 (dk_at dksX8_tries_0 18 rfl rfl)
theorem dX8_tries_19 : decode cX8_tries 19 = .ok (.iconst 1, 1) := dk_4 (dk_at dksX8_tries_0 19 rfl rfl)
theorem dX8_tries_20 : decode cX8_tries 20 = .ok (.iadd, 1) := dk_96 (dk_at dksX8_tries_0 20 rfl rfl)
theorem dX8_tries_21 : decode cX8_tries 21 = .ok (.invokevirtual 82, 3) := dk_182 0 82 (dk_at dksX8_tries_0 21 rfl rfl)
theorem dX8_tries_24 : decode cX8_tries 24 = .ok (.ifCond .ne 4, 3) := dk_154 0 4 (dk_at dksX8_tries_1 0 rfl rfl)
theorem dX8_tries_27 : decode cX8_tries 27 = .ok (.return_, 1) := dk_177 (dk_at dksX8_tries_1 3 rfl rfl)
theorem dX8_tries_28 : decode cX8_tries 28 = .ok (.aload_n 0, 1) := dk_42 (dk_at dksX8_tries_1 4 rfl rfl)
theorem dX8_tries_29 : decode cX8_tries 29 = .ok (.getfield 15, 3) := dk_180 0 15 (dk_at dksX8_tries_1 5 rfl rfl)
theorem dX8_tries_32 : decode cX8_tries 32 = .ok (.iload_n 1, 1) := dk_27 (dk_at dksX8_tries_1 8 rfl rfl)
theorem dX8_tries_33 : decode cX8_tries 33 = .ok (.iaload, 1) := dk_46 (dk_at dksX8_tries_1 9 rfl rfl)
theorem dX8_tries_34 : decode cX8_tries 34 = .ok (.iconst (-1), 1) := dk_2 (dk_at dksX8_tries_1 10 rfl rfl)
theorem dX8_tries_35 : decode cX8_tries 35 = .ok (.if_icmp .eq 15, 3) := dk_159 0 15 (dk_at dksX8_tries_1 11 rfl rfl)
theorem dX8_tries_38 : decode cX8_tries 38 = .ok (.iload_n 3, 1) := dk_29 (dk_at dksX8_tries_1 14 rfl rfl)
theorem dX8_tries_39 : decode cX8_tries 39 = .ok (.iconst 1, 1) := dk_4 (dk_at dksX8_tries_1 15 rfl rfl)
theorem dX8_tries_40 : decode cX8_tries 40 = .ok (.iadd, 1) := dk_96 (dk_at dksX8_tries_1 16 rfl rfl)
theorem dX8_tries_41 : decode cX8_tries 41 = .ok (.aload_n 0, 1) := dk_42 (dk_at dksX8_tries_1 17 rfl rfl)
theorem dX8_tries_42 : decode cX8_tries 42 = .ok (.getfield 15, 3) := dk_180 0 15 (dk_at dksX8_tries_1 18 rfl rfl)
theorem dX8_tries_45 : decode cX8_tries 45 = .ok (.iload_n 1, 1) := dk_27 (dk_at dksX8_tries_1 21 rfl rfl)
theorem dX8_tries_46 : decode cX8_tries 46 = .ok (.iaload, 1) := dk_46 (dk_at dksX8_tries_1 22 rfl rfl)
theorem dX8_tries_47 : decode cX8_tries 47 = .ok (.if_icmp .ge 7, 3) := dk_162 0 7 (dk_at dksX8_tries_2 0 rfl rfl)
theorem dX8_tries_50 : decode cX8_tries 50 = .ok (.iconst 1, 1) := dk_4 (dk_at dksX8_tries_2 3 rfl rfl)
theorem dX8_tries_51 : decode cX8_tries 51 = .ok (.goto 4, 3) := dk_167 0 4 (dk_at dksX8_tries_2 4 rfl rfl)
theorem dX8_tries_54 : decode cX8_tries 54 = .ok (.iconst 0, 1) := dk_3 (dk_at dksX8_tries_2 7 rfl rfl)
theorem dX8_tries_55 : decode cX8_tries 55 = .ok (.istore 4, 2) := dk_54 4 (dk_at dksX8_tries_2 8 rfl rfl)
theorem dX8_tries_57 : decode cX8_tries 57 = .ok (.iload 4, 2) := dk_21 4 (dk_at dksX8_tries_2 10 rfl rfl)
theorem dX8_tries_59 : decode cX8_tries 59 = .ok (.ifCond .ne 25, 3) := dk_154 0 25 (dk_at dksX8_tries_2 12 rfl rfl)
theorem dX8_tries_62 : decode cX8_tries 62 = .ok (.iload_n 3, 1) := dk_29 (dk_at dksX8_tries_2 15 rfl rfl)
theorem dX8_tries_63 : decode cX8_tries 63 = .ok (.iconst 1, 1) := dk_4 (dk_at dksX8_tries_2 16 rfl rfl)
theorem dX8_tries_64 : decode cX8_tries 64 = .ok (.iadd, 1) := dk_96 (dk_at dksX8_tries_2 17 rfl rfl)
theorem dX8_tries_65 : decode cX8_tries 65 = .ok (.aload_n 0, 1) := dk_42 (dk_at dksX8_tries_2 18 rfl rfl)
theorem dX8_tries_66 : decode cX8_tries 66 = .ok (.getfield 15, 3) := dk_180 0 15 (dk_at dksX8_tries_2 19 rfl rfl)
theorem dX8_tries_69 : decode cX8_tries 69 = .ok (.iload_n 1, 1) := dk_27 (dk_at dksX8_tries_2 22 rfl rfl)
theorem dX8_tries_70 : decode cX8_tries 70 = .ok (.iaload, 1) := dk_46 (dk_at dksX8_tries_2 23 rfl rfl)
theorem dX8_tries_71 : decode cX8_tries 71 = .ok (.if_icmp .ne 29, 3) := dk_160 0 29 (dk_at dksX8_tries_3 0 rfl rfl)
theorem dX8_tries_74 : decode cX8_tries 74 = .ok (.iload_n 2, 1) := dk_28 (dk_at dksX8_tries_3 3 rfl rfl)
theorem dX8_tries_75 : decode cX8_tries 75 = .ok (.aload_n 0, 1) := dk_42 (dk_at dksX8_tries_3 4 rfl rfl)
theorem dX8_tries_76 : decode cX8_tries 76 = .ok (.getfield 18, 3) := dk_180 0 18 (dk_at dksX8_tries_3 5 rfl rfl)
theorem dX8_tries_79 : decode cX8_tries 79 = .ok (.iload_n 1, 1) := dk_27 (dk_at dksX8_tries_3 8 rfl rfl)
theorem dX8_tries_80 : decode cX8_tries 80 = .ok (.iaload, 1) := dk_46 (dk_at dksX8_tries_3 9 rfl rfl)
theorem dX8_tries_81 : decode cX8_tries 81 = .ok (.if_icmp .ge 19, 3) := dk_162 0 19 (dk_at dksX8_tries_3 10 rfl rfl)
theorem dX8_tries_84 : decode cX8_tries 84 = .ok (.aload_n 0, 1) := dk_42 (dk_at dksX8_tries_3 13 rfl rfl)
theorem dX8_tries_85 : decode cX8_tries 85 = .ok (.getfield 15, 3) := dk_180 0 15 (dk_at dksX8_tries_3 14 rfl rfl)
theorem dX8_tries_88 : decode cX8_tries 88 = .ok (.iload_n 1, 1) := dk_27 (dk_at dksX8_tries_3 17 rfl rfl)
theorem dX8_tries_89 : decode cX8_tries 89 = .ok (.iload_n 3, 1) := dk_29 (dk_at dksX8_tries_3 18 rfl rfl)
theorem dX8_tries_90 : decode cX8_tries 90 = .ok (.iconst 1, 1) := dk_4 (dk_at dksX8_tries_3 19 rfl rfl)
theorem dX8_tries_91 : decode cX8_tries 91 = .ok (.iadd, 1) := dk_96 (dk_at dksX8_tries_3 20 rfl rfl)
theorem dX8_tries_92 : decode cX8_tries 92 = .ok (.iastore, 1) := dk_79 (dk_at dksX8_tries_3 21 rfl rfl)
theorem dX8_tries_93 : decode cX8_tries 93 = .ok (.aload_n 0, 1) := dk_42 (dk_at dksX8_tries_3 22 rfl rfl)
theorem dX8_tries_94 : decode cX8_tries 94 = .ok (.getfield 18, 3) := dk_180 0 18 (dk_at dksX8_tries_4 0 rfl rfl)
theorem dX8_tries_97 : decode cX8_tries 97 = .ok (.iload_n 1, 1) := dk_27 (dk_at dksX8_tries_4 3 rfl rfl)
theorem dX8_tries_98 : decode cX8_tries 98 = .ok (.iload_n 2, 1) := dk_28 (dk_at dksX8_tries_4 4 rfl rfl)
theorem dX8_tries_99 : decode cX8_tries 99 = .ok (.iastore, 1) := dk_79 (dk_at dksX8_tries_4 5 rfl rfl)
theorem dX8_tries_100 : decode cX8_tries 100 = .ok (.return_, 1) := dk_177 (dk_at dksX8_tries_4 6 rfl rfl)
abbrev cX8_mayGo : ByteArray := prog_10_method_3_code
def yX8_mayGo : MethodName := ⟨RX8, "mayGo", "(II)Z"⟩
def dkwX8_mayGo_4 : List UInt8 := [153, 0, 12, 21, 4, 153, 0, 7, 4, 167, 0, 4, 3, 172]
abbrev dktX8_mayGo_4 : List UInt8 := dkwX8_mayGo_4 ++ []
def dkwX8_mayGo_3 : List UInt8 := [42, 180, 0, 62, 104, 96, 161, 0, 7, 4, 167, 0, 4, 3, 62, 132, 5, 1, 167, 255, 175, 29]
abbrev dktX8_mayGo_3 : List UInt8 := dkwX8_mayGo_3 ++ dktX8_mayGo_4
def dkwX8_mayGo_2 : List UInt8 := [3, 54, 4, 29, 153, 0, 33, 42, 21, 5, 182, 0, 47, 182, 0, 55, 42, 180, 0, 21, 180, 0, 59, 28]
abbrev dktX8_mayGo_2 : List UInt8 := dkwX8_mayGo_2 ++ dktX8_mayGo_3
def dkwX8_mayGo_1 : List UInt8 := [153, 0, 63, 21, 4, 154, 0, 15, 42, 21, 5, 182, 0, 47, 182, 0, 51, 153, 0, 7, 4, 167, 0, 4]
abbrev dktX8_mayGo_1 : List UInt8 := dkwX8_mayGo_1 ++ dktX8_mayGo_2
def dkwX8_mayGo_0 : List UInt8 := [4, 62, 3, 54, 4, 3, 54, 5, 21, 5, 42, 180, 0, 39, 162, 0, 78, 27, 21, 5, 184, 0, 43]
abbrev dktX8_mayGo_0 : List UInt8 := dkwX8_mayGo_0 ++ dktX8_mayGo_1
theorem dksX8_mayGo_0 : cX8_mayGo.data.toList.drop 0 = dktX8_mayGo_0 := by decide +kernel
theorem dksX8_mayGo_1 : cX8_mayGo.data.toList.drop 23 = dktX8_mayGo_1 := dk_seg dksX8_mayGo_0 23 rfl rfl
theorem dksX8_mayGo_2 : cX8_mayGo.data.toList.drop 47 = dktX8_mayGo_2 := dk_seg dksX8_mayGo_1 24 rfl rfl
theorem dksX8_mayGo_3 : cX8_mayGo.data.toList.drop 71 = dktX8_mayGo_3 := dk_seg dksX8_mayGo_2 24 rfl rfl
theorem dksX8_mayGo_4 : cX8_mayGo.data.toList.drop 93 = dktX8_mayGo_4 := dk_seg dksX8_mayGo_3 22 rfl rfl
theorem dX8_mayGo_0 : decode cX8_mayGo 0 = .ok (.iconst 1, 1) := dk_4 (dk_at dksX8_mayGo_0 0 rfl rfl)
theorem dX8_mayGo_1 : decode cX8_mayGo 1 = .ok (.istore_n 3, 1) := dk_62 (dk_at dksX8_mayGo_0 1 rfl rfl)
theorem dX8_mayGo_2 : decode cX8_mayGo 2 = .ok (.iconst 0, 1) := dk_3 (dk_at dksX8_mayGo_0 2 rfl rfl)
theorem dX8_mayGo_3 : decode cX8_mayGo 3 = .ok (.istore 4, 2) := dk_54 4 (dk_at dksX8_mayGo_0 3 rfl rfl)
theorem dX8_mayGo_5 : decode cX8_mayGo 5 = .ok (.iconst 0, 1) := dk_3 (dk_at dksX8_mayGo_0 5 rfl rfl)
theorem dX8_mayGo_6 : decode cX8_mayGo 6 = .ok (.istore 5, 2) := dk_54 5 (dk_at dksX8_mayGo_0 6 rfl rfl)
theorem dX8_mayGo_8 : decode cX8_mayGo 8 = .ok (.iload 5, 2) := dk_21 5 (dk_at dksX8_mayGo_0 8 rfl rfl)
theorem dX8_mayGo_10 : decode cX8_mayGo 10 = .ok (.aload_n 0, 1) := dk_42 (dk_at dksX8_mayGo_0 10 rfl rfl)
theorem dX8_mayGo_11 : decode cX8_mayGo 11 = .ok (.getfield 39, 3) := dk_180 0 39 (dk_at dksX8_mayGo_0 11 rfl rfl)
theorem dX8_mayGo_14 : decode cX8_mayGo 14 = .ok (.if_icmp .ge 78, 3) := dk_162 0 78 (dk_at dksX8_mayGo_0 14 rfl rfl)
theorem dX8_mayGo_17 : decode cX8_mayGo 17 = .ok (.iload_n 1, 1) := dk_27 (dk_at dksX8_mayGo_0 17 rfl rfl)
theorem dX8_mayGo_18 : decode cX8_mayGo 18 = .ok (.iload 5, 2) := dk_21 5 (dk_at dksX8_mayGo_0 18 rfl rfl)
theorem dX8_mayGo_20 : decode cX8_mayGo 20 = .ok (.invokestatic 43, 3) := dk_184 0 43 (dk_at dksX8_mayGo_0 20 rfl rfl)
theorem dX8_mayGo_23 : decode cX8_mayGo 23 = .ok (.ifCond .eq 63, 3) := dk_153 0 63 (dk_at dksX8_mayGo_1 0 rfl rfl)
theorem dX8_mayGo_26 : decode cX8_mayGo 26 = .ok (.iload 4, 2) := dk_21 4 (dk_at dksX8_mayGo_1 3 rfl rfl)
theorem dX8_mayGo_28 : decode cX8_mayGo 28 = .ok (.ifCond .ne 15, 3) := dk_154 0 15 (dk_at dksX8_mayGo_1 5 rfl rfl)
theorem dX8_mayGo_31 : decode cX8_mayGo 31 = .ok (.aload_n 0, 1) := dk_42 (dk_at dksX8_mayGo_1 8 rfl rfl)
theorem dX8_mayGo_32 : decode cX8_mayGo 32 = .ok (.iload 5, 2) := dk_21 5 (dk_at dksX8_mayGo_1 9 rfl rfl)
theorem dX8_mayGo_34 : decode cX8_mayGo 34 = .ok (.invokevirtual 47, 3) := dk_182 0 47 (dk_at dksX8_mayGo_1 11 rfl rfl)
theorem dX8_mayGo_37 : decode cX8_mayGo 37 = .ok (.invokevirtual 51, 3) := dk_182 0 51 (dk_at dksX8_mayGo_1 14 rfl rfl)
theorem dX8_mayGo_40 : decode cX8_mayGo 40 = .ok (.ifCond .eq 7, 3) := dk_153 0 7 (dk_at dksX8_mayGo_1 17 rfl rfl)
theorem dX8_mayGo_43 : decode cX8_mayGo 43 = .ok (.iconst 1, 1) := dk_4 (dk_at dksX8_mayGo_1 20 rfl rfl)
theorem dX8_mayGo_44 : decode cX8_mayGo 44 = .ok (.goto 4, 3) := dk_167 0 4 (dk_at dksX8_mayGo_1 21 rfl rfl)
theorem dX8_mayGo_47 : decode cX8_mayGo 47 = .ok (.iconst 0, 1) := dk_3 (dk_at dksX8_mayGo_2 0 rfl rfl)
theorem dX8_mayGo_48 : decode cX8_mayGo 48 = .ok (.istore 4, 2) := dk_54 4 (dk_at dksX8_mayGo_2 1 rfl rfl)
theorem dX8_mayGo_50 : decode cX8_mayGo 50 = .ok (.iload_n 3, 1) := dk_29 (dk_at dksX8_mayGo_2 3 rfl rfl)
theorem dX8_mayGo_51 : decode cX8_mayGo 51 = .ok (.ifCond .eq 33, 3) := dk_153 0 33 (dk_at dksX8_mayGo_2 4 rfl rfl)
theorem dX8_mayGo_54 : decode cX8_mayGo 54 = .ok (.aload_n 0, 1) := dk_42 (dk_at dksX8_mayGo_2 7 rfl rfl)
theorem dX8_mayGo_55 : decode cX8_mayGo 55 = .ok (.iload 5, 2) := dk_21 5 (dk_at dksX8_mayGo_2 8 rfl rfl)
theorem dX8_mayGo_57 : decode cX8_mayGo 57 = .ok (.invokevirtual 47, 3) := dk_182 0 47 (dk_at dksX8_mayGo_2 10 rfl rfl)
theorem dX8_mayGo_60 : decode cX8_mayGo 60 = .ok (.invokevirtual 55, 3) := dk_182 0 55 (dk_at dksX8_mayGo_2 13 rfl rfl)
theorem dX8_mayGo_63 : decode cX8_mayGo 63 = .ok (.aload_n 0, 1) := dk_42 (dk_at dksX8_mayGo_2 16 rfl rfl)
theorem dX8_mayGo_64 : decode cX8_mayGo 64 = .ok (.getfield 21, 3) := dk_180 0 21 (dk_at dksX8_mayGo_2 17 rfl rfl)
theorem dX8_mayGo_67 : decode cX8_mayGo 67 = .ok (.getfield 59, 3) := dk_180 0 59 (dk_at dksX8_mayGo_2 20 rfl rfl)
theorem dX8_mayGo_70 : decode cX8_mayGo 70 = .ok (.iload_n 2, 1) := dk_28 (dk_at dksX8_mayGo_2 23 rfl rfl)
theorem dX8_mayGo_71 : decode cX8_mayGo 71 = .ok (.aload_n 0, 1) := dk_42 (dk_at dksX8_mayGo_3 0 rfl rfl)
theorem dX8_mayGo_72 : decode cX8_mayGo 72 = .ok (.getfield 62, 3) := dk_180 0 62 (dk_at dksX8_mayGo_3 1 rfl rfl)
theorem dX8_mayGo_75 : decode cX8_mayGo 75 = .ok (.imul, 1) := dk_104 (dk_at dksX8_mayGo_3 4 rfl rfl)
theorem dX8_mayGo_76 : decode cX8_mayGo 76 = .ok (.iadd, 1) := dk_96 (dk_at dksX8_mayGo_3 5 rfl rfl)
theorem dX8_mayGo_77 : decode cX8_mayGo 77 = .ok (.if_icmp .lt 7, 3) := dk_161 0 7 (dk_at dksX8_mayGo_3 6 rfl rfl)
theorem dX8_mayGo_80 : decode cX8_mayGo 80 = .ok (.iconst 1, 1) := dk_4 (dk_at dksX8_mayGo_3 9 rfl rfl)
theorem dX8_mayGo_81 : decode cX8_mayGo 81 = .ok (.goto 4, 3) := dk_167 0 4 (dk_at dksX8_mayGo_3 10 rfl rfl)
theorem dX8_mayGo_84 : decode cX8_mayGo 84 = .ok (.iconst 0, 1) := dk_3 (dk_at dksX8_mayGo_3 13 rfl rfl)
theorem dX8_mayGo_85 : decode cX8_mayGo 85 = .ok (.istore_n 3, 1) := dk_62 (dk_at dksX8_mayGo_3 14 rfl rfl)
theorem dX8_mayGo_86 : decode cX8_mayGo 86 = .ok (.iinc 5 1, 3) := dk_132 5 1 (dk_at dksX8_mayGo_3 15 rfl rfl)
theorem dX8_mayGo_89 : decode cX8_mayGo 89 = .ok (.goto (-81), 3) := dk_167 255 175 (dk_at dksX8_mayGo_3 18 rfl rfl)
theorem dX8_mayGo_92 : decode cX8_mayGo 92 = .ok (.iload_n 3, 1) := dk_29 (dk_at dksX8_mayGo_3 21 rfl rfl)
theorem dX8_mayGo_93 : decode cX8_mayGo 93 = .ok (.ifCond .eq 12, 3) := dk_153 0 12 (dk_at dksX8_mayGo_4 0 rfl rfl)
theorem dX8_mayGo_96 : decode cX8_mayGo 96 = .ok (.iload 4, 2) := dk_21 4 (dk_at dksX8_mayGo_4 3 rfl rfl)
theorem dX8_mayGo_98 : decode cX8_mayGo 98 = .ok (.ifCond .eq 7, 3) := dk_153 0 7 (dk_at dksX8_mayGo_4 5 rfl rfl)
theorem dX8_mayGo_101 : decode cX8_mayGo 101 = .ok (.iconst 1, 1) := dk_4 (dk_at dksX8_mayGo_4 8 rfl rfl)
theorem dX8_mayGo_102 : decode cX8_mayGo 102 = .ok (.goto 4, 3) := dk_167 0 4 (dk_at dksX8_mayGo_4 9 rfl rfl)
theorem dX8_mayGo_105 : decode cX8_mayGo 105 = .ok (.iconst 0, 1) := dk_3 (dk_at dksX8_mayGo_4 12 rfl rfl)
theorem dX8_mayGo_106 : decode cX8_mayGo 106 = .ok (.ireturn, 1) := dk_172 (dk_at dksX8_mayGo_4 13 rfl rfl)
abbrev cX8_man : ByteArray := prog_10_method_2_code
def yX8_man : MethodName := ⟨RX8, "man", "(I)LLastHatch$Man;"⟩
def dkwX8_man_0 : List UInt8 := [42, 180, 0, 21, 180, 0, 25, 42, 180, 0, 9, 27, 46, 182, 0, 31, 192, 0, 37, 176]
abbrev dktX8_man_0 : List UInt8 := dkwX8_man_0 ++ []
theorem dksX8_man_0 : cX8_man.data.toList.drop 0 = dktX8_man_0 := by decide +kernel
theorem dX8_man_0 : decode cX8_man 0 = .ok (.aload_n 0, 1) := dk_42 (dk_at dksX8_man_0 0 rfl rfl)
theorem dX8_man_1 : decode cX8_man 1 = .ok (.getfield 21, 3) := dk_180 0 21 (dk_at dksX8_man_0 1 rfl rfl)
theorem dX8_man_4 : decode cX8_man 4 = .ok (.getfield 25, 3) := dk_180 0 25 (dk_at dksX8_man_0 4 rfl rfl)
theorem dX8_man_7 : decode cX8_man 7 = .ok (.aload_n 0, 1) := dk_42 (dk_at dksX8_man_0 7 rfl rfl)
theorem dX8_man_8 : decode cX8_man 8 = .ok (.getfield 9, 3) := dk_180 0 9 (dk_at dksX8_man_0 8 rfl rfl)
theorem dX8_man_11 : decode cX8_man 11 = .ok (.iload_n 1, 1) := dk_27 (dk_at dksX8_man_0 11 rfl rfl)
theorem dX8_man_12 : decode cX8_man 12 = .ok (.iaload, 1) := dk_46 (dk_at dksX8_man_0 12 rfl rfl)
theorem dX8_man_13 : decode cX8_man 13 = .ok (.invokevirtual 31, 3) := dk_182 0 31 (dk_at dksX8_man_0 13 rfl rfl)
theorem dX8_man_16 : decode cX8_man 16 = .ok (.checkcast 37, 3) := dk_192 0 37 (dk_at dksX8_man_0 16 rfl rfl)
theorem dX8_man_19 : decode cX8_man 19 = .ok (.areturn, 1) := dk_176 (dk_at dksX8_man_0 19 rfl rfl)
abbrev cX8_isBetter : ByteArray := prog_10_method_6_code
def yX8_isBetter : MethodName := ⟨RX8, "isBetter", "(I)Z"⟩
def dkwX8_isBetter_1 : List UInt8 := [180, 0, 15, 27, 46, 42, 180, 0, 15, 42, 180, 0, 72, 46, 162, 0, 7, 4, 167, 0, 4, 3, 172]
abbrev dktX8_isBetter_1 : List UInt8 := dkwX8_isBetter_1 ++ []
def dkwX8_isBetter_0 : List UInt8 := [27, 184, 0, 85, 42, 180, 0, 72, 184, 0, 85, 100, 61, 28, 157, 0, 25, 28, 154, 0, 25, 42]
abbrev dktX8_isBetter_0 : List UInt8 := dkwX8_isBetter_0 ++ dktX8_isBetter_1
theorem dksX8_isBetter_0 : cX8_isBetter.data.toList.drop 0 = dktX8_isBetter_0 := by decide +kernel
theorem dksX8_isBetter_1 : cX8_isBetter.data.toList.drop 22 = dktX8_isBetter_1 := dk_seg dksX8_isBetter_0 22 rfl rfl
theorem dX8_isBetter_0 : decode cX8_isBetter 0 = .ok (.iload_n 1, 1) := dk_27 (dk_at dksX8_isBetter_0 0 rfl rfl)
theorem dX8_isBetter_1 : decode cX8_isBetter 1 = .ok (.invokestatic 85, 3) := dk_184 0 85 (dk_at dksX8_isBetter_0 1 rfl rfl)
theorem dX8_isBetter_4 : decode cX8_isBetter 4 = .ok (.aload_n 0, 1) := dk_42 (dk_at dksX8_isBetter_0 4 rfl rfl)
theorem dX8_isBetter_5 : decode cX8_isBetter 5 = .ok (.getfield 72, 3) := dk_180 0 72 (dk_at dksX8_isBetter_0 5 rfl rfl)
theorem dX8_isBetter_8 : decode cX8_isBetter 8 = .ok (.invokestatic 85, 3) := dk_184 0 85 (dk_at dksX8_isBetter_0 8 rfl rfl)
theorem dX8_isBetter_11 : decode cX8_isBetter 11 = .ok (.isub, 1) := dk_100 (dk_at dksX8_isBetter_0 11 rfl rfl)
theorem dX8_isBetter_12 : decode cX8_isBetter 12 = .ok (.istore_n 2, 1) := dk_61 (dk_at dksX8_isBetter_0 12 rfl rfl)
theorem dX8_isBetter_13 : decode cX8_isBetter 13 = .ok (.iload_n 2, 1) := dk_28 (dk_at dksX8_isBetter_0 13 rfl rfl)
theorem dX8_isBetter_14 : decode cX8_isBetter 14 = .ok (.ifCond .gt 25, 3) := dk_157 0 25 (dk_at dksX8_isBetter_0 14 rfl rfl)
theorem dX8_isBetter_17 : decode cX8_isBetter 17 = .ok (.iload_n 2, 1) := dk_28 (dk_at dksX8_isBetter_0 17 rfl rfl)
theorem dX8_isBetter_18 : decode cX8_isBetter 18 = .ok (.ifCond .ne 25, 3) := dk_154 0 25 (dk_at dksX8_isBetter_0 18 rfl rfl)
theorem dX8_isBetter_21 : decode cX8_isBetter 21 = .ok (.aload_n 0, 1) := dk_42 (dk_at dksX8_isBetter_0 21 rfl rfl)
theorem dX8_isBetter_22 : decode cX8_isBetter 22 = .ok (.getfield 15, 3) := dk_180 0 15 (dk_at dksX8_isBetter_1 0 rfl rfl)
theorem dX8_isBetter_25 : decode cX8_isBetter 25 = .ok (.iload_n 1, 1) := dk_27 (dk_at dksX8_isBetter_1 3 rfl rfl)
theorem dX8_isBetter_26 : decode cX8_isBetter 26 = .ok (.iaload, 1) := dk_46 (dk_at dksX8_isBetter_1 4 rfl rfl)
theorem dX8_isBetter_27 : decode cX8_isBetter 27 = .ok (.aload_n 0, 1) := dk_42 (dk_at dksX8_isBetter_1 5 rfl rfl)
theorem dX8_isBetter_28 : decode cX8_isBetter 28 = .ok (.getfield 15, 3) := dk_180 0 15 (dk_at dksX8_isBetter_1 6 rfl rfl)
theorem dX8_isBetter_31 : decode cX8_isBetter 31 = .ok (.aload_n 0, 1) := dk_42 (dk_at dksX8_isBetter_1 9 rfl rfl)
theorem dX8_isBetter_32 : decode cX8_isBetter 32 = .ok (.getfield 72, 3) := dk_180 0 72 (dk_at dksX8_isBetter_1 10 rfl rfl)
theorem dX8_isBetter_35 : decode cX8_isBetter 35 = .ok (.iaload, 1) := dk_46 (dk_at dksX8_isBetter_1 13 rfl rfl)
theorem dX8_isBetter_36 : decode cX8_isBetter 36 = .ok (.if_icmp .ge 7, 3) := dk_162 0 7 (dk_at dksX8_isBetter_1 14 rfl rfl)
theorem dX8_isBetter_39 : decode cX8_isBetter 39 = .ok (.iconst 1, 1) := dk_4 (dk_at dksX8_isBetter_1 17 rfl rfl)
theorem dX8_isBetter_40 : decode cX8_isBetter 40 = .ok (.goto 4, 3) := dk_167 0 4 (dk_at dksX8_isBetter_1 18 rfl rfl)
theorem dX8_isBetter_43 : decode cX8_isBetter 43 = .ok (.iconst 0, 1) := dk_3 (dk_at dksX8_isBetter_1 21 rfl rfl)
theorem dX8_isBetter_44 : decode cX8_isBetter 44 = .ok (.ireturn, 1) := dk_172 (dk_at dksX8_isBetter_1 22 rfl rfl)
abbrev cX8_named : ByteArray := prog_10_method_7_code
def yX8_named : MethodName := ⟨RX8, "named", "(I)I"⟩
def dkwX8_named_1 : List UInt8 := [180, 0, 9, 29, 46, 120, 167, 0, 4, 3, 128, 61, 132, 3, 1, 167, 255, 222, 28, 172]
abbrev dktX8_named_1 : List UInt8 := dkwX8_named_1 ++ []
def dkwX8_named_0 : List UInt8 := [3, 61, 3, 62, 29, 42, 180, 0, 39, 162, 0, 32, 28, 27, 29, 184, 0, 43, 153, 0, 14, 4, 42]
abbrev dktX8_named_0 : List UInt8 := dkwX8_named_0 ++ dktX8_named_1
theorem dksX8_named_0 : cX8_named.data.toList.drop 0 = dktX8_named_0 := by decide +kernel
theorem dksX8_named_1 : cX8_named.data.toList.drop 23 = dktX8_named_1 := dk_seg dksX8_named_0 23 rfl rfl
theorem dX8_named_0 : decode cX8_named 0 = .ok (.iconst 0, 1) := dk_3 (dk_at dksX8_named_0 0 rfl rfl)
theorem dX8_named_1 : decode cX8_named 1 = .ok (.istore_n 2, 1) := dk_61 (dk_at dksX8_named_0 1 rfl rfl)
theorem dX8_named_2 : decode cX8_named 2 = .ok (.iconst 0, 1) := dk_3 (dk_at dksX8_named_0 2 rfl rfl)
theorem dX8_named_3 : decode cX8_named 3 = .ok (.istore_n 3, 1) := dk_62 (dk_at dksX8_named_0 3 rfl rfl)
theorem dX8_named_4 : decode cX8_named 4 = .ok (.iload_n 3, 1) := dk_29 (dk_at dksX8_named_0 4 rfl rfl)
theorem dX8_named_5 : decode cX8_named 5 = .ok (.aload_n 0, 1) := dk_42 (dk_at dksX8_named_0 5 rfl rfl)
theorem dX8_named_6 : decode cX8_named 6 = .ok (.getfield 39, 3) := dk_180 0 39 (dk_at dksX8_named_0 6 rfl rfl)
theorem dX8_named_9 : decode cX8_named 9 = .ok (.if_icmp .ge 32, 3) := dk_162 0 32 (dk_at dksX8_named_0 9 rfl rfl)
theorem dX8_named_12 : decode cX8_named 12 = .ok (.iload_n 2, 1) := dk_28 (dk_at dksX8_named_0 12 rfl rfl)
theorem dX8_named_13 : decode cX8_named 13 = .ok (.iload_n 1, 1) := dk_27 (dk_at dksX8_named_0 13 rfl rfl)
theorem dX8_named_14 : decode cX8_named 14 = .ok (.iload_n 3, 1) := dk_29 (dk_at dksX8_named_0 14 rfl rfl)
theorem dX8_named_15 : decode cX8_named 15 = .ok (.invokestatic 43, 3) := dk_184 0 43 (dk_at dksX8_named_0 15 rfl rfl)
theorem dX8_named_18 : decode cX8_named 18 = .ok (.ifCond .eq 14, 3) := dk_153 0 14 (dk_at dksX8_named_0 18 rfl rfl)
theorem dX8_named_21 : decode cX8_named 21 = .ok (.iconst 1, 1) := dk_4 (dk_at dksX8_named_0 21 rfl rfl)
theorem dX8_named_22 : decode cX8_named 22 = .ok (.aload_n 0, 1) := dk_42 (dk_at dksX8_named_0 22 rfl rfl)
theorem dX8_named_23 : decode cX8_named 23 = .ok (.getfield 9, 3) := dk_180 0 9 (dk_at dksX8_named_1 0 rfl rfl)
theorem dX8_named_26 : decode cX8_named 26 = .ok (.iload_n 3, 1) := dk_29 (dk_at dksX8_named_1 3 rfl rfl)
theorem dX8_named_27 : decode cX8_named 27 = .ok (.iaload, 1) := dk_46 (dk_at dksX8_named_1 4 rfl rfl)
theorem dX8_named_28 : decode cX8_named 28 = .ok (.ishl, 1) := dk_120 (dk_at dksX8_named_1 5 rfl rfl)
theorem dX8_named_29 : decode cX8_named 29 = .ok (.goto 4, 3) := dk_167 0 4 (dk_at dksX8_named_1 6 rfl rfl)
theorem dX8_named_32 : decode cX8_named 32 = .ok (.iconst 0, 1) := dk_3 (dk_at dksX8_named_1 9 rfl rfl)
theorem dX8_named_33 : decode cX8_named 33 = .ok (.ior, 1) := dk_128 (dk_at dksX8_named_1 10 rfl rfl)
theorem dX8_named_34 : decode cX8_named 34 = .ok (.istore_n 2, 1) := dk_61 (dk_at dksX8_named_1 11 rfl rfl)
theorem dX8_named_35 : decode cX8_named 35 = .ok (.iinc 3 1, 3) := dk_132 3 1 (dk_at dksX8_named_1 12 rfl rfl)
theorem dX8_named_38 : decode cX8_named 38 = .ok (.goto (-34), 3) := dk_167 255 222 (dk_at dksX8_named_1 15 rfl rfl)
theorem dX8_named_41 : decode cX8_named 41 = .ok (.iload_n 2, 1) := dk_28 (dk_at dksX8_named_1 18 rfl rfl)
theorem dX8_named_42 : decode cX8_named 42 = .ok (.ireturn, 1) := dk_172 (dk_at dksX8_named_1 19 rfl rfl)
abbrev cX8_turn : ByteArray := prog_10_method_9_code
def yX8_turn : MethodName := ⟨RX8, "turn", "(I)I"⟩
def dkwX8_turn_1 : List UInt8 := [180, 0, 18, 28, 46, 2, 130, 126, 61, 132, 3, 255, 167, 255, 237, 42, 180, 0, 18, 28, 46, 172]
abbrev dktX8_turn_1 : List UInt8 := dkwX8_turn_1 ++ []
def dkwX8_turn_0 : List UInt8 := [42, 180, 0, 72, 61, 42, 180, 0, 15, 42, 180, 0, 72, 46, 4, 100, 62, 29, 27, 164, 0, 20, 28, 42]
abbrev dktX8_turn_0 : List UInt8 := dkwX8_turn_0 ++ dktX8_turn_1
theorem dksX8_turn_0 : cX8_turn.data.toList.drop 0 = dktX8_turn_0 := by decide +kernel
theorem dksX8_turn_1 : cX8_turn.data.toList.drop 24 = dktX8_turn_1 := dk_seg dksX8_turn_0 24 rfl rfl
theorem dX8_turn_0 : decode cX8_turn 0 = .ok (.aload_n 0, 1) := dk_42 (dk_at dksX8_turn_0 0 rfl rfl)
theorem dX8_turn_1 : decode cX8_turn 1 = .ok (.getfield 72, 3) := dk_180 0 72 (dk_at dksX8_turn_0 1 rfl rfl)
theorem dX8_turn_4 : decode cX8_turn 4 = .ok (.istore_n 2, 1) := dk_61 (dk_at dksX8_turn_0 4 rfl rfl)
theorem dX8_turn_5 : decode cX8_turn 5 = .ok (.aload_n 0, 1) := dk_42 (dk_at dksX8_turn_0 5 rfl rfl)
theorem dX8_turn_6 : decode cX8_turn 6 = .ok (.getfield 15, 3) := dk_180 0 15 (dk_at dksX8_turn_0 6 rfl rfl)
theorem dX8_turn_9 : decode cX8_turn 9 = .ok (.aload_n 0, 1) := dk_42 (dk_at dksX8_turn_0 9 rfl rfl)
theorem dX8_turn_10 : decode cX8_turn 10 = .ok (.getfield 72, 3) := dk_180 0 72 (dk_at dksX8_turn_0 10 rfl rfl)
theorem dX8_turn_13 : decode cX8_turn 13 = .ok (.iaload, 1) := dk_46 (dk_at dksX8_turn_0 13 rfl rfl)
theorem dX8_turn_14 : decode cX8_turn 14 = .ok (.iconst 1, 1) := dk_4 (dk_at dksX8_turn_0 14 rfl rfl)
theorem dX8_turn_15 : decode cX8_turn 15 = .ok (.isub, 1) := dk_100 (dk_at dksX8_turn_0 15 rfl rfl)
theorem dX8_turn_16 : decode cX8_turn 16 = .ok (.istore_n 3, 1) := dk_62 (dk_at dksX8_turn_0 16 rfl rfl)
theorem dX8_turn_17 : decode cX8_turn 17 = .ok (.iload_n 3, 1) := dk_29 (dk_at dksX8_turn_0 17 rfl rfl)
theorem dX8_turn_18 : decode cX8_turn 18 = .ok (.iload_n 1, 1) := dk_27 (dk_at dksX8_turn_0 18 rfl rfl)
theorem dX8_turn_19 : decode cX8_turn 19 = .ok (.if_icmp .le 20, 3) := dk_164 0 20 (dk_at dksX8_turn_0 19 rfl rfl)
theorem dX8_turn_22 : decode cX8_turn 22 = .ok (.iload_n 2, 1) := dk_28 (dk_at dksX8_turn_0 22 rfl rfl)
theorem dX8_turn_23 : decode cX8_turn 23 = .ok (.aload_n 0, 1) := dk_42 (dk_at dksX8_turn_0 23 rfl rfl)
theorem dX8_turn_24 : decode cX8_turn 24 = .ok (.getfield 18, 3) := dk_180 0 18 (dk_at dksX8_turn_1 0 rfl rfl)
theorem dX8_turn_27 : decode cX8_turn 27 = .ok (.iload_n 2, 1) := dk_28 (dk_at dksX8_turn_1 3 rfl rfl)
theorem dX8_turn_28 : decode cX8_turn 28 = .ok (.iaload, 1) := dk_46 (dk_at dksX8_turn_1 4 rfl rfl)
theorem dX8_turn_29 : decode cX8_turn 29 = .ok (.iconst (-1), 1) := dk_2 (dk_at dksX8_turn_1 5 rfl rfl)
theorem dX8_turn_30 : decode cX8_turn 30 = .ok (.ixor, 1) := dk_130 (dk_at dksX8_turn_1 6 rfl rfl)
theorem dX8_turn_31 : decode cX8_turn 31 = .ok (.iand, 1) := dk_126 (dk_at dksX8_turn_1 7 rfl rfl)
theorem dX8_turn_32 : decode cX8_turn 32 = .ok (.istore_n 2, 1) := dk_61 (dk_at dksX8_turn_1 8 rfl rfl)
theorem dX8_turn_33 : decode cX8_turn 33 = .ok (.iinc 3 (-1), 3) := dk_132 3 255 (dk_at dksX8_turn_1 9 rfl rfl)
theorem dX8_turn_36 : decode cX8_turn 36 = .ok (.goto (-19), 3) := dk_167 255 237 (dk_at dksX8_turn_1 12 rfl rfl)
theorem dX8_turn_39 : decode cX8_turn 39 = .ok (.aload_n 0, 1) := dk_42 (dk_at dksX8_turn_1 15 rfl rfl)
theorem dX8_turn_40 : decode cX8_turn 40 = .ok (.getfield 18, 3) := dk_180 0 18 (dk_at dksX8_turn_1 16 rfl rfl)
theorem dX8_turn_43 : decode cX8_turn 43 = .ok (.iload_n 2, 1) := dk_28 (dk_at dksX8_turn_1 19 rfl rfl)
theorem dX8_turn_44 : decode cX8_turn 44 = .ok (.iaload, 1) := dk_46 (dk_at dksX8_turn_1 20 rfl rfl)
theorem dX8_turn_45 : decode cX8_turn 45 = .ok (.ireturn, 1) := dk_172 (dk_at dksX8_turn_1 21 rfl rfl)
abbrev cX8_placed : ByteArray := prog_10_method_8_code
def yX8_placed : MethodName := ⟨RX8, "placed", "(I)I"⟩
def dkwX8_placed_2 : List UInt8 := [160, 0, 7, 28, 167, 0, 4, 2, 172]
abbrev dktX8_placed_2 : List UInt8 := dkwX8_placed_2 ++ []
def dkwX8_placed_1 : List UInt8 := [153, 0, 9, 4, 29, 120, 167, 0, 4, 3, 128, 61, 132, 3, 1, 167, 255, 222, 42, 28, 182, 0, 91, 27]
abbrev dktX8_placed_1 : List UInt8 := dkwX8_placed_1 ++ dktX8_placed_2
def dkwX8_placed_0 : List UInt8 := [3, 61, 3, 62, 29, 42, 180, 0, 39, 162, 0, 32, 28, 27, 42, 180, 0, 9, 29, 46, 184, 0, 43]
abbrev dktX8_placed_0 : List UInt8 := dkwX8_placed_0 ++ dktX8_placed_1
theorem dksX8_placed_0 : cX8_placed.data.toList.drop 0 = dktX8_placed_0 := by decide +kernel
theorem dksX8_placed_1 : cX8_placed.data.toList.drop 23 = dktX8_placed_1 := dk_seg dksX8_placed_0 23 rfl rfl
theorem dksX8_placed_2 : cX8_placed.data.toList.drop 47 = dktX8_placed_2 := dk_seg dksX8_placed_1 24 rfl rfl
theorem dX8_placed_0 : decode cX8_placed 0 = .ok (.iconst 0, 1) := dk_3 (dk_at dksX8_placed_0 0 rfl rfl)
theorem dX8_placed_1 : decode cX8_placed 1 = .ok (.istore_n 2, 1) := dk_61 (dk_at dksX8_placed_0 1 rfl rfl)
theorem dX8_placed_2 : decode cX8_placed 2 = .ok (.iconst 0, 1) := dk_3 (dk_at dksX8_placed_0 2 rfl rfl)
theorem dX8_placed_3 : decode cX8_placed 3 = .ok (.istore_n 3, 1) := dk_62 (dk_at dksX8_placed_0 3 rfl rfl)
theorem dX8_placed_4 : decode cX8_placed 4 = .ok (.iload_n 3, 1) := dk_29 (dk_at dksX8_placed_0 4 rfl rfl)
theorem dX8_placed_5 : decode cX8_placed 5 = .ok (.aload_n 0, 1) := dk_42 (dk_at dksX8_placed_0 5 rfl rfl)
theorem dX8_placed_6 : decode cX8_placed 6 = .ok (.getfield 39, 3) := dk_180 0 39 (dk_at dksX8_placed_0 6 rfl rfl)
theorem dX8_placed_9 : decode cX8_placed 9 = .ok (.if_icmp .ge 32, 3) := dk_162 0 32 (dk_at dksX8_placed_0 9 rfl rfl)
theorem dX8_placed_12 : decode cX8_placed 12 = .ok (.iload_n 2, 1) := dk_28 (dk_at dksX8_placed_0 12 rfl rfl)
theorem dX8_placed_13 : decode cX8_placed 13 = .ok (.iload_n 1, 1) := dk_27 (dk_at dksX8_placed_0 13 rfl rfl)
theorem dX8_placed_14 : decode cX8_placed 14 = .ok (.aload_n 0, 1) := dk_42 (dk_at dksX8_placed_0 14 rfl rfl)
theorem dX8_placed_15 : decode cX8_placed 15 = .ok (.getfield 9, 3) := dk_180 0 9 (dk_at dksX8_placed_0 15 rfl rfl)
theorem dX8_placed_18 : decode cX8_placed 18 = .ok (.iload_n 3, 1) := dk_29 (dk_at dksX8_placed_0 18 rfl rfl)
theorem dX8_placed_19 : decode cX8_placed 19 = .ok (.iaload, 1) := dk_46 (dk_at dksX8_placed_0 19 rfl rfl)
theorem dX8_placed_20 : decode cX8_placed 20 = .ok (.invokestatic 43, 3) := dk_184 0 43 (dk_at dksX8_placed_0 20 rfl rfl)
theorem dX8_placed_23 : decode cX8_placed 23 = .ok (.ifCond .eq 9, 3) := dk_153 0 9 (dk_at dksX8_placed_1 0 rfl rfl)
theorem dX8_placed_26 : decode cX8_placed 26 = .ok (.iconst 1, 1) := dk_4 (dk_at dksX8_placed_1 3 rfl rfl)
theorem dX8_placed_27 : decode cX8_placed 27 = .ok (.iload_n 3, 1) := dk_29 (dk_at dksX8_placed_1 4 rfl rfl)
theorem dX8_placed_28 : decode cX8_placed 28 = .ok (.ishl, 1) := dk_120 (dk_at dksX8_placed_1 5 rfl rfl)
theorem dX8_placed_29 : decode cX8_placed 29 = .ok (.goto 4, 3) := dk_167 0 4 (dk_at dksX8_placed_1 6 rfl rfl)
theorem dX8_placed_32 : decode cX8_placed 32 = .ok (.iconst 0, 1) := dk_3 (dk_at dksX8_placed_1 9 rfl rfl)
theorem dX8_placed_33 : decode cX8_placed 33 = .ok (.ior, 1) := dk_128 (dk_at dksX8_placed_1 10 rfl rfl)
theorem dX8_placed_34 : decode cX8_placed 34 = .ok (.istore_n 2, 1) := dk_61 (dk_at dksX8_placed_1 11 rfl rfl)
theorem dX8_placed_35 : decode cX8_placed 35 = .ok (.iinc 3 1, 3) := dk_132 3 1 (dk_at dksX8_placed_1 12 rfl rfl)
theorem dX8_placed_38 : decode cX8_placed 38 = .ok (.goto (-34), 3) := dk_167 255 222 (dk_at dksX8_placed_1 15 rfl rfl)
theorem dX8_placed_41 : decode cX8_placed 41 = .ok (.aload_n 0, 1) := dk_42 (dk_at dksX8_placed_1 18 rfl rfl)
theorem dX8_placed_42 : decode cX8_placed 42 = .ok (.iload_n 2, 1) := dk_28 (dk_at dksX8_placed_1 19 rfl rfl)
theorem dX8_placed_43 : decode cX8_placed 43 = .ok (.invokevirtual 91, 3) := dk_182 0 91 (dk_at dksX8_placed_1 20 rfl rfl)
theorem dX8_placed_46 : decode cX8_placed 46 = .ok (.iload_n 1, 1) := dk_27 (dk_at dksX8_placed_1 23 rfl rfl)
theorem dX8_placed_47 : decode cX8_placed 47 = .ok (.if_icmp .ne 7, 3) := dk_160 0 7 (dk_at dksX8_placed_2 0 rfl rfl)
theorem dX8_placed_50 : decode cX8_placed 50 = .ok (.iload_n 2, 1) := dk_28 (dk_at dksX8_placed_2 3 rfl rfl)
theorem dX8_placed_51 : decode cX8_placed 51 = .ok (.goto 4, 3) := dk_167 0 4 (dk_at dksX8_placed_2 4 rfl rfl)
theorem dX8_placed_54 : decode cX8_placed 54 = .ok (.iconst (-1), 1) := dk_2 (dk_at dksX8_placed_2 7 rfl rfl)
theorem dX8_placed_55 : decode cX8_placed 55 = .ok (.ireturn, 1) := dk_172 (dk_at dksX8_placed_2 8 rfl rfl)
theorem q93 : (Jvm.Cond.initialized "LastHatch$Hatch") ∈ lw_all := lw_g (lw_at lw_m1 15 rfl) rfl
theorem q244 : (Jvm.Cond.fieldLinkNest "LastHatch$Hatch" (59 : Nat) "LastHatch$Hull" "now" "I" "LastHatch") ∈ lw_tbl := lw_at lw_m1 166 rfl
theorem q266 : (Jvm.Cond.fieldLinkNest "LastHatch$Hatch" (25 : Nat) "LastHatch$Hull" "men" "Ljava/util/ArrayList;" "LastHatch") ∈ lw_tbl := lw_at lw_m1 188 rfl
theorem q433 : (Jvm.Cond.instantiable "LastHatch$Hatch" (7 : Nat)) ∈ lw_all := lw_g (lw_at lw_m2 115 rfl) rfl
theorem q435 : (Jvm.Cond.instanceMethod ({ cls := "LastHatch$Hatch", name := "<init>", desc := "()V" } : Jvm.MethodName)) ∈ lw_all := lw_g (lw_at lw_m2 117 rfl) rfl
theorem q436 : (Jvm.Cond.code ({ cls := "LastHatch$Hatch", name := "<init>", desc := "()V" } : Jvm.MethodName) prog_10_method_1_code (1 : Nat) (Option.none : Option Jvm.ClassFile.FieldType)) ∈ lw_all := lw_g (lw_at lw_m2 118 rfl) rfl
theorem q437 : (Jvm.Cond.methodLink "LastHatch$Hatch" (3 : Nat) ({ cls := "java/lang/Object", name := "<init>", desc := "()V" } : Jvm.MethodName)) ∈ lw_all := lw_g (lw_at lw_m2 119 rfl) rfl
theorem q438 : (Jvm.Cond.fieldLink "LastHatch$Hatch" (9 : Nat) "LastHatch$Hatch" "who" "[I") ∈ lw_all := lw_g (lw_at lw_m2 120 rfl) rfl
theorem q439 : (Jvm.Cond.fieldLink "LastHatch$Hatch" (39 : Nat) "LastHatch$Hatch" "many" "I") ∈ lw_all := lw_g (lw_at lw_m2 121 rfl) rfl
theorem q440 : (Jvm.Cond.fieldLink "LastHatch$Hatch" (15 : Nat) "LastHatch$Hatch" "turns" "[I") ∈ lw_all := lw_g (lw_at lw_m2 122 rfl) rfl
theorem q442 : (Jvm.Cond.fieldLink "LastHatch$Hatch" (18 : Nat) "LastHatch$Hatch" "last" "[I") ∈ lw_all := lw_g (lw_at lw_m2 124 rfl) rfl
theorem q443 : (Jvm.Cond.fieldLink "LastHatch$Hatch" (72 : Nat) "LastHatch$Hatch" "best" "I") ∈ lw_all := lw_g (lw_at lw_m2 125 rfl) rfl
theorem q445 : (Jvm.Cond.fieldLink "LastHatch$Hatch" (21 : Nat) "LastHatch$Hatch" "hull" "LLastHatch$Hull;") ∈ lw_all := lw_g (lw_at lw_m2 127 rfl) rfl
theorem q446 : (Jvm.Cond.fieldLink "LastHatch$Hatch" (62 : Nat) "LastHatch$Hatch" "each" "I") ∈ lw_all := lw_g (lw_at lw_m2 128 rfl) rfl
theorem q447 : (Jvm.Cond.laysFinal "LastHatch$Hatch" "LastHatch$Hatch" "who" "[I") ∈ lw_all := lw_g (lw_at lw_m2 129 rfl) rfl
theorem q448 : (Jvm.Cond.soleField "LastHatch$Hatch" "who") ∈ lw_all := lw_g (lw_at lw_m2 130 rfl) rfl
theorem q449 : (Jvm.Cond.lays "LastHatch$Hatch" "LastHatch$Hatch" "many" "I") ∈ lw_all := lw_g (lw_at lw_m2 131 rfl) rfl
theorem q450 : (Jvm.Cond.soleField "LastHatch$Hatch" "many") ∈ lw_all := lw_g (lw_at lw_m2 132 rfl) rfl
theorem q451 : (Jvm.Cond.laysFinal "LastHatch$Hatch" "LastHatch$Hatch" "turns" "[I") ∈ lw_all := lw_g (lw_at lw_m2 133 rfl) rfl
theorem q452 : (Jvm.Cond.soleField "LastHatch$Hatch" "turns") ∈ lw_all := lw_g (lw_at lw_m2 134 rfl) rfl
theorem q453 : (Jvm.Cond.laysFinal "LastHatch$Hatch" "LastHatch$Hatch" "last" "[I") ∈ lw_all := lw_g (lw_at lw_m2 135 rfl) rfl
theorem q454 : (Jvm.Cond.soleField "LastHatch$Hatch" "last") ∈ lw_all := lw_g (lw_at lw_m2 136 rfl) rfl
theorem q455 : (Jvm.Cond.lays "LastHatch$Hatch" "LastHatch$Hatch" "best" "I") ∈ lw_all := lw_g (lw_at lw_m2 137 rfl) rfl
theorem q456 : (Jvm.Cond.soleField "LastHatch$Hatch" "best") ∈ lw_all := lw_g (lw_at lw_m2 138 rfl) rfl
theorem q457 : (Jvm.Cond.lays "LastHatch$Hatch" "LastHatch$Hatch" "hull" "LLastHatch$Hull;") ∈ lw_all := lw_g (lw_at lw_m2 139 rfl) rfl
theorem q458 : (Jvm.Cond.soleField "LastHatch$Hatch" "hull") ∈ lw_all := lw_g (lw_at lw_m2 140 rfl) rfl
theorem q459 : (Jvm.Cond.lays "LastHatch$Hatch" "LastHatch$Hatch" "each" "I") ∈ lw_all := lw_g (lw_at lw_m2 141 rfl) rfl
theorem q460 : (Jvm.Cond.soleField "LastHatch$Hatch" "each") ∈ lw_all := lw_g (lw_at lw_m2 142 rfl) rfl
theorem q461 : (Jvm.Cond.superclass "LastHatch$Hatch" "java/lang/Object") ∈ lw_all := lw_g (lw_at lw_m2 143 rfl) rfl
theorem q600 : (Jvm.Cond.selects "LastHatch$Hatch" ({ cls := "java/lang/Object", name := "getClass", desc := "()Ljava/lang/Class;" } : Jvm.MethodName) ({ cls := "java/lang/Object", name := "getClass", desc := "()Ljava/lang/Class;" } : Jvm.MethodName)) ∈ lw_all := lw_g (lw_at lw_m3 42 rfl) rfl
theorem q1316 : (Jvm.Cond.instanceMethod ({ cls := "LastHatch$Hatch", name := "find", desc := "(LLastHatch$Hull;II)V" } : Jvm.MethodName)) ∈ lw_all := lw_g (lw_at lw_m6 38 rfl) rfl
theorem q1317 : (Jvm.Cond.selects "LastHatch$Hatch" ({ cls := "LastHatch$Hatch", name := "find", desc := "(LLastHatch$Hull;II)V" } : Jvm.MethodName) ({ cls := "LastHatch$Hatch", name := "find", desc := "(LLastHatch$Hull;II)V" } : Jvm.MethodName)) ∈ lw_all := lw_g (lw_at lw_m6 39 rfl) rfl
theorem q1318 : (Jvm.Cond.code ({ cls := "LastHatch$Hatch", name := "find", desc := "(LLastHatch$Hull;II)V" } : Jvm.MethodName) prog_10_method_4_code (7 : Nat) (Option.none : Option Jvm.ClassFile.FieldType)) ∈ lw_all := lw_g (lw_at lw_m6 40 rfl) rfl
theorem q1319 : (Jvm.Cond.methodLink "LastHatch$Hatch" (65 : Nat) ({ cls := "java/util/ArrayList", name := "size", desc := "()I" } : Jvm.MethodName)) ∈ lw_all := lw_g (lw_at lw_m6 41 rfl) rfl
theorem q1320 : (Jvm.Cond.methodLink "LastHatch$Hatch" (31 : Nat) ({ cls := "java/util/ArrayList", name := "get", desc := "(I)Ljava/lang/Object;" } : Jvm.MethodName)) ∈ lw_all := lw_g (lw_at lw_m6 42 rfl) rfl
theorem q1321 : (Jvm.Cond.classLink "LastHatch$Hatch" (37 : Nat) "LastHatch$Man") ∈ lw_all := lw_g (lw_at lw_m6 43 rfl) rfl
theorem q1322 : (Jvm.Cond.methodLink "LastHatch$Hatch" (68 : Nat) ({ cls := "LastHatch$Man", name := "isIn", desc := "(I)Z" } : Jvm.MethodName)) ∈ lw_all := lw_g (lw_at lw_m6 44 rfl) rfl
theorem q1323 : (Jvm.Cond.methodLinkNest "LastHatch$Hatch" (43 : Nat) ({ cls := "LastHatch", name := "has", desc := "(II)Z" } : Jvm.MethodName) "LastHatch") ∈ lw_tbl := lw_at lw_m6 45 rfl
theorem q1324 : (Jvm.Cond.methodLink "LastHatch$Hatch" (75 : Nat) ({ cls := "LastHatch$Hatch", name := "tries", desc := "(II)V" } : Jvm.MethodName)) ∈ lw_all := lw_g (lw_at lw_m6 46 rfl) rfl
theorem q1325 : (Jvm.Cond.privateMethod ({ cls := "LastHatch$Hatch", name := "tries", desc := "(II)V" } : Jvm.MethodName)) ∈ lw_tbl := lw_at lw_m6 47 rfl
theorem q1326 : (Jvm.Cond.instanceMethod ({ cls := "LastHatch$Hatch", name := "tries", desc := "(II)V" } : Jvm.MethodName)) ∈ lw_all := lw_g (lw_at lw_m6 48 rfl) rfl
theorem q1327 : (Jvm.Cond.code ({ cls := "LastHatch$Hatch", name := "tries", desc := "(II)V" } : Jvm.MethodName) prog_10_method_5_code (5 : Nat) (Option.none : Option Jvm.ClassFile.FieldType)) ∈ lw_all := lw_g (lw_at lw_m6 49 rfl) rfl
theorem q1328 : (Jvm.Cond.methodLink "LastHatch$Hatch" (82 : Nat) ({ cls := "LastHatch$Hatch", name := "mayGo", desc := "(II)Z" } : Jvm.MethodName)) ∈ lw_all := lw_g (lw_at lw_m6 50 rfl) rfl
theorem q1329 : (Jvm.Cond.privateMethod ({ cls := "LastHatch$Hatch", name := "mayGo", desc := "(II)Z" } : Jvm.MethodName)) ∈ lw_tbl := lw_at lw_m6 51 rfl
theorem q1330 : (Jvm.Cond.instanceMethod ({ cls := "LastHatch$Hatch", name := "mayGo", desc := "(II)Z" } : Jvm.MethodName)) ∈ lw_all := lw_g (lw_at lw_m6 52 rfl) rfl
theorem q1331 : (Jvm.Cond.code ({ cls := "LastHatch$Hatch", name := "mayGo", desc := "(II)Z" } : Jvm.MethodName) prog_10_method_3_code (6 : Nat) (Option.some Jvm.ClassFile.FieldType.boolean)) ∈ lw_all := lw_g (lw_at lw_m6 53 rfl) rfl
theorem q1332 : (Jvm.Cond.methodLink "LastHatch$Hatch" (47 : Nat) ({ cls := "LastHatch$Hatch", name := "man", desc := "(I)LLastHatch$Man;" } : Jvm.MethodName)) ∈ lw_all := lw_g (lw_at lw_m6 54 rfl) rfl
theorem q1333 : (Jvm.Cond.privateMethod ({ cls := "LastHatch$Hatch", name := "man", desc := "(I)LLastHatch$Man;" } : Jvm.MethodName)) ∈ lw_tbl := lw_at lw_m6 55 rfl
theorem q1334 : (Jvm.Cond.instanceMethod ({ cls := "LastHatch$Hatch", name := "man", desc := "(I)LLastHatch$Man;" } : Jvm.MethodName)) ∈ lw_all := lw_g (lw_at lw_m6 56 rfl) rfl
theorem q1335 : (Jvm.Cond.code ({ cls := "LastHatch$Hatch", name := "man", desc := "(I)LLastHatch$Man;" } : Jvm.MethodName) prog_10_method_2_code (2 : Nat) (Option.some (Jvm.ClassFile.FieldType.object "LastHatch$Man"))) ∈ lw_all := lw_g (lw_at lw_m6 57 rfl) rfl
theorem q1336 : (Jvm.Cond.methodLink "LastHatch$Hatch" (51 : Nat) ({ cls := "LastHatch$Man", name := "knows", desc := "()Z" } : Jvm.MethodName)) ∈ lw_all := lw_g (lw_at lw_m6 58 rfl) rfl
theorem q1340 : (Jvm.Cond.methodLink "LastHatch$Hatch" (55 : Nat) ({ cls := "LastHatch$Man", name := "strength", desc := "()I" } : Jvm.MethodName)) ∈ lw_all := lw_g (lw_at lw_m6 62 rfl) rfl
theorem q1344 : (Jvm.Cond.methodLink "LastHatch$Hatch" (79 : Nat) ({ cls := "LastHatch$Hatch", name := "isBetter", desc := "(I)Z" } : Jvm.MethodName)) ∈ lw_all := lw_g (lw_at lw_m6 66 rfl) rfl
theorem q1345 : (Jvm.Cond.privateMethod ({ cls := "LastHatch$Hatch", name := "isBetter", desc := "(I)Z" } : Jvm.MethodName)) ∈ lw_tbl := lw_at lw_m6 67 rfl
theorem q1346 : (Jvm.Cond.instanceMethod ({ cls := "LastHatch$Hatch", name := "isBetter", desc := "(I)Z" } : Jvm.MethodName)) ∈ lw_all := lw_g (lw_at lw_m6 68 rfl) rfl
theorem q1347 : (Jvm.Cond.code ({ cls := "LastHatch$Hatch", name := "isBetter", desc := "(I)Z" } : Jvm.MethodName) prog_10_method_6_code (3 : Nat) (Option.some Jvm.ClassFile.FieldType.boolean)) ∈ lw_all := lw_g (lw_at lw_m6 69 rfl) rfl
theorem q1348 : (Jvm.Cond.methodLink "LastHatch$Hatch" (85 : Nat) ({ cls := "java/lang/Integer", name := "bitCount", desc := "(I)I" } : Jvm.MethodName)) ∈ lw_all := lw_g (lw_at lw_m6 70 rfl) rfl
theorem q1350 : (Jvm.Cond.instanceMethod ({ cls := "LastHatch$Hatch", name := "named", desc := "(I)I" } : Jvm.MethodName)) ∈ lw_all := lw_g (lw_at lw_m6 72 rfl) rfl
theorem q1351 : (Jvm.Cond.selects "LastHatch$Hatch" ({ cls := "LastHatch$Hatch", name := "named", desc := "(I)I" } : Jvm.MethodName) ({ cls := "LastHatch$Hatch", name := "named", desc := "(I)I" } : Jvm.MethodName)) ∈ lw_all := lw_g (lw_at lw_m6 73 rfl) rfl
theorem q1352 : (Jvm.Cond.code ({ cls := "LastHatch$Hatch", name := "named", desc := "(I)I" } : Jvm.MethodName) prog_10_method_7_code (4 : Nat) (Option.some Jvm.ClassFile.FieldType.int)) ∈ lw_all := lw_g (lw_at lw_m6 74 rfl) rfl
theorem q1358 : (Jvm.Cond.instanceMethod ({ cls := "LastHatch$Hatch", name := "turn", desc := "(I)I" } : Jvm.MethodName)) ∈ lw_all := lw_g (lw_at lw_m6 80 rfl) rfl
theorem q1359 : (Jvm.Cond.selects "LastHatch$Hatch" ({ cls := "LastHatch$Hatch", name := "turn", desc := "(I)I" } : Jvm.MethodName) ({ cls := "LastHatch$Hatch", name := "turn", desc := "(I)I" } : Jvm.MethodName)) ∈ lw_all := lw_g (lw_at lw_m6 81 rfl) rfl
theorem q1360 : (Jvm.Cond.code ({ cls := "LastHatch$Hatch", name := "turn", desc := "(I)I" } : Jvm.MethodName) prog_10_method_9_code (4 : Nat) (Option.some Jvm.ClassFile.FieldType.int)) ∈ lw_all := lw_g (lw_at lw_m6 82 rfl) rfl
theorem q1370 : (Jvm.Cond.instanceMethod ({ cls := "LastHatch$Hatch", name := "placed", desc := "(I)I" } : Jvm.MethodName)) ∈ lw_all := lw_g (lw_at lw_m6 92 rfl) rfl
theorem q1371 : (Jvm.Cond.selects "LastHatch$Hatch" ({ cls := "LastHatch$Hatch", name := "placed", desc := "(I)I" } : Jvm.MethodName) ({ cls := "LastHatch$Hatch", name := "placed", desc := "(I)I" } : Jvm.MethodName)) ∈ lw_all := lw_g (lw_at lw_m6 93 rfl) rfl
theorem q1372 : (Jvm.Cond.code ({ cls := "LastHatch$Hatch", name := "placed", desc := "(I)I" } : Jvm.MethodName) prog_10_method_8_code (4 : Nat) (Option.some Jvm.ClassFile.FieldType.int)) ∈ lw_all := lw_g (lw_at lw_m6 94 rfl) rfl
theorem q1373 : (Jvm.Cond.methodLink "LastHatch$Hatch" (91 : Nat) ({ cls := "LastHatch$Hatch", name := "named", desc := "(I)I" } : Jvm.MethodName)) ∈ lw_all := lw_g (lw_at lw_m6 95 rfl) rfl
theorem q2542 : (Jvm.Cond.castable "LastHatch$Hatch" "java/lang/Object") ∈ lw_tbl := lw_at lw_m11 64 rfl
theorem in_X8 : ∀ w ∈ wsX80, w ∈ lw_all := lw_in wsX80 [447, 449, 451, 453, 455, 457, 459] (by decide +kernel) (by decide +kernel)

/-! LastHatch$Shelf -/
set_option maxRecDepth 100000
def RX9 : String := "LastHatch$Shelf"
def TX9 : u_T := fun k => match k with
  | _ => ("LastHatch$Shelf", "held", "Ljava/lang/Object;", false)
def tyX9 : Nat → FieldType := fun k => match k with
  | _ => .object "java/lang/Object"
abbrev wsX90 : List Cond := u_ws RX9 TX9 1
theorem nmX9 : ∀ a, a < 1 → ∀ b, b < 1 → a ≠ b → (TX9 a).2.1 ≠ (TX9 b).2.1 := by decide +kernel
theorem tyX9_ok : ∀ k, k < 1 → parseFieldDescriptor (TX9 k).2.2.1 = some (tyX9 k) := by decide +kernel
abbrev cX9_init : ByteArray := prog_24_method_1_code
def yX9_init : MethodName := ⟨RX9, "<init>", "()V"⟩
theorem dX9_init_0 : decode cX9_init 0 = .ok (.aload_n 0, 1) := by decide +kernel
theorem dX9_init_1 : decode cX9_init 1 = .ok (.invokespecial 1, 3) := by decide +kernel
theorem dX9_init_4 : decode cX9_init 4 = .ok (.return_, 1) := by decide +kernel
theorem q94 : (Jvm.Cond.initialized "LastHatch$Shelf") ∈ lw_all := lw_g (lw_at lw_m1 16 rfl) rfl
theorem q464 : (Jvm.Cond.instantiable "LastHatch$Shelf" (1 : Nat)) ∈ lw_all := lw_g (lw_at lw_m2 146 rfl) rfl
theorem q466 : (Jvm.Cond.instanceMethod ({ cls := "LastHatch$Shelf", name := "<init>", desc := "()V" } : Jvm.MethodName)) ∈ lw_all := lw_g (lw_at lw_m2 148 rfl) rfl
theorem q467 : (Jvm.Cond.code ({ cls := "LastHatch$Shelf", name := "<init>", desc := "()V" } : Jvm.MethodName) prog_24_method_1_code (1 : Nat) (Option.none : Option Jvm.ClassFile.FieldType)) ∈ lw_all := lw_g (lw_at lw_m2 149 rfl) rfl
theorem q468 : (Jvm.Cond.methodLink "LastHatch$Shelf" (1 : Nat) ({ cls := "java/lang/Object", name := "<init>", desc := "()V" } : Jvm.MethodName)) ∈ lw_all := lw_g (lw_at lw_m2 150 rfl) rfl
theorem q470 : (Jvm.Cond.lays "LastHatch$Shelf" "LastHatch$Shelf" "held" "Ljava/lang/Object;") ∈ lw_all := lw_g (lw_at lw_m2 152 rfl) rfl
theorem q471 : (Jvm.Cond.soleField "LastHatch$Shelf" "held") ∈ lw_all := lw_g (lw_at lw_m2 153 rfl) rfl
theorem q472 : (Jvm.Cond.superclass "LastHatch$Shelf" "java/lang/Object") ∈ lw_all := lw_g (lw_at lw_m2 154 rfl) rfl
theorem q611 : (Jvm.Cond.selects "LastHatch$Shelf" ({ cls := "java/lang/Object", name := "getClass", desc := "()Ljava/lang/Class;" } : Jvm.MethodName) ({ cls := "java/lang/Object", name := "getClass", desc := "()Ljava/lang/Class;" } : Jvm.MethodName)) ∈ lw_all := lw_g (lw_at lw_m3 53 rfl) rfl
theorem q2531 : (Jvm.Cond.castable "LastHatch$Shelf" "java/lang/Object") ∈ lw_tbl := lw_at lw_m11 53 rfl
theorem in_X9 : ∀ w ∈ wsX90, w ∈ lw_all := lw_in wsX90 [470] (by decide +kernel) (by decide +kernel)

/-! LastHatch$Man -/
set_option maxRecDepth 100000
def RX11 : String := "LastHatch$Man"
def TX11 : u_T := fun k => match k with
  | 0 => ("LastHatch$Man", "place", "I", false)
  | 1 => ("LastHatch$Man", "doing", "I", false)
  | _ => ("LastHatch$Man", "is", "[I", true)
def tyX11 : Nat → FieldType := fun k => match k with
  | 0 => .int
  | 1 => .int
  | _ => .array .int
abbrev wsX110 : List Cond := u_ws RX11 TX11 3
theorem nmX11 : ∀ a, a < 3 → ∀ b, b < 3 → a ≠ b → (TX11 a).2.1 ≠ (TX11 b).2.1 := by decide +kernel
theorem tyX11_ok : ∀ k, k < 3 → parseFieldDescriptor (TX11 k).2.2.1 = some (tyX11 k) := by decide +kernel
abbrev cX11_init : ByteArray := prog_16_method_1_code
def yX11_init : MethodName := ⟨RX11, "<init>", "(III)V"⟩
def dkwX11_init_1 : List UInt8 := [180, 0, 15, 3, 28, 79, 42, 180, 0, 15, 4, 29, 79, 42, 180, 0, 15, 5, 17, 9, 95, 79, 177]
abbrev dktX11_init_1 : List UInt8 := dkwX11_init_1 ++ []
def dkwX11_init_0 : List UInt8 := [42, 183, 0, 3, 42, 4, 181, 0, 9, 42, 6, 188, 10, 181, 0, 15, 42, 27, 181, 0, 19, 42]
abbrev dktX11_init_0 : List UInt8 := dkwX11_init_0 ++ dktX11_init_1
theorem dksX11_init_0 : cX11_init.data.toList.drop 0 = dktX11_init_0 := by decide +kernel
theorem dksX11_init_1 : cX11_init.data.toList.drop 22 = dktX11_init_1 := dk_seg dksX11_init_0 22 rfl rfl
theorem dX11_init_0 : decode cX11_init 0 = .ok (.aload_n 0, 1) := dk_42 (dk_at dksX11_init_0 0 rfl rfl)
theorem dX11_init_1 : decode cX11_init 1 = .ok (.invokespecial 3, 3) := dk_183 0 3 (dk_at dksX11_init_0 1 rfl rfl)
theorem dX11_init_4 : decode cX11_init 4 = .ok (.aload_n 0, 1) := dk_42 (dk_at dksX11_init_0 4 rfl rfl)
theorem dX11_init_5 : decode cX11_init 5 = .ok (.iconst 1, 1) := dk_4 (dk_at dksX11_init_0 5 rfl rfl)
theorem dX11_init_6 : decode cX11_init 6 = .ok (.putfield 9, 3) := dk_181 0 9 (dk_at dksX11_init_0 6 rfl rfl)
theorem dX11_init_9 : decode cX11_init 9 = .ok (.aload_n 0, 1) := dk_42 (dk_at dksX11_init_0 9 rfl rfl)
theorem dX11_init_10 : decode cX11_init 10 = .ok (.iconst 3, 1) := dk_6 (dk_at dksX11_init_0 10 rfl rfl)
theorem dX11_init_11 : decode cX11_init 11 = .ok (.newarray .int, 2) := dk_188_10 (dk_at dksX11_init_0 11 rfl rfl)
theorem dX11_init_13 : decode cX11_init 13 = .ok (.putfield 15, 3) := dk_181 0 15 (dk_at dksX11_init_0 13 rfl rfl)
theorem dX11_init_16 : decode cX11_init 16 = .ok (.aload_n 0, 1) := dk_42 (dk_at dksX11_init_0 16 rfl rfl)
theorem dX11_init_17 : decode cX11_init 17 = .ok (.iload_n 1, 1) := dk_27 (dk_at dksX11_init_0 17 rfl rfl)
theorem dX11_init_18 : decode cX11_init 18 = .ok (.putfield 19, 3) := dk_181 0 19 (dk_at dksX11_init_0 18 rfl rfl)
theorem dX11_init_21 : decode cX11_init 21 = .ok (.aload_n 0, 1) := dk_42 (dk_at dksX11_init_0 21 rfl rfl)
theorem dX11_init_22 : decode cX11_init 22 = .ok (.getfield 15, 3) := dk_180 0 15 (dk_at dksX11_init_1 0 rfl rfl)
theorem dX11_init_25 : decode cX11_init 25 = .ok (.iconst 0, 1) := dk_3 (dk_at dksX11_init_1 3 rfl rfl)
theorem dX11_init_26 : decode cX11_init 26 = .ok (.iload_n 2, 1) := dk_28 (dk_at dksX11_init_1 4 rfl rfl)
theorem dX11_init_27 : decode cX11_init 27 = .ok (.iastore, 1) := dk_79 (dk_at dksX11_init_1 5 rfl rfl)
theorem dX11_init_28 : decode cX11_init 28 = .ok (.aload_n 0, 1) := dk_42 (dk_at dksX11_init_1 6 rfl rfl)
theorem dX11_init_29 : decode cX11_init 29 = .ok (.getfield 15, 3) := dk_180 0 15 (dk_at dksX11_init_1 7 rfl rfl)
theorem dX11_init_32 : decode cX11_init 32 = .ok (.iconst 1, 1) := dk_4 (dk_at dksX11_init_1 10 rfl rfl)
theorem dX11_init_33 : decode cX11_init 33 = .ok (.iload_n 3, 1) := dk_29 (dk_at dksX11_init_1 11 rfl rfl)
theorem dX11_init_34 : decode cX11_init 34 = .ok (.iastore, 1) := dk_79 (dk_at dksX11_init_1 12 rfl rfl)
theorem dX11_init_35 : decode cX11_init 35 = .ok (.aload_n 0, 1) := dk_42 (dk_at dksX11_init_1 13 rfl rfl)
theorem dX11_init_36 : decode cX11_init 36 = .ok (.getfield 15, 3) := dk_180 0 15 (dk_at dksX11_init_1 14 rfl rfl)
theorem dX11_init_39 : decode cX11_init 39 = .ok (.iconst 2, 1) := dk_5 (dk_at dksX11_init_1 17 rfl rfl)
theorem dX11_init_40 : decode cX11_init 40 = .ok (.sipush 2399, 3) := dk_17 9 95 (dk_at dksX11_init_1 18 rfl rfl)
theorem dX11_init_43 : decode cX11_init 43 = .ok (.iastore, 1) := dk_79 (dk_at dksX11_init_1 21 rfl rfl)
theorem dX11_init_44 : decode cX11_init 44 = .ok (.return_, 1) := dk_177 (dk_at dksX11_init_1 22 rfl rfl)
abbrev cX11_isDead : ByteArray := prog_16_method_4_code
def yX11_isDead : MethodName := ⟨RX11, "isDead", "()Z"⟩
def dkwX11_isDead_0 : List UInt8 := [42, 180, 0, 19, 16, 10, 160, 0, 7, 4, 167, 0, 4, 3, 172]
abbrev dktX11_isDead_0 : List UInt8 := dkwX11_isDead_0 ++ []
theorem dksX11_isDead_0 : cX11_isDead.data.toList.drop 0 = dktX11_isDead_0 := by decide +kernel
theorem dX11_isDead_0 : decode cX11_isDead 0 = .ok (.aload_n 0, 1) := dk_42 (dk_at dksX11_isDead_0 0 rfl rfl)
theorem dX11_isDead_1 : decode cX11_isDead 1 = .ok (.getfield 19, 3) := dk_180 0 19 (dk_at dksX11_isDead_0 1 rfl rfl)
theorem dX11_isDead_4 : decode cX11_isDead 4 = .ok (.bipush 10, 2) := dk_16 10 (dk_at dksX11_isDead_0 4 rfl rfl)
theorem dX11_isDead_6 : decode cX11_isDead 6 = .ok (.if_icmp .ne 7, 3) := dk_160 0 7 (dk_at dksX11_isDead_0 6 rfl rfl)
theorem dX11_isDead_9 : decode cX11_isDead 9 = .ok (.iconst 1, 1) := dk_4 (dk_at dksX11_isDead_0 9 rfl rfl)
theorem dX11_isDead_10 : decode cX11_isDead 10 = .ok (.goto 4, 3) := dk_167 0 4 (dk_at dksX11_isDead_0 10 rfl rfl)
theorem dX11_isDead_13 : decode cX11_isDead 13 = .ok (.iconst 0, 1) := dk_3 (dk_at dksX11_isDead_0 13 rfl rfl)
theorem dX11_isDead_14 : decode cX11_isDead 14 = .ok (.ireturn, 1) := dk_172 (dk_at dksX11_isDead_0 14 rfl rfl)
abbrev cX11_become : ByteArray := prog_16_method_9_code
def yX11_become : MethodName := ⟨RX11, "become", "(II)I"⟩
def dkwX11_become_1 : List UInt8 := [28, 181, 0, 9, 167, 0, 12, 42, 180, 0, 15, 27, 5, 100, 28, 79, 29, 172]
abbrev dktX11_become_1 : List UInt8 := dkwX11_become_1 ++ []
def dkwX11_become_0 : List UInt8 := [42, 27, 182, 0, 25, 62, 27, 154, 0, 11, 42, 28, 181, 0, 19, 167, 0, 25, 27, 4, 160, 0, 11, 42]
abbrev dktX11_become_0 : List UInt8 := dkwX11_become_0 ++ dktX11_become_1
theorem dksX11_become_0 : cX11_become.data.toList.drop 0 = dktX11_become_0 := by decide +kernel
theorem dksX11_become_1 : cX11_become.data.toList.drop 24 = dktX11_become_1 := dk_seg dksX11_become_0 24 rfl rfl
theorem dX11_become_0 : decode cX11_become 0 = .ok (.aload_n 0, 1) := dk_42 (dk_at dksX11_become_0 0 rfl rfl)
theorem dX11_become_1 : decode cX11_become 1 = .ok (.iload_n 1, 1) := dk_27 (dk_at dksX11_become_0 1 rfl rfl)
theorem dX11_become_2 : decode cX11_become 2 = .ok (.invokevirtual 25, 3) := dk_182 0 25 (dk_at dksX11_become_0 2 rfl rfl)
theorem dX11_become_5 : decode cX11_become 5 = .ok (.istore_n 3, 1) := dk_62 (dk_at dksX11_become_0 5 rfl rfl)
theorem dX11_become_6 : decode cX11_become 6 = .ok (.iload_n 1, 1) := dk_27 (dk_at dksX11_become_0 6 rfl rfl)
theorem dX11_become_7 : decode cX11_become 7 = .ok (.ifCond .ne 11, 3) := dk_154 0 11 (dk_at dksX11_become_0 7 rfl rfl)
theorem dX11_become_10 : decode cX11_become 10 = .ok (.aload_n 0, 1) := dk_42 (dk_at dksX11_become_0 10 rfl rfl)
theorem dX11_become_11 : decode cX11_become 11 = .ok (.iload_n 2, 1) := dk_28 (dk_at dksX11_become_0 11 rfl rfl)
theorem dX11_become_12 : decode cX11_become 12 = .ok (.putfield 19, 3) := dk_181 0 19 (dk_at dksX11_become_0 12 rfl rfl)
theorem dX11_become_15 : decode cX11_become 15 = .ok (.goto 25, 3) := dk_167 0 25 (dk_at dksX11_become_0 15 rfl rfl)
theorem dX11_become_18 : decode cX11_become 18 = .ok (.iload_n 1, 1) := dk_27 (dk_at dksX11_become_0 18 rfl rfl)
theorem dX11_become_19 : decode cX11_become 19 = .ok (.iconst 1, 1) := dk_4 (dk_at dksX11_become_0 19 rfl rfl)
theorem dX11_become_20 : decode cX11_become 20 = .ok (.if_icmp .ne 11, 3) := dk_160 0 11 (dk_at dksX11_become_0 20 rfl rfl)
theorem dX11_become_23 : decode cX11_become 23 = .ok (.aload_n 0, 1) := dk_42 (dk_at dksX11_become_0 23 rfl rfl)
theorem dX11_become_24 : decode cX11_become 24 = .ok (.iload_n 2, 1) := dk_28 (dk_at dksX11_become_1 0 rfl rfl)
theorem dX11_become_25 : decode cX11_become 25 = .ok (.putfield 9, 3) := dk_181 0 9 (dk_at dksX11_become_1 1 rfl rfl)
theorem dX11_become_28 : decode cX11_become 28 = .ok (.goto 12, 3) := dk_167 0 12 (dk_at dksX11_become_1 4 rfl rfl)
theorem dX11_become_31 : decode cX11_become 31 = .ok (.aload_n 0, 1) := dk_42 (dk_at dksX11_become_1 7 rfl rfl)
theorem dX11_become_32 : decode cX11_become 32 = .ok (.getfield 15, 3) := dk_180 0 15 (dk_at dksX11_become_1 8 rfl rfl)
theorem dX11_become_35 : decode cX11_become 35 = .ok (.iload_n 1, 1) := dk_27 (dk_at dksX11_become_1 11 rfl rfl)
theorem dX11_become_36 : decode cX11_become 36 = .ok (.iconst 2, 1) := dk_5 (dk_at dksX11_become_1 12 rfl rfl)
theorem dX11_become_37 : decode cX11_become 37 = .ok (.isub, 1) := dk_100 (dk_at dksX11_become_1 13 rfl rfl)
theorem dX11_become_38 : decode cX11_become 38 = .ok (.iload_n 2, 1) := dk_28 (dk_at dksX11_become_1 14 rfl rfl)
theorem dX11_become_39 : decode cX11_become 39 = .ok (.iastore, 1) := dk_79 (dk_at dksX11_become_1 15 rfl rfl)
theorem dX11_become_40 : decode cX11_become 40 = .ok (.iload_n 3, 1) := dk_29 (dk_at dksX11_become_1 16 rfl rfl)
theorem dX11_become_41 : decode cX11_become 41 = .ok (.ireturn, 1) := dk_172 (dk_at dksX11_become_1 17 rfl rfl)
abbrev cX11_get : ByteArray := prog_16_method_8_code
def yX11_get : MethodName := ⟨RX11, "get", "(I)I"⟩
def dkwX11_get_1 : List UInt8 := [180, 0, 15, 27, 5, 100, 46, 172]
abbrev dktX11_get_1 : List UInt8 := dkwX11_get_1 ++ []
def dkwX11_get_0 : List UInt8 := [27, 154, 0, 10, 42, 180, 0, 19, 167, 0, 23, 27, 4, 160, 0, 10, 42, 180, 0, 9, 167, 0, 11, 42]
abbrev dktX11_get_0 : List UInt8 := dkwX11_get_0 ++ dktX11_get_1
theorem dksX11_get_0 : cX11_get.data.toList.drop 0 = dktX11_get_0 := by decide +kernel
theorem dksX11_get_1 : cX11_get.data.toList.drop 24 = dktX11_get_1 := dk_seg dksX11_get_0 24 rfl rfl
theorem dX11_get_0 : decode cX11_get 0 = .ok (.iload_n 1, 1) := dk_27 (dk_at dksX11_get_0 0 rfl rfl)
theorem dX11_get_1 : decode cX11_get 1 = .ok (.ifCond .ne 10, 3) := dk_154 0 10 (dk_at dksX11_get_0 1 rfl rfl)
theorem dX11_get_4 : decode cX11_get 4 = .ok (.aload_n 0, 1) := dk_42 (dk_at dksX11_get_0 4 rfl rfl)
theorem dX11_get_5 : decode cX11_get 5 = .ok (.getfield 19, 3) := dk_180 0 19 (dk_at dksX11_get_0 5 rfl rfl)
theorem dX11_get_8 : decode cX11_get 8 = .ok (.goto 23, 3) := dk_167 0 23 (dk_at dksX11_get_0 8 rfl rfl)
theorem dX11_get_11 : decode cX11_get 11 = .ok (.iload_n 1, 1) := dk_27 (dk_at dksX11_get_0 11 rfl rfl)
theorem dX11_get_12 : decode cX11_get 12 = .ok (.iconst 1, 1) := dk_4 (dk_at dksX11_get_0 12 rfl rfl)
theorem dX11_get_13 : decode cX11_get 13 = .ok (.if_icmp .ne 10, 3) := dk_160 0 10 (dk_at dksX11_get_0 13 rfl rfl)
theorem dX11_get_16 : decode cX11_get 16 = .ok (.aload_n 0, 1) := dk_42 (dk_at dksX11_get_0 16 rfl rfl)
theorem dX11_get_17 : decode cX11_get 17 = .ok (.getfield 9, 3) := dk_180 0 9 (dk_at dksX11_get_0 17 rfl rfl)
theorem dX11_get_20 : decode cX11_get 20 = .ok (.goto 11, 3) := dk_167 0 11 (dk_at dksX11_get_0 20 rfl rfl)
theorem dX11_get_23 : decode cX11_get 23 = .ok (.aload_n 0, 1) := dk_42 (dk_at dksX11_get_0 23 rfl rfl)
theorem dX11_get_24 : decode cX11_get 24 = .ok (.getfield 15, 3) := dk_180 0 15 (dk_at dksX11_get_1 0 rfl rfl)
theorem dX11_get_27 : decode cX11_get 27 = .ok (.iload_n 1, 1) := dk_27 (dk_at dksX11_get_1 3 rfl rfl)
theorem dX11_get_28 : decode cX11_get 28 = .ok (.iconst 2, 1) := dk_5 (dk_at dksX11_get_1 4 rfl rfl)
theorem dX11_get_29 : decode cX11_get 29 = .ok (.isub, 1) := dk_100 (dk_at dksX11_get_1 5 rfl rfl)
theorem dX11_get_30 : decode cX11_get 30 = .ok (.iaload, 1) := dk_46 (dk_at dksX11_get_1 6 rfl rfl)
theorem dX11_get_31 : decode cX11_get 31 = .ok (.ireturn, 1) := dk_172 (dk_at dksX11_get_1 7 rfl rfl)
abbrev cX11_isIn : ByteArray := prog_16_method_3_code
def yX11_isIn : MethodName := ⟨RX11, "isIn", "(I)Z"⟩
def dkwX11_isIn_0 : List UInt8 := [42, 180, 0, 19, 27, 160, 0, 7, 4, 167, 0, 4, 3, 172]
abbrev dktX11_isIn_0 : List UInt8 := dkwX11_isIn_0 ++ []
theorem dksX11_isIn_0 : cX11_isIn.data.toList.drop 0 = dktX11_isIn_0 := by decide +kernel
theorem dX11_isIn_0 : decode cX11_isIn 0 = .ok (.aload_n 0, 1) := dk_42 (dk_at dksX11_isIn_0 0 rfl rfl)
theorem dX11_isIn_1 : decode cX11_isIn 1 = .ok (.getfield 19, 3) := dk_180 0 19 (dk_at dksX11_isIn_0 1 rfl rfl)
theorem dX11_isIn_4 : decode cX11_isIn 4 = .ok (.iload_n 1, 1) := dk_27 (dk_at dksX11_isIn_0 4 rfl rfl)
theorem dX11_isIn_5 : decode cX11_isIn 5 = .ok (.if_icmp .ne 7, 3) := dk_160 0 7 (dk_at dksX11_isIn_0 5 rfl rfl)
theorem dX11_isIn_8 : decode cX11_isIn 8 = .ok (.iconst 1, 1) := dk_4 (dk_at dksX11_isIn_0 8 rfl rfl)
theorem dX11_isIn_9 : decode cX11_isIn 9 = .ok (.goto 4, 3) := dk_167 0 4 (dk_at dksX11_isIn_0 9 rfl rfl)
theorem dX11_isIn_12 : decode cX11_isIn 12 = .ok (.iconst 0, 1) := dk_3 (dk_at dksX11_isIn_0 12 rfl rfl)
theorem dX11_isIn_13 : decode cX11_isIn 13 = .ok (.ireturn, 1) := dk_172 (dk_at dksX11_isIn_0 13 rfl rfl)
abbrev cX11_cold : ByteArray := prog_16_method_5_code
def yX11_cold : MethodName := ⟨RX11, "cold", "()I"⟩
def dkwX11_cold_0 : List UInt8 := [42, 180, 0, 15, 3, 46, 172]
abbrev dktX11_cold_0 : List UInt8 := dkwX11_cold_0 ++ []
theorem dksX11_cold_0 : cX11_cold.data.toList.drop 0 = dktX11_cold_0 := by decide +kernel
theorem dX11_cold_0 : decode cX11_cold 0 = .ok (.aload_n 0, 1) := dk_42 (dk_at dksX11_cold_0 0 rfl rfl)
theorem dX11_cold_1 : decode cX11_cold 1 = .ok (.getfield 15, 3) := dk_180 0 15 (dk_at dksX11_cold_0 1 rfl rfl)
theorem dX11_cold_4 : decode cX11_cold 4 = .ok (.iconst 0, 1) := dk_3 (dk_at dksX11_cold_0 4 rfl rfl)
theorem dX11_cold_5 : decode cX11_cold 5 = .ok (.iaload, 1) := dk_46 (dk_at dksX11_cold_0 5 rfl rfl)
theorem dX11_cold_6 : decode cX11_cold 6 = .ok (.ireturn, 1) := dk_172 (dk_at dksX11_cold_0 6 rfl rfl)
abbrev cX11_copy : ByteArray := prog_16_method_2_code
def yX11_copy : MethodName := ⟨RX11, "copy", "()LLastHatch$Man;"⟩
def dkwX11_copy_1 : List UInt8 := [43, 42, 180, 0, 9, 181, 0, 9, 43, 180, 0, 15, 5, 42, 180, 0, 15, 5, 46, 79, 43, 176]
abbrev dktX11_copy_1 : List UInt8 := dkwX11_copy_1 ++ []
def dkwX11_copy_0 : List UInt8 := [187, 0, 10, 89, 42, 180, 0, 19, 42, 180, 0, 15, 3, 46, 42, 180, 0, 15, 4, 46, 183, 0, 22, 76]
abbrev dktX11_copy_0 : List UInt8 := dkwX11_copy_0 ++ dktX11_copy_1
theorem dksX11_copy_0 : cX11_copy.data.toList.drop 0 = dktX11_copy_0 := by decide +kernel
theorem dksX11_copy_1 : cX11_copy.data.toList.drop 24 = dktX11_copy_1 := dk_seg dksX11_copy_0 24 rfl rfl
theorem dX11_copy_0 : decode cX11_copy 0 = .ok (.new 10, 3) := dk_187 0 10 (dk_at dksX11_copy_0 0 rfl rfl)
theorem dX11_copy_3 : decode cX11_copy 3 = .ok (.dup, 1) := dk_89 (dk_at dksX11_copy_0 3 rfl rfl)
theorem dX11_copy_4 : decode cX11_copy 4 = .ok (.aload_n 0, 1) := dk_42 (dk_at dksX11_copy_0 4 rfl rfl)
theorem dX11_copy_5 : decode cX11_copy 5 = .ok (.getfield 19, 3) := dk_180 0 19 (dk_at dksX11_copy_0 5 rfl rfl)
theorem dX11_copy_8 : decode cX11_copy 8 = .ok (.aload_n 0, 1) := dk_42 (dk_at dksX11_copy_0 8 rfl rfl)
theorem dX11_copy_9 : decode cX11_copy 9 = .ok (.getfield 15, 3) := dk_180 0 15 (dk_at dksX11_copy_0 9 rfl rfl)
theorem dX11_copy_12 : decode cX11_copy 12 = .ok (.iconst 0, 1) := dk_3 (dk_at dksX11_copy_0 12 rfl rfl)
theorem dX11_copy_13 : decode cX11_copy 13 = .ok (.iaload, 1) := dk_46 (dk_at dksX11_copy_0 13 rfl rfl)
theorem dX11_copy_14 : decode cX11_copy 14 = .ok (.aload_n 0, 1) := dk_42 (dk_at dksX11_copy_0 14 rfl rfl)
theorem dX11_copy_15 : decode cX11_copy 15 = .ok (.getfield 15, 3) := dk_180 0 15 (dk_at dksX11_copy_0 15 rfl rfl)
theorem dX11_copy_18 : decode cX11_copy 18 = .ok (.iconst 1, 1) := dk_4 (dk_at dksX11_copy_0 18 rfl rfl)
theorem dX11_copy_19 : decode cX11_copy 19 = .ok (.iaload, 1) := dk_46 (dk_at dksX11_copy_0 19 rfl rfl)
theorem dX11_copy_20 : decode cX11_copy 20 = .ok (.invokespecial 22, 3) := dk_183 0 22 (dk_at dksX11_copy_0 20 rfl rfl)
theorem dX11_copy_23 : decode cX11_copy 23 = .ok (.astore_n 1, 1) := dk_76 (dk_at dksX11_copy_0 23 rfl rfl)
theorem dX11_copy_24 : decode cX11_copy 24 = .ok (.aload_n 1, 1) := dk_43 (dk_at dksX11_copy_1 0 rfl rfl)
theorem dX11_copy_25 : decode cX11_copy 25 = .ok (.aload_n 0, 1) := dk_42 (dk_at dksX11_copy_1 1 rfl rfl)
theorem dX11_copy_26 : decode cX11_copy 26 = .ok (.getfield 9, 3) := dk_180 0 9 (dk_at dksX11_copy_1 2 rfl rfl)
theorem dX11_copy_29 : decode cX11_copy 29 = .ok (.putfield 9, 3) := dk_181 0 9 (dk_at dksX11_copy_1 5 rfl rfl)
theorem dX11_copy_32 : decode cX11_copy 32 = .ok (.aload_n 1, 1) := dk_43 (dk_at dksX11_copy_1 8 rfl rfl)
theorem dX11_copy_33 : decode cX11_copy 33 = .ok (.getfield 15, 3) := dk_180 0 15 (dk_at dksX11_copy_1 9 rfl rfl)
theorem dX11_copy_36 : decode cX11_copy 36 = .ok (.iconst 2, 1) := dk_5 (dk_at dksX11_copy_1 12 rfl rfl)
theorem dX11_copy_37 : decode cX11_copy 37 = .ok (.aload_n 0, 1) := dk_42 (dk_at dksX11_copy_1 13 rfl rfl)
theorem dX11_copy_38 : decode cX11_copy 38 = .ok (.getfield 15, 3) := dk_180 0 15 (dk_at dksX11_copy_1 14 rfl rfl)
theorem dX11_copy_41 : decode cX11_copy 41 = .ok (.iconst 2, 1) := dk_5 (dk_at dksX11_copy_1 17 rfl rfl)
theorem dX11_copy_42 : decode cX11_copy 42 = .ok (.iaload, 1) := dk_46 (dk_at dksX11_copy_1 18 rfl rfl)
theorem dX11_copy_43 : decode cX11_copy 43 = .ok (.iastore, 1) := dk_79 (dk_at dksX11_copy_1 19 rfl rfl)
theorem dX11_copy_44 : decode cX11_copy 44 = .ok (.aload_n 1, 1) := dk_43 (dk_at dksX11_copy_1 20 rfl rfl)
theorem dX11_copy_45 : decode cX11_copy 45 = .ok (.areturn, 1) := dk_176 (dk_at dksX11_copy_1 21 rfl rfl)
abbrev cX11_knows : ByteArray := prog_16_method_6_code
def yX11_knows : MethodName := ⟨RX11, "knows", "()Z"⟩
def dkwX11_knows_0 : List UInt8 := [42, 180, 0, 15, 4, 46, 4, 160, 0, 7, 4, 167, 0, 4, 3, 172]
abbrev dktX11_knows_0 : List UInt8 := dkwX11_knows_0 ++ []
theorem dksX11_knows_0 : cX11_knows.data.toList.drop 0 = dktX11_knows_0 := by decide +kernel
theorem dX11_knows_0 : decode cX11_knows 0 = .ok (.aload_n 0, 1) := dk_42 (dk_at dksX11_knows_0 0 rfl rfl)
theorem dX11_knows_1 : decode cX11_knows 1 = .ok (.getfield 15, 3) := dk_180 0 15 (dk_at dksX11_knows_0 1 rfl rfl)
theorem dX11_knows_4 : decode cX11_knows 4 = .ok (.iconst 1, 1) := dk_4 (dk_at dksX11_knows_0 4 rfl rfl)
theorem dX11_knows_5 : decode cX11_knows 5 = .ok (.iaload, 1) := dk_46 (dk_at dksX11_knows_0 5 rfl rfl)
theorem dX11_knows_6 : decode cX11_knows 6 = .ok (.iconst 1, 1) := dk_4 (dk_at dksX11_knows_0 6 rfl rfl)
theorem dX11_knows_7 : decode cX11_knows 7 = .ok (.if_icmp .ne 7, 3) := dk_160 0 7 (dk_at dksX11_knows_0 7 rfl rfl)
theorem dX11_knows_10 : decode cX11_knows 10 = .ok (.iconst 1, 1) := dk_4 (dk_at dksX11_knows_0 10 rfl rfl)
theorem dX11_knows_11 : decode cX11_knows 11 = .ok (.goto 4, 3) := dk_167 0 4 (dk_at dksX11_knows_0 11 rfl rfl)
theorem dX11_knows_14 : decode cX11_knows 14 = .ok (.iconst 0, 1) := dk_3 (dk_at dksX11_knows_0 14 rfl rfl)
theorem dX11_knows_15 : decode cX11_knows 15 = .ok (.ireturn, 1) := dk_172 (dk_at dksX11_knows_0 15 rfl rfl)
abbrev cX11_strength : ByteArray := prog_16_method_7_code
def yX11_strength : MethodName := ⟨RX11, "strength", "()I"⟩
def dkwX11_strength_0 : List UInt8 := [42, 180, 0, 15, 5, 46, 172]
abbrev dktX11_strength_0 : List UInt8 := dkwX11_strength_0 ++ []
theorem dksX11_strength_0 : cX11_strength.data.toList.drop 0 = dktX11_strength_0 := by decide +kernel
theorem dX11_strength_0 : decode cX11_strength 0 = .ok (.aload_n 0, 1) := dk_42 (dk_at dksX11_strength_0 0 rfl rfl)
theorem dX11_strength_1 : decode cX11_strength 1 = .ok (.getfield 15, 3) := dk_180 0 15 (dk_at dksX11_strength_0 1 rfl rfl)
theorem dX11_strength_4 : decode cX11_strength 4 = .ok (.iconst 2, 1) := dk_5 (dk_at dksX11_strength_0 4 rfl rfl)
theorem dX11_strength_5 : decode cX11_strength 5 = .ok (.iaload, 1) := dk_46 (dk_at dksX11_strength_0 5 rfl rfl)
theorem dX11_strength_6 : decode cX11_strength 6 = .ok (.ireturn, 1) := dk_172 (dk_at dksX11_strength_0 6 rfl rfl)
theorem q96 : (Jvm.Cond.initialized "LastHatch$Man") ∈ lw_all := lw_g (lw_at lw_m1 18 rfl) rfl
theorem q543 : (Jvm.Cond.instantiable "LastHatch$Man" (3 : Nat)) ∈ lw_all := lw_g (lw_at lw_m2 225 rfl) rfl
theorem q545 : (Jvm.Cond.instanceMethod ({ cls := "LastHatch$Man", name := "<init>", desc := "(III)V" } : Jvm.MethodName)) ∈ lw_all := lw_g (lw_at lw_m2 227 rfl) rfl
theorem q546 : (Jvm.Cond.code ({ cls := "LastHatch$Man", name := "<init>", desc := "(III)V" } : Jvm.MethodName) prog_16_method_1_code (4 : Nat) (Option.none : Option Jvm.ClassFile.FieldType)) ∈ lw_all := lw_g (lw_at lw_m2 228 rfl) rfl
theorem q547 : (Jvm.Cond.methodLink "LastHatch$Man" (3 : Nat) ({ cls := "java/lang/Object", name := "<init>", desc := "()V" } : Jvm.MethodName)) ∈ lw_all := lw_g (lw_at lw_m2 229 rfl) rfl
theorem q548 : (Jvm.Cond.fieldLink "LastHatch$Man" (19 : Nat) "LastHatch$Man" "place" "I") ∈ lw_all := lw_g (lw_at lw_m2 230 rfl) rfl
theorem q550 : (Jvm.Cond.fieldLink "LastHatch$Man" (9 : Nat) "LastHatch$Man" "doing" "I") ∈ lw_all := lw_g (lw_at lw_m2 232 rfl) rfl
theorem q552 : (Jvm.Cond.fieldLink "LastHatch$Man" (15 : Nat) "LastHatch$Man" "is" "[I") ∈ lw_all := lw_g (lw_at lw_m2 234 rfl) rfl
theorem q553 : (Jvm.Cond.lays "LastHatch$Man" "LastHatch$Man" "place" "I") ∈ lw_all := lw_g (lw_at lw_m2 235 rfl) rfl
theorem q554 : (Jvm.Cond.soleField "LastHatch$Man" "place") ∈ lw_all := lw_g (lw_at lw_m2 236 rfl) rfl
theorem q555 : (Jvm.Cond.lays "LastHatch$Man" "LastHatch$Man" "doing" "I") ∈ lw_all := lw_g (lw_at lw_m2 237 rfl) rfl
theorem q556 : (Jvm.Cond.soleField "LastHatch$Man" "doing") ∈ lw_all := lw_g (lw_at lw_m2 238 rfl) rfl
theorem q557 : (Jvm.Cond.laysFinal "LastHatch$Man" "LastHatch$Man" "is" "[I") ∈ lw_all := lw_g (lw_at lw_m2 239 rfl) rfl
theorem q558 : (Jvm.Cond.soleField "LastHatch$Man" "is") ∈ lw_all := lw_g (lw_at lw_m3 0 rfl) rfl
theorem q559 : (Jvm.Cond.superclass "LastHatch$Man" "java/lang/Object") ∈ lw_all := lw_g (lw_at lw_m3 1 rfl) rfl
theorem q606 : (Jvm.Cond.selects "LastHatch$Man" ({ cls := "java/lang/Object", name := "getClass", desc := "()Ljava/lang/Class;" } : Jvm.MethodName) ({ cls := "java/lang/Object", name := "getClass", desc := "()Ljava/lang/Class;" } : Jvm.MethodName)) ∈ lw_all := lw_g (lw_at lw_m3 48 rfl) rfl
theorem q663 : (Jvm.Cond.instanceMethod ({ cls := "LastHatch$Man", name := "isDead", desc := "()Z" } : Jvm.MethodName)) ∈ lw_all := lw_g (lw_at lw_m3 105 rfl) rfl
theorem q664 : (Jvm.Cond.selects "LastHatch$Man" ({ cls := "LastHatch$Man", name := "isDead", desc := "()Z" } : Jvm.MethodName) ({ cls := "LastHatch$Man", name := "isDead", desc := "()Z" } : Jvm.MethodName)) ∈ lw_all := lw_g (lw_at lw_m3 106 rfl) rfl
theorem q665 : (Jvm.Cond.code ({ cls := "LastHatch$Man", name := "isDead", desc := "()Z" } : Jvm.MethodName) prog_16_method_4_code (1 : Nat) (Option.some Jvm.ClassFile.FieldType.boolean)) ∈ lw_all := lw_g (lw_at lw_m3 107 rfl) rfl
theorem q667 : (Jvm.Cond.instanceMethod ({ cls := "LastHatch$Man", name := "become", desc := "(II)I" } : Jvm.MethodName)) ∈ lw_all := lw_g (lw_at lw_m3 109 rfl) rfl
theorem q668 : (Jvm.Cond.selects "LastHatch$Man" ({ cls := "LastHatch$Man", name := "become", desc := "(II)I" } : Jvm.MethodName) ({ cls := "LastHatch$Man", name := "become", desc := "(II)I" } : Jvm.MethodName)) ∈ lw_all := lw_g (lw_at lw_m3 110 rfl) rfl
theorem q669 : (Jvm.Cond.code ({ cls := "LastHatch$Man", name := "become", desc := "(II)I" } : Jvm.MethodName) prog_16_method_9_code (4 : Nat) (Option.some Jvm.ClassFile.FieldType.int)) ∈ lw_all := lw_g (lw_at lw_m3 111 rfl) rfl
theorem q670 : (Jvm.Cond.methodLink "LastHatch$Man" (25 : Nat) ({ cls := "LastHatch$Man", name := "get", desc := "(I)I" } : Jvm.MethodName)) ∈ lw_all := lw_g (lw_at lw_m3 112 rfl) rfl
theorem q671 : (Jvm.Cond.instanceMethod ({ cls := "LastHatch$Man", name := "get", desc := "(I)I" } : Jvm.MethodName)) ∈ lw_all := lw_g (lw_at lw_m3 113 rfl) rfl
theorem q672 : (Jvm.Cond.selects "LastHatch$Man" ({ cls := "LastHatch$Man", name := "get", desc := "(I)I" } : Jvm.MethodName) ({ cls := "LastHatch$Man", name := "get", desc := "(I)I" } : Jvm.MethodName)) ∈ lw_all := lw_g (lw_at lw_m3 114 rfl) rfl
theorem q673 : (Jvm.Cond.code ({ cls := "LastHatch$Man", name := "get", desc := "(I)I" } : Jvm.MethodName) prog_16_method_8_code (2 : Nat) (Option.some Jvm.ClassFile.FieldType.int)) ∈ lw_all := lw_g (lw_at lw_m3 115 rfl) rfl
theorem q703 : (Jvm.Cond.instanceMethod ({ cls := "LastHatch$Man", name := "isIn", desc := "(I)Z" } : Jvm.MethodName)) ∈ lw_all := lw_g (lw_at lw_m3 145 rfl) rfl
theorem q704 : (Jvm.Cond.selects "LastHatch$Man" ({ cls := "LastHatch$Man", name := "isIn", desc := "(I)Z" } : Jvm.MethodName) ({ cls := "LastHatch$Man", name := "isIn", desc := "(I)Z" } : Jvm.MethodName)) ∈ lw_all := lw_g (lw_at lw_m3 146 rfl) rfl
theorem q705 : (Jvm.Cond.code ({ cls := "LastHatch$Man", name := "isIn", desc := "(I)Z" } : Jvm.MethodName) prog_16_method_3_code (2 : Nat) (Option.some Jvm.ClassFile.FieldType.boolean)) ∈ lw_all := lw_g (lw_at lw_m3 147 rfl) rfl
theorem q727 : (Jvm.Cond.instanceMethod ({ cls := "LastHatch$Man", name := "cold", desc := "()I" } : Jvm.MethodName)) ∈ lw_all := lw_g (lw_at lw_m3 169 rfl) rfl
theorem q728 : (Jvm.Cond.selects "LastHatch$Man" ({ cls := "LastHatch$Man", name := "cold", desc := "()I" } : Jvm.MethodName) ({ cls := "LastHatch$Man", name := "cold", desc := "()I" } : Jvm.MethodName)) ∈ lw_all := lw_g (lw_at lw_m3 170 rfl) rfl
theorem q729 : (Jvm.Cond.code ({ cls := "LastHatch$Man", name := "cold", desc := "()I" } : Jvm.MethodName) prog_16_method_5_code (1 : Nat) (Option.some Jvm.ClassFile.FieldType.int)) ∈ lw_all := lw_g (lw_at lw_m3 171 rfl) rfl
theorem q792 : (Jvm.Cond.instanceMethod ({ cls := "LastHatch$Man", name := "copy", desc := "()LLastHatch$Man;" } : Jvm.MethodName)) ∈ lw_all := lw_g (lw_at lw_m3 234 rfl) rfl
theorem q793 : (Jvm.Cond.selects "LastHatch$Man" ({ cls := "LastHatch$Man", name := "copy", desc := "()LLastHatch$Man;" } : Jvm.MethodName) ({ cls := "LastHatch$Man", name := "copy", desc := "()LLastHatch$Man;" } : Jvm.MethodName)) ∈ lw_all := lw_g (lw_at lw_m3 235 rfl) rfl
theorem q794 : (Jvm.Cond.code ({ cls := "LastHatch$Man", name := "copy", desc := "()LLastHatch$Man;" } : Jvm.MethodName) prog_16_method_2_code (2 : Nat) (Option.some (Jvm.ClassFile.FieldType.object "LastHatch$Man"))) ∈ lw_all := lw_g (lw_at lw_m3 236 rfl) rfl
theorem q795 : (Jvm.Cond.classLink "LastHatch$Man" (10 : Nat) "LastHatch$Man") ∈ lw_all := lw_g (lw_at lw_m3 237 rfl) rfl
theorem q796 : (Jvm.Cond.methodLink "LastHatch$Man" (22 : Nat) ({ cls := "LastHatch$Man", name := "<init>", desc := "(III)V" } : Jvm.MethodName)) ∈ lw_all := lw_g (lw_at lw_m3 238 rfl) rfl
theorem q1337 : (Jvm.Cond.instanceMethod ({ cls := "LastHatch$Man", name := "knows", desc := "()Z" } : Jvm.MethodName)) ∈ lw_all := lw_g (lw_at lw_m6 59 rfl) rfl
theorem q1338 : (Jvm.Cond.selects "LastHatch$Man" ({ cls := "LastHatch$Man", name := "knows", desc := "()Z" } : Jvm.MethodName) ({ cls := "LastHatch$Man", name := "knows", desc := "()Z" } : Jvm.MethodName)) ∈ lw_all := lw_g (lw_at lw_m6 60 rfl) rfl
theorem q1339 : (Jvm.Cond.code ({ cls := "LastHatch$Man", name := "knows", desc := "()Z" } : Jvm.MethodName) prog_16_method_6_code (1 : Nat) (Option.some Jvm.ClassFile.FieldType.boolean)) ∈ lw_all := lw_g (lw_at lw_m6 61 rfl) rfl
theorem q1341 : (Jvm.Cond.instanceMethod ({ cls := "LastHatch$Man", name := "strength", desc := "()I" } : Jvm.MethodName)) ∈ lw_all := lw_g (lw_at lw_m6 63 rfl) rfl
theorem q1342 : (Jvm.Cond.selects "LastHatch$Man" ({ cls := "LastHatch$Man", name := "strength", desc := "()I" } : Jvm.MethodName) ({ cls := "LastHatch$Man", name := "strength", desc := "()I" } : Jvm.MethodName)) ∈ lw_all := lw_g (lw_at lw_m6 64 rfl) rfl
theorem q1343 : (Jvm.Cond.code ({ cls := "LastHatch$Man", name := "strength", desc := "()I" } : Jvm.MethodName) prog_16_method_7_code (1 : Nat) (Option.some Jvm.ClassFile.FieldType.int)) ∈ lw_all := lw_g (lw_at lw_m6 65 rfl) rfl
theorem q2544 : (Jvm.Cond.castable "LastHatch$Man" "java/lang/Object") ∈ lw_tbl := lw_at lw_m11 66 rfl
theorem in_X11 : ∀ w ∈ wsX110, w ∈ lw_all := lw_in wsX110 [553, 555, 557] (by decide +kernel) (by decide +kernel)

/-! LastHatch$Term -/
set_option maxRecDepth 100000
def RX12 : String := "LastHatch$Term"
abbrev cX12_init : ByteArray := prog_30_method_1_code
def yX12_init : MethodName := ⟨RX12, "<init>", "()V"⟩
theorem dX12_init_0 : decode cX12_init 0 = .ok (.aload_n 0, 1) := by decide +kernel
theorem dX12_init_1 : decode cX12_init 1 = .ok (.invokespecial 1, 3) := by decide +kernel
theorem dX12_init_4 : decode cX12_init 4 = .ok (.return_, 1) := by decide +kernel
theorem q103 : (Jvm.Cond.initialized "LastHatch$Term") ∈ lw_all := lw_g (lw_at lw_m1 25 rfl) rfl
theorem q745 : (Jvm.Cond.declares ({ cls := "LastHatch$Term", name := "value", desc := "(LLastHatch$Facts;)I" } : Jvm.MethodName)) ∈ lw_tbl := lw_at lw_m3 187 rfl
theorem q746 : (Jvm.Cond.sameMethod "LastHatch$Term" "LastHatch$Term" "value" "(LLastHatch$Facts;)I") ∈ lw_all := lw_g (lw_at lw_m3 188 rfl) rfl
theorem q972 : (Jvm.Cond.instanceMethod ({ cls := "LastHatch$Term", name := "<init>", desc := "()V" } : Jvm.MethodName)) ∈ lw_all := lw_g (lw_at lw_m4 174 rfl) rfl
theorem q973 : (Jvm.Cond.code ({ cls := "LastHatch$Term", name := "<init>", desc := "()V" } : Jvm.MethodName) prog_30_method_1_code (1 : Nat) (Option.none : Option Jvm.ClassFile.FieldType)) ∈ lw_all := lw_g (lw_at lw_m4 175 rfl) rfl
theorem q974 : (Jvm.Cond.methodLink "LastHatch$Term" (1 : Nat) ({ cls := "java/lang/Object", name := "<init>", desc := "()V" } : Jvm.MethodName)) ∈ lw_all := lw_g (lw_at lw_m4 176 rfl) rfl
theorem q2530 : (Jvm.Cond.castable "LastHatch$Term" "java/lang/Object") ∈ lw_tbl := lw_at lw_m11 52 rfl

/-! LastHatch$Two -/
set_option maxRecDepth 100000
def RX13 : String := "LastHatch$Two"
def TX13 : u_T := fun k => match k with
  | 0 => ("LastHatch$Two", "sign", "I", true)
  | 1 => ("LastHatch$Two", "a", "LLastHatch$Term;", true)
  | _ => ("LastHatch$Two", "b", "LLastHatch$Term;", true)
def tyX13 : Nat → FieldType := fun k => match k with
  | 0 => .int
  | 1 => .object "LastHatch$Term"
  | _ => .object "LastHatch$Term"
abbrev wsX130 : List Cond := u_ws RX13 TX13 3
theorem nmX13 : ∀ a, a < 3 → ∀ b, b < 3 → a ≠ b → (TX13 a).2.1 ≠ (TX13 b).2.1 := by decide +kernel
theorem tyX13_ok : ∀ k, k < 3 → parseFieldDescriptor (TX13 k).2.2.1 = some (tyX13 k) := by decide +kernel
abbrev cX13_value : ByteArray := prog_33_method_3_code
def yX13_value : MethodName := ⟨RX13, "value", "(LLastHatch$Facts;)I"⟩
def dkwX13_value_6 : List UInt8 := [172, 28, 154, 0, 7, 29, 153, 0, 7, 4, 167, 0, 4, 3, 184, 0, 24, 172]
abbrev dktX13_value_6 : List UInt8 := dkwX13_value_6 ++ []
def dkwX13_value_5 : List UInt8 := [167, 0, 4, 3, 184, 0, 24, 172, 28, 153, 0, 11, 29, 153, 0, 7, 4, 167, 0, 4, 3, 184, 0, 24]
abbrev dktX13_value_5 : List UInt8 := dkwX13_value_5 ++ dktX13_value_6
def dkwX13_value_4 : List UInt8 := [184, 0, 24, 172, 28, 29, 160, 0, 7, 4, 167, 0, 4, 3, 184, 0, 24, 172, 28, 29, 164, 0, 7, 4]
abbrev dktX13_value_4 : List UInt8 := dkwX13_value_4 ++ dktX13_value_5
def dkwX13_value_3 : List UInt8 := [29, 154, 0, 7, 3, 167, 0, 6, 28, 29, 112, 172, 28, 29, 162, 0, 7, 4, 167, 0, 4, 3]
abbrev dktX13_value_3 : List UInt8 := dkwX13_value_3 ++ dktX13_value_4
def dkwX13_value_2 : List UInt8 := [28, 29, 96, 172, 28, 29, 100, 172, 28, 29, 104, 172, 29, 154, 0, 7, 3, 167, 0, 6, 28, 29, 108, 172]
abbrev dktX13_value_2 : List UInt8 := dkwX13_value_2 ++ dktX13_value_3
def dkwX13_value_1 : List UInt8 := [170, 0, 0, 0, 0, 213, 0, 0, 0, 37, 0, 0, 0, 62, 0, 0, 0, 142, 0, 0, 0, 196, 0, 0, 0, 213, 0, 0, 0, 213, 0, 0, 0, 213, 0, 0, 0, 126, 0, 0, 0, 118, 0, 0, 0, 213, 0, 0, 0, 122, 0, 0, 0, 213, 0, 0, 0, 130, 0, 0, 0, 213, 0, 0, 0, 213, 0, 0, 0, 213, 0, 0, 0, 213, 0, 0, 0, 213, 0, 0, 0, 213, 0, 0, 0, 213, 0, 0, 0, 213, 0, 0, 0, 213, 0, 0, 0, 213, 0, 0, 0, 213, 0, 0, 0, 213, 0, 0, 0, 154, 0, 0, 0, 168, 0, 0, 0, 182]
abbrev dktX13_value_1 : List UInt8 := dkwX13_value_1 ++ dktX13_value_2
def dkwX13_value_0 : List UInt8 := [42, 180, 0, 13, 43, 182, 0, 20, 61, 42, 180, 0, 17, 43, 182, 0, 20, 62, 42, 180, 0, 7]
abbrev dktX13_value_0 : List UInt8 := dkwX13_value_0 ++ dktX13_value_1
theorem dksX13_value_0 : cX13_value.data.toList.drop 0 = dktX13_value_0 := by decide +kernel
theorem dksX13_value_1 : cX13_value.data.toList.drop 22 = dktX13_value_1 := dk_seg dksX13_value_0 22 rfl rfl
theorem dksX13_value_2 : cX13_value.data.toList.drop 140 = dktX13_value_2 := dk_seg dksX13_value_1 118 rfl rfl
theorem dksX13_value_3 : cX13_value.data.toList.drop 164 = dktX13_value_3 := dk_seg dksX13_value_2 24 rfl rfl
theorem dksX13_value_4 : cX13_value.data.toList.drop 186 = dktX13_value_4 := dk_seg dksX13_value_3 22 rfl rfl
theorem dksX13_value_5 : cX13_value.data.toList.drop 210 = dktX13_value_5 := dk_seg dksX13_value_4 24 rfl rfl
theorem dksX13_value_6 : cX13_value.data.toList.drop 234 = dktX13_value_6 := dk_seg dksX13_value_5 24 rfl rfl
theorem dX13_value_0 : decode cX13_value 0 = .ok (.aload_n 0, 1) := dk_42 (dk_at dksX13_value_0 0 rfl rfl)
theorem dX13_value_1 : decode cX13_value 1 = .ok (.getfield 13, 3) := dk_180 0 13 (dk_at dksX13_value_0 1 rfl rfl)
theorem dX13_value_4 : decode cX13_value 4 = .ok (.aload_n 1, 1) := dk_43 (dk_at dksX13_value_0 4 rfl rfl)
theorem dX13_value_5 : decode cX13_value 5 = .ok (.invokevirtual 20, 3) := dk_182 0 20 (dk_at dksX13_value_0 5 rfl rfl)
theorem dX13_value_8 : decode cX13_value 8 = .ok (.istore_n 2, 1) := dk_61 (dk_at dksX13_value_0 8 rfl rfl)
theorem dX13_value_9 : decode cX13_value 9 = .ok (.aload_n 0, 1) := dk_42 (dk_at dksX13_value_0 9 rfl rfl)
theorem dX13_value_10 : decode cX13_value 10 = .ok (.getfield 17, 3) := dk_180 0 17 (dk_at dksX13_value_0 10 rfl rfl)
theorem dX13_value_13 : decode cX13_value 13 = .ok (.aload_n 1, 1) := dk_43 (dk_at dksX13_value_0 13 rfl rfl)
theorem dX13_value_14 : decode cX13_value 14 = .ok (.invokevirtual 20, 3) := dk_182 0 20 (dk_at dksX13_value_0 14 rfl rfl)
theorem dX13_value_17 : decode cX13_value 17 = .ok (.istore_n 3, 1) := dk_62 (dk_at dksX13_value_0 17 rfl rfl)
theorem dX13_value_18 : decode cX13_value 18 = .ok (.aload_n 0, 1) := dk_42 (dk_at dksX13_value_0 18 rfl rfl)
theorem dX13_value_19 : decode cX13_value 19 = .ok (.getfield 7, 3) := dk_180 0 7 (dk_at dksX13_value_0 19 rfl rfl)
theorem dX13_value_22 : decode cX13_value 22 = .ok (.tableswitch 213 37 62 #[142, 196, 213, 213, 213, 126, 118, 213, 122, 213, 130, 213, 213, 213, 213, 213, 213, 213, 213, 213, 213, 213, 213, 154, 168, 182], 118) := by decide +kernel
theorem dX13_value_140 : decode cX13_value 140 = .ok (.iload_n 2, 1) := dk_28 (dk_at dksX13_value_2 0 rfl rfl)
theorem dX13_value_141 : decode cX13_value 141 = .ok (.iload_n 3, 1) := dk_29 (dk_at dksX13_value_2 1 rfl rfl)
theorem dX13_value_142 : decode cX13_value 142 = .ok (.iadd, 1) := dk_96 (dk_at dksX13_value_2 2 rfl rfl)
theorem dX13_value_143 : decode cX13_value 143 = .ok (.ireturn, 1) := dk_172 (dk_at dksX13_value_2 3 rfl rfl)
theorem dX13_value_144 : decode cX13_value 144 = .ok (.iload_n 2, 1) := dk_28 (dk_at dksX13_value_2 4 rfl rfl)
theorem dX13_value_145 : decode cX13_value 145 = .ok (.iload_n 3, 1) := dk_29 (dk_at dksX13_value_2 5 rfl rfl)
theorem dX13_value_146 : decode cX13_value 146 = .ok (.isub, 1) := dk_100 (dk_at dksX13_value_2 6 rfl rfl)
theorem dX13_value_147 : decode cX13_value 147 = .ok (.ireturn, 1) := dk_172 (dk_at dksX13_value_2 7 rfl rfl)
theorem dX13_value_148 : decode cX13_value 148 = .ok (.iload_n 2, 1) := dk_28 (dk_at dksX13_value_2 8 rfl rfl)
theorem dX13_value_149 : decode cX13_value 149 = .ok (.iload_n 3, 1) := dk_29 (dk_at dksX13_value_2 9 rfl rfl)
theorem dX13_value_150 : decode cX13_value 150 = .ok (.imul, 1) := dk_104 (dk_at dksX13_value_2 10 rfl rfl)
theorem dX13_value_151 : decode cX13_value 151 = .ok (.ireturn, 1) := dk_172 (dk_at dksX13_value_2 11 rfl rfl)
theorem dX13_value_152 : decode cX13_value 152 = .ok (.iload_n 3, 1) := dk_29 (dk_at dksX13_value_2 12 rfl rfl)
theorem dX13_value_153 : decode cX13_value 153 = .ok (.ifCond .ne 7, 3) := dk_154 0 7 (dk_at dksX13_value_2 13 rfl rfl)
theorem dX13_value_156 : decode cX13_value 156 = .ok (.iconst 0, 1) := dk_3 (dk_at dksX13_value_2 16 rfl rfl)
theorem dX13_value_157 : decode cX13_value 157 = .ok (.goto 6, 3) := dk_167 0 6 (dk_at dksX13_value_2 17 rfl rfl)
theorem dX13_value_160 : decode cX13_value 160 = .ok (.iload_n 2, 1) := dk_28 (dk_at dksX13_value_2 20 rfl rfl)
theorem dX13_value_161 : decode cX13_value 161 = .ok (.iload_n 3, 1) := dk_29 (dk_at dksX13_value_2 21 rfl rfl)
theorem dX13_value_162 : decode cX13_value 162 = .ok (.idiv, 1) := dk_108 (dk_at dksX13_value_2 22 rfl rfl)
theorem dX13_value_163 : decode cX13_value 163 = .ok (.ireturn, 1) := dk_172 (dk_at dksX13_value_2 23 rfl rfl)
theorem dX13_value_164 : decode cX13_value 164 = .ok (.iload_n 3, 1) := dk_29 (dk_at dksX13_value_3 0 rfl rfl)
theorem dX13_value_165 : decode cX13_value 165 = .ok (.ifCond .ne 7, 3) := dk_154 0 7 (dk_at dksX13_value_3 1 rfl rfl)
theorem dX13_value_168 : decode cX13_value 168 = .ok (.iconst 0, 1) := dk_3 (dk_at dksX13_value_3 4 rfl rfl)
theorem dX13_value_169 : decode cX13_value 169 = .ok (.goto 6, 3) := dk_167 0 6 (dk_at dksX13_value_3 5 rfl rfl)
theorem dX13_value_172 : decode cX13_value 172 = .ok (.iload_n 2, 1) := dk_28 (dk_at dksX13_value_3 8 rfl rfl)
theorem dX13_value_173 : decode cX13_value 173 = .ok (.iload_n 3, 1) := dk_29 (dk_at dksX13_value_3 9 rfl rfl)
theorem dX13_value_174 : decode cX13_value 174 = .ok (.irem, 1) := dk_112 (dk_at dksX13_value_3 10 rfl rfl)
theorem dX13_value_175 : decode cX13_value 175 = .ok (.ireturn, 1) := dk_172 (dk_at dksX13_value_3 11 rfl rfl)
theorem dX13_value_176 : decode cX13_value 176 = .ok (.iload_n 2, 1) := dk_28 (dk_at dksX13_value_3 12 rfl rfl)
theorem dX13_value_177 : decode cX13_value 177 = .ok (.iload_n 3, 1) := dk_29 (dk_at dksX13_value_3 13 rfl rfl)
theorem dX13_value_178 : decode cX13_value 178 = .ok (.if_icmp .ge 7, 3) := dk_162 0 7 (dk_at dksX13_value_3 14 rfl rfl)
theorem dX13_value_181 : decode cX13_value 181 = .ok (.iconst 1, 1) := dk_4 (dk_at dksX13_value_3 17 rfl rfl)
theorem dX13_value_182 : decode cX13_value 182 = .ok (.goto 4, 3) := dk_167 0 4 (dk_at dksX13_value_3 18 rfl rfl)
theorem dX13_value_185 : decode cX13_value 185 = .ok (.iconst 0, 1) := dk_3 (dk_at dksX13_value_3 21 rfl rfl)
theorem dX13_value_186 : decode cX13_value 186 = .ok (.invokestatic 24, 3) := dk_184 0 24 (dk_at dksX13_value_4 0 rfl rfl)
theorem dX13_value_189 : decode cX13_value 189 = .ok (.ireturn, 1) := dk_172 (dk_at dksX13_value_4 3 rfl rfl)
theorem dX13_value_190 : decode cX13_value 190 = .ok (.iload_n 2, 1) := dk_28 (dk_at dksX13_value_4 4 rfl rfl)
theorem dX13_value_191 : decode cX13_value 191 = .ok (.iload_n 3, 1) := dk_29 (dk_at dksX13_value_4 5 rfl rfl)
theorem dX13_value_192 : decode cX13_value 192 = .ok (.if_icmp .ne 7, 3) := dk_160 0 7 (dk_at dksX13_value_4 6 rfl rfl)
theorem dX13_value_195 : decode cX13_value 195 = .ok (.iconst 1, 1) := dk_4 (dk_at dksX13_value_4 9 rfl rfl)
theorem dX13_value_196 : decode cX13_value 196 = .ok (.goto 4, 3) := dk_167 0 4 (dk_at dksX13_value_4 10 rfl rfl)
theorem dX13_value_199 : decode cX13_value 199 = .ok (.iconst 0, 1) := dk_3 (dk_at dksX13_value_4 13 rfl rfl)
theorem dX13_value_200 : decode cX13_value 200 = .ok (.invokestatic 24, 3) := dk_184 0 24 (dk_at dksX13_value_4 14 rfl rfl)
theorem dX13_value_203 : decode cX13_value 203 = .ok (.ireturn, 1) := dk_172 (dk_at dksX13_value_4 17 rfl rfl)
theorem dX13_value_204 : decode cX13_value 204 = .ok (.iload_n 2, 1) := dk_28 (dk_at dksX13_value_4 18 rfl rfl)
theorem dX13_value_205 : decode cX13_value 205 = .ok (.iload_n 3, 1) := dk_29 (dk_at dksX13_value_4 19 rfl rfl)
theorem dX13_value_206 : decode cX13_value 206 = .ok (.if_icmp .le 7, 3) := dk_164 0 7 (dk_at dksX13_value_4 20 rfl rfl)
theorem dX13_value_209 : decode cX13_value 209 = .ok (.iconst 1, 1) := dk_4 (dk_at dksX13_value_4 23 rfl rfl)
theorem dX13_value_210 : decode cX13_value 210 = .ok (.goto 4, 3) := dk_167 0 4 (dk_at dksX13_value_5 0 rfl rfl)
theorem dX13_value_213 : decode cX13_value 213 = .ok (.iconst 0, 1) := dk_3 (dk_at dksX13_value_5 3 rfl rfl)
theorem dX13_value_214 : decode cX13_value 214 = .ok (.invokestatic 24, 3) := dk_184 0 24 (dk_at dksX13_value_5 4 rfl rfl)
theorem dX13_value_217 : decode cX13_value 217 = .ok (.ireturn, 1) := dk_172 (dk_at dksX13_value_5 7 rfl rfl)
theorem dX13_value_218 : decode cX13_value 218 = .ok (.iload_n 2, 1) := dk_28 (dk_at dksX13_value_5 8 rfl rfl)
theorem dX13_value_219 : decode cX13_value 219 = .ok (.ifCond .eq 11, 3) := dk_153 0 11 (dk_at dksX13_value_5 9 rfl rfl)
theorem dX13_value_222 : decode cX13_value 222 = .ok (.iload_n 3, 1) := dk_29 (dk_at dksX13_value_5 12 rfl rfl)
theorem dX13_value_223 : decode cX13_value 223 = .ok (.ifCond .eq 7, 3) := dk_153 0 7 (dk_at dksX13_value_5 13 rfl rfl)
theorem dX13_value_226 : decode cX13_value 226 = .ok (.iconst 1, 1) := dk_4 (dk_at dksX13_value_5 16 rfl rfl)
theorem dX13_value_227 : decode cX13_value 227 = .ok (.goto 4, 3) := dk_167 0 4 (dk_at dksX13_value_5 17 rfl rfl)
theorem dX13_value_230 : decode cX13_value 230 = .ok (.iconst 0, 1) := dk_3 (dk_at dksX13_value_5 20 rfl rfl)
theorem dX13_value_231 : decode cX13_value 231 = .ok (.invokestatic 24, 3) := dk_184 0 24 (dk_at dksX13_value_5 21 rfl rfl)
theorem dX13_value_234 : decode cX13_value 234 = .ok (.ireturn, 1) := dk_172 (dk_at dksX13_value_6 0 rfl rfl)
theorem dX13_value_235 : decode cX13_value 235 = .ok (.iload_n 2, 1) := dk_28 (dk_at dksX13_value_6 1 rfl rfl)
theorem dX13_value_236 : decode cX13_value 236 = .ok (.ifCond .ne 7, 3) := dk_154 0 7 (dk_at dksX13_value_6 2 rfl rfl)
theorem dX13_value_239 : decode cX13_value 239 = .ok (.iload_n 3, 1) := dk_29 (dk_at dksX13_value_6 5 rfl rfl)
theorem dX13_value_240 : decode cX13_value 240 = .ok (.ifCond .eq 7, 3) := dk_153 0 7 (dk_at dksX13_value_6 6 rfl rfl)
theorem dX13_value_243 : decode cX13_value 243 = .ok (.iconst 1, 1) := dk_4 (dk_at dksX13_value_6 9 rfl rfl)
theorem dX13_value_244 : decode cX13_value 244 = .ok (.goto 4, 3) := dk_167 0 4 (dk_at dksX13_value_6 10 rfl rfl)
theorem dX13_value_247 : decode cX13_value 247 = .ok (.iconst 0, 1) := dk_3 (dk_at dksX13_value_6 13 rfl rfl)
theorem dX13_value_248 : decode cX13_value 248 = .ok (.invokestatic 24, 3) := dk_184 0 24 (dk_at dksX13_value_6 14 rfl rfl)
theorem dX13_value_251 : decode cX13_value 251 = .ok (.ireturn, 1) := dk_172 (dk_at dksX13_value_6 17 rfl rfl)
abbrev cX13_is : ByteArray := prog_33_method_2_code
def yX13_is : MethodName := ⟨RX13, "is", "(Z)I"⟩
def dkwX13_is_0 : List UInt8 := [26, 153, 0, 7, 4, 167, 0, 4, 3, 172]
abbrev dktX13_is_0 : List UInt8 := dkwX13_is_0 ++ []
theorem dksX13_is_0 : cX13_is.data.toList.drop 0 = dktX13_is_0 := by decide +kernel
theorem dX13_is_0 : decode cX13_is 0 = .ok (.iload_n 0, 1) := dk_26 (dk_at dksX13_is_0 0 rfl rfl)
theorem dX13_is_1 : decode cX13_is 1 = .ok (.ifCond .eq 7, 3) := dk_153 0 7 (dk_at dksX13_is_0 1 rfl rfl)
theorem dX13_is_4 : decode cX13_is 4 = .ok (.iconst 1, 1) := dk_4 (dk_at dksX13_is_0 4 rfl rfl)
theorem dX13_is_5 : decode cX13_is 5 = .ok (.goto 4, 3) := dk_167 0 4 (dk_at dksX13_is_0 5 rfl rfl)
theorem dX13_is_8 : decode cX13_is 8 = .ok (.iconst 0, 1) := dk_3 (dk_at dksX13_is_0 8 rfl rfl)
theorem dX13_is_9 : decode cX13_is 9 = .ok (.ireturn, 1) := dk_172 (dk_at dksX13_is_0 9 rfl rfl)
abbrev cX13_init : ByteArray := prog_33_method_1_code
def yX13_init : MethodName := ⟨RX13, "<init>", "(ILLastHatch$Term;LLastHatch$Term;)V"⟩
def dkwX13_init_0 : List UInt8 := [42, 183, 0, 1, 42, 27, 181, 0, 7, 42, 44, 181, 0, 13, 42, 45, 181, 0, 17, 177]
abbrev dktX13_init_0 : List UInt8 := dkwX13_init_0 ++ []
theorem dksX13_init_0 : cX13_init.data.toList.drop 0 = dktX13_init_0 := by decide +kernel
theorem dX13_init_0 : decode cX13_init 0 = .ok (.aload_n 0, 1) := dk_42 (dk_at dksX13_init_0 0 rfl rfl)
theorem dX13_init_1 : decode cX13_init 1 = .ok (.invokespecial 1, 3) := dk_183 0 1 (dk_at dksX13_init_0 1 rfl rfl)
theorem dX13_init_4 : decode cX13_init 4 = .ok (.aload_n 0, 1) := dk_42 (dk_at dksX13_init_0 4 rfl rfl)
theorem dX13_init_5 : decode cX13_init 5 = .ok (.iload_n 1, 1) := dk_27 (dk_at dksX13_init_0 5 rfl rfl)
theorem dX13_init_6 : decode cX13_init 6 = .ok (.putfield 7, 3) := dk_181 0 7 (dk_at dksX13_init_0 6 rfl rfl)
theorem dX13_init_9 : decode cX13_init 9 = .ok (.aload_n 0, 1) := dk_42 (dk_at dksX13_init_0 9 rfl rfl)
theorem dX13_init_10 : decode cX13_init 10 = .ok (.aload_n 2, 1) := dk_44 (dk_at dksX13_init_0 10 rfl rfl)
theorem dX13_init_11 : decode cX13_init 11 = .ok (.putfield 13, 3) := dk_181 0 13 (dk_at dksX13_init_0 11 rfl rfl)
theorem dX13_init_14 : decode cX13_init 14 = .ok (.aload_n 0, 1) := dk_42 (dk_at dksX13_init_0 14 rfl rfl)
theorem dX13_init_15 : decode cX13_init 15 = .ok (.aload_n 3, 1) := dk_45 (dk_at dksX13_init_0 15 rfl rfl)
theorem dX13_init_16 : decode cX13_init 16 = .ok (.putfield 17, 3) := dk_181 0 17 (dk_at dksX13_init_0 16 rfl rfl)
theorem dX13_init_19 : decode cX13_init 19 = .ok (.return_, 1) := dk_177 (dk_at dksX13_init_0 19 rfl rfl)
theorem q104 : (Jvm.Cond.initialized "LastHatch$Two") ∈ lw_all := lw_g (lw_at lw_m1 26 rfl) rfl
theorem q617 : (Jvm.Cond.selects "LastHatch$Two" ({ cls := "java/lang/Object", name := "getClass", desc := "()Ljava/lang/Class;" } : Jvm.MethodName) ({ cls := "java/lang/Object", name := "getClass", desc := "()Ljava/lang/Class;" } : Jvm.MethodName)) ∈ lw_all := lw_g (lw_at lw_m3 59 rfl) rfl
theorem q757 : (Jvm.Cond.instanceMethod ({ cls := "LastHatch$Two", name := "value", desc := "(LLastHatch$Facts;)I" } : Jvm.MethodName)) ∈ lw_all := lw_g (lw_at lw_m3 199 rfl) rfl
theorem q758 : (Jvm.Cond.code ({ cls := "LastHatch$Two", name := "value", desc := "(LLastHatch$Facts;)I" } : Jvm.MethodName) prog_33_method_3_code (4 : Nat) (Option.some Jvm.ClassFile.FieldType.int)) ∈ lw_all := lw_g (lw_at lw_m3 200 rfl) rfl
theorem q759 : (Jvm.Cond.methodLink "LastHatch$Two" (20 : Nat) ({ cls := "LastHatch$Term", name := "value", desc := "(LLastHatch$Facts;)I" } : Jvm.MethodName)) ∈ lw_all := lw_g (lw_at lw_m3 201 rfl) rfl
theorem q760 : (Jvm.Cond.methodLink "LastHatch$Two" (24 : Nat) ({ cls := "LastHatch$Two", name := "is", desc := "(Z)I" } : Jvm.MethodName)) ∈ lw_all := lw_g (lw_at lw_m3 202 rfl) rfl
theorem q761 : (Jvm.Cond.static ({ cls := "LastHatch$Two", name := "is", desc := "(Z)I" } : Jvm.MethodName)) ∈ lw_all := lw_g (lw_at lw_m3 203 rfl) rfl
theorem q762 : (Jvm.Cond.code ({ cls := "LastHatch$Two", name := "is", desc := "(Z)I" } : Jvm.MethodName) prog_33_method_2_code (1 : Nat) (Option.some Jvm.ClassFile.FieldType.int)) ∈ lw_all := lw_g (lw_at lw_m3 204 rfl) rfl
theorem q763 : (Jvm.Cond.selects "LastHatch$Two" ({ cls := "LastHatch$Term", name := "value", desc := "(LLastHatch$Facts;)I" } : Jvm.MethodName) ({ cls := "LastHatch$Two", name := "value", desc := "(LLastHatch$Facts;)I" } : Jvm.MethodName)) ∈ lw_all := lw_g (lw_at lw_m3 205 rfl) rfl
theorem q1031 : (Jvm.Cond.instantiable "LastHatch$Two" (3 : Nat)) ∈ lw_all := lw_g (lw_at lw_m4 233 rfl) rfl
theorem q1033 : (Jvm.Cond.instanceMethod ({ cls := "LastHatch$Two", name := "<init>", desc := "(ILLastHatch$Term;LLastHatch$Term;)V" } : Jvm.MethodName)) ∈ lw_all := lw_g (lw_at lw_m4 235 rfl) rfl
theorem q1034 : (Jvm.Cond.code ({ cls := "LastHatch$Two", name := "<init>", desc := "(ILLastHatch$Term;LLastHatch$Term;)V" } : Jvm.MethodName) prog_33_method_1_code (4 : Nat) (Option.none : Option Jvm.ClassFile.FieldType)) ∈ lw_all := lw_g (lw_at lw_m4 236 rfl) rfl
theorem q1035 : (Jvm.Cond.methodLinkNest "LastHatch$Two" (1 : Nat) ({ cls := "LastHatch$Term", name := "<init>", desc := "()V" } : Jvm.MethodName) "LastHatch") ∈ lw_tbl := lw_at lw_m4 237 rfl
theorem q1036 : (Jvm.Cond.fieldLink "LastHatch$Two" (7 : Nat) "LastHatch$Two" "sign" "I") ∈ lw_all := lw_g (lw_at lw_m4 238 rfl) rfl
theorem q1037 : (Jvm.Cond.fieldLink "LastHatch$Two" (13 : Nat) "LastHatch$Two" "a" "LLastHatch$Term;") ∈ lw_all := lw_g (lw_at lw_m4 239 rfl) rfl
theorem q1038 : (Jvm.Cond.fieldLink "LastHatch$Two" (17 : Nat) "LastHatch$Two" "b" "LLastHatch$Term;") ∈ lw_all := lw_g (lw_at lw_m5 0 rfl) rfl
theorem q1039 : (Jvm.Cond.laysFinal "LastHatch$Two" "LastHatch$Two" "sign" "I") ∈ lw_all := lw_g (lw_at lw_m5 1 rfl) rfl
theorem q1040 : (Jvm.Cond.soleField "LastHatch$Two" "sign") ∈ lw_all := lw_g (lw_at lw_m5 2 rfl) rfl
theorem q1041 : (Jvm.Cond.laysFinal "LastHatch$Two" "LastHatch$Two" "a" "LLastHatch$Term;") ∈ lw_all := lw_g (lw_at lw_m5 3 rfl) rfl
theorem q1042 : (Jvm.Cond.soleField "LastHatch$Two" "a") ∈ lw_all := lw_g (lw_at lw_m5 4 rfl) rfl
theorem q1043 : (Jvm.Cond.laysFinal "LastHatch$Two" "LastHatch$Two" "b" "LLastHatch$Term;") ∈ lw_all := lw_g (lw_at lw_m5 5 rfl) rfl
theorem q1044 : (Jvm.Cond.soleField "LastHatch$Two" "b") ∈ lw_all := lw_g (lw_at lw_m5 6 rfl) rfl
theorem q1045 : (Jvm.Cond.superclass "LastHatch$Two" "LastHatch$Term") ∈ lw_all := lw_g (lw_at lw_m5 7 rfl) rfl
theorem q2550 : (Jvm.Cond.castable "LastHatch$Two" "java/lang/Object") ∈ lw_tbl := lw_at lw_m11 72 rfl
theorem q2566 : (Jvm.Cond.castable "LastHatch$Two" "LastHatch$Term") ∈ lw_tbl := lw_at lw_m11 88 rfl
theorem in_X13 : ∀ w ∈ wsX130, w ∈ lw_all := lw_in wsX130 [1039, 1041, 1043] (by decide +kernel) (by decide +kernel)

/-! LastHatch$Reader -/
set_option maxRecDepth 100000
def RX14 : String := "LastHatch$Reader"
def TX14 : u_T := fun k => match k with
  | 0 => ("LastHatch$Reader", "names", "Ljava/lang/String;", true)
  | 1 => ("LastHatch$Reader", "bytes", "[B", true)
  | 2 => ("LastHatch$Reader", "size", "I", true)
  | 3 => ("LastHatch$Reader", "at", "I", false)
  | _ => ("LastHatch$Reader", "open", "I", false)
def tyX14 : Nat → FieldType := fun k => match k with
  | 0 => .object "java/lang/String"
  | 1 => .array .byte
  | 2 => .int
  | 3 => .int
  | _ => .int
abbrev wsX140 : List Cond := u_ws RX14 TX14 5
theorem nmX14 : ∀ a, a < 5 → ∀ b, b < 5 → a ≠ b → (TX14 a).2.1 ≠ (TX14 b).2.1 := by decide +kernel
theorem tyX14_ok : ∀ k, k < 5 → parseFieldDescriptor (TX14 k).2.2.1 = some (tyX14 k) := by decide +kernel
abbrev cX14_init : ByteArray := prog_20_method_1_code
def yX14_init : MethodName := ⟨RX14, "<init>", "(Ljava/lang/String;[BI)V"⟩
def dkwX14_init_0 : List UInt8 := [42, 183, 0, 3, 42, 43, 181, 0, 9, 42, 44, 181, 0, 15, 42, 29, 181, 0, 19, 177]
abbrev dktX14_init_0 : List UInt8 := dkwX14_init_0 ++ []
theorem dksX14_init_0 : cX14_init.data.toList.drop 0 = dktX14_init_0 := by decide +kernel
theorem dX14_init_0 : decode cX14_init 0 = .ok (.aload_n 0, 1) := dk_42 (dk_at dksX14_init_0 0 rfl rfl)
theorem dX14_init_1 : decode cX14_init 1 = .ok (.invokespecial 3, 3) := dk_183 0 3 (dk_at dksX14_init_0 1 rfl rfl)
theorem dX14_init_4 : decode cX14_init 4 = .ok (.aload_n 0, 1) := dk_42 (dk_at dksX14_init_0 4 rfl rfl)
theorem dX14_init_5 : decode cX14_init 5 = .ok (.aload_n 1, 1) := dk_43 (dk_at dksX14_init_0 5 rfl rfl)
theorem dX14_init_6 : decode cX14_init 6 = .ok (.putfield 9, 3) := dk_181 0 9 (dk_at dksX14_init_0 6 rfl rfl)
theorem dX14_init_9 : decode cX14_init 9 = .ok (.aload_n 0, 1) := dk_42 (dk_at dksX14_init_0 9 rfl rfl)
theorem dX14_init_10 : decode cX14_init 10 = .ok (.aload_n 2, 1) := dk_44 (dk_at dksX14_init_0 10 rfl rfl)
theorem dX14_init_11 : decode cX14_init 11 = .ok (.putfield 15, 3) := dk_181 0 15 (dk_at dksX14_init_0 11 rfl rfl)
theorem dX14_init_14 : decode cX14_init 14 = .ok (.aload_n 0, 1) := dk_42 (dk_at dksX14_init_0 14 rfl rfl)
theorem dX14_init_15 : decode cX14_init 15 = .ok (.iload_n 3, 1) := dk_29 (dk_at dksX14_init_0 15 rfl rfl)
theorem dX14_init_16 : decode cX14_init 16 = .ok (.putfield 19, 3) := dk_181 0 19 (dk_at dksX14_init_0 16 rfl rfl)
theorem dX14_init_19 : decode cX14_init 19 = .ok (.return_, 1) := dk_177 (dk_at dksX14_init_0 19 rfl rfl)
abbrev cX14_read : ByteArray := prog_20_method_2_code
def yX14_read : MethodName := ⟨RX14, "read", "()LLastHatch$Term;"⟩
def dkwX14_read_1 : List UInt8 := [182, 0, 30, 43, 176]
abbrev dktX14_read_1 : List UInt8 := dkwX14_read_1 ++ []
def dkwX14_read_0 : List UInt8 := [42, 182, 0, 23, 76, 42, 42, 180, 0, 27, 42, 180, 0, 19, 160, 0, 7, 4, 167, 0, 4, 3]
abbrev dktX14_read_0 : List UInt8 := dkwX14_read_0 ++ dktX14_read_1
theorem dksX14_read_0 : cX14_read.data.toList.drop 0 = dktX14_read_0 := by decide +kernel
theorem dksX14_read_1 : cX14_read.data.toList.drop 22 = dktX14_read_1 := dk_seg dksX14_read_0 22 rfl rfl
theorem dX14_read_0 : decode cX14_read 0 = .ok (.aload_n 0, 1) := dk_42 (dk_at dksX14_read_0 0 rfl rfl)
theorem dX14_read_1 : decode cX14_read 1 = .ok (.invokevirtual 23, 3) := dk_182 0 23 (dk_at dksX14_read_0 1 rfl rfl)
theorem dX14_read_4 : decode cX14_read 4 = .ok (.astore_n 1, 1) := dk_76 (dk_at dksX14_read_0 4 rfl rfl)
theorem dX14_read_5 : decode cX14_read 5 = .ok (.aload_n 0, 1) := dk_42 (dk_at dksX14_read_0 5 rfl rfl)
theorem dX14_read_6 : decode cX14_read 6 = .ok (.aload_n 0, 1) := dk_42 (dk_at dksX14_read_0 6 rfl rfl)
theorem dX14_read_7 : decode cX14_read 7 = .ok (.getfield 27, 3) := dk_180 0 27 (dk_at dksX14_read_0 7 rfl rfl)
theorem dX14_read_10 : decode cX14_read 10 = .ok (.aload_n 0, 1) := dk_42 (dk_at dksX14_read_0 10 rfl rfl)
theorem dX14_read_11 : decode cX14_read 11 = .ok (.getfield 19, 3) := dk_180 0 19 (dk_at dksX14_read_0 11 rfl rfl)
theorem dX14_read_14 : decode cX14_read 14 = .ok (.if_icmp .ne 7, 3) := dk_160 0 7 (dk_at dksX14_read_0 14 rfl rfl)
theorem dX14_read_17 : decode cX14_read 17 = .ok (.iconst 1, 1) := dk_4 (dk_at dksX14_read_0 17 rfl rfl)
theorem dX14_read_18 : decode cX14_read 18 = .ok (.goto 4, 3) := dk_167 0 4 (dk_at dksX14_read_0 18 rfl rfl)
theorem dX14_read_21 : decode cX14_read 21 = .ok (.iconst 0, 1) := dk_3 (dk_at dksX14_read_0 21 rfl rfl)
theorem dX14_read_22 : decode cX14_read 22 = .ok (.invokevirtual 30, 3) := dk_182 0 30 (dk_at dksX14_read_1 0 rfl rfl)
theorem dX14_read_25 : decode cX14_read 25 = .ok (.aload_n 1, 1) := dk_43 (dk_at dksX14_read_1 3 rfl rfl)
theorem dX14_read_26 : decode cX14_read 26 = .ok (.areturn, 1) := dk_176 (dk_at dksX14_read_1 4 rfl rfl)
abbrev cX14_either : ByteArray := prog_20_method_6_code
def yX14_either : MethodName := ⟨RX14, "either", "()LLastHatch$Term;"⟩
def dkwX14_either_1 : List UInt8 := [187, 0, 58, 89, 16, 124, 43, 42, 182, 0, 49, 183, 0, 60, 76, 167, 255, 222, 43, 176]
abbrev dktX14_either_1 : List UInt8 := dkwX14_either_1 ++ []
def dkwX14_either_0 : List UInt8 := [42, 182, 0, 49, 76, 42, 18, 52, 182, 0, 54, 153, 0, 31, 42, 89, 180, 0, 27, 4, 96, 181, 0, 27]
abbrev dktX14_either_0 : List UInt8 := dkwX14_either_0 ++ dktX14_either_1
theorem dksX14_either_0 : cX14_either.data.toList.drop 0 = dktX14_either_0 := by decide +kernel
theorem dksX14_either_1 : cX14_either.data.toList.drop 24 = dktX14_either_1 := dk_seg dksX14_either_0 24 rfl rfl
theorem dX14_either_0 : decode cX14_either 0 = .ok (.aload_n 0, 1) := dk_42 (dk_at dksX14_either_0 0 rfl rfl)
theorem dX14_either_1 : decode cX14_either 1 = .ok (.invokevirtual 49, 3) := dk_182 0 49 (dk_at dksX14_either_0 1 rfl rfl)
theorem dX14_either_4 : decode cX14_either 4 = .ok (.astore_n 1, 1) := dk_76 (dk_at dksX14_either_0 4 rfl rfl)
theorem dX14_either_5 : decode cX14_either 5 = .ok (.aload_n 0, 1) := dk_42 (dk_at dksX14_either_0 5 rfl rfl)
theorem dX14_either_6 : decode cX14_either 6 = .ok (.ldc 52, 2) := dk_18 52 (dk_at dksX14_either_0 6 rfl rfl)
theorem dX14_either_8 : decode cX14_either 8 = .ok (.invokevirtual 54, 3) := dk_182 0 54 (dk_at dksX14_either_0 8 rfl rfl)
theorem dX14_either_11 : decode cX14_either 11 = .ok (.ifCond .eq 31, 3) := dk_153 0 31 (dk_at dksX14_either_0 11 rfl rfl)
theorem dX14_either_14 : decode cX14_either 14 = .ok (.aload_n 0, 1) := dk_42 (dk_at dksX14_either_0 14 rfl rfl)
theorem dX14_either_15 : decode cX14_either 15 = .ok (.dup, 1) := dk_89 (dk_at dksX14_either_0 15 rfl rfl)
theorem dX14_either_16 : decode cX14_either 16 = .ok (.getfield 27, 3) := dk_180 0 27 (dk_at dksX14_either_0 16 rfl rfl)
theorem dX14_either_19 : decode cX14_either 19 = .ok (.iconst 1, 1) := dk_4 (dk_at dksX14_either_0 19 rfl rfl)
theorem dX14_either_20 : decode cX14_either 20 = .ok (.iadd, 1) := dk_96 (dk_at dksX14_either_0 20 rfl rfl)
theorem dX14_either_21 : decode cX14_either 21 = .ok (.putfield 27, 3) := dk_181 0 27 (dk_at dksX14_either_0 21 rfl rfl)
theorem dX14_either_24 : decode cX14_either 24 = .ok (.new 58, 3) := dk_187 0 58 (dk_at dksX14_either_1 0 rfl rfl)
theorem dX14_either_27 : decode cX14_either 27 = .ok (.dup, 1) := dk_89 (dk_at dksX14_either_1 3 rfl rfl)
theorem dX14_either_28 : decode cX14_either 28 = .ok (.bipush 124, 2) := dk_16 124 (dk_at dksX14_either_1 4 rfl rfl)
theorem dX14_either_30 : decode cX14_either 30 = .ok (.aload_n 1, 1) := dk_43 (dk_at dksX14_either_1 6 rfl rfl)
theorem dX14_either_31 : decode cX14_either 31 = .ok (.aload_n 0, 1) := dk_42 (dk_at dksX14_either_1 7 rfl rfl)
theorem dX14_either_32 : decode cX14_either 32 = .ok (.invokevirtual 49, 3) := dk_182 0 49 (dk_at dksX14_either_1 8 rfl rfl)
theorem dX14_either_35 : decode cX14_either 35 = .ok (.invokespecial 60, 3) := dk_183 0 60 (dk_at dksX14_either_1 11 rfl rfl)
theorem dX14_either_38 : decode cX14_either 38 = .ok (.astore_n 1, 1) := dk_76 (dk_at dksX14_either_1 14 rfl rfl)
theorem dX14_either_39 : decode cX14_either 39 = .ok (.goto (-34), 3) := dk_167 255 222 (dk_at dksX14_either_1 15 rfl rfl)
theorem dX14_either_42 : decode cX14_either 42 = .ok (.aload_n 1, 1) := dk_43 (dk_at dksX14_either_1 18 rfl rfl)
theorem dX14_either_43 : decode cX14_either 43 = .ok (.areturn, 1) := dk_176 (dk_at dksX14_either_1 19 rfl rfl)
abbrev cX14_both : ByteArray := prog_20_method_7_code
def yX14_both : MethodName := ⟨RX14, "both", "()LLastHatch$Term;"⟩
def dkwX14_both_1 : List UInt8 := [187, 0, 58, 89, 16, 38, 43, 42, 182, 0, 63, 183, 0, 60, 76, 167, 255, 222, 43, 176]
abbrev dktX14_both_1 : List UInt8 := dkwX14_both_1 ++ []
def dkwX14_both_0 : List UInt8 := [42, 182, 0, 63, 76, 42, 18, 66, 182, 0, 54, 153, 0, 31, 42, 89, 180, 0, 27, 4, 96, 181, 0, 27]
abbrev dktX14_both_0 : List UInt8 := dkwX14_both_0 ++ dktX14_both_1
theorem dksX14_both_0 : cX14_both.data.toList.drop 0 = dktX14_both_0 := by decide +kernel
theorem dksX14_both_1 : cX14_both.data.toList.drop 24 = dktX14_both_1 := dk_seg dksX14_both_0 24 rfl rfl
theorem dX14_both_0 : decode cX14_both 0 = .ok (.aload_n 0, 1) := dk_42 (dk_at dksX14_both_0 0 rfl rfl)
theorem dX14_both_1 : decode cX14_both 1 = .ok (.invokevirtual 63, 3) := dk_182 0 63 (dk_at dksX14_both_0 1 rfl rfl)
theorem dX14_both_4 : decode cX14_both 4 = .ok (.astore_n 1, 1) := dk_76 (dk_at dksX14_both_0 4 rfl rfl)
theorem dX14_both_5 : decode cX14_both 5 = .ok (.aload_n 0, 1) := dk_42 (dk_at dksX14_both_0 5 rfl rfl)
theorem dX14_both_6 : decode cX14_both 6 = .ok (.ldc 66, 2) := dk_18 66 (dk_at dksX14_both_0 6 rfl rfl)
theorem dX14_both_8 : decode cX14_both 8 = .ok (.invokevirtual 54, 3) := dk_182 0 54 (dk_at dksX14_both_0 8 rfl rfl)
theorem dX14_both_11 : decode cX14_both 11 = .ok (.ifCond .eq 31, 3) := dk_153 0 31 (dk_at dksX14_both_0 11 rfl rfl)
theorem dX14_both_14 : decode cX14_both 14 = .ok (.aload_n 0, 1) := dk_42 (dk_at dksX14_both_0 14 rfl rfl)
theorem dX14_both_15 : decode cX14_both 15 = .ok (.dup, 1) := dk_89 (dk_at dksX14_both_0 15 rfl rfl)
theorem dX14_both_16 : decode cX14_both 16 = .ok (.getfield 27, 3) := dk_180 0 27 (dk_at dksX14_both_0 16 rfl rfl)
theorem dX14_both_19 : decode cX14_both 19 = .ok (.iconst 1, 1) := dk_4 (dk_at dksX14_both_0 19 rfl rfl)
theorem dX14_both_20 : decode cX14_both 20 = .ok (.iadd, 1) := dk_96 (dk_at dksX14_both_0 20 rfl rfl)
theorem dX14_both_21 : decode cX14_both 21 = .ok (.putfield 27, 3) := dk_181 0 27 (dk_at dksX14_both_0 21 rfl rfl)
theorem dX14_both_24 : decode cX14_both 24 = .ok (.new 58, 3) := dk_187 0 58 (dk_at dksX14_both_1 0 rfl rfl)
theorem dX14_both_27 : decode cX14_both 27 = .ok (.dup, 1) := dk_89 (dk_at dksX14_both_1 3 rfl rfl)
theorem dX14_both_28 : decode cX14_both 28 = .ok (.bipush 38, 2) := dk_16 38 (dk_at dksX14_both_1 4 rfl rfl)
theorem dX14_both_30 : decode cX14_both 30 = .ok (.aload_n 1, 1) := dk_43 (dk_at dksX14_both_1 6 rfl rfl)
theorem dX14_both_31 : decode cX14_both 31 = .ok (.aload_n 0, 1) := dk_42 (dk_at dksX14_both_1 7 rfl rfl)
theorem dX14_both_32 : decode cX14_both 32 = .ok (.invokevirtual 63, 3) := dk_182 0 63 (dk_at dksX14_both_1 8 rfl rfl)
theorem dX14_both_35 : decode cX14_both 35 = .ok (.invokespecial 60, 3) := dk_183 0 60 (dk_at dksX14_both_1 11 rfl rfl)
theorem dX14_both_38 : decode cX14_both 38 = .ok (.astore_n 1, 1) := dk_76 (dk_at dksX14_both_1 14 rfl rfl)
theorem dX14_both_39 : decode cX14_both 39 = .ok (.goto (-34), 3) := dk_167 255 222 (dk_at dksX14_both_1 15 rfl rfl)
theorem dX14_both_42 : decode cX14_both 42 = .ok (.aload_n 1, 1) := dk_43 (dk_at dksX14_both_1 18 rfl rfl)
theorem dX14_both_43 : decode cX14_both 43 = .ok (.areturn, 1) := dk_176 (dk_at dksX14_both_1 19 rfl rfl)
abbrev cX14_relation : ByteArray := prog_20_method_8_code
def yX14_relation : MethodName := ⟨RX14, "relation", "()LLastHatch$Term;"⟩
def dkwX14_relation_1 : List UInt8 := [180, 0, 27, 4, 96, 181, 0, 27, 187, 0, 58, 89, 28, 43, 42, 182, 0, 68, 183, 0, 60, 176]
abbrev dktX14_relation_1 : List UInt8 := dkwX14_relation_1 ++ []
def dkwX14_relation_0 : List UInt8 := [42, 182, 0, 68, 76, 42, 18, 71, 182, 0, 54, 154, 0, 5, 43, 176, 42, 182, 0, 39, 61, 42, 89]
abbrev dktX14_relation_0 : List UInt8 := dkwX14_relation_0 ++ dktX14_relation_1
theorem dksX14_relation_0 : cX14_relation.data.toList.drop 0 = dktX14_relation_0 := by decide +kernel
theorem dksX14_relation_1 : cX14_relation.data.toList.drop 23 = dktX14_relation_1 := dk_seg dksX14_relation_0 23 rfl rfl
theorem dX14_relation_0 : decode cX14_relation 0 = .ok (.aload_n 0, 1) := dk_42 (dk_at dksX14_relation_0 0 rfl rfl)
theorem dX14_relation_1 : decode cX14_relation 1 = .ok (.invokevirtual 68, 3) := dk_182 0 68 (dk_at dksX14_relation_0 1 rfl rfl)
theorem dX14_relation_4 : decode cX14_relation 4 = .ok (.astore_n 1, 1) := dk_76 (dk_at dksX14_relation_0 4 rfl rfl)
theorem dX14_relation_5 : decode cX14_relation 5 = .ok (.aload_n 0, 1) := dk_42 (dk_at dksX14_relation_0 5 rfl rfl)
theorem dX14_relation_6 : decode cX14_relation 6 = .ok (.ldc 71, 2) := dk_18 71 (dk_at dksX14_relation_0 6 rfl rfl)
theorem dX14_relation_8 : decode cX14_relation 8 = .ok (.invokevirtual 54, 3) := dk_182 0 54 (dk_at dksX14_relation_0 8 rfl rfl)
theorem dX14_relation_11 : decode cX14_relation 11 = .ok (.ifCond .ne 5, 3) := dk_154 0 5 (dk_at dksX14_relation_0 11 rfl rfl)
theorem dX14_relation_14 : decode cX14_relation 14 = .ok (.aload_n 1, 1) := dk_43 (dk_at dksX14_relation_0 14 rfl rfl)
theorem dX14_relation_15 : decode cX14_relation 15 = .ok (.areturn, 1) := dk_176 (dk_at dksX14_relation_0 15 rfl rfl)
theorem dX14_relation_16 : decode cX14_relation 16 = .ok (.aload_n 0, 1) := dk_42 (dk_at dksX14_relation_0 16 rfl rfl)
theorem dX14_relation_17 : decode cX14_relation 17 = .ok (.invokevirtual 39, 3) := dk_182 0 39 (dk_at dksX14_relation_0 17 rfl rfl)
theorem dX14_relation_20 : decode cX14_relation 20 = .ok (.istore_n 2, 1) := dk_61 (dk_at dksX14_relation_0 20 rfl rfl)
theorem dX14_relation_21 : decode cX14_relation 21 = .ok (.aload_n 0, 1) := dk_42 (dk_at dksX14_relation_0 21 rfl rfl)
theorem dX14_relation_22 : decode cX14_relation 22 = .ok (.dup, 1) := dk_89 (dk_at dksX14_relation_0 22 rfl rfl)
theorem dX14_relation_23 : decode cX14_relation 23 = .ok (.getfield 27, 3) := dk_180 0 27 (dk_at dksX14_relation_1 0 rfl rfl)
theorem dX14_relation_26 : decode cX14_relation 26 = .ok (.iconst 1, 1) := dk_4 (dk_at dksX14_relation_1 3 rfl rfl)
theorem dX14_relation_27 : decode cX14_relation 27 = .ok (.iadd, 1) := dk_96 (dk_at dksX14_relation_1 4 rfl rfl)
theorem dX14_relation_28 : decode cX14_relation 28 = .ok (.putfield 27, 3) := dk_181 0 27 (dk_at dksX14_relation_1 5 rfl rfl)
theorem dX14_relation_31 : decode cX14_relation 31 = .ok (.new 58, 3) := dk_187 0 58 (dk_at dksX14_relation_1 8 rfl rfl)
theorem dX14_relation_34 : decode cX14_relation 34 = .ok (.dup, 1) := dk_89 (dk_at dksX14_relation_1 11 rfl rfl)
theorem dX14_relation_35 : decode cX14_relation 35 = .ok (.iload_n 2, 1) := dk_28 (dk_at dksX14_relation_1 12 rfl rfl)
theorem dX14_relation_36 : decode cX14_relation 36 = .ok (.aload_n 1, 1) := dk_43 (dk_at dksX14_relation_1 13 rfl rfl)
theorem dX14_relation_37 : decode cX14_relation 37 = .ok (.aload_n 0, 1) := dk_42 (dk_at dksX14_relation_1 14 rfl rfl)
theorem dX14_relation_38 : decode cX14_relation 38 = .ok (.invokevirtual 68, 3) := dk_182 0 68 (dk_at dksX14_relation_1 15 rfl rfl)
theorem dX14_relation_41 : decode cX14_relation 41 = .ok (.invokespecial 60, 3) := dk_183 0 60 (dk_at dksX14_relation_1 18 rfl rfl)
theorem dX14_relation_44 : decode cX14_relation 44 = .ok (.areturn, 1) := dk_176 (dk_at dksX14_relation_1 21 rfl rfl)
abbrev cX14_sum : ByteArray := prog_20_method_9_code
def yX14_sum : MethodName := ⟨RX14, "sum", "()LLastHatch$Term;"⟩
def dkwX14_sum_1 : List UInt8 := [4, 96, 181, 0, 27, 187, 0, 58, 89, 28, 43, 42, 182, 0, 73, 183, 0, 60, 76, 167, 255, 218, 43, 176]
abbrev dktX14_sum_1 : List UInt8 := dkwX14_sum_1 ++ []
def dkwX14_sum_0 : List UInt8 := [42, 182, 0, 73, 76, 42, 18, 76, 182, 0, 54, 153, 0, 35, 42, 182, 0, 39, 61, 42, 89, 180, 0, 27]
abbrev dktX14_sum_0 : List UInt8 := dkwX14_sum_0 ++ dktX14_sum_1
theorem dksX14_sum_0 : cX14_sum.data.toList.drop 0 = dktX14_sum_0 := by decide +kernel
theorem dksX14_sum_1 : cX14_sum.data.toList.drop 24 = dktX14_sum_1 := dk_seg dksX14_sum_0 24 rfl rfl
theorem dX14_sum_0 : decode cX14_sum 0 = .ok (.aload_n 0, 1) := dk_42 (dk_at dksX14_sum_0 0 rfl rfl)
theorem dX14_sum_1 : decode cX14_sum 1 = .ok (.invokevirtual 73, 3) := dk_182 0 73 (dk_at dksX14_sum_0 1 rfl rfl)
theorem dX14_sum_4 : decode cX14_sum 4 = .ok (.astore_n 1, 1) := dk_76 (dk_at dksX14_sum_0 4 rfl rfl)
theorem dX14_sum_5 : decode cX14_sum 5 = .ok (.aload_n 0, 1) := dk_42 (dk_at dksX14_sum_0 5 rfl rfl)
theorem dX14_sum_6 : decode cX14_sum 6 = .ok (.ldc 76, 2) := dk_18 76 (dk_at dksX14_sum_0 6 rfl rfl)
theorem dX14_sum_8 : decode cX14_sum 8 = .ok (.invokevirtual 54, 3) := dk_182 0 54 (dk_at dksX14_sum_0 8 rfl rfl)
theorem dX14_sum_11 : decode cX14_sum 11 = .ok (.ifCond .eq 35, 3) := dk_153 0 35 (dk_at dksX14_sum_0 11 rfl rfl)
theorem dX14_sum_14 : decode cX14_sum 14 = .ok (.aload_n 0, 1) := dk_42 (dk_at dksX14_sum_0 14 rfl rfl)
theorem dX14_sum_15 : decode cX14_sum 15 = .ok (.invokevirtual 39, 3) := dk_182 0 39 (dk_at dksX14_sum_0 15 rfl rfl)
theorem dX14_sum_18 : decode cX14_sum 18 = .ok (.istore_n 2, 1) := dk_61 (dk_at dksX14_sum_0 18 rfl rfl)
theorem dX14_sum_19 : decode cX14_sum 19 = .ok (.aload_n 0, 1) := dk_42 (dk_at dksX14_sum_0 19 rfl rfl)
theorem dX14_sum_20 : decode cX14_sum 20 = .ok (.dup, 1) := dk_89 (dk_at dksX14_sum_0 20 rfl rfl)
theorem dX14_sum_21 : decode cX14_sum 21 = .ok (.getfield 27, 3) := dk_180 0 27 (dk_at dksX14_sum_0 21 rfl rfl)
theorem dX14_sum_24 : decode cX14_sum 24 = .ok (.iconst 1, 1) := dk_4 (dk_at dksX14_sum_1 0 rfl rfl)
theorem dX14_sum_25 : decode cX14_sum 25 = .ok (.iadd, 1) := dk_96 (dk_at dksX14_sum_1 1 rfl rfl)
theorem dX14_sum_26 : decode cX14_sum 26 = .ok (.putfield 27, 3) := dk_181 0 27 (dk_at dksX14_sum_1 2 rfl rfl)
theorem dX14_sum_29 : decode cX14_sum 29 = .ok (.new 58, 3) := dk_187 0 58 (dk_at dksX14_sum_1 5 rfl rfl)
theorem dX14_sum_32 : decode cX14_sum 32 = .ok (.dup, 1) := dk_89 (dk_at dksX14_sum_1 8 rfl rfl)
theorem dX14_sum_33 : decode cX14_sum 33 = .ok (.iload_n 2, 1) := dk_28 (dk_at dksX14_sum_1 9 rfl rfl)
theorem dX14_sum_34 : decode cX14_sum 34 = .ok (.aload_n 1, 1) := dk_43 (dk_at dksX14_sum_1 10 rfl rfl)
theorem dX14_sum_35 : decode cX14_sum 35 = .ok (.aload_n 0, 1) := dk_42 (dk_at dksX14_sum_1 11 rfl rfl)
theorem dX14_sum_36 : decode cX14_sum 36 = .ok (.invokevirtual 73, 3) := dk_182 0 73 (dk_at dksX14_sum_1 12 rfl rfl)
theorem dX14_sum_39 : decode cX14_sum 39 = .ok (.invokespecial 60, 3) := dk_183 0 60 (dk_at dksX14_sum_1 15 rfl rfl)
theorem dX14_sum_42 : decode cX14_sum 42 = .ok (.astore_n 1, 1) := dk_76 (dk_at dksX14_sum_1 18 rfl rfl)
theorem dX14_sum_43 : decode cX14_sum 43 = .ok (.goto (-38), 3) := dk_167 255 218 (dk_at dksX14_sum_1 19 rfl rfl)
theorem dX14_sum_46 : decode cX14_sum 46 = .ok (.aload_n 1, 1) := dk_43 (dk_at dksX14_sum_1 22 rfl rfl)
theorem dX14_sum_47 : decode cX14_sum 47 = .ok (.areturn, 1) := dk_176 (dk_at dksX14_sum_1 23 rfl rfl)
abbrev cX14_product : ByteArray := prog_20_method_10_code
def yX14_product : MethodName := ⟨RX14, "product", "()LLastHatch$Term;"⟩
def dkwX14_product_1 : List UInt8 := [4, 96, 181, 0, 27, 187, 0, 58, 89, 28, 43, 42, 182, 0, 78, 183, 0, 60, 76, 167, 255, 218, 43, 176]
abbrev dktX14_product_1 : List UInt8 := dkwX14_product_1 ++ []
def dkwX14_product_0 : List UInt8 := [42, 182, 0, 78, 76, 42, 18, 81, 182, 0, 54, 153, 0, 35, 42, 182, 0, 39, 61, 42, 89, 180, 0, 27]
abbrev dktX14_product_0 : List UInt8 := dkwX14_product_0 ++ dktX14_product_1
theorem dksX14_product_0 : cX14_product.data.toList.drop 0 = dktX14_product_0 := by decide +kernel
theorem dksX14_product_1 : cX14_product.data.toList.drop 24 = dktX14_product_1 := dk_seg dksX14_product_0 24 rfl rfl
theorem dX14_product_0 : decode cX14_product 0 = .ok (.aload_n 0, 1) := dk_42 (dk_at dksX14_product_0 0 rfl rfl)
theorem dX14_product_1 : decode cX14_product 1 = .ok (.invokevirtual 78, 3) := dk_182 0 78 (dk_at dksX14_product_0 1 rfl rfl)
theorem dX14_product_4 : decode cX14_product 4 = .ok (.astore_n 1, 1) := dk_76 (dk_at dksX14_product_0 4 rfl rfl)
theorem dX14_product_5 : decode cX14_product 5 = .ok (.aload_n 0, 1) := dk_42 (dk_at dksX14_product_0 5 rfl rfl)
theorem dX14_product_6 : decode cX14_product 6 = .ok (.ldc 81, 2) := dk_18 81 (dk_at dksX14_product_0 6 rfl rfl)
theorem dX14_product_8 : decode cX14_product 8 = .ok (.invokevirtual 54, 3) := dk_182 0 54 (dk_at dksX14_product_0 8 rfl rfl)
theorem dX14_product_11 : decode cX14_product 11 = .ok (.ifCond .eq 35, 3) := dk_153 0 35 (dk_at dksX14_product_0 11 rfl rfl)
theorem dX14_product_14 : decode cX14_product 14 = .ok (.aload_n 0, 1) := dk_42 (dk_at dksX14_product_0 14 rfl rfl)
theorem dX14_product_15 : decode cX14_product 15 = .ok (.invokevirtual 39, 3) := dk_182 0 39 (dk_at dksX14_product_0 15 rfl rfl)
theorem dX14_product_18 : decode cX14_product 18 = .ok (.istore_n 2, 1) := dk_61 (dk_at dksX14_product_0 18 rfl rfl)
theorem dX14_product_19 : decode cX14_product 19 = .ok (.aload_n 0, 1) := dk_42 (dk_at dksX14_product_0 19 rfl rfl)
theorem dX14_product_20 : decode cX14_product 20 = .ok (.dup, 1) := dk_89 (dk_at dksX14_product_0 20 rfl rfl)
theorem dX14_product_21 : decode cX14_product 21 = .ok (.getfield 27, 3) := dk_180 0 27 (dk_at dksX14_product_0 21 rfl rfl)
theorem dX14_product_24 : decode cX14_product 24 = .ok (.iconst 1, 1) := dk_4 (dk_at dksX14_product_1 0 rfl rfl)
theorem dX14_product_25 : decode cX14_product 25 = .ok (.iadd, 1) := dk_96 (dk_at dksX14_product_1 1 rfl rfl)
theorem dX14_product_26 : decode cX14_product 26 = .ok (.putfield 27, 3) := dk_181 0 27 (dk_at dksX14_product_1 2 rfl rfl)
theorem dX14_product_29 : decode cX14_product 29 = .ok (.new 58, 3) := dk_187 0 58 (dk_at dksX14_product_1 5 rfl rfl)
theorem dX14_product_32 : decode cX14_product 32 = .ok (.dup, 1) := dk_89 (dk_at dksX14_product_1 8 rfl rfl)
theorem dX14_product_33 : decode cX14_product 33 = .ok (.iload_n 2, 1) := dk_28 (dk_at dksX14_product_1 9 rfl rfl)
theorem dX14_product_34 : decode cX14_product 34 = .ok (.aload_n 1, 1) := dk_43 (dk_at dksX14_product_1 10 rfl rfl)
theorem dX14_product_35 : decode cX14_product 35 = .ok (.aload_n 0, 1) := dk_42 (dk_at dksX14_product_1 11 rfl rfl)
theorem dX14_product_36 : decode cX14_product 36 = .ok (.invokevirtual 78, 3) := dk_182 0 78 (dk_at dksX14_product_1 12 rfl rfl)
theorem dX14_product_39 : decode cX14_product 39 = .ok (.invokespecial 60, 3) := dk_183 0 60 (dk_at dksX14_product_1 15 rfl rfl)
theorem dX14_product_42 : decode cX14_product 42 = .ok (.astore_n 1, 1) := dk_76 (dk_at dksX14_product_1 18 rfl rfl)
theorem dX14_product_43 : decode cX14_product 43 = .ok (.goto (-38), 3) := dk_167 255 218 (dk_at dksX14_product_1 19 rfl rfl)
theorem dX14_product_46 : decode cX14_product 46 = .ok (.aload_n 1, 1) := dk_43 (dk_at dksX14_product_1 22 rfl rfl)
theorem dX14_product_47 : decode cX14_product 47 = .ok (.areturn, 1) := dk_176 (dk_at dksX14_product_1 23 rfl rfl)
abbrev cX14_single : ByteArray := prog_20_method_12_code
def yX14_single : MethodName := ⟨RX14, "single", "()LLastHatch$Term;"⟩
def dkwX14_single_9 : List UInt8 := [183, 0, 107, 176]
abbrev dktX14_single_9 : List UInt8 := dkwX14_single_9 ++ []
def dkwX14_single_8 : List UInt8 := [100, 60, 42, 89, 180, 0, 27, 4, 96, 181, 0, 27, 132, 2, 1, 167, 255, 211, 187, 0, 105, 89, 27]
abbrev dktX14_single_8 : List UInt8 := dkwX14_single_8 ++ dktX14_single_9
def dkwX14_single_7 : List UInt8 := [182, 0, 39, 16, 48, 16, 57, 184, 0, 101, 153, 0, 32, 16, 10, 27, 104, 42, 182, 0, 39, 96, 16, 48]
abbrev dktX14_single_7 : List UInt8 := dkwX14_single_7 ++ dktX14_single_8
def dkwX14_single_6 : List UInt8 := [182, 0, 39, 16, 48, 16, 57, 184, 0, 101, 182, 0, 30, 3, 60, 3, 61, 28, 7, 162, 0, 46, 42]
abbrev dktX14_single_6 : List UInt8 := dkwX14_single_6 ++ dktX14_single_7
def dkwX14_single_5 : List UInt8 := [180, 0, 27, 4, 96, 181, 0, 27, 42, 89, 180, 0, 83, 4, 100, 181, 0, 83, 43, 176, 42, 42]
abbrev dktX14_single_5 : List UInt8 := dkwX14_single_5 ++ dktX14_single_6
def dkwX14_single_4 : List UInt8 := [182, 0, 23, 76, 42, 42, 182, 0, 39, 16, 41, 160, 0, 7, 4, 167, 0, 4, 3, 182, 0, 30, 42, 89]
abbrev dktX14_single_4 : List UInt8 := dkwX14_single_4 ++ dktX14_single_5
def dkwX14_single_3 : List UInt8 := [187, 0, 94, 89, 43, 183, 0, 96, 176, 42, 18, 99, 182, 0, 54, 153, 0, 52, 42, 182, 0, 91, 42]
abbrev dktX14_single_3 : List UInt8 := dkwX14_single_3 ++ dktX14_single_4
def dkwX14_single_2 : List UInt8 := [153, 0, 31, 42, 182, 0, 91, 42, 182, 0, 78, 76, 42, 89, 180, 0, 83, 4, 100, 181, 0, 83]
abbrev dktX14_single_2 : List UInt8 := dkwX14_single_2 ++ dktX14_single_3
def dkwX14_single_1 : List UInt8 := [89, 42, 180, 0, 15, 42, 180, 0, 27, 4, 100, 51, 183, 0, 88, 176, 42, 18, 89, 182, 0, 54]
abbrev dktX14_single_1 : List UInt8 := dkwX14_single_1 ++ dktX14_single_2
def dkwX14_single_0 : List UInt8 := [42, 42, 180, 0, 9, 182, 0, 54, 153, 0, 32, 42, 89, 180, 0, 27, 4, 96, 181, 0, 27, 187, 0, 86]
abbrev dktX14_single_0 : List UInt8 := dkwX14_single_0 ++ dktX14_single_1
theorem dksX14_single_0 : cX14_single.data.toList.drop 0 = dktX14_single_0 := by decide +kernel
theorem dksX14_single_1 : cX14_single.data.toList.drop 24 = dktX14_single_1 := dk_seg dksX14_single_0 24 rfl rfl
theorem dksX14_single_2 : cX14_single.data.toList.drop 46 = dktX14_single_2 := dk_seg dksX14_single_1 22 rfl rfl
theorem dksX14_single_3 : cX14_single.data.toList.drop 68 = dktX14_single_3 := dk_seg dksX14_single_2 22 rfl rfl
theorem dksX14_single_4 : cX14_single.data.toList.drop 91 = dktX14_single_4 := dk_seg dksX14_single_3 23 rfl rfl
theorem dksX14_single_5 : cX14_single.data.toList.drop 115 = dktX14_single_5 := dk_seg dksX14_single_4 24 rfl rfl
theorem dksX14_single_6 : cX14_single.data.toList.drop 137 = dktX14_single_6 := dk_seg dksX14_single_5 22 rfl rfl
theorem dksX14_single_7 : cX14_single.data.toList.drop 160 = dktX14_single_7 := dk_seg dksX14_single_6 23 rfl rfl
theorem dksX14_single_8 : cX14_single.data.toList.drop 184 = dktX14_single_8 := dk_seg dksX14_single_7 24 rfl rfl
theorem dksX14_single_9 : cX14_single.data.toList.drop 207 = dktX14_single_9 := dk_seg dksX14_single_8 23 rfl rfl
theorem dX14_single_0 : decode cX14_single 0 = .ok (.aload_n 0, 1) := dk_42 (dk_at dksX14_single_0 0 rfl rfl)
theorem dX14_single_1 : decode cX14_single 1 = .ok (.aload_n 0, 1) := dk_42 (dk_at dksX14_single_0 1 rfl rfl)
theorem dX14_single_2 : decode cX14_single 2 = .ok (.getfield 9, 3) := dk_180 0 9 (dk_at dksX14_single_0 2 rfl rfl)
theorem dX14_single_5 : decode cX14_single 5 = .ok (.invokevirtual 54, 3) := dk_182 0 54 (dk_at dksX14_single_0 5 rfl rfl)
theorem dX14_single_8 : decode cX14_single 8 = .ok (.ifCond .eq 32, 3) := dk_153 0 32 (dk_at dksX14_single_0 8 rfl rfl)
theorem dX14_single_11 : decode cX14_single 11 = .ok (.aload_n 0, 1) := dk_42 (dk_at dksX14_single_0 11 rfl rfl)
theorem dX14_single_12 : decode cX14_single 12 = .ok (.dup, 1) := dk_89 (dk_at dksX14_single_0 12 rfl rfl)
theorem dX14_single_13 : decode cX14_single 13 = .ok (.getfield 27, 3) := dk_180 0 27 (dk_at dksX14_single_0 13 rfl rfl)
theorem dX14_single_16 : decode cX14_single 16 = .ok (.iconst 1, 1) := dk_4 (dk_at dksX14_single_0 16 rfl rfl)
theorem dX14_single_17 : decode cX14_single 17 = .ok (.iadd, 1) := dk_96 (dk_at dksX14_single_0 17 rfl rfl)
theorem dX14_single_18 : decode cX14_single 18 = .ok (.putfield 27, 3) := dk_181 0 27 (dk_at dksX14_single_0 18 rfl rfl)
theorem dX14_single_21 : decode cX14_single 21 = .ok (.new 86, 3) := dk_187 0 86 (dk_at dksX14_single_0 21 rfl rfl)
theorem dX14_single_24 : decode cX14_single 24 = .ok (.dup, 1) := dk_89 (dk_at dksX14_single_1 0 rfl rfl)
theorem dX14_single_25 : decode cX14_single 25 = .ok (.aload_n 0, 1) := dk_42 (dk_at dksX14_single_1 1 rfl rfl)
theorem dX14_single_26 : decode cX14_single 26 = .ok (.getfield 15, 3) := dk_180 0 15 (dk_at dksX14_single_1 2 rfl rfl)
theorem dX14_single_29 : decode cX14_single 29 = .ok (.aload_n 0, 1) := dk_42 (dk_at dksX14_single_1 5 rfl rfl)
theorem dX14_single_30 : decode cX14_single 30 = .ok (.getfield 27, 3) := dk_180 0 27 (dk_at dksX14_single_1 6 rfl rfl)
theorem dX14_single_33 : decode cX14_single 33 = .ok (.iconst 1, 1) := dk_4 (dk_at dksX14_single_1 9 rfl rfl)
theorem dX14_single_34 : decode cX14_single 34 = .ok (.isub, 1) := dk_100 (dk_at dksX14_single_1 10 rfl rfl)
theorem dX14_single_35 : decode cX14_single 35 = .ok (.baload, 1) := dk_51 (dk_at dksX14_single_1 11 rfl rfl)
theorem dX14_single_36 : decode cX14_single 36 = .ok (.invokespecial 88, 3) := dk_183 0 88 (dk_at dksX14_single_1 12 rfl rfl)
theorem dX14_single_39 : decode cX14_single 39 = .ok (.areturn, 1) := dk_176 (dk_at dksX14_single_1 15 rfl rfl)
theorem dX14_single_40 : decode cX14_single 40 = .ok (.aload_n 0, 1) := dk_42 (dk_at dksX14_single_1 16 rfl rfl)
theorem dX14_single_41 : decode cX14_single 41 = .ok (.ldc 89, 2) := dk_18 89 (dk_at dksX14_single_1 17 rfl rfl)
theorem dX14_single_43 : decode cX14_single 43 = .ok (.invokevirtual 54, 3) := dk_182 0 54 (dk_at dksX14_single_1 19 rfl rfl)
theorem dX14_single_46 : decode cX14_single 46 = .ok (.ifCond .eq 31, 3) := dk_153 0 31 (dk_at dksX14_single_2 0 rfl rfl)
theorem dX14_single_49 : decode cX14_single 49 = .ok (.aload_n 0, 1) := dk_42 (dk_at dksX14_single_2 3 rfl rfl)
theorem dX14_single_50 : decode cX14_single 50 = .ok (.invokevirtual 91, 3) := dk_182 0 91 (dk_at dksX14_single_2 4 rfl rfl)
theorem dX14_single_53 : decode cX14_single 53 = .ok (.aload_n 0, 1) := dk_42 (dk_at dksX14_single_2 7 rfl rfl)
theorem dX14_single_54 : decode cX14_single 54 = .ok (.invokevirtual 78, 3) := dk_182 0 78 (dk_at dksX14_single_2 8 rfl rfl)
theorem dX14_single_57 : decode cX14_single 57 = .ok (.astore_n 1, 1) := dk_76 (dk_at dksX14_single_2 11 rfl rfl)
theorem dX14_single_58 : decode cX14_single 58 = .ok (.aload_n 0, 1) := dk_42 (dk_at dksX14_single_2 12 rfl rfl)
theorem dX14_single_59 : decode cX14_single 59 = .ok (.dup, 1) := dk_89 (dk_at dksX14_single_2 13 rfl rfl)
theorem dX14_single_60 : decode cX14_single 60 = .ok (.getfield 83, 3) := dk_180 0 83 (dk_at dksX14_single_2 14 rfl rfl)
theorem dX14_single_63 : decode cX14_single 63 = .ok (.iconst 1, 1) := dk_4 (dk_at dksX14_single_2 17 rfl rfl)
theorem dX14_single_64 : decode cX14_single 64 = .ok (.isub, 1) := dk_100 (dk_at dksX14_single_2 18 rfl rfl)
theorem dX14_single_65 : decode cX14_single 65 = .ok (.putfield 83, 3) := dk_181 0 83 (dk_at dksX14_single_2 19 rfl rfl)
theorem dX14_single_68 : decode cX14_single 68 = .ok (.new 94, 3) := dk_187 0 94 (dk_at dksX14_single_3 0 rfl rfl)
theorem dX14_single_71 : decode cX14_single 71 = .ok (.dup, 1) := dk_89 (dk_at dksX14_single_3 3 rfl rfl)
theorem dX14_single_72 : decode cX14_single 72 = .ok (.aload_n 1, 1) := dk_43 (dk_at dksX14_single_3 4 rfl rfl)
theorem dX14_single_73 : decode cX14_single 73 = .ok (.invokespecial 96, 3) := dk_183 0 96 (dk_at dksX14_single_3 5 rfl rfl)
theorem dX14_single_76 : decode cX14_single 76 = .ok (.areturn, 1) := dk_176 (dk_at dksX14_single_3 8 rfl rfl)
theorem dX14_single_77 : decode cX14_single 77 = .ok (.aload_n 0, 1) := dk_42 (dk_at dksX14_single_3 9 rfl rfl)
theorem dX14_single_78 : decode cX14_single 78 = .ok (.ldc 99, 2) := dk_18 99 (dk_at dksX14_single_3 10 rfl rfl)
theorem dX14_single_80 : decode cX14_single 80 = .ok (.invokevirtual 54, 3) := dk_182 0 54 (dk_at dksX14_single_3 12 rfl rfl)
theorem dX14_single_83 : decode cX14_single 83 = .ok (.ifCond .eq 52, 3) := dk_153 0 52 (dk_at dksX14_single_3 15 rfl rfl)
theorem dX14_single_86 : decode cX14_single 86 = .ok (.aload_n 0, 1) := dk_42 (dk_at dksX14_single_3 18 rfl rfl)
theorem dX14_single_87 : decode cX14_single 87 = .ok (.invokevirtual 91, 3) := dk_182 0 91 (dk_at dksX14_single_3 19 rfl rfl)
theorem dX14_single_90 : decode cX14_single 90 = .ok (.aload_n 0, 1) := dk_42 (dk_at dksX14_single_3 22 rfl rfl)
theorem dX14_single_91 : decode cX14_single 91 = .ok (.invokevirtual 23, 3) := dk_182 0 23 (dk_at dksX14_single_4 0 rfl rfl)
theorem dX14_single_94 : decode cX14_single 94 = .ok (.astore_n 1, 1) := dk_76 (dk_at dksX14_single_4 3 rfl rfl)
theorem dX14_single_95 : decode cX14_single 95 = .ok (.aload_n 0, 1) := dk_42 (dk_at dksX14_single_4 4 rfl rfl)
theorem dX14_single_96 : decode cX14_single 96 = .ok (.aload_n 0, 1) := dk_42 (dk_at dksX14_single_4 5 rfl rfl)
theorem dX14_single_97 : decode cX14_single 97 = .ok (.invokevirtual 39, 3) := dk_182 0 39 (dk_at dksX14_single_4 6 rfl rfl)
theorem dX14_single_100 : decode cX14_single 100 = .ok (.bipush 41, 2) := dk_16 41 (dk_at dksX14_single_4 9 rfl rfl)
theorem dX14_single_102 : decode cX14_single 102 = .ok (.if_icmp .ne 7, 3) := dk_160 0 7 (dk_at dksX14_single_4 11 rfl rfl)
theorem dX14_single_105 : decode cX14_single 105 = .ok (.iconst 1, 1) := dk_4 (dk_at dksX14_single_4 14 rfl rfl)
theorem dX14_single_106 : decode cX14_single 106 = .ok (.goto 4, 3) := dk_167 0 4 (dk_at dksX14_single_4 15 rfl rfl)
theorem dX14_single_109 : decode cX14_single 109 = .ok (.iconst 0, 1) := dk_3 (dk_at dksX14_single_4 18 rfl rfl)
theorem dX14_single_110 : decode cX14_single 110 = .ok (.invokevirtual 30, 3) := dk_182 0 30 (dk_at dksX14_single_4 19 rfl rfl)
theorem dX14_single_113 : decode cX14_single 113 = .ok (.aload_n 0, 1) := dk_42 (dk_at dksX14_single_4 22 rfl rfl)
theorem dX14_single_114 : decode cX14_single 114 = .ok (.dup, 1) := dk_89 (dk_at dksX14_single_4 23 rfl rfl)
theorem dX14_single_115 : decode cX14_single 115 = .ok (.getfield 27, 3) := dk_180 0 27 (dk_at dksX14_single_5 0 rfl rfl)
theorem dX14_single_118 : decode cX14_single 118 = .ok (.iconst 1, 1) := dk_4 (dk_at dksX14_single_5 3 rfl rfl)
theorem dX14_single_119 : decode cX14_single 119 = .ok (.iadd, 1) := dk_96 (dk_at dksX14_single_5 4 rfl rfl)
theorem dX14_single_120 : decode cX14_single 120 = .ok (.putfield 27, 3) := dk_181 0 27 (dk_at dksX14_single_5 5 rfl rfl)
theorem dX14_single_123 : decode cX14_single 123 = .ok (.aload_n 0, 1) := dk_42 (dk_at dksX14_single_5 8 rfl rfl)
theorem dX14_single_124 : decode cX14_single 124 = .ok (.dup, 1) := dk_89 (dk_at dksX14_single_5 9 rfl rfl)
theorem dX14_single_125 : decode cX14_single 125 = .ok (.getfield 83, 3) := dk_180 0 83 (dk_at dksX14_single_5 10 rfl rfl)
theorem dX14_single_128 : decode cX14_single 128 = .ok (.iconst 1, 1) := dk_4 (dk_at dksX14_single_5 13 rfl rfl)
theorem dX14_single_129 : decode cX14_single 129 = .ok (.isub, 1) := dk_100 (dk_at dksX14_single_5 14 rfl rfl)
theorem dX14_single_130 : decode cX14_single 130 = .ok (.putfield 83, 3) := dk_181 0 83 (dk_at dksX14_single_5 15 rfl rfl)
theorem dX14_single_133 : decode cX14_single 133 = .ok (.aload_n 1, 1) := dk_43 (dk_at dksX14_single_5 18 rfl rfl)
theorem dX14_single_134 : decode cX14_single 134 = .ok (.areturn, 1) := dk_176 (dk_at dksX14_single_5 19 rfl rfl)
theorem dX14_single_135 : decode cX14_single 135 = .ok (.aload_n 0, 1) := dk_42 (dk_at dksX14_single_5 20 rfl rfl)
theorem dX14_single_136 : decode cX14_single 136 = .ok (.aload_n 0, 1) := dk_42 (dk_at dksX14_single_5 21 rfl rfl)
theorem dX14_single_137 : decode cX14_single 137 = .ok (.invokevirtual 39, 3) := dk_182 0 39 (dk_at dksX14_single_6 0 rfl rfl)
theorem dX14_single_140 : decode cX14_single 140 = .ok (.bipush 48, 2) := dk_16 48 (dk_at dksX14_single_6 3 rfl rfl)
theorem dX14_single_142 : decode cX14_single 142 = .ok (.bipush 57, 2) := dk_16 57 (dk_at dksX14_single_6 5 rfl rfl)
theorem dX14_single_144 : decode cX14_single 144 = .ok (.invokestatic 101, 3) := dk_184 0 101 (dk_at dksX14_single_6 7 rfl rfl)
theorem dX14_single_147 : decode cX14_single 147 = .ok (.invokevirtual 30, 3) := dk_182 0 30 (dk_at dksX14_single_6 10 rfl rfl)
theorem dX14_single_150 : decode cX14_single 150 = .ok (.iconst 0, 1) := dk_3 (dk_at dksX14_single_6 13 rfl rfl)
theorem dX14_single_151 : decode cX14_single 151 = .ok (.istore_n 1, 1) := dk_60 (dk_at dksX14_single_6 14 rfl rfl)
theorem dX14_single_152 : decode cX14_single 152 = .ok (.iconst 0, 1) := dk_3 (dk_at dksX14_single_6 15 rfl rfl)
theorem dX14_single_153 : decode cX14_single 153 = .ok (.istore_n 2, 1) := dk_61 (dk_at dksX14_single_6 16 rfl rfl)
theorem dX14_single_154 : decode cX14_single 154 = .ok (.iload_n 2, 1) := dk_28 (dk_at dksX14_single_6 17 rfl rfl)
theorem dX14_single_155 : decode cX14_single 155 = .ok (.iconst 4, 1) := dk_7 (dk_at dksX14_single_6 18 rfl rfl)
theorem dX14_single_156 : decode cX14_single 156 = .ok (.if_icmp .ge 46, 3) := dk_162 0 46 (dk_at dksX14_single_6 19 rfl rfl)
theorem dX14_single_159 : decode cX14_single 159 = .ok (.aload_n 0, 1) := dk_42 (dk_at dksX14_single_6 22 rfl rfl)
theorem dX14_single_160 : decode cX14_single 160 = .ok (.invokevirtual 39, 3) := dk_182 0 39 (dk_at dksX14_single_7 0 rfl rfl)
theorem dX14_single_163 : decode cX14_single 163 = .ok (.bipush 48, 2) := dk_16 48 (dk_at dksX14_single_7 3 rfl rfl)
theorem dX14_single_165 : decode cX14_single 165 = .ok (.bipush 57, 2) := dk_16 57 (dk_at dksX14_single_7 5 rfl rfl)
theorem dX14_single_167 : decode cX14_single 167 = .ok (.invokestatic 101, 3) := dk_184 0 101 (dk_at dksX14_single_7 7 rfl rfl)
theorem dX14_single_170 : decode cX14_single 170 = .ok (.ifCond .eq 32, 3) := dk_153 0 32 (dk_at dksX14_single_7 10 rfl rfl)
theorem dX14_single_173 : decode cX14_single 173 = .ok (.bipush 10, 2) := dk_16 10 (dk_at dksX14_single_7 13 rfl rfl)
theorem dX14_single_175 : decode cX14_single 175 = .ok (.iload_n 1, 1) := dk_27 (dk_at dksX14_single_7 15 rfl rfl)
theorem dX14_single_176 : decode cX14_single 176 = .ok (.imul, 1) := dk_104 (dk_at dksX14_single_7 16 rfl rfl)
theorem dX14_single_177 : decode cX14_single 177 = .ok (.aload_n 0, 1) := dk_42 (dk_at dksX14_single_7 17 rfl rfl)
theorem dX14_single_178 : decode cX14_single 178 = .ok (.invokevirtual 39, 3) := dk_182 0 39 (dk_at dksX14_single_7 18 rfl rfl)
theorem dX14_single_181 : decode cX14_single 181 = .ok (.iadd, 1) := dk_96 (dk_at dksX14_single_7 21 rfl rfl)
theorem dX14_single_182 : decode cX14_single 182 = .ok (.bipush 48, 2) := dk_16 48 (dk_at dksX14_single_7 22 rfl rfl)
theorem dX14_single_184 : decode cX14_single 184 = .ok (.isub, 1) := dk_100 (dk_at dksX14_single_8 0 rfl rfl)
theorem dX14_single_185 : decode cX14_single 185 = .ok (.istore_n 1, 1) := dk_60 (dk_at dksX14_single_8 1 rfl rfl)
theorem dX14_single_186 : decode cX14_single 186 = .ok (.aload_n 0, 1) := dk_42 (dk_at dksX14_single_8 2 rfl rfl)
theorem dX14_single_187 : decode cX14_single 187 = .ok (.dup, 1) := dk_89 (dk_at dksX14_single_8 3 rfl rfl)
theorem dX14_single_188 : decode cX14_single 188 = .ok (.getfield 27, 3) := dk_180 0 27 (dk_at dksX14_single_8 4 rfl rfl)
theorem dX14_single_191 : decode cX14_single 191 = .ok (.iconst 1, 1) := dk_4 (dk_at dksX14_single_8 7 rfl rfl)
theorem dX14_single_192 : decode cX14_single 192 = .ok (.iadd, 1) := dk_96 (dk_at dksX14_single_8 8 rfl rfl)
theorem dX14_single_193 : decode cX14_single 193 = .ok (.putfield 27, 3) := dk_181 0 27 (dk_at dksX14_single_8 9 rfl rfl)
theorem dX14_single_196 : decode cX14_single 196 = .ok (.iinc 2 1, 3) := dk_132 2 1 (dk_at dksX14_single_8 12 rfl rfl)
theorem dX14_single_199 : decode cX14_single 199 = .ok (.goto (-45), 3) := dk_167 255 211 (dk_at dksX14_single_8 15 rfl rfl)
theorem dX14_single_202 : decode cX14_single 202 = .ok (.new 105, 3) := dk_187 0 105 (dk_at dksX14_single_8 18 rfl rfl)
theorem dX14_single_205 : decode cX14_single 205 = .ok (.dup, 1) := dk_89 (dk_at dksX14_single_8 21 rfl rfl)
theorem dX14_single_206 : decode cX14_single 206 = .ok (.iload_n 1, 1) := dk_27 (dk_at dksX14_single_8 22 rfl rfl)
theorem dX14_single_207 : decode cX14_single 207 = .ok (.invokespecial 107, 3) := dk_183 0 107 (dk_at dksX14_single_9 0 rfl rfl)
theorem dX14_single_210 : decode cX14_single 210 = .ok (.areturn, 1) := dk_176 (dk_at dksX14_single_9 3 rfl rfl)
abbrev cX14_isOne : ByteArray := prog_20_method_5_code
def yX14_isOne : MethodName := ⟨RX14, "isOne", "(Ljava/lang/String;)Z"⟩
def dkwX14_isOne_0 : List UInt8 := [42, 182, 0, 39, 155, 0, 18, 43, 42, 182, 0, 39, 182, 0, 43, 155, 0, 7, 4, 167, 0, 4, 3, 172]
abbrev dktX14_isOne_0 : List UInt8 := dkwX14_isOne_0 ++ []
theorem dksX14_isOne_0 : cX14_isOne.data.toList.drop 0 = dktX14_isOne_0 := by decide +kernel
theorem dX14_isOne_0 : decode cX14_isOne 0 = .ok (.aload_n 0, 1) := dk_42 (dk_at dksX14_isOne_0 0 rfl rfl)
theorem dX14_isOne_1 : decode cX14_isOne 1 = .ok (.invokevirtual 39, 3) := dk_182 0 39 (dk_at dksX14_isOne_0 1 rfl rfl)
theorem dX14_isOne_4 : decode cX14_isOne 4 = .ok (.ifCond .lt 18, 3) := dk_155 0 18 (dk_at dksX14_isOne_0 4 rfl rfl)
theorem dX14_isOne_7 : decode cX14_isOne 7 = .ok (.aload_n 1, 1) := dk_43 (dk_at dksX14_isOne_0 7 rfl rfl)
theorem dX14_isOne_8 : decode cX14_isOne 8 = .ok (.aload_n 0, 1) := dk_42 (dk_at dksX14_isOne_0 8 rfl rfl)
theorem dX14_isOne_9 : decode cX14_isOne 9 = .ok (.invokevirtual 39, 3) := dk_182 0 39 (dk_at dksX14_isOne_0 9 rfl rfl)
theorem dX14_isOne_12 : decode cX14_isOne 12 = .ok (.invokevirtual 43, 3) := dk_182 0 43 (dk_at dksX14_isOne_0 12 rfl rfl)
theorem dX14_isOne_15 : decode cX14_isOne 15 = .ok (.ifCond .lt 7, 3) := dk_155 0 7 (dk_at dksX14_isOne_0 15 rfl rfl)
theorem dX14_isOne_18 : decode cX14_isOne 18 = .ok (.iconst 1, 1) := dk_4 (dk_at dksX14_isOne_0 18 rfl rfl)
theorem dX14_isOne_19 : decode cX14_isOne 19 = .ok (.goto 4, 3) := dk_167 0 4 (dk_at dksX14_isOne_0 19 rfl rfl)
theorem dX14_isOne_22 : decode cX14_isOne 22 = .ok (.iconst 0, 1) := dk_3 (dk_at dksX14_isOne_0 22 rfl rfl)
theorem dX14_isOne_23 : decode cX14_isOne 23 = .ok (.ireturn, 1) := dk_172 (dk_at dksX14_isOne_0 23 rfl rfl)
abbrev cX14_look : ByteArray := prog_20_method_3_code
def yX14_look : MethodName := ⟨RX14, "look", "()I"⟩
def dkwX14_look_1 : List UInt8 := [167, 0, 4, 2, 172]
abbrev dktX14_look_1 : List UInt8 := dkwX14_look_1 ++ []
def dkwX14_look_0 : List UInt8 := [42, 180, 0, 27, 42, 180, 0, 19, 162, 0, 19, 42, 180, 0, 15, 42, 180, 0, 27, 51, 17, 0, 255, 126]
abbrev dktX14_look_0 : List UInt8 := dkwX14_look_0 ++ dktX14_look_1
theorem dksX14_look_0 : cX14_look.data.toList.drop 0 = dktX14_look_0 := by decide +kernel
theorem dksX14_look_1 : cX14_look.data.toList.drop 24 = dktX14_look_1 := dk_seg dksX14_look_0 24 rfl rfl
theorem dX14_look_0 : decode cX14_look 0 = .ok (.aload_n 0, 1) := dk_42 (dk_at dksX14_look_0 0 rfl rfl)
theorem dX14_look_1 : decode cX14_look 1 = .ok (.getfield 27, 3) := dk_180 0 27 (dk_at dksX14_look_0 1 rfl rfl)
theorem dX14_look_4 : decode cX14_look 4 = .ok (.aload_n 0, 1) := dk_42 (dk_at dksX14_look_0 4 rfl rfl)
theorem dX14_look_5 : decode cX14_look 5 = .ok (.getfield 19, 3) := dk_180 0 19 (dk_at dksX14_look_0 5 rfl rfl)
theorem dX14_look_8 : decode cX14_look 8 = .ok (.if_icmp .ge 19, 3) := dk_162 0 19 (dk_at dksX14_look_0 8 rfl rfl)
theorem dX14_look_11 : decode cX14_look 11 = .ok (.aload_n 0, 1) := dk_42 (dk_at dksX14_look_0 11 rfl rfl)
theorem dX14_look_12 : decode cX14_look 12 = .ok (.getfield 15, 3) := dk_180 0 15 (dk_at dksX14_look_0 12 rfl rfl)
theorem dX14_look_15 : decode cX14_look 15 = .ok (.aload_n 0, 1) := dk_42 (dk_at dksX14_look_0 15 rfl rfl)
theorem dX14_look_16 : decode cX14_look 16 = .ok (.getfield 27, 3) := dk_180 0 27 (dk_at dksX14_look_0 16 rfl rfl)
theorem dX14_look_19 : decode cX14_look 19 = .ok (.baload, 1) := dk_51 (dk_at dksX14_look_0 19 rfl rfl)
theorem dX14_look_20 : decode cX14_look 20 = .ok (.sipush 255, 3) := dk_17 0 255 (dk_at dksX14_look_0 20 rfl rfl)
theorem dX14_look_23 : decode cX14_look 23 = .ok (.iand, 1) := dk_126 (dk_at dksX14_look_0 23 rfl rfl)
theorem dX14_look_24 : decode cX14_look 24 = .ok (.goto 4, 3) := dk_167 0 4 (dk_at dksX14_look_1 0 rfl rfl)
theorem dX14_look_27 : decode cX14_look 27 = .ok (.iconst (-1), 1) := dk_2 (dk_at dksX14_look_1 3 rfl rfl)
theorem dX14_look_28 : decode cX14_look 28 = .ok (.ireturn, 1) := dk_172 (dk_at dksX14_look_1 4 rfl rfl)
abbrev cX14_opens : ByteArray := prog_20_method_11_code
def yX14_opens : MethodName := ⟨RX14, "opens", "()V"⟩
def dkwX14_opens_1 : List UInt8 := [181, 0, 83, 42, 89, 180, 0, 27, 4, 96, 181, 0, 27, 177]
abbrev dktX14_opens_1 : List UInt8 := dkwX14_opens_1 ++ []
def dkwX14_opens_0 : List UInt8 := [42, 42, 180, 0, 83, 8, 162, 0, 7, 4, 167, 0, 4, 3, 182, 0, 30, 42, 89, 180, 0, 83, 4, 96]
abbrev dktX14_opens_0 : List UInt8 := dkwX14_opens_0 ++ dktX14_opens_1
theorem dksX14_opens_0 : cX14_opens.data.toList.drop 0 = dktX14_opens_0 := by decide +kernel
theorem dksX14_opens_1 : cX14_opens.data.toList.drop 24 = dktX14_opens_1 := dk_seg dksX14_opens_0 24 rfl rfl
theorem dX14_opens_0 : decode cX14_opens 0 = .ok (.aload_n 0, 1) := dk_42 (dk_at dksX14_opens_0 0 rfl rfl)
theorem dX14_opens_1 : decode cX14_opens 1 = .ok (.aload_n 0, 1) := dk_42 (dk_at dksX14_opens_0 1 rfl rfl)
theorem dX14_opens_2 : decode cX14_opens 2 = .ok (.getfield 83, 3) := dk_180 0 83 (dk_at dksX14_opens_0 2 rfl rfl)
theorem dX14_opens_5 : decode cX14_opens 5 = .ok (.iconst 5, 1) := dk_8 (dk_at dksX14_opens_0 5 rfl rfl)
theorem dX14_opens_6 : decode cX14_opens 6 = .ok (.if_icmp .ge 7, 3) := dk_162 0 7 (dk_at dksX14_opens_0 6 rfl rfl)
theorem dX14_opens_9 : decode cX14_opens 9 = .ok (.iconst 1, 1) := dk_4 (dk_at dksX14_opens_0 9 rfl rfl)
theorem dX14_opens_10 : decode cX14_opens 10 = .ok (.goto 4, 3) := dk_167 0 4 (dk_at dksX14_opens_0 10 rfl rfl)
theorem dX14_opens_13 : decode cX14_opens 13 = .ok (.iconst 0, 1) := dk_3 (dk_at dksX14_opens_0 13 rfl rfl)
theorem dX14_opens_14 : decode cX14_opens 14 = .ok (.invokevirtual 30, 3) := dk_182 0 30 (dk_at dksX14_opens_0 14 rfl rfl)
theorem dX14_opens_17 : decode cX14_opens 17 = .ok (.aload_n 0, 1) := dk_42 (dk_at dksX14_opens_0 17 rfl rfl)
theorem dX14_opens_18 : decode cX14_opens 18 = .ok (.dup, 1) := dk_89 (dk_at dksX14_opens_0 18 rfl rfl)
theorem dX14_opens_19 : decode cX14_opens 19 = .ok (.getfield 83, 3) := dk_180 0 83 (dk_at dksX14_opens_0 19 rfl rfl)
theorem dX14_opens_22 : decode cX14_opens 22 = .ok (.iconst 1, 1) := dk_4 (dk_at dksX14_opens_0 22 rfl rfl)
theorem dX14_opens_23 : decode cX14_opens 23 = .ok (.iadd, 1) := dk_96 (dk_at dksX14_opens_0 23 rfl rfl)
theorem dX14_opens_24 : decode cX14_opens 24 = .ok (.putfield 83, 3) := dk_181 0 83 (dk_at dksX14_opens_1 0 rfl rfl)
theorem dX14_opens_27 : decode cX14_opens 27 = .ok (.aload_n 0, 1) := dk_42 (dk_at dksX14_opens_1 3 rfl rfl)
theorem dX14_opens_28 : decode cX14_opens 28 = .ok (.dup, 1) := dk_89 (dk_at dksX14_opens_1 4 rfl rfl)
theorem dX14_opens_29 : decode cX14_opens 29 = .ok (.getfield 27, 3) := dk_180 0 27 (dk_at dksX14_opens_1 5 rfl rfl)
theorem dX14_opens_32 : decode cX14_opens 32 = .ok (.iconst 1, 1) := dk_4 (dk_at dksX14_opens_1 8 rfl rfl)
theorem dX14_opens_33 : decode cX14_opens 33 = .ok (.iadd, 1) := dk_96 (dk_at dksX14_opens_1 9 rfl rfl)
theorem dX14_opens_34 : decode cX14_opens 34 = .ok (.putfield 27, 3) := dk_181 0 27 (dk_at dksX14_opens_1 10 rfl rfl)
theorem dX14_opens_37 : decode cX14_opens 37 = .ok (.return_, 1) := dk_177 (dk_at dksX14_opens_1 13 rfl rfl)
abbrev cX14_fault : ByteArray := prog_20_method_4_code
def yX14_fault : MethodName := ⟨RX14, "fault", "(Z)V"⟩
def dkwX14_fault_0 : List UInt8 := [27, 154, 0, 15, 187, 0, 34, 89, 42, 180, 0, 27, 183, 0, 36, 191, 177]
abbrev dktX14_fault_0 : List UInt8 := dkwX14_fault_0 ++ []
theorem dksX14_fault_0 : cX14_fault.data.toList.drop 0 = dktX14_fault_0 := by decide +kernel
theorem dX14_fault_0 : decode cX14_fault 0 = .ok (.iload_n 1, 1) := dk_27 (dk_at dksX14_fault_0 0 rfl rfl)
theorem dX14_fault_1 : decode cX14_fault 1 = .ok (.ifCond .ne 15, 3) := dk_154 0 15 (dk_at dksX14_fault_0 1 rfl rfl)
theorem dX14_fault_4 : decode cX14_fault 4 = .ok (.new 34, 3) := dk_187 0 34 (dk_at dksX14_fault_0 4 rfl rfl)
theorem dX14_fault_7 : decode cX14_fault 7 = .ok (.dup, 1) := dk_89 (dk_at dksX14_fault_0 7 rfl rfl)
theorem dX14_fault_8 : decode cX14_fault 8 = .ok (.aload_n 0, 1) := dk_42 (dk_at dksX14_fault_0 8 rfl rfl)
theorem dX14_fault_9 : decode cX14_fault 9 = .ok (.getfield 27, 3) := dk_180 0 27 (dk_at dksX14_fault_0 9 rfl rfl)
theorem dX14_fault_12 : decode cX14_fault 12 = .ok (.invokespecial 36, 3) := dk_183 0 36 (dk_at dksX14_fault_0 12 rfl rfl)
theorem dX14_fault_15 : decode cX14_fault 15 = .ok (.athrow, 1) := dk_191 (dk_at dksX14_fault_0 15 rfl rfl)
theorem dX14_fault_16 : decode cX14_fault 16 = .ok (.return_, 1) := dk_177 (dk_at dksX14_fault_0 16 rfl rfl)
theorem q106 : (Jvm.Cond.initialized "LastHatch$Reader") ∈ lw_all := lw_g (lw_at lw_m1 28 rfl) rfl
theorem q609 : (Jvm.Cond.selects "LastHatch$Reader" ({ cls := "java/lang/Object", name := "getClass", desc := "()Ljava/lang/Class;" } : Jvm.MethodName) ({ cls := "java/lang/Object", name := "getClass", desc := "()Ljava/lang/Class;" } : Jvm.MethodName)) ∈ lw_all := lw_g (lw_at lw_m3 51 rfl) rfl
theorem q820 : (Jvm.Cond.instantiable "LastHatch$Reader" (5 : Nat)) ∈ lw_all := lw_g (lw_at lw_m4 22 rfl) rfl
theorem q829 : (Jvm.Cond.instanceMethod ({ cls := "LastHatch$Reader", name := "<init>", desc := "(Ljava/lang/String;[BI)V" } : Jvm.MethodName)) ∈ lw_all := lw_g (lw_at lw_m4 31 rfl) rfl
theorem q830 : (Jvm.Cond.code ({ cls := "LastHatch$Reader", name := "<init>", desc := "(Ljava/lang/String;[BI)V" } : Jvm.MethodName) prog_20_method_1_code (4 : Nat) (Option.none : Option Jvm.ClassFile.FieldType)) ∈ lw_all := lw_g (lw_at lw_m4 32 rfl) rfl
theorem q831 : (Jvm.Cond.methodLink "LastHatch$Reader" (3 : Nat) ({ cls := "java/lang/Object", name := "<init>", desc := "()V" } : Jvm.MethodName)) ∈ lw_all := lw_g (lw_at lw_m4 33 rfl) rfl
theorem q832 : (Jvm.Cond.fieldLink "LastHatch$Reader" (9 : Nat) "LastHatch$Reader" "names" "Ljava/lang/String;") ∈ lw_all := lw_g (lw_at lw_m4 34 rfl) rfl
theorem q833 : (Jvm.Cond.fieldLink "LastHatch$Reader" (15 : Nat) "LastHatch$Reader" "bytes" "[B") ∈ lw_all := lw_g (lw_at lw_m4 35 rfl) rfl
theorem q834 : (Jvm.Cond.fieldLink "LastHatch$Reader" (19 : Nat) "LastHatch$Reader" "size" "I") ∈ lw_all := lw_g (lw_at lw_m4 36 rfl) rfl
theorem q835 : (Jvm.Cond.fieldLink "LastHatch$Reader" (27 : Nat) "LastHatch$Reader" "at" "I") ∈ lw_all := lw_g (lw_at lw_m4 37 rfl) rfl
theorem q836 : (Jvm.Cond.fieldLink "LastHatch$Reader" (83 : Nat) "LastHatch$Reader" "open" "I") ∈ lw_all := lw_g (lw_at lw_m4 38 rfl) rfl
theorem q837 : (Jvm.Cond.laysFinal "LastHatch$Reader" "LastHatch$Reader" "names" "Ljava/lang/String;") ∈ lw_all := lw_g (lw_at lw_m4 39 rfl) rfl
theorem q838 : (Jvm.Cond.soleField "LastHatch$Reader" "names") ∈ lw_all := lw_g (lw_at lw_m4 40 rfl) rfl
theorem q839 : (Jvm.Cond.laysFinal "LastHatch$Reader" "LastHatch$Reader" "bytes" "[B") ∈ lw_all := lw_g (lw_at lw_m4 41 rfl) rfl
theorem q840 : (Jvm.Cond.soleField "LastHatch$Reader" "bytes") ∈ lw_all := lw_g (lw_at lw_m4 42 rfl) rfl
theorem q841 : (Jvm.Cond.laysFinal "LastHatch$Reader" "LastHatch$Reader" "size" "I") ∈ lw_all := lw_g (lw_at lw_m4 43 rfl) rfl
theorem q842 : (Jvm.Cond.soleField "LastHatch$Reader" "size") ∈ lw_all := lw_g (lw_at lw_m4 44 rfl) rfl
theorem q843 : (Jvm.Cond.lays "LastHatch$Reader" "LastHatch$Reader" "at" "I") ∈ lw_all := lw_g (lw_at lw_m4 45 rfl) rfl
theorem q844 : (Jvm.Cond.soleField "LastHatch$Reader" "at") ∈ lw_all := lw_g (lw_at lw_m4 46 rfl) rfl
theorem q845 : (Jvm.Cond.lays "LastHatch$Reader" "LastHatch$Reader" "open" "I") ∈ lw_all := lw_g (lw_at lw_m4 47 rfl) rfl
theorem q846 : (Jvm.Cond.soleField "LastHatch$Reader" "open") ∈ lw_all := lw_g (lw_at lw_m4 48 rfl) rfl
theorem q847 : (Jvm.Cond.superclass "LastHatch$Reader" "java/lang/Object") ∈ lw_all := lw_g (lw_at lw_m4 49 rfl) rfl
theorem q849 : (Jvm.Cond.instanceMethod ({ cls := "LastHatch$Reader", name := "read", desc := "()LLastHatch$Term;" } : Jvm.MethodName)) ∈ lw_all := lw_g (lw_at lw_m4 51 rfl) rfl
theorem q850 : (Jvm.Cond.selects "LastHatch$Reader" ({ cls := "LastHatch$Reader", name := "read", desc := "()LLastHatch$Term;" } : Jvm.MethodName) ({ cls := "LastHatch$Reader", name := "read", desc := "()LLastHatch$Term;" } : Jvm.MethodName)) ∈ lw_all := lw_g (lw_at lw_m4 52 rfl) rfl
theorem q851 : (Jvm.Cond.code ({ cls := "LastHatch$Reader", name := "read", desc := "()LLastHatch$Term;" } : Jvm.MethodName) prog_20_method_2_code (2 : Nat) (Option.some (Jvm.ClassFile.FieldType.object "LastHatch$Term"))) ∈ lw_all := lw_g (lw_at lw_m4 53 rfl) rfl
theorem q852 : (Jvm.Cond.methodLink "LastHatch$Reader" (23 : Nat) ({ cls := "LastHatch$Reader", name := "either", desc := "()LLastHatch$Term;" } : Jvm.MethodName)) ∈ lw_all := lw_g (lw_at lw_m4 54 rfl) rfl
theorem q853 : (Jvm.Cond.privateMethod ({ cls := "LastHatch$Reader", name := "either", desc := "()LLastHatch$Term;" } : Jvm.MethodName)) ∈ lw_tbl := lw_at lw_m4 55 rfl
theorem q854 : (Jvm.Cond.instanceMethod ({ cls := "LastHatch$Reader", name := "either", desc := "()LLastHatch$Term;" } : Jvm.MethodName)) ∈ lw_all := lw_g (lw_at lw_m4 56 rfl) rfl
theorem q855 : (Jvm.Cond.code ({ cls := "LastHatch$Reader", name := "either", desc := "()LLastHatch$Term;" } : Jvm.MethodName) prog_20_method_6_code (2 : Nat) (Option.some (Jvm.ClassFile.FieldType.object "LastHatch$Term"))) ∈ lw_all := lw_g (lw_at lw_m4 57 rfl) rfl
theorem q856 : (Jvm.Cond.methodLink "LastHatch$Reader" (49 : Nat) ({ cls := "LastHatch$Reader", name := "both", desc := "()LLastHatch$Term;" } : Jvm.MethodName)) ∈ lw_all := lw_g (lw_at lw_m4 58 rfl) rfl
theorem q857 : (Jvm.Cond.privateMethod ({ cls := "LastHatch$Reader", name := "both", desc := "()LLastHatch$Term;" } : Jvm.MethodName)) ∈ lw_tbl := lw_at lw_m4 59 rfl
theorem q858 : (Jvm.Cond.instanceMethod ({ cls := "LastHatch$Reader", name := "both", desc := "()LLastHatch$Term;" } : Jvm.MethodName)) ∈ lw_all := lw_g (lw_at lw_m4 60 rfl) rfl
theorem q859 : (Jvm.Cond.code ({ cls := "LastHatch$Reader", name := "both", desc := "()LLastHatch$Term;" } : Jvm.MethodName) prog_20_method_7_code (2 : Nat) (Option.some (Jvm.ClassFile.FieldType.object "LastHatch$Term"))) ∈ lw_all := lw_g (lw_at lw_m4 61 rfl) rfl
theorem q860 : (Jvm.Cond.methodLink "LastHatch$Reader" (63 : Nat) ({ cls := "LastHatch$Reader", name := "relation", desc := "()LLastHatch$Term;" } : Jvm.MethodName)) ∈ lw_all := lw_g (lw_at lw_m4 62 rfl) rfl
theorem q861 : (Jvm.Cond.privateMethod ({ cls := "LastHatch$Reader", name := "relation", desc := "()LLastHatch$Term;" } : Jvm.MethodName)) ∈ lw_tbl := lw_at lw_m4 63 rfl
theorem q862 : (Jvm.Cond.instanceMethod ({ cls := "LastHatch$Reader", name := "relation", desc := "()LLastHatch$Term;" } : Jvm.MethodName)) ∈ lw_all := lw_g (lw_at lw_m4 64 rfl) rfl
theorem q863 : (Jvm.Cond.code ({ cls := "LastHatch$Reader", name := "relation", desc := "()LLastHatch$Term;" } : Jvm.MethodName) prog_20_method_8_code (3 : Nat) (Option.some (Jvm.ClassFile.FieldType.object "LastHatch$Term"))) ∈ lw_all := lw_g (lw_at lw_m4 65 rfl) rfl
theorem q864 : (Jvm.Cond.methodLink "LastHatch$Reader" (68 : Nat) ({ cls := "LastHatch$Reader", name := "sum", desc := "()LLastHatch$Term;" } : Jvm.MethodName)) ∈ lw_all := lw_g (lw_at lw_m4 66 rfl) rfl
theorem q865 : (Jvm.Cond.privateMethod ({ cls := "LastHatch$Reader", name := "sum", desc := "()LLastHatch$Term;" } : Jvm.MethodName)) ∈ lw_tbl := lw_at lw_m4 67 rfl
theorem q866 : (Jvm.Cond.instanceMethod ({ cls := "LastHatch$Reader", name := "sum", desc := "()LLastHatch$Term;" } : Jvm.MethodName)) ∈ lw_all := lw_g (lw_at lw_m4 68 rfl) rfl
theorem q867 : (Jvm.Cond.code ({ cls := "LastHatch$Reader", name := "sum", desc := "()LLastHatch$Term;" } : Jvm.MethodName) prog_20_method_9_code (3 : Nat) (Option.some (Jvm.ClassFile.FieldType.object "LastHatch$Term"))) ∈ lw_all := lw_g (lw_at lw_m4 69 rfl) rfl
theorem q868 : (Jvm.Cond.methodLink "LastHatch$Reader" (73 : Nat) ({ cls := "LastHatch$Reader", name := "product", desc := "()LLastHatch$Term;" } : Jvm.MethodName)) ∈ lw_all := lw_g (lw_at lw_m4 70 rfl) rfl
theorem q869 : (Jvm.Cond.privateMethod ({ cls := "LastHatch$Reader", name := "product", desc := "()LLastHatch$Term;" } : Jvm.MethodName)) ∈ lw_tbl := lw_at lw_m4 71 rfl
theorem q870 : (Jvm.Cond.instanceMethod ({ cls := "LastHatch$Reader", name := "product", desc := "()LLastHatch$Term;" } : Jvm.MethodName)) ∈ lw_all := lw_g (lw_at lw_m4 72 rfl) rfl
theorem q871 : (Jvm.Cond.code ({ cls := "LastHatch$Reader", name := "product", desc := "()LLastHatch$Term;" } : Jvm.MethodName) prog_20_method_10_code (3 : Nat) (Option.some (Jvm.ClassFile.FieldType.object "LastHatch$Term"))) ∈ lw_all := lw_g (lw_at lw_m4 73 rfl) rfl
theorem q872 : (Jvm.Cond.methodLink "LastHatch$Reader" (78 : Nat) ({ cls := "LastHatch$Reader", name := "single", desc := "()LLastHatch$Term;" } : Jvm.MethodName)) ∈ lw_all := lw_g (lw_at lw_m4 74 rfl) rfl
theorem q873 : (Jvm.Cond.privateMethod ({ cls := "LastHatch$Reader", name := "single", desc := "()LLastHatch$Term;" } : Jvm.MethodName)) ∈ lw_tbl := lw_at lw_m4 75 rfl
theorem q874 : (Jvm.Cond.instanceMethod ({ cls := "LastHatch$Reader", name := "single", desc := "()LLastHatch$Term;" } : Jvm.MethodName)) ∈ lw_all := lw_g (lw_at lw_m4 76 rfl) rfl
theorem q875 : (Jvm.Cond.code ({ cls := "LastHatch$Reader", name := "single", desc := "()LLastHatch$Term;" } : Jvm.MethodName) prog_20_method_12_code (3 : Nat) (Option.some (Jvm.ClassFile.FieldType.object "LastHatch$Term"))) ∈ lw_all := lw_g (lw_at lw_m4 77 rfl) rfl
theorem q876 : (Jvm.Cond.methodLink "LastHatch$Reader" (54 : Nat) ({ cls := "LastHatch$Reader", name := "isOne", desc := "(Ljava/lang/String;)Z" } : Jvm.MethodName)) ∈ lw_all := lw_g (lw_at lw_m4 78 rfl) rfl
theorem q877 : (Jvm.Cond.privateMethod ({ cls := "LastHatch$Reader", name := "isOne", desc := "(Ljava/lang/String;)Z" } : Jvm.MethodName)) ∈ lw_tbl := lw_at lw_m4 79 rfl
theorem q878 : (Jvm.Cond.instanceMethod ({ cls := "LastHatch$Reader", name := "isOne", desc := "(Ljava/lang/String;)Z" } : Jvm.MethodName)) ∈ lw_all := lw_g (lw_at lw_m4 80 rfl) rfl
theorem q879 : (Jvm.Cond.code ({ cls := "LastHatch$Reader", name := "isOne", desc := "(Ljava/lang/String;)Z" } : Jvm.MethodName) prog_20_method_5_code (2 : Nat) (Option.some Jvm.ClassFile.FieldType.boolean)) ∈ lw_all := lw_g (lw_at lw_m4 81 rfl) rfl
theorem q880 : (Jvm.Cond.methodLink "LastHatch$Reader" (39 : Nat) ({ cls := "LastHatch$Reader", name := "look", desc := "()I" } : Jvm.MethodName)) ∈ lw_all := lw_g (lw_at lw_m4 82 rfl) rfl
theorem q881 : (Jvm.Cond.privateMethod ({ cls := "LastHatch$Reader", name := "look", desc := "()I" } : Jvm.MethodName)) ∈ lw_tbl := lw_at lw_m4 83 rfl
theorem q882 : (Jvm.Cond.instanceMethod ({ cls := "LastHatch$Reader", name := "look", desc := "()I" } : Jvm.MethodName)) ∈ lw_all := lw_g (lw_at lw_m4 84 rfl) rfl
theorem q883 : (Jvm.Cond.code ({ cls := "LastHatch$Reader", name := "look", desc := "()I" } : Jvm.MethodName) prog_20_method_3_code (1 : Nat) (Option.some Jvm.ClassFile.FieldType.int)) ∈ lw_all := lw_g (lw_at lw_m4 85 rfl) rfl
theorem q884 : (Jvm.Cond.methodLink "LastHatch$Reader" (43 : Nat) ({ cls := "java/lang/String", name := "indexOf", desc := "(I)I" } : Jvm.MethodName)) ∈ lw_all := lw_g (lw_at lw_m4 86 rfl) rfl
theorem q966 : (Jvm.Cond.classLink "LastHatch$Reader" (86 : Nat) "LastHatch$Named") ∈ lw_all := lw_g (lw_at lw_m4 168 rfl) rfl
theorem q968 : (Jvm.Cond.methodLink "LastHatch$Reader" (88 : Nat) ({ cls := "LastHatch$Named", name := "<init>", desc := "(I)V" } : Jvm.MethodName)) ∈ lw_all := lw_g (lw_at lw_m4 170 rfl) rfl
theorem q979 : (Jvm.Cond.stringRef "LastHatch$Reader" (89 : Nat) "!") ∈ lw_tbl := lw_at lw_m4 181 rfl
theorem q980 : (Jvm.Cond.methodLink "LastHatch$Reader" (91 : Nat) ({ cls := "LastHatch$Reader", name := "opens", desc := "()V" } : Jvm.MethodName)) ∈ lw_all := lw_g (lw_at lw_m4 182 rfl) rfl
theorem q981 : (Jvm.Cond.privateMethod ({ cls := "LastHatch$Reader", name := "opens", desc := "()V" } : Jvm.MethodName)) ∈ lw_tbl := lw_at lw_m4 183 rfl
theorem q982 : (Jvm.Cond.instanceMethod ({ cls := "LastHatch$Reader", name := "opens", desc := "()V" } : Jvm.MethodName)) ∈ lw_all := lw_g (lw_at lw_m4 184 rfl) rfl
theorem q983 : (Jvm.Cond.code ({ cls := "LastHatch$Reader", name := "opens", desc := "()V" } : Jvm.MethodName) prog_20_method_11_code (1 : Nat) (Option.none : Option Jvm.ClassFile.FieldType)) ∈ lw_all := lw_g (lw_at lw_m4 185 rfl) rfl
theorem q984 : (Jvm.Cond.methodLink "LastHatch$Reader" (30 : Nat) ({ cls := "LastHatch$Reader", name := "fault", desc := "(Z)V" } : Jvm.MethodName)) ∈ lw_all := lw_g (lw_at lw_m4 186 rfl) rfl
theorem q985 : (Jvm.Cond.privateMethod ({ cls := "LastHatch$Reader", name := "fault", desc := "(Z)V" } : Jvm.MethodName)) ∈ lw_tbl := lw_at lw_m4 187 rfl
theorem q986 : (Jvm.Cond.instanceMethod ({ cls := "LastHatch$Reader", name := "fault", desc := "(Z)V" } : Jvm.MethodName)) ∈ lw_all := lw_g (lw_at lw_m4 188 rfl) rfl
theorem q987 : (Jvm.Cond.code ({ cls := "LastHatch$Reader", name := "fault", desc := "(Z)V" } : Jvm.MethodName) prog_20_method_4_code (2 : Nat) (Option.none : Option Jvm.ClassFile.FieldType)) ∈ lw_all := lw_g (lw_at lw_m4 189 rfl) rfl
theorem q988 : (Jvm.Cond.classLink "LastHatch$Reader" (34 : Nat) "LastHatch$Fault") ∈ lw_all := lw_g (lw_at lw_m4 190 rfl) rfl
theorem q997 : (Jvm.Cond.methodLink "LastHatch$Reader" (36 : Nat) ({ cls := "LastHatch$Fault", name := "<init>", desc := "(I)V" } : Jvm.MethodName)) ∈ lw_all := lw_g (lw_at lw_m4 199 rfl) rfl
theorem q1007 : (Jvm.Cond.classLink "LastHatch$Reader" (94 : Nat) "LastHatch$Turned") ∈ lw_all := lw_g (lw_at lw_m4 209 rfl) rfl
theorem q1009 : (Jvm.Cond.methodLink "LastHatch$Reader" (96 : Nat) ({ cls := "LastHatch$Turned", name := "<init>", desc := "(LLastHatch$Term;)V" } : Jvm.MethodName)) ∈ lw_all := lw_g (lw_at lw_m4 211 rfl) rfl
theorem q1017 : (Jvm.Cond.stringRef "LastHatch$Reader" (99 : Nat) "(") ∈ lw_tbl := lw_at lw_m4 219 rfl
theorem q1018 : (Jvm.Cond.methodLinkNest "LastHatch$Reader" (101 : Nat) ({ cls := "LastHatch", name := "in", desc := "(III)Z" } : Jvm.MethodName) "LastHatch") ∈ lw_tbl := lw_at lw_m4 220 rfl
theorem q1019 : (Jvm.Cond.classLink "LastHatch$Reader" (105 : Nat) "LastHatch$Figure") ∈ lw_all := lw_g (lw_at lw_m4 221 rfl) rfl
theorem q1021 : (Jvm.Cond.methodLink "LastHatch$Reader" (107 : Nat) ({ cls := "LastHatch$Figure", name := "<init>", desc := "(I)V" } : Jvm.MethodName)) ∈ lw_all := lw_g (lw_at lw_m4 223 rfl) rfl
theorem q1029 : (Jvm.Cond.stringRef "LastHatch$Reader" (81 : Nat) "*/%") ∈ lw_tbl := lw_at lw_m4 231 rfl
theorem q1030 : (Jvm.Cond.classLink "LastHatch$Reader" (58 : Nat) "LastHatch$Two") ∈ lw_all := lw_g (lw_at lw_m4 232 rfl) rfl
theorem q1032 : (Jvm.Cond.methodLink "LastHatch$Reader" (60 : Nat) ({ cls := "LastHatch$Two", name := "<init>", desc := "(ILLastHatch$Term;LLastHatch$Term;)V" } : Jvm.MethodName)) ∈ lw_all := lw_g (lw_at lw_m4 234 rfl) rfl
theorem q1046 : (Jvm.Cond.stringRef "LastHatch$Reader" (76 : Nat) "+-") ∈ lw_tbl := lw_at lw_m5 8 rfl
theorem q1047 : (Jvm.Cond.stringRef "LastHatch$Reader" (71 : Nat) "<=>") ∈ lw_tbl := lw_at lw_m5 9 rfl
theorem q1048 : (Jvm.Cond.stringRef "LastHatch$Reader" (66 : Nat) "&") ∈ lw_tbl := lw_at lw_m5 10 rfl
theorem q1049 : (Jvm.Cond.stringRef "LastHatch$Reader" (52 : Nat) "|") ∈ lw_tbl := lw_at lw_m5 11 rfl
theorem q2545 : (Jvm.Cond.castable "LastHatch$Reader" "java/lang/Object") ∈ lw_tbl := lw_at lw_m11 67 rfl
theorem in_X14 : ∀ w ∈ wsX140, w ∈ lw_all := lw_in wsX140 [837, 839, 841, 843, 845] (by decide +kernel) (by decide +kernel)

/-! LastHatch$Named -/
set_option maxRecDepth 100000
def RX15 : String := "LastHatch$Named"
def TX15 : u_T := fun k => match k with
  | _ => ("LastHatch$Named", "name", "I", true)
def tyX15 : Nat → FieldType := fun k => match k with
  | _ => .int
abbrev wsX150 : List Cond := u_ws RX15 TX15 1
theorem nmX15 : ∀ a, a < 1 → ∀ b, b < 1 → a ≠ b → (TX15 a).2.1 ≠ (TX15 b).2.1 := by decide +kernel
theorem tyX15_ok : ∀ k, k < 1 → parseFieldDescriptor (TX15 k).2.2.1 = some (tyX15 k) := by decide +kernel
abbrev cX15_value : ByteArray := prog_17_method_2_code
def yX15_value : MethodName := ⟨RX15, "value", "(LLastHatch$Facts;)I"⟩
def dkwX15_value_0 : List UInt8 := [43, 180, 0, 13, 42, 180, 0, 7, 46, 172]
abbrev dktX15_value_0 : List UInt8 := dkwX15_value_0 ++ []
theorem dksX15_value_0 : cX15_value.data.toList.drop 0 = dktX15_value_0 := by decide +kernel
theorem dX15_value_0 : decode cX15_value 0 = .ok (.aload_n 1, 1) := dk_43 (dk_at dksX15_value_0 0 rfl rfl)
theorem dX15_value_1 : decode cX15_value 1 = .ok (.getfield 13, 3) := dk_180 0 13 (dk_at dksX15_value_0 1 rfl rfl)
theorem dX15_value_4 : decode cX15_value 4 = .ok (.aload_n 0, 1) := dk_42 (dk_at dksX15_value_0 4 rfl rfl)
theorem dX15_value_5 : decode cX15_value 5 = .ok (.getfield 7, 3) := dk_180 0 7 (dk_at dksX15_value_0 5 rfl rfl)
theorem dX15_value_8 : decode cX15_value 8 = .ok (.iaload, 1) := dk_46 (dk_at dksX15_value_0 8 rfl rfl)
theorem dX15_value_9 : decode cX15_value 9 = .ok (.ireturn, 1) := dk_172 (dk_at dksX15_value_0 9 rfl rfl)
abbrev cX15_init : ByteArray := prog_17_method_1_code
def yX15_init : MethodName := ⟨RX15, "<init>", "(I)V"⟩
def dkwX15_init_0 : List UInt8 := [42, 183, 0, 1, 42, 27, 181, 0, 7, 177]
abbrev dktX15_init_0 : List UInt8 := dkwX15_init_0 ++ []
theorem dksX15_init_0 : cX15_init.data.toList.drop 0 = dktX15_init_0 := by decide +kernel
theorem dX15_init_0 : decode cX15_init 0 = .ok (.aload_n 0, 1) := dk_42 (dk_at dksX15_init_0 0 rfl rfl)
theorem dX15_init_1 : decode cX15_init 1 = .ok (.invokespecial 1, 3) := dk_183 0 1 (dk_at dksX15_init_0 1 rfl rfl)
theorem dX15_init_4 : decode cX15_init 4 = .ok (.aload_n 0, 1) := dk_42 (dk_at dksX15_init_0 4 rfl rfl)
theorem dX15_init_5 : decode cX15_init 5 = .ok (.iload_n 1, 1) := dk_27 (dk_at dksX15_init_0 5 rfl rfl)
theorem dX15_init_6 : decode cX15_init 6 = .ok (.putfield 7, 3) := dk_181 0 7 (dk_at dksX15_init_0 6 rfl rfl)
theorem dX15_init_9 : decode cX15_init 9 = .ok (.return_, 1) := dk_177 (dk_at dksX15_init_0 9 rfl rfl)
theorem q111 : (Jvm.Cond.initialized "LastHatch$Named") ∈ lw_all := lw_g (lw_at lw_m1 33 rfl) rfl
theorem q306 : (Jvm.Cond.fieldLinkNest "LastHatch$Named" (13 : Nat) "LastHatch$Facts" "named" "[I" "LastHatch") ∈ lw_tbl := lw_at lw_m1 228 rfl
theorem q607 : (Jvm.Cond.selects "LastHatch$Named" ({ cls := "java/lang/Object", name := "getClass", desc := "()Ljava/lang/Class;" } : Jvm.MethodName) ({ cls := "java/lang/Object", name := "getClass", desc := "()Ljava/lang/Class;" } : Jvm.MethodName)) ∈ lw_all := lw_g (lw_at lw_m3 49 rfl) rfl
theorem q750 : (Jvm.Cond.selects "LastHatch$Named" ({ cls := "LastHatch$Term", name := "value", desc := "(LLastHatch$Facts;)I" } : Jvm.MethodName) ({ cls := "LastHatch$Named", name := "value", desc := "(LLastHatch$Facts;)I" } : Jvm.MethodName)) ∈ lw_all := lw_g (lw_at lw_m3 192 rfl) rfl
theorem q751 : (Jvm.Cond.instanceMethod ({ cls := "LastHatch$Named", name := "value", desc := "(LLastHatch$Facts;)I" } : Jvm.MethodName)) ∈ lw_all := lw_g (lw_at lw_m3 193 rfl) rfl
theorem q752 : (Jvm.Cond.code ({ cls := "LastHatch$Named", name := "value", desc := "(LLastHatch$Facts;)I" } : Jvm.MethodName) prog_17_method_2_code (2 : Nat) (Option.some Jvm.ClassFile.FieldType.int)) ∈ lw_all := lw_g (lw_at lw_m3 194 rfl) rfl
theorem q967 : (Jvm.Cond.instantiable "LastHatch$Named" (1 : Nat)) ∈ lw_all := lw_g (lw_at lw_m4 169 rfl) rfl
theorem q969 : (Jvm.Cond.instanceMethod ({ cls := "LastHatch$Named", name := "<init>", desc := "(I)V" } : Jvm.MethodName)) ∈ lw_all := lw_g (lw_at lw_m4 171 rfl) rfl
theorem q970 : (Jvm.Cond.code ({ cls := "LastHatch$Named", name := "<init>", desc := "(I)V" } : Jvm.MethodName) prog_17_method_1_code (2 : Nat) (Option.none : Option Jvm.ClassFile.FieldType)) ∈ lw_all := lw_g (lw_at lw_m4 172 rfl) rfl
theorem q971 : (Jvm.Cond.methodLinkNest "LastHatch$Named" (1 : Nat) ({ cls := "LastHatch$Term", name := "<init>", desc := "()V" } : Jvm.MethodName) "LastHatch") ∈ lw_tbl := lw_at lw_m4 173 rfl
theorem q975 : (Jvm.Cond.fieldLink "LastHatch$Named" (7 : Nat) "LastHatch$Named" "name" "I") ∈ lw_all := lw_g (lw_at lw_m4 177 rfl) rfl
theorem q976 : (Jvm.Cond.laysFinal "LastHatch$Named" "LastHatch$Named" "name" "I") ∈ lw_all := lw_g (lw_at lw_m4 178 rfl) rfl
theorem q977 : (Jvm.Cond.soleField "LastHatch$Named" "name") ∈ lw_all := lw_g (lw_at lw_m4 179 rfl) rfl
theorem q978 : (Jvm.Cond.superclass "LastHatch$Named" "LastHatch$Term") ∈ lw_all := lw_g (lw_at lw_m4 180 rfl) rfl
theorem q2546 : (Jvm.Cond.castable "LastHatch$Named" "java/lang/Object") ∈ lw_tbl := lw_at lw_m11 68 rfl
theorem q2563 : (Jvm.Cond.castable "LastHatch$Named" "LastHatch$Term") ∈ lw_tbl := lw_at lw_m11 85 rfl
theorem in_X15 : ∀ w ∈ wsX150, w ∈ lw_all := lw_in wsX150 [976] (by decide +kernel) (by decide +kernel)

/-! LastHatch$Fault -/
set_option maxRecDepth 100000
def RX16 : String := "LastHatch$Fault"
def TX16 : u_T := fun k => match k with
  | 0 => ("java/lang/Throwable", "cause", "Ljava/lang/Throwable;", false)
  | 1 => ("java/lang/Throwable", "stackTrace", "[Ljava/lang/StackTraceElement;", false)
  | 2 => ("java/lang/Throwable", "suppressedExceptions", "Ljava/util/List;", false)
  | 3 => ("java/lang/Throwable", "detailMessage", "Ljava/lang/String;", false)
  | 4 => ("java/lang/Throwable", "backtrace", "Ljava/lang/Object;", false)
  | 5 => ("java/lang/Throwable", "depth", "I", false)
  | _ => ("LastHatch$Fault", "place", "I", true)
def tyX16 : Nat → FieldType := fun k => match k with
  | 0 => .object "java/lang/Throwable"
  | 1 => .array (.object "java/lang/StackTraceElement")
  | 2 => .object "java/util/List"
  | 3 => .object "java/lang/String"
  | 4 => .object "java/lang/Object"
  | 5 => .int
  | _ => .int
abbrev wsX160 : List Cond := u_ws RX16 TX16 7
theorem nmX16 : ∀ a, a < 7 → ∀ b, b < 7 → a ≠ b → (TX16 a).2.1 ≠ (TX16 b).2.1 := by decide +kernel
theorem tyX16_ok : ∀ k, k < 7 → parseFieldDescriptor (TX16 k).2.2.1 = some (tyX16 k) := by decide +kernel
abbrev cX16_init : ByteArray := prog_7_method_1_code
def yX16_init : MethodName := ⟨RX16, "<init>", "(I)V"⟩
def dkwX16_init_0 : List UInt8 := [42, 1, 1, 3, 3, 183, 0, 1, 42, 27, 181, 0, 7, 177]
abbrev dktX16_init_0 : List UInt8 := dkwX16_init_0 ++ []
theorem dksX16_init_0 : cX16_init.data.toList.drop 0 = dktX16_init_0 := by decide +kernel
theorem dX16_init_0 : decode cX16_init 0 = .ok (.aload_n 0, 1) := dk_42 (dk_at dksX16_init_0 0 rfl rfl)
theorem dX16_init_1 : decode cX16_init 1 = .ok (.aconst_null, 1) := dk_1 (dk_at dksX16_init_0 1 rfl rfl)
theorem dX16_init_2 : decode cX16_init 2 = .ok (.aconst_null, 1) := dk_1 (dk_at dksX16_init_0 2 rfl rfl)
theorem dX16_init_3 : decode cX16_init 3 = .ok (.iconst 0, 1) := dk_3 (dk_at dksX16_init_0 3 rfl rfl)
theorem dX16_init_4 : decode cX16_init 4 = .ok (.iconst 0, 1) := dk_3 (dk_at dksX16_init_0 4 rfl rfl)
theorem dX16_init_5 : decode cX16_init 5 = .ok (.invokespecial 1, 3) := dk_183 0 1 (dk_at dksX16_init_0 5 rfl rfl)
theorem dX16_init_8 : decode cX16_init 8 = .ok (.aload_n 0, 1) := dk_42 (dk_at dksX16_init_0 8 rfl rfl)
theorem dX16_init_9 : decode cX16_init 9 = .ok (.iload_n 1, 1) := dk_27 (dk_at dksX16_init_0 9 rfl rfl)
theorem dX16_init_10 : decode cX16_init 10 = .ok (.putfield 7, 3) := dk_181 0 7 (dk_at dksX16_init_0 10 rfl rfl)
theorem dX16_init_13 : decode cX16_init 13 = .ok (.return_, 1) := dk_177 (dk_at dksX16_init_0 13 rfl rfl)
theorem q112 : (Jvm.Cond.initialized "LastHatch$Fault") ∈ lw_all := lw_g (lw_at lw_m1 34 rfl) rfl
theorem q168 : (Jvm.Cond.selects "LastHatch$Fault" ({ cls := "java/lang/Throwable", name := "fillInStackTrace", desc := "()Ljava/lang/Throwable;" } : Jvm.MethodName) ({ cls := "java/lang/Throwable", name := "fillInStackTrace", desc := "()Ljava/lang/Throwable;" } : Jvm.MethodName)) ∈ lw_all := lw_g (lw_at lw_m1 90 rfl) rfl
theorem q597 : (Jvm.Cond.selects "LastHatch$Fault" ({ cls := "java/lang/Object", name := "getClass", desc := "()Ljava/lang/Class;" } : Jvm.MethodName) ({ cls := "java/lang/Object", name := "getClass", desc := "()Ljava/lang/Class;" } : Jvm.MethodName)) ∈ lw_all := lw_g (lw_at lw_m3 39 rfl) rfl
theorem q989 : (Jvm.Cond.instantiable "LastHatch$Fault" (7 : Nat)) ∈ lw_all := lw_g (lw_at lw_m4 191 rfl) rfl
theorem q990 : (Jvm.Cond.castable "LastHatch$Fault" "LastHatch$Fault") ∈ lw_tbl := lw_at lw_m4 192 rfl
theorem q991 : (Jvm.Cond.selects "LastHatch$Fault" ({ cls := "java/lang/Throwable", name := "fillInStackTrace", desc := "(I)Ljava/lang/Throwable;" } : Jvm.MethodName) ({ cls := "java/lang/Throwable", name := "fillInStackTrace", desc := "(I)Ljava/lang/Throwable;" } : Jvm.MethodName)) ∈ lw_all := lw_g (lw_at lw_m4 193 rfl) rfl
theorem q992 : (Jvm.Cond.lays "LastHatch$Fault" "java/lang/Throwable" "cause" "Ljava/lang/Throwable;") ∈ lw_all := lw_g (lw_at lw_m4 194 rfl) rfl
theorem q993 : (Jvm.Cond.lays "LastHatch$Fault" "java/lang/Throwable" "stackTrace" "[Ljava/lang/StackTraceElement;") ∈ lw_all := lw_g (lw_at lw_m4 195 rfl) rfl
theorem q994 : (Jvm.Cond.lays "LastHatch$Fault" "java/lang/Throwable" "suppressedExceptions" "Ljava/util/List;") ∈ lw_all := lw_g (lw_at lw_m4 196 rfl) rfl
theorem q995 : (Jvm.Cond.lays "LastHatch$Fault" "java/lang/Throwable" "detailMessage" "Ljava/lang/String;") ∈ lw_all := lw_g (lw_at lw_m4 197 rfl) rfl
theorem q996 : (Jvm.Cond.lays "LastHatch$Fault" "java/lang/Throwable" "backtrace" "Ljava/lang/Object;") ∈ lw_all := lw_g (lw_at lw_m4 198 rfl) rfl
theorem q998 : (Jvm.Cond.instanceMethod ({ cls := "LastHatch$Fault", name := "<init>", desc := "(I)V" } : Jvm.MethodName)) ∈ lw_all := lw_g (lw_at lw_m4 200 rfl) rfl
theorem q999 : (Jvm.Cond.code ({ cls := "LastHatch$Fault", name := "<init>", desc := "(I)V" } : Jvm.MethodName) prog_7_method_1_code (2 : Nat) (Option.none : Option Jvm.ClassFile.FieldType)) ∈ lw_all := lw_g (lw_at lw_m4 201 rfl) rfl
theorem q1000 : (Jvm.Cond.methodLink "LastHatch$Fault" (1 : Nat) ({ cls := "java/lang/RuntimeException", name := "<init>", desc := "(Ljava/lang/String;Ljava/lang/Throwable;ZZ)V" } : Jvm.MethodName)) ∈ lw_all := lw_g (lw_at lw_m4 202 rfl) rfl
theorem q1001 : (Jvm.Cond.fieldLink "LastHatch$Fault" (7 : Nat) "LastHatch$Fault" "place" "I") ∈ lw_all := lw_g (lw_at lw_m4 203 rfl) rfl
theorem q1003 : (Jvm.Cond.laysFinal "LastHatch$Fault" "LastHatch$Fault" "place" "I") ∈ lw_all := lw_g (lw_at lw_m4 205 rfl) rfl
theorem q1004 : (Jvm.Cond.soleField "LastHatch$Fault" "place") ∈ lw_all := lw_g (lw_at lw_m4 206 rfl) rfl
theorem q1005 : (Jvm.Cond.lays "LastHatch$Fault" "java/lang/Throwable" "depth" "I") ∈ lw_all := lw_g (lw_at lw_m4 207 rfl) rfl
theorem q1006 : (Jvm.Cond.superclass "LastHatch$Fault" "java/lang/RuntimeException") ∈ lw_all := lw_g (lw_at lw_m4 208 rfl) rfl
theorem q2547 : (Jvm.Cond.castable "LastHatch$Fault" "java/lang/Object") ∈ lw_tbl := lw_at lw_m11 69 rfl
theorem in_X16 : ∀ w ∈ wsX160, w ∈ lw_all := lw_in wsX160 [992, 993, 994, 995, 996, 1005, 1003] (by decide +kernel) (by decide +kernel)

/-! LastHatch$Turned -/
set_option maxRecDepth 100000
def RX17 : String := "LastHatch$Turned"
def TX17 : u_T := fun k => match k with
  | _ => ("LastHatch$Turned", "of", "LLastHatch$Term;", true)
def tyX17 : Nat → FieldType := fun k => match k with
  | _ => .object "LastHatch$Term"
abbrev wsX170 : List Cond := u_ws RX17 TX17 1
theorem nmX17 : ∀ a, a < 1 → ∀ b, b < 1 → a ≠ b → (TX17 a).2.1 ≠ (TX17 b).2.1 := by decide +kernel
theorem tyX17_ok : ∀ k, k < 1 → parseFieldDescriptor (TX17 k).2.2.1 = some (tyX17 k) := by decide +kernel
abbrev cX17_value : ByteArray := prog_32_method_2_code
def yX17_value : MethodName := ⟨RX17, "value", "(LLastHatch$Facts;)I"⟩
def dkwX17_value_0 : List UInt8 := [42, 180, 0, 7, 43, 182, 0, 13, 154, 0, 7, 4, 167, 0, 4, 3, 172]
abbrev dktX17_value_0 : List UInt8 := dkwX17_value_0 ++ []
theorem dksX17_value_0 : cX17_value.data.toList.drop 0 = dktX17_value_0 := by decide +kernel
theorem dX17_value_0 : decode cX17_value 0 = .ok (.aload_n 0, 1) := dk_42 (dk_at dksX17_value_0 0 rfl rfl)
theorem dX17_value_1 : decode cX17_value 1 = .ok (.getfield 7, 3) := dk_180 0 7 (dk_at dksX17_value_0 1 rfl rfl)
theorem dX17_value_4 : decode cX17_value 4 = .ok (.aload_n 1, 1) := dk_43 (dk_at dksX17_value_0 4 rfl rfl)
theorem dX17_value_5 : decode cX17_value 5 = .ok (.invokevirtual 13, 3) := dk_182 0 13 (dk_at dksX17_value_0 5 rfl rfl)
theorem dX17_value_8 : decode cX17_value 8 = .ok (.ifCond .ne 7, 3) := dk_154 0 7 (dk_at dksX17_value_0 8 rfl rfl)
theorem dX17_value_11 : decode cX17_value 11 = .ok (.iconst 1, 1) := dk_4 (dk_at dksX17_value_0 11 rfl rfl)
theorem dX17_value_12 : decode cX17_value 12 = .ok (.goto 4, 3) := dk_167 0 4 (dk_at dksX17_value_0 12 rfl rfl)
theorem dX17_value_15 : decode cX17_value 15 = .ok (.iconst 0, 1) := dk_3 (dk_at dksX17_value_0 15 rfl rfl)
theorem dX17_value_16 : decode cX17_value 16 = .ok (.ireturn, 1) := dk_172 (dk_at dksX17_value_0 16 rfl rfl)
abbrev cX17_init : ByteArray := prog_32_method_1_code
def yX17_init : MethodName := ⟨RX17, "<init>", "(LLastHatch$Term;)V"⟩
def dkwX17_init_0 : List UInt8 := [42, 183, 0, 1, 42, 43, 181, 0, 7, 177]
abbrev dktX17_init_0 : List UInt8 := dkwX17_init_0 ++ []
theorem dksX17_init_0 : cX17_init.data.toList.drop 0 = dktX17_init_0 := by decide +kernel
theorem dX17_init_0 : decode cX17_init 0 = .ok (.aload_n 0, 1) := dk_42 (dk_at dksX17_init_0 0 rfl rfl)
theorem dX17_init_1 : decode cX17_init 1 = .ok (.invokespecial 1, 3) := dk_183 0 1 (dk_at dksX17_init_0 1 rfl rfl)
theorem dX17_init_4 : decode cX17_init 4 = .ok (.aload_n 0, 1) := dk_42 (dk_at dksX17_init_0 4 rfl rfl)
theorem dX17_init_5 : decode cX17_init 5 = .ok (.aload_n 1, 1) := dk_43 (dk_at dksX17_init_0 5 rfl rfl)
theorem dX17_init_6 : decode cX17_init 6 = .ok (.putfield 7, 3) := dk_181 0 7 (dk_at dksX17_init_0 6 rfl rfl)
theorem dX17_init_9 : decode cX17_init 9 = .ok (.return_, 1) := dk_177 (dk_at dksX17_init_0 9 rfl rfl)
theorem q113 : (Jvm.Cond.initialized "LastHatch$Turned") ∈ lw_all := lw_g (lw_at lw_m1 35 rfl) rfl
theorem q616 : (Jvm.Cond.selects "LastHatch$Turned" ({ cls := "java/lang/Object", name := "getClass", desc := "()Ljava/lang/Class;" } : Jvm.MethodName) ({ cls := "java/lang/Object", name := "getClass", desc := "()Ljava/lang/Class;" } : Jvm.MethodName)) ∈ lw_all := lw_g (lw_at lw_m3 58 rfl) rfl
theorem q753 : (Jvm.Cond.selects "LastHatch$Turned" ({ cls := "LastHatch$Term", name := "value", desc := "(LLastHatch$Facts;)I" } : Jvm.MethodName) ({ cls := "LastHatch$Turned", name := "value", desc := "(LLastHatch$Facts;)I" } : Jvm.MethodName)) ∈ lw_all := lw_g (lw_at lw_m3 195 rfl) rfl
theorem q754 : (Jvm.Cond.instanceMethod ({ cls := "LastHatch$Turned", name := "value", desc := "(LLastHatch$Facts;)I" } : Jvm.MethodName)) ∈ lw_all := lw_g (lw_at lw_m3 196 rfl) rfl
theorem q755 : (Jvm.Cond.code ({ cls := "LastHatch$Turned", name := "value", desc := "(LLastHatch$Facts;)I" } : Jvm.MethodName) prog_32_method_2_code (2 : Nat) (Option.some Jvm.ClassFile.FieldType.int)) ∈ lw_all := lw_g (lw_at lw_m3 197 rfl) rfl
theorem q756 : (Jvm.Cond.methodLink "LastHatch$Turned" (13 : Nat) ({ cls := "LastHatch$Term", name := "value", desc := "(LLastHatch$Facts;)I" } : Jvm.MethodName)) ∈ lw_all := lw_g (lw_at lw_m3 198 rfl) rfl
theorem q1008 : (Jvm.Cond.instantiable "LastHatch$Turned" (1 : Nat)) ∈ lw_all := lw_g (lw_at lw_m4 210 rfl) rfl
theorem q1010 : (Jvm.Cond.instanceMethod ({ cls := "LastHatch$Turned", name := "<init>", desc := "(LLastHatch$Term;)V" } : Jvm.MethodName)) ∈ lw_all := lw_g (lw_at lw_m4 212 rfl) rfl
theorem q1011 : (Jvm.Cond.code ({ cls := "LastHatch$Turned", name := "<init>", desc := "(LLastHatch$Term;)V" } : Jvm.MethodName) prog_32_method_1_code (2 : Nat) (Option.none : Option Jvm.ClassFile.FieldType)) ∈ lw_all := lw_g (lw_at lw_m4 213 rfl) rfl
theorem q1012 : (Jvm.Cond.methodLinkNest "LastHatch$Turned" (1 : Nat) ({ cls := "LastHatch$Term", name := "<init>", desc := "()V" } : Jvm.MethodName) "LastHatch") ∈ lw_tbl := lw_at lw_m4 214 rfl
theorem q1013 : (Jvm.Cond.fieldLink "LastHatch$Turned" (7 : Nat) "LastHatch$Turned" "of" "LLastHatch$Term;") ∈ lw_all := lw_g (lw_at lw_m4 215 rfl) rfl
theorem q1014 : (Jvm.Cond.laysFinal "LastHatch$Turned" "LastHatch$Turned" "of" "LLastHatch$Term;") ∈ lw_all := lw_g (lw_at lw_m4 216 rfl) rfl
theorem q1015 : (Jvm.Cond.soleField "LastHatch$Turned" "of") ∈ lw_all := lw_g (lw_at lw_m4 217 rfl) rfl
theorem q1016 : (Jvm.Cond.superclass "LastHatch$Turned" "LastHatch$Term") ∈ lw_all := lw_g (lw_at lw_m4 218 rfl) rfl
theorem q2548 : (Jvm.Cond.castable "LastHatch$Turned" "java/lang/Object") ∈ lw_tbl := lw_at lw_m11 70 rfl
theorem q2564 : (Jvm.Cond.castable "LastHatch$Turned" "LastHatch$Term") ∈ lw_tbl := lw_at lw_m11 86 rfl
theorem in_X17 : ∀ w ∈ wsX170, w ∈ lw_all := lw_in wsX170 [1014] (by decide +kernel) (by decide +kernel)

/-! LastHatch$Figure -/
set_option maxRecDepth 100000
def RX18 : String := "LastHatch$Figure"
def TX18 : u_T := fun k => match k with
  | _ => ("LastHatch$Figure", "v", "I", true)
def tyX18 : Nat → FieldType := fun k => match k with
  | _ => .int
abbrev wsX180 : List Cond := u_ws RX18 TX18 1
theorem nmX18 : ∀ a, a < 1 → ∀ b, b < 1 → a ≠ b → (TX18 a).2.1 ≠ (TX18 b).2.1 := by decide +kernel
theorem tyX18_ok : ∀ k, k < 1 → parseFieldDescriptor (TX18 k).2.2.1 = some (tyX18 k) := by decide +kernel
abbrev cX18_value : ByteArray := prog_8_method_2_code
def yX18_value : MethodName := ⟨RX18, "value", "(LLastHatch$Facts;)I"⟩
theorem dX18_value_0 : decode cX18_value 0 = .ok (.aload_n 0, 1) := by decide +kernel
theorem dX18_value_1 : decode cX18_value 1 = .ok (.getfield 7, 3) := by decide +kernel
theorem dX18_value_4 : decode cX18_value 4 = .ok (.ireturn, 1) := by decide +kernel
abbrev cX18_init : ByteArray := prog_8_method_1_code
def yX18_init : MethodName := ⟨RX18, "<init>", "(I)V"⟩
def dkwX18_init_0 : List UInt8 := [42, 183, 0, 1, 42, 27, 181, 0, 7, 177]
abbrev dktX18_init_0 : List UInt8 := dkwX18_init_0 ++ []
theorem dksX18_init_0 : cX18_init.data.toList.drop 0 = dktX18_init_0 := by decide +kernel
theorem dX18_init_0 : decode cX18_init 0 = .ok (.aload_n 0, 1) := dk_42 (dk_at dksX18_init_0 0 rfl rfl)
theorem dX18_init_1 : decode cX18_init 1 = .ok (.invokespecial 1, 3) := dk_183 0 1 (dk_at dksX18_init_0 1 rfl rfl)
theorem dX18_init_4 : decode cX18_init 4 = .ok (.aload_n 0, 1) := dk_42 (dk_at dksX18_init_0 4 rfl rfl)
theorem dX18_init_5 : decode cX18_init 5 = .ok (.iload_n 1, 1) := dk_27 (dk_at dksX18_init_0 5 rfl rfl)
theorem dX18_init_6 : decode cX18_init 6 = .ok (.putfield 7, 3) := dk_181 0 7 (dk_at dksX18_init_0 6 rfl rfl)
theorem dX18_init_9 : decode cX18_init 9 = .ok (.return_, 1) := dk_177 (dk_at dksX18_init_0 9 rfl rfl)
theorem q114 : (Jvm.Cond.initialized "LastHatch$Figure") ∈ lw_all := lw_g (lw_at lw_m1 36 rfl) rfl
theorem q598 : (Jvm.Cond.selects "LastHatch$Figure" ({ cls := "java/lang/Object", name := "getClass", desc := "()Ljava/lang/Class;" } : Jvm.MethodName) ({ cls := "java/lang/Object", name := "getClass", desc := "()Ljava/lang/Class;" } : Jvm.MethodName)) ∈ lw_all := lw_g (lw_at lw_m3 40 rfl) rfl
theorem q747 : (Jvm.Cond.selects "LastHatch$Figure" ({ cls := "LastHatch$Term", name := "value", desc := "(LLastHatch$Facts;)I" } : Jvm.MethodName) ({ cls := "LastHatch$Figure", name := "value", desc := "(LLastHatch$Facts;)I" } : Jvm.MethodName)) ∈ lw_all := lw_g (lw_at lw_m3 189 rfl) rfl
theorem q748 : (Jvm.Cond.instanceMethod ({ cls := "LastHatch$Figure", name := "value", desc := "(LLastHatch$Facts;)I" } : Jvm.MethodName)) ∈ lw_all := lw_g (lw_at lw_m3 190 rfl) rfl
theorem q749 : (Jvm.Cond.code ({ cls := "LastHatch$Figure", name := "value", desc := "(LLastHatch$Facts;)I" } : Jvm.MethodName) prog_8_method_2_code (2 : Nat) (Option.some Jvm.ClassFile.FieldType.int)) ∈ lw_all := lw_g (lw_at lw_m3 191 rfl) rfl
theorem q1020 : (Jvm.Cond.instantiable "LastHatch$Figure" (1 : Nat)) ∈ lw_all := lw_g (lw_at lw_m4 222 rfl) rfl
theorem q1022 : (Jvm.Cond.instanceMethod ({ cls := "LastHatch$Figure", name := "<init>", desc := "(I)V" } : Jvm.MethodName)) ∈ lw_all := lw_g (lw_at lw_m4 224 rfl) rfl
theorem q1023 : (Jvm.Cond.code ({ cls := "LastHatch$Figure", name := "<init>", desc := "(I)V" } : Jvm.MethodName) prog_8_method_1_code (2 : Nat) (Option.none : Option Jvm.ClassFile.FieldType)) ∈ lw_all := lw_g (lw_at lw_m4 225 rfl) rfl
theorem q1024 : (Jvm.Cond.methodLinkNest "LastHatch$Figure" (1 : Nat) ({ cls := "LastHatch$Term", name := "<init>", desc := "()V" } : Jvm.MethodName) "LastHatch") ∈ lw_tbl := lw_at lw_m4 226 rfl
theorem q1025 : (Jvm.Cond.fieldLink "LastHatch$Figure" (7 : Nat) "LastHatch$Figure" "v" "I") ∈ lw_all := lw_g (lw_at lw_m4 227 rfl) rfl
theorem q1026 : (Jvm.Cond.laysFinal "LastHatch$Figure" "LastHatch$Figure" "v" "I") ∈ lw_all := lw_g (lw_at lw_m4 228 rfl) rfl
theorem q1027 : (Jvm.Cond.soleField "LastHatch$Figure" "v") ∈ lw_all := lw_g (lw_at lw_m4 229 rfl) rfl
theorem q1028 : (Jvm.Cond.superclass "LastHatch$Figure" "LastHatch$Term") ∈ lw_all := lw_g (lw_at lw_m4 230 rfl) rfl
theorem q2549 : (Jvm.Cond.castable "LastHatch$Figure" "java/lang/Object") ∈ lw_tbl := lw_at lw_m11 71 rfl
theorem q2565 : (Jvm.Cond.castable "LastHatch$Figure" "LastHatch$Term") ∈ lw_tbl := lw_at lw_m11 87 rfl
theorem in_X18 : ∀ w ∈ wsX180, w ∈ lw_all := lw_in wsX180 [1026] (by decide +kernel) (by decide +kernel)

/-! LastHatch$Way -/
set_option maxRecDepth 100000
def RX19 : String := "LastHatch$Way"
def TX19 : u_T := fun k => match k with
  | 0 => ("LastHatch$Way", "trace", "LLastHatch$Trace;", true)
  | 1 => ("LastHatch$Way", "number", "I", true)
  | 2 => ("LastHatch$Way", "t", "I", true)
  | 3 => ("LastHatch$Way", "n", "I", true)
  | _ => ("LastHatch$Way", "risk", "I", true)
def tyX19 : Nat → FieldType := fun k => match k with
  | 0 => .object "LastHatch$Trace"
  | 1 => .int
  | 2 => .int
  | 3 => .int
  | _ => .int
abbrev wsX190 : List Cond := u_ws RX19 TX19 5
theorem nmX19 : ∀ a, a < 5 → ∀ b, b < 5 → a ≠ b → (TX19 a).2.1 ≠ (TX19 b).2.1 := by decide +kernel
theorem tyX19_ok : ∀ k, k < 5 → parseFieldDescriptor (TX19 k).2.2.1 = some (tyX19 k) := by decide +kernel
abbrev cX19_init : ByteArray := prog_35_method_1_code
def yX19_init : MethodName := ⟨RX19, "<init>", "(LLastHatch$Trace;IIII)V"⟩
def dkwX19_init_1 : List UInt8 := [181, 0, 22, 42, 21, 5, 181, 0, 25, 177]
abbrev dktX19_init_1 : List UInt8 := dkwX19_init_1 ++ []
def dkwX19_init_0 : List UInt8 := [42, 183, 0, 3, 42, 43, 181, 0, 9, 42, 28, 181, 0, 15, 42, 29, 181, 0, 19, 42, 21, 4]
abbrev dktX19_init_0 : List UInt8 := dkwX19_init_0 ++ dktX19_init_1
theorem dksX19_init_0 : cX19_init.data.toList.drop 0 = dktX19_init_0 := by decide +kernel
theorem dksX19_init_1 : cX19_init.data.toList.drop 22 = dktX19_init_1 := dk_seg dksX19_init_0 22 rfl rfl
theorem dX19_init_0 : decode cX19_init 0 = .ok (.aload_n 0, 1) := dk_42 (dk_at dksX19_init_0 0 rfl rfl)
theorem dX19_init_1 : decode cX19_init 1 = .ok (.invokespecial 3, 3) := dk_183 0 3 (dk_at dksX19_init_0 1 rfl rfl)
theorem dX19_init_4 : decode cX19_init 4 = .ok (.aload_n 0, 1) := dk_42 (dk_at dksX19_init_0 4 rfl rfl)
theorem dX19_init_5 : decode cX19_init 5 = .ok (.aload_n 1, 1) := dk_43 (dk_at dksX19_init_0 5 rfl rfl)
theorem dX19_init_6 : decode cX19_init 6 = .ok (.putfield 9, 3) := dk_181 0 9 (dk_at dksX19_init_0 6 rfl rfl)
theorem dX19_init_9 : decode cX19_init 9 = .ok (.aload_n 0, 1) := dk_42 (dk_at dksX19_init_0 9 rfl rfl)
theorem dX19_init_10 : decode cX19_init 10 = .ok (.iload_n 2, 1) := dk_28 (dk_at dksX19_init_0 10 rfl rfl)
theorem dX19_init_11 : decode cX19_init 11 = .ok (.putfield 15, 3) := dk_181 0 15 (dk_at dksX19_init_0 11 rfl rfl)
theorem dX19_init_14 : decode cX19_init 14 = .ok (.aload_n 0, 1) := dk_42 (dk_at dksX19_init_0 14 rfl rfl)
theorem dX19_init_15 : decode cX19_init 15 = .ok (.iload_n 3, 1) := dk_29 (dk_at dksX19_init_0 15 rfl rfl)
theorem dX19_init_16 : decode cX19_init 16 = .ok (.putfield 19, 3) := dk_181 0 19 (dk_at dksX19_init_0 16 rfl rfl)
theorem dX19_init_19 : decode cX19_init 19 = .ok (.aload_n 0, 1) := dk_42 (dk_at dksX19_init_0 19 rfl rfl)
theorem dX19_init_20 : decode cX19_init 20 = .ok (.iload 4, 2) := dk_21 4 (dk_at dksX19_init_0 20 rfl rfl)
theorem dX19_init_22 : decode cX19_init 22 = .ok (.putfield 22, 3) := dk_181 0 22 (dk_at dksX19_init_1 0 rfl rfl)
theorem dX19_init_25 : decode cX19_init 25 = .ok (.aload_n 0, 1) := dk_42 (dk_at dksX19_init_1 3 rfl rfl)
theorem dX19_init_26 : decode cX19_init 26 = .ok (.iload 5, 2) := dk_21 5 (dk_at dksX19_init_1 4 rfl rfl)
theorem dX19_init_28 : decode cX19_init 28 = .ok (.putfield 25, 3) := dk_181 0 25 (dk_at dksX19_init_1 6 rfl rfl)
theorem dX19_init_31 : decode cX19_init 31 = .ok (.return_, 1) := dk_177 (dk_at dksX19_init_1 9 rfl rfl)
abbrev cX19_isOf : ByteArray := prog_35_method_2_code
def yX19_isOf : MethodName := ⟨RX19, "isOf", "(I)Z"⟩
def dkwX19_isOf_0 : List UInt8 := [27, 154, 0, 7, 4, 167, 0, 4, 3, 172]
abbrev dktX19_isOf_0 : List UInt8 := dkwX19_isOf_0 ++ []
theorem dksX19_isOf_0 : cX19_isOf.data.toList.drop 0 = dktX19_isOf_0 := by decide +kernel
theorem dX19_isOf_0 : decode cX19_isOf 0 = .ok (.iload_n 1, 1) := dk_27 (dk_at dksX19_isOf_0 0 rfl rfl)
theorem dX19_isOf_1 : decode cX19_isOf 1 = .ok (.ifCond .ne 7, 3) := dk_154 0 7 (dk_at dksX19_isOf_0 1 rfl rfl)
theorem dX19_isOf_4 : decode cX19_isOf 4 = .ok (.iconst 1, 1) := dk_4 (dk_at dksX19_isOf_0 4 rfl rfl)
theorem dX19_isOf_5 : decode cX19_isOf 5 = .ok (.goto 4, 3) := dk_167 0 4 (dk_at dksX19_isOf_0 5 rfl rfl)
theorem dX19_isOf_8 : decode cX19_isOf 8 = .ok (.iconst 0, 1) := dk_3 (dk_at dksX19_isOf_0 8 rfl rfl)
theorem dX19_isOf_9 : decode cX19_isOf 9 = .ok (.ireturn, 1) := dk_172 (dk_at dksX19_isOf_0 9 rfl rfl)
abbrev cX19_out : ByteArray := prog_35_method_3_code
def yX19_out : MethodName := ⟨RX19, "out", "(IILLastHatch$Divers;)I"⟩
theorem dX19_out_0 : decode cX19_out 0 = .ok (.iconst 0, 1) := by decide +kernel
theorem dX19_out_1 : decode cX19_out 1 = .ok (.ireturn, 1) := by decide +kernel
abbrev cX19_needs : ByteArray := prog_35_method_4_code
def yX19_needs : MethodName := ⟨RX19, "needs", "(I)I"⟩
def dkwX19_needs_0 : List UInt8 := [42, 180, 0, 9, 16, 10, 182, 0, 28, 27, 42, 180, 0, 15, 96, 172]
abbrev dktX19_needs_0 : List UInt8 := dkwX19_needs_0 ++ []
theorem dksX19_needs_0 : cX19_needs.data.toList.drop 0 = dktX19_needs_0 := by decide +kernel
theorem dX19_needs_0 : decode cX19_needs 0 = .ok (.aload_n 0, 1) := dk_42 (dk_at dksX19_needs_0 0 rfl rfl)
theorem dX19_needs_1 : decode cX19_needs 1 = .ok (.getfield 9, 3) := dk_180 0 9 (dk_at dksX19_needs_0 1 rfl rfl)
theorem dX19_needs_4 : decode cX19_needs 4 = .ok (.bipush 10, 2) := dk_16 10 (dk_at dksX19_needs_0 4 rfl rfl)
theorem dX19_needs_6 : decode cX19_needs 6 = .ok (.invokevirtual 28, 3) := dk_182 0 28 (dk_at dksX19_needs_0 6 rfl rfl)
theorem dX19_needs_9 : decode cX19_needs 9 = .ok (.iload_n 1, 1) := dk_27 (dk_at dksX19_needs_0 9 rfl rfl)
theorem dX19_needs_10 : decode cX19_needs 10 = .ok (.aload_n 0, 1) := dk_42 (dk_at dksX19_needs_0 10 rfl rfl)
theorem dX19_needs_11 : decode cX19_needs 11 = .ok (.getfield 15, 3) := dk_180 0 15 (dk_at dksX19_needs_0 11 rfl rfl)
theorem dX19_needs_14 : decode cX19_needs 14 = .ok (.iadd, 1) := dk_96 (dk_at dksX19_needs_0 14 rfl rfl)
theorem dX19_needs_15 : decode cX19_needs 15 = .ok (.ireturn, 1) := dk_172 (dk_at dksX19_needs_0 15 rfl rfl)
abbrev cX19_takes : ByteArray := prog_35_method_5_code
def yX19_takes : MethodName := ⟨RX19, "takes", "(I)I"⟩
def dkwX19_takes_0 : List UInt8 := [42, 180, 0, 9, 16, 11, 182, 0, 28, 42, 27, 182, 0, 34, 5, 104, 172]
abbrev dktX19_takes_0 : List UInt8 := dkwX19_takes_0 ++ []
theorem dksX19_takes_0 : cX19_takes.data.toList.drop 0 = dktX19_takes_0 := by decide +kernel
theorem dX19_takes_0 : decode cX19_takes 0 = .ok (.aload_n 0, 1) := dk_42 (dk_at dksX19_takes_0 0 rfl rfl)
theorem dX19_takes_1 : decode cX19_takes 1 = .ok (.getfield 9, 3) := dk_180 0 9 (dk_at dksX19_takes_0 1 rfl rfl)
theorem dX19_takes_4 : decode cX19_takes 4 = .ok (.bipush 11, 2) := dk_16 11 (dk_at dksX19_takes_0 4 rfl rfl)
theorem dX19_takes_6 : decode cX19_takes 6 = .ok (.invokevirtual 28, 3) := dk_182 0 28 (dk_at dksX19_takes_0 6 rfl rfl)
theorem dX19_takes_9 : decode cX19_takes 9 = .ok (.aload_n 0, 1) := dk_42 (dk_at dksX19_takes_0 9 rfl rfl)
theorem dX19_takes_10 : decode cX19_takes 10 = .ok (.iload_n 1, 1) := dk_27 (dk_at dksX19_takes_0 10 rfl rfl)
theorem dX19_takes_11 : decode cX19_takes 11 = .ok (.invokevirtual 34, 3) := dk_182 0 34 (dk_at dksX19_takes_0 11 rfl rfl)
theorem dX19_takes_14 : decode cX19_takes 14 = .ok (.iconst 2, 1) := dk_5 (dk_at dksX19_takes_0 14 rfl rfl)
theorem dX19_takes_15 : decode cX19_takes 15 = .ok (.imul, 1) := dk_104 (dk_at dksX19_takes_0 15 rfl rfl)
theorem dX19_takes_16 : decode cX19_takes 16 = .ok (.ireturn, 1) := dk_172 (dk_at dksX19_takes_0 16 rfl rfl)
abbrev cX19_risks : ByteArray := prog_35_method_6_code
def yX19_risks : MethodName := ⟨RX19, "risks", "(I)I"⟩
def dkwX19_risks_0 : List UInt8 := [42, 180, 0, 9, 16, 12, 182, 0, 28, 27, 42, 180, 0, 19, 100, 172]
abbrev dktX19_risks_0 : List UInt8 := dkwX19_risks_0 ++ []
theorem dksX19_risks_0 : cX19_risks.data.toList.drop 0 = dktX19_risks_0 := by decide +kernel
theorem dX19_risks_0 : decode cX19_risks 0 = .ok (.aload_n 0, 1) := dk_42 (dk_at dksX19_risks_0 0 rfl rfl)
theorem dX19_risks_1 : decode cX19_risks 1 = .ok (.getfield 9, 3) := dk_180 0 9 (dk_at dksX19_risks_0 1 rfl rfl)
theorem dX19_risks_4 : decode cX19_risks 4 = .ok (.bipush 12, 2) := dk_16 12 (dk_at dksX19_risks_0 4 rfl rfl)
theorem dX19_risks_6 : decode cX19_risks 6 = .ok (.invokevirtual 28, 3) := dk_182 0 28 (dk_at dksX19_risks_0 6 rfl rfl)
theorem dX19_risks_9 : decode cX19_risks 9 = .ok (.iload_n 1, 1) := dk_27 (dk_at dksX19_risks_0 9 rfl rfl)
theorem dX19_risks_10 : decode cX19_risks 10 = .ok (.aload_n 0, 1) := dk_42 (dk_at dksX19_risks_0 10 rfl rfl)
theorem dX19_risks_11 : decode cX19_risks 11 = .ok (.getfield 19, 3) := dk_180 0 19 (dk_at dksX19_risks_0 11 rfl rfl)
theorem dX19_risks_14 : decode cX19_risks 14 = .ok (.isub, 1) := dk_100 (dk_at dksX19_risks_0 14 rfl rfl)
theorem dX19_risks_15 : decode cX19_risks 15 = .ok (.ireturn, 1) := dk_172 (dk_at dksX19_risks_0 15 rfl rfl)
abbrev cX19_tells : ByteArray := prog_35_method_7_code
def yX19_tells : MethodName := ⟨RX19, "tells", "(I)I"⟩
def dkwX19_tells_0 : List UInt8 := [42, 180, 0, 9, 16, 13, 182, 0, 28, 42, 27, 182, 0, 38, 61, 28, 42, 27, 182, 0, 41, 130, 172]
abbrev dktX19_tells_0 : List UInt8 := dkwX19_tells_0 ++ []
theorem dksX19_tells_0 : cX19_tells.data.toList.drop 0 = dktX19_tells_0 := by decide +kernel
theorem dX19_tells_0 : decode cX19_tells 0 = .ok (.aload_n 0, 1) := dk_42 (dk_at dksX19_tells_0 0 rfl rfl)
theorem dX19_tells_1 : decode cX19_tells 1 = .ok (.getfield 9, 3) := dk_180 0 9 (dk_at dksX19_tells_0 1 rfl rfl)
theorem dX19_tells_4 : decode cX19_tells 4 = .ok (.bipush 13, 2) := dk_16 13 (dk_at dksX19_tells_0 4 rfl rfl)
theorem dX19_tells_6 : decode cX19_tells 6 = .ok (.invokevirtual 28, 3) := dk_182 0 28 (dk_at dksX19_tells_0 6 rfl rfl)
theorem dX19_tells_9 : decode cX19_tells 9 = .ok (.aload_n 0, 1) := dk_42 (dk_at dksX19_tells_0 9 rfl rfl)
theorem dX19_tells_10 : decode cX19_tells 10 = .ok (.iload_n 1, 1) := dk_27 (dk_at dksX19_tells_0 10 rfl rfl)
theorem dX19_tells_11 : decode cX19_tells 11 = .ok (.invokevirtual 38, 3) := dk_182 0 38 (dk_at dksX19_tells_0 11 rfl rfl)
theorem dX19_tells_14 : decode cX19_tells 14 = .ok (.istore_n 2, 1) := dk_61 (dk_at dksX19_tells_0 14 rfl rfl)
theorem dX19_tells_15 : decode cX19_tells 15 = .ok (.iload_n 2, 1) := dk_28 (dk_at dksX19_tells_0 15 rfl rfl)
theorem dX19_tells_16 : decode cX19_tells 16 = .ok (.aload_n 0, 1) := dk_42 (dk_at dksX19_tells_0 16 rfl rfl)
theorem dX19_tells_17 : decode cX19_tells 17 = .ok (.iload_n 1, 1) := dk_27 (dk_at dksX19_tells_0 17 rfl rfl)
theorem dX19_tells_18 : decode cX19_tells 18 = .ok (.invokevirtual 41, 3) := dk_182 0 41 (dk_at dksX19_tells_0 18 rfl rfl)
theorem dX19_tells_21 : decode cX19_tells 21 = .ok (.ixor, 1) := dk_130 (dk_at dksX19_tells_0 21 rfl rfl)
theorem dX19_tells_22 : decode cX19_tells 22 = .ok (.ireturn, 1) := dk_172 (dk_at dksX19_tells_0 22 rfl rfl)
theorem q115 : (Jvm.Cond.initialized "LastHatch$Way") ∈ lw_all := lw_g (lw_at lw_m1 37 rfl) rfl
theorem q619 : (Jvm.Cond.selects "LastHatch$Way" ({ cls := "java/lang/Object", name := "getClass", desc := "()Ljava/lang/Class;" } : Jvm.MethodName) ({ cls := "java/lang/Object", name := "getClass", desc := "()Ljava/lang/Class;" } : Jvm.MethodName)) ∈ lw_all := lw_g (lw_at lw_m3 61 rfl) rfl
theorem q1084 : (Jvm.Cond.instanceMethod ({ cls := "LastHatch$Way", name := "<init>", desc := "(LLastHatch$Trace;IIII)V" } : Jvm.MethodName)) ∈ lw_all := lw_g (lw_at lw_m5 46 rfl) rfl
theorem q1085 : (Jvm.Cond.code ({ cls := "LastHatch$Way", name := "<init>", desc := "(LLastHatch$Trace;IIII)V" } : Jvm.MethodName) prog_35_method_1_code (6 : Nat) (Option.none : Option Jvm.ClassFile.FieldType)) ∈ lw_all := lw_g (lw_at lw_m5 47 rfl) rfl
theorem q1086 : (Jvm.Cond.methodLink "LastHatch$Way" (3 : Nat) ({ cls := "java/lang/Object", name := "<init>", desc := "()V" } : Jvm.MethodName)) ∈ lw_all := lw_g (lw_at lw_m5 48 rfl) rfl
theorem q1087 : (Jvm.Cond.fieldLink "LastHatch$Way" (9 : Nat) "LastHatch$Way" "trace" "LLastHatch$Trace;") ∈ lw_all := lw_g (lw_at lw_m5 49 rfl) rfl
theorem q1102 : (Jvm.Cond.fieldLink "LastHatch$Way" (15 : Nat) "LastHatch$Way" "number" "I") ∈ lw_all := lw_g (lw_at lw_m5 64 rfl) rfl
theorem q1105 : (Jvm.Cond.fieldLink "LastHatch$Way" (19 : Nat) "LastHatch$Way" "t" "I") ∈ lw_all := lw_g (lw_at lw_m5 67 rfl) rfl
theorem q1115 : (Jvm.Cond.fieldLink "LastHatch$Way" (22 : Nat) "LastHatch$Way" "n" "I") ∈ lw_all := lw_g (lw_at lw_m5 77 rfl) rfl
theorem q1118 : (Jvm.Cond.fieldLink "LastHatch$Way" (25 : Nat) "LastHatch$Way" "risk" "I") ∈ lw_all := lw_g (lw_at lw_m5 80 rfl) rfl
theorem q1122 : (Jvm.Cond.soleField "LastHatch$Way" "trace") ∈ lw_all := lw_g (lw_at lw_m5 84 rfl) rfl
theorem q1124 : (Jvm.Cond.soleField "LastHatch$Way" "number") ∈ lw_all := lw_g (lw_at lw_m5 86 rfl) rfl
theorem q1126 : (Jvm.Cond.soleField "LastHatch$Way" "t") ∈ lw_all := lw_g (lw_at lw_m5 88 rfl) rfl
theorem q1128 : (Jvm.Cond.soleField "LastHatch$Way" "n") ∈ lw_all := lw_g (lw_at lw_m5 90 rfl) rfl
theorem q1130 : (Jvm.Cond.soleField "LastHatch$Way" "risk") ∈ lw_all := lw_g (lw_at lw_m5 92 rfl) rfl
theorem q1205 : (Jvm.Cond.instantiable "LastHatch$Way" (5 : Nat)) ∈ lw_all := lw_g (lw_at lw_m5 167 rfl) rfl
theorem q1207 : (Jvm.Cond.laysFinal "LastHatch$Way" "LastHatch$Way" "trace" "LLastHatch$Trace;") ∈ lw_all := lw_g (lw_at lw_m5 169 rfl) rfl
theorem q1208 : (Jvm.Cond.laysFinal "LastHatch$Way" "LastHatch$Way" "number" "I") ∈ lw_all := lw_g (lw_at lw_m5 170 rfl) rfl
theorem q1209 : (Jvm.Cond.laysFinal "LastHatch$Way" "LastHatch$Way" "t" "I") ∈ lw_all := lw_g (lw_at lw_m5 171 rfl) rfl
theorem q1210 : (Jvm.Cond.laysFinal "LastHatch$Way" "LastHatch$Way" "n" "I") ∈ lw_all := lw_g (lw_at lw_m5 172 rfl) rfl
theorem q1211 : (Jvm.Cond.laysFinal "LastHatch$Way" "LastHatch$Way" "risk" "I") ∈ lw_all := lw_g (lw_at lw_m5 173 rfl) rfl
theorem q1212 : (Jvm.Cond.superclass "LastHatch$Way" "java/lang/Object") ∈ lw_all := lw_g (lw_at lw_m5 174 rfl) rfl
theorem q1222 : (Jvm.Cond.instanceMethod ({ cls := "LastHatch$Way", name := "isOf", desc := "(I)Z" } : Jvm.MethodName)) ∈ lw_all := lw_g (lw_at lw_m5 184 rfl) rfl
theorem q1223 : (Jvm.Cond.selects "LastHatch$Way" ({ cls := "LastHatch$Way", name := "isOf", desc := "(I)Z" } : Jvm.MethodName) ({ cls := "LastHatch$Way", name := "isOf", desc := "(I)Z" } : Jvm.MethodName)) ∈ lw_all := lw_g (lw_at lw_m5 185 rfl) rfl
theorem q1224 : (Jvm.Cond.sameMethod "LastHatch$Way" "LastHatch$Way" "isOf" "(I)Z") ∈ lw_all := lw_g (lw_at lw_m5 186 rfl) rfl
theorem q1232 : (Jvm.Cond.code ({ cls := "LastHatch$Way", name := "isOf", desc := "(I)Z" } : Jvm.MethodName) prog_35_method_2_code (2 : Nat) (Option.some Jvm.ClassFile.FieldType.boolean)) ∈ lw_all := lw_g (lw_at lw_m5 194 rfl) rfl
theorem q1262 : (Jvm.Cond.instanceMethod ({ cls := "LastHatch$Way", name := "out", desc := "(IILLastHatch$Divers;)I" } : Jvm.MethodName)) ∈ lw_all := lw_g (lw_at lw_m5 224 rfl) rfl
theorem q1263 : (Jvm.Cond.selects "LastHatch$Way" ({ cls := "LastHatch$Way", name := "out", desc := "(IILLastHatch$Divers;)I" } : Jvm.MethodName) ({ cls := "LastHatch$Way", name := "out", desc := "(IILLastHatch$Divers;)I" } : Jvm.MethodName)) ∈ lw_all := lw_g (lw_at lw_m5 225 rfl) rfl
theorem q1264 : (Jvm.Cond.sameMethod "LastHatch$Way" "LastHatch$Way" "out" "(IILLastHatch$Divers;)I") ∈ lw_all := lw_g (lw_at lw_m5 226 rfl) rfl
theorem q1296 : (Jvm.Cond.code ({ cls := "LastHatch$Way", name := "out", desc := "(IILLastHatch$Divers;)I" } : Jvm.MethodName) prog_35_method_3_code (4 : Nat) (Option.some Jvm.ClassFile.FieldType.int)) ∈ lw_all := lw_g (lw_at lw_m6 18 rfl) rfl
theorem q1302 : (Jvm.Cond.declares ({ cls := "LastHatch$Way", name := "out", desc := "(IILLastHatch$Divers;)I" } : Jvm.MethodName)) ∈ lw_tbl := lw_at lw_m6 24 rfl
theorem q1628 : (Jvm.Cond.declares ({ cls := "LastHatch$Way", name := "needs", desc := "(I)I" } : Jvm.MethodName)) ∈ lw_tbl := lw_at lw_m7 110 rfl
theorem q1629 : (Jvm.Cond.instanceMethod ({ cls := "LastHatch$Way", name := "needs", desc := "(I)I" } : Jvm.MethodName)) ∈ lw_all := lw_g (lw_at lw_m7 111 rfl) rfl
theorem q1630 : (Jvm.Cond.code ({ cls := "LastHatch$Way", name := "needs", desc := "(I)I" } : Jvm.MethodName) prog_35_method_4_code (2 : Nat) (Option.some Jvm.ClassFile.FieldType.int)) ∈ lw_all := lw_g (lw_at lw_m7 112 rfl) rfl
theorem q1631 : (Jvm.Cond.methodLink "LastHatch$Way" (28 : Nat) ({ cls := "LastHatch$Trace", name := "begins", desc := "(I)V" } : Jvm.MethodName)) ∈ lw_all := lw_g (lw_at lw_m7 113 rfl) rfl
theorem q1635 : (Jvm.Cond.publicMethod ({ cls := "LastHatch$Way", name := "needs", desc := "(I)I" } : Jvm.MethodName)) ∈ lw_tbl := lw_at lw_m7 117 rfl
theorem q1656 : (Jvm.Cond.castable "LastHatch$Way" "LastHatch$Needs") ∈ lw_tbl := lw_at lw_m7 138 rfl
theorem q1657 : (Jvm.Cond.selects "LastHatch$Way" ({ cls := "LastHatch$Needs", name := "needs", desc := "(I)I" } : Jvm.MethodName) ({ cls := "LastHatch$Way", name := "needs", desc := "(I)I" } : Jvm.MethodName)) ∈ lw_all := lw_g (lw_at lw_m7 139 rfl) rfl
theorem q1658 : (Jvm.Cond.unhidden "LastHatch$Way" "needs" "(I)I") ∈ lw_tbl := lw_at lw_m7 140 rfl
theorem q1674 : (Jvm.Cond.instanceMethod ({ cls := "LastHatch$Way", name := "takes", desc := "(I)I" } : Jvm.MethodName)) ∈ lw_all := lw_g (lw_at lw_m7 156 rfl) rfl
theorem q1675 : (Jvm.Cond.code ({ cls := "LastHatch$Way", name := "takes", desc := "(I)I" } : Jvm.MethodName) prog_35_method_5_code (2 : Nat) (Option.some Jvm.ClassFile.FieldType.int)) ∈ lw_all := lw_g (lw_at lw_m7 157 rfl) rfl
theorem q1676 : (Jvm.Cond.methodLink "LastHatch$Way" (34 : Nat) ({ cls := "LastHatch$Way", name := "needs", desc := "(I)I" } : Jvm.MethodName)) ∈ lw_all := lw_g (lw_at lw_m7 158 rfl) rfl
theorem q1679 : (Jvm.Cond.declares ({ cls := "LastHatch$Way", name := "risks", desc := "(I)I" } : Jvm.MethodName)) ∈ lw_tbl := lw_at lw_m7 161 rfl
theorem q1683 : (Jvm.Cond.instanceMethod ({ cls := "LastHatch$Way", name := "risks", desc := "(I)I" } : Jvm.MethodName)) ∈ lw_all := lw_g (lw_at lw_m7 165 rfl) rfl
theorem q1684 : (Jvm.Cond.code ({ cls := "LastHatch$Way", name := "risks", desc := "(I)I" } : Jvm.MethodName) prog_35_method_6_code (2 : Nat) (Option.some Jvm.ClassFile.FieldType.int)) ∈ lw_all := lw_g (lw_at lw_m7 166 rfl) rfl
theorem q1695 : (Jvm.Cond.publicMethod ({ cls := "LastHatch$Way", name := "takes", desc := "(I)I" } : Jvm.MethodName)) ∈ lw_tbl := lw_at lw_m7 177 rfl
theorem q1705 : (Jvm.Cond.castable "LastHatch$Way" "LastHatch$Takes") ∈ lw_tbl := lw_at lw_m7 187 rfl
theorem q1706 : (Jvm.Cond.selects "LastHatch$Way" ({ cls := "LastHatch$Takes", name := "takes", desc := "(I)I" } : Jvm.MethodName) ({ cls := "LastHatch$Way", name := "takes", desc := "(I)I" } : Jvm.MethodName)) ∈ lw_all := lw_g (lw_at lw_m7 188 rfl) rfl
theorem q1707 : (Jvm.Cond.unhidden "LastHatch$Way" "takes" "(I)I") ∈ lw_tbl := lw_at lw_m7 189 rfl
theorem q1715 : (Jvm.Cond.publicMethod ({ cls := "LastHatch$Way", name := "risks", desc := "(I)I" } : Jvm.MethodName)) ∈ lw_tbl := lw_at lw_m7 197 rfl
theorem q1752 : (Jvm.Cond.castable "LastHatch$Way" "LastHatch$Risks") ∈ lw_tbl := lw_at lw_m7 234 rfl
theorem q1753 : (Jvm.Cond.selects "LastHatch$Way" ({ cls := "LastHatch$Risks", name := "risks", desc := "(I)I" } : Jvm.MethodName) ({ cls := "LastHatch$Way", name := "risks", desc := "(I)I" } : Jvm.MethodName)) ∈ lw_all := lw_g (lw_at lw_m7 235 rfl) rfl
theorem q1754 : (Jvm.Cond.unhidden "LastHatch$Way" "risks" "(I)I") ∈ lw_tbl := lw_at lw_m7 236 rfl
theorem q1762 : (Jvm.Cond.instanceMethod ({ cls := "LastHatch$Way", name := "tells", desc := "(I)I" } : Jvm.MethodName)) ∈ lw_all := lw_g (lw_at lw_m8 4 rfl) rfl
theorem q1763 : (Jvm.Cond.publicMethod ({ cls := "LastHatch$Way", name := "tells", desc := "(I)I" } : Jvm.MethodName)) ∈ lw_tbl := lw_at lw_m8 5 rfl
theorem q1764 : (Jvm.Cond.code ({ cls := "LastHatch$Way", name := "tells", desc := "(I)I" } : Jvm.MethodName) prog_35_method_7_code (3 : Nat) (Option.some Jvm.ClassFile.FieldType.int)) ∈ lw_all := lw_g (lw_at lw_m8 6 rfl) rfl
theorem q1765 : (Jvm.Cond.methodLink "LastHatch$Way" (38 : Nat) ({ cls := "LastHatch$Way", name := "takes", desc := "(I)I" } : Jvm.MethodName)) ∈ lw_all := lw_g (lw_at lw_m8 7 rfl) rfl
theorem q1766 : (Jvm.Cond.methodLink "LastHatch$Way" (41 : Nat) ({ cls := "LastHatch$Way", name := "risks", desc := "(I)I" } : Jvm.MethodName)) ∈ lw_all := lw_g (lw_at lw_m8 8 rfl) rfl
theorem q1783 : (Jvm.Cond.declares ({ cls := "LastHatch$Way", name := "tells", desc := "(I)I" } : Jvm.MethodName)) ∈ lw_tbl := lw_at lw_m8 25 rfl
theorem q1804 : (Jvm.Cond.castable "LastHatch$Way" "LastHatch$Tells") ∈ lw_tbl := lw_at lw_m8 46 rfl
theorem q1805 : (Jvm.Cond.selects "LastHatch$Way" ({ cls := "LastHatch$Tells", name := "tells", desc := "(I)I" } : Jvm.MethodName) ({ cls := "LastHatch$Way", name := "tells", desc := "(I)I" } : Jvm.MethodName)) ∈ lw_all := lw_g (lw_at lw_m8 47 rfl) rfl
theorem q1806 : (Jvm.Cond.unhidden "LastHatch$Way" "tells" "(I)I") ∈ lw_tbl := lw_at lw_m8 48 rfl
theorem q2489 : (Jvm.Cond.sameMethod "LastHatch$Way" "LastHatch$Way" "needs" "(I)I") ∈ lw_all := lw_g (lw_at lw_m11 11 rfl) rfl
theorem q2491 : (Jvm.Cond.sameMethod "LastHatch$Way" "LastHatch$Way" "takes" "(I)I") ∈ lw_all := lw_g (lw_at lw_m11 13 rfl) rfl
theorem q2499 : (Jvm.Cond.selects "LastHatch$Way" ({ cls := "LastHatch$Way", name := "needs", desc := "(I)I" } : Jvm.MethodName) ({ cls := "LastHatch$Way", name := "needs", desc := "(I)I" } : Jvm.MethodName)) ∈ lw_all := lw_g (lw_at lw_m11 21 rfl) rfl
theorem q2500 : (Jvm.Cond.sameMethod "LastHatch$Way" "LastHatch$Way" "risks" "(I)I") ∈ lw_all := lw_g (lw_at lw_m11 22 rfl) rfl
theorem q2509 : (Jvm.Cond.selects "LastHatch$Way" ({ cls := "LastHatch$Way", name := "takes", desc := "(I)I" } : Jvm.MethodName) ({ cls := "LastHatch$Way", name := "takes", desc := "(I)I" } : Jvm.MethodName)) ∈ lw_all := lw_g (lw_at lw_m11 31 rfl) rfl
theorem q2517 : (Jvm.Cond.selects "LastHatch$Way" ({ cls := "LastHatch$Way", name := "risks", desc := "(I)I" } : Jvm.MethodName) ({ cls := "LastHatch$Way", name := "risks", desc := "(I)I" } : Jvm.MethodName)) ∈ lw_all := lw_g (lw_at lw_m11 39 rfl) rfl
theorem q2518 : (Jvm.Cond.sameMethod "LastHatch$Way" "LastHatch$Way" "tells" "(I)I") ∈ lw_all := lw_g (lw_at lw_m11 40 rfl) rfl
theorem q2558 : (Jvm.Cond.castable "LastHatch$Way" "java/lang/Object") ∈ lw_tbl := lw_at lw_m11 80 rfl
theorem in_X19 : ∀ w ∈ wsX190, w ∈ lw_all := lw_in wsX190 [1207, 1208, 1209, 1210, 1211] (by decide +kernel) (by decide +kernel)

/-! LastHatch$Lock -/
set_option maxRecDepth 100000
def RX20 : String := "LastHatch$Lock"
def TX20 : u_T := fun k => match k with
  | 0 => ("LastHatch$Way", "trace", "LLastHatch$Trace;", true)
  | 1 => ("LastHatch$Way", "number", "I", true)
  | 2 => ("LastHatch$Way", "t", "I", true)
  | 3 => ("LastHatch$Way", "n", "I", true)
  | _ => ("LastHatch$Way", "risk", "I", true)
def tyX20 : Nat → FieldType := fun k => match k with
  | 0 => .object "LastHatch$Trace"
  | 1 => .int
  | 2 => .int
  | 3 => .int
  | _ => .int
abbrev wsX200 : List Cond := u_ws RX20 TX20 5
theorem nmX20 : ∀ a, a < 5 → ∀ b, b < 5 → a ≠ b → (TX20 a).2.1 ≠ (TX20 b).2.1 := by decide +kernel
theorem tyX20_ok : ∀ k, k < 5 → parseFieldDescriptor (TX20 k).2.2.1 = some (tyX20 k) := by decide +kernel
abbrev cX20_init : ByteArray := prog_14_method_1_code
def yX20_init : MethodName := ⟨RX20, "<init>", "(LLastHatch$Trace;IIII)V"⟩
def dkwX20_init_0 : List UInt8 := [42, 43, 28, 29, 21, 4, 21, 5, 183, 0, 3, 177]
abbrev dktX20_init_0 : List UInt8 := dkwX20_init_0 ++ []
theorem dksX20_init_0 : cX20_init.data.toList.drop 0 = dktX20_init_0 := by decide +kernel
theorem dX20_init_0 : decode cX20_init 0 = .ok (.aload_n 0, 1) := dk_42 (dk_at dksX20_init_0 0 rfl rfl)
theorem dX20_init_1 : decode cX20_init 1 = .ok (.aload_n 1, 1) := dk_43 (dk_at dksX20_init_0 1 rfl rfl)
theorem dX20_init_2 : decode cX20_init 2 = .ok (.iload_n 2, 1) := dk_28 (dk_at dksX20_init_0 2 rfl rfl)
theorem dX20_init_3 : decode cX20_init 3 = .ok (.iload_n 3, 1) := dk_29 (dk_at dksX20_init_0 3 rfl rfl)
theorem dX20_init_4 : decode cX20_init 4 = .ok (.iload 4, 2) := dk_21 4 (dk_at dksX20_init_0 4 rfl rfl)
theorem dX20_init_6 : decode cX20_init 6 = .ok (.iload 5, 2) := dk_21 5 (dk_at dksX20_init_0 6 rfl rfl)
theorem dX20_init_8 : decode cX20_init 8 = .ok (.invokespecial 3, 3) := dk_183 0 3 (dk_at dksX20_init_0 8 rfl rfl)
theorem dX20_init_11 : decode cX20_init 11 = .ok (.return_, 1) := dk_177 (dk_at dksX20_init_0 11 rfl rfl)
abbrev cX20_isOf : ByteArray := prog_14_method_2_code
def yX20_isOf : MethodName := ⟨RX20, "isOf", "(I)Z"⟩
def dkwX20_isOf_0 : List UInt8 := [27, 4, 159, 0, 11, 42, 27, 183, 0, 9, 153, 0, 7, 4, 167, 0, 4, 3, 172]
abbrev dktX20_isOf_0 : List UInt8 := dkwX20_isOf_0 ++ []
theorem dksX20_isOf_0 : cX20_isOf.data.toList.drop 0 = dktX20_isOf_0 := by decide +kernel
theorem dX20_isOf_0 : decode cX20_isOf 0 = .ok (.iload_n 1, 1) := dk_27 (dk_at dksX20_isOf_0 0 rfl rfl)
theorem dX20_isOf_1 : decode cX20_isOf 1 = .ok (.iconst 1, 1) := dk_4 (dk_at dksX20_isOf_0 1 rfl rfl)
theorem dX20_isOf_2 : decode cX20_isOf 2 = .ok (.if_icmp .eq 11, 3) := dk_159 0 11 (dk_at dksX20_isOf_0 2 rfl rfl)
theorem dX20_isOf_5 : decode cX20_isOf 5 = .ok (.aload_n 0, 1) := dk_42 (dk_at dksX20_isOf_0 5 rfl rfl)
theorem dX20_isOf_6 : decode cX20_isOf 6 = .ok (.iload_n 1, 1) := dk_27 (dk_at dksX20_isOf_0 6 rfl rfl)
theorem dX20_isOf_7 : decode cX20_isOf 7 = .ok (.invokespecial 9, 3) := dk_183 0 9 (dk_at dksX20_isOf_0 7 rfl rfl)
theorem dX20_isOf_10 : decode cX20_isOf 10 = .ok (.ifCond .eq 7, 3) := dk_153 0 7 (dk_at dksX20_isOf_0 10 rfl rfl)
theorem dX20_isOf_13 : decode cX20_isOf 13 = .ok (.iconst 1, 1) := dk_4 (dk_at dksX20_isOf_0 13 rfl rfl)
theorem dX20_isOf_14 : decode cX20_isOf 14 = .ok (.goto 4, 3) := dk_167 0 4 (dk_at dksX20_isOf_0 14 rfl rfl)
theorem dX20_isOf_17 : decode cX20_isOf 17 = .ok (.iconst 0, 1) := dk_3 (dk_at dksX20_isOf_0 17 rfl rfl)
theorem dX20_isOf_18 : decode cX20_isOf 18 = .ok (.ireturn, 1) := dk_172 (dk_at dksX20_isOf_0 18 rfl rfl)
abbrev cX20_out : ByteArray := prog_14_method_3_code
def yX20_out : MethodName := ⟨RX20, "out", "(IILLastHatch$Divers;)I"⟩
def dkwX20_out_0 : List UInt8 := [27, 42, 180, 0, 13, 28, 42, 180, 0, 19, 108, 104, 184, 0, 22, 172]
abbrev dktX20_out_0 : List UInt8 := dkwX20_out_0 ++ []
theorem dksX20_out_0 : cX20_out.data.toList.drop 0 = dktX20_out_0 := by decide +kernel
theorem dX20_out_0 : decode cX20_out 0 = .ok (.iload_n 1, 1) := dk_27 (dk_at dksX20_out_0 0 rfl rfl)
theorem dX20_out_1 : decode cX20_out 1 = .ok (.aload_n 0, 1) := dk_42 (dk_at dksX20_out_0 1 rfl rfl)
theorem dX20_out_2 : decode cX20_out 2 = .ok (.getfield 13, 3) := dk_180 0 13 (dk_at dksX20_out_0 2 rfl rfl)
theorem dX20_out_5 : decode cX20_out 5 = .ok (.iload_n 2, 1) := dk_28 (dk_at dksX20_out_0 5 rfl rfl)
theorem dX20_out_6 : decode cX20_out 6 = .ok (.aload_n 0, 1) := dk_42 (dk_at dksX20_out_0 6 rfl rfl)
theorem dX20_out_7 : decode cX20_out 7 = .ok (.getfield 19, 3) := dk_180 0 19 (dk_at dksX20_out_0 7 rfl rfl)
theorem dX20_out_10 : decode cX20_out 10 = .ok (.idiv, 1) := dk_108 (dk_at dksX20_out_0 10 rfl rfl)
theorem dX20_out_11 : decode cX20_out 11 = .ok (.imul, 1) := dk_104 (dk_at dksX20_out_0 11 rfl rfl)
theorem dX20_out_12 : decode cX20_out 12 = .ok (.invokestatic 22, 3) := dk_184 0 22 (dk_at dksX20_out_0 12 rfl rfl)
theorem dX20_out_15 : decode cX20_out 15 = .ok (.ireturn, 1) := dk_172 (dk_at dksX20_out_0 15 rfl rfl)
abbrev cX20_takes : ByteArray := prog_14_method_4_code
def yX20_takes : MethodName := ⟨RX20, "takes", "(I)I"⟩
def dkwX20_takes_0 : List UInt8 := [42, 180, 0, 28, 16, 20, 182, 0, 32, 42, 27, 183, 0, 38, 61, 28, 42, 4, 182, 0, 42, 96, 172]
abbrev dktX20_takes_0 : List UInt8 := dkwX20_takes_0 ++ []
theorem dksX20_takes_0 : cX20_takes.data.toList.drop 0 = dktX20_takes_0 := by decide +kernel
theorem dX20_takes_0 : decode cX20_takes 0 = .ok (.aload_n 0, 1) := dk_42 (dk_at dksX20_takes_0 0 rfl rfl)
theorem dX20_takes_1 : decode cX20_takes 1 = .ok (.getfield 28, 3) := dk_180 0 28 (dk_at dksX20_takes_0 1 rfl rfl)
theorem dX20_takes_4 : decode cX20_takes 4 = .ok (.bipush 20, 2) := dk_16 20 (dk_at dksX20_takes_0 4 rfl rfl)
theorem dX20_takes_6 : decode cX20_takes 6 = .ok (.invokevirtual 32, 3) := dk_182 0 32 (dk_at dksX20_takes_0 6 rfl rfl)
theorem dX20_takes_9 : decode cX20_takes 9 = .ok (.aload_n 0, 1) := dk_42 (dk_at dksX20_takes_0 9 rfl rfl)
theorem dX20_takes_10 : decode cX20_takes 10 = .ok (.iload_n 1, 1) := dk_27 (dk_at dksX20_takes_0 10 rfl rfl)
theorem dX20_takes_11 : decode cX20_takes 11 = .ok (.invokespecial 38, 3) := dk_183 0 38 (dk_at dksX20_takes_0 11 rfl rfl)
theorem dX20_takes_14 : decode cX20_takes 14 = .ok (.istore_n 2, 1) := dk_61 (dk_at dksX20_takes_0 14 rfl rfl)
theorem dX20_takes_15 : decode cX20_takes 15 = .ok (.iload_n 2, 1) := dk_28 (dk_at dksX20_takes_0 15 rfl rfl)
theorem dX20_takes_16 : decode cX20_takes 16 = .ok (.aload_n 0, 1) := dk_42 (dk_at dksX20_takes_0 16 rfl rfl)
theorem dX20_takes_17 : decode cX20_takes 17 = .ok (.iconst 1, 1) := dk_4 (dk_at dksX20_takes_0 17 rfl rfl)
theorem dX20_takes_18 : decode cX20_takes 18 = .ok (.invokevirtual 42, 3) := dk_182 0 42 (dk_at dksX20_takes_0 18 rfl rfl)
theorem dX20_takes_21 : decode cX20_takes 21 = .ok (.iadd, 1) := dk_96 (dk_at dksX20_takes_0 21 rfl rfl)
theorem dX20_takes_22 : decode cX20_takes 22 = .ok (.ireturn, 1) := dk_172 (dk_at dksX20_takes_0 22 rfl rfl)
theorem q116 : (Jvm.Cond.initialized "LastHatch$Lock") ∈ lw_all := lw_g (lw_at lw_m1 38 rfl) rfl
theorem q604 : (Jvm.Cond.selects "LastHatch$Lock" ({ cls := "java/lang/Object", name := "getClass", desc := "()Ljava/lang/Class;" } : Jvm.MethodName) ({ cls := "java/lang/Object", name := "getClass", desc := "()Ljava/lang/Class;" } : Jvm.MethodName)) ∈ lw_all := lw_g (lw_at lw_m3 46 rfl) rfl
theorem q1079 : (Jvm.Cond.instantiable "LastHatch$Lock" (5 : Nat)) ∈ lw_all := lw_g (lw_at lw_m5 41 rfl) rfl
theorem q1081 : (Jvm.Cond.instanceMethod ({ cls := "LastHatch$Lock", name := "<init>", desc := "(LLastHatch$Trace;IIII)V" } : Jvm.MethodName)) ∈ lw_all := lw_g (lw_at lw_m5 43 rfl) rfl
theorem q1082 : (Jvm.Cond.code ({ cls := "LastHatch$Lock", name := "<init>", desc := "(LLastHatch$Trace;IIII)V" } : Jvm.MethodName) prog_14_method_1_code (6 : Nat) (Option.none : Option Jvm.ClassFile.FieldType)) ∈ lw_all := lw_g (lw_at lw_m5 44 rfl) rfl
theorem q1083 : (Jvm.Cond.methodLink "LastHatch$Lock" (3 : Nat) ({ cls := "LastHatch$Way", name := "<init>", desc := "(LLastHatch$Trace;IIII)V" } : Jvm.MethodName)) ∈ lw_all := lw_g (lw_at lw_m5 45 rfl) rfl
theorem q1092 : (Jvm.Cond.fieldLink "LastHatch$Lock" (28 : Nat) "LastHatch$Lock" "trace" "LLastHatch$Trace;") ∈ lw_all := lw_g (lw_at lw_m5 54 rfl) rfl
theorem q1093 : (Jvm.Cond.sameField "LastHatch$Lock" "LastHatch$Way" "trace" "LLastHatch$Trace;") ∈ lw_all := lw_g (lw_at lw_m5 55 rfl) rfl
theorem q1110 : (Jvm.Cond.fieldLink "LastHatch$Lock" (19 : Nat) "LastHatch$Lock" "t" "I") ∈ lw_all := lw_g (lw_at lw_m5 72 rfl) rfl
theorem q1111 : (Jvm.Cond.sameField "LastHatch$Lock" "LastHatch$Way" "t" "I") ∈ lw_all := lw_g (lw_at lw_m5 73 rfl) rfl
theorem q1116 : (Jvm.Cond.fieldLink "LastHatch$Lock" (13 : Nat) "LastHatch$Lock" "n" "I") ∈ lw_all := lw_g (lw_at lw_m5 78 rfl) rfl
theorem q1117 : (Jvm.Cond.sameField "LastHatch$Lock" "LastHatch$Way" "n" "I") ∈ lw_all := lw_g (lw_at lw_m5 79 rfl) rfl
theorem q1121 : (Jvm.Cond.laysFinal "LastHatch$Lock" "LastHatch$Way" "trace" "LLastHatch$Trace;") ∈ lw_all := lw_g (lw_at lw_m5 83 rfl) rfl
theorem q1123 : (Jvm.Cond.laysFinal "LastHatch$Lock" "LastHatch$Way" "number" "I") ∈ lw_all := lw_g (lw_at lw_m5 85 rfl) rfl
theorem q1125 : (Jvm.Cond.laysFinal "LastHatch$Lock" "LastHatch$Way" "t" "I") ∈ lw_all := lw_g (lw_at lw_m5 87 rfl) rfl
theorem q1127 : (Jvm.Cond.laysFinal "LastHatch$Lock" "LastHatch$Way" "n" "I") ∈ lw_all := lw_g (lw_at lw_m5 89 rfl) rfl
theorem q1129 : (Jvm.Cond.laysFinal "LastHatch$Lock" "LastHatch$Way" "risk" "I") ∈ lw_all := lw_g (lw_at lw_m5 91 rfl) rfl
theorem q1131 : (Jvm.Cond.superclass "LastHatch$Lock" "LastHatch$Way") ∈ lw_all := lw_g (lw_at lw_m5 93 rfl) rfl
theorem q1229 : (Jvm.Cond.instanceMethod ({ cls := "LastHatch$Lock", name := "isOf", desc := "(I)Z" } : Jvm.MethodName)) ∈ lw_all := lw_g (lw_at lw_m5 191 rfl) rfl
theorem q1230 : (Jvm.Cond.code ({ cls := "LastHatch$Lock", name := "isOf", desc := "(I)Z" } : Jvm.MethodName) prog_14_method_2_code (2 : Nat) (Option.some Jvm.ClassFile.FieldType.boolean)) ∈ lw_all := lw_g (lw_at lw_m5 192 rfl) rfl
theorem q1231 : (Jvm.Cond.methodLink "LastHatch$Lock" (9 : Nat) ({ cls := "LastHatch$Way", name := "isOf", desc := "(I)Z" } : Jvm.MethodName)) ∈ lw_all := lw_g (lw_at lw_m5 193 rfl) rfl
theorem q1233 : (Jvm.Cond.selects "LastHatch$Lock" ({ cls := "LastHatch$Way", name := "isOf", desc := "(I)Z" } : Jvm.MethodName) ({ cls := "LastHatch$Lock", name := "isOf", desc := "(I)Z" } : Jvm.MethodName)) ∈ lw_all := lw_g (lw_at lw_m5 195 rfl) rfl
theorem q1280 : (Jvm.Cond.instanceMethod ({ cls := "LastHatch$Lock", name := "out", desc := "(IILLastHatch$Divers;)I" } : Jvm.MethodName)) ∈ lw_all := lw_g (lw_at lw_m6 2 rfl) rfl
theorem q1281 : (Jvm.Cond.code ({ cls := "LastHatch$Lock", name := "out", desc := "(IILLastHatch$Divers;)I" } : Jvm.MethodName) prog_14_method_3_code (4 : Nat) (Option.some Jvm.ClassFile.FieldType.int)) ∈ lw_all := lw_g (lw_at lw_m6 3 rfl) rfl
theorem q1282 : (Jvm.Cond.methodLink "LastHatch$Lock" (22 : Nat) ({ cls := "java/lang/Math", name := "min", desc := "(II)I" } : Jvm.MethodName)) ∈ lw_all := lw_g (lw_at lw_m6 4 rfl) rfl
theorem q1283 : (Jvm.Cond.selects "LastHatch$Lock" ({ cls := "LastHatch$Way", name := "out", desc := "(IILLastHatch$Divers;)I" } : Jvm.MethodName) ({ cls := "LastHatch$Lock", name := "out", desc := "(IILLastHatch$Divers;)I" } : Jvm.MethodName)) ∈ lw_all := lw_g (lw_at lw_m6 5 rfl) rfl
theorem q1627 : (Jvm.Cond.sameMethod "LastHatch$Lock" "LastHatch$Way" "needs" "(I)I") ∈ lw_all := lw_g (lw_at lw_m7 109 rfl) rfl
theorem q1632 : (Jvm.Cond.castable "LastHatch$Lock" "LastHatch$Needs") ∈ lw_tbl := lw_at lw_m7 114 rfl
theorem q1633 : (Jvm.Cond.selects "LastHatch$Lock" ({ cls := "LastHatch$Needs", name := "needs", desc := "(I)I" } : Jvm.MethodName) ({ cls := "LastHatch$Way", name := "needs", desc := "(I)I" } : Jvm.MethodName)) ∈ lw_all := lw_g (lw_at lw_m7 115 rfl) rfl
theorem q1634 : (Jvm.Cond.unhidden "LastHatch$Lock" "needs" "(I)I") ∈ lw_tbl := lw_at lw_m7 116 rfl
theorem q1670 : (Jvm.Cond.instanceMethod ({ cls := "LastHatch$Lock", name := "takes", desc := "(I)I" } : Jvm.MethodName)) ∈ lw_all := lw_g (lw_at lw_m7 152 rfl) rfl
theorem q1671 : (Jvm.Cond.code ({ cls := "LastHatch$Lock", name := "takes", desc := "(I)I" } : Jvm.MethodName) prog_14_method_4_code (3 : Nat) (Option.some Jvm.ClassFile.FieldType.int)) ∈ lw_all := lw_g (lw_at lw_m7 153 rfl) rfl
theorem q1672 : (Jvm.Cond.methodLink "LastHatch$Lock" (32 : Nat) ({ cls := "LastHatch$Trace", name := "begins", desc := "(I)V" } : Jvm.MethodName)) ∈ lw_all := lw_g (lw_at lw_m7 154 rfl) rfl
theorem q1673 : (Jvm.Cond.methodLink "LastHatch$Lock" (38 : Nat) ({ cls := "LastHatch$Way", name := "takes", desc := "(I)I" } : Jvm.MethodName)) ∈ lw_all := lw_g (lw_at lw_m7 155 rfl) rfl
theorem q1677 : (Jvm.Cond.methodLink "LastHatch$Lock" (42 : Nat) ({ cls := "LastHatch$Lock", name := "risks", desc := "(I)I" } : Jvm.MethodName)) ∈ lw_all := lw_g (lw_at lw_m7 159 rfl) rfl
theorem q1678 : (Jvm.Cond.sameMethod "LastHatch$Lock" "LastHatch$Way" "risks" "(I)I") ∈ lw_all := lw_g (lw_at lw_m7 160 rfl) rfl
theorem q1681 : (Jvm.Cond.selects "LastHatch$Lock" ({ cls := "LastHatch$Lock", name := "risks", desc := "(I)I" } : Jvm.MethodName) ({ cls := "LastHatch$Way", name := "risks", desc := "(I)I" } : Jvm.MethodName)) ∈ lw_all := lw_g (lw_at lw_m7 163 rfl) rfl
theorem q1685 : (Jvm.Cond.castable "LastHatch$Lock" "LastHatch$Takes") ∈ lw_tbl := lw_at lw_m7 167 rfl
theorem q1686 : (Jvm.Cond.selects "LastHatch$Lock" ({ cls := "LastHatch$Takes", name := "takes", desc := "(I)I" } : Jvm.MethodName) ({ cls := "LastHatch$Lock", name := "takes", desc := "(I)I" } : Jvm.MethodName)) ∈ lw_all := lw_g (lw_at lw_m7 168 rfl) rfl
theorem q1687 : (Jvm.Cond.unhidden "LastHatch$Lock" "takes" "(I)I") ∈ lw_tbl := lw_at lw_m7 169 rfl
theorem q1688 : (Jvm.Cond.publicMethod ({ cls := "LastHatch$Lock", name := "takes", desc := "(I)I" } : Jvm.MethodName)) ∈ lw_tbl := lw_at lw_m7 170 rfl
theorem q1716 : (Jvm.Cond.castable "LastHatch$Lock" "LastHatch$Risks") ∈ lw_tbl := lw_at lw_m7 198 rfl
theorem q1717 : (Jvm.Cond.selects "LastHatch$Lock" ({ cls := "LastHatch$Risks", name := "risks", desc := "(I)I" } : Jvm.MethodName) ({ cls := "LastHatch$Way", name := "risks", desc := "(I)I" } : Jvm.MethodName)) ∈ lw_all := lw_g (lw_at lw_m7 199 rfl) rfl
theorem q1718 : (Jvm.Cond.unhidden "LastHatch$Lock" "risks" "(I)I") ∈ lw_tbl := lw_at lw_m7 200 rfl
theorem q1767 : (Jvm.Cond.castable "LastHatch$Lock" "LastHatch$Tells") ∈ lw_tbl := lw_at lw_m8 9 rfl
theorem q1768 : (Jvm.Cond.selects "LastHatch$Lock" ({ cls := "LastHatch$Tells", name := "tells", desc := "(I)I" } : Jvm.MethodName) ({ cls := "LastHatch$Way", name := "tells", desc := "(I)I" } : Jvm.MethodName)) ∈ lw_all := lw_g (lw_at lw_m8 10 rfl) rfl
theorem q1769 : (Jvm.Cond.unhidden "LastHatch$Lock" "tells" "(I)I") ∈ lw_tbl := lw_at lw_m8 11 rfl
theorem q1779 : (Jvm.Cond.declares ({ cls := "LastHatch$Lock", name := "takes", desc := "(I)I" } : Jvm.MethodName)) ∈ lw_tbl := lw_at lw_m8 21 rfl
theorem q1782 : (Jvm.Cond.sameMethod "LastHatch$Lock" "LastHatch$Way" "tells" "(I)I") ∈ lw_all := lw_g (lw_at lw_m8 24 rfl) rfl
theorem q2486 : (Jvm.Cond.sameMethod "LastHatch$Lock" "LastHatch$Lock" "isOf" "(I)Z") ∈ lw_all := lw_g (lw_at lw_m11 8 rfl) rfl
theorem q2488 : (Jvm.Cond.sameMethod "LastHatch$Lock" "LastHatch$Lock" "out" "(IILLastHatch$Divers;)I") ∈ lw_all := lw_g (lw_at lw_m11 10 rfl) rfl
theorem q2490 : (Jvm.Cond.sameMethod "LastHatch$Lock" "LastHatch$Lock" "takes" "(I)I") ∈ lw_all := lw_g (lw_at lw_m11 12 rfl) rfl
theorem q2493 : (Jvm.Cond.selects "LastHatch$Lock" ({ cls := "LastHatch$Way", name := "needs", desc := "(I)I" } : Jvm.MethodName) ({ cls := "LastHatch$Way", name := "needs", desc := "(I)I" } : Jvm.MethodName)) ∈ lw_all := lw_g (lw_at lw_m11 15 rfl) rfl
theorem q2503 : (Jvm.Cond.selects "LastHatch$Lock" ({ cls := "LastHatch$Way", name := "takes", desc := "(I)I" } : Jvm.MethodName) ({ cls := "LastHatch$Lock", name := "takes", desc := "(I)I" } : Jvm.MethodName)) ∈ lw_all := lw_g (lw_at lw_m11 25 rfl) rfl
theorem q2511 : (Jvm.Cond.selects "LastHatch$Lock" ({ cls := "LastHatch$Way", name := "risks", desc := "(I)I" } : Jvm.MethodName) ({ cls := "LastHatch$Way", name := "risks", desc := "(I)I" } : Jvm.MethodName)) ∈ lw_all := lw_g (lw_at lw_m11 33 rfl) rfl
theorem q2521 : (Jvm.Cond.castable "LastHatch$Lock" "LastHatch$Way") ∈ lw_tbl := lw_at lw_m11 43 rfl
theorem q2551 : (Jvm.Cond.castable "LastHatch$Lock" "java/lang/Object") ∈ lw_tbl := lw_at lw_m11 73 rfl
theorem in_X20 : ∀ w ∈ wsX200, w ∈ lw_all := lw_in wsX200 [1121, 1123, 1125, 1127, 1129] (by decide +kernel) (by decide +kernel)

/-! LastHatch$Rush -/
set_option maxRecDepth 100000
def RX21 : String := "LastHatch$Rush"
def TX21 : u_T := fun k => match k with
  | 0 => ("LastHatch$Way", "trace", "LLastHatch$Trace;", true)
  | 1 => ("LastHatch$Way", "number", "I", true)
  | 2 => ("LastHatch$Way", "t", "I", true)
  | 3 => ("LastHatch$Way", "n", "I", true)
  | _ => ("LastHatch$Way", "risk", "I", true)
def tyX21 : Nat → FieldType := fun k => match k with
  | 0 => .object "LastHatch$Trace"
  | 1 => .int
  | 2 => .int
  | 3 => .int
  | _ => .int
abbrev wsX210 : List Cond := u_ws RX21 TX21 5
theorem nmX21 : ∀ a, a < 5 → ∀ b, b < 5 → a ≠ b → (TX21 a).2.1 ≠ (TX21 b).2.1 := by decide +kernel
theorem tyX21_ok : ∀ k, k < 5 → parseFieldDescriptor (TX21 k).2.2.1 = some (tyX21 k) := by decide +kernel
abbrev cX21_init : ByteArray := prog_22_method_1_code
def yX21_init : MethodName := ⟨RX21, "<init>", "(LLastHatch$Trace;IIII)V"⟩
def dkwX21_init_0 : List UInt8 := [42, 43, 28, 29, 21, 4, 21, 5, 183, 0, 3, 177]
abbrev dktX21_init_0 : List UInt8 := dkwX21_init_0 ++ []
theorem dksX21_init_0 : cX21_init.data.toList.drop 0 = dktX21_init_0 := by decide +kernel
theorem dX21_init_0 : decode cX21_init 0 = .ok (.aload_n 0, 1) := dk_42 (dk_at dksX21_init_0 0 rfl rfl)
theorem dX21_init_1 : decode cX21_init 1 = .ok (.aload_n 1, 1) := dk_43 (dk_at dksX21_init_0 1 rfl rfl)
theorem dX21_init_2 : decode cX21_init 2 = .ok (.iload_n 2, 1) := dk_28 (dk_at dksX21_init_0 2 rfl rfl)
theorem dX21_init_3 : decode cX21_init 3 = .ok (.iload_n 3, 1) := dk_29 (dk_at dksX21_init_0 3 rfl rfl)
theorem dX21_init_4 : decode cX21_init 4 = .ok (.iload 4, 2) := dk_21 4 (dk_at dksX21_init_0 4 rfl rfl)
theorem dX21_init_6 : decode cX21_init 6 = .ok (.iload 5, 2) := dk_21 5 (dk_at dksX21_init_0 6 rfl rfl)
theorem dX21_init_8 : decode cX21_init 8 = .ok (.invokespecial 3, 3) := dk_183 0 3 (dk_at dksX21_init_0 8 rfl rfl)
theorem dX21_init_11 : decode cX21_init 11 = .ok (.return_, 1) := dk_177 (dk_at dksX21_init_0 11 rfl rfl)
abbrev cX21_isOf : ByteArray := prog_22_method_2_code
def yX21_isOf : MethodName := ⟨RX21, "isOf", "(I)Z"⟩
def dkwX21_isOf_0 : List UInt8 := [27, 5, 159, 0, 11, 42, 27, 183, 0, 9, 153, 0, 7, 4, 167, 0, 4, 3, 172]
abbrev dktX21_isOf_0 : List UInt8 := dkwX21_isOf_0 ++ []
theorem dksX21_isOf_0 : cX21_isOf.data.toList.drop 0 = dktX21_isOf_0 := by decide +kernel
theorem dX21_isOf_0 : decode cX21_isOf 0 = .ok (.iload_n 1, 1) := dk_27 (dk_at dksX21_isOf_0 0 rfl rfl)
theorem dX21_isOf_1 : decode cX21_isOf 1 = .ok (.iconst 2, 1) := dk_5 (dk_at dksX21_isOf_0 1 rfl rfl)
theorem dX21_isOf_2 : decode cX21_isOf 2 = .ok (.if_icmp .eq 11, 3) := dk_159 0 11 (dk_at dksX21_isOf_0 2 rfl rfl)
theorem dX21_isOf_5 : decode cX21_isOf 5 = .ok (.aload_n 0, 1) := dk_42 (dk_at dksX21_isOf_0 5 rfl rfl)
theorem dX21_isOf_6 : decode cX21_isOf 6 = .ok (.iload_n 1, 1) := dk_27 (dk_at dksX21_isOf_0 6 rfl rfl)
theorem dX21_isOf_7 : decode cX21_isOf 7 = .ok (.invokespecial 9, 3) := dk_183 0 9 (dk_at dksX21_isOf_0 7 rfl rfl)
theorem dX21_isOf_10 : decode cX21_isOf 10 = .ok (.ifCond .eq 7, 3) := dk_153 0 7 (dk_at dksX21_isOf_0 10 rfl rfl)
theorem dX21_isOf_13 : decode cX21_isOf 13 = .ok (.iconst 1, 1) := dk_4 (dk_at dksX21_isOf_0 13 rfl rfl)
theorem dX21_isOf_14 : decode cX21_isOf 14 = .ok (.goto 4, 3) := dk_167 0 4 (dk_at dksX21_isOf_0 14 rfl rfl)
theorem dX21_isOf_17 : decode cX21_isOf 17 = .ok (.iconst 0, 1) := dk_3 (dk_at dksX21_isOf_0 17 rfl rfl)
theorem dX21_isOf_18 : decode cX21_isOf 18 = .ok (.ireturn, 1) := dk_172 (dk_at dksX21_isOf_0 18 rfl rfl)
abbrev cX21_out : ByteArray := prog_22_method_3_code
def yX21_out : MethodName := ⟨RX21, "out", "(IILLastHatch$Divers;)I"⟩
def dkwX21_out_1 : List UInt8 := [104, 16, 100, 108, 100, 172]
abbrev dktX21_out_1 : List UInt8 := dkwX21_out_1 ++ []
def dkwX21_out_0 : List UInt8 := [28, 42, 180, 0, 13, 162, 0, 13, 42, 27, 28, 45, 183, 0, 19, 167, 0, 14, 27, 27, 42, 180, 0, 23]
abbrev dktX21_out_0 : List UInt8 := dkwX21_out_0 ++ dktX21_out_1
theorem dksX21_out_0 : cX21_out.data.toList.drop 0 = dktX21_out_0 := by decide +kernel
theorem dksX21_out_1 : cX21_out.data.toList.drop 24 = dktX21_out_1 := dk_seg dksX21_out_0 24 rfl rfl
theorem dX21_out_0 : decode cX21_out 0 = .ok (.iload_n 2, 1) := dk_28 (dk_at dksX21_out_0 0 rfl rfl)
theorem dX21_out_1 : decode cX21_out 1 = .ok (.aload_n 0, 1) := dk_42 (dk_at dksX21_out_0 1 rfl rfl)
theorem dX21_out_2 : decode cX21_out 2 = .ok (.getfield 13, 3) := dk_180 0 13 (dk_at dksX21_out_0 2 rfl rfl)
theorem dX21_out_5 : decode cX21_out 5 = .ok (.if_icmp .ge 13, 3) := dk_162 0 13 (dk_at dksX21_out_0 5 rfl rfl)
theorem dX21_out_8 : decode cX21_out 8 = .ok (.aload_n 0, 1) := dk_42 (dk_at dksX21_out_0 8 rfl rfl)
theorem dX21_out_9 : decode cX21_out 9 = .ok (.iload_n 1, 1) := dk_27 (dk_at dksX21_out_0 9 rfl rfl)
theorem dX21_out_10 : decode cX21_out 10 = .ok (.iload_n 2, 1) := dk_28 (dk_at dksX21_out_0 10 rfl rfl)
theorem dX21_out_11 : decode cX21_out 11 = .ok (.aload_n 3, 1) := dk_45 (dk_at dksX21_out_0 11 rfl rfl)
theorem dX21_out_12 : decode cX21_out 12 = .ok (.invokespecial 19, 3) := dk_183 0 19 (dk_at dksX21_out_0 12 rfl rfl)
theorem dX21_out_15 : decode cX21_out 15 = .ok (.goto 14, 3) := dk_167 0 14 (dk_at dksX21_out_0 15 rfl rfl)
theorem dX21_out_18 : decode cX21_out 18 = .ok (.iload_n 1, 1) := dk_27 (dk_at dksX21_out_0 18 rfl rfl)
theorem dX21_out_19 : decode cX21_out 19 = .ok (.iload_n 1, 1) := dk_27 (dk_at dksX21_out_0 19 rfl rfl)
theorem dX21_out_20 : decode cX21_out 20 = .ok (.aload_n 0, 1) := dk_42 (dk_at dksX21_out_0 20 rfl rfl)
theorem dX21_out_21 : decode cX21_out 21 = .ok (.getfield 23, 3) := dk_180 0 23 (dk_at dksX21_out_0 21 rfl rfl)
theorem dX21_out_24 : decode cX21_out 24 = .ok (.imul, 1) := dk_104 (dk_at dksX21_out_1 0 rfl rfl)
theorem dX21_out_25 : decode cX21_out 25 = .ok (.bipush 100, 2) := dk_16 100 (dk_at dksX21_out_1 1 rfl rfl)
theorem dX21_out_27 : decode cX21_out 27 = .ok (.idiv, 1) := dk_108 (dk_at dksX21_out_1 3 rfl rfl)
theorem dX21_out_28 : decode cX21_out 28 = .ok (.isub, 1) := dk_100 (dk_at dksX21_out_1 4 rfl rfl)
theorem dX21_out_29 : decode cX21_out 29 = .ok (.ireturn, 1) := dk_172 (dk_at dksX21_out_1 5 rfl rfl)
abbrev cX21_risks : ByteArray := prog_22_method_4_code
def yX21_risks : MethodName := ⟨RX21, "risks", "(I)I"⟩
def dkwX21_risks_0 : List UInt8 := [42, 180, 0, 26, 16, 30, 182, 0, 30, 42, 27, 183, 0, 36, 6, 104, 172]
abbrev dktX21_risks_0 : List UInt8 := dkwX21_risks_0 ++ []
theorem dksX21_risks_0 : cX21_risks.data.toList.drop 0 = dktX21_risks_0 := by decide +kernel
theorem dX21_risks_0 : decode cX21_risks 0 = .ok (.aload_n 0, 1) := dk_42 (dk_at dksX21_risks_0 0 rfl rfl)
theorem dX21_risks_1 : decode cX21_risks 1 = .ok (.getfield 26, 3) := dk_180 0 26 (dk_at dksX21_risks_0 1 rfl rfl)
theorem dX21_risks_4 : decode cX21_risks 4 = .ok (.bipush 30, 2) := dk_16 30 (dk_at dksX21_risks_0 4 rfl rfl)
theorem dX21_risks_6 : decode cX21_risks 6 = .ok (.invokevirtual 30, 3) := dk_182 0 30 (dk_at dksX21_risks_0 6 rfl rfl)
theorem dX21_risks_9 : decode cX21_risks 9 = .ok (.aload_n 0, 1) := dk_42 (dk_at dksX21_risks_0 9 rfl rfl)
theorem dX21_risks_10 : decode cX21_risks 10 = .ok (.iload_n 1, 1) := dk_27 (dk_at dksX21_risks_0 10 rfl rfl)
theorem dX21_risks_11 : decode cX21_risks 11 = .ok (.invokespecial 36, 3) := dk_183 0 36 (dk_at dksX21_risks_0 11 rfl rfl)
theorem dX21_risks_14 : decode cX21_risks 14 = .ok (.iconst 3, 1) := dk_6 (dk_at dksX21_risks_0 14 rfl rfl)
theorem dX21_risks_15 : decode cX21_risks 15 = .ok (.imul, 1) := dk_104 (dk_at dksX21_risks_0 15 rfl rfl)
theorem dX21_risks_16 : decode cX21_risks 16 = .ok (.ireturn, 1) := dk_172 (dk_at dksX21_risks_0 16 rfl rfl)
theorem q117 : (Jvm.Cond.initialized "LastHatch$Rush") ∈ lw_all := lw_g (lw_at lw_m1 39 rfl) rfl
theorem q610 : (Jvm.Cond.selects "LastHatch$Rush" ({ cls := "java/lang/Object", name := "getClass", desc := "()Ljava/lang/Class;" } : Jvm.MethodName) ({ cls := "java/lang/Object", name := "getClass", desc := "()Ljava/lang/Class;" } : Jvm.MethodName)) ∈ lw_all := lw_g (lw_at lw_m3 52 rfl) rfl
theorem q1094 : (Jvm.Cond.fieldLink "LastHatch$Rush" (26 : Nat) "LastHatch$Rush" "trace" "LLastHatch$Trace;") ∈ lw_all := lw_g (lw_at lw_m5 56 rfl) rfl
theorem q1095 : (Jvm.Cond.sameField "LastHatch$Rush" "LastHatch$Way" "trace" "LLastHatch$Trace;") ∈ lw_all := lw_g (lw_at lw_m5 57 rfl) rfl
theorem q1108 : (Jvm.Cond.fieldLink "LastHatch$Rush" (13 : Nat) "LastHatch$Rush" "t" "I") ∈ lw_all := lw_g (lw_at lw_m5 70 rfl) rfl
theorem q1109 : (Jvm.Cond.sameField "LastHatch$Rush" "LastHatch$Way" "t" "I") ∈ lw_all := lw_g (lw_at lw_m5 71 rfl) rfl
theorem q1119 : (Jvm.Cond.fieldLink "LastHatch$Rush" (23 : Nat) "LastHatch$Rush" "risk" "I") ∈ lw_all := lw_g (lw_at lw_m5 81 rfl) rfl
theorem q1120 : (Jvm.Cond.sameField "LastHatch$Rush" "LastHatch$Way" "risk" "I") ∈ lw_all := lw_g (lw_at lw_m5 82 rfl) rfl
theorem q1133 : (Jvm.Cond.instantiable "LastHatch$Rush" (5 : Nat)) ∈ lw_all := lw_g (lw_at lw_m5 95 rfl) rfl
theorem q1135 : (Jvm.Cond.instanceMethod ({ cls := "LastHatch$Rush", name := "<init>", desc := "(LLastHatch$Trace;IIII)V" } : Jvm.MethodName)) ∈ lw_all := lw_g (lw_at lw_m5 97 rfl) rfl
theorem q1136 : (Jvm.Cond.code ({ cls := "LastHatch$Rush", name := "<init>", desc := "(LLastHatch$Trace;IIII)V" } : Jvm.MethodName) prog_22_method_1_code (6 : Nat) (Option.none : Option Jvm.ClassFile.FieldType)) ∈ lw_all := lw_g (lw_at lw_m5 98 rfl) rfl
theorem q1137 : (Jvm.Cond.methodLink "LastHatch$Rush" (3 : Nat) ({ cls := "LastHatch$Way", name := "<init>", desc := "(LLastHatch$Trace;IIII)V" } : Jvm.MethodName)) ∈ lw_all := lw_g (lw_at lw_m5 99 rfl) rfl
theorem q1138 : (Jvm.Cond.laysFinal "LastHatch$Rush" "LastHatch$Way" "trace" "LLastHatch$Trace;") ∈ lw_all := lw_g (lw_at lw_m5 100 rfl) rfl
theorem q1139 : (Jvm.Cond.laysFinal "LastHatch$Rush" "LastHatch$Way" "number" "I") ∈ lw_all := lw_g (lw_at lw_m5 101 rfl) rfl
theorem q1140 : (Jvm.Cond.laysFinal "LastHatch$Rush" "LastHatch$Way" "t" "I") ∈ lw_all := lw_g (lw_at lw_m5 102 rfl) rfl
theorem q1141 : (Jvm.Cond.laysFinal "LastHatch$Rush" "LastHatch$Way" "n" "I") ∈ lw_all := lw_g (lw_at lw_m5 103 rfl) rfl
theorem q1142 : (Jvm.Cond.laysFinal "LastHatch$Rush" "LastHatch$Way" "risk" "I") ∈ lw_all := lw_g (lw_at lw_m5 104 rfl) rfl
theorem q1143 : (Jvm.Cond.superclass "LastHatch$Rush" "LastHatch$Way") ∈ lw_all := lw_g (lw_at lw_m5 105 rfl) rfl
theorem q1242 : (Jvm.Cond.selects "LastHatch$Rush" ({ cls := "LastHatch$Way", name := "isOf", desc := "(I)Z" } : Jvm.MethodName) ({ cls := "LastHatch$Rush", name := "isOf", desc := "(I)Z" } : Jvm.MethodName)) ∈ lw_all := lw_g (lw_at lw_m5 204 rfl) rfl
theorem q1243 : (Jvm.Cond.instanceMethod ({ cls := "LastHatch$Rush", name := "isOf", desc := "(I)Z" } : Jvm.MethodName)) ∈ lw_all := lw_g (lw_at lw_m5 205 rfl) rfl
theorem q1244 : (Jvm.Cond.code ({ cls := "LastHatch$Rush", name := "isOf", desc := "(I)Z" } : Jvm.MethodName) prog_22_method_2_code (2 : Nat) (Option.some Jvm.ClassFile.FieldType.boolean)) ∈ lw_all := lw_g (lw_at lw_m5 206 rfl) rfl
theorem q1245 : (Jvm.Cond.methodLink "LastHatch$Rush" (9 : Nat) ({ cls := "LastHatch$Way", name := "isOf", desc := "(I)Z" } : Jvm.MethodName)) ∈ lw_all := lw_g (lw_at lw_m5 207 rfl) rfl
theorem q1292 : (Jvm.Cond.selects "LastHatch$Rush" ({ cls := "LastHatch$Way", name := "out", desc := "(IILLastHatch$Divers;)I" } : Jvm.MethodName) ({ cls := "LastHatch$Rush", name := "out", desc := "(IILLastHatch$Divers;)I" } : Jvm.MethodName)) ∈ lw_all := lw_g (lw_at lw_m6 14 rfl) rfl
theorem q1293 : (Jvm.Cond.instanceMethod ({ cls := "LastHatch$Rush", name := "out", desc := "(IILLastHatch$Divers;)I" } : Jvm.MethodName)) ∈ lw_all := lw_g (lw_at lw_m6 15 rfl) rfl
theorem q1294 : (Jvm.Cond.code ({ cls := "LastHatch$Rush", name := "out", desc := "(IILLastHatch$Divers;)I" } : Jvm.MethodName) prog_22_method_3_code (4 : Nat) (Option.some Jvm.ClassFile.FieldType.int)) ∈ lw_all := lw_g (lw_at lw_m6 16 rfl) rfl
theorem q1295 : (Jvm.Cond.methodLink "LastHatch$Rush" (19 : Nat) ({ cls := "LastHatch$Way", name := "out", desc := "(IILLastHatch$Divers;)I" } : Jvm.MethodName)) ∈ lw_all := lw_g (lw_at lw_m6 17 rfl) rfl
theorem q1642 : (Jvm.Cond.castable "LastHatch$Rush" "LastHatch$Needs") ∈ lw_tbl := lw_at lw_m7 124 rfl
theorem q1643 : (Jvm.Cond.selects "LastHatch$Rush" ({ cls := "LastHatch$Needs", name := "needs", desc := "(I)I" } : Jvm.MethodName) ({ cls := "LastHatch$Way", name := "needs", desc := "(I)I" } : Jvm.MethodName)) ∈ lw_all := lw_g (lw_at lw_m7 125 rfl) rfl
theorem q1644 : (Jvm.Cond.unhidden "LastHatch$Rush" "needs" "(I)I") ∈ lw_tbl := lw_at lw_m7 126 rfl
theorem q1696 : (Jvm.Cond.castable "LastHatch$Rush" "LastHatch$Takes") ∈ lw_tbl := lw_at lw_m7 178 rfl
theorem q1697 : (Jvm.Cond.selects "LastHatch$Rush" ({ cls := "LastHatch$Takes", name := "takes", desc := "(I)I" } : Jvm.MethodName) ({ cls := "LastHatch$Way", name := "takes", desc := "(I)I" } : Jvm.MethodName)) ∈ lw_all := lw_g (lw_at lw_m7 179 rfl) rfl
theorem q1698 : (Jvm.Cond.unhidden "LastHatch$Rush" "takes" "(I)I") ∈ lw_tbl := lw_at lw_m7 180 rfl
theorem q1725 : (Jvm.Cond.castable "LastHatch$Rush" "LastHatch$Risks") ∈ lw_tbl := lw_at lw_m7 207 rfl
theorem q1726 : (Jvm.Cond.selects "LastHatch$Rush" ({ cls := "LastHatch$Risks", name := "risks", desc := "(I)I" } : Jvm.MethodName) ({ cls := "LastHatch$Rush", name := "risks", desc := "(I)I" } : Jvm.MethodName)) ∈ lw_all := lw_g (lw_at lw_m7 208 rfl) rfl
theorem q1727 : (Jvm.Cond.unhidden "LastHatch$Rush" "risks" "(I)I") ∈ lw_tbl := lw_at lw_m7 209 rfl
theorem q1728 : (Jvm.Cond.instanceMethod ({ cls := "LastHatch$Rush", name := "risks", desc := "(I)I" } : Jvm.MethodName)) ∈ lw_all := lw_g (lw_at lw_m7 210 rfl) rfl
theorem q1729 : (Jvm.Cond.publicMethod ({ cls := "LastHatch$Rush", name := "risks", desc := "(I)I" } : Jvm.MethodName)) ∈ lw_tbl := lw_at lw_m7 211 rfl
theorem q1730 : (Jvm.Cond.code ({ cls := "LastHatch$Rush", name := "risks", desc := "(I)I" } : Jvm.MethodName) prog_22_method_4_code (2 : Nat) (Option.some Jvm.ClassFile.FieldType.int)) ∈ lw_all := lw_g (lw_at lw_m7 212 rfl) rfl
theorem q1731 : (Jvm.Cond.methodLink "LastHatch$Rush" (30 : Nat) ({ cls := "LastHatch$Trace", name := "begins", desc := "(I)V" } : Jvm.MethodName)) ∈ lw_all := lw_g (lw_at lw_m7 213 rfl) rfl
theorem q1732 : (Jvm.Cond.methodLink "LastHatch$Rush" (36 : Nat) ({ cls := "LastHatch$Way", name := "risks", desc := "(I)I" } : Jvm.MethodName)) ∈ lw_all := lw_g (lw_at lw_m7 214 rfl) rfl
theorem q1795 : (Jvm.Cond.castable "LastHatch$Rush" "LastHatch$Tells") ∈ lw_tbl := lw_at lw_m8 37 rfl
theorem q1796 : (Jvm.Cond.selects "LastHatch$Rush" ({ cls := "LastHatch$Tells", name := "tells", desc := "(I)I" } : Jvm.MethodName) ({ cls := "LastHatch$Way", name := "tells", desc := "(I)I" } : Jvm.MethodName)) ∈ lw_all := lw_g (lw_at lw_m8 38 rfl) rfl
theorem q1797 : (Jvm.Cond.unhidden "LastHatch$Rush" "tells" "(I)I") ∈ lw_tbl := lw_at lw_m8 39 rfl
theorem q2496 : (Jvm.Cond.selects "LastHatch$Rush" ({ cls := "LastHatch$Way", name := "needs", desc := "(I)I" } : Jvm.MethodName) ({ cls := "LastHatch$Way", name := "needs", desc := "(I)I" } : Jvm.MethodName)) ∈ lw_all := lw_g (lw_at lw_m11 18 rfl) rfl
theorem q2506 : (Jvm.Cond.selects "LastHatch$Rush" ({ cls := "LastHatch$Way", name := "takes", desc := "(I)I" } : Jvm.MethodName) ({ cls := "LastHatch$Way", name := "takes", desc := "(I)I" } : Jvm.MethodName)) ∈ lw_all := lw_g (lw_at lw_m11 28 rfl) rfl
theorem q2514 : (Jvm.Cond.selects "LastHatch$Rush" ({ cls := "LastHatch$Way", name := "risks", desc := "(I)I" } : Jvm.MethodName) ({ cls := "LastHatch$Rush", name := "risks", desc := "(I)I" } : Jvm.MethodName)) ∈ lw_all := lw_g (lw_at lw_m11 36 rfl) rfl
theorem q2524 : (Jvm.Cond.castable "LastHatch$Rush" "LastHatch$Way") ∈ lw_tbl := lw_at lw_m11 46 rfl
theorem q2552 : (Jvm.Cond.castable "LastHatch$Rush" "java/lang/Object") ∈ lw_tbl := lw_at lw_m11 74 rfl
theorem in_X21 : ∀ w ∈ wsX210, w ∈ lw_all := lw_in wsX210 [1138, 1139, 1140, 1141, 1142] (by decide +kernel) (by decide +kernel)

/-! LastHatch$Bell -/
set_option maxRecDepth 100000
def RX22 : String := "LastHatch$Bell"
def TX22 : u_T := fun k => match k with
  | 0 => ("LastHatch$Way", "trace", "LLastHatch$Trace;", true)
  | 1 => ("LastHatch$Way", "number", "I", true)
  | 2 => ("LastHatch$Way", "t", "I", true)
  | 3 => ("LastHatch$Way", "n", "I", true)
  | _ => ("LastHatch$Way", "risk", "I", true)
def tyX22 : Nat → FieldType := fun k => match k with
  | 0 => .object "LastHatch$Trace"
  | 1 => .int
  | 2 => .int
  | 3 => .int
  | _ => .int
abbrev wsX220 : List Cond := u_ws RX22 TX22 5
theorem nmX22 : ∀ a, a < 5 → ∀ b, b < 5 → a ≠ b → (TX22 a).2.1 ≠ (TX22 b).2.1 := by decide +kernel
theorem tyX22_ok : ∀ k, k < 5 → parseFieldDescriptor (TX22 k).2.2.1 = some (tyX22 k) := by decide +kernel
abbrev cX22_init : ByteArray := prog_2_method_1_code
def yX22_init : MethodName := ⟨RX22, "<init>", "(LLastHatch$Trace;IIII)V"⟩
def dkwX22_init_0 : List UInt8 := [42, 43, 28, 29, 21, 4, 21, 5, 183, 0, 3, 177]
abbrev dktX22_init_0 : List UInt8 := dkwX22_init_0 ++ []
theorem dksX22_init_0 : cX22_init.data.toList.drop 0 = dktX22_init_0 := by decide +kernel
theorem dX22_init_0 : decode cX22_init 0 = .ok (.aload_n 0, 1) := dk_42 (dk_at dksX22_init_0 0 rfl rfl)
theorem dX22_init_1 : decode cX22_init 1 = .ok (.aload_n 1, 1) := dk_43 (dk_at dksX22_init_0 1 rfl rfl)
theorem dX22_init_2 : decode cX22_init 2 = .ok (.iload_n 2, 1) := dk_28 (dk_at dksX22_init_0 2 rfl rfl)
theorem dX22_init_3 : decode cX22_init 3 = .ok (.iload_n 3, 1) := dk_29 (dk_at dksX22_init_0 3 rfl rfl)
theorem dX22_init_4 : decode cX22_init 4 = .ok (.iload 4, 2) := dk_21 4 (dk_at dksX22_init_0 4 rfl rfl)
theorem dX22_init_6 : decode cX22_init 6 = .ok (.iload 5, 2) := dk_21 5 (dk_at dksX22_init_0 6 rfl rfl)
theorem dX22_init_8 : decode cX22_init 8 = .ok (.invokespecial 3, 3) := dk_183 0 3 (dk_at dksX22_init_0 8 rfl rfl)
theorem dX22_init_11 : decode cX22_init 11 = .ok (.return_, 1) := dk_177 (dk_at dksX22_init_0 11 rfl rfl)
abbrev cX22_isOf : ByteArray := prog_2_method_2_code
def yX22_isOf : MethodName := ⟨RX22, "isOf", "(I)Z"⟩
def dkwX22_isOf_0 : List UInt8 := [27, 6, 159, 0, 11, 42, 27, 183, 0, 9, 153, 0, 7, 4, 167, 0, 4, 3, 172]
abbrev dktX22_isOf_0 : List UInt8 := dkwX22_isOf_0 ++ []
theorem dksX22_isOf_0 : cX22_isOf.data.toList.drop 0 = dktX22_isOf_0 := by decide +kernel
theorem dX22_isOf_0 : decode cX22_isOf 0 = .ok (.iload_n 1, 1) := dk_27 (dk_at dksX22_isOf_0 0 rfl rfl)
theorem dX22_isOf_1 : decode cX22_isOf 1 = .ok (.iconst 3, 1) := dk_6 (dk_at dksX22_isOf_0 1 rfl rfl)
theorem dX22_isOf_2 : decode cX22_isOf 2 = .ok (.if_icmp .eq 11, 3) := dk_159 0 11 (dk_at dksX22_isOf_0 2 rfl rfl)
theorem dX22_isOf_5 : decode cX22_isOf 5 = .ok (.aload_n 0, 1) := dk_42 (dk_at dksX22_isOf_0 5 rfl rfl)
theorem dX22_isOf_6 : decode cX22_isOf 6 = .ok (.iload_n 1, 1) := dk_27 (dk_at dksX22_isOf_0 6 rfl rfl)
theorem dX22_isOf_7 : decode cX22_isOf 7 = .ok (.invokespecial 9, 3) := dk_183 0 9 (dk_at dksX22_isOf_0 7 rfl rfl)
theorem dX22_isOf_10 : decode cX22_isOf 10 = .ok (.ifCond .eq 7, 3) := dk_153 0 7 (dk_at dksX22_isOf_0 10 rfl rfl)
theorem dX22_isOf_13 : decode cX22_isOf 13 = .ok (.iconst 1, 1) := dk_4 (dk_at dksX22_isOf_0 13 rfl rfl)
theorem dX22_isOf_14 : decode cX22_isOf 14 = .ok (.goto 4, 3) := dk_167 0 4 (dk_at dksX22_isOf_0 14 rfl rfl)
theorem dX22_isOf_17 : decode cX22_isOf 17 = .ok (.iconst 0, 1) := dk_3 (dk_at dksX22_isOf_0 17 rfl rfl)
theorem dX22_isOf_18 : decode cX22_isOf 18 = .ok (.ireturn, 1) := dk_172 (dk_at dksX22_isOf_0 18 rfl rfl)
abbrev cX22_out : ByteArray := prog_2_method_3_code
def yX22_out : MethodName := ⟨RX22, "out", "(IILLastHatch$Divers;)I"⟩
def dkwX22_out_0 : List UInt8 := [42, 27, 45, 28, 185, 0, 13, 2, 0, 45, 183, 0, 19, 172]
abbrev dktX22_out_0 : List UInt8 := dkwX22_out_0 ++ []
theorem dksX22_out_0 : cX22_out.data.toList.drop 0 = dktX22_out_0 := by decide +kernel
theorem dX22_out_0 : decode cX22_out 0 = .ok (.aload_n 0, 1) := dk_42 (dk_at dksX22_out_0 0 rfl rfl)
theorem dX22_out_1 : decode cX22_out 1 = .ok (.iload_n 1, 1) := dk_27 (dk_at dksX22_out_0 1 rfl rfl)
theorem dX22_out_2 : decode cX22_out 2 = .ok (.aload_n 3, 1) := dk_45 (dk_at dksX22_out_0 2 rfl rfl)
theorem dX22_out_3 : decode cX22_out 3 = .ok (.iload_n 2, 1) := dk_28 (dk_at dksX22_out_0 3 rfl rfl)
theorem dX22_out_4 : decode cX22_out 4 = .ok (.invokeinterface 13 2, 5) := by decide +kernel
theorem dX22_out_9 : decode cX22_out 9 = .ok (.aload_n 3, 1) := dk_45 (dk_at dksX22_out_0 9 rfl rfl)
theorem dX22_out_10 : decode cX22_out 10 = .ok (.invokespecial 19, 3) := dk_183 0 19 (dk_at dksX22_out_0 10 rfl rfl)
theorem dX22_out_13 : decode cX22_out 13 = .ok (.ireturn, 1) := dk_172 (dk_at dksX22_out_0 13 rfl rfl)
abbrev cX22_needs : ByteArray := prog_2_method_4_code
def yX22_needs : MethodName := ⟨RX22, "needs", "(I)I"⟩
def dkwX22_needs_0 : List UInt8 := [42, 180, 0, 23, 16, 40, 182, 0, 29, 42, 27, 183, 0, 35, 4, 100, 172]
abbrev dktX22_needs_0 : List UInt8 := dkwX22_needs_0 ++ []
theorem dksX22_needs_0 : cX22_needs.data.toList.drop 0 = dktX22_needs_0 := by decide +kernel
theorem dX22_needs_0 : decode cX22_needs 0 = .ok (.aload_n 0, 1) := dk_42 (dk_at dksX22_needs_0 0 rfl rfl)
theorem dX22_needs_1 : decode cX22_needs 1 = .ok (.getfield 23, 3) := dk_180 0 23 (dk_at dksX22_needs_0 1 rfl rfl)
theorem dX22_needs_4 : decode cX22_needs 4 = .ok (.bipush 40, 2) := dk_16 40 (dk_at dksX22_needs_0 4 rfl rfl)
theorem dX22_needs_6 : decode cX22_needs 6 = .ok (.invokevirtual 29, 3) := dk_182 0 29 (dk_at dksX22_needs_0 6 rfl rfl)
theorem dX22_needs_9 : decode cX22_needs 9 = .ok (.aload_n 0, 1) := dk_42 (dk_at dksX22_needs_0 9 rfl rfl)
theorem dX22_needs_10 : decode cX22_needs 10 = .ok (.iload_n 1, 1) := dk_27 (dk_at dksX22_needs_0 10 rfl rfl)
theorem dX22_needs_11 : decode cX22_needs 11 = .ok (.invokespecial 35, 3) := dk_183 0 35 (dk_at dksX22_needs_0 11 rfl rfl)
theorem dX22_needs_14 : decode cX22_needs 14 = .ok (.iconst 1, 1) := dk_4 (dk_at dksX22_needs_0 14 rfl rfl)
theorem dX22_needs_15 : decode cX22_needs 15 = .ok (.isub, 1) := dk_100 (dk_at dksX22_needs_0 15 rfl rfl)
theorem dX22_needs_16 : decode cX22_needs 16 = .ok (.ireturn, 1) := dk_172 (dk_at dksX22_needs_0 16 rfl rfl)
abbrev cX22_takes : ByteArray := prog_2_method_5_code
def yX22_takes : MethodName := ⟨RX22, "takes", "(I)I"⟩
def dkwX22_takes_0 : List UInt8 := [42, 180, 0, 23, 16, 41, 182, 0, 29, 42, 27, 5, 96, 183, 0, 38, 172]
abbrev dktX22_takes_0 : List UInt8 := dkwX22_takes_0 ++ []
theorem dksX22_takes_0 : cX22_takes.data.toList.drop 0 = dktX22_takes_0 := by decide +kernel
theorem dX22_takes_0 : decode cX22_takes 0 = .ok (.aload_n 0, 1) := dk_42 (dk_at dksX22_takes_0 0 rfl rfl)
theorem dX22_takes_1 : decode cX22_takes 1 = .ok (.getfield 23, 3) := dk_180 0 23 (dk_at dksX22_takes_0 1 rfl rfl)
theorem dX22_takes_4 : decode cX22_takes 4 = .ok (.bipush 41, 2) := dk_16 41 (dk_at dksX22_takes_0 4 rfl rfl)
theorem dX22_takes_6 : decode cX22_takes 6 = .ok (.invokevirtual 29, 3) := dk_182 0 29 (dk_at dksX22_takes_0 6 rfl rfl)
theorem dX22_takes_9 : decode cX22_takes 9 = .ok (.aload_n 0, 1) := dk_42 (dk_at dksX22_takes_0 9 rfl rfl)
theorem dX22_takes_10 : decode cX22_takes 10 = .ok (.iload_n 1, 1) := dk_27 (dk_at dksX22_takes_0 10 rfl rfl)
theorem dX22_takes_11 : decode cX22_takes 11 = .ok (.iconst 2, 1) := dk_5 (dk_at dksX22_takes_0 11 rfl rfl)
theorem dX22_takes_12 : decode cX22_takes 12 = .ok (.iadd, 1) := dk_96 (dk_at dksX22_takes_0 12 rfl rfl)
theorem dX22_takes_13 : decode cX22_takes 13 = .ok (.invokespecial 38, 3) := dk_183 0 38 (dk_at dksX22_takes_0 13 rfl rfl)
theorem dX22_takes_16 : decode cX22_takes 16 = .ok (.ireturn, 1) := dk_172 (dk_at dksX22_takes_0 16 rfl rfl)
theorem q118 : (Jvm.Cond.initialized "LastHatch$Bell") ∈ lw_all := lw_g (lw_at lw_m1 40 rfl) rfl
theorem q593 : (Jvm.Cond.selects "LastHatch$Bell" ({ cls := "java/lang/Object", name := "getClass", desc := "()Ljava/lang/Class;" } : Jvm.MethodName) ({ cls := "java/lang/Object", name := "getClass", desc := "()Ljava/lang/Class;" } : Jvm.MethodName)) ∈ lw_all := lw_g (lw_at lw_m3 35 rfl) rfl
theorem q1090 : (Jvm.Cond.fieldLink "LastHatch$Bell" (23 : Nat) "LastHatch$Bell" "trace" "LLastHatch$Trace;") ∈ lw_all := lw_g (lw_at lw_m5 52 rfl) rfl
theorem q1091 : (Jvm.Cond.sameField "LastHatch$Bell" "LastHatch$Way" "trace" "LLastHatch$Trace;") ∈ lw_all := lw_g (lw_at lw_m5 53 rfl) rfl
theorem q1145 : (Jvm.Cond.instantiable "LastHatch$Bell" (5 : Nat)) ∈ lw_all := lw_g (lw_at lw_m5 107 rfl) rfl
theorem q1147 : (Jvm.Cond.instanceMethod ({ cls := "LastHatch$Bell", name := "<init>", desc := "(LLastHatch$Trace;IIII)V" } : Jvm.MethodName)) ∈ lw_all := lw_g (lw_at lw_m5 109 rfl) rfl
theorem q1148 : (Jvm.Cond.code ({ cls := "LastHatch$Bell", name := "<init>", desc := "(LLastHatch$Trace;IIII)V" } : Jvm.MethodName) prog_2_method_1_code (6 : Nat) (Option.none : Option Jvm.ClassFile.FieldType)) ∈ lw_all := lw_g (lw_at lw_m5 110 rfl) rfl
theorem q1149 : (Jvm.Cond.methodLink "LastHatch$Bell" (3 : Nat) ({ cls := "LastHatch$Lock", name := "<init>", desc := "(LLastHatch$Trace;IIII)V" } : Jvm.MethodName)) ∈ lw_all := lw_g (lw_at lw_m5 111 rfl) rfl
theorem q1150 : (Jvm.Cond.laysFinal "LastHatch$Bell" "LastHatch$Way" "trace" "LLastHatch$Trace;") ∈ lw_all := lw_g (lw_at lw_m5 112 rfl) rfl
theorem q1151 : (Jvm.Cond.laysFinal "LastHatch$Bell" "LastHatch$Way" "number" "I") ∈ lw_all := lw_g (lw_at lw_m5 113 rfl) rfl
theorem q1152 : (Jvm.Cond.laysFinal "LastHatch$Bell" "LastHatch$Way" "t" "I") ∈ lw_all := lw_g (lw_at lw_m5 114 rfl) rfl
theorem q1153 : (Jvm.Cond.laysFinal "LastHatch$Bell" "LastHatch$Way" "n" "I") ∈ lw_all := lw_g (lw_at lw_m5 115 rfl) rfl
theorem q1154 : (Jvm.Cond.laysFinal "LastHatch$Bell" "LastHatch$Way" "risk" "I") ∈ lw_all := lw_g (lw_at lw_m5 116 rfl) rfl
theorem q1155 : (Jvm.Cond.superclass "LastHatch$Bell" "LastHatch$Lock") ∈ lw_all := lw_g (lw_at lw_m5 117 rfl) rfl
theorem q1225 : (Jvm.Cond.selects "LastHatch$Bell" ({ cls := "LastHatch$Way", name := "isOf", desc := "(I)Z" } : Jvm.MethodName) ({ cls := "LastHatch$Bell", name := "isOf", desc := "(I)Z" } : Jvm.MethodName)) ∈ lw_all := lw_g (lw_at lw_m5 187 rfl) rfl
theorem q1226 : (Jvm.Cond.instanceMethod ({ cls := "LastHatch$Bell", name := "isOf", desc := "(I)Z" } : Jvm.MethodName)) ∈ lw_all := lw_g (lw_at lw_m5 188 rfl) rfl
theorem q1227 : (Jvm.Cond.code ({ cls := "LastHatch$Bell", name := "isOf", desc := "(I)Z" } : Jvm.MethodName) prog_2_method_2_code (2 : Nat) (Option.some Jvm.ClassFile.FieldType.boolean)) ∈ lw_all := lw_g (lw_at lw_m5 189 rfl) rfl
theorem q1228 : (Jvm.Cond.methodLink "LastHatch$Bell" (9 : Nat) ({ cls := "LastHatch$Lock", name := "isOf", desc := "(I)Z" } : Jvm.MethodName)) ∈ lw_all := lw_g (lw_at lw_m5 190 rfl) rfl
theorem q1265 : (Jvm.Cond.selects "LastHatch$Bell" ({ cls := "LastHatch$Way", name := "out", desc := "(IILLastHatch$Divers;)I" } : Jvm.MethodName) ({ cls := "LastHatch$Bell", name := "out", desc := "(IILLastHatch$Divers;)I" } : Jvm.MethodName)) ∈ lw_all := lw_g (lw_at lw_m5 227 rfl) rfl
theorem q1266 : (Jvm.Cond.instanceMethod ({ cls := "LastHatch$Bell", name := "out", desc := "(IILLastHatch$Divers;)I" } : Jvm.MethodName)) ∈ lw_all := lw_g (lw_at lw_m5 228 rfl) rfl
theorem q1267 : (Jvm.Cond.code ({ cls := "LastHatch$Bell", name := "out", desc := "(IILLastHatch$Divers;)I" } : Jvm.MethodName) prog_2_method_3_code (4 : Nat) (Option.some Jvm.ClassFile.FieldType.int)) ∈ lw_all := lw_g (lw_at lw_m5 229 rfl) rfl
theorem q1268 : (Jvm.Cond.interfaceEntry "LastHatch$Bell" (13 : Nat)) ∈ lw_tbl := lw_at lw_m5 230 rfl
theorem q1269 : (Jvm.Cond.methodLink "LastHatch$Bell" (13 : Nat) ({ cls := "LastHatch$Divers", name := "minutes", desc := "(I)I" } : Jvm.MethodName)) ∈ lw_all := lw_g (lw_at lw_m5 231 rfl) rfl
theorem q1279 : (Jvm.Cond.methodLink "LastHatch$Bell" (19 : Nat) ({ cls := "LastHatch$Lock", name := "out", desc := "(IILLastHatch$Divers;)I" } : Jvm.MethodName)) ∈ lw_all := lw_g (lw_at lw_m6 1 rfl) rfl
theorem q1616 : (Jvm.Cond.castable "LastHatch$Bell" "LastHatch$Needs") ∈ lw_tbl := lw_at lw_m7 98 rfl
theorem q1617 : (Jvm.Cond.selects "LastHatch$Bell" ({ cls := "LastHatch$Needs", name := "needs", desc := "(I)I" } : Jvm.MethodName) ({ cls := "LastHatch$Bell", name := "needs", desc := "(I)I" } : Jvm.MethodName)) ∈ lw_all := lw_g (lw_at lw_m7 99 rfl) rfl
theorem q1618 : (Jvm.Cond.unhidden "LastHatch$Bell" "needs" "(I)I") ∈ lw_tbl := lw_at lw_m7 100 rfl
theorem q1619 : (Jvm.Cond.instanceMethod ({ cls := "LastHatch$Bell", name := "needs", desc := "(I)I" } : Jvm.MethodName)) ∈ lw_all := lw_g (lw_at lw_m7 101 rfl) rfl
theorem q1620 : (Jvm.Cond.publicMethod ({ cls := "LastHatch$Bell", name := "needs", desc := "(I)I" } : Jvm.MethodName)) ∈ lw_tbl := lw_at lw_m7 102 rfl
theorem q1621 : (Jvm.Cond.code ({ cls := "LastHatch$Bell", name := "needs", desc := "(I)I" } : Jvm.MethodName) prog_2_method_4_code (2 : Nat) (Option.some Jvm.ClassFile.FieldType.int)) ∈ lw_all := lw_g (lw_at lw_m7 103 rfl) rfl
theorem q1622 : (Jvm.Cond.methodLink "LastHatch$Bell" (29 : Nat) ({ cls := "LastHatch$Trace", name := "begins", desc := "(I)V" } : Jvm.MethodName)) ∈ lw_all := lw_g (lw_at lw_m7 104 rfl) rfl
theorem q1626 : (Jvm.Cond.methodLink "LastHatch$Bell" (35 : Nat) ({ cls := "LastHatch$Lock", name := "needs", desc := "(I)I" } : Jvm.MethodName)) ∈ lw_all := lw_g (lw_at lw_m7 108 rfl) rfl
theorem q1663 : (Jvm.Cond.castable "LastHatch$Bell" "LastHatch$Takes") ∈ lw_tbl := lw_at lw_m7 145 rfl
theorem q1664 : (Jvm.Cond.selects "LastHatch$Bell" ({ cls := "LastHatch$Takes", name := "takes", desc := "(I)I" } : Jvm.MethodName) ({ cls := "LastHatch$Bell", name := "takes", desc := "(I)I" } : Jvm.MethodName)) ∈ lw_all := lw_g (lw_at lw_m7 146 rfl) rfl
theorem q1665 : (Jvm.Cond.unhidden "LastHatch$Bell" "takes" "(I)I") ∈ lw_tbl := lw_at lw_m7 147 rfl
theorem q1666 : (Jvm.Cond.instanceMethod ({ cls := "LastHatch$Bell", name := "takes", desc := "(I)I" } : Jvm.MethodName)) ∈ lw_all := lw_g (lw_at lw_m7 148 rfl) rfl
theorem q1667 : (Jvm.Cond.publicMethod ({ cls := "LastHatch$Bell", name := "takes", desc := "(I)I" } : Jvm.MethodName)) ∈ lw_tbl := lw_at lw_m7 149 rfl
theorem q1668 : (Jvm.Cond.code ({ cls := "LastHatch$Bell", name := "takes", desc := "(I)I" } : Jvm.MethodName) prog_2_method_5_code (2 : Nat) (Option.some Jvm.ClassFile.FieldType.int)) ∈ lw_all := lw_g (lw_at lw_m7 150 rfl) rfl
theorem q1669 : (Jvm.Cond.methodLink "LastHatch$Bell" (38 : Nat) ({ cls := "LastHatch$Lock", name := "takes", desc := "(I)I" } : Jvm.MethodName)) ∈ lw_all := lw_g (lw_at lw_m7 151 rfl) rfl
theorem q1680 : (Jvm.Cond.selects "LastHatch$Bell" ({ cls := "LastHatch$Lock", name := "risks", desc := "(I)I" } : Jvm.MethodName) ({ cls := "LastHatch$Way", name := "risks", desc := "(I)I" } : Jvm.MethodName)) ∈ lw_all := lw_g (lw_at lw_m7 162 rfl) rfl
theorem q1712 : (Jvm.Cond.castable "LastHatch$Bell" "LastHatch$Risks") ∈ lw_tbl := lw_at lw_m7 194 rfl
theorem q1713 : (Jvm.Cond.selects "LastHatch$Bell" ({ cls := "LastHatch$Risks", name := "risks", desc := "(I)I" } : Jvm.MethodName) ({ cls := "LastHatch$Way", name := "risks", desc := "(I)I" } : Jvm.MethodName)) ∈ lw_all := lw_g (lw_at lw_m7 195 rfl) rfl
theorem q1714 : (Jvm.Cond.unhidden "LastHatch$Bell" "risks" "(I)I") ∈ lw_tbl := lw_at lw_m7 196 rfl
theorem q1759 : (Jvm.Cond.castable "LastHatch$Bell" "LastHatch$Tells") ∈ lw_tbl := lw_at lw_m8 1 rfl
theorem q1760 : (Jvm.Cond.selects "LastHatch$Bell" ({ cls := "LastHatch$Tells", name := "tells", desc := "(I)I" } : Jvm.MethodName) ({ cls := "LastHatch$Way", name := "tells", desc := "(I)I" } : Jvm.MethodName)) ∈ lw_all := lw_g (lw_at lw_m8 2 rfl) rfl
theorem q1761 : (Jvm.Cond.unhidden "LastHatch$Bell" "tells" "(I)I") ∈ lw_tbl := lw_at lw_m8 3 rfl
theorem q2492 : (Jvm.Cond.selects "LastHatch$Bell" ({ cls := "LastHatch$Way", name := "needs", desc := "(I)I" } : Jvm.MethodName) ({ cls := "LastHatch$Bell", name := "needs", desc := "(I)I" } : Jvm.MethodName)) ∈ lw_all := lw_g (lw_at lw_m11 14 rfl) rfl
theorem q2502 : (Jvm.Cond.selects "LastHatch$Bell" ({ cls := "LastHatch$Way", name := "takes", desc := "(I)I" } : Jvm.MethodName) ({ cls := "LastHatch$Bell", name := "takes", desc := "(I)I" } : Jvm.MethodName)) ∈ lw_all := lw_g (lw_at lw_m11 24 rfl) rfl
theorem q2510 : (Jvm.Cond.selects "LastHatch$Bell" ({ cls := "LastHatch$Way", name := "risks", desc := "(I)I" } : Jvm.MethodName) ({ cls := "LastHatch$Way", name := "risks", desc := "(I)I" } : Jvm.MethodName)) ∈ lw_all := lw_g (lw_at lw_m11 32 rfl) rfl
theorem q2520 : (Jvm.Cond.castable "LastHatch$Bell" "LastHatch$Way") ∈ lw_tbl := lw_at lw_m11 42 rfl
theorem q2553 : (Jvm.Cond.castable "LastHatch$Bell" "java/lang/Object") ∈ lw_tbl := lw_at lw_m11 75 rfl
theorem in_X22 : ∀ w ∈ wsX220, w ∈ lw_all := lw_in wsX220 [1150, 1151, 1152, 1153, 1154] (by decide +kernel) (by decide +kernel)

/-! LastHatch$Raised -/
set_option maxRecDepth 100000
def RX23 : String := "LastHatch$Raised"
def TX23 : u_T := fun k => match k with
  | 0 => ("LastHatch$Way", "trace", "LLastHatch$Trace;", true)
  | 1 => ("LastHatch$Way", "number", "I", true)
  | 2 => ("LastHatch$Way", "t", "I", true)
  | 3 => ("LastHatch$Way", "n", "I", true)
  | _ => ("LastHatch$Way", "risk", "I", true)
def tyX23 : Nat → FieldType := fun k => match k with
  | 0 => .object "LastHatch$Trace"
  | 1 => .int
  | 2 => .int
  | 3 => .int
  | _ => .int
abbrev wsX230 : List Cond := u_ws RX23 TX23 5
theorem nmX23 : ∀ a, a < 5 → ∀ b, b < 5 → a ≠ b → (TX23 a).2.1 ≠ (TX23 b).2.1 := by decide +kernel
theorem tyX23_ok : ∀ k, k < 5 → parseFieldDescriptor (TX23 k).2.2.1 = some (tyX23 k) := by decide +kernel
abbrev cX23_init : ByteArray := prog_19_method_1_code
def yX23_init : MethodName := ⟨RX23, "<init>", "(LLastHatch$Trace;IIII)V"⟩
def dkwX23_init_0 : List UInt8 := [42, 43, 28, 29, 21, 4, 21, 5, 183, 0, 3, 177]
abbrev dktX23_init_0 : List UInt8 := dkwX23_init_0 ++ []
theorem dksX23_init_0 : cX23_init.data.toList.drop 0 = dktX23_init_0 := by decide +kernel
theorem dX23_init_0 : decode cX23_init 0 = .ok (.aload_n 0, 1) := dk_42 (dk_at dksX23_init_0 0 rfl rfl)
theorem dX23_init_1 : decode cX23_init 1 = .ok (.aload_n 1, 1) := dk_43 (dk_at dksX23_init_0 1 rfl rfl)
theorem dX23_init_2 : decode cX23_init 2 = .ok (.iload_n 2, 1) := dk_28 (dk_at dksX23_init_0 2 rfl rfl)
theorem dX23_init_3 : decode cX23_init 3 = .ok (.iload_n 3, 1) := dk_29 (dk_at dksX23_init_0 3 rfl rfl)
theorem dX23_init_4 : decode cX23_init 4 = .ok (.iload 4, 2) := dk_21 4 (dk_at dksX23_init_0 4 rfl rfl)
theorem dX23_init_6 : decode cX23_init 6 = .ok (.iload 5, 2) := dk_21 5 (dk_at dksX23_init_0 6 rfl rfl)
theorem dX23_init_8 : decode cX23_init 8 = .ok (.invokespecial 3, 3) := dk_183 0 3 (dk_at dksX23_init_0 8 rfl rfl)
theorem dX23_init_11 : decode cX23_init 11 = .ok (.return_, 1) := dk_177 (dk_at dksX23_init_0 11 rfl rfl)
abbrev cX23_isOf : ByteArray := prog_19_method_2_code
def yX23_isOf : MethodName := ⟨RX23, "isOf", "(I)Z"⟩
def dkwX23_isOf_0 : List UInt8 := [27, 7, 159, 0, 11, 42, 27, 183, 0, 9, 153, 0, 7, 4, 167, 0, 4, 3, 172]
abbrev dktX23_isOf_0 : List UInt8 := dkwX23_isOf_0 ++ []
theorem dksX23_isOf_0 : cX23_isOf.data.toList.drop 0 = dktX23_isOf_0 := by decide +kernel
theorem dX23_isOf_0 : decode cX23_isOf 0 = .ok (.iload_n 1, 1) := dk_27 (dk_at dksX23_isOf_0 0 rfl rfl)
theorem dX23_isOf_1 : decode cX23_isOf 1 = .ok (.iconst 4, 1) := dk_7 (dk_at dksX23_isOf_0 1 rfl rfl)
theorem dX23_isOf_2 : decode cX23_isOf 2 = .ok (.if_icmp .eq 11, 3) := dk_159 0 11 (dk_at dksX23_isOf_0 2 rfl rfl)
theorem dX23_isOf_5 : decode cX23_isOf 5 = .ok (.aload_n 0, 1) := dk_42 (dk_at dksX23_isOf_0 5 rfl rfl)
theorem dX23_isOf_6 : decode cX23_isOf 6 = .ok (.iload_n 1, 1) := dk_27 (dk_at dksX23_isOf_0 6 rfl rfl)
theorem dX23_isOf_7 : decode cX23_isOf 7 = .ok (.invokespecial 9, 3) := dk_183 0 9 (dk_at dksX23_isOf_0 7 rfl rfl)
theorem dX23_isOf_10 : decode cX23_isOf 10 = .ok (.ifCond .eq 7, 3) := dk_153 0 7 (dk_at dksX23_isOf_0 10 rfl rfl)
theorem dX23_isOf_13 : decode cX23_isOf 13 = .ok (.iconst 1, 1) := dk_4 (dk_at dksX23_isOf_0 13 rfl rfl)
theorem dX23_isOf_14 : decode cX23_isOf 14 = .ok (.goto 4, 3) := dk_167 0 4 (dk_at dksX23_isOf_0 14 rfl rfl)
theorem dX23_isOf_17 : decode cX23_isOf 17 = .ok (.iconst 0, 1) := dk_3 (dk_at dksX23_isOf_0 17 rfl rfl)
theorem dX23_isOf_18 : decode cX23_isOf 18 = .ok (.ireturn, 1) := dk_172 (dk_at dksX23_isOf_0 18 rfl rfl)
abbrev cX23_out : ByteArray := prog_19_method_3_code
def yX23_out : MethodName := ⟨RX23, "out", "(IILLastHatch$Divers;)I"⟩
def dkwX23_out_0 : List UInt8 := [28, 42, 180, 0, 13, 162, 0, 7, 3, 167, 0, 4, 27, 172]
abbrev dktX23_out_0 : List UInt8 := dkwX23_out_0 ++ []
theorem dksX23_out_0 : cX23_out.data.toList.drop 0 = dktX23_out_0 := by decide +kernel
theorem dX23_out_0 : decode cX23_out 0 = .ok (.iload_n 2, 1) := dk_28 (dk_at dksX23_out_0 0 rfl rfl)
theorem dX23_out_1 : decode cX23_out 1 = .ok (.aload_n 0, 1) := dk_42 (dk_at dksX23_out_0 1 rfl rfl)
theorem dX23_out_2 : decode cX23_out 2 = .ok (.getfield 13, 3) := dk_180 0 13 (dk_at dksX23_out_0 2 rfl rfl)
theorem dX23_out_5 : decode cX23_out 5 = .ok (.if_icmp .ge 7, 3) := dk_162 0 7 (dk_at dksX23_out_0 5 rfl rfl)
theorem dX23_out_8 : decode cX23_out 8 = .ok (.iconst 0, 1) := dk_3 (dk_at dksX23_out_0 8 rfl rfl)
theorem dX23_out_9 : decode cX23_out 9 = .ok (.goto 4, 3) := dk_167 0 4 (dk_at dksX23_out_0 9 rfl rfl)
theorem dX23_out_12 : decode cX23_out 12 = .ok (.iload_n 1, 1) := dk_27 (dk_at dksX23_out_0 12 rfl rfl)
theorem dX23_out_13 : decode cX23_out 13 = .ok (.ireturn, 1) := dk_172 (dk_at dksX23_out_0 13 rfl rfl)
abbrev cX23_tells : ByteArray := prog_19_method_4_code
def yX23_tells : MethodName := ⟨RX23, "tells", "(I)I"⟩
def dkwX23_tells_0 : List UInt8 := [42, 180, 0, 19, 16, 50, 182, 0, 23, 42, 27, 183, 0, 29, 61, 28, 42, 5, 182, 0, 33, 100, 172]
abbrev dktX23_tells_0 : List UInt8 := dkwX23_tells_0 ++ []
theorem dksX23_tells_0 : cX23_tells.data.toList.drop 0 = dktX23_tells_0 := by decide +kernel
theorem dX23_tells_0 : decode cX23_tells 0 = .ok (.aload_n 0, 1) := dk_42 (dk_at dksX23_tells_0 0 rfl rfl)
theorem dX23_tells_1 : decode cX23_tells 1 = .ok (.getfield 19, 3) := dk_180 0 19 (dk_at dksX23_tells_0 1 rfl rfl)
theorem dX23_tells_4 : decode cX23_tells 4 = .ok (.bipush 50, 2) := dk_16 50 (dk_at dksX23_tells_0 4 rfl rfl)
theorem dX23_tells_6 : decode cX23_tells 6 = .ok (.invokevirtual 23, 3) := dk_182 0 23 (dk_at dksX23_tells_0 6 rfl rfl)
theorem dX23_tells_9 : decode cX23_tells 9 = .ok (.aload_n 0, 1) := dk_42 (dk_at dksX23_tells_0 9 rfl rfl)
theorem dX23_tells_10 : decode cX23_tells 10 = .ok (.iload_n 1, 1) := dk_27 (dk_at dksX23_tells_0 10 rfl rfl)
theorem dX23_tells_11 : decode cX23_tells 11 = .ok (.invokespecial 29, 3) := dk_183 0 29 (dk_at dksX23_tells_0 11 rfl rfl)
theorem dX23_tells_14 : decode cX23_tells 14 = .ok (.istore_n 2, 1) := dk_61 (dk_at dksX23_tells_0 14 rfl rfl)
theorem dX23_tells_15 : decode cX23_tells 15 = .ok (.iload_n 2, 1) := dk_28 (dk_at dksX23_tells_0 15 rfl rfl)
theorem dX23_tells_16 : decode cX23_tells 16 = .ok (.aload_n 0, 1) := dk_42 (dk_at dksX23_tells_0 16 rfl rfl)
theorem dX23_tells_17 : decode cX23_tells 17 = .ok (.iconst 2, 1) := dk_5 (dk_at dksX23_tells_0 17 rfl rfl)
theorem dX23_tells_18 : decode cX23_tells 18 = .ok (.invokevirtual 33, 3) := dk_182 0 33 (dk_at dksX23_tells_0 18 rfl rfl)
theorem dX23_tells_21 : decode cX23_tells 21 = .ok (.isub, 1) := dk_100 (dk_at dksX23_tells_0 21 rfl rfl)
theorem dX23_tells_22 : decode cX23_tells 22 = .ok (.ireturn, 1) := dk_172 (dk_at dksX23_tells_0 22 rfl rfl)
theorem q119 : (Jvm.Cond.initialized "LastHatch$Raised") ∈ lw_all := lw_g (lw_at lw_m1 41 rfl) rfl
theorem q608 : (Jvm.Cond.selects "LastHatch$Raised" ({ cls := "java/lang/Object", name := "getClass", desc := "()Ljava/lang/Class;" } : Jvm.MethodName) ({ cls := "java/lang/Object", name := "getClass", desc := "()Ljava/lang/Class;" } : Jvm.MethodName)) ∈ lw_all := lw_g (lw_at lw_m3 50 rfl) rfl
theorem q1100 : (Jvm.Cond.fieldLink "LastHatch$Raised" (19 : Nat) "LastHatch$Raised" "trace" "LLastHatch$Trace;") ∈ lw_all := lw_g (lw_at lw_m5 62 rfl) rfl
theorem q1101 : (Jvm.Cond.sameField "LastHatch$Raised" "LastHatch$Way" "trace" "LLastHatch$Trace;") ∈ lw_all := lw_g (lw_at lw_m5 63 rfl) rfl
theorem q1106 : (Jvm.Cond.fieldLink "LastHatch$Raised" (13 : Nat) "LastHatch$Raised" "t" "I") ∈ lw_all := lw_g (lw_at lw_m5 68 rfl) rfl
theorem q1107 : (Jvm.Cond.sameField "LastHatch$Raised" "LastHatch$Way" "t" "I") ∈ lw_all := lw_g (lw_at lw_m5 69 rfl) rfl
theorem q1157 : (Jvm.Cond.instantiable "LastHatch$Raised" (5 : Nat)) ∈ lw_all := lw_g (lw_at lw_m5 119 rfl) rfl
theorem q1159 : (Jvm.Cond.instanceMethod ({ cls := "LastHatch$Raised", name := "<init>", desc := "(LLastHatch$Trace;IIII)V" } : Jvm.MethodName)) ∈ lw_all := lw_g (lw_at lw_m5 121 rfl) rfl
theorem q1160 : (Jvm.Cond.code ({ cls := "LastHatch$Raised", name := "<init>", desc := "(LLastHatch$Trace;IIII)V" } : Jvm.MethodName) prog_19_method_1_code (6 : Nat) (Option.none : Option Jvm.ClassFile.FieldType)) ∈ lw_all := lw_g (lw_at lw_m5 122 rfl) rfl
theorem q1161 : (Jvm.Cond.methodLink "LastHatch$Raised" (3 : Nat) ({ cls := "LastHatch$Way", name := "<init>", desc := "(LLastHatch$Trace;IIII)V" } : Jvm.MethodName)) ∈ lw_all := lw_g (lw_at lw_m5 123 rfl) rfl
theorem q1162 : (Jvm.Cond.laysFinal "LastHatch$Raised" "LastHatch$Way" "trace" "LLastHatch$Trace;") ∈ lw_all := lw_g (lw_at lw_m5 124 rfl) rfl
theorem q1163 : (Jvm.Cond.laysFinal "LastHatch$Raised" "LastHatch$Way" "number" "I") ∈ lw_all := lw_g (lw_at lw_m5 125 rfl) rfl
theorem q1164 : (Jvm.Cond.laysFinal "LastHatch$Raised" "LastHatch$Way" "t" "I") ∈ lw_all := lw_g (lw_at lw_m5 126 rfl) rfl
theorem q1165 : (Jvm.Cond.laysFinal "LastHatch$Raised" "LastHatch$Way" "n" "I") ∈ lw_all := lw_g (lw_at lw_m5 127 rfl) rfl
theorem q1166 : (Jvm.Cond.laysFinal "LastHatch$Raised" "LastHatch$Way" "risk" "I") ∈ lw_all := lw_g (lw_at lw_m5 128 rfl) rfl
theorem q1167 : (Jvm.Cond.superclass "LastHatch$Raised" "LastHatch$Way") ∈ lw_all := lw_g (lw_at lw_m5 129 rfl) rfl
theorem q1238 : (Jvm.Cond.selects "LastHatch$Raised" ({ cls := "LastHatch$Way", name := "isOf", desc := "(I)Z" } : Jvm.MethodName) ({ cls := "LastHatch$Raised", name := "isOf", desc := "(I)Z" } : Jvm.MethodName)) ∈ lw_all := lw_g (lw_at lw_m5 200 rfl) rfl
theorem q1239 : (Jvm.Cond.instanceMethod ({ cls := "LastHatch$Raised", name := "isOf", desc := "(I)Z" } : Jvm.MethodName)) ∈ lw_all := lw_g (lw_at lw_m5 201 rfl) rfl
theorem q1240 : (Jvm.Cond.code ({ cls := "LastHatch$Raised", name := "isOf", desc := "(I)Z" } : Jvm.MethodName) prog_19_method_2_code (2 : Nat) (Option.some Jvm.ClassFile.FieldType.boolean)) ∈ lw_all := lw_g (lw_at lw_m5 202 rfl) rfl
theorem q1241 : (Jvm.Cond.methodLink "LastHatch$Raised" (9 : Nat) ({ cls := "LastHatch$Way", name := "isOf", desc := "(I)Z" } : Jvm.MethodName)) ∈ lw_all := lw_g (lw_at lw_m5 203 rfl) rfl
theorem q1289 : (Jvm.Cond.selects "LastHatch$Raised" ({ cls := "LastHatch$Way", name := "out", desc := "(IILLastHatch$Divers;)I" } : Jvm.MethodName) ({ cls := "LastHatch$Raised", name := "out", desc := "(IILLastHatch$Divers;)I" } : Jvm.MethodName)) ∈ lw_all := lw_g (lw_at lw_m6 11 rfl) rfl
theorem q1290 : (Jvm.Cond.instanceMethod ({ cls := "LastHatch$Raised", name := "out", desc := "(IILLastHatch$Divers;)I" } : Jvm.MethodName)) ∈ lw_all := lw_g (lw_at lw_m6 12 rfl) rfl
theorem q1291 : (Jvm.Cond.code ({ cls := "LastHatch$Raised", name := "out", desc := "(IILLastHatch$Divers;)I" } : Jvm.MethodName) prog_19_method_3_code (4 : Nat) (Option.some Jvm.ClassFile.FieldType.int)) ∈ lw_all := lw_g (lw_at lw_m6 13 rfl) rfl
theorem q1639 : (Jvm.Cond.castable "LastHatch$Raised" "LastHatch$Needs") ∈ lw_tbl := lw_at lw_m7 121 rfl
theorem q1640 : (Jvm.Cond.selects "LastHatch$Raised" ({ cls := "LastHatch$Needs", name := "needs", desc := "(I)I" } : Jvm.MethodName) ({ cls := "LastHatch$Way", name := "needs", desc := "(I)I" } : Jvm.MethodName)) ∈ lw_all := lw_g (lw_at lw_m7 122 rfl) rfl
theorem q1641 : (Jvm.Cond.unhidden "LastHatch$Raised" "needs" "(I)I") ∈ lw_tbl := lw_at lw_m7 123 rfl
theorem q1692 : (Jvm.Cond.castable "LastHatch$Raised" "LastHatch$Takes") ∈ lw_tbl := lw_at lw_m7 174 rfl
theorem q1693 : (Jvm.Cond.selects "LastHatch$Raised" ({ cls := "LastHatch$Takes", name := "takes", desc := "(I)I" } : Jvm.MethodName) ({ cls := "LastHatch$Way", name := "takes", desc := "(I)I" } : Jvm.MethodName)) ∈ lw_all := lw_g (lw_at lw_m7 175 rfl) rfl
theorem q1694 : (Jvm.Cond.unhidden "LastHatch$Raised" "takes" "(I)I") ∈ lw_tbl := lw_at lw_m7 176 rfl
theorem q1722 : (Jvm.Cond.castable "LastHatch$Raised" "LastHatch$Risks") ∈ lw_tbl := lw_at lw_m7 204 rfl
theorem q1723 : (Jvm.Cond.selects "LastHatch$Raised" ({ cls := "LastHatch$Risks", name := "risks", desc := "(I)I" } : Jvm.MethodName) ({ cls := "LastHatch$Way", name := "risks", desc := "(I)I" } : Jvm.MethodName)) ∈ lw_all := lw_g (lw_at lw_m7 205 rfl) rfl
theorem q1724 : (Jvm.Cond.unhidden "LastHatch$Raised" "risks" "(I)I") ∈ lw_tbl := lw_at lw_m7 206 rfl
theorem q1784 : (Jvm.Cond.castable "LastHatch$Raised" "LastHatch$Tells") ∈ lw_tbl := lw_at lw_m8 26 rfl
theorem q1785 : (Jvm.Cond.selects "LastHatch$Raised" ({ cls := "LastHatch$Tells", name := "tells", desc := "(I)I" } : Jvm.MethodName) ({ cls := "LastHatch$Raised", name := "tells", desc := "(I)I" } : Jvm.MethodName)) ∈ lw_all := lw_g (lw_at lw_m8 27 rfl) rfl
theorem q1786 : (Jvm.Cond.unhidden "LastHatch$Raised" "tells" "(I)I") ∈ lw_tbl := lw_at lw_m8 28 rfl
theorem q1787 : (Jvm.Cond.instanceMethod ({ cls := "LastHatch$Raised", name := "tells", desc := "(I)I" } : Jvm.MethodName)) ∈ lw_all := lw_g (lw_at lw_m8 29 rfl) rfl
theorem q1788 : (Jvm.Cond.publicMethod ({ cls := "LastHatch$Raised", name := "tells", desc := "(I)I" } : Jvm.MethodName)) ∈ lw_tbl := lw_at lw_m8 30 rfl
theorem q1789 : (Jvm.Cond.code ({ cls := "LastHatch$Raised", name := "tells", desc := "(I)I" } : Jvm.MethodName) prog_19_method_4_code (3 : Nat) (Option.some Jvm.ClassFile.FieldType.int)) ∈ lw_all := lw_g (lw_at lw_m8 31 rfl) rfl
theorem q1790 : (Jvm.Cond.methodLink "LastHatch$Raised" (23 : Nat) ({ cls := "LastHatch$Trace", name := "begins", desc := "(I)V" } : Jvm.MethodName)) ∈ lw_all := lw_g (lw_at lw_m8 32 rfl) rfl
theorem q1791 : (Jvm.Cond.methodLink "LastHatch$Raised" (29 : Nat) ({ cls := "LastHatch$Way", name := "tells", desc := "(I)I" } : Jvm.MethodName)) ∈ lw_all := lw_g (lw_at lw_m8 33 rfl) rfl
theorem q1792 : (Jvm.Cond.methodLink "LastHatch$Raised" (33 : Nat) ({ cls := "LastHatch$Raised", name := "needs", desc := "(I)I" } : Jvm.MethodName)) ∈ lw_all := lw_g (lw_at lw_m8 34 rfl) rfl
theorem q1793 : (Jvm.Cond.sameMethod "LastHatch$Raised" "LastHatch$Way" "needs" "(I)I") ∈ lw_all := lw_g (lw_at lw_m8 35 rfl) rfl
theorem q1794 : (Jvm.Cond.selects "LastHatch$Raised" ({ cls := "LastHatch$Raised", name := "needs", desc := "(I)I" } : Jvm.MethodName) ({ cls := "LastHatch$Way", name := "needs", desc := "(I)I" } : Jvm.MethodName)) ∈ lw_all := lw_g (lw_at lw_m8 36 rfl) rfl
theorem q2495 : (Jvm.Cond.selects "LastHatch$Raised" ({ cls := "LastHatch$Way", name := "needs", desc := "(I)I" } : Jvm.MethodName) ({ cls := "LastHatch$Way", name := "needs", desc := "(I)I" } : Jvm.MethodName)) ∈ lw_all := lw_g (lw_at lw_m11 17 rfl) rfl
theorem q2505 : (Jvm.Cond.selects "LastHatch$Raised" ({ cls := "LastHatch$Way", name := "takes", desc := "(I)I" } : Jvm.MethodName) ({ cls := "LastHatch$Way", name := "takes", desc := "(I)I" } : Jvm.MethodName)) ∈ lw_all := lw_g (lw_at lw_m11 27 rfl) rfl
theorem q2513 : (Jvm.Cond.selects "LastHatch$Raised" ({ cls := "LastHatch$Way", name := "risks", desc := "(I)I" } : Jvm.MethodName) ({ cls := "LastHatch$Way", name := "risks", desc := "(I)I" } : Jvm.MethodName)) ∈ lw_all := lw_g (lw_at lw_m11 35 rfl) rfl
theorem q2523 : (Jvm.Cond.castable "LastHatch$Raised" "LastHatch$Way") ∈ lw_tbl := lw_at lw_m11 45 rfl
theorem q2554 : (Jvm.Cond.castable "LastHatch$Raised" "java/lang/Object") ∈ lw_tbl := lw_at lw_m11 76 rfl
theorem in_X23 : ∀ w ∈ wsX230, w ∈ lw_all := lw_in wsX230 [1162, 1163, 1164, 1165, 1166] (by decide +kernel) (by decide +kernel)

/-! LastHatch$Waiting -/
set_option maxRecDepth 100000
def RX24 : String := "LastHatch$Waiting"
def TX24 : u_T := fun k => match k with
  | 0 => ("LastHatch$Way", "trace", "LLastHatch$Trace;", true)
  | 1 => ("LastHatch$Way", "number", "I", true)
  | 2 => ("LastHatch$Way", "t", "I", true)
  | 3 => ("LastHatch$Way", "n", "I", true)
  | _ => ("LastHatch$Way", "risk", "I", true)
def tyX24 : Nat → FieldType := fun k => match k with
  | 0 => .object "LastHatch$Trace"
  | 1 => .int
  | 2 => .int
  | 3 => .int
  | _ => .int
abbrev wsX240 : List Cond := u_ws RX24 TX24 5
theorem nmX24 : ∀ a, a < 5 → ∀ b, b < 5 → a ≠ b → (TX24 a).2.1 ≠ (TX24 b).2.1 := by decide +kernel
theorem tyX24_ok : ∀ k, k < 5 → parseFieldDescriptor (TX24 k).2.2.1 = some (tyX24 k) := by decide +kernel
abbrev cX24_init : ByteArray := prog_34_method_1_code
def yX24_init : MethodName := ⟨RX24, "<init>", "(LLastHatch$Trace;IIII)V"⟩
def dkwX24_init_0 : List UInt8 := [42, 43, 28, 29, 21, 4, 21, 5, 183, 0, 3, 177]
abbrev dktX24_init_0 : List UInt8 := dkwX24_init_0 ++ []
theorem dksX24_init_0 : cX24_init.data.toList.drop 0 = dktX24_init_0 := by decide +kernel
theorem dX24_init_0 : decode cX24_init 0 = .ok (.aload_n 0, 1) := dk_42 (dk_at dksX24_init_0 0 rfl rfl)
theorem dX24_init_1 : decode cX24_init 1 = .ok (.aload_n 1, 1) := dk_43 (dk_at dksX24_init_0 1 rfl rfl)
theorem dX24_init_2 : decode cX24_init 2 = .ok (.iload_n 2, 1) := dk_28 (dk_at dksX24_init_0 2 rfl rfl)
theorem dX24_init_3 : decode cX24_init 3 = .ok (.iload_n 3, 1) := dk_29 (dk_at dksX24_init_0 3 rfl rfl)
theorem dX24_init_4 : decode cX24_init 4 = .ok (.iload 4, 2) := dk_21 4 (dk_at dksX24_init_0 4 rfl rfl)
theorem dX24_init_6 : decode cX24_init 6 = .ok (.iload 5, 2) := dk_21 5 (dk_at dksX24_init_0 6 rfl rfl)
theorem dX24_init_8 : decode cX24_init 8 = .ok (.invokespecial 3, 3) := dk_183 0 3 (dk_at dksX24_init_0 8 rfl rfl)
theorem dX24_init_11 : decode cX24_init 11 = .ok (.return_, 1) := dk_177 (dk_at dksX24_init_0 11 rfl rfl)
abbrev cX24_isOf : ByteArray := prog_34_method_2_code
def yX24_isOf : MethodName := ⟨RX24, "isOf", "(I)Z"⟩
def dkwX24_isOf_0 : List UInt8 := [27, 8, 159, 0, 11, 42, 27, 183, 0, 9, 153, 0, 7, 4, 167, 0, 4, 3, 172]
abbrev dktX24_isOf_0 : List UInt8 := dkwX24_isOf_0 ++ []
theorem dksX24_isOf_0 : cX24_isOf.data.toList.drop 0 = dktX24_isOf_0 := by decide +kernel
theorem dX24_isOf_0 : decode cX24_isOf 0 = .ok (.iload_n 1, 1) := dk_27 (dk_at dksX24_isOf_0 0 rfl rfl)
theorem dX24_isOf_1 : decode cX24_isOf 1 = .ok (.iconst 5, 1) := dk_8 (dk_at dksX24_isOf_0 1 rfl rfl)
theorem dX24_isOf_2 : decode cX24_isOf 2 = .ok (.if_icmp .eq 11, 3) := dk_159 0 11 (dk_at dksX24_isOf_0 2 rfl rfl)
theorem dX24_isOf_5 : decode cX24_isOf 5 = .ok (.aload_n 0, 1) := dk_42 (dk_at dksX24_isOf_0 5 rfl rfl)
theorem dX24_isOf_6 : decode cX24_isOf 6 = .ok (.iload_n 1, 1) := dk_27 (dk_at dksX24_isOf_0 6 rfl rfl)
theorem dX24_isOf_7 : decode cX24_isOf 7 = .ok (.invokespecial 9, 3) := dk_183 0 9 (dk_at dksX24_isOf_0 7 rfl rfl)
theorem dX24_isOf_10 : decode cX24_isOf 10 = .ok (.ifCond .eq 7, 3) := dk_153 0 7 (dk_at dksX24_isOf_0 10 rfl rfl)
theorem dX24_isOf_13 : decode cX24_isOf 13 = .ok (.iconst 1, 1) := dk_4 (dk_at dksX24_isOf_0 13 rfl rfl)
theorem dX24_isOf_14 : decode cX24_isOf 14 = .ok (.goto 4, 3) := dk_167 0 4 (dk_at dksX24_isOf_0 14 rfl rfl)
theorem dX24_isOf_17 : decode cX24_isOf 17 = .ok (.iconst 0, 1) := dk_3 (dk_at dksX24_isOf_0 17 rfl rfl)
theorem dX24_isOf_18 : decode cX24_isOf 18 = .ok (.ireturn, 1) := dk_172 (dk_at dksX24_isOf_0 18 rfl rfl)
abbrev cX24_needs : ByteArray := prog_34_method_3_code
def yX24_needs : MethodName := ⟨RX24, "needs", "(I)I"⟩
def dkwX24_needs_0 : List UInt8 := [42, 180, 0, 13, 16, 60, 182, 0, 19, 42, 27, 183, 0, 25, 116, 172]
abbrev dktX24_needs_0 : List UInt8 := dkwX24_needs_0 ++ []
theorem dksX24_needs_0 : cX24_needs.data.toList.drop 0 = dktX24_needs_0 := by decide +kernel
theorem dX24_needs_0 : decode cX24_needs 0 = .ok (.aload_n 0, 1) := dk_42 (dk_at dksX24_needs_0 0 rfl rfl)
theorem dX24_needs_1 : decode cX24_needs 1 = .ok (.getfield 13, 3) := dk_180 0 13 (dk_at dksX24_needs_0 1 rfl rfl)
theorem dX24_needs_4 : decode cX24_needs 4 = .ok (.bipush 60, 2) := dk_16 60 (dk_at dksX24_needs_0 4 rfl rfl)
theorem dX24_needs_6 : decode cX24_needs 6 = .ok (.invokevirtual 19, 3) := dk_182 0 19 (dk_at dksX24_needs_0 6 rfl rfl)
theorem dX24_needs_9 : decode cX24_needs 9 = .ok (.aload_n 0, 1) := dk_42 (dk_at dksX24_needs_0 9 rfl rfl)
theorem dX24_needs_10 : decode cX24_needs 10 = .ok (.iload_n 1, 1) := dk_27 (dk_at dksX24_needs_0 10 rfl rfl)
theorem dX24_needs_11 : decode cX24_needs 11 = .ok (.invokespecial 25, 3) := dk_183 0 25 (dk_at dksX24_needs_0 11 rfl rfl)
theorem dX24_needs_14 : decode cX24_needs 14 = .ok (.ineg, 1) := dk_116 (dk_at dksX24_needs_0 14 rfl rfl)
theorem dX24_needs_15 : decode cX24_needs 15 = .ok (.ireturn, 1) := dk_172 (dk_at dksX24_needs_0 15 rfl rfl)
abbrev cX24_risks : ByteArray := prog_34_method_4_code
def yX24_risks : MethodName := ⟨RX24, "risks", "(I)I"⟩
def dkwX24_risks_0 : List UInt8 := [42, 180, 0, 13, 16, 61, 182, 0, 19, 42, 27, 183, 0, 29, 42, 180, 0, 32, 96, 172]
abbrev dktX24_risks_0 : List UInt8 := dkwX24_risks_0 ++ []
theorem dksX24_risks_0 : cX24_risks.data.toList.drop 0 = dktX24_risks_0 := by decide +kernel
theorem dX24_risks_0 : decode cX24_risks 0 = .ok (.aload_n 0, 1) := dk_42 (dk_at dksX24_risks_0 0 rfl rfl)
theorem dX24_risks_1 : decode cX24_risks 1 = .ok (.getfield 13, 3) := dk_180 0 13 (dk_at dksX24_risks_0 1 rfl rfl)
theorem dX24_risks_4 : decode cX24_risks 4 = .ok (.bipush 61, 2) := dk_16 61 (dk_at dksX24_risks_0 4 rfl rfl)
theorem dX24_risks_6 : decode cX24_risks 6 = .ok (.invokevirtual 19, 3) := dk_182 0 19 (dk_at dksX24_risks_0 6 rfl rfl)
theorem dX24_risks_9 : decode cX24_risks 9 = .ok (.aload_n 0, 1) := dk_42 (dk_at dksX24_risks_0 9 rfl rfl)
theorem dX24_risks_10 : decode cX24_risks 10 = .ok (.iload_n 1, 1) := dk_27 (dk_at dksX24_risks_0 10 rfl rfl)
theorem dX24_risks_11 : decode cX24_risks 11 = .ok (.invokespecial 29, 3) := dk_183 0 29 (dk_at dksX24_risks_0 11 rfl rfl)
theorem dX24_risks_14 : decode cX24_risks 14 = .ok (.aload_n 0, 1) := dk_42 (dk_at dksX24_risks_0 14 rfl rfl)
theorem dX24_risks_15 : decode cX24_risks 15 = .ok (.getfield 32, 3) := dk_180 0 32 (dk_at dksX24_risks_0 15 rfl rfl)
theorem dX24_risks_18 : decode cX24_risks 18 = .ok (.iadd, 1) := dk_96 (dk_at dksX24_risks_0 18 rfl rfl)
theorem dX24_risks_19 : decode cX24_risks 19 = .ok (.ireturn, 1) := dk_172 (dk_at dksX24_risks_0 19 rfl rfl)
theorem q120 : (Jvm.Cond.initialized "LastHatch$Waiting") ∈ lw_all := lw_g (lw_at lw_m1 42 rfl) rfl
theorem q618 : (Jvm.Cond.selects "LastHatch$Waiting" ({ cls := "java/lang/Object", name := "getClass", desc := "()Ljava/lang/Class;" } : Jvm.MethodName) ({ cls := "java/lang/Object", name := "getClass", desc := "()Ljava/lang/Class;" } : Jvm.MethodName)) ∈ lw_all := lw_g (lw_at lw_m3 60 rfl) rfl
theorem q1088 : (Jvm.Cond.fieldLink "LastHatch$Waiting" (13 : Nat) "LastHatch$Waiting" "trace" "LLastHatch$Trace;") ∈ lw_all := lw_g (lw_at lw_m5 50 rfl) rfl
theorem q1089 : (Jvm.Cond.sameField "LastHatch$Waiting" "LastHatch$Way" "trace" "LLastHatch$Trace;") ∈ lw_all := lw_g (lw_at lw_m5 51 rfl) rfl
theorem q1103 : (Jvm.Cond.fieldLink "LastHatch$Waiting" (32 : Nat) "LastHatch$Waiting" "number" "I") ∈ lw_all := lw_g (lw_at lw_m5 65 rfl) rfl
theorem q1104 : (Jvm.Cond.sameField "LastHatch$Waiting" "LastHatch$Way" "number" "I") ∈ lw_all := lw_g (lw_at lw_m5 66 rfl) rfl
theorem q1169 : (Jvm.Cond.instantiable "LastHatch$Waiting" (5 : Nat)) ∈ lw_all := lw_g (lw_at lw_m5 131 rfl) rfl
theorem q1171 : (Jvm.Cond.instanceMethod ({ cls := "LastHatch$Waiting", name := "<init>", desc := "(LLastHatch$Trace;IIII)V" } : Jvm.MethodName)) ∈ lw_all := lw_g (lw_at lw_m5 133 rfl) rfl
theorem q1172 : (Jvm.Cond.code ({ cls := "LastHatch$Waiting", name := "<init>", desc := "(LLastHatch$Trace;IIII)V" } : Jvm.MethodName) prog_34_method_1_code (6 : Nat) (Option.none : Option Jvm.ClassFile.FieldType)) ∈ lw_all := lw_g (lw_at lw_m5 134 rfl) rfl
theorem q1173 : (Jvm.Cond.methodLink "LastHatch$Waiting" (3 : Nat) ({ cls := "LastHatch$Way", name := "<init>", desc := "(LLastHatch$Trace;IIII)V" } : Jvm.MethodName)) ∈ lw_all := lw_g (lw_at lw_m5 135 rfl) rfl
theorem q1174 : (Jvm.Cond.laysFinal "LastHatch$Waiting" "LastHatch$Way" "trace" "LLastHatch$Trace;") ∈ lw_all := lw_g (lw_at lw_m5 136 rfl) rfl
theorem q1175 : (Jvm.Cond.laysFinal "LastHatch$Waiting" "LastHatch$Way" "number" "I") ∈ lw_all := lw_g (lw_at lw_m5 137 rfl) rfl
theorem q1176 : (Jvm.Cond.laysFinal "LastHatch$Waiting" "LastHatch$Way" "t" "I") ∈ lw_all := lw_g (lw_at lw_m5 138 rfl) rfl
theorem q1177 : (Jvm.Cond.laysFinal "LastHatch$Waiting" "LastHatch$Way" "n" "I") ∈ lw_all := lw_g (lw_at lw_m5 139 rfl) rfl
theorem q1178 : (Jvm.Cond.laysFinal "LastHatch$Waiting" "LastHatch$Way" "risk" "I") ∈ lw_all := lw_g (lw_at lw_m5 140 rfl) rfl
theorem q1179 : (Jvm.Cond.superclass "LastHatch$Waiting" "LastHatch$Way") ∈ lw_all := lw_g (lw_at lw_m5 141 rfl) rfl
theorem q1250 : (Jvm.Cond.instanceMethod ({ cls := "LastHatch$Waiting", name := "isOf", desc := "(I)Z" } : Jvm.MethodName)) ∈ lw_all := lw_g (lw_at lw_m5 212 rfl) rfl
theorem q1251 : (Jvm.Cond.code ({ cls := "LastHatch$Waiting", name := "isOf", desc := "(I)Z" } : Jvm.MethodName) prog_34_method_2_code (2 : Nat) (Option.some Jvm.ClassFile.FieldType.boolean)) ∈ lw_all := lw_g (lw_at lw_m5 213 rfl) rfl
theorem q1252 : (Jvm.Cond.methodLink "LastHatch$Waiting" (9 : Nat) ({ cls := "LastHatch$Way", name := "isOf", desc := "(I)Z" } : Jvm.MethodName)) ∈ lw_all := lw_g (lw_at lw_m5 214 rfl) rfl
theorem q1253 : (Jvm.Cond.selects "LastHatch$Waiting" ({ cls := "LastHatch$Way", name := "isOf", desc := "(I)Z" } : Jvm.MethodName) ({ cls := "LastHatch$Waiting", name := "isOf", desc := "(I)Z" } : Jvm.MethodName)) ∈ lw_all := lw_g (lw_at lw_m5 215 rfl) rfl
theorem q1301 : (Jvm.Cond.sameMethod "LastHatch$Waiting" "LastHatch$Way" "out" "(IILLastHatch$Divers;)I") ∈ lw_all := lw_g (lw_at lw_m6 23 rfl) rfl
theorem q1303 : (Jvm.Cond.selects "LastHatch$Waiting" ({ cls := "LastHatch$Way", name := "out", desc := "(IILLastHatch$Divers;)I" } : Jvm.MethodName) ({ cls := "LastHatch$Way", name := "out", desc := "(IILLastHatch$Divers;)I" } : Jvm.MethodName)) ∈ lw_all := lw_g (lw_at lw_m6 25 rfl) rfl
theorem q1648 : (Jvm.Cond.instanceMethod ({ cls := "LastHatch$Waiting", name := "needs", desc := "(I)I" } : Jvm.MethodName)) ∈ lw_all := lw_g (lw_at lw_m7 130 rfl) rfl
theorem q1649 : (Jvm.Cond.publicMethod ({ cls := "LastHatch$Waiting", name := "needs", desc := "(I)I" } : Jvm.MethodName)) ∈ lw_tbl := lw_at lw_m7 131 rfl
theorem q1650 : (Jvm.Cond.code ({ cls := "LastHatch$Waiting", name := "needs", desc := "(I)I" } : Jvm.MethodName) prog_34_method_3_code (2 : Nat) (Option.some Jvm.ClassFile.FieldType.int)) ∈ lw_all := lw_g (lw_at lw_m7 132 rfl) rfl
theorem q1651 : (Jvm.Cond.methodLink "LastHatch$Waiting" (19 : Nat) ({ cls := "LastHatch$Trace", name := "begins", desc := "(I)V" } : Jvm.MethodName)) ∈ lw_all := lw_g (lw_at lw_m7 133 rfl) rfl
theorem q1652 : (Jvm.Cond.methodLink "LastHatch$Waiting" (25 : Nat) ({ cls := "LastHatch$Way", name := "needs", desc := "(I)I" } : Jvm.MethodName)) ∈ lw_all := lw_g (lw_at lw_m7 134 rfl) rfl
theorem q1653 : (Jvm.Cond.castable "LastHatch$Waiting" "LastHatch$Needs") ∈ lw_tbl := lw_at lw_m7 135 rfl
theorem q1654 : (Jvm.Cond.selects "LastHatch$Waiting" ({ cls := "LastHatch$Needs", name := "needs", desc := "(I)I" } : Jvm.MethodName) ({ cls := "LastHatch$Waiting", name := "needs", desc := "(I)I" } : Jvm.MethodName)) ∈ lw_all := lw_g (lw_at lw_m7 136 rfl) rfl
theorem q1655 : (Jvm.Cond.unhidden "LastHatch$Waiting" "needs" "(I)I") ∈ lw_tbl := lw_at lw_m7 137 rfl
theorem q1702 : (Jvm.Cond.castable "LastHatch$Waiting" "LastHatch$Takes") ∈ lw_tbl := lw_at lw_m7 184 rfl
theorem q1703 : (Jvm.Cond.selects "LastHatch$Waiting" ({ cls := "LastHatch$Takes", name := "takes", desc := "(I)I" } : Jvm.MethodName) ({ cls := "LastHatch$Way", name := "takes", desc := "(I)I" } : Jvm.MethodName)) ∈ lw_all := lw_g (lw_at lw_m7 185 rfl) rfl
theorem q1704 : (Jvm.Cond.unhidden "LastHatch$Waiting" "takes" "(I)I") ∈ lw_tbl := lw_at lw_m7 186 rfl
theorem q1741 : (Jvm.Cond.instanceMethod ({ cls := "LastHatch$Waiting", name := "risks", desc := "(I)I" } : Jvm.MethodName)) ∈ lw_all := lw_g (lw_at lw_m7 223 rfl) rfl
theorem q1742 : (Jvm.Cond.code ({ cls := "LastHatch$Waiting", name := "risks", desc := "(I)I" } : Jvm.MethodName) prog_34_method_4_code (2 : Nat) (Option.some Jvm.ClassFile.FieldType.int)) ∈ lw_all := lw_g (lw_at lw_m7 224 rfl) rfl
theorem q1743 : (Jvm.Cond.methodLink "LastHatch$Waiting" (29 : Nat) ({ cls := "LastHatch$Way", name := "risks", desc := "(I)I" } : Jvm.MethodName)) ∈ lw_all := lw_g (lw_at lw_m7 225 rfl) rfl
theorem q1746 : (Jvm.Cond.declares ({ cls := "LastHatch$Waiting", name := "needs", desc := "(I)I" } : Jvm.MethodName)) ∈ lw_tbl := lw_at lw_m7 228 rfl
theorem q1748 : (Jvm.Cond.castable "LastHatch$Waiting" "LastHatch$Risks") ∈ lw_tbl := lw_at lw_m7 230 rfl
theorem q1749 : (Jvm.Cond.selects "LastHatch$Waiting" ({ cls := "LastHatch$Risks", name := "risks", desc := "(I)I" } : Jvm.MethodName) ({ cls := "LastHatch$Waiting", name := "risks", desc := "(I)I" } : Jvm.MethodName)) ∈ lw_all := lw_g (lw_at lw_m7 231 rfl) rfl
theorem q1750 : (Jvm.Cond.unhidden "LastHatch$Waiting" "risks" "(I)I") ∈ lw_tbl := lw_at lw_m7 232 rfl
theorem q1751 : (Jvm.Cond.publicMethod ({ cls := "LastHatch$Waiting", name := "risks", desc := "(I)I" } : Jvm.MethodName)) ∈ lw_tbl := lw_at lw_m7 233 rfl
theorem q1801 : (Jvm.Cond.castable "LastHatch$Waiting" "LastHatch$Tells") ∈ lw_tbl := lw_at lw_m8 43 rfl
theorem q1802 : (Jvm.Cond.selects "LastHatch$Waiting" ({ cls := "LastHatch$Tells", name := "tells", desc := "(I)I" } : Jvm.MethodName) ({ cls := "LastHatch$Way", name := "tells", desc := "(I)I" } : Jvm.MethodName)) ∈ lw_all := lw_g (lw_at lw_m8 44 rfl) rfl
theorem q1803 : (Jvm.Cond.unhidden "LastHatch$Waiting" "tells" "(I)I") ∈ lw_tbl := lw_at lw_m8 45 rfl
theorem q2487 : (Jvm.Cond.sameMethod "LastHatch$Waiting" "LastHatch$Waiting" "isOf" "(I)Z") ∈ lw_all := lw_g (lw_at lw_m11 9 rfl) rfl
theorem q2498 : (Jvm.Cond.selects "LastHatch$Waiting" ({ cls := "LastHatch$Way", name := "needs", desc := "(I)I" } : Jvm.MethodName) ({ cls := "LastHatch$Waiting", name := "needs", desc := "(I)I" } : Jvm.MethodName)) ∈ lw_all := lw_g (lw_at lw_m11 20 rfl) rfl
theorem q2501 : (Jvm.Cond.sameMethod "LastHatch$Waiting" "LastHatch$Waiting" "risks" "(I)I") ∈ lw_all := lw_g (lw_at lw_m11 23 rfl) rfl
theorem q2508 : (Jvm.Cond.selects "LastHatch$Waiting" ({ cls := "LastHatch$Way", name := "takes", desc := "(I)I" } : Jvm.MethodName) ({ cls := "LastHatch$Way", name := "takes", desc := "(I)I" } : Jvm.MethodName)) ∈ lw_all := lw_g (lw_at lw_m11 30 rfl) rfl
theorem q2516 : (Jvm.Cond.selects "LastHatch$Waiting" ({ cls := "LastHatch$Way", name := "risks", desc := "(I)I" } : Jvm.MethodName) ({ cls := "LastHatch$Waiting", name := "risks", desc := "(I)I" } : Jvm.MethodName)) ∈ lw_all := lw_g (lw_at lw_m11 38 rfl) rfl
theorem q2526 : (Jvm.Cond.castable "LastHatch$Waiting" "LastHatch$Way") ∈ lw_tbl := lw_at lw_m11 48 rfl
theorem q2555 : (Jvm.Cond.castable "LastHatch$Waiting" "java/lang/Object") ∈ lw_tbl := lw_at lw_m11 77 rfl
theorem in_X24 : ∀ w ∈ wsX240, w ∈ lw_all := lw_in wsX240 [1174, 1175, 1176, 1177, 1178] (by decide +kernel) (by decide +kernel)

/-! LastHatch$Lost -/
set_option maxRecDepth 100000
def RX25 : String := "LastHatch$Lost"
def TX25 : u_T := fun k => match k with
  | 0 => ("LastHatch$Way", "trace", "LLastHatch$Trace;", true)
  | 1 => ("LastHatch$Way", "number", "I", true)
  | 2 => ("LastHatch$Way", "t", "I", true)
  | 3 => ("LastHatch$Way", "n", "I", true)
  | _ => ("LastHatch$Way", "risk", "I", true)
def tyX25 : Nat → FieldType := fun k => match k with
  | 0 => .object "LastHatch$Trace"
  | 1 => .int
  | 2 => .int
  | 3 => .int
  | _ => .int
abbrev wsX250 : List Cond := u_ws RX25 TX25 5
theorem nmX25 : ∀ a, a < 5 → ∀ b, b < 5 → a ≠ b → (TX25 a).2.1 ≠ (TX25 b).2.1 := by decide +kernel
theorem tyX25_ok : ∀ k, k < 5 → parseFieldDescriptor (TX25 k).2.2.1 = some (tyX25 k) := by decide +kernel
abbrev cX25_init : ByteArray := prog_15_method_1_code
def yX25_init : MethodName := ⟨RX25, "<init>", "(LLastHatch$Trace;IIII)V"⟩
def dkwX25_init_0 : List UInt8 := [42, 43, 28, 29, 21, 4, 21, 5, 183, 0, 3, 177]
abbrev dktX25_init_0 : List UInt8 := dkwX25_init_0 ++ []
theorem dksX25_init_0 : cX25_init.data.toList.drop 0 = dktX25_init_0 := by decide +kernel
theorem dX25_init_0 : decode cX25_init 0 = .ok (.aload_n 0, 1) := dk_42 (dk_at dksX25_init_0 0 rfl rfl)
theorem dX25_init_1 : decode cX25_init 1 = .ok (.aload_n 1, 1) := dk_43 (dk_at dksX25_init_0 1 rfl rfl)
theorem dX25_init_2 : decode cX25_init 2 = .ok (.iload_n 2, 1) := dk_28 (dk_at dksX25_init_0 2 rfl rfl)
theorem dX25_init_3 : decode cX25_init 3 = .ok (.iload_n 3, 1) := dk_29 (dk_at dksX25_init_0 3 rfl rfl)
theorem dX25_init_4 : decode cX25_init 4 = .ok (.iload 4, 2) := dk_21 4 (dk_at dksX25_init_0 4 rfl rfl)
theorem dX25_init_6 : decode cX25_init 6 = .ok (.iload 5, 2) := dk_21 5 (dk_at dksX25_init_0 6 rfl rfl)
theorem dX25_init_8 : decode cX25_init 8 = .ok (.invokespecial 3, 3) := dk_183 0 3 (dk_at dksX25_init_0 8 rfl rfl)
theorem dX25_init_11 : decode cX25_init 11 = .ok (.return_, 1) := dk_177 (dk_at dksX25_init_0 11 rfl rfl)
abbrev cX25_isOf : ByteArray := prog_15_method_2_code
def yX25_isOf : MethodName := ⟨RX25, "isOf", "(I)Z"⟩
def dkwX25_isOf_0 : List UInt8 := [27, 16, 6, 159, 0, 11, 42, 27, 183, 0, 9, 153, 0, 7, 4, 167, 0, 4, 3, 172]
abbrev dktX25_isOf_0 : List UInt8 := dkwX25_isOf_0 ++ []
theorem dksX25_isOf_0 : cX25_isOf.data.toList.drop 0 = dktX25_isOf_0 := by decide +kernel
theorem dX25_isOf_0 : decode cX25_isOf 0 = .ok (.iload_n 1, 1) := dk_27 (dk_at dksX25_isOf_0 0 rfl rfl)
theorem dX25_isOf_1 : decode cX25_isOf 1 = .ok (.bipush 6, 2) := dk_16 6 (dk_at dksX25_isOf_0 1 rfl rfl)
theorem dX25_isOf_3 : decode cX25_isOf 3 = .ok (.if_icmp .eq 11, 3) := dk_159 0 11 (dk_at dksX25_isOf_0 3 rfl rfl)
theorem dX25_isOf_6 : decode cX25_isOf 6 = .ok (.aload_n 0, 1) := dk_42 (dk_at dksX25_isOf_0 6 rfl rfl)
theorem dX25_isOf_7 : decode cX25_isOf 7 = .ok (.iload_n 1, 1) := dk_27 (dk_at dksX25_isOf_0 7 rfl rfl)
theorem dX25_isOf_8 : decode cX25_isOf 8 = .ok (.invokespecial 9, 3) := dk_183 0 9 (dk_at dksX25_isOf_0 8 rfl rfl)
theorem dX25_isOf_11 : decode cX25_isOf 11 = .ok (.ifCond .eq 7, 3) := dk_153 0 7 (dk_at dksX25_isOf_0 11 rfl rfl)
theorem dX25_isOf_14 : decode cX25_isOf 14 = .ok (.iconst 1, 1) := dk_4 (dk_at dksX25_isOf_0 14 rfl rfl)
theorem dX25_isOf_15 : decode cX25_isOf 15 = .ok (.goto 4, 3) := dk_167 0 4 (dk_at dksX25_isOf_0 15 rfl rfl)
theorem dX25_isOf_18 : decode cX25_isOf 18 = .ok (.iconst 0, 1) := dk_3 (dk_at dksX25_isOf_0 18 rfl rfl)
theorem dX25_isOf_19 : decode cX25_isOf 19 = .ok (.ireturn, 1) := dk_172 (dk_at dksX25_isOf_0 19 rfl rfl)
abbrev cX25_out : ByteArray := prog_15_method_3_code
def yX25_out : MethodName := ⟨RX25, "out", "(IILLastHatch$Divers;)I"⟩
def dkwX25_out_0 : List UInt8 := [3, 42, 27, 28, 45, 183, 0, 13, 4, 100, 184, 0, 17, 172]
abbrev dktX25_out_0 : List UInt8 := dkwX25_out_0 ++ []
theorem dksX25_out_0 : cX25_out.data.toList.drop 0 = dktX25_out_0 := by decide +kernel
theorem dX25_out_0 : decode cX25_out 0 = .ok (.iconst 0, 1) := dk_3 (dk_at dksX25_out_0 0 rfl rfl)
theorem dX25_out_1 : decode cX25_out 1 = .ok (.aload_n 0, 1) := dk_42 (dk_at dksX25_out_0 1 rfl rfl)
theorem dX25_out_2 : decode cX25_out 2 = .ok (.iload_n 1, 1) := dk_27 (dk_at dksX25_out_0 2 rfl rfl)
theorem dX25_out_3 : decode cX25_out 3 = .ok (.iload_n 2, 1) := dk_28 (dk_at dksX25_out_0 3 rfl rfl)
theorem dX25_out_4 : decode cX25_out 4 = .ok (.aload_n 3, 1) := dk_45 (dk_at dksX25_out_0 4 rfl rfl)
theorem dX25_out_5 : decode cX25_out 5 = .ok (.invokespecial 13, 3) := dk_183 0 13 (dk_at dksX25_out_0 5 rfl rfl)
theorem dX25_out_8 : decode cX25_out 8 = .ok (.iconst 1, 1) := dk_4 (dk_at dksX25_out_0 8 rfl rfl)
theorem dX25_out_9 : decode cX25_out 9 = .ok (.isub, 1) := dk_100 (dk_at dksX25_out_0 9 rfl rfl)
theorem dX25_out_10 : decode cX25_out 10 = .ok (.invokestatic 17, 3) := dk_184 0 17 (dk_at dksX25_out_0 10 rfl rfl)
theorem dX25_out_13 : decode cX25_out 13 = .ok (.ireturn, 1) := dk_172 (dk_at dksX25_out_0 13 rfl rfl)
abbrev cX25_tells : ByteArray := prog_15_method_4_code
def yX25_tells : MethodName := ⟨RX25, "tells", "(I)I"⟩
def dkwX25_tells_0 : List UInt8 := [42, 180, 0, 23, 16, 70, 182, 0, 29, 42, 27, 182, 0, 35, 61, 28, 42, 27, 183, 0, 39, 100, 172]
abbrev dktX25_tells_0 : List UInt8 := dkwX25_tells_0 ++ []
theorem dksX25_tells_0 : cX25_tells.data.toList.drop 0 = dktX25_tells_0 := by decide +kernel
theorem dX25_tells_0 : decode cX25_tells 0 = .ok (.aload_n 0, 1) := dk_42 (dk_at dksX25_tells_0 0 rfl rfl)
theorem dX25_tells_1 : decode cX25_tells 1 = .ok (.getfield 23, 3) := dk_180 0 23 (dk_at dksX25_tells_0 1 rfl rfl)
theorem dX25_tells_4 : decode cX25_tells 4 = .ok (.bipush 70, 2) := dk_16 70 (dk_at dksX25_tells_0 4 rfl rfl)
theorem dX25_tells_6 : decode cX25_tells 6 = .ok (.invokevirtual 29, 3) := dk_182 0 29 (dk_at dksX25_tells_0 6 rfl rfl)
theorem dX25_tells_9 : decode cX25_tells 9 = .ok (.aload_n 0, 1) := dk_42 (dk_at dksX25_tells_0 9 rfl rfl)
theorem dX25_tells_10 : decode cX25_tells 10 = .ok (.iload_n 1, 1) := dk_27 (dk_at dksX25_tells_0 10 rfl rfl)
theorem dX25_tells_11 : decode cX25_tells 11 = .ok (.invokevirtual 35, 3) := dk_182 0 35 (dk_at dksX25_tells_0 11 rfl rfl)
theorem dX25_tells_14 : decode cX25_tells 14 = .ok (.istore_n 2, 1) := dk_61 (dk_at dksX25_tells_0 14 rfl rfl)
theorem dX25_tells_15 : decode cX25_tells 15 = .ok (.iload_n 2, 1) := dk_28 (dk_at dksX25_tells_0 15 rfl rfl)
theorem dX25_tells_16 : decode cX25_tells 16 = .ok (.aload_n 0, 1) := dk_42 (dk_at dksX25_tells_0 16 rfl rfl)
theorem dX25_tells_17 : decode cX25_tells 17 = .ok (.iload_n 1, 1) := dk_27 (dk_at dksX25_tells_0 17 rfl rfl)
theorem dX25_tells_18 : decode cX25_tells 18 = .ok (.invokespecial 39, 3) := dk_183 0 39 (dk_at dksX25_tells_0 18 rfl rfl)
theorem dX25_tells_21 : decode cX25_tells 21 = .ok (.isub, 1) := dk_100 (dk_at dksX25_tells_0 21 rfl rfl)
theorem dX25_tells_22 : decode cX25_tells 22 = .ok (.ireturn, 1) := dk_172 (dk_at dksX25_tells_0 22 rfl rfl)
theorem q121 : (Jvm.Cond.initialized "LastHatch$Lost") ∈ lw_all := lw_g (lw_at lw_m1 43 rfl) rfl
theorem q605 : (Jvm.Cond.selects "LastHatch$Lost" ({ cls := "java/lang/Object", name := "getClass", desc := "()Ljava/lang/Class;" } : Jvm.MethodName) ({ cls := "java/lang/Object", name := "getClass", desc := "()Ljava/lang/Class;" } : Jvm.MethodName)) ∈ lw_all := lw_g (lw_at lw_m3 47 rfl) rfl
theorem q1098 : (Jvm.Cond.fieldLink "LastHatch$Lost" (23 : Nat) "LastHatch$Lost" "trace" "LLastHatch$Trace;") ∈ lw_all := lw_g (lw_at lw_m5 60 rfl) rfl
theorem q1099 : (Jvm.Cond.sameField "LastHatch$Lost" "LastHatch$Way" "trace" "LLastHatch$Trace;") ∈ lw_all := lw_g (lw_at lw_m5 61 rfl) rfl
theorem q1181 : (Jvm.Cond.instantiable "LastHatch$Lost" (5 : Nat)) ∈ lw_all := lw_g (lw_at lw_m5 143 rfl) rfl
theorem q1183 : (Jvm.Cond.instanceMethod ({ cls := "LastHatch$Lost", name := "<init>", desc := "(LLastHatch$Trace;IIII)V" } : Jvm.MethodName)) ∈ lw_all := lw_g (lw_at lw_m5 145 rfl) rfl
theorem q1184 : (Jvm.Cond.code ({ cls := "LastHatch$Lost", name := "<init>", desc := "(LLastHatch$Trace;IIII)V" } : Jvm.MethodName) prog_15_method_1_code (6 : Nat) (Option.none : Option Jvm.ClassFile.FieldType)) ∈ lw_all := lw_g (lw_at lw_m5 146 rfl) rfl
theorem q1185 : (Jvm.Cond.methodLink "LastHatch$Lost" (3 : Nat) ({ cls := "LastHatch$Lock", name := "<init>", desc := "(LLastHatch$Trace;IIII)V" } : Jvm.MethodName)) ∈ lw_all := lw_g (lw_at lw_m5 147 rfl) rfl
theorem q1186 : (Jvm.Cond.laysFinal "LastHatch$Lost" "LastHatch$Way" "trace" "LLastHatch$Trace;") ∈ lw_all := lw_g (lw_at lw_m5 148 rfl) rfl
theorem q1187 : (Jvm.Cond.laysFinal "LastHatch$Lost" "LastHatch$Way" "number" "I") ∈ lw_all := lw_g (lw_at lw_m5 149 rfl) rfl
theorem q1188 : (Jvm.Cond.laysFinal "LastHatch$Lost" "LastHatch$Way" "t" "I") ∈ lw_all := lw_g (lw_at lw_m5 150 rfl) rfl
theorem q1189 : (Jvm.Cond.laysFinal "LastHatch$Lost" "LastHatch$Way" "n" "I") ∈ lw_all := lw_g (lw_at lw_m5 151 rfl) rfl
theorem q1190 : (Jvm.Cond.laysFinal "LastHatch$Lost" "LastHatch$Way" "risk" "I") ∈ lw_all := lw_g (lw_at lw_m5 152 rfl) rfl
theorem q1191 : (Jvm.Cond.superclass "LastHatch$Lost" "LastHatch$Lock") ∈ lw_all := lw_g (lw_at lw_m5 153 rfl) rfl
theorem q1234 : (Jvm.Cond.selects "LastHatch$Lost" ({ cls := "LastHatch$Way", name := "isOf", desc := "(I)Z" } : Jvm.MethodName) ({ cls := "LastHatch$Lost", name := "isOf", desc := "(I)Z" } : Jvm.MethodName)) ∈ lw_all := lw_g (lw_at lw_m5 196 rfl) rfl
theorem q1235 : (Jvm.Cond.instanceMethod ({ cls := "LastHatch$Lost", name := "isOf", desc := "(I)Z" } : Jvm.MethodName)) ∈ lw_all := lw_g (lw_at lw_m5 197 rfl) rfl
theorem q1236 : (Jvm.Cond.code ({ cls := "LastHatch$Lost", name := "isOf", desc := "(I)Z" } : Jvm.MethodName) prog_15_method_2_code (2 : Nat) (Option.some Jvm.ClassFile.FieldType.boolean)) ∈ lw_all := lw_g (lw_at lw_m5 198 rfl) rfl
theorem q1237 : (Jvm.Cond.methodLink "LastHatch$Lost" (9 : Nat) ({ cls := "LastHatch$Lock", name := "isOf", desc := "(I)Z" } : Jvm.MethodName)) ∈ lw_all := lw_g (lw_at lw_m5 199 rfl) rfl
theorem q1284 : (Jvm.Cond.selects "LastHatch$Lost" ({ cls := "LastHatch$Way", name := "out", desc := "(IILLastHatch$Divers;)I" } : Jvm.MethodName) ({ cls := "LastHatch$Lost", name := "out", desc := "(IILLastHatch$Divers;)I" } : Jvm.MethodName)) ∈ lw_all := lw_g (lw_at lw_m6 6 rfl) rfl
theorem q1285 : (Jvm.Cond.instanceMethod ({ cls := "LastHatch$Lost", name := "out", desc := "(IILLastHatch$Divers;)I" } : Jvm.MethodName)) ∈ lw_all := lw_g (lw_at lw_m6 7 rfl) rfl
theorem q1286 : (Jvm.Cond.code ({ cls := "LastHatch$Lost", name := "out", desc := "(IILLastHatch$Divers;)I" } : Jvm.MethodName) prog_15_method_3_code (4 : Nat) (Option.some Jvm.ClassFile.FieldType.int)) ∈ lw_all := lw_g (lw_at lw_m6 8 rfl) rfl
theorem q1287 : (Jvm.Cond.methodLink "LastHatch$Lost" (13 : Nat) ({ cls := "LastHatch$Lock", name := "out", desc := "(IILLastHatch$Divers;)I" } : Jvm.MethodName)) ∈ lw_all := lw_g (lw_at lw_m6 9 rfl) rfl
theorem q1288 : (Jvm.Cond.methodLink "LastHatch$Lost" (17 : Nat) ({ cls := "java/lang/Math", name := "max", desc := "(II)I" } : Jvm.MethodName)) ∈ lw_all := lw_g (lw_at lw_m6 10 rfl) rfl
theorem q1636 : (Jvm.Cond.castable "LastHatch$Lost" "LastHatch$Needs") ∈ lw_tbl := lw_at lw_m7 118 rfl
theorem q1637 : (Jvm.Cond.selects "LastHatch$Lost" ({ cls := "LastHatch$Needs", name := "needs", desc := "(I)I" } : Jvm.MethodName) ({ cls := "LastHatch$Way", name := "needs", desc := "(I)I" } : Jvm.MethodName)) ∈ lw_all := lw_g (lw_at lw_m7 119 rfl) rfl
theorem q1638 : (Jvm.Cond.unhidden "LastHatch$Lost" "needs" "(I)I") ∈ lw_tbl := lw_at lw_m7 120 rfl
theorem q1682 : (Jvm.Cond.selects "LastHatch$Lost" ({ cls := "LastHatch$Lock", name := "risks", desc := "(I)I" } : Jvm.MethodName) ({ cls := "LastHatch$Way", name := "risks", desc := "(I)I" } : Jvm.MethodName)) ∈ lw_all := lw_g (lw_at lw_m7 164 rfl) rfl
theorem q1689 : (Jvm.Cond.castable "LastHatch$Lost" "LastHatch$Takes") ∈ lw_tbl := lw_at lw_m7 171 rfl
theorem q1690 : (Jvm.Cond.selects "LastHatch$Lost" ({ cls := "LastHatch$Takes", name := "takes", desc := "(I)I" } : Jvm.MethodName) ({ cls := "LastHatch$Lock", name := "takes", desc := "(I)I" } : Jvm.MethodName)) ∈ lw_all := lw_g (lw_at lw_m7 172 rfl) rfl
theorem q1691 : (Jvm.Cond.unhidden "LastHatch$Lost" "takes" "(I)I") ∈ lw_tbl := lw_at lw_m7 173 rfl
theorem q1719 : (Jvm.Cond.castable "LastHatch$Lost" "LastHatch$Risks") ∈ lw_tbl := lw_at lw_m7 201 rfl
theorem q1720 : (Jvm.Cond.selects "LastHatch$Lost" ({ cls := "LastHatch$Risks", name := "risks", desc := "(I)I" } : Jvm.MethodName) ({ cls := "LastHatch$Way", name := "risks", desc := "(I)I" } : Jvm.MethodName)) ∈ lw_all := lw_g (lw_at lw_m7 202 rfl) rfl
theorem q1721 : (Jvm.Cond.unhidden "LastHatch$Lost" "risks" "(I)I") ∈ lw_tbl := lw_at lw_m7 203 rfl
theorem q1770 : (Jvm.Cond.castable "LastHatch$Lost" "LastHatch$Tells") ∈ lw_tbl := lw_at lw_m8 12 rfl
theorem q1771 : (Jvm.Cond.selects "LastHatch$Lost" ({ cls := "LastHatch$Tells", name := "tells", desc := "(I)I" } : Jvm.MethodName) ({ cls := "LastHatch$Lost", name := "tells", desc := "(I)I" } : Jvm.MethodName)) ∈ lw_all := lw_g (lw_at lw_m8 13 rfl) rfl
theorem q1772 : (Jvm.Cond.unhidden "LastHatch$Lost" "tells" "(I)I") ∈ lw_tbl := lw_at lw_m8 14 rfl
theorem q1773 : (Jvm.Cond.instanceMethod ({ cls := "LastHatch$Lost", name := "tells", desc := "(I)I" } : Jvm.MethodName)) ∈ lw_all := lw_g (lw_at lw_m8 15 rfl) rfl
theorem q1774 : (Jvm.Cond.publicMethod ({ cls := "LastHatch$Lost", name := "tells", desc := "(I)I" } : Jvm.MethodName)) ∈ lw_tbl := lw_at lw_m8 16 rfl
theorem q1775 : (Jvm.Cond.code ({ cls := "LastHatch$Lost", name := "tells", desc := "(I)I" } : Jvm.MethodName) prog_15_method_4_code (3 : Nat) (Option.some Jvm.ClassFile.FieldType.int)) ∈ lw_all := lw_g (lw_at lw_m8 17 rfl) rfl
theorem q1776 : (Jvm.Cond.methodLink "LastHatch$Lost" (29 : Nat) ({ cls := "LastHatch$Trace", name := "begins", desc := "(I)V" } : Jvm.MethodName)) ∈ lw_all := lw_g (lw_at lw_m8 18 rfl) rfl
theorem q1777 : (Jvm.Cond.methodLink "LastHatch$Lost" (35 : Nat) ({ cls := "LastHatch$Lost", name := "takes", desc := "(I)I" } : Jvm.MethodName)) ∈ lw_all := lw_g (lw_at lw_m8 19 rfl) rfl
theorem q1778 : (Jvm.Cond.sameMethod "LastHatch$Lost" "LastHatch$Lock" "takes" "(I)I") ∈ lw_all := lw_g (lw_at lw_m8 20 rfl) rfl
theorem q1780 : (Jvm.Cond.selects "LastHatch$Lost" ({ cls := "LastHatch$Lost", name := "takes", desc := "(I)I" } : Jvm.MethodName) ({ cls := "LastHatch$Lock", name := "takes", desc := "(I)I" } : Jvm.MethodName)) ∈ lw_all := lw_g (lw_at lw_m8 22 rfl) rfl
theorem q1781 : (Jvm.Cond.methodLink "LastHatch$Lost" (39 : Nat) ({ cls := "LastHatch$Lock", name := "tells", desc := "(I)I" } : Jvm.MethodName)) ∈ lw_all := lw_g (lw_at lw_m8 23 rfl) rfl
theorem q2494 : (Jvm.Cond.selects "LastHatch$Lost" ({ cls := "LastHatch$Way", name := "needs", desc := "(I)I" } : Jvm.MethodName) ({ cls := "LastHatch$Way", name := "needs", desc := "(I)I" } : Jvm.MethodName)) ∈ lw_all := lw_g (lw_at lw_m11 16 rfl) rfl
theorem q2504 : (Jvm.Cond.selects "LastHatch$Lost" ({ cls := "LastHatch$Way", name := "takes", desc := "(I)I" } : Jvm.MethodName) ({ cls := "LastHatch$Lock", name := "takes", desc := "(I)I" } : Jvm.MethodName)) ∈ lw_all := lw_g (lw_at lw_m11 26 rfl) rfl
theorem q2512 : (Jvm.Cond.selects "LastHatch$Lost" ({ cls := "LastHatch$Way", name := "risks", desc := "(I)I" } : Jvm.MethodName) ({ cls := "LastHatch$Way", name := "risks", desc := "(I)I" } : Jvm.MethodName)) ∈ lw_all := lw_g (lw_at lw_m11 34 rfl) rfl
theorem q2522 : (Jvm.Cond.castable "LastHatch$Lost" "LastHatch$Way") ∈ lw_tbl := lw_at lw_m11 44 rfl
theorem q2556 : (Jvm.Cond.castable "LastHatch$Lost" "java/lang/Object") ∈ lw_tbl := lw_at lw_m11 78 rfl
theorem in_X25 : ∀ w ∈ wsX250, w ∈ lw_all := lw_in wsX250 [1186, 1187, 1188, 1189, 1190] (by decide +kernel) (by decide +kernel)

/-! LastHatch$Tapped -/
set_option maxRecDepth 100000
def RX26 : String := "LastHatch$Tapped"
def TX26 : u_T := fun k => match k with
  | 0 => ("LastHatch$Way", "trace", "LLastHatch$Trace;", true)
  | 1 => ("LastHatch$Way", "number", "I", true)
  | 2 => ("LastHatch$Way", "t", "I", true)
  | 3 => ("LastHatch$Way", "n", "I", true)
  | _ => ("LastHatch$Way", "risk", "I", true)
def tyX26 : Nat → FieldType := fun k => match k with
  | 0 => .object "LastHatch$Trace"
  | 1 => .int
  | 2 => .int
  | 3 => .int
  | _ => .int
abbrev wsX260 : List Cond := u_ws RX26 TX26 5
theorem nmX26 : ∀ a, a < 5 → ∀ b, b < 5 → a ≠ b → (TX26 a).2.1 ≠ (TX26 b).2.1 := by decide +kernel
theorem tyX26_ok : ∀ k, k < 5 → parseFieldDescriptor (TX26 k).2.2.1 = some (tyX26 k) := by decide +kernel
abbrev cX26_init : ByteArray := prog_28_method_1_code
def yX26_init : MethodName := ⟨RX26, "<init>", "(LLastHatch$Trace;IIII)V"⟩
def dkwX26_init_0 : List UInt8 := [42, 43, 28, 29, 21, 4, 21, 5, 183, 0, 3, 177]
abbrev dktX26_init_0 : List UInt8 := dkwX26_init_0 ++ []
theorem dksX26_init_0 : cX26_init.data.toList.drop 0 = dktX26_init_0 := by decide +kernel
theorem dX26_init_0 : decode cX26_init 0 = .ok (.aload_n 0, 1) := dk_42 (dk_at dksX26_init_0 0 rfl rfl)
theorem dX26_init_1 : decode cX26_init 1 = .ok (.aload_n 1, 1) := dk_43 (dk_at dksX26_init_0 1 rfl rfl)
theorem dX26_init_2 : decode cX26_init 2 = .ok (.iload_n 2, 1) := dk_28 (dk_at dksX26_init_0 2 rfl rfl)
theorem dX26_init_3 : decode cX26_init 3 = .ok (.iload_n 3, 1) := dk_29 (dk_at dksX26_init_0 3 rfl rfl)
theorem dX26_init_4 : decode cX26_init 4 = .ok (.iload 4, 2) := dk_21 4 (dk_at dksX26_init_0 4 rfl rfl)
theorem dX26_init_6 : decode cX26_init 6 = .ok (.iload 5, 2) := dk_21 5 (dk_at dksX26_init_0 6 rfl rfl)
theorem dX26_init_8 : decode cX26_init 8 = .ok (.invokespecial 3, 3) := dk_183 0 3 (dk_at dksX26_init_0 8 rfl rfl)
theorem dX26_init_11 : decode cX26_init 11 = .ok (.return_, 1) := dk_177 (dk_at dksX26_init_0 11 rfl rfl)
abbrev cX26_isOf : ByteArray := prog_28_method_2_code
def yX26_isOf : MethodName := ⟨RX26, "isOf", "(I)Z"⟩
def dkwX26_isOf_0 : List UInt8 := [27, 16, 7, 159, 0, 11, 42, 27, 183, 0, 9, 153, 0, 7, 4, 167, 0, 4, 3, 172]
abbrev dktX26_isOf_0 : List UInt8 := dkwX26_isOf_0 ++ []
theorem dksX26_isOf_0 : cX26_isOf.data.toList.drop 0 = dktX26_isOf_0 := by decide +kernel
theorem dX26_isOf_0 : decode cX26_isOf 0 = .ok (.iload_n 1, 1) := dk_27 (dk_at dksX26_isOf_0 0 rfl rfl)
theorem dX26_isOf_1 : decode cX26_isOf 1 = .ok (.bipush 7, 2) := dk_16 7 (dk_at dksX26_isOf_0 1 rfl rfl)
theorem dX26_isOf_3 : decode cX26_isOf 3 = .ok (.if_icmp .eq 11, 3) := dk_159 0 11 (dk_at dksX26_isOf_0 3 rfl rfl)
theorem dX26_isOf_6 : decode cX26_isOf 6 = .ok (.aload_n 0, 1) := dk_42 (dk_at dksX26_isOf_0 6 rfl rfl)
theorem dX26_isOf_7 : decode cX26_isOf 7 = .ok (.iload_n 1, 1) := dk_27 (dk_at dksX26_isOf_0 7 rfl rfl)
theorem dX26_isOf_8 : decode cX26_isOf 8 = .ok (.invokespecial 9, 3) := dk_183 0 9 (dk_at dksX26_isOf_0 8 rfl rfl)
theorem dX26_isOf_11 : decode cX26_isOf 11 = .ok (.ifCond .eq 7, 3) := dk_153 0 7 (dk_at dksX26_isOf_0 11 rfl rfl)
theorem dX26_isOf_14 : decode cX26_isOf 14 = .ok (.iconst 1, 1) := dk_4 (dk_at dksX26_isOf_0 14 rfl rfl)
theorem dX26_isOf_15 : decode cX26_isOf 15 = .ok (.goto 4, 3) := dk_167 0 4 (dk_at dksX26_isOf_0 15 rfl rfl)
theorem dX26_isOf_18 : decode cX26_isOf 18 = .ok (.iconst 0, 1) := dk_3 (dk_at dksX26_isOf_0 18 rfl rfl)
theorem dX26_isOf_19 : decode cX26_isOf 19 = .ok (.ireturn, 1) := dk_172 (dk_at dksX26_isOf_0 19 rfl rfl)
abbrev cX26_out : ByteArray := prog_28_method_3_code
def yX26_out : MethodName := ⟨RX26, "out", "(IILLastHatch$Divers;)I"⟩
def dkwX26_out_1 : List UInt8 := [96, 172]
abbrev dktX26_out_1 : List UInt8 := dkwX26_out_1 ++ []
def dkwX26_out_0 : List UInt8 := [42, 27, 28, 45, 183, 0, 13, 28, 42, 180, 0, 17, 161, 0, 11, 27, 158, 0, 7, 4, 167, 0, 4, 3]
abbrev dktX26_out_0 : List UInt8 := dkwX26_out_0 ++ dktX26_out_1
theorem dksX26_out_0 : cX26_out.data.toList.drop 0 = dktX26_out_0 := by decide +kernel
theorem dksX26_out_1 : cX26_out.data.toList.drop 24 = dktX26_out_1 := dk_seg dksX26_out_0 24 rfl rfl
theorem dX26_out_0 : decode cX26_out 0 = .ok (.aload_n 0, 1) := dk_42 (dk_at dksX26_out_0 0 rfl rfl)
theorem dX26_out_1 : decode cX26_out 1 = .ok (.iload_n 1, 1) := dk_27 (dk_at dksX26_out_0 1 rfl rfl)
theorem dX26_out_2 : decode cX26_out 2 = .ok (.iload_n 2, 1) := dk_28 (dk_at dksX26_out_0 2 rfl rfl)
theorem dX26_out_3 : decode cX26_out 3 = .ok (.aload_n 3, 1) := dk_45 (dk_at dksX26_out_0 3 rfl rfl)
theorem dX26_out_4 : decode cX26_out 4 = .ok (.invokespecial 13, 3) := dk_183 0 13 (dk_at dksX26_out_0 4 rfl rfl)
theorem dX26_out_7 : decode cX26_out 7 = .ok (.iload_n 2, 1) := dk_28 (dk_at dksX26_out_0 7 rfl rfl)
theorem dX26_out_8 : decode cX26_out 8 = .ok (.aload_n 0, 1) := dk_42 (dk_at dksX26_out_0 8 rfl rfl)
theorem dX26_out_9 : decode cX26_out 9 = .ok (.getfield 17, 3) := dk_180 0 17 (dk_at dksX26_out_0 9 rfl rfl)
theorem dX26_out_12 : decode cX26_out 12 = .ok (.if_icmp .lt 11, 3) := dk_161 0 11 (dk_at dksX26_out_0 12 rfl rfl)
theorem dX26_out_15 : decode cX26_out 15 = .ok (.iload_n 1, 1) := dk_27 (dk_at dksX26_out_0 15 rfl rfl)
theorem dX26_out_16 : decode cX26_out 16 = .ok (.ifCond .le 7, 3) := dk_158 0 7 (dk_at dksX26_out_0 16 rfl rfl)
theorem dX26_out_19 : decode cX26_out 19 = .ok (.iconst 1, 1) := dk_4 (dk_at dksX26_out_0 19 rfl rfl)
theorem dX26_out_20 : decode cX26_out 20 = .ok (.goto 4, 3) := dk_167 0 4 (dk_at dksX26_out_0 20 rfl rfl)
theorem dX26_out_23 : decode cX26_out 23 = .ok (.iconst 0, 1) := dk_3 (dk_at dksX26_out_0 23 rfl rfl)
theorem dX26_out_24 : decode cX26_out 24 = .ok (.iadd, 1) := dk_96 (dk_at dksX26_out_1 0 rfl rfl)
theorem dX26_out_25 : decode cX26_out 25 = .ok (.ireturn, 1) := dk_172 (dk_at dksX26_out_1 1 rfl rfl)
abbrev cX26_risks : ByteArray := prog_28_method_4_code
def yX26_risks : MethodName := ⟨RX26, "risks", "(I)I"⟩
def dkwX26_risks_0 : List UInt8 := [42, 180, 0, 23, 16, 80, 182, 0, 27, 42, 27, 183, 0, 33, 61, 28, 42, 27, 182, 0, 37, 130, 172]
abbrev dktX26_risks_0 : List UInt8 := dkwX26_risks_0 ++ []
theorem dksX26_risks_0 : cX26_risks.data.toList.drop 0 = dktX26_risks_0 := by decide +kernel
theorem dX26_risks_0 : decode cX26_risks 0 = .ok (.aload_n 0, 1) := dk_42 (dk_at dksX26_risks_0 0 rfl rfl)
theorem dX26_risks_1 : decode cX26_risks 1 = .ok (.getfield 23, 3) := dk_180 0 23 (dk_at dksX26_risks_0 1 rfl rfl)
theorem dX26_risks_4 : decode cX26_risks 4 = .ok (.bipush 80, 2) := dk_16 80 (dk_at dksX26_risks_0 4 rfl rfl)
theorem dX26_risks_6 : decode cX26_risks 6 = .ok (.invokevirtual 27, 3) := dk_182 0 27 (dk_at dksX26_risks_0 6 rfl rfl)
theorem dX26_risks_9 : decode cX26_risks 9 = .ok (.aload_n 0, 1) := dk_42 (dk_at dksX26_risks_0 9 rfl rfl)
theorem dX26_risks_10 : decode cX26_risks 10 = .ok (.iload_n 1, 1) := dk_27 (dk_at dksX26_risks_0 10 rfl rfl)
theorem dX26_risks_11 : decode cX26_risks 11 = .ok (.invokespecial 33, 3) := dk_183 0 33 (dk_at dksX26_risks_0 11 rfl rfl)
theorem dX26_risks_14 : decode cX26_risks 14 = .ok (.istore_n 2, 1) := dk_61 (dk_at dksX26_risks_0 14 rfl rfl)
theorem dX26_risks_15 : decode cX26_risks 15 = .ok (.iload_n 2, 1) := dk_28 (dk_at dksX26_risks_0 15 rfl rfl)
theorem dX26_risks_16 : decode cX26_risks 16 = .ok (.aload_n 0, 1) := dk_42 (dk_at dksX26_risks_0 16 rfl rfl)
theorem dX26_risks_17 : decode cX26_risks 17 = .ok (.iload_n 1, 1) := dk_27 (dk_at dksX26_risks_0 17 rfl rfl)
theorem dX26_risks_18 : decode cX26_risks 18 = .ok (.invokevirtual 37, 3) := dk_182 0 37 (dk_at dksX26_risks_0 18 rfl rfl)
theorem dX26_risks_21 : decode cX26_risks 21 = .ok (.ixor, 1) := dk_130 (dk_at dksX26_risks_0 21 rfl rfl)
theorem dX26_risks_22 : decode cX26_risks 22 = .ok (.ireturn, 1) := dk_172 (dk_at dksX26_risks_0 22 rfl rfl)
theorem q122 : (Jvm.Cond.initialized "LastHatch$Tapped") ∈ lw_all := lw_g (lw_at lw_m1 44 rfl) rfl
theorem q614 : (Jvm.Cond.selects "LastHatch$Tapped" ({ cls := "java/lang/Object", name := "getClass", desc := "()Ljava/lang/Class;" } : Jvm.MethodName) ({ cls := "java/lang/Object", name := "getClass", desc := "()Ljava/lang/Class;" } : Jvm.MethodName)) ∈ lw_all := lw_g (lw_at lw_m3 56 rfl) rfl
theorem q1096 : (Jvm.Cond.fieldLink "LastHatch$Tapped" (23 : Nat) "LastHatch$Tapped" "trace" "LLastHatch$Trace;") ∈ lw_all := lw_g (lw_at lw_m5 58 rfl) rfl
theorem q1097 : (Jvm.Cond.sameField "LastHatch$Tapped" "LastHatch$Way" "trace" "LLastHatch$Trace;") ∈ lw_all := lw_g (lw_at lw_m5 59 rfl) rfl
theorem q1112 : (Jvm.Cond.fieldLink "LastHatch$Tapped" (17 : Nat) "LastHatch$Tapped" "t" "I") ∈ lw_all := lw_g (lw_at lw_m5 74 rfl) rfl
theorem q1113 : (Jvm.Cond.sameField "LastHatch$Tapped" "LastHatch$Way" "t" "I") ∈ lw_all := lw_g (lw_at lw_m5 75 rfl) rfl
theorem q1193 : (Jvm.Cond.instantiable "LastHatch$Tapped" (5 : Nat)) ∈ lw_all := lw_g (lw_at lw_m5 155 rfl) rfl
theorem q1195 : (Jvm.Cond.instanceMethod ({ cls := "LastHatch$Tapped", name := "<init>", desc := "(LLastHatch$Trace;IIII)V" } : Jvm.MethodName)) ∈ lw_all := lw_g (lw_at lw_m5 157 rfl) rfl
theorem q1196 : (Jvm.Cond.code ({ cls := "LastHatch$Tapped", name := "<init>", desc := "(LLastHatch$Trace;IIII)V" } : Jvm.MethodName) prog_28_method_1_code (6 : Nat) (Option.none : Option Jvm.ClassFile.FieldType)) ∈ lw_all := lw_g (lw_at lw_m5 158 rfl) rfl
theorem q1197 : (Jvm.Cond.methodLink "LastHatch$Tapped" (3 : Nat) ({ cls := "LastHatch$Waiting", name := "<init>", desc := "(LLastHatch$Trace;IIII)V" } : Jvm.MethodName)) ∈ lw_all := lw_g (lw_at lw_m5 159 rfl) rfl
theorem q1198 : (Jvm.Cond.laysFinal "LastHatch$Tapped" "LastHatch$Way" "trace" "LLastHatch$Trace;") ∈ lw_all := lw_g (lw_at lw_m5 160 rfl) rfl
theorem q1199 : (Jvm.Cond.laysFinal "LastHatch$Tapped" "LastHatch$Way" "number" "I") ∈ lw_all := lw_g (lw_at lw_m5 161 rfl) rfl
theorem q1200 : (Jvm.Cond.laysFinal "LastHatch$Tapped" "LastHatch$Way" "t" "I") ∈ lw_all := lw_g (lw_at lw_m5 162 rfl) rfl
theorem q1201 : (Jvm.Cond.laysFinal "LastHatch$Tapped" "LastHatch$Way" "n" "I") ∈ lw_all := lw_g (lw_at lw_m5 163 rfl) rfl
theorem q1202 : (Jvm.Cond.laysFinal "LastHatch$Tapped" "LastHatch$Way" "risk" "I") ∈ lw_all := lw_g (lw_at lw_m5 164 rfl) rfl
theorem q1203 : (Jvm.Cond.superclass "LastHatch$Tapped" "LastHatch$Waiting") ∈ lw_all := lw_g (lw_at lw_m5 165 rfl) rfl
theorem q1246 : (Jvm.Cond.selects "LastHatch$Tapped" ({ cls := "LastHatch$Way", name := "isOf", desc := "(I)Z" } : Jvm.MethodName) ({ cls := "LastHatch$Tapped", name := "isOf", desc := "(I)Z" } : Jvm.MethodName)) ∈ lw_all := lw_g (lw_at lw_m5 208 rfl) rfl
theorem q1247 : (Jvm.Cond.instanceMethod ({ cls := "LastHatch$Tapped", name := "isOf", desc := "(I)Z" } : Jvm.MethodName)) ∈ lw_all := lw_g (lw_at lw_m5 209 rfl) rfl
theorem q1248 : (Jvm.Cond.code ({ cls := "LastHatch$Tapped", name := "isOf", desc := "(I)Z" } : Jvm.MethodName) prog_28_method_2_code (2 : Nat) (Option.some Jvm.ClassFile.FieldType.boolean)) ∈ lw_all := lw_g (lw_at lw_m5 210 rfl) rfl
theorem q1249 : (Jvm.Cond.methodLink "LastHatch$Tapped" (9 : Nat) ({ cls := "LastHatch$Waiting", name := "isOf", desc := "(I)Z" } : Jvm.MethodName)) ∈ lw_all := lw_g (lw_at lw_m5 211 rfl) rfl
theorem q1297 : (Jvm.Cond.selects "LastHatch$Tapped" ({ cls := "LastHatch$Way", name := "out", desc := "(IILLastHatch$Divers;)I" } : Jvm.MethodName) ({ cls := "LastHatch$Tapped", name := "out", desc := "(IILLastHatch$Divers;)I" } : Jvm.MethodName)) ∈ lw_all := lw_g (lw_at lw_m6 19 rfl) rfl
theorem q1298 : (Jvm.Cond.instanceMethod ({ cls := "LastHatch$Tapped", name := "out", desc := "(IILLastHatch$Divers;)I" } : Jvm.MethodName)) ∈ lw_all := lw_g (lw_at lw_m6 20 rfl) rfl
theorem q1299 : (Jvm.Cond.code ({ cls := "LastHatch$Tapped", name := "out", desc := "(IILLastHatch$Divers;)I" } : Jvm.MethodName) prog_28_method_3_code (4 : Nat) (Option.some Jvm.ClassFile.FieldType.int)) ∈ lw_all := lw_g (lw_at lw_m6 21 rfl) rfl
theorem q1300 : (Jvm.Cond.methodLink "LastHatch$Tapped" (13 : Nat) ({ cls := "LastHatch$Waiting", name := "out", desc := "(IILLastHatch$Divers;)I" } : Jvm.MethodName)) ∈ lw_all := lw_g (lw_at lw_m6 22 rfl) rfl
theorem q1645 : (Jvm.Cond.castable "LastHatch$Tapped" "LastHatch$Needs") ∈ lw_tbl := lw_at lw_m7 127 rfl
theorem q1646 : (Jvm.Cond.selects "LastHatch$Tapped" ({ cls := "LastHatch$Needs", name := "needs", desc := "(I)I" } : Jvm.MethodName) ({ cls := "LastHatch$Waiting", name := "needs", desc := "(I)I" } : Jvm.MethodName)) ∈ lw_all := lw_g (lw_at lw_m7 128 rfl) rfl
theorem q1647 : (Jvm.Cond.unhidden "LastHatch$Tapped" "needs" "(I)I") ∈ lw_tbl := lw_at lw_m7 129 rfl
theorem q1699 : (Jvm.Cond.castable "LastHatch$Tapped" "LastHatch$Takes") ∈ lw_tbl := lw_at lw_m7 181 rfl
theorem q1700 : (Jvm.Cond.selects "LastHatch$Tapped" ({ cls := "LastHatch$Takes", name := "takes", desc := "(I)I" } : Jvm.MethodName) ({ cls := "LastHatch$Way", name := "takes", desc := "(I)I" } : Jvm.MethodName)) ∈ lw_all := lw_g (lw_at lw_m7 182 rfl) rfl
theorem q1701 : (Jvm.Cond.unhidden "LastHatch$Tapped" "takes" "(I)I") ∈ lw_tbl := lw_at lw_m7 183 rfl
theorem q1733 : (Jvm.Cond.castable "LastHatch$Tapped" "LastHatch$Risks") ∈ lw_tbl := lw_at lw_m7 215 rfl
theorem q1734 : (Jvm.Cond.selects "LastHatch$Tapped" ({ cls := "LastHatch$Risks", name := "risks", desc := "(I)I" } : Jvm.MethodName) ({ cls := "LastHatch$Tapped", name := "risks", desc := "(I)I" } : Jvm.MethodName)) ∈ lw_all := lw_g (lw_at lw_m7 216 rfl) rfl
theorem q1735 : (Jvm.Cond.unhidden "LastHatch$Tapped" "risks" "(I)I") ∈ lw_tbl := lw_at lw_m7 217 rfl
theorem q1736 : (Jvm.Cond.instanceMethod ({ cls := "LastHatch$Tapped", name := "risks", desc := "(I)I" } : Jvm.MethodName)) ∈ lw_all := lw_g (lw_at lw_m7 218 rfl) rfl
theorem q1737 : (Jvm.Cond.publicMethod ({ cls := "LastHatch$Tapped", name := "risks", desc := "(I)I" } : Jvm.MethodName)) ∈ lw_tbl := lw_at lw_m7 219 rfl
theorem q1738 : (Jvm.Cond.code ({ cls := "LastHatch$Tapped", name := "risks", desc := "(I)I" } : Jvm.MethodName) prog_28_method_4_code (3 : Nat) (Option.some Jvm.ClassFile.FieldType.int)) ∈ lw_all := lw_g (lw_at lw_m7 220 rfl) rfl
theorem q1739 : (Jvm.Cond.methodLink "LastHatch$Tapped" (27 : Nat) ({ cls := "LastHatch$Trace", name := "begins", desc := "(I)V" } : Jvm.MethodName)) ∈ lw_all := lw_g (lw_at lw_m7 221 rfl) rfl
theorem q1740 : (Jvm.Cond.methodLink "LastHatch$Tapped" (33 : Nat) ({ cls := "LastHatch$Waiting", name := "risks", desc := "(I)I" } : Jvm.MethodName)) ∈ lw_all := lw_g (lw_at lw_m7 222 rfl) rfl
theorem q1744 : (Jvm.Cond.methodLink "LastHatch$Tapped" (37 : Nat) ({ cls := "LastHatch$Tapped", name := "needs", desc := "(I)I" } : Jvm.MethodName)) ∈ lw_all := lw_g (lw_at lw_m7 226 rfl) rfl
theorem q1745 : (Jvm.Cond.sameMethod "LastHatch$Tapped" "LastHatch$Waiting" "needs" "(I)I") ∈ lw_all := lw_g (lw_at lw_m7 227 rfl) rfl
theorem q1747 : (Jvm.Cond.selects "LastHatch$Tapped" ({ cls := "LastHatch$Tapped", name := "needs", desc := "(I)I" } : Jvm.MethodName) ({ cls := "LastHatch$Waiting", name := "needs", desc := "(I)I" } : Jvm.MethodName)) ∈ lw_all := lw_g (lw_at lw_m7 229 rfl) rfl
theorem q1798 : (Jvm.Cond.castable "LastHatch$Tapped" "LastHatch$Tells") ∈ lw_tbl := lw_at lw_m8 40 rfl
theorem q1799 : (Jvm.Cond.selects "LastHatch$Tapped" ({ cls := "LastHatch$Tells", name := "tells", desc := "(I)I" } : Jvm.MethodName) ({ cls := "LastHatch$Way", name := "tells", desc := "(I)I" } : Jvm.MethodName)) ∈ lw_all := lw_g (lw_at lw_m8 41 rfl) rfl
theorem q1800 : (Jvm.Cond.unhidden "LastHatch$Tapped" "tells" "(I)I") ∈ lw_tbl := lw_at lw_m8 42 rfl
theorem q2497 : (Jvm.Cond.selects "LastHatch$Tapped" ({ cls := "LastHatch$Way", name := "needs", desc := "(I)I" } : Jvm.MethodName) ({ cls := "LastHatch$Waiting", name := "needs", desc := "(I)I" } : Jvm.MethodName)) ∈ lw_all := lw_g (lw_at lw_m11 19 rfl) rfl
theorem q2507 : (Jvm.Cond.selects "LastHatch$Tapped" ({ cls := "LastHatch$Way", name := "takes", desc := "(I)I" } : Jvm.MethodName) ({ cls := "LastHatch$Way", name := "takes", desc := "(I)I" } : Jvm.MethodName)) ∈ lw_all := lw_g (lw_at lw_m11 29 rfl) rfl
theorem q2515 : (Jvm.Cond.selects "LastHatch$Tapped" ({ cls := "LastHatch$Way", name := "risks", desc := "(I)I" } : Jvm.MethodName) ({ cls := "LastHatch$Tapped", name := "risks", desc := "(I)I" } : Jvm.MethodName)) ∈ lw_all := lw_g (lw_at lw_m11 37 rfl) rfl
theorem q2525 : (Jvm.Cond.castable "LastHatch$Tapped" "LastHatch$Way") ∈ lw_tbl := lw_at lw_m11 47 rfl
theorem q2557 : (Jvm.Cond.castable "LastHatch$Tapped" "java/lang/Object") ∈ lw_tbl := lw_at lw_m11 79 rfl
theorem in_X26 : ∀ w ∈ wsX260, w ∈ lw_all := lw_in wsX260 [1198, 1199, 1200, 1201, 1202] (by decide +kernel) (by decide +kernel)

/-! LastHatch$Sheet -/
set_option maxRecDepth 100000
def RX27 : String := "LastHatch$Sheet"
abbrev cX27_init : ByteArray := prog_23_method_1_code
def yX27_init : MethodName := ⟨RX27, "<init>", "()V"⟩
theorem dX27_init_0 : decode cX27_init 0 = .ok (.aload_n 0, 1) := by decide +kernel
theorem dX27_init_1 : decode cX27_init 1 = .ok (.invokespecial 1, 3) := by decide +kernel
theorem dX27_init_4 : decode cX27_init 4 = .ok (.return_, 1) := by decide +kernel
abbrev cX27_row : ByteArray := prog_23_method_6_code
def yX27_row : MethodName := ⟨RX27, "row", "()[I"⟩
def dkwX27_row_1 : List UInt8 := [132, 2, 1, 167, 255, 239, 43, 176]
abbrev dktX27_row_1 : List UInt8 := dkwX27_row_1 ++ []
def dkwX27_row_0 : List UInt8 := [42, 182, 0, 7, 188, 10, 76, 3, 61, 28, 43, 190, 162, 0, 17, 43, 28, 42, 28, 182, 0, 13, 79]
abbrev dktX27_row_0 : List UInt8 := dkwX27_row_0 ++ dktX27_row_1
theorem dksX27_row_0 : cX27_row.data.toList.drop 0 = dktX27_row_0 := by decide +kernel
theorem dksX27_row_1 : cX27_row.data.toList.drop 23 = dktX27_row_1 := dk_seg dksX27_row_0 23 rfl rfl
theorem dX27_row_0 : decode cX27_row 0 = .ok (.aload_n 0, 1) := dk_42 (dk_at dksX27_row_0 0 rfl rfl)
theorem dX27_row_1 : decode cX27_row 1 = .ok (.invokevirtual 7, 3) := dk_182 0 7 (dk_at dksX27_row_0 1 rfl rfl)
theorem dX27_row_4 : decode cX27_row 4 = .ok (.newarray .int, 2) := dk_188_10 (dk_at dksX27_row_0 4 rfl rfl)
theorem dX27_row_6 : decode cX27_row 6 = .ok (.astore_n 1, 1) := dk_76 (dk_at dksX27_row_0 6 rfl rfl)
theorem dX27_row_7 : decode cX27_row 7 = .ok (.iconst 0, 1) := dk_3 (dk_at dksX27_row_0 7 rfl rfl)
theorem dX27_row_8 : decode cX27_row 8 = .ok (.istore_n 2, 1) := dk_61 (dk_at dksX27_row_0 8 rfl rfl)
theorem dX27_row_9 : decode cX27_row 9 = .ok (.iload_n 2, 1) := dk_28 (dk_at dksX27_row_0 9 rfl rfl)
theorem dX27_row_10 : decode cX27_row 10 = .ok (.aload_n 1, 1) := dk_43 (dk_at dksX27_row_0 10 rfl rfl)
theorem dX27_row_11 : decode cX27_row 11 = .ok (.arraylength, 1) := dk_190 (dk_at dksX27_row_0 11 rfl rfl)
theorem dX27_row_12 : decode cX27_row 12 = .ok (.if_icmp .ge 17, 3) := dk_162 0 17 (dk_at dksX27_row_0 12 rfl rfl)
theorem dX27_row_15 : decode cX27_row 15 = .ok (.aload_n 1, 1) := dk_43 (dk_at dksX27_row_0 15 rfl rfl)
theorem dX27_row_16 : decode cX27_row 16 = .ok (.iload_n 2, 1) := dk_28 (dk_at dksX27_row_0 16 rfl rfl)
theorem dX27_row_17 : decode cX27_row 17 = .ok (.aload_n 0, 1) := dk_42 (dk_at dksX27_row_0 17 rfl rfl)
theorem dX27_row_18 : decode cX27_row 18 = .ok (.iload_n 2, 1) := dk_28 (dk_at dksX27_row_0 18 rfl rfl)
theorem dX27_row_19 : decode cX27_row 19 = .ok (.invokevirtual 13, 3) := dk_182 0 13 (dk_at dksX27_row_0 19 rfl rfl)
theorem dX27_row_22 : decode cX27_row 22 = .ok (.iastore, 1) := dk_79 (dk_at dksX27_row_0 22 rfl rfl)
theorem dX27_row_23 : decode cX27_row 23 = .ok (.iinc 2 1, 3) := dk_132 2 1 (dk_at dksX27_row_1 0 rfl rfl)
theorem dX27_row_26 : decode cX27_row 26 = .ok (.goto (-17), 3) := dk_167 255 239 (dk_at dksX27_row_1 3 rfl rfl)
theorem dX27_row_29 : decode cX27_row 29 = .ok (.aload_n 1, 1) := dk_43 (dk_at dksX27_row_1 6 rfl rfl)
theorem dX27_row_30 : decode cX27_row 30 = .ok (.areturn, 1) := dk_176 (dk_at dksX27_row_1 7 rfl rfl)
theorem q123 : (Jvm.Cond.initialized "LastHatch$Sheet") ∈ lw_all := lw_g (lw_at lw_m1 45 rfl) rfl
theorem q1461 : (Jvm.Cond.instanceMethod ({ cls := "LastHatch$Sheet", name := "<init>", desc := "()V" } : Jvm.MethodName)) ∈ lw_all := lw_g (lw_at lw_m6 183 rfl) rfl
theorem q1462 : (Jvm.Cond.code ({ cls := "LastHatch$Sheet", name := "<init>", desc := "()V" } : Jvm.MethodName) prog_23_method_1_code (1 : Nat) (Option.none : Option Jvm.ClassFile.FieldType)) ∈ lw_all := lw_g (lw_at lw_m6 184 rfl) rfl
theorem q1463 : (Jvm.Cond.methodLink "LastHatch$Sheet" (1 : Nat) ({ cls := "java/lang/Object", name := "<init>", desc := "()V" } : Jvm.MethodName)) ∈ lw_all := lw_g (lw_at lw_m6 185 rfl) rfl
theorem q1472 : (Jvm.Cond.declares ({ cls := "LastHatch$Sheet", name := "put", desc := "(II)V" } : Jvm.MethodName)) ∈ lw_tbl := lw_at lw_m6 194 rfl
theorem q1473 : (Jvm.Cond.sameMethod "LastHatch$Sheet" "LastHatch$Sheet" "put" "(II)V") ∈ lw_all := lw_g (lw_at lw_m6 195 rfl) rfl
theorem q1497 : (Jvm.Cond.declares ({ cls := "LastHatch$Sheet", name := "size", desc := "()I" } : Jvm.MethodName)) ∈ lw_tbl := lw_at lw_m6 219 rfl
theorem q1498 : (Jvm.Cond.sameMethod "LastHatch$Sheet" "LastHatch$Sheet" "size" "()I") ∈ lw_all := lw_g (lw_at lw_m6 220 rfl) rfl
theorem q1509 : (Jvm.Cond.declares ({ cls := "LastHatch$Sheet", name := "get", desc := "(I)I" } : Jvm.MethodName)) ∈ lw_tbl := lw_at lw_m6 231 rfl
theorem q1510 : (Jvm.Cond.sameMethod "LastHatch$Sheet" "LastHatch$Sheet" "get" "(I)I") ∈ lw_all := lw_g (lw_at lw_m6 232 rfl) rfl
theorem q1848 : (Jvm.Cond.declares ({ cls := "LastHatch$Sheet", name := "width", desc := "()I" } : Jvm.MethodName)) ∈ lw_tbl := lw_at lw_m8 90 rfl
theorem q1849 : (Jvm.Cond.sameMethod "LastHatch$Sheet" "LastHatch$Sheet" "width" "()I") ∈ lw_all := lw_g (lw_at lw_m8 91 rfl) rfl
theorem q1860 : (Jvm.Cond.instanceMethod ({ cls := "LastHatch$Sheet", name := "row", desc := "()[I" } : Jvm.MethodName)) ∈ lw_all := lw_g (lw_at lw_m8 102 rfl) rfl
theorem q1861 : (Jvm.Cond.sameMethod "LastHatch$Sheet" "LastHatch$Sheet" "row" "()[I") ∈ lw_all := lw_g (lw_at lw_m8 103 rfl) rfl
theorem q1865 : (Jvm.Cond.code ({ cls := "LastHatch$Sheet", name := "row", desc := "()[I" } : Jvm.MethodName) prog_23_method_6_code (3 : Nat) (Option.some (Jvm.ClassFile.FieldType.array Jvm.ClassFile.FieldType.int))) ∈ lw_all := lw_g (lw_at lw_m8 107 rfl) rfl
theorem q1866 : (Jvm.Cond.methodLink "LastHatch$Sheet" (7 : Nat) ({ cls := "LastHatch$Sheet", name := "size", desc := "()I" } : Jvm.MethodName)) ∈ lw_all := lw_g (lw_at lw_m8 108 rfl) rfl
theorem q1867 : (Jvm.Cond.methodLink "LastHatch$Sheet" (13 : Nat) ({ cls := "LastHatch$Sheet", name := "get", desc := "(I)I" } : Jvm.MethodName)) ∈ lw_all := lw_g (lw_at lw_m8 109 rfl) rfl

/-! LastHatch$Bytes -/
set_option maxRecDepth 100000
def RX28 : String := "LastHatch$Bytes"
def TX28 : u_T := fun k => match k with
  | _ => ("LastHatch$Bytes", "row", "[B", true)
def tyX28 : Nat → FieldType := fun k => match k with
  | _ => .array .byte
abbrev wsX280 : List Cond := u_ws RX28 TX28 1
theorem nmX28 : ∀ a, a < 1 → ∀ b, b < 1 → a ≠ b → (TX28 a).2.1 ≠ (TX28 b).2.1 := by decide +kernel
theorem tyX28_ok : ∀ k, k < 1 → parseFieldDescriptor (TX28 k).2.2.1 = some (tyX28 k) := by decide +kernel
abbrev cX28_init : ByteArray := prog_4_method_1_code
def yX28_init : MethodName := ⟨RX28, "<init>", "(I)V"⟩
def dkwX28_init_0 : List UInt8 := [42, 183, 0, 1, 42, 27, 188, 8, 181, 0, 7, 177]
abbrev dktX28_init_0 : List UInt8 := dkwX28_init_0 ++ []
theorem dksX28_init_0 : cX28_init.data.toList.drop 0 = dktX28_init_0 := by decide +kernel
theorem dX28_init_0 : decode cX28_init 0 = .ok (.aload_n 0, 1) := dk_42 (dk_at dksX28_init_0 0 rfl rfl)
theorem dX28_init_1 : decode cX28_init 1 = .ok (.invokespecial 1, 3) := dk_183 0 1 (dk_at dksX28_init_0 1 rfl rfl)
theorem dX28_init_4 : decode cX28_init 4 = .ok (.aload_n 0, 1) := dk_42 (dk_at dksX28_init_0 4 rfl rfl)
theorem dX28_init_5 : decode cX28_init 5 = .ok (.iload_n 1, 1) := dk_27 (dk_at dksX28_init_0 5 rfl rfl)
theorem dX28_init_6 : decode cX28_init 6 = .ok (.newarray .byte, 2) := dk_188_8 (dk_at dksX28_init_0 6 rfl rfl)
theorem dX28_init_8 : decode cX28_init 8 = .ok (.putfield 7, 3) := dk_181 0 7 (dk_at dksX28_init_0 8 rfl rfl)
theorem dX28_init_11 : decode cX28_init 11 = .ok (.return_, 1) := dk_177 (dk_at dksX28_init_0 11 rfl rfl)
abbrev cX28_put : ByteArray := prog_4_method_4_code
def yX28_put : MethodName := ⟨RX28, "put", "(II)V"⟩
def dkwX28_put_0 : List UInt8 := [42, 180, 0, 7, 27, 28, 145, 84, 177]
abbrev dktX28_put_0 : List UInt8 := dkwX28_put_0 ++ []
theorem dksX28_put_0 : cX28_put.data.toList.drop 0 = dktX28_put_0 := by decide +kernel
theorem dX28_put_0 : decode cX28_put 0 = .ok (.aload_n 0, 1) := dk_42 (dk_at dksX28_put_0 0 rfl rfl)
theorem dX28_put_1 : decode cX28_put 1 = .ok (.getfield 7, 3) := dk_180 0 7 (dk_at dksX28_put_0 1 rfl rfl)
theorem dX28_put_4 : decode cX28_put 4 = .ok (.iload_n 1, 1) := dk_27 (dk_at dksX28_put_0 4 rfl rfl)
theorem dX28_put_5 : decode cX28_put 5 = .ok (.iload_n 2, 1) := dk_28 (dk_at dksX28_put_0 5 rfl rfl)
theorem dX28_put_6 : decode cX28_put 6 = .ok (.i2b, 1) := dk_145 (dk_at dksX28_put_0 6 rfl rfl)
theorem dX28_put_7 : decode cX28_put 7 = .ok (.bastore, 1) := dk_84 (dk_at dksX28_put_0 7 rfl rfl)
theorem dX28_put_8 : decode cX28_put 8 = .ok (.return_, 1) := dk_177 (dk_at dksX28_put_0 8 rfl rfl)
abbrev cX28_size : ByteArray := prog_4_method_2_code
def yX28_size : MethodName := ⟨RX28, "size", "()I"⟩
def dkwX28_size_0 : List UInt8 := [42, 180, 0, 7, 190, 172]
abbrev dktX28_size_0 : List UInt8 := dkwX28_size_0 ++ []
theorem dksX28_size_0 : cX28_size.data.toList.drop 0 = dktX28_size_0 := by decide +kernel
theorem dX28_size_0 : decode cX28_size 0 = .ok (.aload_n 0, 1) := dk_42 (dk_at dksX28_size_0 0 rfl rfl)
theorem dX28_size_1 : decode cX28_size 1 = .ok (.getfield 7, 3) := dk_180 0 7 (dk_at dksX28_size_0 1 rfl rfl)
theorem dX28_size_4 : decode cX28_size 4 = .ok (.arraylength, 1) := dk_190 (dk_at dksX28_size_0 4 rfl rfl)
theorem dX28_size_5 : decode cX28_size 5 = .ok (.ireturn, 1) := dk_172 (dk_at dksX28_size_0 5 rfl rfl)
abbrev cX28_get : ByteArray := prog_4_method_3_code
def yX28_get : MethodName := ⟨RX28, "get", "(I)I"⟩
def dkwX28_get_0 : List UInt8 := [42, 180, 0, 7, 27, 51, 172]
abbrev dktX28_get_0 : List UInt8 := dkwX28_get_0 ++ []
theorem dksX28_get_0 : cX28_get.data.toList.drop 0 = dktX28_get_0 := by decide +kernel
theorem dX28_get_0 : decode cX28_get 0 = .ok (.aload_n 0, 1) := dk_42 (dk_at dksX28_get_0 0 rfl rfl)
theorem dX28_get_1 : decode cX28_get 1 = .ok (.getfield 7, 3) := dk_180 0 7 (dk_at dksX28_get_0 1 rfl rfl)
theorem dX28_get_4 : decode cX28_get 4 = .ok (.iload_n 1, 1) := dk_27 (dk_at dksX28_get_0 4 rfl rfl)
theorem dX28_get_5 : decode cX28_get 5 = .ok (.baload, 1) := dk_51 (dk_at dksX28_get_0 5 rfl rfl)
theorem dX28_get_6 : decode cX28_get 6 = .ok (.ireturn, 1) := dk_172 (dk_at dksX28_get_0 6 rfl rfl)
abbrev cX28_width : ByteArray := prog_4_method_5_code
def yX28_width : MethodName := ⟨RX28, "width", "()I"⟩
theorem dX28_width_0 : decode cX28_width 0 = .ok (.bipush 8, 2) := by decide +kernel
theorem dX28_width_2 : decode cX28_width 2 = .ok (.ireturn, 1) := by decide +kernel
theorem q124 : (Jvm.Cond.initialized "LastHatch$Bytes") ∈ lw_all := lw_g (lw_at lw_m1 46 rfl) rfl
theorem q595 : (Jvm.Cond.selects "LastHatch$Bytes" ({ cls := "java/lang/Object", name := "getClass", desc := "()Ljava/lang/Class;" } : Jvm.MethodName) ({ cls := "java/lang/Object", name := "getClass", desc := "()Ljava/lang/Class;" } : Jvm.MethodName)) ∈ lw_all := lw_g (lw_at lw_m3 37 rfl) rfl
theorem q1456 : (Jvm.Cond.instantiable "LastHatch$Bytes" (1 : Nat)) ∈ lw_all := lw_g (lw_at lw_m6 178 rfl) rfl
theorem q1458 : (Jvm.Cond.instanceMethod ({ cls := "LastHatch$Bytes", name := "<init>", desc := "(I)V" } : Jvm.MethodName)) ∈ lw_all := lw_g (lw_at lw_m6 180 rfl) rfl
theorem q1459 : (Jvm.Cond.code ({ cls := "LastHatch$Bytes", name := "<init>", desc := "(I)V" } : Jvm.MethodName) prog_4_method_1_code (2 : Nat) (Option.none : Option Jvm.ClassFile.FieldType)) ∈ lw_all := lw_g (lw_at lw_m6 181 rfl) rfl
theorem q1460 : (Jvm.Cond.methodLinkNest "LastHatch$Bytes" (1 : Nat) ({ cls := "LastHatch$Sheet", name := "<init>", desc := "()V" } : Jvm.MethodName) "LastHatch") ∈ lw_tbl := lw_at lw_m6 182 rfl
theorem q1464 : (Jvm.Cond.fieldLink "LastHatch$Bytes" (7 : Nat) "LastHatch$Bytes" "row" "[B") ∈ lw_all := lw_g (lw_at lw_m6 186 rfl) rfl
theorem q1465 : (Jvm.Cond.laysFinal "LastHatch$Bytes" "LastHatch$Bytes" "row" "[B") ∈ lw_all := lw_g (lw_at lw_m6 187 rfl) rfl
theorem q1466 : (Jvm.Cond.soleField "LastHatch$Bytes" "row") ∈ lw_all := lw_g (lw_at lw_m6 188 rfl) rfl
theorem q1467 : (Jvm.Cond.superclass "LastHatch$Bytes" "LastHatch$Sheet") ∈ lw_all := lw_g (lw_at lw_m6 189 rfl) rfl
theorem q1474 : (Jvm.Cond.selects "LastHatch$Bytes" ({ cls := "LastHatch$Sheet", name := "put", desc := "(II)V" } : Jvm.MethodName) ({ cls := "LastHatch$Bytes", name := "put", desc := "(II)V" } : Jvm.MethodName)) ∈ lw_all := lw_g (lw_at lw_m6 196 rfl) rfl
theorem q1475 : (Jvm.Cond.instanceMethod ({ cls := "LastHatch$Bytes", name := "put", desc := "(II)V" } : Jvm.MethodName)) ∈ lw_all := lw_g (lw_at lw_m6 197 rfl) rfl
theorem q1476 : (Jvm.Cond.code ({ cls := "LastHatch$Bytes", name := "put", desc := "(II)V" } : Jvm.MethodName) prog_4_method_4_code (3 : Nat) (Option.none : Option Jvm.ClassFile.FieldType)) ∈ lw_all := lw_g (lw_at lw_m6 198 rfl) rfl
theorem q1499 : (Jvm.Cond.selects "LastHatch$Bytes" ({ cls := "LastHatch$Sheet", name := "size", desc := "()I" } : Jvm.MethodName) ({ cls := "LastHatch$Bytes", name := "size", desc := "()I" } : Jvm.MethodName)) ∈ lw_all := lw_g (lw_at lw_m6 221 rfl) rfl
theorem q1500 : (Jvm.Cond.instanceMethod ({ cls := "LastHatch$Bytes", name := "size", desc := "()I" } : Jvm.MethodName)) ∈ lw_all := lw_g (lw_at lw_m6 222 rfl) rfl
theorem q1501 : (Jvm.Cond.code ({ cls := "LastHatch$Bytes", name := "size", desc := "()I" } : Jvm.MethodName) prog_4_method_2_code (1 : Nat) (Option.some Jvm.ClassFile.FieldType.int)) ∈ lw_all := lw_g (lw_at lw_m6 223 rfl) rfl
theorem q1511 : (Jvm.Cond.selects "LastHatch$Bytes" ({ cls := "LastHatch$Sheet", name := "get", desc := "(I)I" } : Jvm.MethodName) ({ cls := "LastHatch$Bytes", name := "get", desc := "(I)I" } : Jvm.MethodName)) ∈ lw_all := lw_g (lw_at lw_m6 233 rfl) rfl
theorem q1512 : (Jvm.Cond.instanceMethod ({ cls := "LastHatch$Bytes", name := "get", desc := "(I)I" } : Jvm.MethodName)) ∈ lw_all := lw_g (lw_at lw_m6 234 rfl) rfl
theorem q1513 : (Jvm.Cond.code ({ cls := "LastHatch$Bytes", name := "get", desc := "(I)I" } : Jvm.MethodName) prog_4_method_3_code (2 : Nat) (Option.some Jvm.ClassFile.FieldType.int)) ∈ lw_all := lw_g (lw_at lw_m6 235 rfl) rfl
theorem q1850 : (Jvm.Cond.selects "LastHatch$Bytes" ({ cls := "LastHatch$Sheet", name := "width", desc := "()I" } : Jvm.MethodName) ({ cls := "LastHatch$Bytes", name := "width", desc := "()I" } : Jvm.MethodName)) ∈ lw_all := lw_g (lw_at lw_m8 92 rfl) rfl
theorem q1851 : (Jvm.Cond.instanceMethod ({ cls := "LastHatch$Bytes", name := "width", desc := "()I" } : Jvm.MethodName)) ∈ lw_all := lw_g (lw_at lw_m8 93 rfl) rfl
theorem q1852 : (Jvm.Cond.code ({ cls := "LastHatch$Bytes", name := "width", desc := "()I" } : Jvm.MethodName) prog_4_method_5_code (1 : Nat) (Option.some Jvm.ClassFile.FieldType.int)) ∈ lw_all := lw_g (lw_at lw_m8 94 rfl) rfl
theorem q1862 : (Jvm.Cond.selects "LastHatch$Bytes" ({ cls := "LastHatch$Sheet", name := "row", desc := "()[I" } : Jvm.MethodName) ({ cls := "LastHatch$Sheet", name := "row", desc := "()[I" } : Jvm.MethodName)) ∈ lw_all := lw_g (lw_at lw_m8 104 rfl) rfl
theorem q2527 : (Jvm.Cond.castable "LastHatch$Bytes" "LastHatch$Sheet") ∈ lw_tbl := lw_at lw_m11 49 rfl
theorem q2559 : (Jvm.Cond.castable "LastHatch$Bytes" "java/lang/Object") ∈ lw_tbl := lw_at lw_m11 81 rfl
theorem in_X28 : ∀ w ∈ wsX280, w ∈ lw_all := lw_in wsX280 [1465] (by decide +kernel) (by decide +kernel)

/-! LastHatch$Shorts -/
set_option maxRecDepth 100000
def RX29 : String := "LastHatch$Shorts"
def TX29 : u_T := fun k => match k with
  | _ => ("LastHatch$Shorts", "row", "[S", true)
def tyX29 : Nat → FieldType := fun k => match k with
  | _ => .array .short
abbrev wsX290 : List Cond := u_ws RX29 TX29 1
theorem nmX29 : ∀ a, a < 1 → ∀ b, b < 1 → a ≠ b → (TX29 a).2.1 ≠ (TX29 b).2.1 := by decide +kernel
theorem tyX29_ok : ∀ k, k < 1 → parseFieldDescriptor (TX29 k).2.2.1 = some (tyX29 k) := by decide +kernel
abbrev cX29_put : ByteArray := prog_25_method_4_code
def yX29_put : MethodName := ⟨RX29, "put", "(II)V"⟩
def dkwX29_put_0 : List UInt8 := [42, 180, 0, 7, 27, 28, 147, 86, 177]
abbrev dktX29_put_0 : List UInt8 := dkwX29_put_0 ++ []
theorem dksX29_put_0 : cX29_put.data.toList.drop 0 = dktX29_put_0 := by decide +kernel
theorem dX29_put_0 : decode cX29_put 0 = .ok (.aload_n 0, 1) := dk_42 (dk_at dksX29_put_0 0 rfl rfl)
theorem dX29_put_1 : decode cX29_put 1 = .ok (.getfield 7, 3) := dk_180 0 7 (dk_at dksX29_put_0 1 rfl rfl)
theorem dX29_put_4 : decode cX29_put 4 = .ok (.iload_n 1, 1) := dk_27 (dk_at dksX29_put_0 4 rfl rfl)
theorem dX29_put_5 : decode cX29_put 5 = .ok (.iload_n 2, 1) := dk_28 (dk_at dksX29_put_0 5 rfl rfl)
theorem dX29_put_6 : decode cX29_put 6 = .ok (.i2s, 1) := dk_147 (dk_at dksX29_put_0 6 rfl rfl)
theorem dX29_put_7 : decode cX29_put 7 = .ok (.sastore, 1) := dk_86 (dk_at dksX29_put_0 7 rfl rfl)
theorem dX29_put_8 : decode cX29_put 8 = .ok (.return_, 1) := dk_177 (dk_at dksX29_put_0 8 rfl rfl)
abbrev cX29_size : ByteArray := prog_25_method_2_code
def yX29_size : MethodName := ⟨RX29, "size", "()I"⟩
def dkwX29_size_0 : List UInt8 := [42, 180, 0, 7, 190, 172]
abbrev dktX29_size_0 : List UInt8 := dkwX29_size_0 ++ []
theorem dksX29_size_0 : cX29_size.data.toList.drop 0 = dktX29_size_0 := by decide +kernel
theorem dX29_size_0 : decode cX29_size 0 = .ok (.aload_n 0, 1) := dk_42 (dk_at dksX29_size_0 0 rfl rfl)
theorem dX29_size_1 : decode cX29_size 1 = .ok (.getfield 7, 3) := dk_180 0 7 (dk_at dksX29_size_0 1 rfl rfl)
theorem dX29_size_4 : decode cX29_size 4 = .ok (.arraylength, 1) := dk_190 (dk_at dksX29_size_0 4 rfl rfl)
theorem dX29_size_5 : decode cX29_size 5 = .ok (.ireturn, 1) := dk_172 (dk_at dksX29_size_0 5 rfl rfl)
abbrev cX29_get : ByteArray := prog_25_method_3_code
def yX29_get : MethodName := ⟨RX29, "get", "(I)I"⟩
def dkwX29_get_0 : List UInt8 := [42, 180, 0, 7, 27, 53, 172]
abbrev dktX29_get_0 : List UInt8 := dkwX29_get_0 ++ []
theorem dksX29_get_0 : cX29_get.data.toList.drop 0 = dktX29_get_0 := by decide +kernel
theorem dX29_get_0 : decode cX29_get 0 = .ok (.aload_n 0, 1) := dk_42 (dk_at dksX29_get_0 0 rfl rfl)
theorem dX29_get_1 : decode cX29_get 1 = .ok (.getfield 7, 3) := dk_180 0 7 (dk_at dksX29_get_0 1 rfl rfl)
theorem dX29_get_4 : decode cX29_get 4 = .ok (.iload_n 1, 1) := dk_27 (dk_at dksX29_get_0 4 rfl rfl)
theorem dX29_get_5 : decode cX29_get 5 = .ok (.saload, 1) := dk_53 (dk_at dksX29_get_0 5 rfl rfl)
theorem dX29_get_6 : decode cX29_get 6 = .ok (.ireturn, 1) := dk_172 (dk_at dksX29_get_0 6 rfl rfl)
abbrev cX29_init : ByteArray := prog_25_method_1_code
def yX29_init : MethodName := ⟨RX29, "<init>", "(I)V"⟩
def dkwX29_init_0 : List UInt8 := [42, 183, 0, 1, 42, 27, 188, 9, 181, 0, 7, 177]
abbrev dktX29_init_0 : List UInt8 := dkwX29_init_0 ++ []
theorem dksX29_init_0 : cX29_init.data.toList.drop 0 = dktX29_init_0 := by decide +kernel
theorem dX29_init_0 : decode cX29_init 0 = .ok (.aload_n 0, 1) := dk_42 (dk_at dksX29_init_0 0 rfl rfl)
theorem dX29_init_1 : decode cX29_init 1 = .ok (.invokespecial 1, 3) := dk_183 0 1 (dk_at dksX29_init_0 1 rfl rfl)
theorem dX29_init_4 : decode cX29_init 4 = .ok (.aload_n 0, 1) := dk_42 (dk_at dksX29_init_0 4 rfl rfl)
theorem dX29_init_5 : decode cX29_init 5 = .ok (.iload_n 1, 1) := dk_27 (dk_at dksX29_init_0 5 rfl rfl)
theorem dX29_init_6 : decode cX29_init 6 = .ok (.newarray .short, 2) := dk_188_9 (dk_at dksX29_init_0 6 rfl rfl)
theorem dX29_init_8 : decode cX29_init 8 = .ok (.putfield 7, 3) := dk_181 0 7 (dk_at dksX29_init_0 8 rfl rfl)
theorem dX29_init_11 : decode cX29_init 11 = .ok (.return_, 1) := dk_177 (dk_at dksX29_init_0 11 rfl rfl)
abbrev cX29_width : ByteArray := prog_25_method_5_code
def yX29_width : MethodName := ⟨RX29, "width", "()I"⟩
theorem dX29_width_0 : decode cX29_width 0 = .ok (.bipush 16, 2) := by decide +kernel
theorem dX29_width_2 : decode cX29_width 2 = .ok (.ireturn, 1) := by decide +kernel
theorem q125 : (Jvm.Cond.initialized "LastHatch$Shorts") ∈ lw_all := lw_g (lw_at lw_m1 47 rfl) rfl
theorem q612 : (Jvm.Cond.selects "LastHatch$Shorts" ({ cls := "java/lang/Object", name := "getClass", desc := "()Ljava/lang/Class;" } : Jvm.MethodName) ({ cls := "java/lang/Object", name := "getClass", desc := "()Ljava/lang/Class;" } : Jvm.MethodName)) ∈ lw_all := lw_g (lw_at lw_m3 54 rfl) rfl
theorem q1480 : (Jvm.Cond.selects "LastHatch$Shorts" ({ cls := "LastHatch$Sheet", name := "put", desc := "(II)V" } : Jvm.MethodName) ({ cls := "LastHatch$Shorts", name := "put", desc := "(II)V" } : Jvm.MethodName)) ∈ lw_all := lw_g (lw_at lw_m6 202 rfl) rfl
theorem q1481 : (Jvm.Cond.instanceMethod ({ cls := "LastHatch$Shorts", name := "put", desc := "(II)V" } : Jvm.MethodName)) ∈ lw_all := lw_g (lw_at lw_m6 203 rfl) rfl
theorem q1482 : (Jvm.Cond.code ({ cls := "LastHatch$Shorts", name := "put", desc := "(II)V" } : Jvm.MethodName) prog_25_method_4_code (3 : Nat) (Option.none : Option Jvm.ClassFile.FieldType)) ∈ lw_all := lw_g (lw_at lw_m6 204 rfl) rfl
theorem q1505 : (Jvm.Cond.selects "LastHatch$Shorts" ({ cls := "LastHatch$Sheet", name := "size", desc := "()I" } : Jvm.MethodName) ({ cls := "LastHatch$Shorts", name := "size", desc := "()I" } : Jvm.MethodName)) ∈ lw_all := lw_g (lw_at lw_m6 227 rfl) rfl
theorem q1506 : (Jvm.Cond.instanceMethod ({ cls := "LastHatch$Shorts", name := "size", desc := "()I" } : Jvm.MethodName)) ∈ lw_all := lw_g (lw_at lw_m6 228 rfl) rfl
theorem q1507 : (Jvm.Cond.code ({ cls := "LastHatch$Shorts", name := "size", desc := "()I" } : Jvm.MethodName) prog_25_method_2_code (1 : Nat) (Option.some Jvm.ClassFile.FieldType.int)) ∈ lw_all := lw_g (lw_at lw_m6 229 rfl) rfl
theorem q1517 : (Jvm.Cond.selects "LastHatch$Shorts" ({ cls := "LastHatch$Sheet", name := "get", desc := "(I)I" } : Jvm.MethodName) ({ cls := "LastHatch$Shorts", name := "get", desc := "(I)I" } : Jvm.MethodName)) ∈ lw_all := lw_g (lw_at lw_m6 239 rfl) rfl
theorem q1518 : (Jvm.Cond.instanceMethod ({ cls := "LastHatch$Shorts", name := "get", desc := "(I)I" } : Jvm.MethodName)) ∈ lw_all := lw_g (lw_at lw_m7 0 rfl) rfl
theorem q1519 : (Jvm.Cond.code ({ cls := "LastHatch$Shorts", name := "get", desc := "(I)I" } : Jvm.MethodName) prog_25_method_3_code (2 : Nat) (Option.some Jvm.ClassFile.FieldType.int)) ∈ lw_all := lw_g (lw_at lw_m7 1 rfl) rfl
theorem q1819 : (Jvm.Cond.instantiable "LastHatch$Shorts" (1 : Nat)) ∈ lw_all := lw_g (lw_at lw_m8 61 rfl) rfl
theorem q1821 : (Jvm.Cond.instanceMethod ({ cls := "LastHatch$Shorts", name := "<init>", desc := "(I)V" } : Jvm.MethodName)) ∈ lw_all := lw_g (lw_at lw_m8 63 rfl) rfl
theorem q1822 : (Jvm.Cond.code ({ cls := "LastHatch$Shorts", name := "<init>", desc := "(I)V" } : Jvm.MethodName) prog_25_method_1_code (2 : Nat) (Option.none : Option Jvm.ClassFile.FieldType)) ∈ lw_all := lw_g (lw_at lw_m8 64 rfl) rfl
theorem q1823 : (Jvm.Cond.methodLinkNest "LastHatch$Shorts" (1 : Nat) ({ cls := "LastHatch$Sheet", name := "<init>", desc := "()V" } : Jvm.MethodName) "LastHatch") ∈ lw_tbl := lw_at lw_m8 65 rfl
theorem q1824 : (Jvm.Cond.fieldLink "LastHatch$Shorts" (7 : Nat) "LastHatch$Shorts" "row" "[S") ∈ lw_all := lw_g (lw_at lw_m8 66 rfl) rfl
theorem q1825 : (Jvm.Cond.laysFinal "LastHatch$Shorts" "LastHatch$Shorts" "row" "[S") ∈ lw_all := lw_g (lw_at lw_m8 67 rfl) rfl
theorem q1826 : (Jvm.Cond.soleField "LastHatch$Shorts" "row") ∈ lw_all := lw_g (lw_at lw_m8 68 rfl) rfl
theorem q1827 : (Jvm.Cond.superclass "LastHatch$Shorts" "LastHatch$Sheet") ∈ lw_all := lw_g (lw_at lw_m8 69 rfl) rfl
theorem q1856 : (Jvm.Cond.selects "LastHatch$Shorts" ({ cls := "LastHatch$Sheet", name := "width", desc := "()I" } : Jvm.MethodName) ({ cls := "LastHatch$Shorts", name := "width", desc := "()I" } : Jvm.MethodName)) ∈ lw_all := lw_g (lw_at lw_m8 98 rfl) rfl
theorem q1857 : (Jvm.Cond.instanceMethod ({ cls := "LastHatch$Shorts", name := "width", desc := "()I" } : Jvm.MethodName)) ∈ lw_all := lw_g (lw_at lw_m8 99 rfl) rfl
theorem q1858 : (Jvm.Cond.code ({ cls := "LastHatch$Shorts", name := "width", desc := "()I" } : Jvm.MethodName) prog_25_method_5_code (1 : Nat) (Option.some Jvm.ClassFile.FieldType.int)) ∈ lw_all := lw_g (lw_at lw_m8 100 rfl) rfl
theorem q1864 : (Jvm.Cond.selects "LastHatch$Shorts" ({ cls := "LastHatch$Sheet", name := "row", desc := "()[I" } : Jvm.MethodName) ({ cls := "LastHatch$Sheet", name := "row", desc := "()[I" } : Jvm.MethodName)) ∈ lw_all := lw_g (lw_at lw_m8 106 rfl) rfl
theorem q2529 : (Jvm.Cond.castable "LastHatch$Shorts" "LastHatch$Sheet") ∈ lw_tbl := lw_at lw_m11 51 rfl
theorem q2560 : (Jvm.Cond.castable "LastHatch$Shorts" "java/lang/Object") ∈ lw_tbl := lw_at lw_m11 82 rfl
theorem in_X29 : ∀ w ∈ wsX290, w ∈ lw_all := lw_in wsX290 [1825] (by decide +kernel) (by decide +kernel)

/-! LastHatch$Ints -/
set_option maxRecDepth 100000
def RX30 : String := "LastHatch$Ints"
def TX30 : u_T := fun k => match k with
  | _ => ("LastHatch$Ints", "row", "[I", true)
def tyX30 : Nat → FieldType := fun k => match k with
  | _ => .array .int
abbrev wsX300 : List Cond := u_ws RX30 TX30 1
theorem nmX30 : ∀ a, a < 1 → ∀ b, b < 1 → a ≠ b → (TX30 a).2.1 ≠ (TX30 b).2.1 := by decide +kernel
theorem tyX30_ok : ∀ k, k < 1 → parseFieldDescriptor (TX30 k).2.2.1 = some (tyX30 k) := by decide +kernel
abbrev cX30_put : ByteArray := prog_12_method_4_code
def yX30_put : MethodName := ⟨RX30, "put", "(II)V"⟩
def dkwX30_put_0 : List UInt8 := [42, 180, 0, 7, 27, 28, 79, 177]
abbrev dktX30_put_0 : List UInt8 := dkwX30_put_0 ++ []
theorem dksX30_put_0 : cX30_put.data.toList.drop 0 = dktX30_put_0 := by decide +kernel
theorem dX30_put_0 : decode cX30_put 0 = .ok (.aload_n 0, 1) := dk_42 (dk_at dksX30_put_0 0 rfl rfl)
theorem dX30_put_1 : decode cX30_put 1 = .ok (.getfield 7, 3) := dk_180 0 7 (dk_at dksX30_put_0 1 rfl rfl)
theorem dX30_put_4 : decode cX30_put 4 = .ok (.iload_n 1, 1) := dk_27 (dk_at dksX30_put_0 4 rfl rfl)
theorem dX30_put_5 : decode cX30_put 5 = .ok (.iload_n 2, 1) := dk_28 (dk_at dksX30_put_0 5 rfl rfl)
theorem dX30_put_6 : decode cX30_put 6 = .ok (.iastore, 1) := dk_79 (dk_at dksX30_put_0 6 rfl rfl)
theorem dX30_put_7 : decode cX30_put 7 = .ok (.return_, 1) := dk_177 (dk_at dksX30_put_0 7 rfl rfl)
abbrev cX30_size : ByteArray := prog_12_method_2_code
def yX30_size : MethodName := ⟨RX30, "size", "()I"⟩
def dkwX30_size_0 : List UInt8 := [42, 180, 0, 7, 190, 172]
abbrev dktX30_size_0 : List UInt8 := dkwX30_size_0 ++ []
theorem dksX30_size_0 : cX30_size.data.toList.drop 0 = dktX30_size_0 := by decide +kernel
theorem dX30_size_0 : decode cX30_size 0 = .ok (.aload_n 0, 1) := dk_42 (dk_at dksX30_size_0 0 rfl rfl)
theorem dX30_size_1 : decode cX30_size 1 = .ok (.getfield 7, 3) := dk_180 0 7 (dk_at dksX30_size_0 1 rfl rfl)
theorem dX30_size_4 : decode cX30_size 4 = .ok (.arraylength, 1) := dk_190 (dk_at dksX30_size_0 4 rfl rfl)
theorem dX30_size_5 : decode cX30_size 5 = .ok (.ireturn, 1) := dk_172 (dk_at dksX30_size_0 5 rfl rfl)
abbrev cX30_get : ByteArray := prog_12_method_3_code
def yX30_get : MethodName := ⟨RX30, "get", "(I)I"⟩
def dkwX30_get_0 : List UInt8 := [42, 180, 0, 7, 27, 46, 172]
abbrev dktX30_get_0 : List UInt8 := dkwX30_get_0 ++ []
theorem dksX30_get_0 : cX30_get.data.toList.drop 0 = dktX30_get_0 := by decide +kernel
theorem dX30_get_0 : decode cX30_get 0 = .ok (.aload_n 0, 1) := dk_42 (dk_at dksX30_get_0 0 rfl rfl)
theorem dX30_get_1 : decode cX30_get 1 = .ok (.getfield 7, 3) := dk_180 0 7 (dk_at dksX30_get_0 1 rfl rfl)
theorem dX30_get_4 : decode cX30_get 4 = .ok (.iload_n 1, 1) := dk_27 (dk_at dksX30_get_0 4 rfl rfl)
theorem dX30_get_5 : decode cX30_get 5 = .ok (.iaload, 1) := dk_46 (dk_at dksX30_get_0 5 rfl rfl)
theorem dX30_get_6 : decode cX30_get 6 = .ok (.ireturn, 1) := dk_172 (dk_at dksX30_get_0 6 rfl rfl)
abbrev cX30_init : ByteArray := prog_12_method_1_code
def yX30_init : MethodName := ⟨RX30, "<init>", "(I)V"⟩
def dkwX30_init_0 : List UInt8 := [42, 183, 0, 1, 42, 27, 188, 10, 181, 0, 7, 177]
abbrev dktX30_init_0 : List UInt8 := dkwX30_init_0 ++ []
theorem dksX30_init_0 : cX30_init.data.toList.drop 0 = dktX30_init_0 := by decide +kernel
theorem dX30_init_0 : decode cX30_init 0 = .ok (.aload_n 0, 1) := dk_42 (dk_at dksX30_init_0 0 rfl rfl)
theorem dX30_init_1 : decode cX30_init 1 = .ok (.invokespecial 1, 3) := dk_183 0 1 (dk_at dksX30_init_0 1 rfl rfl)
theorem dX30_init_4 : decode cX30_init 4 = .ok (.aload_n 0, 1) := dk_42 (dk_at dksX30_init_0 4 rfl rfl)
theorem dX30_init_5 : decode cX30_init 5 = .ok (.iload_n 1, 1) := dk_27 (dk_at dksX30_init_0 5 rfl rfl)
theorem dX30_init_6 : decode cX30_init 6 = .ok (.newarray .int, 2) := dk_188_10 (dk_at dksX30_init_0 6 rfl rfl)
theorem dX30_init_8 : decode cX30_init 8 = .ok (.putfield 7, 3) := dk_181 0 7 (dk_at dksX30_init_0 8 rfl rfl)
theorem dX30_init_11 : decode cX30_init 11 = .ok (.return_, 1) := dk_177 (dk_at dksX30_init_0 11 rfl rfl)
abbrev cX30_width : ByteArray := prog_12_method_5_code
def yX30_width : MethodName := ⟨RX30, "width", "()I"⟩
theorem dX30_width_0 : decode cX30_width 0 = .ok (.bipush 32, 2) := by decide +kernel
theorem dX30_width_2 : decode cX30_width 2 = .ok (.ireturn, 1) := by decide +kernel
theorem q126 : (Jvm.Cond.initialized "LastHatch$Ints") ∈ lw_all := lw_g (lw_at lw_m1 48 rfl) rfl
theorem q602 : (Jvm.Cond.selects "LastHatch$Ints" ({ cls := "java/lang/Object", name := "getClass", desc := "()Ljava/lang/Class;" } : Jvm.MethodName) ({ cls := "java/lang/Object", name := "getClass", desc := "()Ljava/lang/Class;" } : Jvm.MethodName)) ∈ lw_all := lw_g (lw_at lw_m3 44 rfl) rfl
theorem q1477 : (Jvm.Cond.selects "LastHatch$Ints" ({ cls := "LastHatch$Sheet", name := "put", desc := "(II)V" } : Jvm.MethodName) ({ cls := "LastHatch$Ints", name := "put", desc := "(II)V" } : Jvm.MethodName)) ∈ lw_all := lw_g (lw_at lw_m6 199 rfl) rfl
theorem q1478 : (Jvm.Cond.instanceMethod ({ cls := "LastHatch$Ints", name := "put", desc := "(II)V" } : Jvm.MethodName)) ∈ lw_all := lw_g (lw_at lw_m6 200 rfl) rfl
theorem q1479 : (Jvm.Cond.code ({ cls := "LastHatch$Ints", name := "put", desc := "(II)V" } : Jvm.MethodName) prog_12_method_4_code (3 : Nat) (Option.none : Option Jvm.ClassFile.FieldType)) ∈ lw_all := lw_g (lw_at lw_m6 201 rfl) rfl
theorem q1502 : (Jvm.Cond.selects "LastHatch$Ints" ({ cls := "LastHatch$Sheet", name := "size", desc := "()I" } : Jvm.MethodName) ({ cls := "LastHatch$Ints", name := "size", desc := "()I" } : Jvm.MethodName)) ∈ lw_all := lw_g (lw_at lw_m6 224 rfl) rfl
theorem q1503 : (Jvm.Cond.instanceMethod ({ cls := "LastHatch$Ints", name := "size", desc := "()I" } : Jvm.MethodName)) ∈ lw_all := lw_g (lw_at lw_m6 225 rfl) rfl
theorem q1504 : (Jvm.Cond.code ({ cls := "LastHatch$Ints", name := "size", desc := "()I" } : Jvm.MethodName) prog_12_method_2_code (1 : Nat) (Option.some Jvm.ClassFile.FieldType.int)) ∈ lw_all := lw_g (lw_at lw_m6 226 rfl) rfl
theorem q1514 : (Jvm.Cond.selects "LastHatch$Ints" ({ cls := "LastHatch$Sheet", name := "get", desc := "(I)I" } : Jvm.MethodName) ({ cls := "LastHatch$Ints", name := "get", desc := "(I)I" } : Jvm.MethodName)) ∈ lw_all := lw_g (lw_at lw_m6 236 rfl) rfl
theorem q1515 : (Jvm.Cond.instanceMethod ({ cls := "LastHatch$Ints", name := "get", desc := "(I)I" } : Jvm.MethodName)) ∈ lw_all := lw_g (lw_at lw_m6 237 rfl) rfl
theorem q1516 : (Jvm.Cond.code ({ cls := "LastHatch$Ints", name := "get", desc := "(I)I" } : Jvm.MethodName) prog_12_method_3_code (2 : Nat) (Option.some Jvm.ClassFile.FieldType.int)) ∈ lw_all := lw_g (lw_at lw_m6 238 rfl) rfl
theorem q1830 : (Jvm.Cond.instantiable "LastHatch$Ints" (1 : Nat)) ∈ lw_all := lw_g (lw_at lw_m8 72 rfl) rfl
theorem q1832 : (Jvm.Cond.instanceMethod ({ cls := "LastHatch$Ints", name := "<init>", desc := "(I)V" } : Jvm.MethodName)) ∈ lw_all := lw_g (lw_at lw_m8 74 rfl) rfl
theorem q1833 : (Jvm.Cond.code ({ cls := "LastHatch$Ints", name := "<init>", desc := "(I)V" } : Jvm.MethodName) prog_12_method_1_code (2 : Nat) (Option.none : Option Jvm.ClassFile.FieldType)) ∈ lw_all := lw_g (lw_at lw_m8 75 rfl) rfl
theorem q1834 : (Jvm.Cond.methodLinkNest "LastHatch$Ints" (1 : Nat) ({ cls := "LastHatch$Sheet", name := "<init>", desc := "()V" } : Jvm.MethodName) "LastHatch") ∈ lw_tbl := lw_at lw_m8 76 rfl
theorem q1835 : (Jvm.Cond.fieldLink "LastHatch$Ints" (7 : Nat) "LastHatch$Ints" "row" "[I") ∈ lw_all := lw_g (lw_at lw_m8 77 rfl) rfl
theorem q1836 : (Jvm.Cond.laysFinal "LastHatch$Ints" "LastHatch$Ints" "row" "[I") ∈ lw_all := lw_g (lw_at lw_m8 78 rfl) rfl
theorem q1837 : (Jvm.Cond.soleField "LastHatch$Ints" "row") ∈ lw_all := lw_g (lw_at lw_m8 79 rfl) rfl
theorem q1838 : (Jvm.Cond.superclass "LastHatch$Ints" "LastHatch$Sheet") ∈ lw_all := lw_g (lw_at lw_m8 80 rfl) rfl
theorem q1853 : (Jvm.Cond.selects "LastHatch$Ints" ({ cls := "LastHatch$Sheet", name := "width", desc := "()I" } : Jvm.MethodName) ({ cls := "LastHatch$Ints", name := "width", desc := "()I" } : Jvm.MethodName)) ∈ lw_all := lw_g (lw_at lw_m8 95 rfl) rfl
theorem q1854 : (Jvm.Cond.instanceMethod ({ cls := "LastHatch$Ints", name := "width", desc := "()I" } : Jvm.MethodName)) ∈ lw_all := lw_g (lw_at lw_m8 96 rfl) rfl
theorem q1855 : (Jvm.Cond.code ({ cls := "LastHatch$Ints", name := "width", desc := "()I" } : Jvm.MethodName) prog_12_method_5_code (1 : Nat) (Option.some Jvm.ClassFile.FieldType.int)) ∈ lw_all := lw_g (lw_at lw_m8 97 rfl) rfl
theorem q1863 : (Jvm.Cond.selects "LastHatch$Ints" ({ cls := "LastHatch$Sheet", name := "row", desc := "()[I" } : Jvm.MethodName) ({ cls := "LastHatch$Sheet", name := "row", desc := "()[I" } : Jvm.MethodName)) ∈ lw_all := lw_g (lw_at lw_m8 105 rfl) rfl
theorem q2528 : (Jvm.Cond.castable "LastHatch$Ints" "LastHatch$Sheet") ∈ lw_tbl := lw_at lw_m11 50 rfl
theorem q2561 : (Jvm.Cond.castable "LastHatch$Ints" "java/lang/Object") ∈ lw_tbl := lw_at lw_m11 83 rfl
theorem in_X30 : ∀ w ∈ wsX300, w ∈ lw_all := lw_in wsX300 [1836] (by decide +kernel) (by decide +kernel)
