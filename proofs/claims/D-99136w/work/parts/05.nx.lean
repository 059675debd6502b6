/-! DogsHour$Fault -/
set_option maxRecDepth 100000
def RX1 : String := "DogsHour$Fault"
def TX1 : u_T := fun k => match k with
  | 0 => ("java/lang/Throwable", "cause", "Ljava/lang/Throwable;", false)
  | 1 => ("java/lang/Throwable", "stackTrace", "[Ljava/lang/StackTraceElement;", false)
  | 2 => ("java/lang/Throwable", "suppressedExceptions", "Ljava/util/List;", false)
  | 3 => ("java/lang/Throwable", "detailMessage", "Ljava/lang/String;", false)
  | 4 => ("java/lang/Throwable", "backtrace", "Ljava/lang/Object;", false)
  | 5 => ("java/lang/Throwable", "depth", "I", false)
  | 6 => ("DogsHour$Fault", "number", "I", false)
  | _ => ("DogsHour$Fault", "place", "I", false)
def tyX1 : Nat → FieldType := fun k => match k with
  | 0 => .object "java/lang/Throwable"
  | 1 => .array (.object "java/lang/StackTraceElement")
  | 2 => .object "java/util/List"
  | 3 => .object "java/lang/String"
  | 4 => .object "java/lang/Object"
  | 5 => .int
  | 6 => .int
  | _ => .int
abbrev wsX10 : List Cond := u_ws RX1 TX1 8
theorem nmX1 : ∀ a, a < 8 → ∀ b, b < 8 → a ≠ b → (TX1 a).2.1 ≠ (TX1 b).2.1 := by decide +kernel
theorem tyX1_ok : ∀ k, k < 8 → parseFieldDescriptor (TX1 k).2.2.1 = some (tyX1 k) := by decide +kernel
abbrev cX1_init : ByteArray := prog_4_method_1_code
def yX1_init : MethodName := ⟨RX1, "<init>", "()V"⟩
def dkwX1_init_0 : List UInt8 := [42, 18, 1, 1, 3, 3, 183, 0, 3, 177]
abbrev dktX1_init_0 : List UInt8 := dkwX1_init_0 ++ []
theorem dksX1_init_0 : cX1_init.data.toList.drop 0 = dktX1_init_0 := by decide +kernel
theorem dX1_init_0 : decode cX1_init 0 = .ok (.aload_n 0, 1) := dk_42 (dk_at dksX1_init_0 0 rfl rfl)
theorem dX1_init_1 : decode cX1_init 1 = .ok (.ldc 1, 2) := dk_18 1 (dk_at dksX1_init_0 1 rfl rfl)
theorem dX1_init_3 : decode cX1_init 3 = .ok (.aconst_null, 1) := dk_1 (dk_at dksX1_init_0 3 rfl rfl)
theorem dX1_init_4 : decode cX1_init 4 = .ok (.iconst 0, 1) := dk_3 (dk_at dksX1_init_0 4 rfl rfl)
theorem dX1_init_5 : decode cX1_init 5 = .ok (.iconst 0, 1) := dk_3 (dk_at dksX1_init_0 5 rfl rfl)
theorem dX1_init_6 : decode cX1_init 6 = .ok (.invokespecial 3, 3) := dk_183 0 3 (dk_at dksX1_init_0 6 rfl rfl)
theorem dX1_init_9 : decode cX1_init 9 = .ok (.return_, 1) := dk_177 (dk_at dksX1_init_0 9 rfl rfl)
abbrev cX1_of : ByteArray := prog_4_method_2_code
def yX1_of : MethodName := ⟨RX1, "of", "(II)LDogsHour$Fault;"⟩
def dkwX1_of_0 : List UInt8 := [42, 27, 181, 0, 9, 42, 28, 181, 0, 15, 42, 176]
abbrev dktX1_of_0 : List UInt8 := dkwX1_of_0 ++ []
theorem dksX1_of_0 : cX1_of.data.toList.drop 0 = dktX1_of_0 := by decide +kernel
theorem dX1_of_0 : decode cX1_of 0 = .ok (.aload_n 0, 1) := dk_42 (dk_at dksX1_of_0 0 rfl rfl)
theorem dX1_of_1 : decode cX1_of 1 = .ok (.iload_n 1, 1) := dk_27 (dk_at dksX1_of_0 1 rfl rfl)
theorem dX1_of_2 : decode cX1_of 2 = .ok (.putfield 9, 3) := dk_181 0 9 (dk_at dksX1_of_0 2 rfl rfl)
theorem dX1_of_5 : decode cX1_of 5 = .ok (.aload_n 0, 1) := dk_42 (dk_at dksX1_of_0 5 rfl rfl)
theorem dX1_of_6 : decode cX1_of 6 = .ok (.iload_n 2, 1) := dk_28 (dk_at dksX1_of_0 6 rfl rfl)
theorem dX1_of_7 : decode cX1_of 7 = .ok (.putfield 15, 3) := dk_181 0 15 (dk_at dksX1_of_0 7 rfl rfl)
theorem dX1_of_10 : decode cX1_of 10 = .ok (.aload_n 0, 1) := dk_42 (dk_at dksX1_of_0 10 rfl rfl)
theorem dX1_of_11 : decode cX1_of 11 = .ok (.areturn, 1) := dk_176 (dk_at dksX1_of_0 11 rfl rfl)
theorem q125 : (Jvm.Cond.initialized "DogsHour$Fault") ∈ lw_all := lw_g (lw_at lw_m1 5 rfl) rfl
theorem q168 : (Jvm.Cond.instantiable "DogsHour$Fault" (8 : Nat)) ∈ lw_all := lw_g (lw_at lw_m1 48 rfl) rfl
theorem q169 : (Jvm.Cond.castable "DogsHour$Fault" "DogsHour$Fault") ∈ lw_tbl := lw_at lw_m1 49 rfl
theorem q176 : (Jvm.Cond.selects "DogsHour$Fault" ({ cls := "java/lang/Throwable", name := "fillInStackTrace", desc := "(I)Ljava/lang/Throwable;" } : Jvm.MethodName) ({ cls := "java/lang/Throwable", name := "fillInStackTrace", desc := "(I)Ljava/lang/Throwable;" } : Jvm.MethodName)) ∈ lw_all := lw_g (lw_at lw_m1 56 rfl) rfl
theorem q177 : (Jvm.Cond.selects "DogsHour$Fault" ({ cls := "java/lang/Throwable", name := "fillInStackTrace", desc := "()Ljava/lang/Throwable;" } : Jvm.MethodName) ({ cls := "java/lang/Throwable", name := "fillInStackTrace", desc := "()Ljava/lang/Throwable;" } : Jvm.MethodName)) ∈ lw_all := lw_g (lw_at lw_m1 57 rfl) rfl
theorem q178 : (Jvm.Cond.lays "DogsHour$Fault" "java/lang/Throwable" "cause" "Ljava/lang/Throwable;") ∈ lw_all := lw_g (lw_at lw_m1 58 rfl) rfl
theorem q180 : (Jvm.Cond.lays "DogsHour$Fault" "java/lang/Throwable" "stackTrace" "[Ljava/lang/StackTraceElement;") ∈ lw_all := lw_g (lw_at lw_m1 60 rfl) rfl
theorem q182 : (Jvm.Cond.lays "DogsHour$Fault" "java/lang/Throwable" "suppressedExceptions" "Ljava/util/List;") ∈ lw_all := lw_g (lw_at lw_m1 62 rfl) rfl
theorem q184 : (Jvm.Cond.lays "DogsHour$Fault" "java/lang/Throwable" "detailMessage" "Ljava/lang/String;") ∈ lw_all := lw_g (lw_at lw_m1 64 rfl) rfl
theorem q186 : (Jvm.Cond.lays "DogsHour$Fault" "java/lang/Throwable" "backtrace" "Ljava/lang/Object;") ∈ lw_all := lw_g (lw_at lw_m1 66 rfl) rfl
theorem q207 : (Jvm.Cond.instanceMethod ({ cls := "DogsHour$Fault", name := "<init>", desc := "()V" } : Jvm.MethodName)) ∈ lw_all := lw_g (lw_at lw_m1 87 rfl) rfl
theorem q208 : (Jvm.Cond.code ({ cls := "DogsHour$Fault", name := "<init>", desc := "()V" } : Jvm.MethodName) prog_4_method_1_code (1 : Nat) (Option.none : Option Jvm.ClassFile.FieldType)) ∈ lw_all := lw_g (lw_at lw_m1 88 rfl) rfl
theorem q209 : (Jvm.Cond.stringRef "DogsHour$Fault" (1 : Nat) "") ∈ lw_tbl := lw_at lw_m1 89 rfl
theorem q210 : (Jvm.Cond.methodLink "DogsHour$Fault" (3 : Nat) ({ cls := "java/lang/RuntimeException", name := "<init>", desc := "(Ljava/lang/String;Ljava/lang/Throwable;ZZ)V" } : Jvm.MethodName)) ∈ lw_all := lw_g (lw_at lw_m1 90 rfl) rfl
theorem q219 : (Jvm.Cond.fieldLink "DogsHour$Fault" (9 : Nat) "DogsHour$Fault" "number" "I") ∈ lw_all := lw_g (lw_at lw_m1 99 rfl) rfl
theorem q221 : (Jvm.Cond.fieldLink "DogsHour$Fault" (15 : Nat) "DogsHour$Fault" "place" "I") ∈ lw_all := lw_g (lw_at lw_m1 101 rfl) rfl
theorem q228 : (Jvm.Cond.lays "DogsHour$Fault" "DogsHour$Fault" "number" "I") ∈ lw_all := lw_g (lw_at lw_m1 108 rfl) rfl
theorem q229 : (Jvm.Cond.soleField "DogsHour$Fault" "number") ∈ lw_all := lw_g (lw_at lw_m1 109 rfl) rfl
theorem q230 : (Jvm.Cond.lays "DogsHour$Fault" "DogsHour$Fault" "place" "I") ∈ lw_all := lw_g (lw_at lw_m1 110 rfl) rfl
theorem q231 : (Jvm.Cond.soleField "DogsHour$Fault" "place") ∈ lw_all := lw_g (lw_at lw_m1 111 rfl) rfl
theorem q236 : (Jvm.Cond.lays "DogsHour$Fault" "java/lang/Throwable" "depth" "I") ∈ lw_all := lw_g (lw_at lw_m1 116 rfl) rfl
theorem q239 : (Jvm.Cond.superclass "DogsHour$Fault" "java/lang/RuntimeException") ∈ lw_all := lw_g (lw_at lw_m1 119 rfl) rfl
theorem q720 : (Jvm.Cond.instanceMethod ({ cls := "DogsHour$Fault", name := "of", desc := "(II)LDogsHour$Fault;" } : Jvm.MethodName)) ∈ lw_all := lw_g (lw_at lw_m3 120 rfl) rfl
theorem q721 : (Jvm.Cond.selects "DogsHour$Fault" ({ cls := "DogsHour$Fault", name := "of", desc := "(II)LDogsHour$Fault;" } : Jvm.MethodName) ({ cls := "DogsHour$Fault", name := "of", desc := "(II)LDogsHour$Fault;" } : Jvm.MethodName)) ∈ lw_all := lw_g (lw_at lw_m3 121 rfl) rfl
theorem q722 : (Jvm.Cond.code ({ cls := "DogsHour$Fault", name := "of", desc := "(II)LDogsHour$Fault;" } : Jvm.MethodName) prog_4_method_2_code (3 : Nat) (Option.some (Jvm.ClassFile.FieldType.object "DogsHour$Fault"))) ∈ lw_all := lw_g (lw_at lw_m3 122 rfl) rfl
theorem q1077 : (Jvm.Cond.selects "DogsHour$Fault" ({ cls := "java/lang/Object", name := "getClass", desc := "()Ljava/lang/Class;" } : Jvm.MethodName) ({ cls := "java/lang/Object", name := "getClass", desc := "()Ljava/lang/Class;" } : Jvm.MethodName)) ∈ lw_all := lw_g (lw_at lw_m4 237 rfl) rfl
theorem q2177 : (Jvm.Cond.castable "DogsHour$Fault" "java/lang/Object") ∈ lw_tbl := lw_at lw_m9 137 rfl
theorem in_X1 : ∀ w ∈ wsX10, w ∈ lw_all := lw_in wsX10 [178, 180, 182, 184, 186, 236, 228, 230] (by decide +kernel) (by decide +kernel)
/-! DogsHour$Tokens -/
set_option maxRecDepth 100000
def RX2 : String := "DogsHour$Tokens"
def TX2 : u_T := fun k => match k with
  | 0 => ("DogsHour$Tokens", "words", "[Ljava/lang/String;", true)
  | 1 => ("DogsHour$Tokens", "tape", "[B", true)
  | 2 => ("DogsHour$Tokens", "taped", "I", false)
  | 3 => ("DogsHour$Tokens", "sort", "[B", true)
  | 4 => ("DogsHour$Tokens", "from", "[S", true)
  | 5 => ("DogsHour$Tokens", "to", "[S", true)
  | 6 => ("DogsHour$Tokens", "what", "[S", true)
  | _ => ("DogsHour$Tokens", "many", "I", false)
def tyX2 : Nat → FieldType := fun k => match k with
  | 0 => .array (.object "java/lang/String")
  | 1 => .array .byte
  | 2 => .int
  | 3 => .array .byte
  | 4 => .array .short
  | 5 => .array .short
  | 6 => .array .short
  | _ => .int
abbrev wsX20 : List Cond := u_ws RX2 TX2 8
theorem nmX2 : ∀ a, a < 8 → ∀ b, b < 8 → a ≠ b → (TX2 a).2.1 ≠ (TX2 b).2.1 := by decide +kernel
theorem tyX2_ok : ∀ k, k < 8 → parseFieldDescriptor (TX2 k).2.2.1 = some (tyX2 k) := by decide +kernel
abbrev cX2_init : ByteArray := prog_17_method_1_code
def yX2_init : MethodName := ⟨RX2, "<init>", "()V"⟩
def dkwX2_init_8 : List UInt8 := [181, 0, 77, 177]
abbrev dktX2_init_8 : List UInt8 := dkwX2_init_8 ++ []
def dkwX2_init_7 : List UInt8 := [17, 7, 209, 188, 9, 181, 0, 70, 42, 17, 7, 209, 188, 9, 181, 0, 74, 42, 17, 7, 209, 188, 9]
abbrev dktX2_init_7 : List UInt8 := dkwX2_init_7 ++ dktX2_init_8
def dkwX2_init_6 : List UInt8 := [181, 0, 57, 42, 17, 7, 208, 188, 8, 181, 0, 63, 42, 17, 7, 209, 188, 8, 181, 0, 67, 42]
abbrev dktX2_init_6 : List UInt8 := dkwX2_init_6 ++ dktX2_init_7
def dkwX2_init_5 : List UInt8 := [16, 19, 18, 49, 83, 89, 16, 20, 18, 51, 83, 89, 16, 21, 18, 53, 83, 89, 16, 22, 18, 55, 83]
abbrev dktX2_init_5 : List UInt8 := dkwX2_init_5 ++ dktX2_init_6
def dkwX2_init_4 : List UInt8 := [16, 15, 18, 41, 83, 89, 16, 16, 18, 43, 83, 89, 16, 17, 18, 45, 83, 89, 16, 18, 18, 47, 83, 89]
abbrev dktX2_init_4 : List UInt8 := dkwX2_init_4 ++ dktX2_init_5
def dkwX2_init_3 : List UInt8 := [16, 11, 18, 33, 83, 89, 16, 12, 18, 35, 83, 89, 16, 13, 18, 37, 83, 89, 16, 14, 18, 39, 83, 89]
abbrev dktX2_init_3 : List UInt8 := dkwX2_init_3 ++ dktX2_init_4
def dkwX2_init_2 : List UInt8 := [16, 7, 18, 25, 83, 89, 16, 8, 18, 27, 83, 89, 16, 9, 18, 29, 83, 89, 16, 10, 18, 31, 83, 89]
abbrev dktX2_init_2 : List UInt8 := dkwX2_init_2 ++ dktX2_init_3
def dkwX2_init_1 : List UInt8 := [83, 89, 6, 18, 17, 83, 89, 7, 18, 19, 83, 89, 8, 18, 21, 83, 89, 16, 6, 18, 23, 83, 89]
abbrev dktX2_init_1 : List UInt8 := dkwX2_init_1 ++ dktX2_init_2
def dkwX2_init_0 : List UInt8 := [42, 183, 0, 3, 42, 16, 23, 189, 0, 9, 89, 3, 18, 11, 83, 89, 4, 18, 13, 83, 89, 5, 18, 15]
abbrev dktX2_init_0 : List UInt8 := dkwX2_init_0 ++ dktX2_init_1
theorem dksX2_init_0 : cX2_init.data.toList.drop 0 = dktX2_init_0 := by decide +kernel
theorem dksX2_init_1 : cX2_init.data.toList.drop 24 = dktX2_init_1 := dk_seg dksX2_init_0 24 rfl rfl
theorem dksX2_init_2 : cX2_init.data.toList.drop 47 = dktX2_init_2 := dk_seg dksX2_init_1 23 rfl rfl
theorem dksX2_init_3 : cX2_init.data.toList.drop 71 = dktX2_init_3 := dk_seg dksX2_init_2 24 rfl rfl
theorem dksX2_init_4 : cX2_init.data.toList.drop 95 = dktX2_init_4 := dk_seg dksX2_init_3 24 rfl rfl
theorem dksX2_init_5 : cX2_init.data.toList.drop 119 = dktX2_init_5 := dk_seg dksX2_init_4 24 rfl rfl
theorem dksX2_init_6 : cX2_init.data.toList.drop 142 = dktX2_init_6 := dk_seg dksX2_init_5 23 rfl rfl
theorem dksX2_init_7 : cX2_init.data.toList.drop 164 = dktX2_init_7 := dk_seg dksX2_init_6 22 rfl rfl
theorem dksX2_init_8 : cX2_init.data.toList.drop 187 = dktX2_init_8 := dk_seg dksX2_init_7 23 rfl rfl
theorem dX2_init_0 : decode cX2_init 0 = .ok (.aload_n 0, 1) := dk_42 (dk_at dksX2_init_0 0 rfl rfl)
theorem dX2_init_1 : decode cX2_init 1 = .ok (.invokespecial 3, 3) := dk_183 0 3 (dk_at dksX2_init_0 1 rfl rfl)
theorem dX2_init_4 : decode cX2_init 4 = .ok (.aload_n 0, 1) := dk_42 (dk_at dksX2_init_0 4 rfl rfl)
theorem dX2_init_5 : decode cX2_init 5 = .ok (.bipush 23, 2) := dk_16 23 (dk_at dksX2_init_0 5 rfl rfl)
theorem dX2_init_7 : decode cX2_init 7 = .ok (.anewarray 9, 3) := dk_189 0 9 (dk_at dksX2_init_0 7 rfl rfl)
theorem dX2_init_10 : decode cX2_init 10 = .ok (.dup, 1) := dk_89 (dk_at dksX2_init_0 10 rfl rfl)
theorem dX2_init_11 : decode cX2_init 11 = .ok (.iconst 0, 1) := dk_3 (dk_at dksX2_init_0 11 rfl rfl)
theorem dX2_init_12 : decode cX2_init 12 = .ok (.ldc 11, 2) := dk_18 11 (dk_at dksX2_init_0 12 rfl rfl)
theorem dX2_init_14 : decode cX2_init 14 = .ok (.aastore, 1) := dk_83 (dk_at dksX2_init_0 14 rfl rfl)
theorem dX2_init_15 : decode cX2_init 15 = .ok (.dup, 1) := dk_89 (dk_at dksX2_init_0 15 rfl rfl)
theorem dX2_init_16 : decode cX2_init 16 = .ok (.iconst 1, 1) := dk_4 (dk_at dksX2_init_0 16 rfl rfl)
theorem dX2_init_17 : decode cX2_init 17 = .ok (.ldc 13, 2) := dk_18 13 (dk_at dksX2_init_0 17 rfl rfl)
theorem dX2_init_19 : decode cX2_init 19 = .ok (.aastore, 1) := dk_83 (dk_at dksX2_init_0 19 rfl rfl)
theorem dX2_init_20 : decode cX2_init 20 = .ok (.dup, 1) := dk_89 (dk_at dksX2_init_0 20 rfl rfl)
theorem dX2_init_21 : decode cX2_init 21 = .ok (.iconst 2, 1) := dk_5 (dk_at dksX2_init_0 21 rfl rfl)
theorem dX2_init_22 : decode cX2_init 22 = .ok (.ldc 15, 2) := dk_18 15 (dk_at dksX2_init_0 22 rfl rfl)
theorem dX2_init_24 : decode cX2_init 24 = .ok (.aastore, 1) := dk_83 (dk_at dksX2_init_1 0 rfl rfl)
theorem dX2_init_25 : decode cX2_init 25 = .ok (.dup, 1) := dk_89 (dk_at dksX2_init_1 1 rfl rfl)
theorem dX2_init_26 : decode cX2_init 26 = .ok (.iconst 3, 1) := dk_6 (dk_at dksX2_init_1 2 rfl rfl)
theorem dX2_init_27 : decode cX2_init 27 = .ok (.ldc 17, 2) := dk_18 17 (dk_at dksX2_init_1 3 rfl rfl)
theorem dX2_init_29 : decode cX2_init 29 = .ok (.aastore, 1) := dk_83 (dk_at dksX2_init_1 5 rfl rfl)
theorem dX2_init_30 : decode cX2_init 30 = .ok (.dup, 1) := dk_89 (dk_at dksX2_init_1 6 rfl rfl)
theorem dX2_init_31 : decode cX2_init 31 = .ok (.iconst 4, 1) := dk_7 (dk_at dksX2_init_1 7 rfl rfl)
theorem dX2_init_32 : decode cX2_init 32 = .ok (.ldc 19, 2) := dk_18 19 (dk_at dksX2_init_1 8 rfl rfl)
theorem dX2_init_34 : decode cX2_init 34 = .ok (.aastore, 1) := dk_83 (dk_at dksX2_init_1 10 rfl rfl)
theorem dX2_init_35 : decode cX2_init 35 = .ok (.dup, 1) := dk_89 (dk_at dksX2_init_1 11 rfl rfl)
theorem dX2_init_36 : decode cX2_init 36 = .ok (.iconst 5, 1) := dk_8 (dk_at dksX2_init_1 12 rfl rfl)
theorem dX2_init_37 : decode cX2_init 37 = .ok (.ldc 21, 2) := dk_18 21 (dk_at dksX2_init_1 13 rfl rfl)
theorem dX2_init_39 : decode cX2_init 39 = .ok (.aastore, 1) := dk_83 (dk_at dksX2_init_1 15 rfl rfl)
theorem dX2_init_40 : decode cX2_init 40 = .ok (.dup, 1) := dk_89 (dk_at dksX2_init_1 16 rfl rfl)
theorem dX2_init_41 : decode cX2_init 41 = .ok (.bipush 6, 2) := dk_16 6 (dk_at dksX2_init_1 17 rfl rfl)
theorem dX2_init_43 : decode cX2_init 43 = .ok (.ldc 23, 2) := dk_18 23 (dk_at dksX2_init_1 19 rfl rfl)
theorem dX2_init_45 : decode cX2_init 45 = .ok (.aastore, 1) := dk_83 (dk_at dksX2_init_1 21 rfl rfl)
theorem dX2_init_46 : decode cX2_init 46 = .ok (.dup, 1) := dk_89 (dk_at dksX2_init_1 22 rfl rfl)
theorem dX2_init_47 : decode cX2_init 47 = .ok (.bipush 7, 2) := dk_16 7 (dk_at dksX2_init_2 0 rfl rfl)
theorem dX2_init_49 : decode cX2_init 49 = .ok (.ldc 25, 2) := dk_18 25 (dk_at dksX2_init_2 2 rfl rfl)
theorem dX2_init_51 : decode cX2_init 51 = .ok (.aastore, 1) := dk_83 (dk_at dksX2_init_2 4 rfl rfl)
theorem dX2_init_52 : decode cX2_init 52 = .ok (.dup, 1) := dk_89 (dk_at dksX2_init_2 5 rfl rfl)
theorem dX2_init_53 : decode cX2_init 53 = .ok (.bipush 8, 2) := dk_16 8 (dk_at dksX2_init_2 6 rfl rfl)
theorem dX2_init_55 : decode cX2_init 55 = .ok (.ldc 27, 2) := dk_18 27 (dk_at dksX2_init_2 8 rfl rfl)
theorem dX2_init_57 : decode cX2_init 57 = .ok (.aastore, 1) := dk_83 (dk_at dksX2_init_2 10 rfl rfl)
theorem dX2_init_58 : decode cX2_init 58 = .ok (.dup, 1) := dk_89 (dk_at dksX2_init_2 11 rfl rfl)
theorem dX2_init_59 : decode cX2_init 59 = .ok (.bipush 9, 2) := dk_16 9 (dk_at dksX2_init_2 12 rfl rfl)
theorem dX2_init_61 : decode cX2_init 61 = .ok (.ldc 29, 2) := dk_18 29 (dk_at dksX2_init_2 14 rfl rfl)
theorem dX2_init_63 : decode cX2_init 63 = .ok (.aastore, 1) := dk_83 (dk_at dksX2_init_2 16 rfl rfl)
theorem dX2_init_64 : decode cX2_init 64 = .ok (.dup, 1) := dk_89 (dk_at dksX2_init_2 17 rfl rfl)
theorem dX2_init_65 : decode cX2_init 65 = .ok (.bipush 10, 2) := dk_16 10 (dk_at dksX2_init_2 18 rfl rfl)
theorem dX2_init_67 : decode cX2_init 67 = .ok (.ldc 31, 2) := dk_18 31 (dk_at dksX2_init_2 20 rfl rfl)
theorem dX2_init_69 : decode cX2_init 69 = .ok (.aastore, 1) := dk_83 (dk_at dksX2_init_2 22 rfl rfl)
theorem dX2_init_70 : decode cX2_init 70 = .ok (.dup, 1) := dk_89 (dk_at dksX2_init_2 23 rfl rfl)
theorem dX2_init_71 : decode cX2_init 71 = .ok (.bipush 11, 2) := dk_16 11 (dk_at dksX2_init_3 0 rfl rfl)
theorem dX2_init_73 : decode cX2_init 73 = .ok (.ldc 33, 2) := dk_18 33 (dk_at dksX2_init_3 2 rfl rfl)
theorem dX2_init_75 : decode cX2_init 75 = .ok (.aastore, 1) := dk_83 (dk_at dksX2_init_3 4 rfl rfl)
theorem dX2_init_76 : decode cX2_init 76 = .ok (.dup, 1) := dk_89 (dk_at dksX2_init_3 5 rfl rfl)
theorem dX2_init_77 : decode cX2_init 77 = .ok (.bipush 12, 2) := dk_16 12 (dk_at dksX2_init_3 6 rfl rfl)
theorem dX2_init_79 : decode cX2_init 79 = .ok (.ldc 35, 2) := dk_18 35 (dk_at dksX2_init_3 8 rfl rfl)
theorem dX2_init_81 : decode cX2_init 81 = .ok (.aastore, 1) := dk_83 (dk_at dksX2_init_3 10 rfl rfl)
theorem dX2_init_82 : decode cX2_init 82 = .ok (.dup, 1) := dk_89 (dk_at dksX2_init_3 11 rfl rfl)
theorem dX2_init_83 : decode cX2_init 83 = .ok (.bipush 13, 2) := dk_16 13 (dk_at dksX2_init_3 12 rfl rfl)
theorem dX2_init_85 : decode cX2_init 85 = .ok (.ldc 37, 2) := dk_18 37 (dk_at dksX2_init_3 14 rfl rfl)
theorem dX2_init_87 : decode cX2_init 87 = .ok (.aastore, 1) := dk_83 (dk_at dksX2_init_3 16 rfl rfl)
theorem dX2_init_88 : decode cX2_init 88 = .ok (.dup, 1) := dk_89 (dk_at dksX2_init_3 17 rfl rfl)
theorem dX2_init_89 : decode cX2_init 89 = .ok (.bipush 14, 2) := dk_16 14 (dk_at dksX2_init_3 18 rfl rfl)
theorem dX2_init_91 : decode cX2_init 91 = .ok (.ldc 39, 2) := dk_18 39 (dk_at dksX2_init_3 20 rfl rfl)
theorem dX2_init_93 : decode cX2_init 93 = .ok (.aastore, 1) := dk_83 (dk_at dksX2_init_3 22 rfl rfl)
theorem dX2_init_94 : decode cX2_init 94 = .ok (.dup, 1) := dk_89 (dk_at dksX2_init_3 23 rfl rfl)
theorem dX2_init_95 : decode cX2_init 95 = .ok (.bipush 15, 2) := dk_16 15 (dk_at dksX2_init_4 0 rfl rfl)
theorem dX2_init_97 : decode cX2_init 97 = .ok (.ldc 41, 2) := dk_18 41 (dk_at dksX2_init_4 2 rfl rfl)
theorem dX2_init_99 : decode cX2_init 99 = .ok (.aastore, 1) := dk_83 (dk_at dksX2_init_4 4 rfl rfl)
theorem dX2_init_100 : decode cX2_init 100 = .ok (.dup, 1) := dk_89 (dk_at dksX2_init_4 5 rfl rfl)
theorem dX2_init_101 : decode cX2_init 101 = .ok (.bipush 16, 2) := dk_16 16 (dk_at dksX2_init_4 6 rfl rfl)
theorem dX2_init_103 : decode cX2_init 103 = .ok (.ldc 43, 2) := dk_18 43 (dk_at dksX2_init_4 8 rfl rfl)
theorem dX2_init_105 : decode cX2_init 105 = .ok (.aastore, 1) := dk_83 (dk_at dksX2_init_4 10 rfl rfl)
theorem dX2_init_106 : decode cX2_init 106 = .ok (.dup, 1) := dk_89 (dk_at dksX2_init_4 11 rfl rfl)
theorem dX2_init_107 : decode cX2_init 107 = .ok (.bipush 17, 2) := dk_16 17 (dk_at dksX2_init_4 12 rfl rfl)
theorem dX2_init_109 : decode cX2_init 109 = .ok (.ldc 45, 2) := dk_18 45 (dk_at dksX2_init_4 14 rfl rfl)
theorem dX2_init_111 : decode cX2_init 111 = .ok (.aastore, 1) := dk_83 (dk_at dksX2_init_4 16 rfl rfl)
theorem dX2_init_112 : decode cX2_init 112 = .ok (.dup, 1) := dk_89 (dk_at dksX2_init_4 17 rfl rfl)
theorem dX2_init_113 : decode cX2_init 113 = .ok (.bipush 18, 2) := dk_16 18 (dk_at dksX2_init_4 18 rfl rfl)
theorem dX2_init_115 : decode cX2_init 115 = .ok (.ldc 47, 2) := dk_18 47 (dk_at dksX2_init_4 20 rfl rfl)
theorem dX2_init_117 : decode cX2_init 117 = .ok (.aastore, 1) := dk_83 (dk_at dksX2_init_4 22 rfl rfl)
theorem dX2_init_118 : decode cX2_init 118 = .ok (.dup, 1) := dk_89 (dk_at dksX2_init_4 23 rfl rfl)
theorem dX2_init_119 : decode cX2_init 119 = .ok (.bipush 19, 2) := dk_16 19 (dk_at dksX2_init_5 0 rfl rfl)
theorem dX2_init_121 : decode cX2_init 121 = .ok (.ldc 49, 2) := dk_18 49 (dk_at dksX2_init_5 2 rfl rfl)
theorem dX2_init_123 : decode cX2_init 123 = .ok (.aastore, 1) := dk_83 (dk_at dksX2_init_5 4 rfl rfl)
theorem dX2_init_124 : decode cX2_init 124 = .ok (.dup, 1) := dk_89 (dk_at dksX2_init_5 5 rfl rfl)
theorem dX2_init_125 : decode cX2_init 125 = .ok (.bipush 20, 2) := dk_16 20 (dk_at dksX2_init_5 6 rfl rfl)
theorem dX2_init_127 : decode cX2_init 127 = .ok (.ldc 51, 2) := dk_18 51 (dk_at dksX2_init_5 8 rfl rfl)
theorem dX2_init_129 : decode cX2_init 129 = .ok (.aastore, 1) := dk_83 (dk_at dksX2_init_5 10 rfl rfl)
theorem dX2_init_130 : decode cX2_init 130 = .ok (.dup, 1) := dk_89 (dk_at dksX2_init_5 11 rfl rfl)
theorem dX2_init_131 : decode cX2_init 131 = .ok (.bipush 21, 2) := dk_16 21 (dk_at dksX2_init_5 12 rfl rfl)
theorem dX2_init_133 : decode cX2_init 133 = .ok (.ldc 53, 2) := dk_18 53 (dk_at dksX2_init_5 14 rfl rfl)
theorem dX2_init_135 : decode cX2_init 135 = .ok (.aastore, 1) := dk_83 (dk_at dksX2_init_5 16 rfl rfl)
theorem dX2_init_136 : decode cX2_init 136 = .ok (.dup, 1) := dk_89 (dk_at dksX2_init_5 17 rfl rfl)
theorem dX2_init_137 : decode cX2_init 137 = .ok (.bipush 22, 2) := dk_16 22 (dk_at dksX2_init_5 18 rfl rfl)
theorem dX2_init_139 : decode cX2_init 139 = .ok (.ldc 55, 2) := dk_18 55 (dk_at dksX2_init_5 20 rfl rfl)
theorem dX2_init_141 : decode cX2_init 141 = .ok (.aastore, 1) := dk_83 (dk_at dksX2_init_5 22 rfl rfl)
theorem dX2_init_142 : decode cX2_init 142 = .ok (.putfield 57, 3) := dk_181 0 57 (dk_at dksX2_init_6 0 rfl rfl)
theorem dX2_init_145 : decode cX2_init 145 = .ok (.aload_n 0, 1) := dk_42 (dk_at dksX2_init_6 3 rfl rfl)
theorem dX2_init_146 : decode cX2_init 146 = .ok (.sipush 2000, 3) := dk_17 7 208 (dk_at dksX2_init_6 4 rfl rfl)
theorem dX2_init_149 : decode cX2_init 149 = .ok (.newarray .byte, 2) := dk_188_8 (dk_at dksX2_init_6 7 rfl rfl)
theorem dX2_init_151 : decode cX2_init 151 = .ok (.putfield 63, 3) := dk_181 0 63 (dk_at dksX2_init_6 9 rfl rfl)
theorem dX2_init_154 : decode cX2_init 154 = .ok (.aload_n 0, 1) := dk_42 (dk_at dksX2_init_6 12 rfl rfl)
theorem dX2_init_155 : decode cX2_init 155 = .ok (.sipush 2001, 3) := dk_17 7 209 (dk_at dksX2_init_6 13 rfl rfl)
theorem dX2_init_158 : decode cX2_init 158 = .ok (.newarray .byte, 2) := dk_188_8 (dk_at dksX2_init_6 16 rfl rfl)
theorem dX2_init_160 : decode cX2_init 160 = .ok (.putfield 67, 3) := dk_181 0 67 (dk_at dksX2_init_6 18 rfl rfl)
theorem dX2_init_163 : decode cX2_init 163 = .ok (.aload_n 0, 1) := dk_42 (dk_at dksX2_init_6 21 rfl rfl)
theorem dX2_init_164 : decode cX2_init 164 = .ok (.sipush 2001, 3) := dk_17 7 209 (dk_at dksX2_init_7 0 rfl rfl)
theorem dX2_init_167 : decode cX2_init 167 = .ok (.newarray .short, 2) := dk_188_9 (dk_at dksX2_init_7 3 rfl rfl)
theorem dX2_init_169 : decode cX2_init 169 = .ok (.putfield 70, 3) := dk_181 0 70 (dk_at dksX2_init_7 5 rfl rfl)
theorem dX2_init_172 : decode cX2_init 172 = .ok (.aload_n 0, 1) := dk_42 (dk_at dksX2_init_7 8 rfl rfl)
theorem dX2_init_173 : decode cX2_init 173 = .ok (.sipush 2001, 3) := dk_17 7 209 (dk_at dksX2_init_7 9 rfl rfl)
theorem dX2_init_176 : decode cX2_init 176 = .ok (.newarray .short, 2) := dk_188_9 (dk_at dksX2_init_7 12 rfl rfl)
theorem dX2_init_178 : decode cX2_init 178 = .ok (.putfield 74, 3) := dk_181 0 74 (dk_at dksX2_init_7 14 rfl rfl)
theorem dX2_init_181 : decode cX2_init 181 = .ok (.aload_n 0, 1) := dk_42 (dk_at dksX2_init_7 17 rfl rfl)
theorem dX2_init_182 : decode cX2_init 182 = .ok (.sipush 2001, 3) := dk_17 7 209 (dk_at dksX2_init_7 18 rfl rfl)
theorem dX2_init_185 : decode cX2_init 185 = .ok (.newarray .short, 2) := dk_188_9 (dk_at dksX2_init_7 21 rfl rfl)
theorem dX2_init_187 : decode cX2_init 187 = .ok (.putfield 77, 3) := dk_181 0 77 (dk_at dksX2_init_8 0 rfl rfl)
theorem dX2_init_190 : decode cX2_init 190 = .ok (.return_, 1) := dk_177 (dk_at dksX2_init_8 3 rfl rfl)
abbrev cX2_read : ByteArray := prog_17_method_8_code
def yX2_read : MethodName := ⟨RX2, "read", "()V"⟩
def dkwX2_read_9 : List UInt8 := [61, 21, 4, 60, 167, 255, 53, 28, 153, 0, 11, 42, 7, 27, 27, 3, 182, 0, 113, 177]
abbrev dktX2_read_9 : List UInt8 := dkwX2_read_9 ++ []
def dkwX2_read_8 : List UInt8 := [54, 5, 42, 21, 5, 27, 21, 4, 21, 6, 182, 0, 113, 21, 5, 8, 159, 0, 7, 4, 167, 0, 4, 3]
abbrev dktX2_read_8 : List UInt8 := dkwX2_read_8 ++ dktX2_read_9
def dkwX2_read_7 : List UInt8 := [4, 54, 5, 167, 0, 22, 42, 27, 182, 0, 110, 54, 6, 21, 6, 154, 0, 7, 8, 167, 0, 4, 5]
abbrev dktX2_read_7 : List UInt8 := dkwX2_read_7 ++ dktX2_read_8
def dkwX2_read_6 : List UInt8 := [182, 0, 107, 153, 0, 9, 132, 4, 1, 167, 255, 244, 21, 4, 27, 100, 7, 164, 0, 7, 8, 167, 0, 4]
abbrev dktX2_read_6 : List UInt8 := dkwX2_read_6 ++ dktX2_read_7
def dkwX2_read_5 : List UInt8 := [164, 0, 7, 8, 167, 0, 4, 3, 54, 5, 167, 0, 63, 42, 27, 182, 0, 107, 153, 0, 36, 42, 21, 4]
abbrev dktX2_read_5 : List UInt8 := dkwX2_read_5 ++ dktX2_read_6
def dkwX2_read_4 : List UInt8 := [21, 4, 182, 0, 103, 54, 6, 21, 6, 155, 0, 7, 6, 167, 0, 17, 21, 4, 27, 100, 16, 8]
abbrev dktX2_read_4 : List UInt8 := dkwX2_read_4 ++ dktX2_read_5
def dkwX2_read_3 : List UInt8 := [182, 0, 99, 153, 0, 55, 42, 21, 4, 182, 0, 99, 153, 0, 9, 132, 4, 1, 167, 255, 244, 42, 27]
abbrev dktX2_read_3 : List UInt8 := dkwX2_read_3 ++ dktX2_read_4
def dkwX2_read_2 : List UInt8 := [16, 10, 159, 0, 9, 29, 16, 13, 160, 0, 9, 132, 1, 1, 167, 255, 205, 3, 54, 6, 42, 27]
abbrev dktX2_read_2 : List UInt8 := dkwX2_read_2 ++ dktX2_read_3
def dkwX2_read_1 : List UInt8 := [180, 0, 63, 27, 51, 62, 27, 4, 96, 54, 4, 29, 16, 32, 159, 0, 21, 29, 16, 9, 159, 0, 15, 29]
abbrev dktX2_read_1 : List UInt8 := dkwX2_read_1 ++ dktX2_read_2
def dkwX2_read_0 : List UInt8 := [42, 3, 181, 0, 88, 3, 60, 4, 61, 27, 42, 180, 0, 80, 162, 0, 201, 28, 153, 0, 197, 42]
abbrev dktX2_read_0 : List UInt8 := dkwX2_read_0 ++ dktX2_read_1
theorem dksX2_read_0 : cX2_read.data.toList.drop 0 = dktX2_read_0 := by decide +kernel
theorem dksX2_read_1 : cX2_read.data.toList.drop 22 = dktX2_read_1 := dk_seg dksX2_read_0 22 rfl rfl
theorem dksX2_read_2 : cX2_read.data.toList.drop 46 = dktX2_read_2 := dk_seg dksX2_read_1 24 rfl rfl
theorem dksX2_read_3 : cX2_read.data.toList.drop 68 = dktX2_read_3 := dk_seg dksX2_read_2 22 rfl rfl
theorem dksX2_read_4 : cX2_read.data.toList.drop 91 = dktX2_read_4 := dk_seg dksX2_read_3 23 rfl rfl
theorem dksX2_read_5 : cX2_read.data.toList.drop 113 = dktX2_read_5 := dk_seg dksX2_read_4 22 rfl rfl
theorem dksX2_read_6 : cX2_read.data.toList.drop 137 = dktX2_read_6 := dk_seg dksX2_read_5 24 rfl rfl
theorem dksX2_read_7 : cX2_read.data.toList.drop 161 = dktX2_read_7 := dk_seg dksX2_read_6 24 rfl rfl
theorem dksX2_read_8 : cX2_read.data.toList.drop 184 = dktX2_read_8 := dk_seg dksX2_read_7 23 rfl rfl
theorem dksX2_read_9 : cX2_read.data.toList.drop 208 = dktX2_read_9 := dk_seg dksX2_read_8 24 rfl rfl
theorem dX2_read_0 : decode cX2_read 0 = .ok (.aload_n 0, 1) := dk_42 (dk_at dksX2_read_0 0 rfl rfl)
theorem dX2_read_1 : decode cX2_read 1 = .ok (.iconst 0, 1) := dk_3 (dk_at dksX2_read_0 1 rfl rfl)
theorem dX2_read_2 : decode cX2_read 2 = .ok (.putfield 88, 3) := dk_181 0 88 (dk_at dksX2_read_0 2 rfl rfl)
theorem dX2_read_5 : decode cX2_read 5 = .ok (.iconst 0, 1) := dk_3 (dk_at dksX2_read_0 5 rfl rfl)
theorem dX2_read_6 : decode cX2_read 6 = .ok (.istore_n 1, 1) := dk_60 (dk_at dksX2_read_0 6 rfl rfl)
theorem dX2_read_7 : decode cX2_read 7 = .ok (.iconst 1, 1) := dk_4 (dk_at dksX2_read_0 7 rfl rfl)
theorem dX2_read_8 : decode cX2_read 8 = .ok (.istore_n 2, 1) := dk_61 (dk_at dksX2_read_0 8 rfl rfl)
theorem dX2_read_9 : decode cX2_read 9 = .ok (.iload_n 1, 1) := dk_27 (dk_at dksX2_read_0 9 rfl rfl)
theorem dX2_read_10 : decode cX2_read 10 = .ok (.aload_n 0, 1) := dk_42 (dk_at dksX2_read_0 10 rfl rfl)
theorem dX2_read_11 : decode cX2_read 11 = .ok (.getfield 80, 3) := dk_180 0 80 (dk_at dksX2_read_0 11 rfl rfl)
theorem dX2_read_14 : decode cX2_read 14 = .ok (.if_icmp .ge 201, 3) := dk_162 0 201 (dk_at dksX2_read_0 14 rfl rfl)
theorem dX2_read_17 : decode cX2_read 17 = .ok (.iload_n 2, 1) := dk_28 (dk_at dksX2_read_0 17 rfl rfl)
theorem dX2_read_18 : decode cX2_read 18 = .ok (.ifCond .eq 197, 3) := dk_153 0 197 (dk_at dksX2_read_0 18 rfl rfl)
theorem dX2_read_21 : decode cX2_read 21 = .ok (.aload_n 0, 1) := dk_42 (dk_at dksX2_read_0 21 rfl rfl)
theorem dX2_read_22 : decode cX2_read 22 = .ok (.getfield 63, 3) := dk_180 0 63 (dk_at dksX2_read_1 0 rfl rfl)
theorem dX2_read_25 : decode cX2_read 25 = .ok (.iload_n 1, 1) := dk_27 (dk_at dksX2_read_1 3 rfl rfl)
theorem dX2_read_26 : decode cX2_read 26 = .ok (.baload, 1) := dk_51 (dk_at dksX2_read_1 4 rfl rfl)
theorem dX2_read_27 : decode cX2_read 27 = .ok (.istore_n 3, 1) := dk_62 (dk_at dksX2_read_1 5 rfl rfl)
theorem dX2_read_28 : decode cX2_read 28 = .ok (.iload_n 1, 1) := dk_27 (dk_at dksX2_read_1 6 rfl rfl)
theorem dX2_read_29 : decode cX2_read 29 = .ok (.iconst 1, 1) := dk_4 (dk_at dksX2_read_1 7 rfl rfl)
theorem dX2_read_30 : decode cX2_read 30 = .ok (.iadd, 1) := dk_96 (dk_at dksX2_read_1 8 rfl rfl)
theorem dX2_read_31 : decode cX2_read 31 = .ok (.istore 4, 2) := dk_54 4 (dk_at dksX2_read_1 9 rfl rfl)
theorem dX2_read_33 : decode cX2_read 33 = .ok (.iload_n 3, 1) := dk_29 (dk_at dksX2_read_1 11 rfl rfl)
theorem dX2_read_34 : decode cX2_read 34 = .ok (.bipush 32, 2) := dk_16 32 (dk_at dksX2_read_1 12 rfl rfl)
theorem dX2_read_36 : decode cX2_read 36 = .ok (.if_icmp .eq 21, 3) := dk_159 0 21 (dk_at dksX2_read_1 14 rfl rfl)
theorem dX2_read_39 : decode cX2_read 39 = .ok (.iload_n 3, 1) := dk_29 (dk_at dksX2_read_1 17 rfl rfl)
theorem dX2_read_40 : decode cX2_read 40 = .ok (.bipush 9, 2) := dk_16 9 (dk_at dksX2_read_1 18 rfl rfl)
theorem dX2_read_42 : decode cX2_read 42 = .ok (.if_icmp .eq 15, 3) := dk_159 0 15 (dk_at dksX2_read_1 20 rfl rfl)
theorem dX2_read_45 : decode cX2_read 45 = .ok (.iload_n 3, 1) := dk_29 (dk_at dksX2_read_1 23 rfl rfl)
theorem dX2_read_46 : decode cX2_read 46 = .ok (.bipush 10, 2) := dk_16 10 (dk_at dksX2_read_2 0 rfl rfl)
theorem dX2_read_48 : decode cX2_read 48 = .ok (.if_icmp .eq 9, 3) := dk_159 0 9 (dk_at dksX2_read_2 2 rfl rfl)
theorem dX2_read_51 : decode cX2_read 51 = .ok (.iload_n 3, 1) := dk_29 (dk_at dksX2_read_2 5 rfl rfl)
theorem dX2_read_52 : decode cX2_read 52 = .ok (.bipush 13, 2) := dk_16 13 (dk_at dksX2_read_2 6 rfl rfl)
theorem dX2_read_54 : decode cX2_read 54 = .ok (.if_icmp .ne 9, 3) := dk_160 0 9 (dk_at dksX2_read_2 8 rfl rfl)
theorem dX2_read_57 : decode cX2_read 57 = .ok (.iinc 1 1, 3) := dk_132 1 1 (dk_at dksX2_read_2 11 rfl rfl)
theorem dX2_read_60 : decode cX2_read 60 = .ok (.goto (-51), 3) := dk_167 255 205 (dk_at dksX2_read_2 14 rfl rfl)
theorem dX2_read_63 : decode cX2_read 63 = .ok (.iconst 0, 1) := dk_3 (dk_at dksX2_read_2 17 rfl rfl)
theorem dX2_read_64 : decode cX2_read 64 = .ok (.istore 6, 2) := dk_54 6 (dk_at dksX2_read_2 18 rfl rfl)
theorem dX2_read_66 : decode cX2_read 66 = .ok (.aload_n 0, 1) := dk_42 (dk_at dksX2_read_2 20 rfl rfl)
theorem dX2_read_67 : decode cX2_read 67 = .ok (.iload_n 1, 1) := dk_27 (dk_at dksX2_read_2 21 rfl rfl)
theorem dX2_read_68 : decode cX2_read 68 = .ok (.invokevirtual 99, 3) := dk_182 0 99 (dk_at dksX2_read_3 0 rfl rfl)
theorem dX2_read_71 : decode cX2_read 71 = .ok (.ifCond .eq 55, 3) := dk_153 0 55 (dk_at dksX2_read_3 3 rfl rfl)
theorem dX2_read_74 : decode cX2_read 74 = .ok (.aload_n 0, 1) := dk_42 (dk_at dksX2_read_3 6 rfl rfl)
theorem dX2_read_75 : decode cX2_read 75 = .ok (.iload 4, 2) := dk_21 4 (dk_at dksX2_read_3 7 rfl rfl)
theorem dX2_read_77 : decode cX2_read 77 = .ok (.invokevirtual 99, 3) := dk_182 0 99 (dk_at dksX2_read_3 9 rfl rfl)
theorem dX2_read_80 : decode cX2_read 80 = .ok (.ifCond .eq 9, 3) := dk_153 0 9 (dk_at dksX2_read_3 12 rfl rfl)
theorem dX2_read_83 : decode cX2_read 83 = .ok (.iinc 4 1, 3) := dk_132 4 1 (dk_at dksX2_read_3 15 rfl rfl)
theorem dX2_read_86 : decode cX2_read 86 = .ok (.goto (-12), 3) := dk_167 255 244 (dk_at dksX2_read_3 18 rfl rfl)
theorem dX2_read_89 : decode cX2_read 89 = .ok (.aload_n 0, 1) := dk_42 (dk_at dksX2_read_3 21 rfl rfl)
theorem dX2_read_90 : decode cX2_read 90 = .ok (.iload_n 1, 1) := dk_27 (dk_at dksX2_read_3 22 rfl rfl)
theorem dX2_read_91 : decode cX2_read 91 = .ok (.iload 4, 2) := dk_21 4 (dk_at dksX2_read_4 0 rfl rfl)
theorem dX2_read_93 : decode cX2_read 93 = .ok (.invokevirtual 103, 3) := dk_182 0 103 (dk_at dksX2_read_4 2 rfl rfl)
theorem dX2_read_96 : decode cX2_read 96 = .ok (.istore 6, 2) := dk_54 6 (dk_at dksX2_read_4 5 rfl rfl)
theorem dX2_read_98 : decode cX2_read 98 = .ok (.iload 6, 2) := dk_21 6 (dk_at dksX2_read_4 7 rfl rfl)
theorem dX2_read_100 : decode cX2_read 100 = .ok (.ifCond .lt 7, 3) := dk_155 0 7 (dk_at dksX2_read_4 9 rfl rfl)
theorem dX2_read_103 : decode cX2_read 103 = .ok (.iconst 3, 1) := dk_6 (dk_at dksX2_read_4 12 rfl rfl)
theorem dX2_read_104 : decode cX2_read 104 = .ok (.goto 17, 3) := dk_167 0 17 (dk_at dksX2_read_4 13 rfl rfl)
theorem dX2_read_107 : decode cX2_read 107 = .ok (.iload 4, 2) := dk_21 4 (dk_at dksX2_read_4 16 rfl rfl)
theorem dX2_read_109 : decode cX2_read 109 = .ok (.iload_n 1, 1) := dk_27 (dk_at dksX2_read_4 18 rfl rfl)
theorem dX2_read_110 : decode cX2_read 110 = .ok (.isub, 1) := dk_100 (dk_at dksX2_read_4 19 rfl rfl)
theorem dX2_read_111 : decode cX2_read 111 = .ok (.bipush 8, 2) := dk_16 8 (dk_at dksX2_read_4 20 rfl rfl)
theorem dX2_read_113 : decode cX2_read 113 = .ok (.if_icmp .le 7, 3) := dk_164 0 7 (dk_at dksX2_read_5 0 rfl rfl)
theorem dX2_read_116 : decode cX2_read 116 = .ok (.iconst 5, 1) := dk_8 (dk_at dksX2_read_5 3 rfl rfl)
theorem dX2_read_117 : decode cX2_read 117 = .ok (.goto 4, 3) := dk_167 0 4 (dk_at dksX2_read_5 4 rfl rfl)
theorem dX2_read_120 : decode cX2_read 120 = .ok (.iconst 0, 1) := dk_3 (dk_at dksX2_read_5 7 rfl rfl)
theorem dX2_read_121 : decode cX2_read 121 = .ok (.istore 5, 2) := dk_54 5 (dk_at dksX2_read_5 8 rfl rfl)
theorem dX2_read_123 : decode cX2_read 123 = .ok (.goto 63, 3) := dk_167 0 63 (dk_at dksX2_read_5 10 rfl rfl)
theorem dX2_read_126 : decode cX2_read 126 = .ok (.aload_n 0, 1) := dk_42 (dk_at dksX2_read_5 13 rfl rfl)
theorem dX2_read_127 : decode cX2_read 127 = .ok (.iload_n 1, 1) := dk_27 (dk_at dksX2_read_5 14 rfl rfl)
theorem dX2_read_128 : decode cX2_read 128 = .ok (.invokevirtual 107, 3) := dk_182 0 107 (dk_at dksX2_read_5 15 rfl rfl)
theorem dX2_read_131 : decode cX2_read 131 = .ok (.ifCond .eq 36, 3) := dk_153 0 36 (dk_at dksX2_read_5 18 rfl rfl)
theorem dX2_read_134 : decode cX2_read 134 = .ok (.aload_n 0, 1) := dk_42 (dk_at dksX2_read_5 21 rfl rfl)
theorem dX2_read_135 : decode cX2_read 135 = .ok (.iload 4, 2) := dk_21 4 (dk_at dksX2_read_5 22 rfl rfl)
theorem dX2_read_137 : decode cX2_read 137 = .ok (.invokevirtual 107, 3) := dk_182 0 107 (dk_at dksX2_read_6 0 rfl rfl)
theorem dX2_read_140 : decode cX2_read 140 = .ok (.ifCond .eq 9, 3) := dk_153 0 9 (dk_at dksX2_read_6 3 rfl rfl)
theorem dX2_read_143 : decode cX2_read 143 = .ok (.iinc 4 1, 3) := dk_132 4 1 (dk_at dksX2_read_6 6 rfl rfl)
theorem dX2_read_146 : decode cX2_read 146 = .ok (.goto (-12), 3) := dk_167 255 244 (dk_at dksX2_read_6 9 rfl rfl)
theorem dX2_read_149 : decode cX2_read 149 = .ok (.iload 4, 2) := dk_21 4 (dk_at dksX2_read_6 12 rfl rfl)
theorem dX2_read_151 : decode cX2_read 151 = .ok (.iload_n 1, 1) := dk_27 (dk_at dksX2_read_6 14 rfl rfl)
theorem dX2_read_152 : decode cX2_read 152 = .ok (.isub, 1) := dk_100 (dk_at dksX2_read_6 15 rfl rfl)
theorem dX2_read_153 : decode cX2_read 153 = .ok (.iconst 4, 1) := dk_7 (dk_at dksX2_read_6 16 rfl rfl)
theorem dX2_read_154 : decode cX2_read 154 = .ok (.if_icmp .le 7, 3) := dk_164 0 7 (dk_at dksX2_read_6 17 rfl rfl)
theorem dX2_read_157 : decode cX2_read 157 = .ok (.iconst 5, 1) := dk_8 (dk_at dksX2_read_6 20 rfl rfl)
theorem dX2_read_158 : decode cX2_read 158 = .ok (.goto 4, 3) := dk_167 0 4 (dk_at dksX2_read_6 21 rfl rfl)
theorem dX2_read_161 : decode cX2_read 161 = .ok (.iconst 1, 1) := dk_4 (dk_at dksX2_read_7 0 rfl rfl)
theorem dX2_read_162 : decode cX2_read 162 = .ok (.istore 5, 2) := dk_54 5 (dk_at dksX2_read_7 1 rfl rfl)
theorem dX2_read_164 : decode cX2_read 164 = .ok (.goto 22, 3) := dk_167 0 22 (dk_at dksX2_read_7 3 rfl rfl)
theorem dX2_read_167 : decode cX2_read 167 = .ok (.aload_n 0, 1) := dk_42 (dk_at dksX2_read_7 6 rfl rfl)
theorem dX2_read_168 : decode cX2_read 168 = .ok (.iload_n 1, 1) := dk_27 (dk_at dksX2_read_7 7 rfl rfl)
theorem dX2_read_169 : decode cX2_read 169 = .ok (.invokevirtual 110, 3) := dk_182 0 110 (dk_at dksX2_read_7 8 rfl rfl)
theorem dX2_read_172 : decode cX2_read 172 = .ok (.istore 6, 2) := dk_54 6 (dk_at dksX2_read_7 11 rfl rfl)
theorem dX2_read_174 : decode cX2_read 174 = .ok (.iload 6, 2) := dk_21 6 (dk_at dksX2_read_7 13 rfl rfl)
theorem dX2_read_176 : decode cX2_read 176 = .ok (.ifCond .ne 7, 3) := dk_154 0 7 (dk_at dksX2_read_7 15 rfl rfl)
theorem dX2_read_179 : decode cX2_read 179 = .ok (.iconst 5, 1) := dk_8 (dk_at dksX2_read_7 18 rfl rfl)
theorem dX2_read_180 : decode cX2_read 180 = .ok (.goto 4, 3) := dk_167 0 4 (dk_at dksX2_read_7 19 rfl rfl)
theorem dX2_read_183 : decode cX2_read 183 = .ok (.iconst 2, 1) := dk_5 (dk_at dksX2_read_7 22 rfl rfl)
theorem dX2_read_184 : decode cX2_read 184 = .ok (.istore 5, 2) := dk_54 5 (dk_at dksX2_read_8 0 rfl rfl)
theorem dX2_read_186 : decode cX2_read 186 = .ok (.aload_n 0, 1) := dk_42 (dk_at dksX2_read_8 2 rfl rfl)
theorem dX2_read_187 : decode cX2_read 187 = .ok (.iload 5, 2) := dk_21 5 (dk_at dksX2_read_8 3 rfl rfl)
theorem dX2_read_189 : decode cX2_read 189 = .ok (.iload_n 1, 1) := dk_27 (dk_at dksX2_read_8 5 rfl rfl)
theorem dX2_read_190 : decode cX2_read 190 = .ok (.iload 4, 2) := dk_21 4 (dk_at dksX2_read_8 6 rfl rfl)
theorem dX2_read_192 : decode cX2_read 192 = .ok (.iload 6, 2) := dk_21 6 (dk_at dksX2_read_8 8 rfl rfl)
theorem dX2_read_194 : decode cX2_read 194 = .ok (.invokevirtual 113, 3) := dk_182 0 113 (dk_at dksX2_read_8 10 rfl rfl)
theorem dX2_read_197 : decode cX2_read 197 = .ok (.iload 5, 2) := dk_21 5 (dk_at dksX2_read_8 13 rfl rfl)
theorem dX2_read_199 : decode cX2_read 199 = .ok (.iconst 5, 1) := dk_8 (dk_at dksX2_read_8 15 rfl rfl)
theorem dX2_read_200 : decode cX2_read 200 = .ok (.if_icmp .eq 7, 3) := dk_159 0 7 (dk_at dksX2_read_8 16 rfl rfl)
theorem dX2_read_203 : decode cX2_read 203 = .ok (.iconst 1, 1) := dk_4 (dk_at dksX2_read_8 19 rfl rfl)
theorem dX2_read_204 : decode cX2_read 204 = .ok (.goto 4, 3) := dk_167 0 4 (dk_at dksX2_read_8 20 rfl rfl)
theorem dX2_read_207 : decode cX2_read 207 = .ok (.iconst 0, 1) := dk_3 (dk_at dksX2_read_8 23 rfl rfl)
theorem dX2_read_208 : decode cX2_read 208 = .ok (.istore_n 2, 1) := dk_61 (dk_at dksX2_read_9 0 rfl rfl)
theorem dX2_read_209 : decode cX2_read 209 = .ok (.iload 4, 2) := dk_21 4 (dk_at dksX2_read_9 1 rfl rfl)
theorem dX2_read_211 : decode cX2_read 211 = .ok (.istore_n 1, 1) := dk_60 (dk_at dksX2_read_9 3 rfl rfl)
theorem dX2_read_212 : decode cX2_read 212 = .ok (.goto (-203), 3) := dk_167 255 53 (dk_at dksX2_read_9 4 rfl rfl)
theorem dX2_read_215 : decode cX2_read 215 = .ok (.iload_n 2, 1) := dk_28 (dk_at dksX2_read_9 7 rfl rfl)
theorem dX2_read_216 : decode cX2_read 216 = .ok (.ifCond .eq 11, 3) := dk_153 0 11 (dk_at dksX2_read_9 8 rfl rfl)
theorem dX2_read_219 : decode cX2_read 219 = .ok (.aload_n 0, 1) := dk_42 (dk_at dksX2_read_9 11 rfl rfl)
theorem dX2_read_220 : decode cX2_read 220 = .ok (.iconst 4, 1) := dk_7 (dk_at dksX2_read_9 12 rfl rfl)
theorem dX2_read_221 : decode cX2_read 221 = .ok (.iload_n 1, 1) := dk_27 (dk_at dksX2_read_9 13 rfl rfl)
theorem dX2_read_222 : decode cX2_read 222 = .ok (.iload_n 1, 1) := dk_27 (dk_at dksX2_read_9 14 rfl rfl)
theorem dX2_read_223 : decode cX2_read 223 = .ok (.iconst 0, 1) := dk_3 (dk_at dksX2_read_9 15 rfl rfl)
theorem dX2_read_224 : decode cX2_read 224 = .ok (.invokevirtual 113, 3) := dk_182 0 113 (dk_at dksX2_read_9 16 rfl rfl)
theorem dX2_read_227 : decode cX2_read 227 = .ok (.return_, 1) := dk_177 (dk_at dksX2_read_9 19 rfl rfl)
abbrev cX2_isLetter : ByteArray := prog_17_method_4_code
def yX2_isLetter : MethodName := ⟨RX2, "isLetter", "(I)Z"⟩
def dkwX2_isLetter_1 : List UInt8 := [3, 172]
abbrev dktX2_isLetter_1 : List UInt8 := dkwX2_isLetter_1 ++ []
def dkwX2_isLetter_0 : List UInt8 := [42, 27, 182, 0, 84, 16, 97, 161, 0, 17, 42, 27, 182, 0, 84, 16, 122, 163, 0, 7, 4, 167, 0, 4]
abbrev dktX2_isLetter_0 : List UInt8 := dkwX2_isLetter_0 ++ dktX2_isLetter_1
theorem dksX2_isLetter_0 : cX2_isLetter.data.toList.drop 0 = dktX2_isLetter_0 := by decide +kernel
theorem dksX2_isLetter_1 : cX2_isLetter.data.toList.drop 24 = dktX2_isLetter_1 := dk_seg dksX2_isLetter_0 24 rfl rfl
theorem dX2_isLetter_0 : decode cX2_isLetter 0 = .ok (.aload_n 0, 1) := dk_42 (dk_at dksX2_isLetter_0 0 rfl rfl)
theorem dX2_isLetter_1 : decode cX2_isLetter 1 = .ok (.iload_n 1, 1) := dk_27 (dk_at dksX2_isLetter_0 1 rfl rfl)
theorem dX2_isLetter_2 : decode cX2_isLetter 2 = .ok (.invokevirtual 84, 3) := dk_182 0 84 (dk_at dksX2_isLetter_0 2 rfl rfl)
theorem dX2_isLetter_5 : decode cX2_isLetter 5 = .ok (.bipush 97, 2) := dk_16 97 (dk_at dksX2_isLetter_0 5 rfl rfl)
theorem dX2_isLetter_7 : decode cX2_isLetter 7 = .ok (.if_icmp .lt 17, 3) := dk_161 0 17 (dk_at dksX2_isLetter_0 7 rfl rfl)
theorem dX2_isLetter_10 : decode cX2_isLetter 10 = .ok (.aload_n 0, 1) := dk_42 (dk_at dksX2_isLetter_0 10 rfl rfl)
theorem dX2_isLetter_11 : decode cX2_isLetter 11 = .ok (.iload_n 1, 1) := dk_27 (dk_at dksX2_isLetter_0 11 rfl rfl)
theorem dX2_isLetter_12 : decode cX2_isLetter 12 = .ok (.invokevirtual 84, 3) := dk_182 0 84 (dk_at dksX2_isLetter_0 12 rfl rfl)
theorem dX2_isLetter_15 : decode cX2_isLetter 15 = .ok (.bipush 122, 2) := dk_16 122 (dk_at dksX2_isLetter_0 15 rfl rfl)
theorem dX2_isLetter_17 : decode cX2_isLetter 17 = .ok (.if_icmp .gt 7, 3) := dk_163 0 7 (dk_at dksX2_isLetter_0 17 rfl rfl)
theorem dX2_isLetter_20 : decode cX2_isLetter 20 = .ok (.iconst 1, 1) := dk_4 (dk_at dksX2_isLetter_0 20 rfl rfl)
theorem dX2_isLetter_21 : decode cX2_isLetter 21 = .ok (.goto 4, 3) := dk_167 0 4 (dk_at dksX2_isLetter_0 21 rfl rfl)
theorem dX2_isLetter_24 : decode cX2_isLetter 24 = .ok (.iconst 0, 1) := dk_3 (dk_at dksX2_isLetter_1 0 rfl rfl)
theorem dX2_isLetter_25 : decode cX2_isLetter 25 = .ok (.ireturn, 1) := dk_172 (dk_at dksX2_isLetter_1 1 rfl rfl)
abbrev cX2_at : ByteArray := prog_17_method_2_code
def yX2_at : MethodName := ⟨RX2, "at", "(I)I"⟩
def dkwX2_at_0 : List UInt8 := [27, 42, 180, 0, 80, 162, 0, 12, 42, 180, 0, 63, 27, 51, 167, 0, 4, 3, 172]
abbrev dktX2_at_0 : List UInt8 := dkwX2_at_0 ++ []
theorem dksX2_at_0 : cX2_at.data.toList.drop 0 = dktX2_at_0 := by decide +kernel
theorem dX2_at_0 : decode cX2_at 0 = .ok (.iload_n 1, 1) := dk_27 (dk_at dksX2_at_0 0 rfl rfl)
theorem dX2_at_1 : decode cX2_at 1 = .ok (.aload_n 0, 1) := dk_42 (dk_at dksX2_at_0 1 rfl rfl)
theorem dX2_at_2 : decode cX2_at 2 = .ok (.getfield 80, 3) := dk_180 0 80 (dk_at dksX2_at_0 2 rfl rfl)
theorem dX2_at_5 : decode cX2_at 5 = .ok (.if_icmp .ge 12, 3) := dk_162 0 12 (dk_at dksX2_at_0 5 rfl rfl)
theorem dX2_at_8 : decode cX2_at 8 = .ok (.aload_n 0, 1) := dk_42 (dk_at dksX2_at_0 8 rfl rfl)
theorem dX2_at_9 : decode cX2_at 9 = .ok (.getfield 63, 3) := dk_180 0 63 (dk_at dksX2_at_0 9 rfl rfl)
theorem dX2_at_12 : decode cX2_at 12 = .ok (.iload_n 1, 1) := dk_27 (dk_at dksX2_at_0 12 rfl rfl)
theorem dX2_at_13 : decode cX2_at 13 = .ok (.baload, 1) := dk_51 (dk_at dksX2_at_0 13 rfl rfl)
theorem dX2_at_14 : decode cX2_at 14 = .ok (.goto 4, 3) := dk_167 0 4 (dk_at dksX2_at_0 14 rfl rfl)
theorem dX2_at_17 : decode cX2_at 17 = .ok (.iconst 0, 1) := dk_3 (dk_at dksX2_at_0 17 rfl rfl)
theorem dX2_at_18 : decode cX2_at 18 = .ok (.ireturn, 1) := dk_172 (dk_at dksX2_at_0 18 rfl rfl)
abbrev cX2_word : ByteArray := prog_17_method_6_code
def yX2_word : MethodName := ⟨RX2, "word", "(II)I"⟩
def dkwX2_word_4 : List UInt8 := [167, 255, 165, 2, 172]
abbrev dktX2_word_4 : List UInt8 := dkwX2_word_4 ++ []
def dkwX2_word_3 : List UInt8 := [167, 0, 4, 3, 54, 4, 132, 5, 1, 167, 255, 212, 21, 4, 153, 0, 5, 29, 172, 132, 3, 1]
abbrev dktX2_word_3 : List UInt8 := dkwX2_word_3 ++ dktX2_word_4
def dkwX2_word_2 : List UInt8 := [42, 180, 0, 57, 29, 50, 21, 5, 27, 100, 182, 0, 95, 42, 180, 0, 63, 21, 5, 51, 160, 0, 7, 4]
abbrev dktX2_word_2 : List UInt8 := dkwX2_word_2 ++ dktX2_word_3
def dkwX2_word_1 : List UInt8 := [160, 0, 7, 4, 167, 0, 4, 3, 54, 4, 27, 54, 5, 21, 5, 28, 162, 0, 44, 21, 4, 153, 0, 39]
abbrev dktX2_word_1 : List UInt8 := dkwX2_word_1 ++ dktX2_word_2
def dkwX2_word_0 : List UInt8 := [3, 62, 29, 42, 180, 0, 57, 190, 162, 0, 88, 42, 180, 0, 57, 29, 50, 182, 0, 91, 28, 27, 100]
abbrev dktX2_word_0 : List UInt8 := dkwX2_word_0 ++ dktX2_word_1
theorem dksX2_word_0 : cX2_word.data.toList.drop 0 = dktX2_word_0 := by decide +kernel
theorem dksX2_word_1 : cX2_word.data.toList.drop 23 = dktX2_word_1 := dk_seg dksX2_word_0 23 rfl rfl
theorem dksX2_word_2 : cX2_word.data.toList.drop 47 = dktX2_word_2 := dk_seg dksX2_word_1 24 rfl rfl
theorem dksX2_word_3 : cX2_word.data.toList.drop 71 = dktX2_word_3 := dk_seg dksX2_word_2 24 rfl rfl
theorem dksX2_word_4 : cX2_word.data.toList.drop 93 = dktX2_word_4 := dk_seg dksX2_word_3 22 rfl rfl
theorem dX2_word_0 : decode cX2_word 0 = .ok (.iconst 0, 1) := dk_3 (dk_at dksX2_word_0 0 rfl rfl)
theorem dX2_word_1 : decode cX2_word 1 = .ok (.istore_n 3, 1) := dk_62 (dk_at dksX2_word_0 1 rfl rfl)
theorem dX2_word_2 : decode cX2_word 2 = .ok (.iload_n 3, 1) := dk_29 (dk_at dksX2_word_0 2 rfl rfl)
theorem dX2_word_3 : decode cX2_word 3 = .ok (.aload_n 0, 1) := dk_42 (dk_at dksX2_word_0 3 rfl rfl)
theorem dX2_word_4 : decode cX2_word 4 = .ok (.getfield 57, 3) := dk_180 0 57 (dk_at dksX2_word_0 4 rfl rfl)
theorem dX2_word_7 : decode cX2_word 7 = .ok (.arraylength, 1) := dk_190 (dk_at dksX2_word_0 7 rfl rfl)
theorem dX2_word_8 : decode cX2_word 8 = .ok (.if_icmp .ge 88, 3) := dk_162 0 88 (dk_at dksX2_word_0 8 rfl rfl)
theorem dX2_word_11 : decode cX2_word 11 = .ok (.aload_n 0, 1) := dk_42 (dk_at dksX2_word_0 11 rfl rfl)
theorem dX2_word_12 : decode cX2_word 12 = .ok (.getfield 57, 3) := dk_180 0 57 (dk_at dksX2_word_0 12 rfl rfl)
theorem dX2_word_15 : decode cX2_word 15 = .ok (.iload_n 3, 1) := dk_29 (dk_at dksX2_word_0 15 rfl rfl)
theorem dX2_word_16 : decode cX2_word 16 = .ok (.aaload, 1) := dk_50 (dk_at dksX2_word_0 16 rfl rfl)
theorem dX2_word_17 : decode cX2_word 17 = .ok (.invokevirtual 91, 3) := dk_182 0 91 (dk_at dksX2_word_0 17 rfl rfl)
theorem dX2_word_20 : decode cX2_word 20 = .ok (.iload_n 2, 1) := dk_28 (dk_at dksX2_word_0 20 rfl rfl)
theorem dX2_word_21 : decode cX2_word 21 = .ok (.iload_n 1, 1) := dk_27 (dk_at dksX2_word_0 21 rfl rfl)
theorem dX2_word_22 : decode cX2_word 22 = .ok (.isub, 1) := dk_100 (dk_at dksX2_word_0 22 rfl rfl)
theorem dX2_word_23 : decode cX2_word 23 = .ok (.if_icmp .ne 7, 3) := dk_160 0 7 (dk_at dksX2_word_1 0 rfl rfl)
theorem dX2_word_26 : decode cX2_word 26 = .ok (.iconst 1, 1) := dk_4 (dk_at dksX2_word_1 3 rfl rfl)
theorem dX2_word_27 : decode cX2_word 27 = .ok (.goto 4, 3) := dk_167 0 4 (dk_at dksX2_word_1 4 rfl rfl)
theorem dX2_word_30 : decode cX2_word 30 = .ok (.iconst 0, 1) := dk_3 (dk_at dksX2_word_1 7 rfl rfl)
theorem dX2_word_31 : decode cX2_word 31 = .ok (.istore 4, 2) := dk_54 4 (dk_at dksX2_word_1 8 rfl rfl)
theorem dX2_word_33 : decode cX2_word 33 = .ok (.iload_n 1, 1) := dk_27 (dk_at dksX2_word_1 10 rfl rfl)
theorem dX2_word_34 : decode cX2_word 34 = .ok (.istore 5, 2) := dk_54 5 (dk_at dksX2_word_1 11 rfl rfl)
theorem dX2_word_36 : decode cX2_word 36 = .ok (.iload 5, 2) := dk_21 5 (dk_at dksX2_word_1 13 rfl rfl)
theorem dX2_word_38 : decode cX2_word 38 = .ok (.iload_n 2, 1) := dk_28 (dk_at dksX2_word_1 15 rfl rfl)
theorem dX2_word_39 : decode cX2_word 39 = .ok (.if_icmp .ge 44, 3) := dk_162 0 44 (dk_at dksX2_word_1 16 rfl rfl)
theorem dX2_word_42 : decode cX2_word 42 = .ok (.iload 4, 2) := dk_21 4 (dk_at dksX2_word_1 19 rfl rfl)
theorem dX2_word_44 : decode cX2_word 44 = .ok (.ifCond .eq 39, 3) := dk_153 0 39 (dk_at dksX2_word_1 21 rfl rfl)
theorem dX2_word_47 : decode cX2_word 47 = .ok (.aload_n 0, 1) := dk_42 (dk_at dksX2_word_2 0 rfl rfl)
theorem dX2_word_48 : decode cX2_word 48 = .ok (.getfield 57, 3) := dk_180 0 57 (dk_at dksX2_word_2 1 rfl rfl)
theorem dX2_word_51 : decode cX2_word 51 = .ok (.iload_n 3, 1) := dk_29 (dk_at dksX2_word_2 4 rfl rfl)
theorem dX2_word_52 : decode cX2_word 52 = .ok (.aaload, 1) := dk_50 (dk_at dksX2_word_2 5 rfl rfl)
theorem dX2_word_53 : decode cX2_word 53 = .ok (.iload 5, 2) := dk_21 5 (dk_at dksX2_word_2 6 rfl rfl)
theorem dX2_word_55 : decode cX2_word 55 = .ok (.iload_n 1, 1) := dk_27 (dk_at dksX2_word_2 8 rfl rfl)
theorem dX2_word_56 : decode cX2_word 56 = .ok (.isub, 1) := dk_100 (dk_at dksX2_word_2 9 rfl rfl)
theorem dX2_word_57 : decode cX2_word 57 = .ok (.invokevirtual 95, 3) := dk_182 0 95 (dk_at dksX2_word_2 10 rfl rfl)
theorem dX2_word_60 : decode cX2_word 60 = .ok (.aload_n 0, 1) := dk_42 (dk_at dksX2_word_2 13 rfl rfl)
theorem dX2_word_61 : decode cX2_word 61 = .ok (.getfield 63, 3) := dk_180 0 63 (dk_at dksX2_word_2 14 rfl rfl)
theorem dX2_word_64 : decode cX2_word 64 = .ok (.iload 5, 2) := dk_21 5 (dk_at dksX2_word_2 17 rfl rfl)
theorem dX2_word_66 : decode cX2_word 66 = .ok (.baload, 1) := dk_51 (dk_at dksX2_word_2 19 rfl rfl)
theorem dX2_word_67 : decode cX2_word 67 = .ok (.if_icmp .ne 7, 3) := dk_160 0 7 (dk_at dksX2_word_2 20 rfl rfl)
theorem dX2_word_70 : decode cX2_word 70 = .ok (.iconst 1, 1) := dk_4 (dk_at dksX2_word_2 23 rfl rfl)
theorem dX2_word_71 : decode cX2_word 71 = .ok (.goto 4, 3) := dk_167 0 4 (dk_at dksX2_word_3 0 rfl rfl)
theorem dX2_word_74 : decode cX2_word 74 = .ok (.iconst 0, 1) := dk_3 (dk_at dksX2_word_3 3 rfl rfl)
theorem dX2_word_75 : decode cX2_word 75 = .ok (.istore 4, 2) := dk_54 4 (dk_at dksX2_word_3 4 rfl rfl)
theorem dX2_word_77 : decode cX2_word 77 = .ok (.iinc 5 1, 3) := dk_132 5 1 (dk_at dksX2_word_3 6 rfl rfl)
theorem dX2_word_80 : decode cX2_word 80 = .ok (.goto (-44), 3) := dk_167 255 212 (dk_at dksX2_word_3 9 rfl rfl)
theorem dX2_word_83 : decode cX2_word 83 = .ok (.iload 4, 2) := dk_21 4 (dk_at dksX2_word_3 12 rfl rfl)
theorem dX2_word_85 : decode cX2_word 85 = .ok (.ifCond .eq 5, 3) := dk_153 0 5 (dk_at dksX2_word_3 14 rfl rfl)
theorem dX2_word_88 : decode cX2_word 88 = .ok (.iload_n 3, 1) := dk_29 (dk_at dksX2_word_3 17 rfl rfl)
theorem dX2_word_89 : decode cX2_word 89 = .ok (.ireturn, 1) := dk_172 (dk_at dksX2_word_3 18 rfl rfl)
theorem dX2_word_90 : decode cX2_word 90 = .ok (.iinc 3 1, 3) := dk_132 3 1 (dk_at dksX2_word_3 19 rfl rfl)
theorem dX2_word_93 : decode cX2_word 93 = .ok (.goto (-91), 3) := dk_167 255 165 (dk_at dksX2_word_4 0 rfl rfl)
theorem dX2_word_96 : decode cX2_word 96 = .ok (.iconst (-1), 1) := dk_2 (dk_at dksX2_word_4 3 rfl rfl)
theorem dX2_word_97 : decode cX2_word 97 = .ok (.ireturn, 1) := dk_172 (dk_at dksX2_word_4 4 rfl rfl)
abbrev cX2_isDigit : ByteArray := prog_17_method_3_code
def yX2_isDigit : MethodName := ⟨RX2, "isDigit", "(I)Z"⟩
def dkwX2_isDigit_1 : List UInt8 := [3, 172]
abbrev dktX2_isDigit_1 : List UInt8 := dkwX2_isDigit_1 ++ []
def dkwX2_isDigit_0 : List UInt8 := [42, 27, 182, 0, 84, 16, 48, 161, 0, 17, 42, 27, 182, 0, 84, 16, 57, 163, 0, 7, 4, 167, 0, 4]
abbrev dktX2_isDigit_0 : List UInt8 := dkwX2_isDigit_0 ++ dktX2_isDigit_1
theorem dksX2_isDigit_0 : cX2_isDigit.data.toList.drop 0 = dktX2_isDigit_0 := by decide +kernel
theorem dksX2_isDigit_1 : cX2_isDigit.data.toList.drop 24 = dktX2_isDigit_1 := dk_seg dksX2_isDigit_0 24 rfl rfl
theorem dX2_isDigit_0 : decode cX2_isDigit 0 = .ok (.aload_n 0, 1) := dk_42 (dk_at dksX2_isDigit_0 0 rfl rfl)
theorem dX2_isDigit_1 : decode cX2_isDigit 1 = .ok (.iload_n 1, 1) := dk_27 (dk_at dksX2_isDigit_0 1 rfl rfl)
theorem dX2_isDigit_2 : decode cX2_isDigit 2 = .ok (.invokevirtual 84, 3) := dk_182 0 84 (dk_at dksX2_isDigit_0 2 rfl rfl)
theorem dX2_isDigit_5 : decode cX2_isDigit 5 = .ok (.bipush 48, 2) := dk_16 48 (dk_at dksX2_isDigit_0 5 rfl rfl)
theorem dX2_isDigit_7 : decode cX2_isDigit 7 = .ok (.if_icmp .lt 17, 3) := dk_161 0 17 (dk_at dksX2_isDigit_0 7 rfl rfl)
theorem dX2_isDigit_10 : decode cX2_isDigit 10 = .ok (.aload_n 0, 1) := dk_42 (dk_at dksX2_isDigit_0 10 rfl rfl)
theorem dX2_isDigit_11 : decode cX2_isDigit 11 = .ok (.iload_n 1, 1) := dk_27 (dk_at dksX2_isDigit_0 11 rfl rfl)
theorem dX2_isDigit_12 : decode cX2_isDigit 12 = .ok (.invokevirtual 84, 3) := dk_182 0 84 (dk_at dksX2_isDigit_0 12 rfl rfl)
theorem dX2_isDigit_15 : decode cX2_isDigit 15 = .ok (.bipush 57, 2) := dk_16 57 (dk_at dksX2_isDigit_0 15 rfl rfl)
theorem dX2_isDigit_17 : decode cX2_isDigit 17 = .ok (.if_icmp .gt 7, 3) := dk_163 0 7 (dk_at dksX2_isDigit_0 17 rfl rfl)
theorem dX2_isDigit_20 : decode cX2_isDigit 20 = .ok (.iconst 1, 1) := dk_4 (dk_at dksX2_isDigit_0 20 rfl rfl)
theorem dX2_isDigit_21 : decode cX2_isDigit 21 = .ok (.goto 4, 3) := dk_167 0 4 (dk_at dksX2_isDigit_0 21 rfl rfl)
theorem dX2_isDigit_24 : decode cX2_isDigit 24 = .ok (.iconst 0, 1) := dk_3 (dk_at dksX2_isDigit_1 0 rfl rfl)
theorem dX2_isDigit_25 : decode cX2_isDigit 25 = .ok (.ireturn, 1) := dk_172 (dk_at dksX2_isDigit_1 1 rfl rfl)
abbrev cX2_sign : ByteArray := prog_17_method_7_code
def yX2_sign : MethodName := ⟨RX2, "sign", "(I)I"⟩
def dkwX2_sign_2 : List UInt8 := [28, 172, 3, 172]
abbrev dktX2_sign_2 : List UInt8 := dkwX2_sign_2 ++ []
def dkwX2_sign_1 : List UInt8 := [170, 0, 0, 0, 103, 0, 0, 0, 40, 0, 0, 0, 61, 0, 0, 0, 101, 0, 0, 0, 101, 0, 0, 0, 101, 0, 0, 0, 101, 0, 0, 0, 103, 0, 0, 0, 101, 0, 0, 0, 103, 0, 0, 0, 101, 0, 0, 0, 103, 0, 0, 0, 103, 0, 0, 0, 103, 0, 0, 0, 103, 0, 0, 0, 103, 0, 0, 0, 103, 0, 0, 0, 103, 0, 0, 0, 103, 0, 0, 0, 103, 0, 0, 0, 103, 0, 0, 0, 103, 0, 0, 0, 101, 0, 0, 0, 101, 0, 0, 0, 101]
abbrev dktX2_sign_1 : List UInt8 := dkwX2_sign_1 ++ dktX2_sign_2
def dkwX2_sign_0 : List UInt8 := [42, 27, 182, 0, 84, 61, 28]
abbrev dktX2_sign_0 : List UInt8 := dkwX2_sign_0 ++ dktX2_sign_1
theorem dksX2_sign_0 : cX2_sign.data.toList.drop 0 = dktX2_sign_0 := by decide +kernel
theorem dksX2_sign_1 : cX2_sign.data.toList.drop 7 = dktX2_sign_1 := dk_seg dksX2_sign_0 7 rfl rfl
theorem dksX2_sign_2 : cX2_sign.data.toList.drop 108 = dktX2_sign_2 := dk_seg dksX2_sign_1 101 rfl rfl
theorem dX2_sign_0 : decode cX2_sign 0 = .ok (.aload_n 0, 1) := dk_42 (dk_at dksX2_sign_0 0 rfl rfl)
theorem dX2_sign_1 : decode cX2_sign 1 = .ok (.iload_n 1, 1) := dk_27 (dk_at dksX2_sign_0 1 rfl rfl)
theorem dX2_sign_2 : decode cX2_sign 2 = .ok (.invokevirtual 84, 3) := dk_182 0 84 (dk_at dksX2_sign_0 2 rfl rfl)
theorem dX2_sign_5 : decode cX2_sign 5 = .ok (.istore_n 2, 1) := dk_61 (dk_at dksX2_sign_0 5 rfl rfl)
theorem dX2_sign_6 : decode cX2_sign 6 = .ok (.iload_n 2, 1) := dk_28 (dk_at dksX2_sign_0 6 rfl rfl)
theorem dX2_sign_7 : decode cX2_sign 7 = .ok (.tableswitch 103 40 61 #[101, 101, 101, 101, 103, 101, 103, 101, 103, 103, 103, 103, 103, 103, 103, 103, 103, 103, 103, 101, 101, 101], 101) := by decide +kernel
theorem dX2_sign_108 : decode cX2_sign 108 = .ok (.iload_n 2, 1) := dk_28 (dk_at dksX2_sign_2 0 rfl rfl)
theorem dX2_sign_109 : decode cX2_sign 109 = .ok (.ireturn, 1) := dk_172 (dk_at dksX2_sign_2 1 rfl rfl)
theorem dX2_sign_110 : decode cX2_sign 110 = .ok (.iconst 0, 1) := dk_3 (dk_at dksX2_sign_2 2 rfl rfl)
theorem dX2_sign_111 : decode cX2_sign 111 = .ok (.ireturn, 1) := dk_172 (dk_at dksX2_sign_2 3 rfl rfl)
abbrev cX2_add : ByteArray := prog_17_method_5_code
def yX2_add : MethodName := ⟨RX2, "add", "(IIII)V"⟩
def dkwX2_add_2 : List UInt8 := [180, 0, 88, 4, 96, 181, 0, 88, 177]
abbrev dktX2_add_2 : List UInt8 := dkwX2_add_2 ++ []
def dkwX2_add_1 : List UInt8 := [180, 0, 74, 42, 180, 0, 88, 29, 147, 86, 42, 180, 0, 77, 42, 180, 0, 88, 21, 4, 147, 86, 42, 89]
abbrev dktX2_add_1 : List UInt8 := dkwX2_add_1 ++ dktX2_add_2
def dkwX2_add_0 : List UInt8 := [42, 180, 0, 67, 42, 180, 0, 88, 27, 145, 84, 42, 180, 0, 70, 42, 180, 0, 88, 28, 147, 86, 42]
abbrev dktX2_add_0 : List UInt8 := dkwX2_add_0 ++ dktX2_add_1
theorem dksX2_add_0 : cX2_add.data.toList.drop 0 = dktX2_add_0 := by decide +kernel
theorem dksX2_add_1 : cX2_add.data.toList.drop 23 = dktX2_add_1 := dk_seg dksX2_add_0 23 rfl rfl
theorem dksX2_add_2 : cX2_add.data.toList.drop 47 = dktX2_add_2 := dk_seg dksX2_add_1 24 rfl rfl
theorem dX2_add_0 : decode cX2_add 0 = .ok (.aload_n 0, 1) := dk_42 (dk_at dksX2_add_0 0 rfl rfl)
theorem dX2_add_1 : decode cX2_add 1 = .ok (.getfield 67, 3) := dk_180 0 67 (dk_at dksX2_add_0 1 rfl rfl)
theorem dX2_add_4 : decode cX2_add 4 = .ok (.aload_n 0, 1) := dk_42 (dk_at dksX2_add_0 4 rfl rfl)
theorem dX2_add_5 : decode cX2_add 5 = .ok (.getfield 88, 3) := dk_180 0 88 (dk_at dksX2_add_0 5 rfl rfl)
theorem dX2_add_8 : decode cX2_add 8 = .ok (.iload_n 1, 1) := dk_27 (dk_at dksX2_add_0 8 rfl rfl)
theorem dX2_add_9 : decode cX2_add 9 = .ok (.i2b, 1) := dk_145 (dk_at dksX2_add_0 9 rfl rfl)
theorem dX2_add_10 : decode cX2_add 10 = .ok (.bastore, 1) := dk_84 (dk_at dksX2_add_0 10 rfl rfl)
theorem dX2_add_11 : decode cX2_add 11 = .ok (.aload_n 0, 1) := dk_42 (dk_at dksX2_add_0 11 rfl rfl)
theorem dX2_add_12 : decode cX2_add 12 = .ok (.getfield 70, 3) := dk_180 0 70 (dk_at dksX2_add_0 12 rfl rfl)
theorem dX2_add_15 : decode cX2_add 15 = .ok (.aload_n 0, 1) := dk_42 (dk_at dksX2_add_0 15 rfl rfl)
theorem dX2_add_16 : decode cX2_add 16 = .ok (.getfield 88, 3) := dk_180 0 88 (dk_at dksX2_add_0 16 rfl rfl)
theorem dX2_add_19 : decode cX2_add 19 = .ok (.iload_n 2, 1) := dk_28 (dk_at dksX2_add_0 19 rfl rfl)
theorem dX2_add_20 : decode cX2_add 20 = .ok (.i2s, 1) := dk_147 (dk_at dksX2_add_0 20 rfl rfl)
theorem dX2_add_21 : decode cX2_add 21 = .ok (.sastore, 1) := dk_86 (dk_at dksX2_add_0 21 rfl rfl)
theorem dX2_add_22 : decode cX2_add 22 = .ok (.aload_n 0, 1) := dk_42 (dk_at dksX2_add_0 22 rfl rfl)
theorem dX2_add_23 : decode cX2_add 23 = .ok (.getfield 74, 3) := dk_180 0 74 (dk_at dksX2_add_1 0 rfl rfl)
theorem dX2_add_26 : decode cX2_add 26 = .ok (.aload_n 0, 1) := dk_42 (dk_at dksX2_add_1 3 rfl rfl)
theorem dX2_add_27 : decode cX2_add 27 = .ok (.getfield 88, 3) := dk_180 0 88 (dk_at dksX2_add_1 4 rfl rfl)
theorem dX2_add_30 : decode cX2_add 30 = .ok (.iload_n 3, 1) := dk_29 (dk_at dksX2_add_1 7 rfl rfl)
theorem dX2_add_31 : decode cX2_add 31 = .ok (.i2s, 1) := dk_147 (dk_at dksX2_add_1 8 rfl rfl)
theorem dX2_add_32 : decode cX2_add 32 = .ok (.sastore, 1) := dk_86 (dk_at dksX2_add_1 9 rfl rfl)
theorem dX2_add_33 : decode cX2_add 33 = .ok (.aload_n 0, 1) := dk_42 (dk_at dksX2_add_1 10 rfl rfl)
theorem dX2_add_34 : decode cX2_add 34 = .ok (.getfield 77, 3) := dk_180 0 77 (dk_at dksX2_add_1 11 rfl rfl)
theorem dX2_add_37 : decode cX2_add 37 = .ok (.aload_n 0, 1) := dk_42 (dk_at dksX2_add_1 14 rfl rfl)
theorem dX2_add_38 : decode cX2_add 38 = .ok (.getfield 88, 3) := dk_180 0 88 (dk_at dksX2_add_1 15 rfl rfl)
theorem dX2_add_41 : decode cX2_add 41 = .ok (.iload 4, 2) := dk_21 4 (dk_at dksX2_add_1 18 rfl rfl)
theorem dX2_add_43 : decode cX2_add 43 = .ok (.i2s, 1) := dk_147 (dk_at dksX2_add_1 20 rfl rfl)
theorem dX2_add_44 : decode cX2_add 44 = .ok (.sastore, 1) := dk_86 (dk_at dksX2_add_1 21 rfl rfl)
theorem dX2_add_45 : decode cX2_add 45 = .ok (.aload_n 0, 1) := dk_42 (dk_at dksX2_add_1 22 rfl rfl)
theorem dX2_add_46 : decode cX2_add 46 = .ok (.dup, 1) := dk_89 (dk_at dksX2_add_1 23 rfl rfl)
theorem dX2_add_47 : decode cX2_add 47 = .ok (.getfield 88, 3) := dk_180 0 88 (dk_at dksX2_add_2 0 rfl rfl)
theorem dX2_add_50 : decode cX2_add 50 = .ok (.iconst 1, 1) := dk_4 (dk_at dksX2_add_2 3 rfl rfl)
theorem dX2_add_51 : decode cX2_add 51 = .ok (.iadd, 1) := dk_96 (dk_at dksX2_add_2 4 rfl rfl)
theorem dX2_add_52 : decode cX2_add 52 = .ok (.putfield 88, 3) := dk_181 0 88 (dk_at dksX2_add_2 5 rfl rfl)
theorem dX2_add_55 : decode cX2_add 55 = .ok (.return_, 1) := dk_177 (dk_at dksX2_add_2 8 rfl rfl)
abbrev cX2_number : ByteArray := prog_17_method_10_code
def yX2_number : MethodName := ⟨RX2, "number", "(I)I"⟩
def dkwX2_number_1 : List UInt8 := [180, 0, 63, 29, 51, 96, 16, 48, 100, 61, 132, 3, 1, 167, 255, 228, 28, 172]
abbrev dktX2_number_1 : List UInt8 := dkwX2_number_1 ++ []
def dkwX2_number_0 : List UInt8 := [3, 61, 42, 180, 0, 70, 27, 53, 62, 29, 42, 180, 0, 74, 27, 53, 162, 0, 24, 16, 10, 28, 104, 42]
abbrev dktX2_number_0 : List UInt8 := dkwX2_number_0 ++ dktX2_number_1
theorem dksX2_number_0 : cX2_number.data.toList.drop 0 = dktX2_number_0 := by decide +kernel
theorem dksX2_number_1 : cX2_number.data.toList.drop 24 = dktX2_number_1 := dk_seg dksX2_number_0 24 rfl rfl
theorem dX2_number_0 : decode cX2_number 0 = .ok (.iconst 0, 1) := dk_3 (dk_at dksX2_number_0 0 rfl rfl)
theorem dX2_number_1 : decode cX2_number 1 = .ok (.istore_n 2, 1) := dk_61 (dk_at dksX2_number_0 1 rfl rfl)
theorem dX2_number_2 : decode cX2_number 2 = .ok (.aload_n 0, 1) := dk_42 (dk_at dksX2_number_0 2 rfl rfl)
theorem dX2_number_3 : decode cX2_number 3 = .ok (.getfield 70, 3) := dk_180 0 70 (dk_at dksX2_number_0 3 rfl rfl)
theorem dX2_number_6 : decode cX2_number 6 = .ok (.iload_n 1, 1) := dk_27 (dk_at dksX2_number_0 6 rfl rfl)
theorem dX2_number_7 : decode cX2_number 7 = .ok (.saload, 1) := dk_53 (dk_at dksX2_number_0 7 rfl rfl)
theorem dX2_number_8 : decode cX2_number 8 = .ok (.istore_n 3, 1) := dk_62 (dk_at dksX2_number_0 8 rfl rfl)
theorem dX2_number_9 : decode cX2_number 9 = .ok (.iload_n 3, 1) := dk_29 (dk_at dksX2_number_0 9 rfl rfl)
theorem dX2_number_10 : decode cX2_number 10 = .ok (.aload_n 0, 1) := dk_42 (dk_at dksX2_number_0 10 rfl rfl)
theorem dX2_number_11 : decode cX2_number 11 = .ok (.getfield 74, 3) := dk_180 0 74 (dk_at dksX2_number_0 11 rfl rfl)
theorem dX2_number_14 : decode cX2_number 14 = .ok (.iload_n 1, 1) := dk_27 (dk_at dksX2_number_0 14 rfl rfl)
theorem dX2_number_15 : decode cX2_number 15 = .ok (.saload, 1) := dk_53 (dk_at dksX2_number_0 15 rfl rfl)
theorem dX2_number_16 : decode cX2_number 16 = .ok (.if_icmp .ge 24, 3) := dk_162 0 24 (dk_at dksX2_number_0 16 rfl rfl)
theorem dX2_number_19 : decode cX2_number 19 = .ok (.bipush 10, 2) := dk_16 10 (dk_at dksX2_number_0 19 rfl rfl)
theorem dX2_number_21 : decode cX2_number 21 = .ok (.iload_n 2, 1) := dk_28 (dk_at dksX2_number_0 21 rfl rfl)
theorem dX2_number_22 : decode cX2_number 22 = .ok (.imul, 1) := dk_104 (dk_at dksX2_number_0 22 rfl rfl)
theorem dX2_number_23 : decode cX2_number 23 = .ok (.aload_n 0, 1) := dk_42 (dk_at dksX2_number_0 23 rfl rfl)
theorem dX2_number_24 : decode cX2_number 24 = .ok (.getfield 63, 3) := dk_180 0 63 (dk_at dksX2_number_1 0 rfl rfl)
theorem dX2_number_27 : decode cX2_number 27 = .ok (.iload_n 3, 1) := dk_29 (dk_at dksX2_number_1 3 rfl rfl)
theorem dX2_number_28 : decode cX2_number 28 = .ok (.baload, 1) := dk_51 (dk_at dksX2_number_1 4 rfl rfl)
theorem dX2_number_29 : decode cX2_number 29 = .ok (.iadd, 1) := dk_96 (dk_at dksX2_number_1 5 rfl rfl)
theorem dX2_number_30 : decode cX2_number 30 = .ok (.bipush 48, 2) := dk_16 48 (dk_at dksX2_number_1 6 rfl rfl)
theorem dX2_number_32 : decode cX2_number 32 = .ok (.isub, 1) := dk_100 (dk_at dksX2_number_1 8 rfl rfl)
theorem dX2_number_33 : decode cX2_number 33 = .ok (.istore_n 2, 1) := dk_61 (dk_at dksX2_number_1 9 rfl rfl)
theorem dX2_number_34 : decode cX2_number 34 = .ok (.iinc 3 1, 3) := dk_132 3 1 (dk_at dksX2_number_1 10 rfl rfl)
theorem dX2_number_37 : decode cX2_number 37 = .ok (.goto (-28), 3) := dk_167 255 228 (dk_at dksX2_number_1 13 rfl rfl)
theorem dX2_number_40 : decode cX2_number 40 = .ok (.iload_n 2, 1) := dk_28 (dk_at dksX2_number_1 16 rfl rfl)
theorem dX2_number_41 : decode cX2_number 41 = .ok (.ireturn, 1) := dk_172 (dk_at dksX2_number_1 17 rfl rfl)
abbrev cX2_text : ByteArray := prog_17_method_9_code
def yX2_text : MethodName := ⟨RX2, "text", "(I)Ljava/lang/String;"⟩
def dkwX2_text_2 : List UInt8 := [182, 0, 124, 176]
abbrev dktX2_text_2 : List UInt8 := dkwX2_text_2 ++ []
def dkwX2_text_1 : List UInt8 := [162, 0, 21, 44, 42, 180, 0, 63, 29, 51, 146, 182, 0, 120, 87, 132, 3, 1, 167, 255, 231, 44]
abbrev dktX2_text_1 : List UInt8 := dkwX2_text_1 ++ dktX2_text_2
def dkwX2_text_0 : List UInt8 := [187, 0, 117, 89, 183, 0, 119, 77, 42, 180, 0, 70, 27, 53, 62, 29, 42, 180, 0, 74, 27, 53]
abbrev dktX2_text_0 : List UInt8 := dkwX2_text_0 ++ dktX2_text_1
theorem dksX2_text_0 : cX2_text.data.toList.drop 0 = dktX2_text_0 := by decide +kernel
theorem dksX2_text_1 : cX2_text.data.toList.drop 22 = dktX2_text_1 := dk_seg dksX2_text_0 22 rfl rfl
theorem dksX2_text_2 : cX2_text.data.toList.drop 44 = dktX2_text_2 := dk_seg dksX2_text_1 22 rfl rfl
theorem dX2_text_0 : decode cX2_text 0 = .ok (.new 117, 3) := dk_187 0 117 (dk_at dksX2_text_0 0 rfl rfl)
theorem dX2_text_3 : decode cX2_text 3 = .ok (.dup, 1) := dk_89 (dk_at dksX2_text_0 3 rfl rfl)
theorem dX2_text_4 : decode cX2_text 4 = .ok (.invokespecial 119, 3) := dk_183 0 119 (dk_at dksX2_text_0 4 rfl rfl)
theorem dX2_text_7 : decode cX2_text 7 = .ok (.astore_n 2, 1) := dk_77 (dk_at dksX2_text_0 7 rfl rfl)
theorem dX2_text_8 : decode cX2_text 8 = .ok (.aload_n 0, 1) := dk_42 (dk_at dksX2_text_0 8 rfl rfl)
theorem dX2_text_9 : decode cX2_text 9 = .ok (.getfield 70, 3) := dk_180 0 70 (dk_at dksX2_text_0 9 rfl rfl)
theorem dX2_text_12 : decode cX2_text 12 = .ok (.iload_n 1, 1) := dk_27 (dk_at dksX2_text_0 12 rfl rfl)
theorem dX2_text_13 : decode cX2_text 13 = .ok (.saload, 1) := dk_53 (dk_at dksX2_text_0 13 rfl rfl)
theorem dX2_text_14 : decode cX2_text 14 = .ok (.istore_n 3, 1) := dk_62 (dk_at dksX2_text_0 14 rfl rfl)
theorem dX2_text_15 : decode cX2_text 15 = .ok (.iload_n 3, 1) := dk_29 (dk_at dksX2_text_0 15 rfl rfl)
theorem dX2_text_16 : decode cX2_text 16 = .ok (.aload_n 0, 1) := dk_42 (dk_at dksX2_text_0 16 rfl rfl)
theorem dX2_text_17 : decode cX2_text 17 = .ok (.getfield 74, 3) := dk_180 0 74 (dk_at dksX2_text_0 17 rfl rfl)
theorem dX2_text_20 : decode cX2_text 20 = .ok (.iload_n 1, 1) := dk_27 (dk_at dksX2_text_0 20 rfl rfl)
theorem dX2_text_21 : decode cX2_text 21 = .ok (.saload, 1) := dk_53 (dk_at dksX2_text_0 21 rfl rfl)
theorem dX2_text_22 : decode cX2_text 22 = .ok (.if_icmp .ge 21, 3) := dk_162 0 21 (dk_at dksX2_text_1 0 rfl rfl)
theorem dX2_text_25 : decode cX2_text 25 = .ok (.aload_n 2, 1) := dk_44 (dk_at dksX2_text_1 3 rfl rfl)
theorem dX2_text_26 : decode cX2_text 26 = .ok (.aload_n 0, 1) := dk_42 (dk_at dksX2_text_1 4 rfl rfl)
theorem dX2_text_27 : decode cX2_text 27 = .ok (.getfield 63, 3) := dk_180 0 63 (dk_at dksX2_text_1 5 rfl rfl)
theorem dX2_text_30 : decode cX2_text 30 = .ok (.iload_n 3, 1) := dk_29 (dk_at dksX2_text_1 8 rfl rfl)
theorem dX2_text_31 : decode cX2_text 31 = .ok (.baload, 1) := dk_51 (dk_at dksX2_text_1 9 rfl rfl)
theorem dX2_text_32 : decode cX2_text 32 = .ok (.i2c, 1) := dk_146 (dk_at dksX2_text_1 10 rfl rfl)
theorem dX2_text_33 : decode cX2_text 33 = .ok (.invokevirtual 120, 3) := dk_182 0 120 (dk_at dksX2_text_1 11 rfl rfl)
theorem dX2_text_36 : decode cX2_text 36 = .ok (.pop, 1) := dk_87 (dk_at dksX2_text_1 14 rfl rfl)
theorem dX2_text_37 : decode cX2_text 37 = .ok (.iinc 3 1, 3) := dk_132 3 1 (dk_at dksX2_text_1 15 rfl rfl)
theorem dX2_text_40 : decode cX2_text 40 = .ok (.goto (-25), 3) := dk_167 255 231 (dk_at dksX2_text_1 18 rfl rfl)
theorem dX2_text_43 : decode cX2_text 43 = .ok (.aload_n 2, 1) := dk_44 (dk_at dksX2_text_1 21 rfl rfl)
theorem dX2_text_44 : decode cX2_text 44 = .ok (.invokevirtual 124, 3) := dk_182 0 124 (dk_at dksX2_text_2 0 rfl rfl)
theorem dX2_text_47 : decode cX2_text 47 = .ok (.areturn, 1) := dk_176 (dk_at dksX2_text_2 3 rfl rfl)
theorem q126 : (Jvm.Cond.initialized "DogsHour$Tokens") ∈ lw_all := lw_g (lw_at lw_m1 6 rfl) rfl
theorem q242 : (Jvm.Cond.instantiable "DogsHour$Tokens" (8 : Nat)) ∈ lw_all := lw_g (lw_at lw_m1 122 rfl) rfl
theorem q244 : (Jvm.Cond.instanceMethod ({ cls := "DogsHour$Tokens", name := "<init>", desc := "()V" } : Jvm.MethodName)) ∈ lw_all := lw_g (lw_at lw_m1 124 rfl) rfl
theorem q245 : (Jvm.Cond.code ({ cls := "DogsHour$Tokens", name := "<init>", desc := "()V" } : Jvm.MethodName) prog_17_method_1_code (1 : Nat) (Option.none : Option Jvm.ClassFile.FieldType)) ∈ lw_all := lw_g (lw_at lw_m1 125 rfl) rfl
theorem q246 : (Jvm.Cond.methodLink "DogsHour$Tokens" (3 : Nat) ({ cls := "java/lang/Object", name := "<init>", desc := "()V" } : Jvm.MethodName)) ∈ lw_all := lw_g (lw_at lw_m1 126 rfl) rfl
theorem q247 : (Jvm.Cond.classLink "DogsHour$Tokens" (9 : Nat) "java/lang/String") ∈ lw_all := lw_g (lw_at lw_m1 127 rfl) rfl
theorem q249 : (Jvm.Cond.stringRef "DogsHour$Tokens" (11 : Nat) "place") ∈ lw_tbl := lw_at lw_m1 129 rfl
theorem q250 : (Jvm.Cond.stringRef "DogsHour$Tokens" (13 : Nat) "path") ∈ lw_tbl := lw_at lw_m1 130 rfl
theorem q251 : (Jvm.Cond.stringRef "DogsHour$Tokens" (15 : Nat) "dog") ∈ lw_tbl := lw_at lw_m1 131 rfl
theorem q252 : (Jvm.Cond.stringRef "DogsHour$Tokens" (17 : Nat) "person") ∈ lw_tbl := lw_at lw_m1 132 rfl
theorem q253 : (Jvm.Cond.stringRef "DogsHour$Tokens" (19 : Nat) "errand") ∈ lw_tbl := lw_at lw_m1 133 rfl
theorem q254 : (Jvm.Cond.stringRef "DogsHour$Tokens" (21 : Nat) "wants") ∈ lw_tbl := lw_at lw_m1 134 rfl
theorem q255 : (Jvm.Cond.stringRef "DogsHour$Tokens" (23 : Nat) "takes") ∈ lw_tbl := lw_at lw_m1 135 rfl
theorem q256 : (Jvm.Cond.stringRef "DogsHour$Tokens" (25 : Nat) "fades") ∈ lw_tbl := lw_at lw_m1 136 rfl
theorem q257 : (Jvm.Cond.stringRef "DogsHour$Tokens" (27 : Nat) "dues") ∈ lw_tbl := lw_at lw_m1 137 rfl
theorem q258 : (Jvm.Cond.stringRef "DogsHour$Tokens" (29 : Nat) "hour") ∈ lw_tbl := lw_at lw_m1 138 rfl
theorem q259 : (Jvm.Cond.stringRef "DogsHour$Tokens" (31 : Nat) "begins") ∈ lw_tbl := lw_at lw_m1 139 rfl
theorem q260 : (Jvm.Cond.stringRef "DogsHour$Tokens" (33 : Nat) "if") ∈ lw_tbl := lw_at lw_m1 140 rfl
theorem q261 : (Jvm.Cond.stringRef "DogsHour$Tokens" (35 : Nat) "then") ∈ lw_tbl := lw_at lw_m1 141 rfl
theorem q262 : (Jvm.Cond.stringRef "DogsHour$Tokens" (37 : Nat) "else") ∈ lw_tbl := lw_at lw_m1 142 rfl
theorem q263 : (Jvm.Cond.stringRef "DogsHour$Tokens" (39 : Nat) "fed") ∈ lw_tbl := lw_at lw_m1 143 rfl
theorem q264 : (Jvm.Cond.stringRef "DogsHour$Tokens" (41 : Nat) "kicked") ∈ lw_tbl := lw_at lw_m1 144 rfl
theorem q265 : (Jvm.Cond.stringRef "DogsHour$Tokens" (43 : Nat) "far") ∈ lw_tbl := lw_at lw_m1 145 rfl
theorem q266 : (Jvm.Cond.stringRef "DogsHour$Tokens" (45 : Nat) "pocket") ∈ lw_tbl := lw_at lw_m1 146 rfl
theorem q267 : (Jvm.Cond.stringRef "DogsHour$Tokens" (47 : Nat) "bite") ∈ lw_tbl := lw_at lw_m1 147 rfl
theorem q268 : (Jvm.Cond.stringRef "DogsHour$Tokens" (49 : Nat) "hunger") ∈ lw_tbl := lw_at lw_m1 148 rfl
theorem q269 : (Jvm.Cond.stringRef "DogsHour$Tokens" (51 : Nat) "minute") ∈ lw_tbl := lw_at lw_m1 149 rfl
theorem q270 : (Jvm.Cond.stringRef "DogsHour$Tokens" (53 : Nat) "which") ∈ lw_tbl := lw_at lw_m1 150 rfl
theorem q271 : (Jvm.Cond.stringRef "DogsHour$Tokens" (55 : Nat) "taken") ∈ lw_tbl := lw_at lw_m1 151 rfl
theorem q272 : (Jvm.Cond.fieldLink "DogsHour$Tokens" (57 : Nat) "DogsHour$Tokens" "words" "[Ljava/lang/String;") ∈ lw_all := lw_g (lw_at lw_m1 152 rfl) rfl
theorem q273 : (Jvm.Cond.fieldLink "DogsHour$Tokens" (63 : Nat) "DogsHour$Tokens" "tape" "[B") ∈ lw_all := lw_g (lw_at lw_m1 153 rfl) rfl
theorem q275 : (Jvm.Cond.fieldLink "DogsHour$Tokens" (80 : Nat) "DogsHour$Tokens" "taped" "I") ∈ lw_all := lw_g (lw_at lw_m1 155 rfl) rfl
theorem q277 : (Jvm.Cond.fieldLink "DogsHour$Tokens" (67 : Nat) "DogsHour$Tokens" "sort" "[B") ∈ lw_all := lw_g (lw_at lw_m1 157 rfl) rfl
theorem q279 : (Jvm.Cond.fieldLink "DogsHour$Tokens" (70 : Nat) "DogsHour$Tokens" "from" "[S") ∈ lw_all := lw_g (lw_at lw_m1 159 rfl) rfl
theorem q281 : (Jvm.Cond.fieldLink "DogsHour$Tokens" (74 : Nat) "DogsHour$Tokens" "to" "[S") ∈ lw_all := lw_g (lw_at lw_m1 161 rfl) rfl
theorem q282 : (Jvm.Cond.fieldLink "DogsHour$Tokens" (77 : Nat) "DogsHour$Tokens" "what" "[S") ∈ lw_all := lw_g (lw_at lw_m1 162 rfl) rfl
theorem q284 : (Jvm.Cond.fieldLink "DogsHour$Tokens" (88 : Nat) "DogsHour$Tokens" "many" "I") ∈ lw_all := lw_g (lw_at lw_m1 164 rfl) rfl
theorem q285 : (Jvm.Cond.laysFinal "DogsHour$Tokens" "DogsHour$Tokens" "words" "[Ljava/lang/String;") ∈ lw_all := lw_g (lw_at lw_m1 165 rfl) rfl
theorem q286 : (Jvm.Cond.soleField "DogsHour$Tokens" "words") ∈ lw_all := lw_g (lw_at lw_m1 166 rfl) rfl
theorem q287 : (Jvm.Cond.laysFinal "DogsHour$Tokens" "DogsHour$Tokens" "tape" "[B") ∈ lw_all := lw_g (lw_at lw_m1 167 rfl) rfl
theorem q288 : (Jvm.Cond.soleField "DogsHour$Tokens" "tape") ∈ lw_all := lw_g (lw_at lw_m1 168 rfl) rfl
theorem q289 : (Jvm.Cond.lays "DogsHour$Tokens" "DogsHour$Tokens" "taped" "I") ∈ lw_all := lw_g (lw_at lw_m1 169 rfl) rfl
theorem q290 : (Jvm.Cond.soleField "DogsHour$Tokens" "taped") ∈ lw_all := lw_g (lw_at lw_m1 170 rfl) rfl
theorem q291 : (Jvm.Cond.laysFinal "DogsHour$Tokens" "DogsHour$Tokens" "sort" "[B") ∈ lw_all := lw_g (lw_at lw_m1 171 rfl) rfl
theorem q292 : (Jvm.Cond.soleField "DogsHour$Tokens" "sort") ∈ lw_all := lw_g (lw_at lw_m1 172 rfl) rfl
theorem q293 : (Jvm.Cond.laysFinal "DogsHour$Tokens" "DogsHour$Tokens" "from" "[S") ∈ lw_all := lw_g (lw_at lw_m1 173 rfl) rfl
theorem q294 : (Jvm.Cond.soleField "DogsHour$Tokens" "from") ∈ lw_all := lw_g (lw_at lw_m1 174 rfl) rfl
theorem q295 : (Jvm.Cond.laysFinal "DogsHour$Tokens" "DogsHour$Tokens" "to" "[S") ∈ lw_all := lw_g (lw_at lw_m1 175 rfl) rfl
theorem q296 : (Jvm.Cond.soleField "DogsHour$Tokens" "to") ∈ lw_all := lw_g (lw_at lw_m1 176 rfl) rfl
theorem q297 : (Jvm.Cond.laysFinal "DogsHour$Tokens" "DogsHour$Tokens" "what" "[S") ∈ lw_all := lw_g (lw_at lw_m1 177 rfl) rfl
theorem q298 : (Jvm.Cond.soleField "DogsHour$Tokens" "what") ∈ lw_all := lw_g (lw_at lw_m1 178 rfl) rfl
theorem q299 : (Jvm.Cond.lays "DogsHour$Tokens" "DogsHour$Tokens" "many" "I") ∈ lw_all := lw_g (lw_at lw_m1 179 rfl) rfl
theorem q300 : (Jvm.Cond.soleField "DogsHour$Tokens" "many") ∈ lw_all := lw_g (lw_at lw_m1 180 rfl) rfl
theorem q301 : (Jvm.Cond.superclass "DogsHour$Tokens" "java/lang/Object") ∈ lw_all := lw_g (lw_at lw_m1 181 rfl) rfl
theorem q632 : (Jvm.Cond.instanceMethod ({ cls := "DogsHour$Tokens", name := "read", desc := "()V" } : Jvm.MethodName)) ∈ lw_all := lw_g (lw_at lw_m3 32 rfl) rfl
theorem q633 : (Jvm.Cond.selects "DogsHour$Tokens" ({ cls := "DogsHour$Tokens", name := "read", desc := "()V" } : Jvm.MethodName) ({ cls := "DogsHour$Tokens", name := "read", desc := "()V" } : Jvm.MethodName)) ∈ lw_all := lw_g (lw_at lw_m3 33 rfl) rfl
theorem q634 : (Jvm.Cond.code ({ cls := "DogsHour$Tokens", name := "read", desc := "()V" } : Jvm.MethodName) prog_17_method_8_code (7 : Nat) (Option.none : Option Jvm.ClassFile.FieldType)) ∈ lw_all := lw_g (lw_at lw_m3 34 rfl) rfl
theorem q635 : (Jvm.Cond.methodLink "DogsHour$Tokens" (99 : Nat) ({ cls := "DogsHour$Tokens", name := "isLetter", desc := "(I)Z" } : Jvm.MethodName)) ∈ lw_all := lw_g (lw_at lw_m3 35 rfl) rfl
theorem q636 : (Jvm.Cond.privateMethod ({ cls := "DogsHour$Tokens", name := "isLetter", desc := "(I)Z" } : Jvm.MethodName)) ∈ lw_tbl := lw_at lw_m3 36 rfl
theorem q637 : (Jvm.Cond.instanceMethod ({ cls := "DogsHour$Tokens", name := "isLetter", desc := "(I)Z" } : Jvm.MethodName)) ∈ lw_all := lw_g (lw_at lw_m3 37 rfl) rfl
theorem q638 : (Jvm.Cond.code ({ cls := "DogsHour$Tokens", name := "isLetter", desc := "(I)Z" } : Jvm.MethodName) prog_17_method_4_code (2 : Nat) (Option.some Jvm.ClassFile.FieldType.boolean)) ∈ lw_all := lw_g (lw_at lw_m3 38 rfl) rfl
theorem q639 : (Jvm.Cond.methodLink "DogsHour$Tokens" (84 : Nat) ({ cls := "DogsHour$Tokens", name := "at", desc := "(I)I" } : Jvm.MethodName)) ∈ lw_all := lw_g (lw_at lw_m3 39 rfl) rfl
theorem q640 : (Jvm.Cond.privateMethod ({ cls := "DogsHour$Tokens", name := "at", desc := "(I)I" } : Jvm.MethodName)) ∈ lw_tbl := lw_at lw_m3 40 rfl
theorem q641 : (Jvm.Cond.instanceMethod ({ cls := "DogsHour$Tokens", name := "at", desc := "(I)I" } : Jvm.MethodName)) ∈ lw_all := lw_g (lw_at lw_m3 41 rfl) rfl
theorem q642 : (Jvm.Cond.code ({ cls := "DogsHour$Tokens", name := "at", desc := "(I)I" } : Jvm.MethodName) prog_17_method_2_code (2 : Nat) (Option.some Jvm.ClassFile.FieldType.int)) ∈ lw_all := lw_g (lw_at lw_m3 42 rfl) rfl
theorem q643 : (Jvm.Cond.methodLink "DogsHour$Tokens" (103 : Nat) ({ cls := "DogsHour$Tokens", name := "word", desc := "(II)I" } : Jvm.MethodName)) ∈ lw_all := lw_g (lw_at lw_m3 43 rfl) rfl
theorem q644 : (Jvm.Cond.privateMethod ({ cls := "DogsHour$Tokens", name := "word", desc := "(II)I" } : Jvm.MethodName)) ∈ lw_tbl := lw_at lw_m3 44 rfl
theorem q645 : (Jvm.Cond.instanceMethod ({ cls := "DogsHour$Tokens", name := "word", desc := "(II)I" } : Jvm.MethodName)) ∈ lw_all := lw_g (lw_at lw_m3 45 rfl) rfl
theorem q646 : (Jvm.Cond.code ({ cls := "DogsHour$Tokens", name := "word", desc := "(II)I" } : Jvm.MethodName) prog_17_method_6_code (6 : Nat) (Option.some Jvm.ClassFile.FieldType.int)) ∈ lw_all := lw_g (lw_at lw_m3 46 rfl) rfl
theorem q647 : (Jvm.Cond.methodLink "DogsHour$Tokens" (91 : Nat) ({ cls := "java/lang/String", name := "length", desc := "()I" } : Jvm.MethodName)) ∈ lw_all := lw_g (lw_at lw_m3 47 rfl) rfl
theorem q657 : (Jvm.Cond.methodLink "DogsHour$Tokens" (95 : Nat) ({ cls := "java/lang/String", name := "charAt", desc := "(I)C" } : Jvm.MethodName)) ∈ lw_all := lw_g (lw_at lw_m3 57 rfl) rfl
theorem q693 : (Jvm.Cond.methodLink "DogsHour$Tokens" (107 : Nat) ({ cls := "DogsHour$Tokens", name := "isDigit", desc := "(I)Z" } : Jvm.MethodName)) ∈ lw_all := lw_g (lw_at lw_m3 93 rfl) rfl
theorem q694 : (Jvm.Cond.privateMethod ({ cls := "DogsHour$Tokens", name := "isDigit", desc := "(I)Z" } : Jvm.MethodName)) ∈ lw_tbl := lw_at lw_m3 94 rfl
theorem q695 : (Jvm.Cond.instanceMethod ({ cls := "DogsHour$Tokens", name := "isDigit", desc := "(I)Z" } : Jvm.MethodName)) ∈ lw_all := lw_g (lw_at lw_m3 95 rfl) rfl
theorem q696 : (Jvm.Cond.code ({ cls := "DogsHour$Tokens", name := "isDigit", desc := "(I)Z" } : Jvm.MethodName) prog_17_method_3_code (2 : Nat) (Option.some Jvm.ClassFile.FieldType.boolean)) ∈ lw_all := lw_g (lw_at lw_m3 96 rfl) rfl
theorem q697 : (Jvm.Cond.methodLink "DogsHour$Tokens" (110 : Nat) ({ cls := "DogsHour$Tokens", name := "sign", desc := "(I)I" } : Jvm.MethodName)) ∈ lw_all := lw_g (lw_at lw_m3 97 rfl) rfl
theorem q698 : (Jvm.Cond.privateMethod ({ cls := "DogsHour$Tokens", name := "sign", desc := "(I)I" } : Jvm.MethodName)) ∈ lw_tbl := lw_at lw_m3 98 rfl
theorem q699 : (Jvm.Cond.instanceMethod ({ cls := "DogsHour$Tokens", name := "sign", desc := "(I)I" } : Jvm.MethodName)) ∈ lw_all := lw_g (lw_at lw_m3 99 rfl) rfl
theorem q700 : (Jvm.Cond.code ({ cls := "DogsHour$Tokens", name := "sign", desc := "(I)I" } : Jvm.MethodName) prog_17_method_7_code (3 : Nat) (Option.some Jvm.ClassFile.FieldType.int)) ∈ lw_all := lw_g (lw_at lw_m3 100 rfl) rfl
theorem q701 : (Jvm.Cond.methodLink "DogsHour$Tokens" (113 : Nat) ({ cls := "DogsHour$Tokens", name := "add", desc := "(IIII)V" } : Jvm.MethodName)) ∈ lw_all := lw_g (lw_at lw_m3 101 rfl) rfl
theorem q702 : (Jvm.Cond.privateMethod ({ cls := "DogsHour$Tokens", name := "add", desc := "(IIII)V" } : Jvm.MethodName)) ∈ lw_tbl := lw_at lw_m3 102 rfl
theorem q703 : (Jvm.Cond.instanceMethod ({ cls := "DogsHour$Tokens", name := "add", desc := "(IIII)V" } : Jvm.MethodName)) ∈ lw_all := lw_g (lw_at lw_m3 103 rfl) rfl
theorem q704 : (Jvm.Cond.code ({ cls := "DogsHour$Tokens", name := "add", desc := "(IIII)V" } : Jvm.MethodName) prog_17_method_5_code (5 : Nat) (Option.none : Option Jvm.ClassFile.FieldType)) ∈ lw_all := lw_g (lw_at lw_m3 104 rfl) rfl
theorem q791 : (Jvm.Cond.instanceMethod ({ cls := "DogsHour$Tokens", name := "number", desc := "(I)I" } : Jvm.MethodName)) ∈ lw_all := lw_g (lw_at lw_m3 191 rfl) rfl
theorem q792 : (Jvm.Cond.selects "DogsHour$Tokens" ({ cls := "DogsHour$Tokens", name := "number", desc := "(I)I" } : Jvm.MethodName) ({ cls := "DogsHour$Tokens", name := "number", desc := "(I)I" } : Jvm.MethodName)) ∈ lw_all := lw_g (lw_at lw_m3 192 rfl) rfl
theorem q793 : (Jvm.Cond.code ({ cls := "DogsHour$Tokens", name := "number", desc := "(I)I" } : Jvm.MethodName) prog_17_method_10_code (4 : Nat) (Option.some Jvm.ClassFile.FieldType.int)) ∈ lw_all := lw_g (lw_at lw_m3 193 rfl) rfl
theorem q847 : (Jvm.Cond.instanceMethod ({ cls := "DogsHour$Tokens", name := "text", desc := "(I)Ljava/lang/String;" } : Jvm.MethodName)) ∈ lw_all := lw_g (lw_at lw_m4 7 rfl) rfl
theorem q848 : (Jvm.Cond.selects "DogsHour$Tokens" ({ cls := "DogsHour$Tokens", name := "text", desc := "(I)Ljava/lang/String;" } : Jvm.MethodName) ({ cls := "DogsHour$Tokens", name := "text", desc := "(I)Ljava/lang/String;" } : Jvm.MethodName)) ∈ lw_all := lw_g (lw_at lw_m4 8 rfl) rfl
theorem q849 : (Jvm.Cond.code ({ cls := "DogsHour$Tokens", name := "text", desc := "(I)Ljava/lang/String;" } : Jvm.MethodName) prog_17_method_9_code (4 : Nat) (Option.some (Jvm.ClassFile.FieldType.object "java/lang/String"))) ∈ lw_all := lw_g (lw_at lw_m4 9 rfl) rfl
theorem q850 : (Jvm.Cond.classLink "DogsHour$Tokens" (117 : Nat) "java/lang/StringBuilder") ∈ lw_all := lw_g (lw_at lw_m4 10 rfl) rfl
theorem q852 : (Jvm.Cond.methodLink "DogsHour$Tokens" (119 : Nat) ({ cls := "java/lang/StringBuilder", name := "<init>", desc := "()V" } : Jvm.MethodName)) ∈ lw_all := lw_g (lw_at lw_m4 12 rfl) rfl
theorem q880 : (Jvm.Cond.methodLink "DogsHour$Tokens" (120 : Nat) ({ cls := "java/lang/StringBuilder", name := "append", desc := "(C)Ljava/lang/StringBuilder;" } : Jvm.MethodName)) ∈ lw_all := lw_g (lw_at lw_m4 40 rfl) rfl
theorem q955 : (Jvm.Cond.methodLink "DogsHour$Tokens" (124 : Nat) ({ cls := "java/lang/StringBuilder", name := "toString", desc := "()Ljava/lang/String;" } : Jvm.MethodName)) ∈ lw_all := lw_g (lw_at lw_m4 115 rfl) rfl
theorem q1087 : (Jvm.Cond.selects "DogsHour$Tokens" ({ cls := "java/lang/Object", name := "getClass", desc := "()Ljava/lang/Class;" } : Jvm.MethodName) ({ cls := "java/lang/Object", name := "getClass", desc := "()Ljava/lang/Class;" } : Jvm.MethodName)) ∈ lw_all := lw_g (lw_at lw_m5 7 rfl) rfl
theorem q2178 : (Jvm.Cond.castable "DogsHour$Tokens" "java/lang/Object") ∈ lw_tbl := lw_at lw_m9 138 rfl
theorem in_X2 : ∀ w ∈ wsX20, w ∈ lw_all := lw_in wsX20 [285, 287, 289, 291, 293, 295, 297, 299] (by decide +kernel) (by decide +kernel)
/-! DogsHour$Parser -/
set_option maxRecDepth 100000
def RX3 : String := "DogsHour$Parser"
def TX3 : u_T := fun k => match k with
  | 0 => ("DogsHour$Parser", "t", "LDogsHour$Tokens;", true)
  | 1 => ("DogsHour$Parser", "fault", "LDogsHour$Fault;", true)
  | 2 => ("DogsHour$Parser", "text", "LDogsHour$Text;", false)
  | 3 => ("DogsHour$Parser", "at", "I", false)
  | 4 => ("DogsHour$Parser", "open", "I", false)
  | 5 => ("DogsHour$Parser", "worst", "I", false)
  | _ => ("DogsHour$Parser", "worstToken", "I", false)
def tyX3 : Nat → FieldType := fun k => match k with
  | 0 => .object "DogsHour$Tokens"
  | 1 => .object "DogsHour$Fault"
  | 2 => .object "DogsHour$Text"
  | 3 => .int
  | 4 => .int
  | 5 => .int
  | _ => .int
abbrev wsX30 : List Cond := u_ws RX3 TX3 7
theorem nmX3 : ∀ a, a < 7 → ∀ b, b < 7 → a ≠ b → (TX3 a).2.1 ≠ (TX3 b).2.1 := by decide +kernel
theorem tyX3_ok : ∀ k, k < 7 → parseFieldDescriptor (TX3 k).2.2.1 = some (tyX3 k) := by decide +kernel
abbrev cX3_init : ByteArray := prog_10_method_1_code
def yX3_init : MethodName := ⟨RX3, "<init>", "(LDogsHour$Tokens;LDogsHour$Fault;)V"⟩
def dkwX3_init_0 : List UInt8 := [42, 183, 0, 3, 42, 43, 181, 0, 9, 42, 44, 181, 0, 15, 177]
abbrev dktX3_init_0 : List UInt8 := dkwX3_init_0 ++ []
theorem dksX3_init_0 : cX3_init.data.toList.drop 0 = dktX3_init_0 := by decide +kernel
theorem dX3_init_0 : decode cX3_init 0 = .ok (.aload_n 0, 1) := dk_42 (dk_at dksX3_init_0 0 rfl rfl)
theorem dX3_init_1 : decode cX3_init 1 = .ok (.invokespecial 3, 3) := dk_183 0 3 (dk_at dksX3_init_0 1 rfl rfl)
theorem dX3_init_4 : decode cX3_init 4 = .ok (.aload_n 0, 1) := dk_42 (dk_at dksX3_init_0 4 rfl rfl)
theorem dX3_init_5 : decode cX3_init 5 = .ok (.aload_n 1, 1) := dk_43 (dk_at dksX3_init_0 5 rfl rfl)
theorem dX3_init_6 : decode cX3_init 6 = .ok (.putfield 9, 3) := dk_181 0 9 (dk_at dksX3_init_0 6 rfl rfl)
theorem dX3_init_9 : decode cX3_init 9 = .ok (.aload_n 0, 1) := dk_42 (dk_at dksX3_init_0 9 rfl rfl)
theorem dX3_init_10 : decode cX3_init 10 = .ok (.aload_n 2, 1) := dk_44 (dk_at dksX3_init_0 10 rfl rfl)
theorem dX3_init_11 : decode cX3_init 11 = .ok (.putfield 15, 3) := dk_181 0 15 (dk_at dksX3_init_0 11 rfl rfl)
theorem dX3_init_14 : decode cX3_init 14 = .ok (.return_, 1) := dk_177 (dk_at dksX3_init_0 14 rfl rfl)
abbrev cX3_read : ByteArray := prog_10_method_16_code
def yX3_read : MethodName := ⟨RX3, "read", "()LDogsHour$Text;"⟩
def dkwX3_read_3 : List UInt8 := [182, 0, 35, 191, 42, 180, 0, 83, 182, 0, 109, 42, 180, 0, 83, 176]
abbrev dktX3_read_3 : List UInt8 := dkwX3_read_3 ++ []
def dkwX3_read_2 : List UInt8 := [182, 0, 105, 167, 255, 238, 42, 180, 0, 38, 153, 0, 16, 42, 42, 180, 0, 38, 42, 180, 0, 41]
abbrev dktX3_read_2 : List UInt8 := dkwX3_read_2 ++ dktX3_read_3
def dkwX3_read_1 : List UInt8 := [3, 181, 0, 99, 42, 3, 181, 0, 38, 42, 182, 0, 65, 7, 159, 0, 16, 42, 182, 0, 102, 42, 16, 59]
abbrev dktX3_read_1 : List UInt8 := dkwX3_read_1 ++ dktX3_read_2
def dkwX3_read_0 : List UInt8 := [42, 180, 0, 9, 182, 0, 95, 42, 187, 0, 87, 89, 183, 0, 98, 181, 0, 83, 42, 3, 181, 0, 31, 42]
abbrev dktX3_read_0 : List UInt8 := dkwX3_read_0 ++ dktX3_read_1
theorem dksX3_read_0 : cX3_read.data.toList.drop 0 = dktX3_read_0 := by decide +kernel
theorem dksX3_read_1 : cX3_read.data.toList.drop 24 = dktX3_read_1 := dk_seg dksX3_read_0 24 rfl rfl
theorem dksX3_read_2 : cX3_read.data.toList.drop 48 = dktX3_read_2 := dk_seg dksX3_read_1 24 rfl rfl
theorem dksX3_read_3 : cX3_read.data.toList.drop 70 = dktX3_read_3 := dk_seg dksX3_read_2 22 rfl rfl
theorem dX3_read_0 : decode cX3_read 0 = .ok (.aload_n 0, 1) := dk_42 (dk_at dksX3_read_0 0 rfl rfl)
theorem dX3_read_1 : decode cX3_read 1 = .ok (.getfield 9, 3) := dk_180 0 9 (dk_at dksX3_read_0 1 rfl rfl)
theorem dX3_read_4 : decode cX3_read 4 = .ok (.invokevirtual 95, 3) := dk_182 0 95 (dk_at dksX3_read_0 4 rfl rfl)
theorem dX3_read_7 : decode cX3_read 7 = .ok (.aload_n 0, 1) := dk_42 (dk_at dksX3_read_0 7 rfl rfl)
theorem dX3_read_8 : decode cX3_read 8 = .ok (.new 87, 3) := dk_187 0 87 (dk_at dksX3_read_0 8 rfl rfl)
theorem dX3_read_11 : decode cX3_read 11 = .ok (.dup, 1) := dk_89 (dk_at dksX3_read_0 11 rfl rfl)
theorem dX3_read_12 : decode cX3_read 12 = .ok (.invokespecial 98, 3) := dk_183 0 98 (dk_at dksX3_read_0 12 rfl rfl)
theorem dX3_read_15 : decode cX3_read 15 = .ok (.putfield 83, 3) := dk_181 0 83 (dk_at dksX3_read_0 15 rfl rfl)
theorem dX3_read_18 : decode cX3_read 18 = .ok (.aload_n 0, 1) := dk_42 (dk_at dksX3_read_0 18 rfl rfl)
theorem dX3_read_19 : decode cX3_read 19 = .ok (.iconst 0, 1) := dk_3 (dk_at dksX3_read_0 19 rfl rfl)
theorem dX3_read_20 : decode cX3_read 20 = .ok (.putfield 31, 3) := dk_181 0 31 (dk_at dksX3_read_0 20 rfl rfl)
theorem dX3_read_23 : decode cX3_read 23 = .ok (.aload_n 0, 1) := dk_42 (dk_at dksX3_read_0 23 rfl rfl)
theorem dX3_read_24 : decode cX3_read 24 = .ok (.iconst 0, 1) := dk_3 (dk_at dksX3_read_1 0 rfl rfl)
theorem dX3_read_25 : decode cX3_read 25 = .ok (.putfield 99, 3) := dk_181 0 99 (dk_at dksX3_read_1 1 rfl rfl)
theorem dX3_read_28 : decode cX3_read 28 = .ok (.aload_n 0, 1) := dk_42 (dk_at dksX3_read_1 4 rfl rfl)
theorem dX3_read_29 : decode cX3_read 29 = .ok (.iconst 0, 1) := dk_3 (dk_at dksX3_read_1 5 rfl rfl)
theorem dX3_read_30 : decode cX3_read 30 = .ok (.putfield 38, 3) := dk_181 0 38 (dk_at dksX3_read_1 6 rfl rfl)
theorem dX3_read_33 : decode cX3_read 33 = .ok (.aload_n 0, 1) := dk_42 (dk_at dksX3_read_1 9 rfl rfl)
theorem dX3_read_34 : decode cX3_read 34 = .ok (.invokevirtual 65, 3) := dk_182 0 65 (dk_at dksX3_read_1 10 rfl rfl)
theorem dX3_read_37 : decode cX3_read 37 = .ok (.iconst 4, 1) := dk_7 (dk_at dksX3_read_1 13 rfl rfl)
theorem dX3_read_38 : decode cX3_read 38 = .ok (.if_icmp .eq 16, 3) := dk_159 0 16 (dk_at dksX3_read_1 14 rfl rfl)
theorem dX3_read_41 : decode cX3_read 41 = .ok (.aload_n 0, 1) := dk_42 (dk_at dksX3_read_1 17 rfl rfl)
theorem dX3_read_42 : decode cX3_read 42 = .ok (.invokevirtual 102, 3) := dk_182 0 102 (dk_at dksX3_read_1 18 rfl rfl)
theorem dX3_read_45 : decode cX3_read 45 = .ok (.aload_n 0, 1) := dk_42 (dk_at dksX3_read_1 21 rfl rfl)
theorem dX3_read_46 : decode cX3_read 46 = .ok (.bipush 59, 2) := dk_16 59 (dk_at dksX3_read_1 22 rfl rfl)
theorem dX3_read_48 : decode cX3_read 48 = .ok (.invokevirtual 105, 3) := dk_182 0 105 (dk_at dksX3_read_2 0 rfl rfl)
theorem dX3_read_51 : decode cX3_read 51 = .ok (.goto (-18), 3) := dk_167 255 238 (dk_at dksX3_read_2 3 rfl rfl)
theorem dX3_read_54 : decode cX3_read 54 = .ok (.aload_n 0, 1) := dk_42 (dk_at dksX3_read_2 6 rfl rfl)
theorem dX3_read_55 : decode cX3_read 55 = .ok (.getfield 38, 3) := dk_180 0 38 (dk_at dksX3_read_2 7 rfl rfl)
theorem dX3_read_58 : decode cX3_read 58 = .ok (.ifCond .eq 16, 3) := dk_153 0 16 (dk_at dksX3_read_2 10 rfl rfl)
theorem dX3_read_61 : decode cX3_read 61 = .ok (.aload_n 0, 1) := dk_42 (dk_at dksX3_read_2 13 rfl rfl)
theorem dX3_read_62 : decode cX3_read 62 = .ok (.aload_n 0, 1) := dk_42 (dk_at dksX3_read_2 14 rfl rfl)
theorem dX3_read_63 : decode cX3_read 63 = .ok (.getfield 38, 3) := dk_180 0 38 (dk_at dksX3_read_2 15 rfl rfl)
theorem dX3_read_66 : decode cX3_read 66 = .ok (.aload_n 0, 1) := dk_42 (dk_at dksX3_read_2 18 rfl rfl)
theorem dX3_read_67 : decode cX3_read 67 = .ok (.getfield 41, 3) := dk_180 0 41 (dk_at dksX3_read_2 19 rfl rfl)
theorem dX3_read_70 : decode cX3_read 70 = .ok (.invokevirtual 35, 3) := dk_182 0 35 (dk_at dksX3_read_3 0 rfl rfl)
theorem dX3_read_73 : decode cX3_read 73 = .ok (.athrow, 1) := dk_191 (dk_at dksX3_read_3 3 rfl rfl)
theorem dX3_read_74 : decode cX3_read 74 = .ok (.aload_n 0, 1) := dk_42 (dk_at dksX3_read_3 4 rfl rfl)
theorem dX3_read_75 : decode cX3_read 75 = .ok (.getfield 83, 3) := dk_180 0 83 (dk_at dksX3_read_3 5 rfl rfl)
theorem dX3_read_78 : decode cX3_read 78 = .ok (.invokevirtual 109, 3) := dk_182 0 109 (dk_at dksX3_read_3 8 rfl rfl)
theorem dX3_read_81 : decode cX3_read 81 = .ok (.aload_n 0, 1) := dk_42 (dk_at dksX3_read_3 11 rfl rfl)
theorem dX3_read_82 : decode cX3_read 82 = .ok (.getfield 83, 3) := dk_180 0 83 (dk_at dksX3_read_3 12 rfl rfl)
theorem dX3_read_85 : decode cX3_read 85 = .ok (.areturn, 1) := dk_176 (dk_at dksX3_read_3 15 rfl rfl)
abbrev cX3_sort : ByteArray := prog_10_method_5_code
def yX3_sort : MethodName := ⟨RX3, "sort", "()I"⟩
def dkwX3_sort_1 : List UInt8 := [180, 0, 9, 180, 0, 44, 42, 180, 0, 31, 51, 172]
abbrev dktX3_sort_1 : List UInt8 := dkwX3_sort_1 ++ []
def dkwX3_sort_0 : List UInt8 := [42, 180, 0, 9, 180, 0, 44, 42, 180, 0, 31, 51, 8, 160, 0, 9, 42, 4, 182, 0, 48, 191, 42]
abbrev dktX3_sort_0 : List UInt8 := dkwX3_sort_0 ++ dktX3_sort_1
theorem dksX3_sort_0 : cX3_sort.data.toList.drop 0 = dktX3_sort_0 := by decide +kernel
theorem dksX3_sort_1 : cX3_sort.data.toList.drop 23 = dktX3_sort_1 := dk_seg dksX3_sort_0 23 rfl rfl
theorem dX3_sort_0 : decode cX3_sort 0 = .ok (.aload_n 0, 1) := dk_42 (dk_at dksX3_sort_0 0 rfl rfl)
theorem dX3_sort_1 : decode cX3_sort 1 = .ok (.getfield 9, 3) := dk_180 0 9 (dk_at dksX3_sort_0 1 rfl rfl)
theorem dX3_sort_4 : decode cX3_sort 4 = .ok (.getfield 44, 3) := dk_180 0 44 (dk_at dksX3_sort_0 4 rfl rfl)
theorem dX3_sort_7 : decode cX3_sort 7 = .ok (.aload_n 0, 1) := dk_42 (dk_at dksX3_sort_0 7 rfl rfl)
theorem dX3_sort_8 : decode cX3_sort 8 = .ok (.getfield 31, 3) := dk_180 0 31 (dk_at dksX3_sort_0 8 rfl rfl)
theorem dX3_sort_11 : decode cX3_sort 11 = .ok (.baload, 1) := dk_51 (dk_at dksX3_sort_0 11 rfl rfl)
theorem dX3_sort_12 : decode cX3_sort 12 = .ok (.iconst 5, 1) := dk_8 (dk_at dksX3_sort_0 12 rfl rfl)
theorem dX3_sort_13 : decode cX3_sort 13 = .ok (.if_icmp .ne 9, 3) := dk_160 0 9 (dk_at dksX3_sort_0 13 rfl rfl)
theorem dX3_sort_16 : decode cX3_sort 16 = .ok (.aload_n 0, 1) := dk_42 (dk_at dksX3_sort_0 16 rfl rfl)
theorem dX3_sort_17 : decode cX3_sort 17 = .ok (.iconst 1, 1) := dk_4 (dk_at dksX3_sort_0 17 rfl rfl)
theorem dX3_sort_18 : decode cX3_sort 18 = .ok (.invokevirtual 48, 3) := dk_182 0 48 (dk_at dksX3_sort_0 18 rfl rfl)
theorem dX3_sort_21 : decode cX3_sort 21 = .ok (.athrow, 1) := dk_191 (dk_at dksX3_sort_0 21 rfl rfl)
theorem dX3_sort_22 : decode cX3_sort 22 = .ok (.aload_n 0, 1) := dk_42 (dk_at dksX3_sort_0 22 rfl rfl)
theorem dX3_sort_23 : decode cX3_sort 23 = .ok (.getfield 9, 3) := dk_180 0 9 (dk_at dksX3_sort_1 0 rfl rfl)
theorem dX3_sort_26 : decode cX3_sort 26 = .ok (.getfield 44, 3) := dk_180 0 44 (dk_at dksX3_sort_1 3 rfl rfl)
theorem dX3_sort_29 : decode cX3_sort 29 = .ok (.aload_n 0, 1) := dk_42 (dk_at dksX3_sort_1 6 rfl rfl)
theorem dX3_sort_30 : decode cX3_sort 30 = .ok (.getfield 31, 3) := dk_180 0 31 (dk_at dksX3_sort_1 7 rfl rfl)
theorem dX3_sort_33 : decode cX3_sort 33 = .ok (.baload, 1) := dk_51 (dk_at dksX3_sort_1 10 rfl rfl)
theorem dX3_sort_34 : decode cX3_sort 34 = .ok (.ireturn, 1) := dk_172 (dk_at dksX3_sort_1 11 rfl rfl)
abbrev cX3_wrong : ByteArray := prog_10_method_3_code
def yX3_wrong : MethodName := ⟨RX3, "wrong", "(I)LDogsHour$Fault;"⟩
def dkwX3_wrong_0 : List UInt8 := [42, 27, 42, 180, 0, 31, 182, 0, 35, 176]
abbrev dktX3_wrong_0 : List UInt8 := dkwX3_wrong_0 ++ []
theorem dksX3_wrong_0 : cX3_wrong.data.toList.drop 0 = dktX3_wrong_0 := by decide +kernel
theorem dX3_wrong_0 : decode cX3_wrong 0 = .ok (.aload_n 0, 1) := dk_42 (dk_at dksX3_wrong_0 0 rfl rfl)
theorem dX3_wrong_1 : decode cX3_wrong 1 = .ok (.iload_n 1, 1) := dk_27 (dk_at dksX3_wrong_0 1 rfl rfl)
theorem dX3_wrong_2 : decode cX3_wrong 2 = .ok (.aload_n 0, 1) := dk_42 (dk_at dksX3_wrong_0 2 rfl rfl)
theorem dX3_wrong_3 : decode cX3_wrong 3 = .ok (.getfield 31, 3) := dk_180 0 31 (dk_at dksX3_wrong_0 3 rfl rfl)
theorem dX3_wrong_6 : decode cX3_wrong 6 = .ok (.invokevirtual 35, 3) := dk_182 0 35 (dk_at dksX3_wrong_0 6 rfl rfl)
theorem dX3_wrong_9 : decode cX3_wrong 9 = .ok (.areturn, 1) := dk_176 (dk_at dksX3_wrong_0 9 rfl rfl)
abbrev cX3_wrongAt : ByteArray := prog_10_method_2_code
def yX3_wrongAt : MethodName := ⟨RX3, "wrongAt", "(II)LDogsHour$Fault;"⟩
def dkwX3_wrongAt_0 : List UInt8 := [42, 180, 0, 15, 27, 42, 180, 0, 9, 180, 0, 19, 28, 53, 182, 0, 25, 176]
abbrev dktX3_wrongAt_0 : List UInt8 := dkwX3_wrongAt_0 ++ []
theorem dksX3_wrongAt_0 : cX3_wrongAt.data.toList.drop 0 = dktX3_wrongAt_0 := by decide +kernel
theorem dX3_wrongAt_0 : decode cX3_wrongAt 0 = .ok (.aload_n 0, 1) := dk_42 (dk_at dksX3_wrongAt_0 0 rfl rfl)
theorem dX3_wrongAt_1 : decode cX3_wrongAt 1 = .ok (.getfield 15, 3) := dk_180 0 15 (dk_at dksX3_wrongAt_0 1 rfl rfl)
theorem dX3_wrongAt_4 : decode cX3_wrongAt 4 = .ok (.iload_n 1, 1) := dk_27 (dk_at dksX3_wrongAt_0 4 rfl rfl)
theorem dX3_wrongAt_5 : decode cX3_wrongAt 5 = .ok (.aload_n 0, 1) := dk_42 (dk_at dksX3_wrongAt_0 5 rfl rfl)
theorem dX3_wrongAt_6 : decode cX3_wrongAt 6 = .ok (.getfield 9, 3) := dk_180 0 9 (dk_at dksX3_wrongAt_0 6 rfl rfl)
theorem dX3_wrongAt_9 : decode cX3_wrongAt 9 = .ok (.getfield 19, 3) := dk_180 0 19 (dk_at dksX3_wrongAt_0 9 rfl rfl)
theorem dX3_wrongAt_12 : decode cX3_wrongAt 12 = .ok (.iload_n 2, 1) := dk_28 (dk_at dksX3_wrongAt_0 12 rfl rfl)
theorem dX3_wrongAt_13 : decode cX3_wrongAt 13 = .ok (.saload, 1) := dk_53 (dk_at dksX3_wrongAt_0 13 rfl rfl)
theorem dX3_wrongAt_14 : decode cX3_wrongAt 14 = .ok (.invokevirtual 25, 3) := dk_182 0 25 (dk_at dksX3_wrongAt_0 14 rfl rfl)
theorem dX3_wrongAt_17 : decode cX3_wrongAt 17 = .ok (.areturn, 1) := dk_176 (dk_at dksX3_wrongAt_0 17 rfl rfl)
abbrev cX3_told : ByteArray := prog_10_method_17_code
def yX3_told : MethodName := ⟨RX3, "told", "()V"⟩
def dkwX3_told_18 : List UInt8 := [180, 0, 83, 42, 3, 17, 5, 159, 182, 0, 165, 181, 0, 199, 167, 0, 9, 42, 4, 182, 0, 48, 191, 177]
abbrev dktX3_told_18 : List UInt8 := dkwX3_told_18 ++ []
def dkwX3_told_17 : List UInt8 := [4, 96, 184, 0, 191, 17, 5, 160, 182, 0, 165, 181, 0, 196, 167, 0, 31, 42, 182, 0, 59, 42]
abbrev dktX3_told_17 : List UInt8 := dkwX3_told_17 ++ dktX3_told_18
def dkwX3_told_16 : List UInt8 := [17, 5, 159, 182, 0, 165, 181, 0, 189, 42, 180, 0, 83, 42, 17, 5, 160, 42, 180, 0, 83, 180, 0, 189]
abbrev dktX3_told_16 : List UInt8 := dkwX3_told_16 ++ dktX3_told_17
def dkwX3_told_15 : List UInt8 := [182, 0, 141, 87, 167, 0, 89, 42, 182, 0, 186, 167, 0, 82, 42, 182, 0, 59, 42, 180, 0, 83, 42, 3]
abbrev dktX3_told_15 : List UInt8 := dkwX3_told_15 ++ dktX3_told_16
def dkwX3_told_14 : List UInt8 := [181, 0, 180, 44, 42, 3, 16, 99, 182, 0, 165, 181, 0, 183, 42, 180, 0, 83, 180, 0, 174, 44]
abbrev dktX3_told_14 : List UInt8 := dkwX3_told_14 ++ dktX3_told_15
def dkwX3_told_13 : List UInt8 := [187, 0, 177, 89, 42, 182, 0, 134, 183, 0, 179, 77, 44, 42, 42, 180, 0, 83, 180, 0, 120, 182, 0, 148]
abbrev dktX3_told_13 : List UInt8 := dkwX3_told_13 ++ dktX3_told_14
def dkwX3_told_12 : List UInt8 := [44, 182, 0, 141, 87, 167, 0, 157, 42, 42, 180, 0, 83, 180, 0, 174, 182, 0, 124, 7, 182, 0, 129]
abbrev dktX3_told_12 : List UInt8 := dkwX3_told_12 ++ dktX3_told_13
def dkwX3_told_11 : List UInt8 := [182, 0, 165, 181, 0, 168, 44, 42, 3, 16, 9, 182, 0, 165, 181, 0, 171, 42, 180, 0, 83, 180, 0, 156]
abbrev dktX3_told_11 : List UInt8 := dkwX3_told_11 ++ dktX3_told_12
def dkwX3_told_10 : List UInt8 := [183, 0, 161, 77, 44, 42, 42, 180, 0, 83, 180, 0, 120, 182, 0, 148, 181, 0, 162, 44, 42, 3, 16, 9]
abbrev dktX3_told_10 : List UInt8 := dkwX3_told_10 ++ dktX3_told_11
def dkwX3_told_9 : List UInt8 := [42, 180, 0, 83, 180, 0, 156, 182, 0, 124, 8, 182, 0, 129, 187, 0, 159, 89, 42, 182, 0, 134]
abbrev dktX3_told_9 : List UInt8 := dkwX3_told_9 ++ dktX3_told_10
def dkwX3_told_8 : List UInt8 := [28, 21, 4, 29, 182, 0, 152, 42, 180, 0, 83, 89, 180, 0, 145, 4, 96, 181, 0, 145, 167, 0, 236, 42]
abbrev dktX3_told_8 : List UInt8 := dkwX3_told_8 ++ dktX3_told_9
def dkwX3_told_7 : List UInt8 := [62, 42, 42, 180, 0, 83, 180, 0, 120, 182, 0, 148, 54, 4, 28, 155, 0, 16, 21, 4, 155, 0, 11, 42]
abbrev dktX3_told_7 : List UInt8 := dkwX3_told_7 ++ dktX3_told_8
def dkwX3_told_6 : List UInt8 := [180, 0, 145, 16, 12, 182, 0, 129, 42, 42, 180, 0, 83, 180, 0, 120, 182, 0, 148, 61, 42, 180, 0, 31]
abbrev dktX3_told_6 : List UInt8 := dkwX3_told_6 ++ dktX3_told_7
def dkwX3_told_5 : List UInt8 := [187, 0, 132, 89, 42, 182, 0, 134, 183, 0, 138, 182, 0, 141, 87, 167, 1, 56, 42, 42, 180, 0, 83]
abbrev dktX3_told_5 : List UInt8 := dkwX3_told_5 ++ dktX3_told_6
def dkwX3_told_4 : List UInt8 := [42, 42, 180, 0, 83, 180, 0, 120, 182, 0, 124, 16, 7, 182, 0, 129, 42, 180, 0, 83, 180, 0, 120]
abbrev dktX3_told_4 : List UInt8 := dkwX3_told_4 ++ dktX3_told_5
def dkwX3_told_3 : List UInt8 := [170, 0, 0, 0, 0, 1, 147, 0, 0, 0, 0, 0, 0, 0, 10, 0, 0, 0, 59, 0, 0, 0, 100, 0, 0, 0, 176, 0, 0, 0, 255, 0, 0, 1, 67, 0, 0, 1, 147, 0, 0, 1, 147, 0, 0, 1, 147, 0, 0, 1, 147, 0, 0, 1, 74, 0, 0, 1, 125]
abbrev dktX3_told_3 : List UInt8 := dkwX3_told_3 ++ dktX3_told_4
def dkwX3_told_2 : List UInt8 := [8, 100, 42, 182, 0, 116, 83, 177, 27]
abbrev dktX3_told_2 : List UInt8 := dkwX3_told_2 ++ dktX3_told_3
def dkwX3_told_1 : List UInt8 := [60, 27, 8, 161, 0, 29, 27, 16, 8, 163, 0, 23, 42, 182, 0, 59, 42, 180, 0, 83, 180, 0, 112, 27]
abbrev dktX3_told_1 : List UInt8 := dkwX3_told_1 ++ dktX3_told_2
def dkwX3_told_0 : List UInt8 := [42, 182, 0, 65, 6, 160, 0, 18, 42, 180, 0, 9, 180, 0, 52, 42, 180, 0, 31, 53, 167, 0, 4, 2]
abbrev dktX3_told_0 : List UInt8 := dkwX3_told_0 ++ dktX3_told_1
theorem dksX3_told_0 : cX3_told.data.toList.drop 0 = dktX3_told_0 := by decide +kernel
theorem dksX3_told_1 : cX3_told.data.toList.drop 24 = dktX3_told_1 := dk_seg dksX3_told_0 24 rfl rfl
theorem dksX3_told_2 : cX3_told.data.toList.drop 48 = dktX3_told_2 := dk_seg dksX3_told_1 24 rfl rfl
theorem dksX3_told_3 : cX3_told.data.toList.drop 57 = dktX3_told_3 := dk_seg dksX3_told_2 9 rfl rfl
theorem dksX3_told_4 : cX3_told.data.toList.drop 116 = dktX3_told_4 := dk_seg dksX3_told_3 59 rfl rfl
theorem dksX3_told_5 : cX3_told.data.toList.drop 139 = dktX3_told_5 := dk_seg dksX3_told_4 23 rfl rfl
theorem dksX3_told_6 : cX3_told.data.toList.drop 162 = dktX3_told_6 := dk_seg dksX3_told_5 23 rfl rfl
theorem dksX3_told_7 : cX3_told.data.toList.drop 186 = dktX3_told_7 := dk_seg dksX3_told_6 24 rfl rfl
theorem dksX3_told_8 : cX3_told.data.toList.drop 210 = dktX3_told_8 := dk_seg dksX3_told_7 24 rfl rfl
theorem dksX3_told_9 : cX3_told.data.toList.drop 234 = dktX3_told_9 := dk_seg dksX3_told_8 24 rfl rfl
theorem dksX3_told_10 : cX3_told.data.toList.drop 256 = dktX3_told_10 := dk_seg dksX3_told_9 22 rfl rfl
theorem dksX3_told_11 : cX3_told.data.toList.drop 280 = dktX3_told_11 := dk_seg dksX3_told_10 24 rfl rfl
theorem dksX3_told_12 : cX3_told.data.toList.drop 304 = dktX3_told_12 := dk_seg dksX3_told_11 24 rfl rfl
theorem dksX3_told_13 : cX3_told.data.toList.drop 327 = dktX3_told_13 := dk_seg dksX3_told_12 23 rfl rfl
theorem dksX3_told_14 : cX3_told.data.toList.drop 351 = dktX3_told_14 := dk_seg dksX3_told_13 24 rfl rfl
theorem dksX3_told_15 : cX3_told.data.toList.drop 373 = dktX3_told_15 := dk_seg dksX3_told_14 22 rfl rfl
theorem dksX3_told_16 : cX3_told.data.toList.drop 397 = dktX3_told_16 := dk_seg dksX3_told_15 24 rfl rfl
theorem dksX3_told_17 : cX3_told.data.toList.drop 421 = dktX3_told_17 := dk_seg dksX3_told_16 24 rfl rfl
theorem dksX3_told_18 : cX3_told.data.toList.drop 443 = dktX3_told_18 := dk_seg dksX3_told_17 22 rfl rfl
theorem dX3_told_0 : decode cX3_told 0 = .ok (.aload_n 0, 1) := dk_42 (dk_at dksX3_told_0 0 rfl rfl)
theorem dX3_told_1 : decode cX3_told 1 = .ok (.invokevirtual 65, 3) := dk_182 0 65 (dk_at dksX3_told_0 1 rfl rfl)
theorem dX3_told_4 : decode cX3_told 4 = .ok (.iconst 3, 1) := dk_6 (dk_at dksX3_told_0 4 rfl rfl)
theorem dX3_told_5 : decode cX3_told 5 = .ok (.if_icmp .ne 18, 3) := dk_160 0 18 (dk_at dksX3_told_0 5 rfl rfl)
theorem dX3_told_8 : decode cX3_told 8 = .ok (.aload_n 0, 1) := dk_42 (dk_at dksX3_told_0 8 rfl rfl)
theorem dX3_told_9 : decode cX3_told 9 = .ok (.getfield 9, 3) := dk_180 0 9 (dk_at dksX3_told_0 9 rfl rfl)
theorem dX3_told_12 : decode cX3_told 12 = .ok (.getfield 52, 3) := dk_180 0 52 (dk_at dksX3_told_0 12 rfl rfl)
theorem dX3_told_15 : decode cX3_told 15 = .ok (.aload_n 0, 1) := dk_42 (dk_at dksX3_told_0 15 rfl rfl)
theorem dX3_told_16 : decode cX3_told 16 = .ok (.getfield 31, 3) := dk_180 0 31 (dk_at dksX3_told_0 16 rfl rfl)
theorem dX3_told_19 : decode cX3_told 19 = .ok (.saload, 1) := dk_53 (dk_at dksX3_told_0 19 rfl rfl)
theorem dX3_told_20 : decode cX3_told 20 = .ok (.goto 4, 3) := dk_167 0 4 (dk_at dksX3_told_0 20 rfl rfl)
theorem dX3_told_23 : decode cX3_told 23 = .ok (.iconst (-1), 1) := dk_2 (dk_at dksX3_told_0 23 rfl rfl)
theorem dX3_told_24 : decode cX3_told 24 = .ok (.istore_n 1, 1) := dk_60 (dk_at dksX3_told_1 0 rfl rfl)
theorem dX3_told_25 : decode cX3_told 25 = .ok (.iload_n 1, 1) := dk_27 (dk_at dksX3_told_1 1 rfl rfl)
theorem dX3_told_26 : decode cX3_told 26 = .ok (.iconst 5, 1) := dk_8 (dk_at dksX3_told_1 2 rfl rfl)
theorem dX3_told_27 : decode cX3_told 27 = .ok (.if_icmp .lt 29, 3) := dk_161 0 29 (dk_at dksX3_told_1 3 rfl rfl)
theorem dX3_told_30 : decode cX3_told 30 = .ok (.iload_n 1, 1) := dk_27 (dk_at dksX3_told_1 6 rfl rfl)
theorem dX3_told_31 : decode cX3_told 31 = .ok (.bipush 8, 2) := dk_16 8 (dk_at dksX3_told_1 7 rfl rfl)
theorem dX3_told_33 : decode cX3_told 33 = .ok (.if_icmp .gt 23, 3) := dk_163 0 23 (dk_at dksX3_told_1 9 rfl rfl)
theorem dX3_told_36 : decode cX3_told 36 = .ok (.aload_n 0, 1) := dk_42 (dk_at dksX3_told_1 12 rfl rfl)
theorem dX3_told_37 : decode cX3_told 37 = .ok (.invokevirtual 59, 3) := dk_182 0 59 (dk_at dksX3_told_1 13 rfl rfl)
theorem dX3_told_40 : decode cX3_told 40 = .ok (.aload_n 0, 1) := dk_42 (dk_at dksX3_told_1 16 rfl rfl)
theorem dX3_told_41 : decode cX3_told 41 = .ok (.getfield 83, 3) := dk_180 0 83 (dk_at dksX3_told_1 17 rfl rfl)
theorem dX3_told_44 : decode cX3_told 44 = .ok (.getfield 112, 3) := dk_180 0 112 (dk_at dksX3_told_1 20 rfl rfl)
theorem dX3_told_47 : decode cX3_told 47 = .ok (.iload_n 1, 1) := dk_27 (dk_at dksX3_told_1 23 rfl rfl)
theorem dX3_told_48 : decode cX3_told 48 = .ok (.iconst 5, 1) := dk_8 (dk_at dksX3_told_2 0 rfl rfl)
theorem dX3_told_49 : decode cX3_told 49 = .ok (.isub, 1) := dk_100 (dk_at dksX3_told_2 1 rfl rfl)
theorem dX3_told_50 : decode cX3_told 50 = .ok (.aload_n 0, 1) := dk_42 (dk_at dksX3_told_2 2 rfl rfl)
theorem dX3_told_51 : decode cX3_told 51 = .ok (.invokevirtual 116, 3) := dk_182 0 116 (dk_at dksX3_told_2 3 rfl rfl)
theorem dX3_told_54 : decode cX3_told 54 = .ok (.aastore, 1) := dk_83 (dk_at dksX3_told_2 6 rfl rfl)
theorem dX3_told_55 : decode cX3_told 55 = .ok (.return_, 1) := dk_177 (dk_at dksX3_told_2 7 rfl rfl)
theorem dX3_told_56 : decode cX3_told 56 = .ok (.iload_n 1, 1) := dk_27 (dk_at dksX3_told_2 8 rfl rfl)
theorem dX3_told_57 : decode cX3_told 57 = .ok (.tableswitch 403 0 10 #[59, 100, 176, 255, 323, 403, 403, 403, 403, 330, 381], 59) := by decide +kernel
theorem dX3_told_116 : decode cX3_told 116 = .ok (.aload_n 0, 1) := dk_42 (dk_at dksX3_told_4 0 rfl rfl)
theorem dX3_told_117 : decode cX3_told 117 = .ok (.aload_n 0, 1) := dk_42 (dk_at dksX3_told_4 1 rfl rfl)
theorem dX3_told_118 : decode cX3_told 118 = .ok (.getfield 83, 3) := dk_180 0 83 (dk_at dksX3_told_4 2 rfl rfl)
theorem dX3_told_121 : decode cX3_told 121 = .ok (.getfield 120, 3) := dk_180 0 120 (dk_at dksX3_told_4 5 rfl rfl)
theorem dX3_told_124 : decode cX3_told 124 = .ok (.invokevirtual 124, 3) := dk_182 0 124 (dk_at dksX3_told_4 8 rfl rfl)
theorem dX3_told_127 : decode cX3_told 127 = .ok (.bipush 7, 2) := dk_16 7 (dk_at dksX3_told_4 11 rfl rfl)
theorem dX3_told_129 : decode cX3_told 129 = .ok (.invokevirtual 129, 3) := dk_182 0 129 (dk_at dksX3_told_4 13 rfl rfl)
theorem dX3_told_132 : decode cX3_told 132 = .ok (.aload_n 0, 1) := dk_42 (dk_at dksX3_told_4 16 rfl rfl)
theorem dX3_told_133 : decode cX3_told 133 = .ok (.getfield 83, 3) := dk_180 0 83 (dk_at dksX3_told_4 17 rfl rfl)
theorem dX3_told_136 : decode cX3_told 136 = .ok (.getfield 120, 3) := dk_180 0 120 (dk_at dksX3_told_4 20 rfl rfl)
theorem dX3_told_139 : decode cX3_told 139 = .ok (.new 132, 3) := dk_187 0 132 (dk_at dksX3_told_5 0 rfl rfl)
theorem dX3_told_142 : decode cX3_told 142 = .ok (.dup, 1) := dk_89 (dk_at dksX3_told_5 3 rfl rfl)
theorem dX3_told_143 : decode cX3_told 143 = .ok (.aload_n 0, 1) := dk_42 (dk_at dksX3_told_5 4 rfl rfl)
theorem dX3_told_144 : decode cX3_told 144 = .ok (.invokevirtual 134, 3) := dk_182 0 134 (dk_at dksX3_told_5 5 rfl rfl)
theorem dX3_told_147 : decode cX3_told 147 = .ok (.invokespecial 138, 3) := dk_183 0 138 (dk_at dksX3_told_5 8 rfl rfl)
theorem dX3_told_150 : decode cX3_told 150 = .ok (.invokevirtual 141, 3) := dk_182 0 141 (dk_at dksX3_told_5 11 rfl rfl)
theorem dX3_told_153 : decode cX3_told 153 = .ok (.pop, 1) := dk_87 (dk_at dksX3_told_5 14 rfl rfl)
theorem dX3_told_154 : decode cX3_told 154 = .ok (.goto 312, 3) := dk_167 1 56 (dk_at dksX3_told_5 15 rfl rfl)
theorem dX3_told_157 : decode cX3_told 157 = .ok (.aload_n 0, 1) := dk_42 (dk_at dksX3_told_5 18 rfl rfl)
theorem dX3_told_158 : decode cX3_told 158 = .ok (.aload_n 0, 1) := dk_42 (dk_at dksX3_told_5 19 rfl rfl)
theorem dX3_told_159 : decode cX3_told 159 = .ok (.getfield 83, 3) := dk_180 0 83 (dk_at dksX3_told_5 20 rfl rfl)
theorem dX3_told_162 : decode cX3_told 162 = .ok (.getfield 145, 3) := dk_180 0 145 (dk_at dksX3_told_6 0 rfl rfl)
theorem dX3_told_165 : decode cX3_told 165 = .ok (.bipush 12, 2) := dk_16 12 (dk_at dksX3_told_6 3 rfl rfl)
theorem dX3_told_167 : decode cX3_told 167 = .ok (.invokevirtual 129, 3) := dk_182 0 129 (dk_at dksX3_told_6 5 rfl rfl)
theorem dX3_told_170 : decode cX3_told 170 = .ok (.aload_n 0, 1) := dk_42 (dk_at dksX3_told_6 8 rfl rfl)
theorem dX3_told_171 : decode cX3_told 171 = .ok (.aload_n 0, 1) := dk_42 (dk_at dksX3_told_6 9 rfl rfl)
theorem dX3_told_172 : decode cX3_told 172 = .ok (.getfield 83, 3) := dk_180 0 83 (dk_at dksX3_told_6 10 rfl rfl)
theorem dX3_told_175 : decode cX3_told 175 = .ok (.getfield 120, 3) := dk_180 0 120 (dk_at dksX3_told_6 13 rfl rfl)
theorem dX3_told_178 : decode cX3_told 178 = .ok (.invokevirtual 148, 3) := dk_182 0 148 (dk_at dksX3_told_6 16 rfl rfl)
theorem dX3_told_181 : decode cX3_told 181 = .ok (.istore_n 2, 1) := dk_61 (dk_at dksX3_told_6 19 rfl rfl)
theorem dX3_told_182 : decode cX3_told 182 = .ok (.aload_n 0, 1) := dk_42 (dk_at dksX3_told_6 20 rfl rfl)
theorem dX3_told_183 : decode cX3_told 183 = .ok (.getfield 31, 3) := dk_180 0 31 (dk_at dksX3_told_6 21 rfl rfl)
theorem dX3_told_186 : decode cX3_told 186 = .ok (.istore_n 3, 1) := dk_62 (dk_at dksX3_told_7 0 rfl rfl)
theorem dX3_told_187 : decode cX3_told 187 = .ok (.aload_n 0, 1) := dk_42 (dk_at dksX3_told_7 1 rfl rfl)
theorem dX3_told_188 : decode cX3_told 188 = .ok (.aload_n 0, 1) := dk_42 (dk_at dksX3_told_7 2 rfl rfl)
theorem dX3_told_189 : decode cX3_told 189 = .ok (.getfield 83, 3) := dk_180 0 83 (dk_at dksX3_told_7 3 rfl rfl)
theorem dX3_told_192 : decode cX3_told 192 = .ok (.getfield 120, 3) := dk_180 0 120 (dk_at dksX3_told_7 6 rfl rfl)
theorem dX3_told_195 : decode cX3_told 195 = .ok (.invokevirtual 148, 3) := dk_182 0 148 (dk_at dksX3_told_7 9 rfl rfl)
theorem dX3_told_198 : decode cX3_told 198 = .ok (.istore 4, 2) := dk_54 4 (dk_at dksX3_told_7 12 rfl rfl)
theorem dX3_told_200 : decode cX3_told 200 = .ok (.iload_n 2, 1) := dk_28 (dk_at dksX3_told_7 14 rfl rfl)
theorem dX3_told_201 : decode cX3_told 201 = .ok (.ifCond .lt 16, 3) := dk_155 0 16 (dk_at dksX3_told_7 15 rfl rfl)
theorem dX3_told_204 : decode cX3_told 204 = .ok (.iload 4, 2) := dk_21 4 (dk_at dksX3_told_7 18 rfl rfl)
theorem dX3_told_206 : decode cX3_told 206 = .ok (.ifCond .lt 11, 3) := dk_155 0 11 (dk_at dksX3_told_7 20 rfl rfl)
theorem dX3_told_209 : decode cX3_told 209 = .ok (.aload_n 0, 1) := dk_42 (dk_at dksX3_told_7 23 rfl rfl)
theorem dX3_told_210 : decode cX3_told 210 = .ok (.iload_n 2, 1) := dk_28 (dk_at dksX3_told_8 0 rfl rfl)
theorem dX3_told_211 : decode cX3_told 211 = .ok (.iload 4, 2) := dk_21 4 (dk_at dksX3_told_8 1 rfl rfl)
theorem dX3_told_213 : decode cX3_told 213 = .ok (.iload_n 3, 1) := dk_29 (dk_at dksX3_told_8 3 rfl rfl)
theorem dX3_told_214 : decode cX3_told 214 = .ok (.invokevirtual 152, 3) := dk_182 0 152 (dk_at dksX3_told_8 4 rfl rfl)
theorem dX3_told_217 : decode cX3_told 217 = .ok (.aload_n 0, 1) := dk_42 (dk_at dksX3_told_8 7 rfl rfl)
theorem dX3_told_218 : decode cX3_told 218 = .ok (.getfield 83, 3) := dk_180 0 83 (dk_at dksX3_told_8 8 rfl rfl)
theorem dX3_told_221 : decode cX3_told 221 = .ok (.dup, 1) := dk_89 (dk_at dksX3_told_8 11 rfl rfl)
theorem dX3_told_222 : decode cX3_told 222 = .ok (.getfield 145, 3) := dk_180 0 145 (dk_at dksX3_told_8 12 rfl rfl)
theorem dX3_told_225 : decode cX3_told 225 = .ok (.iconst 1, 1) := dk_4 (dk_at dksX3_told_8 15 rfl rfl)
theorem dX3_told_226 : decode cX3_told 226 = .ok (.iadd, 1) := dk_96 (dk_at dksX3_told_8 16 rfl rfl)
theorem dX3_told_227 : decode cX3_told 227 = .ok (.putfield 145, 3) := dk_181 0 145 (dk_at dksX3_told_8 17 rfl rfl)
theorem dX3_told_230 : decode cX3_told 230 = .ok (.goto 236, 3) := dk_167 0 236 (dk_at dksX3_told_8 20 rfl rfl)
theorem dX3_told_233 : decode cX3_told 233 = .ok (.aload_n 0, 1) := dk_42 (dk_at dksX3_told_8 23 rfl rfl)
theorem dX3_told_234 : decode cX3_told 234 = .ok (.aload_n 0, 1) := dk_42 (dk_at dksX3_told_9 0 rfl rfl)
theorem dX3_told_235 : decode cX3_told 235 = .ok (.getfield 83, 3) := dk_180 0 83 (dk_at dksX3_told_9 1 rfl rfl)
theorem dX3_told_238 : decode cX3_told 238 = .ok (.getfield 156, 3) := dk_180 0 156 (dk_at dksX3_told_9 4 rfl rfl)
theorem dX3_told_241 : decode cX3_told 241 = .ok (.invokevirtual 124, 3) := dk_182 0 124 (dk_at dksX3_told_9 7 rfl rfl)
theorem dX3_told_244 : decode cX3_told 244 = .ok (.iconst 5, 1) := dk_8 (dk_at dksX3_told_9 10 rfl rfl)
theorem dX3_told_245 : decode cX3_told 245 = .ok (.invokevirtual 129, 3) := dk_182 0 129 (dk_at dksX3_told_9 11 rfl rfl)
theorem dX3_told_248 : decode cX3_told 248 = .ok (.new 159, 3) := dk_187 0 159 (dk_at dksX3_told_9 14 rfl rfl)
theorem dX3_told_251 : decode cX3_told 251 = .ok (.dup, 1) := dk_89 (dk_at dksX3_told_9 17 rfl rfl)
theorem dX3_told_252 : decode cX3_told 252 = .ok (.aload_n 0, 1) := dk_42 (dk_at dksX3_told_9 18 rfl rfl)
theorem dX3_told_253 : decode cX3_told 253 = .ok (.invokevirtual 134, 3) := dk_182 0 134 (dk_at dksX3_told_9 19 rfl rfl)
theorem dX3_told_256 : decode cX3_told 256 = .ok (.invokespecial 161, 3) := dk_183 0 161 (dk_at dksX3_told_10 0 rfl rfl)
theorem dX3_told_259 : decode cX3_told 259 = .ok (.astore_n 2, 1) := dk_77 (dk_at dksX3_told_10 3 rfl rfl)
theorem dX3_told_260 : decode cX3_told 260 = .ok (.aload_n 2, 1) := dk_44 (dk_at dksX3_told_10 4 rfl rfl)
theorem dX3_told_261 : decode cX3_told 261 = .ok (.aload_n 0, 1) := dk_42 (dk_at dksX3_told_10 5 rfl rfl)
theorem dX3_told_262 : decode cX3_told 262 = .ok (.aload_n 0, 1) := dk_42 (dk_at dksX3_told_10 6 rfl rfl)
theorem dX3_told_263 : decode cX3_told 263 = .ok (.getfield 83, 3) := dk_180 0 83 (dk_at dksX3_told_10 7 rfl rfl)
theorem dX3_told_266 : decode cX3_told 266 = .ok (.getfield 120, 3) := dk_180 0 120 (dk_at dksX3_told_10 10 rfl rfl)
theorem dX3_told_269 : decode cX3_told 269 = .ok (.invokevirtual 148, 3) := dk_182 0 148 (dk_at dksX3_told_10 13 rfl rfl)
theorem dX3_told_272 : decode cX3_told 272 = .ok (.putfield 162, 3) := dk_181 0 162 (dk_at dksX3_told_10 16 rfl rfl)
theorem dX3_told_275 : decode cX3_told 275 = .ok (.aload_n 2, 1) := dk_44 (dk_at dksX3_told_10 19 rfl rfl)
theorem dX3_told_276 : decode cX3_told 276 = .ok (.aload_n 0, 1) := dk_42 (dk_at dksX3_told_10 20 rfl rfl)
theorem dX3_told_277 : decode cX3_told 277 = .ok (.iconst 0, 1) := dk_3 (dk_at dksX3_told_10 21 rfl rfl)
theorem dX3_told_278 : decode cX3_told 278 = .ok (.bipush 9, 2) := dk_16 9 (dk_at dksX3_told_10 22 rfl rfl)
theorem dX3_told_280 : decode cX3_told 280 = .ok (.invokevirtual 165, 3) := dk_182 0 165 (dk_at dksX3_told_11 0 rfl rfl)
theorem dX3_told_283 : decode cX3_told 283 = .ok (.putfield 168, 3) := dk_181 0 168 (dk_at dksX3_told_11 3 rfl rfl)
theorem dX3_told_286 : decode cX3_told 286 = .ok (.aload_n 2, 1) := dk_44 (dk_at dksX3_told_11 6 rfl rfl)
theorem dX3_told_287 : decode cX3_told 287 = .ok (.aload_n 0, 1) := dk_42 (dk_at dksX3_told_11 7 rfl rfl)
theorem dX3_told_288 : decode cX3_told 288 = .ok (.iconst 0, 1) := dk_3 (dk_at dksX3_told_11 8 rfl rfl)
theorem dX3_told_289 : decode cX3_told 289 = .ok (.bipush 9, 2) := dk_16 9 (dk_at dksX3_told_11 9 rfl rfl)
theorem dX3_told_291 : decode cX3_told 291 = .ok (.invokevirtual 165, 3) := dk_182 0 165 (dk_at dksX3_told_11 11 rfl rfl)
theorem dX3_told_294 : decode cX3_told 294 = .ok (.putfield 171, 3) := dk_181 0 171 (dk_at dksX3_told_11 14 rfl rfl)
theorem dX3_told_297 : decode cX3_told 297 = .ok (.aload_n 0, 1) := dk_42 (dk_at dksX3_told_11 17 rfl rfl)
theorem dX3_told_298 : decode cX3_told 298 = .ok (.getfield 83, 3) := dk_180 0 83 (dk_at dksX3_told_11 18 rfl rfl)
theorem dX3_told_301 : decode cX3_told 301 = .ok (.getfield 156, 3) := dk_180 0 156 (dk_at dksX3_told_11 21 rfl rfl)
theorem dX3_told_304 : decode cX3_told 304 = .ok (.aload_n 2, 1) := dk_44 (dk_at dksX3_told_12 0 rfl rfl)
theorem dX3_told_305 : decode cX3_told 305 = .ok (.invokevirtual 141, 3) := dk_182 0 141 (dk_at dksX3_told_12 1 rfl rfl)
theorem dX3_told_308 : decode cX3_told 308 = .ok (.pop, 1) := dk_87 (dk_at dksX3_told_12 4 rfl rfl)
theorem dX3_told_309 : decode cX3_told 309 = .ok (.goto 157, 3) := dk_167 0 157 (dk_at dksX3_told_12 5 rfl rfl)
theorem dX3_told_312 : decode cX3_told 312 = .ok (.aload_n 0, 1) := dk_42 (dk_at dksX3_told_12 8 rfl rfl)
theorem dX3_told_313 : decode cX3_told 313 = .ok (.aload_n 0, 1) := dk_42 (dk_at dksX3_told_12 9 rfl rfl)
theorem dX3_told_314 : decode cX3_told 314 = .ok (.getfield 83, 3) := dk_180 0 83 (dk_at dksX3_told_12 10 rfl rfl)
theorem dX3_told_317 : decode cX3_told 317 = .ok (.getfield 174, 3) := dk_180 0 174 (dk_at dksX3_told_12 13 rfl rfl)
theorem dX3_told_320 : decode cX3_told 320 = .ok (.invokevirtual 124, 3) := dk_182 0 124 (dk_at dksX3_told_12 16 rfl rfl)
theorem dX3_told_323 : decode cX3_told 323 = .ok (.iconst 4, 1) := dk_7 (dk_at dksX3_told_12 19 rfl rfl)
theorem dX3_told_324 : decode cX3_told 324 = .ok (.invokevirtual 129, 3) := dk_182 0 129 (dk_at dksX3_told_12 20 rfl rfl)
theorem dX3_told_327 : decode cX3_told 327 = .ok (.new 177, 3) := dk_187 0 177 (dk_at dksX3_told_13 0 rfl rfl)
theorem dX3_told_330 : decode cX3_told 330 = .ok (.dup, 1) := dk_89 (dk_at dksX3_told_13 3 rfl rfl)
theorem dX3_told_331 : decode cX3_told 331 = .ok (.aload_n 0, 1) := dk_42 (dk_at dksX3_told_13 4 rfl rfl)
theorem dX3_told_332 : decode cX3_told 332 = .ok (.invokevirtual 134, 3) := dk_182 0 134 (dk_at dksX3_told_13 5 rfl rfl)
theorem dX3_told_335 : decode cX3_told 335 = .ok (.invokespecial 179, 3) := dk_183 0 179 (dk_at dksX3_told_13 8 rfl rfl)
theorem dX3_told_338 : decode cX3_told 338 = .ok (.astore_n 2, 1) := dk_77 (dk_at dksX3_told_13 11 rfl rfl)
theorem dX3_told_339 : decode cX3_told 339 = .ok (.aload_n 2, 1) := dk_44 (dk_at dksX3_told_13 12 rfl rfl)
theorem dX3_told_340 : decode cX3_told 340 = .ok (.aload_n 0, 1) := dk_42 (dk_at dksX3_told_13 13 rfl rfl)
theorem dX3_told_341 : decode cX3_told 341 = .ok (.aload_n 0, 1) := dk_42 (dk_at dksX3_told_13 14 rfl rfl)
theorem dX3_told_342 : decode cX3_told 342 = .ok (.getfield 83, 3) := dk_180 0 83 (dk_at dksX3_told_13 15 rfl rfl)
theorem dX3_told_345 : decode cX3_told 345 = .ok (.getfield 120, 3) := dk_180 0 120 (dk_at dksX3_told_13 18 rfl rfl)
theorem dX3_told_348 : decode cX3_told 348 = .ok (.invokevirtual 148, 3) := dk_182 0 148 (dk_at dksX3_told_13 21 rfl rfl)
theorem dX3_told_351 : decode cX3_told 351 = .ok (.putfield 180, 3) := dk_181 0 180 (dk_at dksX3_told_14 0 rfl rfl)
theorem dX3_told_354 : decode cX3_told 354 = .ok (.aload_n 2, 1) := dk_44 (dk_at dksX3_told_14 3 rfl rfl)
theorem dX3_told_355 : decode cX3_told 355 = .ok (.aload_n 0, 1) := dk_42 (dk_at dksX3_told_14 4 rfl rfl)
theorem dX3_told_356 : decode cX3_told 356 = .ok (.iconst 0, 1) := dk_3 (dk_at dksX3_told_14 5 rfl rfl)
theorem dX3_told_357 : decode cX3_told 357 = .ok (.bipush 99, 2) := dk_16 99 (dk_at dksX3_told_14 6 rfl rfl)
theorem dX3_told_359 : decode cX3_told 359 = .ok (.invokevirtual 165, 3) := dk_182 0 165 (dk_at dksX3_told_14 8 rfl rfl)
theorem dX3_told_362 : decode cX3_told 362 = .ok (.putfield 183, 3) := dk_181 0 183 (dk_at dksX3_told_14 11 rfl rfl)
theorem dX3_told_365 : decode cX3_told 365 = .ok (.aload_n 0, 1) := dk_42 (dk_at dksX3_told_14 14 rfl rfl)
theorem dX3_told_366 : decode cX3_told 366 = .ok (.getfield 83, 3) := dk_180 0 83 (dk_at dksX3_told_14 15 rfl rfl)
theorem dX3_told_369 : decode cX3_told 369 = .ok (.getfield 174, 3) := dk_180 0 174 (dk_at dksX3_told_14 18 rfl rfl)
theorem dX3_told_372 : decode cX3_told 372 = .ok (.aload_n 2, 1) := dk_44 (dk_at dksX3_told_14 21 rfl rfl)
theorem dX3_told_373 : decode cX3_told 373 = .ok (.invokevirtual 141, 3) := dk_182 0 141 (dk_at dksX3_told_15 0 rfl rfl)
theorem dX3_told_376 : decode cX3_told 376 = .ok (.pop, 1) := dk_87 (dk_at dksX3_told_15 3 rfl rfl)
theorem dX3_told_377 : decode cX3_told 377 = .ok (.goto 89, 3) := dk_167 0 89 (dk_at dksX3_told_15 4 rfl rfl)
theorem dX3_told_380 : decode cX3_told 380 = .ok (.aload_n 0, 1) := dk_42 (dk_at dksX3_told_15 7 rfl rfl)
theorem dX3_told_381 : decode cX3_told 381 = .ok (.invokevirtual 186, 3) := dk_182 0 186 (dk_at dksX3_told_15 8 rfl rfl)
theorem dX3_told_384 : decode cX3_told 384 = .ok (.goto 82, 3) := dk_167 0 82 (dk_at dksX3_told_15 11 rfl rfl)
theorem dX3_told_387 : decode cX3_told 387 = .ok (.aload_n 0, 1) := dk_42 (dk_at dksX3_told_15 14 rfl rfl)
theorem dX3_told_388 : decode cX3_told 388 = .ok (.invokevirtual 59, 3) := dk_182 0 59 (dk_at dksX3_told_15 15 rfl rfl)
theorem dX3_told_391 : decode cX3_told 391 = .ok (.aload_n 0, 1) := dk_42 (dk_at dksX3_told_15 18 rfl rfl)
theorem dX3_told_392 : decode cX3_told 392 = .ok (.getfield 83, 3) := dk_180 0 83 (dk_at dksX3_told_15 19 rfl rfl)
theorem dX3_told_395 : decode cX3_told 395 = .ok (.aload_n 0, 1) := dk_42 (dk_at dksX3_told_15 22 rfl rfl)
theorem dX3_told_396 : decode cX3_told 396 = .ok (.iconst 0, 1) := dk_3 (dk_at dksX3_told_15 23 rfl rfl)
theorem dX3_told_397 : decode cX3_told 397 = .ok (.sipush 1439, 3) := dk_17 5 159 (dk_at dksX3_told_16 0 rfl rfl)
theorem dX3_told_400 : decode cX3_told 400 = .ok (.invokevirtual 165, 3) := dk_182 0 165 (dk_at dksX3_told_16 3 rfl rfl)
theorem dX3_told_403 : decode cX3_told 403 = .ok (.putfield 189, 3) := dk_181 0 189 (dk_at dksX3_told_16 6 rfl rfl)
theorem dX3_told_406 : decode cX3_told 406 = .ok (.aload_n 0, 1) := dk_42 (dk_at dksX3_told_16 9 rfl rfl)
theorem dX3_told_407 : decode cX3_told 407 = .ok (.getfield 83, 3) := dk_180 0 83 (dk_at dksX3_told_16 10 rfl rfl)
theorem dX3_told_410 : decode cX3_told 410 = .ok (.aload_n 0, 1) := dk_42 (dk_at dksX3_told_16 13 rfl rfl)
theorem dX3_told_411 : decode cX3_told 411 = .ok (.sipush 1440, 3) := dk_17 5 160 (dk_at dksX3_told_16 14 rfl rfl)
theorem dX3_told_414 : decode cX3_told 414 = .ok (.aload_n 0, 1) := dk_42 (dk_at dksX3_told_16 17 rfl rfl)
theorem dX3_told_415 : decode cX3_told 415 = .ok (.getfield 83, 3) := dk_180 0 83 (dk_at dksX3_told_16 18 rfl rfl)
theorem dX3_told_418 : decode cX3_told 418 = .ok (.getfield 189, 3) := dk_180 0 189 (dk_at dksX3_told_16 21 rfl rfl)
theorem dX3_told_421 : decode cX3_told 421 = .ok (.iconst 1, 1) := dk_4 (dk_at dksX3_told_17 0 rfl rfl)
theorem dX3_told_422 : decode cX3_told 422 = .ok (.iadd, 1) := dk_96 (dk_at dksX3_told_17 1 rfl rfl)
theorem dX3_told_423 : decode cX3_told 423 = .ok (.invokestatic 191, 3) := dk_184 0 191 (dk_at dksX3_told_17 2 rfl rfl)
theorem dX3_told_426 : decode cX3_told 426 = .ok (.sipush 1440, 3) := dk_17 5 160 (dk_at dksX3_told_17 5 rfl rfl)
theorem dX3_told_429 : decode cX3_told 429 = .ok (.invokevirtual 165, 3) := dk_182 0 165 (dk_at dksX3_told_17 8 rfl rfl)
theorem dX3_told_432 : decode cX3_told 432 = .ok (.putfield 196, 3) := dk_181 0 196 (dk_at dksX3_told_17 11 rfl rfl)
theorem dX3_told_435 : decode cX3_told 435 = .ok (.goto 31, 3) := dk_167 0 31 (dk_at dksX3_told_17 14 rfl rfl)
theorem dX3_told_438 : decode cX3_told 438 = .ok (.aload_n 0, 1) := dk_42 (dk_at dksX3_told_17 17 rfl rfl)
theorem dX3_told_439 : decode cX3_told 439 = .ok (.invokevirtual 59, 3) := dk_182 0 59 (dk_at dksX3_told_17 18 rfl rfl)
theorem dX3_told_442 : decode cX3_told 442 = .ok (.aload_n 0, 1) := dk_42 (dk_at dksX3_told_17 21 rfl rfl)
theorem dX3_told_443 : decode cX3_told 443 = .ok (.getfield 83, 3) := dk_180 0 83 (dk_at dksX3_told_18 0 rfl rfl)
theorem dX3_told_446 : decode cX3_told 446 = .ok (.aload_n 0, 1) := dk_42 (dk_at dksX3_told_18 3 rfl rfl)
theorem dX3_told_447 : decode cX3_told 447 = .ok (.iconst 0, 1) := dk_3 (dk_at dksX3_told_18 4 rfl rfl)
theorem dX3_told_448 : decode cX3_told 448 = .ok (.sipush 1439, 3) := dk_17 5 159 (dk_at dksX3_told_18 5 rfl rfl)
theorem dX3_told_451 : decode cX3_told 451 = .ok (.invokevirtual 165, 3) := dk_182 0 165 (dk_at dksX3_told_18 8 rfl rfl)
theorem dX3_told_454 : decode cX3_told 454 = .ok (.putfield 199, 3) := dk_181 0 199 (dk_at dksX3_told_18 11 rfl rfl)
theorem dX3_told_457 : decode cX3_told 457 = .ok (.goto 9, 3) := dk_167 0 9 (dk_at dksX3_told_18 14 rfl rfl)
theorem dX3_told_460 : decode cX3_told 460 = .ok (.aload_n 0, 1) := dk_42 (dk_at dksX3_told_18 17 rfl rfl)
theorem dX3_told_461 : decode cX3_told 461 = .ok (.iconst 1, 1) := dk_4 (dk_at dksX3_told_18 18 rfl rfl)
theorem dX3_told_462 : decode cX3_told 462 = .ok (.invokevirtual 48, 3) := dk_182 0 48 (dk_at dksX3_told_18 19 rfl rfl)
theorem dX3_told_465 : decode cX3_told 465 = .ok (.athrow, 1) := dk_191 (dk_at dksX3_told_18 22 rfl rfl)
theorem dX3_told_466 : decode cX3_told 466 = .ok (.return_, 1) := dk_177 (dk_at dksX3_told_18 23 rfl rfl)
abbrev cX3_pass : ByteArray := prog_10_method_6_code
def yX3_pass : MethodName := ⟨RX3, "pass", "()V"⟩
def dkwX3_pass_1 : List UInt8 := [181, 0, 31, 177]
abbrev dktX3_pass_1 : List UInt8 := dkwX3_pass_1 ++ []
def dkwX3_pass_0 : List UInt8 := [42, 180, 0, 31, 17, 1, 144, 161, 0, 9, 42, 5, 182, 0, 48, 191, 42, 89, 180, 0, 31, 4, 96]
abbrev dktX3_pass_0 : List UInt8 := dkwX3_pass_0 ++ dktX3_pass_1
theorem dksX3_pass_0 : cX3_pass.data.toList.drop 0 = dktX3_pass_0 := by decide +kernel
theorem dksX3_pass_1 : cX3_pass.data.toList.drop 23 = dktX3_pass_1 := dk_seg dksX3_pass_0 23 rfl rfl
theorem dX3_pass_0 : decode cX3_pass 0 = .ok (.aload_n 0, 1) := dk_42 (dk_at dksX3_pass_0 0 rfl rfl)
theorem dX3_pass_1 : decode cX3_pass 1 = .ok (.getfield 31, 3) := dk_180 0 31 (dk_at dksX3_pass_0 1 rfl rfl)
theorem dX3_pass_4 : decode cX3_pass 4 = .ok (.sipush 400, 3) := dk_17 1 144 (dk_at dksX3_pass_0 4 rfl rfl)
theorem dX3_pass_7 : decode cX3_pass 7 = .ok (.if_icmp .lt 9, 3) := dk_161 0 9 (dk_at dksX3_pass_0 7 rfl rfl)
theorem dX3_pass_10 : decode cX3_pass 10 = .ok (.aload_n 0, 1) := dk_42 (dk_at dksX3_pass_0 10 rfl rfl)
theorem dX3_pass_11 : decode cX3_pass 11 = .ok (.iconst 2, 1) := dk_5 (dk_at dksX3_pass_0 11 rfl rfl)
theorem dX3_pass_12 : decode cX3_pass 12 = .ok (.invokevirtual 48, 3) := dk_182 0 48 (dk_at dksX3_pass_0 12 rfl rfl)
theorem dX3_pass_15 : decode cX3_pass 15 = .ok (.athrow, 1) := dk_191 (dk_at dksX3_pass_0 15 rfl rfl)
theorem dX3_pass_16 : decode cX3_pass 16 = .ok (.aload_n 0, 1) := dk_42 (dk_at dksX3_pass_0 16 rfl rfl)
theorem dX3_pass_17 : decode cX3_pass 17 = .ok (.dup, 1) := dk_89 (dk_at dksX3_pass_0 17 rfl rfl)
theorem dX3_pass_18 : decode cX3_pass 18 = .ok (.getfield 31, 3) := dk_180 0 31 (dk_at dksX3_pass_0 18 rfl rfl)
theorem dX3_pass_21 : decode cX3_pass 21 = .ok (.iconst 1, 1) := dk_4 (dk_at dksX3_pass_0 21 rfl rfl)
theorem dX3_pass_22 : decode cX3_pass 22 = .ok (.iadd, 1) := dk_96 (dk_at dksX3_pass_0 22 rfl rfl)
theorem dX3_pass_23 : decode cX3_pass 23 = .ok (.putfield 31, 3) := dk_181 0 31 (dk_at dksX3_pass_1 0 rfl rfl)
theorem dX3_pass_26 : decode cX3_pass 26 = .ok (.return_, 1) := dk_177 (dk_at dksX3_pass_1 3 rfl rfl)
abbrev cX3_law : ByteArray := prog_10_method_20_code
def yX3_law : MethodName := ⟨RX3, "law", "()LDogsHour$Law;"⟩
def dkwX3_law_4 : List UInt8 := [96, 181, 0, 226, 167, 255, 171, 43, 180, 0, 243, 43, 180, 0, 226, 42, 182, 0, 233, 83, 43, 176]
abbrev dktX3_law_4 : List UInt8 := dkwX3_law_4 ++ []
def dkwX3_law_3 : List UInt8 := [180, 0, 243, 43, 180, 0, 226, 42, 182, 0, 233, 83, 42, 16, 13, 182, 0, 240, 43, 89, 180, 0, 226, 4]
abbrev dktX3_law_3 : List UInt8 := dkwX3_law_3 ++ dktX3_law_4
def dkwX3_law_2 : List UInt8 := [182, 0, 105, 43, 180, 0, 237, 43, 180, 0, 226, 42, 182, 0, 233, 83, 42, 16, 12, 182, 0, 240, 43]
abbrev dktX3_law_2 : List UInt8 := dkwX3_law_2 ++ dktX3_law_3
def dkwX3_law_1 : List UInt8 := [43, 180, 0, 226, 7, 182, 0, 129, 43, 180, 0, 229, 43, 180, 0, 226, 42, 182, 0, 233, 83, 42, 16, 60]
abbrev dktX3_law_1 : List UInt8 := dkwX3_law_1 ++ dktX3_law_2
def dkwX3_law_0 : List UInt8 := [187, 0, 223, 89, 183, 0, 225, 76, 42, 16, 61, 182, 0, 105, 42, 16, 11, 182, 0, 62, 153, 0, 82, 42]
abbrev dktX3_law_0 : List UInt8 := dkwX3_law_0 ++ dktX3_law_1
theorem dksX3_law_0 : cX3_law.data.toList.drop 0 = dktX3_law_0 := by decide +kernel
theorem dksX3_law_1 : cX3_law.data.toList.drop 24 = dktX3_law_1 := dk_seg dksX3_law_0 24 rfl rfl
theorem dksX3_law_2 : cX3_law.data.toList.drop 48 = dktX3_law_2 := dk_seg dksX3_law_1 24 rfl rfl
theorem dksX3_law_3 : cX3_law.data.toList.drop 71 = dktX3_law_3 := dk_seg dksX3_law_2 23 rfl rfl
theorem dksX3_law_4 : cX3_law.data.toList.drop 95 = dktX3_law_4 := dk_seg dksX3_law_3 24 rfl rfl
theorem dX3_law_0 : decode cX3_law 0 = .ok (.new 223, 3) := dk_187 0 223 (dk_at dksX3_law_0 0 rfl rfl)
theorem dX3_law_3 : decode cX3_law 3 = .ok (.dup, 1) := dk_89 (dk_at dksX3_law_0 3 rfl rfl)
theorem dX3_law_4 : decode cX3_law 4 = .ok (.invokespecial 225, 3) := dk_183 0 225 (dk_at dksX3_law_0 4 rfl rfl)
theorem dX3_law_7 : decode cX3_law 7 = .ok (.astore_n 1, 1) := dk_76 (dk_at dksX3_law_0 7 rfl rfl)
theorem dX3_law_8 : decode cX3_law 8 = .ok (.aload_n 0, 1) := dk_42 (dk_at dksX3_law_0 8 rfl rfl)
theorem dX3_law_9 : decode cX3_law 9 = .ok (.bipush 61, 2) := dk_16 61 (dk_at dksX3_law_0 9 rfl rfl)
theorem dX3_law_11 : decode cX3_law 11 = .ok (.invokevirtual 105, 3) := dk_182 0 105 (dk_at dksX3_law_0 11 rfl rfl)
theorem dX3_law_14 : decode cX3_law 14 = .ok (.aload_n 0, 1) := dk_42 (dk_at dksX3_law_0 14 rfl rfl)
theorem dX3_law_15 : decode cX3_law 15 = .ok (.bipush 11, 2) := dk_16 11 (dk_at dksX3_law_0 15 rfl rfl)
theorem dX3_law_17 : decode cX3_law 17 = .ok (.invokevirtual 62, 3) := dk_182 0 62 (dk_at dksX3_law_0 17 rfl rfl)
theorem dX3_law_20 : decode cX3_law 20 = .ok (.ifCond .eq 82, 3) := dk_153 0 82 (dk_at dksX3_law_0 20 rfl rfl)
theorem dX3_law_23 : decode cX3_law 23 = .ok (.aload_n 0, 1) := dk_42 (dk_at dksX3_law_0 23 rfl rfl)
theorem dX3_law_24 : decode cX3_law 24 = .ok (.aload_n 1, 1) := dk_43 (dk_at dksX3_law_1 0 rfl rfl)
theorem dX3_law_25 : decode cX3_law 25 = .ok (.getfield 226, 3) := dk_180 0 226 (dk_at dksX3_law_1 1 rfl rfl)
theorem dX3_law_28 : decode cX3_law 28 = .ok (.iconst 4, 1) := dk_7 (dk_at dksX3_law_1 4 rfl rfl)
theorem dX3_law_29 : decode cX3_law 29 = .ok (.invokevirtual 129, 3) := dk_182 0 129 (dk_at dksX3_law_1 5 rfl rfl)
theorem dX3_law_32 : decode cX3_law 32 = .ok (.aload_n 1, 1) := dk_43 (dk_at dksX3_law_1 8 rfl rfl)
theorem dX3_law_33 : decode cX3_law 33 = .ok (.getfield 229, 3) := dk_180 0 229 (dk_at dksX3_law_1 9 rfl rfl)
theorem dX3_law_36 : decode cX3_law 36 = .ok (.aload_n 1, 1) := dk_43 (dk_at dksX3_law_1 12 rfl rfl)
theorem dX3_law_37 : decode cX3_law 37 = .ok (.getfield 226, 3) := dk_180 0 226 (dk_at dksX3_law_1 13 rfl rfl)
theorem dX3_law_40 : decode cX3_law 40 = .ok (.aload_n 0, 1) := dk_42 (dk_at dksX3_law_1 16 rfl rfl)
theorem dX3_law_41 : decode cX3_law 41 = .ok (.invokevirtual 233, 3) := dk_182 0 233 (dk_at dksX3_law_1 17 rfl rfl)
theorem dX3_law_44 : decode cX3_law 44 = .ok (.aastore, 1) := dk_83 (dk_at dksX3_law_1 20 rfl rfl)
theorem dX3_law_45 : decode cX3_law 45 = .ok (.aload_n 0, 1) := dk_42 (dk_at dksX3_law_1 21 rfl rfl)
theorem dX3_law_46 : decode cX3_law 46 = .ok (.bipush 60, 2) := dk_16 60 (dk_at dksX3_law_1 22 rfl rfl)
theorem dX3_law_48 : decode cX3_law 48 = .ok (.invokevirtual 105, 3) := dk_182 0 105 (dk_at dksX3_law_2 0 rfl rfl)
theorem dX3_law_51 : decode cX3_law 51 = .ok (.aload_n 1, 1) := dk_43 (dk_at dksX3_law_2 3 rfl rfl)
theorem dX3_law_52 : decode cX3_law 52 = .ok (.getfield 237, 3) := dk_180 0 237 (dk_at dksX3_law_2 4 rfl rfl)
theorem dX3_law_55 : decode cX3_law 55 = .ok (.aload_n 1, 1) := dk_43 (dk_at dksX3_law_2 7 rfl rfl)
theorem dX3_law_56 : decode cX3_law 56 = .ok (.getfield 226, 3) := dk_180 0 226 (dk_at dksX3_law_2 8 rfl rfl)
theorem dX3_law_59 : decode cX3_law 59 = .ok (.aload_n 0, 1) := dk_42 (dk_at dksX3_law_2 11 rfl rfl)
theorem dX3_law_60 : decode cX3_law 60 = .ok (.invokevirtual 233, 3) := dk_182 0 233 (dk_at dksX3_law_2 12 rfl rfl)
theorem dX3_law_63 : decode cX3_law 63 = .ok (.aastore, 1) := dk_83 (dk_at dksX3_law_2 15 rfl rfl)
theorem dX3_law_64 : decode cX3_law 64 = .ok (.aload_n 0, 1) := dk_42 (dk_at dksX3_law_2 16 rfl rfl)
theorem dX3_law_65 : decode cX3_law 65 = .ok (.bipush 12, 2) := dk_16 12 (dk_at dksX3_law_2 17 rfl rfl)
theorem dX3_law_67 : decode cX3_law 67 = .ok (.invokevirtual 240, 3) := dk_182 0 240 (dk_at dksX3_law_2 19 rfl rfl)
theorem dX3_law_70 : decode cX3_law 70 = .ok (.aload_n 1, 1) := dk_43 (dk_at dksX3_law_2 22 rfl rfl)
theorem dX3_law_71 : decode cX3_law 71 = .ok (.getfield 243, 3) := dk_180 0 243 (dk_at dksX3_law_3 0 rfl rfl)
theorem dX3_law_74 : decode cX3_law 74 = .ok (.aload_n 1, 1) := dk_43 (dk_at dksX3_law_3 3 rfl rfl)
theorem dX3_law_75 : decode cX3_law 75 = .ok (.getfield 226, 3) := dk_180 0 226 (dk_at dksX3_law_3 4 rfl rfl)
theorem dX3_law_78 : decode cX3_law 78 = .ok (.aload_n 0, 1) := dk_42 (dk_at dksX3_law_3 7 rfl rfl)
theorem dX3_law_79 : decode cX3_law 79 = .ok (.invokevirtual 233, 3) := dk_182 0 233 (dk_at dksX3_law_3 8 rfl rfl)
theorem dX3_law_82 : decode cX3_law 82 = .ok (.aastore, 1) := dk_83 (dk_at dksX3_law_3 11 rfl rfl)
theorem dX3_law_83 : decode cX3_law 83 = .ok (.aload_n 0, 1) := dk_42 (dk_at dksX3_law_3 12 rfl rfl)
theorem dX3_law_84 : decode cX3_law 84 = .ok (.bipush 13, 2) := dk_16 13 (dk_at dksX3_law_3 13 rfl rfl)
theorem dX3_law_86 : decode cX3_law 86 = .ok (.invokevirtual 240, 3) := dk_182 0 240 (dk_at dksX3_law_3 15 rfl rfl)
theorem dX3_law_89 : decode cX3_law 89 = .ok (.aload_n 1, 1) := dk_43 (dk_at dksX3_law_3 18 rfl rfl)
theorem dX3_law_90 : decode cX3_law 90 = .ok (.dup, 1) := dk_89 (dk_at dksX3_law_3 19 rfl rfl)
theorem dX3_law_91 : decode cX3_law 91 = .ok (.getfield 226, 3) := dk_180 0 226 (dk_at dksX3_law_3 20 rfl rfl)
theorem dX3_law_94 : decode cX3_law 94 = .ok (.iconst 1, 1) := dk_4 (dk_at dksX3_law_3 23 rfl rfl)
theorem dX3_law_95 : decode cX3_law 95 = .ok (.iadd, 1) := dk_96 (dk_at dksX3_law_4 0 rfl rfl)
theorem dX3_law_96 : decode cX3_law 96 = .ok (.putfield 226, 3) := dk_181 0 226 (dk_at dksX3_law_4 1 rfl rfl)
theorem dX3_law_99 : decode cX3_law 99 = .ok (.goto (-85), 3) := dk_167 255 171 (dk_at dksX3_law_4 4 rfl rfl)
theorem dX3_law_102 : decode cX3_law 102 = .ok (.aload_n 1, 1) := dk_43 (dk_at dksX3_law_4 7 rfl rfl)
theorem dX3_law_103 : decode cX3_law 103 = .ok (.getfield 243, 3) := dk_180 0 243 (dk_at dksX3_law_4 8 rfl rfl)
theorem dX3_law_106 : decode cX3_law 106 = .ok (.aload_n 1, 1) := dk_43 (dk_at dksX3_law_4 11 rfl rfl)
theorem dX3_law_107 : decode cX3_law 107 = .ok (.getfield 226, 3) := dk_180 0 226 (dk_at dksX3_law_4 12 rfl rfl)
theorem dX3_law_110 : decode cX3_law 110 = .ok (.aload_n 0, 1) := dk_42 (dk_at dksX3_law_4 15 rfl rfl)
theorem dX3_law_111 : decode cX3_law 111 = .ok (.invokevirtual 233, 3) := dk_182 0 233 (dk_at dksX3_law_4 16 rfl rfl)
theorem dX3_law_114 : decode cX3_law 114 = .ok (.aastore, 1) := dk_83 (dk_at dksX3_law_4 19 rfl rfl)
theorem dX3_law_115 : decode cX3_law 115 = .ok (.aload_n 1, 1) := dk_43 (dk_at dksX3_law_4 20 rfl rfl)
theorem dX3_law_116 : decode cX3_law 116 = .ok (.areturn, 1) := dk_176 (dk_at dksX3_law_4 21 rfl rfl)
abbrev cX3_sign : ByteArray := prog_10_method_9_code
def yX3_sign : MethodName := ⟨RX3, "sign", "(I)V"⟩
def dkwX3_sign_0 : List UInt8 := [42, 27, 182, 0, 55, 154, 0, 9, 42, 4, 182, 0, 48, 191, 42, 182, 0, 59, 177]
abbrev dktX3_sign_0 : List UInt8 := dkwX3_sign_0 ++ []
theorem dksX3_sign_0 : cX3_sign.data.toList.drop 0 = dktX3_sign_0 := by decide +kernel
theorem dX3_sign_0 : decode cX3_sign 0 = .ok (.aload_n 0, 1) := dk_42 (dk_at dksX3_sign_0 0 rfl rfl)
theorem dX3_sign_1 : decode cX3_sign 1 = .ok (.iload_n 1, 1) := dk_27 (dk_at dksX3_sign_0 1 rfl rfl)
theorem dX3_sign_2 : decode cX3_sign 2 = .ok (.invokevirtual 55, 3) := dk_182 0 55 (dk_at dksX3_sign_0 2 rfl rfl)
theorem dX3_sign_5 : decode cX3_sign 5 = .ok (.ifCond .ne 9, 3) := dk_154 0 9 (dk_at dksX3_sign_0 5 rfl rfl)
theorem dX3_sign_8 : decode cX3_sign 8 = .ok (.aload_n 0, 1) := dk_42 (dk_at dksX3_sign_0 8 rfl rfl)
theorem dX3_sign_9 : decode cX3_sign 9 = .ok (.iconst 1, 1) := dk_4 (dk_at dksX3_sign_0 9 rfl rfl)
theorem dX3_sign_10 : decode cX3_sign 10 = .ok (.invokevirtual 48, 3) := dk_182 0 48 (dk_at dksX3_sign_0 10 rfl rfl)
theorem dX3_sign_13 : decode cX3_sign 13 = .ok (.athrow, 1) := dk_191 (dk_at dksX3_sign_0 13 rfl rfl)
theorem dX3_sign_14 : decode cX3_sign 14 = .ok (.aload_n 0, 1) := dk_42 (dk_at dksX3_sign_0 14 rfl rfl)
theorem dX3_sign_15 : decode cX3_sign 15 = .ok (.invokevirtual 59, 3) := dk_182 0 59 (dk_at dksX3_sign_0 15 rfl rfl)
theorem dX3_sign_18 : decode cX3_sign 18 = .ok (.return_, 1) := dk_177 (dk_at dksX3_sign_0 18 rfl rfl)
abbrev cX3_isSign : ByteArray := prog_10_method_7_code
def yX3_isSign : MethodName := ⟨RX3, "isSign", "(I)Z"⟩
def dkwX3_isSign_1 : List UInt8 := [180, 0, 31, 53, 27, 160, 0, 7, 4, 167, 0, 4, 3, 172]
abbrev dktX3_isSign_1 : List UInt8 := dkwX3_isSign_1 ++ []
def dkwX3_isSign_0 : List UInt8 := [42, 180, 0, 9, 180, 0, 44, 42, 180, 0, 31, 51, 5, 160, 0, 23, 42, 180, 0, 9, 180, 0, 52, 42]
abbrev dktX3_isSign_0 : List UInt8 := dkwX3_isSign_0 ++ dktX3_isSign_1
theorem dksX3_isSign_0 : cX3_isSign.data.toList.drop 0 = dktX3_isSign_0 := by decide +kernel
theorem dksX3_isSign_1 : cX3_isSign.data.toList.drop 24 = dktX3_isSign_1 := dk_seg dksX3_isSign_0 24 rfl rfl
theorem dX3_isSign_0 : decode cX3_isSign 0 = .ok (.aload_n 0, 1) := dk_42 (dk_at dksX3_isSign_0 0 rfl rfl)
theorem dX3_isSign_1 : decode cX3_isSign 1 = .ok (.getfield 9, 3) := dk_180 0 9 (dk_at dksX3_isSign_0 1 rfl rfl)
theorem dX3_isSign_4 : decode cX3_isSign 4 = .ok (.getfield 44, 3) := dk_180 0 44 (dk_at dksX3_isSign_0 4 rfl rfl)
theorem dX3_isSign_7 : decode cX3_isSign 7 = .ok (.aload_n 0, 1) := dk_42 (dk_at dksX3_isSign_0 7 rfl rfl)
theorem dX3_isSign_8 : decode cX3_isSign 8 = .ok (.getfield 31, 3) := dk_180 0 31 (dk_at dksX3_isSign_0 8 rfl rfl)
theorem dX3_isSign_11 : decode cX3_isSign 11 = .ok (.baload, 1) := dk_51 (dk_at dksX3_isSign_0 11 rfl rfl)
theorem dX3_isSign_12 : decode cX3_isSign 12 = .ok (.iconst 2, 1) := dk_5 (dk_at dksX3_isSign_0 12 rfl rfl)
theorem dX3_isSign_13 : decode cX3_isSign 13 = .ok (.if_icmp .ne 23, 3) := dk_160 0 23 (dk_at dksX3_isSign_0 13 rfl rfl)
theorem dX3_isSign_16 : decode cX3_isSign 16 = .ok (.aload_n 0, 1) := dk_42 (dk_at dksX3_isSign_0 16 rfl rfl)
theorem dX3_isSign_17 : decode cX3_isSign 17 = .ok (.getfield 9, 3) := dk_180 0 9 (dk_at dksX3_isSign_0 17 rfl rfl)
theorem dX3_isSign_20 : decode cX3_isSign 20 = .ok (.getfield 52, 3) := dk_180 0 52 (dk_at dksX3_isSign_0 20 rfl rfl)
theorem dX3_isSign_23 : decode cX3_isSign 23 = .ok (.aload_n 0, 1) := dk_42 (dk_at dksX3_isSign_0 23 rfl rfl)
theorem dX3_isSign_24 : decode cX3_isSign 24 = .ok (.getfield 31, 3) := dk_180 0 31 (dk_at dksX3_isSign_1 0 rfl rfl)
theorem dX3_isSign_27 : decode cX3_isSign 27 = .ok (.saload, 1) := dk_53 (dk_at dksX3_isSign_1 3 rfl rfl)
theorem dX3_isSign_28 : decode cX3_isSign 28 = .ok (.iload_n 1, 1) := dk_27 (dk_at dksX3_isSign_1 4 rfl rfl)
theorem dX3_isSign_29 : decode cX3_isSign 29 = .ok (.if_icmp .ne 7, 3) := dk_160 0 7 (dk_at dksX3_isSign_1 5 rfl rfl)
theorem dX3_isSign_32 : decode cX3_isSign 32 = .ok (.iconst 1, 1) := dk_4 (dk_at dksX3_isSign_1 8 rfl rfl)
theorem dX3_isSign_33 : decode cX3_isSign 33 = .ok (.goto 4, 3) := dk_167 0 4 (dk_at dksX3_isSign_1 9 rfl rfl)
theorem dX3_isSign_36 : decode cX3_isSign 36 = .ok (.iconst 0, 1) := dk_3 (dk_at dksX3_isSign_1 12 rfl rfl)
theorem dX3_isSign_37 : decode cX3_isSign 37 = .ok (.ireturn, 1) := dk_172 (dk_at dksX3_isSign_1 13 rfl rfl)
abbrev cX3_isWord : ByteArray := prog_10_method_8_code
def yX3_isWord : MethodName := ⟨RX3, "isWord", "(I)Z"⟩
def dkwX3_isWord_1 : List UInt8 := [180, 0, 31, 53, 27, 160, 0, 7, 4, 167, 0, 4, 3, 172]
abbrev dktX3_isWord_1 : List UInt8 := dkwX3_isWord_1 ++ []
def dkwX3_isWord_0 : List UInt8 := [42, 180, 0, 9, 180, 0, 44, 42, 180, 0, 31, 51, 6, 160, 0, 23, 42, 180, 0, 9, 180, 0, 52, 42]
abbrev dktX3_isWord_0 : List UInt8 := dkwX3_isWord_0 ++ dktX3_isWord_1
theorem dksX3_isWord_0 : cX3_isWord.data.toList.drop 0 = dktX3_isWord_0 := by decide +kernel
theorem dksX3_isWord_1 : cX3_isWord.data.toList.drop 24 = dktX3_isWord_1 := dk_seg dksX3_isWord_0 24 rfl rfl
theorem dX3_isWord_0 : decode cX3_isWord 0 = .ok (.aload_n 0, 1) := dk_42 (dk_at dksX3_isWord_0 0 rfl rfl)
theorem dX3_isWord_1 : decode cX3_isWord 1 = .ok (.getfield 9, 3) := dk_180 0 9 (dk_at dksX3_isWord_0 1 rfl rfl)
theorem dX3_isWord_4 : decode cX3_isWord 4 = .ok (.getfield 44, 3) := dk_180 0 44 (dk_at dksX3_isWord_0 4 rfl rfl)
theorem dX3_isWord_7 : decode cX3_isWord 7 = .ok (.aload_n 0, 1) := dk_42 (dk_at dksX3_isWord_0 7 rfl rfl)
theorem dX3_isWord_8 : decode cX3_isWord 8 = .ok (.getfield 31, 3) := dk_180 0 31 (dk_at dksX3_isWord_0 8 rfl rfl)
theorem dX3_isWord_11 : decode cX3_isWord 11 = .ok (.baload, 1) := dk_51 (dk_at dksX3_isWord_0 11 rfl rfl)
theorem dX3_isWord_12 : decode cX3_isWord 12 = .ok (.iconst 3, 1) := dk_6 (dk_at dksX3_isWord_0 12 rfl rfl)
theorem dX3_isWord_13 : decode cX3_isWord 13 = .ok (.if_icmp .ne 23, 3) := dk_160 0 23 (dk_at dksX3_isWord_0 13 rfl rfl)
theorem dX3_isWord_16 : decode cX3_isWord 16 = .ok (.aload_n 0, 1) := dk_42 (dk_at dksX3_isWord_0 16 rfl rfl)
theorem dX3_isWord_17 : decode cX3_isWord 17 = .ok (.getfield 9, 3) := dk_180 0 9 (dk_at dksX3_isWord_0 17 rfl rfl)
theorem dX3_isWord_20 : decode cX3_isWord 20 = .ok (.getfield 52, 3) := dk_180 0 52 (dk_at dksX3_isWord_0 20 rfl rfl)
theorem dX3_isWord_23 : decode cX3_isWord 23 = .ok (.aload_n 0, 1) := dk_42 (dk_at dksX3_isWord_0 23 rfl rfl)
theorem dX3_isWord_24 : decode cX3_isWord 24 = .ok (.getfield 31, 3) := dk_180 0 31 (dk_at dksX3_isWord_1 0 rfl rfl)
theorem dX3_isWord_27 : decode cX3_isWord 27 = .ok (.saload, 1) := dk_53 (dk_at dksX3_isWord_1 3 rfl rfl)
theorem dX3_isWord_28 : decode cX3_isWord 28 = .ok (.iload_n 1, 1) := dk_27 (dk_at dksX3_isWord_1 4 rfl rfl)
theorem dX3_isWord_29 : decode cX3_isWord 29 = .ok (.if_icmp .ne 7, 3) := dk_160 0 7 (dk_at dksX3_isWord_1 5 rfl rfl)
theorem dX3_isWord_32 : decode cX3_isWord 32 = .ok (.iconst 1, 1) := dk_4 (dk_at dksX3_isWord_1 8 rfl rfl)
theorem dX3_isWord_33 : decode cX3_isWord 33 = .ok (.goto 4, 3) := dk_167 0 4 (dk_at dksX3_isWord_1 9 rfl rfl)
theorem dX3_isWord_36 : decode cX3_isWord 36 = .ok (.iconst 0, 1) := dk_3 (dk_at dksX3_isWord_1 12 rfl rfl)
theorem dX3_isWord_37 : decode cX3_isWord 37 = .ok (.ireturn, 1) := dk_172 (dk_at dksX3_isWord_1 13 rfl rfl)
abbrev cX3_begins : ByteArray := prog_10_method_15_code
def yX3_begins : MethodName := ⟨RX3, "begins", "(II)V"⟩
def dkwX3_begins_0 : List UInt8 := [27, 28, 160, 0, 9, 42, 5, 182, 0, 48, 191, 42, 182, 0, 59, 177]
abbrev dktX3_begins_0 : List UInt8 := dkwX3_begins_0 ++ []
theorem dksX3_begins_0 : cX3_begins.data.toList.drop 0 = dktX3_begins_0 := by decide +kernel
theorem dX3_begins_0 : decode cX3_begins 0 = .ok (.iload_n 1, 1) := dk_27 (dk_at dksX3_begins_0 0 rfl rfl)
theorem dX3_begins_1 : decode cX3_begins 1 = .ok (.iload_n 2, 1) := dk_28 (dk_at dksX3_begins_0 1 rfl rfl)
theorem dX3_begins_2 : decode cX3_begins 2 = .ok (.if_icmp .ne 9, 3) := dk_160 0 9 (dk_at dksX3_begins_0 2 rfl rfl)
theorem dX3_begins_5 : decode cX3_begins 5 = .ok (.aload_n 0, 1) := dk_42 (dk_at dksX3_begins_0 5 rfl rfl)
theorem dX3_begins_6 : decode cX3_begins 6 = .ok (.iconst 2, 1) := dk_5 (dk_at dksX3_begins_0 6 rfl rfl)
theorem dX3_begins_7 : decode cX3_begins 7 = .ok (.invokevirtual 48, 3) := dk_182 0 48 (dk_at dksX3_begins_0 7 rfl rfl)
theorem dX3_begins_10 : decode cX3_begins 10 = .ok (.athrow, 1) := dk_191 (dk_at dksX3_begins_0 10 rfl rfl)
theorem dX3_begins_11 : decode cX3_begins 11 = .ok (.aload_n 0, 1) := dk_42 (dk_at dksX3_begins_0 11 rfl rfl)
theorem dX3_begins_12 : decode cX3_begins 12 = .ok (.invokevirtual 59, 3) := dk_182 0 59 (dk_at dksX3_begins_0 12 rfl rfl)
theorem dX3_begins_15 : decode cX3_begins 15 = .ok (.return_, 1) := dk_177 (dk_at dksX3_begins_0 15 rfl rfl)
abbrev cX3_sum : ByteArray := prog_10_method_21_code
def yX3_sum : MethodName := ⟨RX3, "sum", "()LDogsHour$Sum;"⟩
def dkwX3_sum_2 : List UInt8 := [182, 0, 246, 183, 0, 251, 76, 167, 255, 207, 43, 176]
abbrev dktX3_sum_2 : List UInt8 := dkwX3_sum_2 ++ []
def dkwX3_sum_1 : List UInt8 := [180, 0, 9, 180, 0, 52, 42, 180, 0, 31, 53, 61, 42, 182, 0, 59, 187, 0, 249, 89, 28, 43, 42]
abbrev dktX3_sum_1 : List UInt8 := dkwX3_sum_1 ++ dktX3_sum_2
def dkwX3_sum_0 : List UInt8 := [42, 182, 0, 246, 76, 42, 16, 43, 182, 0, 55, 154, 0, 12, 42, 16, 45, 182, 0, 55, 153, 0, 37, 42]
abbrev dktX3_sum_0 : List UInt8 := dkwX3_sum_0 ++ dktX3_sum_1
theorem dksX3_sum_0 : cX3_sum.data.toList.drop 0 = dktX3_sum_0 := by decide +kernel
theorem dksX3_sum_1 : cX3_sum.data.toList.drop 24 = dktX3_sum_1 := dk_seg dksX3_sum_0 24 rfl rfl
theorem dksX3_sum_2 : cX3_sum.data.toList.drop 47 = dktX3_sum_2 := dk_seg dksX3_sum_1 23 rfl rfl
theorem dX3_sum_0 : decode cX3_sum 0 = .ok (.aload_n 0, 1) := dk_42 (dk_at dksX3_sum_0 0 rfl rfl)
theorem dX3_sum_1 : decode cX3_sum 1 = .ok (.invokevirtual 246, 3) := dk_182 0 246 (dk_at dksX3_sum_0 1 rfl rfl)
theorem dX3_sum_4 : decode cX3_sum 4 = .ok (.astore_n 1, 1) := dk_76 (dk_at dksX3_sum_0 4 rfl rfl)
theorem dX3_sum_5 : decode cX3_sum 5 = .ok (.aload_n 0, 1) := dk_42 (dk_at dksX3_sum_0 5 rfl rfl)
theorem dX3_sum_6 : decode cX3_sum 6 = .ok (.bipush 43, 2) := dk_16 43 (dk_at dksX3_sum_0 6 rfl rfl)
theorem dX3_sum_8 : decode cX3_sum 8 = .ok (.invokevirtual 55, 3) := dk_182 0 55 (dk_at dksX3_sum_0 8 rfl rfl)
theorem dX3_sum_11 : decode cX3_sum 11 = .ok (.ifCond .ne 12, 3) := dk_154 0 12 (dk_at dksX3_sum_0 11 rfl rfl)
theorem dX3_sum_14 : decode cX3_sum 14 = .ok (.aload_n 0, 1) := dk_42 (dk_at dksX3_sum_0 14 rfl rfl)
theorem dX3_sum_15 : decode cX3_sum 15 = .ok (.bipush 45, 2) := dk_16 45 (dk_at dksX3_sum_0 15 rfl rfl)
theorem dX3_sum_17 : decode cX3_sum 17 = .ok (.invokevirtual 55, 3) := dk_182 0 55 (dk_at dksX3_sum_0 17 rfl rfl)
theorem dX3_sum_20 : decode cX3_sum 20 = .ok (.ifCond .eq 37, 3) := dk_153 0 37 (dk_at dksX3_sum_0 20 rfl rfl)
theorem dX3_sum_23 : decode cX3_sum 23 = .ok (.aload_n 0, 1) := dk_42 (dk_at dksX3_sum_0 23 rfl rfl)
theorem dX3_sum_24 : decode cX3_sum 24 = .ok (.getfield 9, 3) := dk_180 0 9 (dk_at dksX3_sum_1 0 rfl rfl)
theorem dX3_sum_27 : decode cX3_sum 27 = .ok (.getfield 52, 3) := dk_180 0 52 (dk_at dksX3_sum_1 3 rfl rfl)
theorem dX3_sum_30 : decode cX3_sum 30 = .ok (.aload_n 0, 1) := dk_42 (dk_at dksX3_sum_1 6 rfl rfl)
theorem dX3_sum_31 : decode cX3_sum 31 = .ok (.getfield 31, 3) := dk_180 0 31 (dk_at dksX3_sum_1 7 rfl rfl)
theorem dX3_sum_34 : decode cX3_sum 34 = .ok (.saload, 1) := dk_53 (dk_at dksX3_sum_1 10 rfl rfl)
theorem dX3_sum_35 : decode cX3_sum 35 = .ok (.istore_n 2, 1) := dk_61 (dk_at dksX3_sum_1 11 rfl rfl)
theorem dX3_sum_36 : decode cX3_sum 36 = .ok (.aload_n 0, 1) := dk_42 (dk_at dksX3_sum_1 12 rfl rfl)
theorem dX3_sum_37 : decode cX3_sum 37 = .ok (.invokevirtual 59, 3) := dk_182 0 59 (dk_at dksX3_sum_1 13 rfl rfl)
theorem dX3_sum_40 : decode cX3_sum 40 = .ok (.new 249, 3) := dk_187 0 249 (dk_at dksX3_sum_1 16 rfl rfl)
theorem dX3_sum_43 : decode cX3_sum 43 = .ok (.dup, 1) := dk_89 (dk_at dksX3_sum_1 19 rfl rfl)
theorem dX3_sum_44 : decode cX3_sum 44 = .ok (.iload_n 2, 1) := dk_28 (dk_at dksX3_sum_1 20 rfl rfl)
theorem dX3_sum_45 : decode cX3_sum 45 = .ok (.aload_n 1, 1) := dk_43 (dk_at dksX3_sum_1 21 rfl rfl)
theorem dX3_sum_46 : decode cX3_sum 46 = .ok (.aload_n 0, 1) := dk_42 (dk_at dksX3_sum_1 22 rfl rfl)
theorem dX3_sum_47 : decode cX3_sum 47 = .ok (.invokevirtual 246, 3) := dk_182 0 246 (dk_at dksX3_sum_2 0 rfl rfl)
theorem dX3_sum_50 : decode cX3_sum 50 = .ok (.invokespecial 251, 3) := dk_183 0 251 (dk_at dksX3_sum_2 3 rfl rfl)
theorem dX3_sum_53 : decode cX3_sum 53 = .ok (.astore_n 1, 1) := dk_76 (dk_at dksX3_sum_2 6 rfl rfl)
theorem dX3_sum_54 : decode cX3_sum 54 = .ok (.goto (-49), 3) := dk_167 255 207 (dk_at dksX3_sum_2 7 rfl rfl)
theorem dX3_sum_57 : decode cX3_sum 57 = .ok (.aload_n 1, 1) := dk_43 (dk_at dksX3_sum_2 10 rfl rfl)
theorem dX3_sum_58 : decode cX3_sum 58 = .ok (.areturn, 1) := dk_176 (dk_at dksX3_sum_2 11 rfl rfl)
abbrev cX3_part : ByteArray := prog_10_method_22_code
def yX3_part : MethodName := ⟨RX3, "part", "()LDogsHour$Sum;"⟩
def dkwX3_part_2 : List UInt8 := [182, 0, 254, 183, 0, 251, 76, 167, 255, 207, 43, 176]
abbrev dktX3_part_2 : List UInt8 := dkwX3_part_2 ++ []
def dkwX3_part_1 : List UInt8 := [180, 0, 9, 180, 0, 52, 42, 180, 0, 31, 53, 61, 42, 182, 0, 59, 187, 0, 249, 89, 28, 43, 42]
abbrev dktX3_part_1 : List UInt8 := dkwX3_part_1 ++ dktX3_part_2
def dkwX3_part_0 : List UInt8 := [42, 182, 0, 254, 76, 42, 16, 42, 182, 0, 55, 154, 0, 12, 42, 16, 47, 182, 0, 55, 153, 0, 37, 42]
abbrev dktX3_part_0 : List UInt8 := dkwX3_part_0 ++ dktX3_part_1
theorem dksX3_part_0 : cX3_part.data.toList.drop 0 = dktX3_part_0 := by decide +kernel
theorem dksX3_part_1 : cX3_part.data.toList.drop 24 = dktX3_part_1 := dk_seg dksX3_part_0 24 rfl rfl
theorem dksX3_part_2 : cX3_part.data.toList.drop 47 = dktX3_part_2 := dk_seg dksX3_part_1 23 rfl rfl
theorem dX3_part_0 : decode cX3_part 0 = .ok (.aload_n 0, 1) := dk_42 (dk_at dksX3_part_0 0 rfl rfl)
theorem dX3_part_1 : decode cX3_part 1 = .ok (.invokevirtual 254, 3) := dk_182 0 254 (dk_at dksX3_part_0 1 rfl rfl)
theorem dX3_part_4 : decode cX3_part 4 = .ok (.astore_n 1, 1) := dk_76 (dk_at dksX3_part_0 4 rfl rfl)
theorem dX3_part_5 : decode cX3_part 5 = .ok (.aload_n 0, 1) := dk_42 (dk_at dksX3_part_0 5 rfl rfl)
theorem dX3_part_6 : decode cX3_part 6 = .ok (.bipush 42, 2) := dk_16 42 (dk_at dksX3_part_0 6 rfl rfl)
theorem dX3_part_8 : decode cX3_part 8 = .ok (.invokevirtual 55, 3) := dk_182 0 55 (dk_at dksX3_part_0 8 rfl rfl)
theorem dX3_part_11 : decode cX3_part 11 = .ok (.ifCond .ne 12, 3) := dk_154 0 12 (dk_at dksX3_part_0 11 rfl rfl)
theorem dX3_part_14 : decode cX3_part 14 = .ok (.aload_n 0, 1) := dk_42 (dk_at dksX3_part_0 14 rfl rfl)
theorem dX3_part_15 : decode cX3_part 15 = .ok (.bipush 47, 2) := dk_16 47 (dk_at dksX3_part_0 15 rfl rfl)
theorem dX3_part_17 : decode cX3_part 17 = .ok (.invokevirtual 55, 3) := dk_182 0 55 (dk_at dksX3_part_0 17 rfl rfl)
theorem dX3_part_20 : decode cX3_part 20 = .ok (.ifCond .eq 37, 3) := dk_153 0 37 (dk_at dksX3_part_0 20 rfl rfl)
theorem dX3_part_23 : decode cX3_part 23 = .ok (.aload_n 0, 1) := dk_42 (dk_at dksX3_part_0 23 rfl rfl)
theorem dX3_part_24 : decode cX3_part 24 = .ok (.getfield 9, 3) := dk_180 0 9 (dk_at dksX3_part_1 0 rfl rfl)
theorem dX3_part_27 : decode cX3_part 27 = .ok (.getfield 52, 3) := dk_180 0 52 (dk_at dksX3_part_1 3 rfl rfl)
theorem dX3_part_30 : decode cX3_part 30 = .ok (.aload_n 0, 1) := dk_42 (dk_at dksX3_part_1 6 rfl rfl)
theorem dX3_part_31 : decode cX3_part 31 = .ok (.getfield 31, 3) := dk_180 0 31 (dk_at dksX3_part_1 7 rfl rfl)
theorem dX3_part_34 : decode cX3_part 34 = .ok (.saload, 1) := dk_53 (dk_at dksX3_part_1 10 rfl rfl)
theorem dX3_part_35 : decode cX3_part 35 = .ok (.istore_n 2, 1) := dk_61 (dk_at dksX3_part_1 11 rfl rfl)
theorem dX3_part_36 : decode cX3_part 36 = .ok (.aload_n 0, 1) := dk_42 (dk_at dksX3_part_1 12 rfl rfl)
theorem dX3_part_37 : decode cX3_part 37 = .ok (.invokevirtual 59, 3) := dk_182 0 59 (dk_at dksX3_part_1 13 rfl rfl)
theorem dX3_part_40 : decode cX3_part 40 = .ok (.new 249, 3) := dk_187 0 249 (dk_at dksX3_part_1 16 rfl rfl)
theorem dX3_part_43 : decode cX3_part 43 = .ok (.dup, 1) := dk_89 (dk_at dksX3_part_1 19 rfl rfl)
theorem dX3_part_44 : decode cX3_part 44 = .ok (.iload_n 2, 1) := dk_28 (dk_at dksX3_part_1 20 rfl rfl)
theorem dX3_part_45 : decode cX3_part 45 = .ok (.aload_n 1, 1) := dk_43 (dk_at dksX3_part_1 21 rfl rfl)
theorem dX3_part_46 : decode cX3_part 46 = .ok (.aload_n 0, 1) := dk_42 (dk_at dksX3_part_1 22 rfl rfl)
theorem dX3_part_47 : decode cX3_part 47 = .ok (.invokevirtual 254, 3) := dk_182 0 254 (dk_at dksX3_part_2 0 rfl rfl)
theorem dX3_part_50 : decode cX3_part 50 = .ok (.invokespecial 251, 3) := dk_183 0 251 (dk_at dksX3_part_2 3 rfl rfl)
theorem dX3_part_53 : decode cX3_part 53 = .ok (.astore_n 1, 1) := dk_76 (dk_at dksX3_part_2 6 rfl rfl)
theorem dX3_part_54 : decode cX3_part 54 = .ok (.goto (-49), 3) := dk_167 255 207 (dk_at dksX3_part_2 7 rfl rfl)
theorem dX3_part_57 : decode cX3_part 57 = .ok (.aload_n 1, 1) := dk_43 (dk_at dksX3_part_2 10 rfl rfl)
theorem dX3_part_58 : decode cX3_part 58 = .ok (.areturn, 1) := dk_176 (dk_at dksX3_part_2 11 rfl rfl)
abbrev cX3_unit : ByteArray := prog_10_method_23_code
def yX3_unit : MethodName := ⟨RX3, "unit", "()LDogsHour$Sum;"⟩
def dkwX3_unit_6 : List UInt8 := [182, 0, 105, 42, 89, 180, 0, 99, 4, 100, 181, 0, 99, 43, 176]
abbrev dktX3_unit_6 : List UInt8 := dkwX3_unit_6 ++ []
def dkwX3_unit_5 : List UInt8 := [42, 89, 180, 0, 99, 4, 96, 181, 0, 99, 42, 182, 0, 59, 42, 182, 0, 233, 76, 42, 16, 41]
abbrev dktX3_unit_5 : List UInt8 := dkwX3_unit_5 ++ dktX3_unit_6
def dkwX3_unit_4 : List UInt8 := [154, 0, 9, 42, 4, 182, 0, 48, 191, 42, 180, 0, 99, 16, 6, 160, 0, 9, 42, 5, 182, 0, 48, 191]
abbrev dktX3_unit_4 : List UInt8 := dkwX3_unit_4 ++ dktX3_unit_5
def dkwX3_unit_3 : List UInt8 := [180, 0, 52, 42, 180, 0, 31, 4, 100, 53, 16, 14, 100, 183, 1, 7, 176, 42, 16, 40, 182, 0, 55]
abbrev dktX3_unit_3 : List UInt8 := dkwX3_unit_3 ++ dktX3_unit_4
def dkwX3_unit_2 : List UInt8 := [42, 180, 0, 31, 53, 16, 14, 161, 0, 32, 42, 182, 0, 59, 187, 1, 5, 89, 42, 180, 0, 9]
abbrev dktX3_unit_2 : List UInt8 := dkwX3_unit_2 ++ dktX3_unit_3
def dkwX3_unit_1 : List UInt8 := [4, 100, 182, 0, 72, 183, 1, 3, 176, 42, 182, 0, 65, 6, 160, 0, 49, 42, 180, 0, 9, 180, 0, 52]
abbrev dktX3_unit_1 : List UInt8 := dkwX3_unit_1 ++ dktX3_unit_2
def dkwX3_unit_0 : List UInt8 := [42, 182, 0, 65, 4, 160, 0, 28, 42, 182, 0, 59, 187, 1, 1, 89, 42, 180, 0, 9, 42, 180, 0, 31]
abbrev dktX3_unit_0 : List UInt8 := dkwX3_unit_0 ++ dktX3_unit_1
theorem dksX3_unit_0 : cX3_unit.data.toList.drop 0 = dktX3_unit_0 := by decide +kernel
theorem dksX3_unit_1 : cX3_unit.data.toList.drop 24 = dktX3_unit_1 := dk_seg dksX3_unit_0 24 rfl rfl
theorem dksX3_unit_2 : cX3_unit.data.toList.drop 48 = dktX3_unit_2 := dk_seg dksX3_unit_1 24 rfl rfl
theorem dksX3_unit_3 : cX3_unit.data.toList.drop 70 = dktX3_unit_3 := dk_seg dksX3_unit_2 22 rfl rfl
theorem dksX3_unit_4 : cX3_unit.data.toList.drop 93 = dktX3_unit_4 := dk_seg dksX3_unit_3 23 rfl rfl
theorem dksX3_unit_5 : cX3_unit.data.toList.drop 117 = dktX3_unit_5 := dk_seg dksX3_unit_4 24 rfl rfl
theorem dksX3_unit_6 : cX3_unit.data.toList.drop 139 = dktX3_unit_6 := dk_seg dksX3_unit_5 22 rfl rfl
theorem dX3_unit_0 : decode cX3_unit 0 = .ok (.aload_n 0, 1) := dk_42 (dk_at dksX3_unit_0 0 rfl rfl)
theorem dX3_unit_1 : decode cX3_unit 1 = .ok (.invokevirtual 65, 3) := dk_182 0 65 (dk_at dksX3_unit_0 1 rfl rfl)
theorem dX3_unit_4 : decode cX3_unit 4 = .ok (.iconst 1, 1) := dk_4 (dk_at dksX3_unit_0 4 rfl rfl)
theorem dX3_unit_5 : decode cX3_unit 5 = .ok (.if_icmp .ne 28, 3) := dk_160 0 28 (dk_at dksX3_unit_0 5 rfl rfl)
theorem dX3_unit_8 : decode cX3_unit 8 = .ok (.aload_n 0, 1) := dk_42 (dk_at dksX3_unit_0 8 rfl rfl)
theorem dX3_unit_9 : decode cX3_unit 9 = .ok (.invokevirtual 59, 3) := dk_182 0 59 (dk_at dksX3_unit_0 9 rfl rfl)
theorem dX3_unit_12 : decode cX3_unit 12 = .ok (.new 257, 3) := dk_187 1 1 (dk_at dksX3_unit_0 12 rfl rfl)
theorem dX3_unit_15 : decode cX3_unit 15 = .ok (.dup, 1) := dk_89 (dk_at dksX3_unit_0 15 rfl rfl)
theorem dX3_unit_16 : decode cX3_unit 16 = .ok (.aload_n 0, 1) := dk_42 (dk_at dksX3_unit_0 16 rfl rfl)
theorem dX3_unit_17 : decode cX3_unit 17 = .ok (.getfield 9, 3) := dk_180 0 9 (dk_at dksX3_unit_0 17 rfl rfl)
theorem dX3_unit_20 : decode cX3_unit 20 = .ok (.aload_n 0, 1) := dk_42 (dk_at dksX3_unit_0 20 rfl rfl)
theorem dX3_unit_21 : decode cX3_unit 21 = .ok (.getfield 31, 3) := dk_180 0 31 (dk_at dksX3_unit_0 21 rfl rfl)
theorem dX3_unit_24 : decode cX3_unit 24 = .ok (.iconst 1, 1) := dk_4 (dk_at dksX3_unit_1 0 rfl rfl)
theorem dX3_unit_25 : decode cX3_unit 25 = .ok (.isub, 1) := dk_100 (dk_at dksX3_unit_1 1 rfl rfl)
theorem dX3_unit_26 : decode cX3_unit 26 = .ok (.invokevirtual 72, 3) := dk_182 0 72 (dk_at dksX3_unit_1 2 rfl rfl)
theorem dX3_unit_29 : decode cX3_unit 29 = .ok (.invokespecial 259, 3) := dk_183 1 3 (dk_at dksX3_unit_1 5 rfl rfl)
theorem dX3_unit_32 : decode cX3_unit 32 = .ok (.areturn, 1) := dk_176 (dk_at dksX3_unit_1 8 rfl rfl)
theorem dX3_unit_33 : decode cX3_unit 33 = .ok (.aload_n 0, 1) := dk_42 (dk_at dksX3_unit_1 9 rfl rfl)
theorem dX3_unit_34 : decode cX3_unit 34 = .ok (.invokevirtual 65, 3) := dk_182 0 65 (dk_at dksX3_unit_1 10 rfl rfl)
theorem dX3_unit_37 : decode cX3_unit 37 = .ok (.iconst 3, 1) := dk_6 (dk_at dksX3_unit_1 13 rfl rfl)
theorem dX3_unit_38 : decode cX3_unit 38 = .ok (.if_icmp .ne 49, 3) := dk_160 0 49 (dk_at dksX3_unit_1 14 rfl rfl)
theorem dX3_unit_41 : decode cX3_unit 41 = .ok (.aload_n 0, 1) := dk_42 (dk_at dksX3_unit_1 17 rfl rfl)
theorem dX3_unit_42 : decode cX3_unit 42 = .ok (.getfield 9, 3) := dk_180 0 9 (dk_at dksX3_unit_1 18 rfl rfl)
theorem dX3_unit_45 : decode cX3_unit 45 = .ok (.getfield 52, 3) := dk_180 0 52 (dk_at dksX3_unit_1 21 rfl rfl)
theorem dX3_unit_48 : decode cX3_unit 48 = .ok (.aload_n 0, 1) := dk_42 (dk_at dksX3_unit_2 0 rfl rfl)
theorem dX3_unit_49 : decode cX3_unit 49 = .ok (.getfield 31, 3) := dk_180 0 31 (dk_at dksX3_unit_2 1 rfl rfl)
theorem dX3_unit_52 : decode cX3_unit 52 = .ok (.saload, 1) := dk_53 (dk_at dksX3_unit_2 4 rfl rfl)
theorem dX3_unit_53 : decode cX3_unit 53 = .ok (.bipush 14, 2) := dk_16 14 (dk_at dksX3_unit_2 5 rfl rfl)
theorem dX3_unit_55 : decode cX3_unit 55 = .ok (.if_icmp .lt 32, 3) := dk_161 0 32 (dk_at dksX3_unit_2 7 rfl rfl)
theorem dX3_unit_58 : decode cX3_unit 58 = .ok (.aload_n 0, 1) := dk_42 (dk_at dksX3_unit_2 10 rfl rfl)
theorem dX3_unit_59 : decode cX3_unit 59 = .ok (.invokevirtual 59, 3) := dk_182 0 59 (dk_at dksX3_unit_2 11 rfl rfl)
theorem dX3_unit_62 : decode cX3_unit 62 = .ok (.new 261, 3) := dk_187 1 5 (dk_at dksX3_unit_2 14 rfl rfl)
theorem dX3_unit_65 : decode cX3_unit 65 = .ok (.dup, 1) := dk_89 (dk_at dksX3_unit_2 17 rfl rfl)
theorem dX3_unit_66 : decode cX3_unit 66 = .ok (.aload_n 0, 1) := dk_42 (dk_at dksX3_unit_2 18 rfl rfl)
theorem dX3_unit_67 : decode cX3_unit 67 = .ok (.getfield 9, 3) := dk_180 0 9 (dk_at dksX3_unit_2 19 rfl rfl)
theorem dX3_unit_70 : decode cX3_unit 70 = .ok (.getfield 52, 3) := dk_180 0 52 (dk_at dksX3_unit_3 0 rfl rfl)
theorem dX3_unit_73 : decode cX3_unit 73 = .ok (.aload_n 0, 1) := dk_42 (dk_at dksX3_unit_3 3 rfl rfl)
theorem dX3_unit_74 : decode cX3_unit 74 = .ok (.getfield 31, 3) := dk_180 0 31 (dk_at dksX3_unit_3 4 rfl rfl)
theorem dX3_unit_77 : decode cX3_unit 77 = .ok (.iconst 1, 1) := dk_4 (dk_at dksX3_unit_3 7 rfl rfl)
theorem dX3_unit_78 : decode cX3_unit 78 = .ok (.isub, 1) := dk_100 (dk_at dksX3_unit_3 8 rfl rfl)
theorem dX3_unit_79 : decode cX3_unit 79 = .ok (.saload, 1) := dk_53 (dk_at dksX3_unit_3 9 rfl rfl)
theorem dX3_unit_80 : decode cX3_unit 80 = .ok (.bipush 14, 2) := dk_16 14 (dk_at dksX3_unit_3 10 rfl rfl)
theorem dX3_unit_82 : decode cX3_unit 82 = .ok (.isub, 1) := dk_100 (dk_at dksX3_unit_3 12 rfl rfl)
theorem dX3_unit_83 : decode cX3_unit 83 = .ok (.invokespecial 263, 3) := dk_183 1 7 (dk_at dksX3_unit_3 13 rfl rfl)
theorem dX3_unit_86 : decode cX3_unit 86 = .ok (.areturn, 1) := dk_176 (dk_at dksX3_unit_3 16 rfl rfl)
theorem dX3_unit_87 : decode cX3_unit 87 = .ok (.aload_n 0, 1) := dk_42 (dk_at dksX3_unit_3 17 rfl rfl)
theorem dX3_unit_88 : decode cX3_unit 88 = .ok (.bipush 40, 2) := dk_16 40 (dk_at dksX3_unit_3 18 rfl rfl)
theorem dX3_unit_90 : decode cX3_unit 90 = .ok (.invokevirtual 55, 3) := dk_182 0 55 (dk_at dksX3_unit_3 20 rfl rfl)
theorem dX3_unit_93 : decode cX3_unit 93 = .ok (.ifCond .ne 9, 3) := dk_154 0 9 (dk_at dksX3_unit_4 0 rfl rfl)
theorem dX3_unit_96 : decode cX3_unit 96 = .ok (.aload_n 0, 1) := dk_42 (dk_at dksX3_unit_4 3 rfl rfl)
theorem dX3_unit_97 : decode cX3_unit 97 = .ok (.iconst 1, 1) := dk_4 (dk_at dksX3_unit_4 4 rfl rfl)
theorem dX3_unit_98 : decode cX3_unit 98 = .ok (.invokevirtual 48, 3) := dk_182 0 48 (dk_at dksX3_unit_4 5 rfl rfl)
theorem dX3_unit_101 : decode cX3_unit 101 = .ok (.athrow, 1) := dk_191 (dk_at dksX3_unit_4 8 rfl rfl)
theorem dX3_unit_102 : decode cX3_unit 102 = .ok (.aload_n 0, 1) := dk_42 (dk_at dksX3_unit_4 9 rfl rfl)
theorem dX3_unit_103 : decode cX3_unit 103 = .ok (.getfield 99, 3) := dk_180 0 99 (dk_at dksX3_unit_4 10 rfl rfl)
theorem dX3_unit_106 : decode cX3_unit 106 = .ok (.bipush 6, 2) := dk_16 6 (dk_at dksX3_unit_4 13 rfl rfl)
theorem dX3_unit_108 : decode cX3_unit 108 = .ok (.if_icmp .ne 9, 3) := dk_160 0 9 (dk_at dksX3_unit_4 15 rfl rfl)
theorem dX3_unit_111 : decode cX3_unit 111 = .ok (.aload_n 0, 1) := dk_42 (dk_at dksX3_unit_4 18 rfl rfl)
theorem dX3_unit_112 : decode cX3_unit 112 = .ok (.iconst 2, 1) := dk_5 (dk_at dksX3_unit_4 19 rfl rfl)
theorem dX3_unit_113 : decode cX3_unit 113 = .ok (.invokevirtual 48, 3) := dk_182 0 48 (dk_at dksX3_unit_4 20 rfl rfl)
theorem dX3_unit_116 : decode cX3_unit 116 = .ok (.athrow, 1) := dk_191 (dk_at dksX3_unit_4 23 rfl rfl)
theorem dX3_unit_117 : decode cX3_unit 117 = .ok (.aload_n 0, 1) := dk_42 (dk_at dksX3_unit_5 0 rfl rfl)
theorem dX3_unit_118 : decode cX3_unit 118 = .ok (.dup, 1) := dk_89 (dk_at dksX3_unit_5 1 rfl rfl)
theorem dX3_unit_119 : decode cX3_unit 119 = .ok (.getfield 99, 3) := dk_180 0 99 (dk_at dksX3_unit_5 2 rfl rfl)
theorem dX3_unit_122 : decode cX3_unit 122 = .ok (.iconst 1, 1) := dk_4 (dk_at dksX3_unit_5 5 rfl rfl)
theorem dX3_unit_123 : decode cX3_unit 123 = .ok (.iadd, 1) := dk_96 (dk_at dksX3_unit_5 6 rfl rfl)
theorem dX3_unit_124 : decode cX3_unit 124 = .ok (.putfield 99, 3) := dk_181 0 99 (dk_at dksX3_unit_5 7 rfl rfl)
theorem dX3_unit_127 : decode cX3_unit 127 = .ok (.aload_n 0, 1) := dk_42 (dk_at dksX3_unit_5 10 rfl rfl)
theorem dX3_unit_128 : decode cX3_unit 128 = .ok (.invokevirtual 59, 3) := dk_182 0 59 (dk_at dksX3_unit_5 11 rfl rfl)
theorem dX3_unit_131 : decode cX3_unit 131 = .ok (.aload_n 0, 1) := dk_42 (dk_at dksX3_unit_5 14 rfl rfl)
theorem dX3_unit_132 : decode cX3_unit 132 = .ok (.invokevirtual 233, 3) := dk_182 0 233 (dk_at dksX3_unit_5 15 rfl rfl)
theorem dX3_unit_135 : decode cX3_unit 135 = .ok (.astore_n 1, 1) := dk_76 (dk_at dksX3_unit_5 18 rfl rfl)
theorem dX3_unit_136 : decode cX3_unit 136 = .ok (.aload_n 0, 1) := dk_42 (dk_at dksX3_unit_5 19 rfl rfl)
theorem dX3_unit_137 : decode cX3_unit 137 = .ok (.bipush 41, 2) := dk_16 41 (dk_at dksX3_unit_5 20 rfl rfl)
theorem dX3_unit_139 : decode cX3_unit 139 = .ok (.invokevirtual 105, 3) := dk_182 0 105 (dk_at dksX3_unit_6 0 rfl rfl)
theorem dX3_unit_142 : decode cX3_unit 142 = .ok (.aload_n 0, 1) := dk_42 (dk_at dksX3_unit_6 3 rfl rfl)
theorem dX3_unit_143 : decode cX3_unit 143 = .ok (.dup, 1) := dk_89 (dk_at dksX3_unit_6 4 rfl rfl)
theorem dX3_unit_144 : decode cX3_unit 144 = .ok (.getfield 99, 3) := dk_180 0 99 (dk_at dksX3_unit_6 5 rfl rfl)
theorem dX3_unit_147 : decode cX3_unit 147 = .ok (.iconst 1, 1) := dk_4 (dk_at dksX3_unit_6 8 rfl rfl)
theorem dX3_unit_148 : decode cX3_unit 148 = .ok (.isub, 1) := dk_100 (dk_at dksX3_unit_6 9 rfl rfl)
theorem dX3_unit_149 : decode cX3_unit 149 = .ok (.putfield 99, 3) := dk_181 0 99 (dk_at dksX3_unit_6 10 rfl rfl)
theorem dX3_unit_152 : decode cX3_unit 152 = .ok (.aload_n 1, 1) := dk_43 (dk_at dksX3_unit_6 13 rfl rfl)
theorem dX3_unit_153 : decode cX3_unit 153 = .ok (.areturn, 1) := dk_176 (dk_at dksX3_unit_6 14 rfl rfl)
abbrev cX3_word : ByteArray := prog_10_method_10_code
def yX3_word : MethodName := ⟨RX3, "word", "(I)V"⟩
def dkwX3_word_0 : List UInt8 := [42, 27, 182, 0, 62, 154, 0, 9, 42, 4, 182, 0, 48, 191, 42, 182, 0, 59, 177]
abbrev dktX3_word_0 : List UInt8 := dkwX3_word_0 ++ []
theorem dksX3_word_0 : cX3_word.data.toList.drop 0 = dktX3_word_0 := by decide +kernel
theorem dX3_word_0 : decode cX3_word 0 = .ok (.aload_n 0, 1) := dk_42 (dk_at dksX3_word_0 0 rfl rfl)
theorem dX3_word_1 : decode cX3_word 1 = .ok (.iload_n 1, 1) := dk_27 (dk_at dksX3_word_0 1 rfl rfl)
theorem dX3_word_2 : decode cX3_word 2 = .ok (.invokevirtual 62, 3) := dk_182 0 62 (dk_at dksX3_word_0 2 rfl rfl)
theorem dX3_word_5 : decode cX3_word 5 = .ok (.ifCond .ne 9, 3) := dk_154 0 9 (dk_at dksX3_word_0 5 rfl rfl)
theorem dX3_word_8 : decode cX3_word 8 = .ok (.aload_n 0, 1) := dk_42 (dk_at dksX3_word_0 8 rfl rfl)
theorem dX3_word_9 : decode cX3_word 9 = .ok (.iconst 1, 1) := dk_4 (dk_at dksX3_word_0 9 rfl rfl)
theorem dX3_word_10 : decode cX3_word 10 = .ok (.invokevirtual 48, 3) := dk_182 0 48 (dk_at dksX3_word_0 10 rfl rfl)
theorem dX3_word_13 : decode cX3_word 13 = .ok (.athrow, 1) := dk_191 (dk_at dksX3_word_0 13 rfl rfl)
theorem dX3_word_14 : decode cX3_word 14 = .ok (.aload_n 0, 1) := dk_42 (dk_at dksX3_word_0 14 rfl rfl)
theorem dX3_word_15 : decode cX3_word 15 = .ok (.invokevirtual 59, 3) := dk_182 0 59 (dk_at dksX3_word_0 15 rfl rfl)
theorem dX3_word_18 : decode cX3_word 18 = .ok (.return_, 1) := dk_177 (dk_at dksX3_word_0 18 rfl rfl)
abbrev cX3_name : ByteArray := prog_10_method_13_code
def yX3_name : MethodName := ⟨RX3, "name", "()Ljava/lang/String;"⟩
def dkwX3_name_1 : List UInt8 := [153, 0, 9, 42, 6, 27, 182, 0, 75, 44, 176]
abbrev dktX3_name_1 : List UInt8 := dkwX3_name_1 ++ []
def dkwX3_name_0 : List UInt8 := [42, 3, 182, 0, 68, 60, 42, 180, 0, 9, 27, 182, 0, 79, 77, 42, 180, 0, 83, 44, 182, 0, 86]
abbrev dktX3_name_0 : List UInt8 := dkwX3_name_0 ++ dktX3_name_1
theorem dksX3_name_0 : cX3_name.data.toList.drop 0 = dktX3_name_0 := by decide +kernel
theorem dksX3_name_1 : cX3_name.data.toList.drop 23 = dktX3_name_1 := dk_seg dksX3_name_0 23 rfl rfl
theorem dX3_name_0 : decode cX3_name 0 = .ok (.aload_n 0, 1) := dk_42 (dk_at dksX3_name_0 0 rfl rfl)
theorem dX3_name_1 : decode cX3_name 1 = .ok (.iconst 0, 1) := dk_3 (dk_at dksX3_name_0 1 rfl rfl)
theorem dX3_name_2 : decode cX3_name 2 = .ok (.invokevirtual 68, 3) := dk_182 0 68 (dk_at dksX3_name_0 2 rfl rfl)
theorem dX3_name_5 : decode cX3_name 5 = .ok (.istore_n 1, 1) := dk_60 (dk_at dksX3_name_0 5 rfl rfl)
theorem dX3_name_6 : decode cX3_name 6 = .ok (.aload_n 0, 1) := dk_42 (dk_at dksX3_name_0 6 rfl rfl)
theorem dX3_name_7 : decode cX3_name 7 = .ok (.getfield 9, 3) := dk_180 0 9 (dk_at dksX3_name_0 7 rfl rfl)
theorem dX3_name_10 : decode cX3_name 10 = .ok (.iload_n 1, 1) := dk_27 (dk_at dksX3_name_0 10 rfl rfl)
theorem dX3_name_11 : decode cX3_name 11 = .ok (.invokevirtual 79, 3) := dk_182 0 79 (dk_at dksX3_name_0 11 rfl rfl)
theorem dX3_name_14 : decode cX3_name 14 = .ok (.astore_n 2, 1) := dk_77 (dk_at dksX3_name_0 14 rfl rfl)
theorem dX3_name_15 : decode cX3_name 15 = .ok (.aload_n 0, 1) := dk_42 (dk_at dksX3_name_0 15 rfl rfl)
theorem dX3_name_16 : decode cX3_name 16 = .ok (.getfield 83, 3) := dk_180 0 83 (dk_at dksX3_name_0 16 rfl rfl)
theorem dX3_name_19 : decode cX3_name 19 = .ok (.aload_n 2, 1) := dk_44 (dk_at dksX3_name_0 19 rfl rfl)
theorem dX3_name_20 : decode cX3_name 20 = .ok (.invokevirtual 86, 3) := dk_182 0 86 (dk_at dksX3_name_0 20 rfl rfl)
theorem dX3_name_23 : decode cX3_name 23 = .ok (.ifCond .eq 9, 3) := dk_153 0 9 (dk_at dksX3_name_1 0 rfl rfl)
theorem dX3_name_26 : decode cX3_name 26 = .ok (.aload_n 0, 1) := dk_42 (dk_at dksX3_name_1 3 rfl rfl)
theorem dX3_name_27 : decode cX3_name 27 = .ok (.iconst 3, 1) := dk_6 (dk_at dksX3_name_1 4 rfl rfl)
theorem dX3_name_28 : decode cX3_name 28 = .ok (.iload_n 1, 1) := dk_27 (dk_at dksX3_name_1 5 rfl rfl)
theorem dX3_name_29 : decode cX3_name 29 = .ok (.invokevirtual 75, 3) := dk_182 0 75 (dk_at dksX3_name_1 6 rfl rfl)
theorem dX3_name_32 : decode cX3_name 32 = .ok (.aload_n 2, 1) := dk_44 (dk_at dksX3_name_1 9 rfl rfl)
theorem dX3_name_33 : decode cX3_name 33 = .ok (.areturn, 1) := dk_176 (dk_at dksX3_name_1 10 rfl rfl)
abbrev cX3_take : ByteArray := prog_10_method_11_code
def yX3_take : MethodName := ⟨RX3, "take", "(I)I"⟩
def dkwX3_take_1 : List UInt8 := [172]
abbrev dktX3_take_1 : List UInt8 := dkwX3_take_1 ++ []
def dkwX3_take_0 : List UInt8 := [42, 182, 0, 65, 27, 159, 0, 9, 42, 4, 182, 0, 48, 191, 42, 182, 0, 59, 42, 180, 0, 31, 4, 100]
abbrev dktX3_take_0 : List UInt8 := dkwX3_take_0 ++ dktX3_take_1
theorem dksX3_take_0 : cX3_take.data.toList.drop 0 = dktX3_take_0 := by decide +kernel
theorem dksX3_take_1 : cX3_take.data.toList.drop 24 = dktX3_take_1 := dk_seg dksX3_take_0 24 rfl rfl
theorem dX3_take_0 : decode cX3_take 0 = .ok (.aload_n 0, 1) := dk_42 (dk_at dksX3_take_0 0 rfl rfl)
theorem dX3_take_1 : decode cX3_take 1 = .ok (.invokevirtual 65, 3) := dk_182 0 65 (dk_at dksX3_take_0 1 rfl rfl)
theorem dX3_take_4 : decode cX3_take 4 = .ok (.iload_n 1, 1) := dk_27 (dk_at dksX3_take_0 4 rfl rfl)
theorem dX3_take_5 : decode cX3_take 5 = .ok (.if_icmp .eq 9, 3) := dk_159 0 9 (dk_at dksX3_take_0 5 rfl rfl)
theorem dX3_take_8 : decode cX3_take 8 = .ok (.aload_n 0, 1) := dk_42 (dk_at dksX3_take_0 8 rfl rfl)
theorem dX3_take_9 : decode cX3_take 9 = .ok (.iconst 1, 1) := dk_4 (dk_at dksX3_take_0 9 rfl rfl)
theorem dX3_take_10 : decode cX3_take 10 = .ok (.invokevirtual 48, 3) := dk_182 0 48 (dk_at dksX3_take_0 10 rfl rfl)
theorem dX3_take_13 : decode cX3_take 13 = .ok (.athrow, 1) := dk_191 (dk_at dksX3_take_0 13 rfl rfl)
theorem dX3_take_14 : decode cX3_take 14 = .ok (.aload_n 0, 1) := dk_42 (dk_at dksX3_take_0 14 rfl rfl)
theorem dX3_take_15 : decode cX3_take 15 = .ok (.invokevirtual 59, 3) := dk_182 0 59 (dk_at dksX3_take_0 15 rfl rfl)
theorem dX3_take_18 : decode cX3_take 18 = .ok (.aload_n 0, 1) := dk_42 (dk_at dksX3_take_0 18 rfl rfl)
theorem dX3_take_19 : decode cX3_take 19 = .ok (.getfield 31, 3) := dk_180 0 31 (dk_at dksX3_take_0 19 rfl rfl)
theorem dX3_take_22 : decode cX3_take 22 = .ok (.iconst 1, 1) := dk_4 (dk_at dksX3_take_0 22 rfl rfl)
theorem dX3_take_23 : decode cX3_take 23 = .ok (.isub, 1) := dk_100 (dk_at dksX3_take_0 23 rfl rfl)
theorem dX3_take_24 : decode cX3_take 24 = .ok (.ireturn, 1) := dk_172 (dk_at dksX3_take_1 0 rfl rfl)
abbrev cX3_tell : ByteArray := prog_10_method_4_code
def yX3_tell : MethodName := ⟨RX3, "tell", "(II)V"⟩
def dkwX3_tell_1 : List UInt8 := [42, 180, 0, 38, 161, 0, 4, 177, 42, 27, 181, 0, 38, 42, 28, 181, 0, 41, 177]
abbrev dktX3_tell_1 : List UInt8 := dkwX3_tell_1 ++ []
def dkwX3_tell_0 : List UInt8 := [42, 180, 0, 38, 153, 0, 28, 28, 42, 180, 0, 41, 163, 0, 19, 28, 42, 180, 0, 41, 160, 0, 12, 27]
abbrev dktX3_tell_0 : List UInt8 := dkwX3_tell_0 ++ dktX3_tell_1
theorem dksX3_tell_0 : cX3_tell.data.toList.drop 0 = dktX3_tell_0 := by decide +kernel
theorem dksX3_tell_1 : cX3_tell.data.toList.drop 24 = dktX3_tell_1 := dk_seg dksX3_tell_0 24 rfl rfl
theorem dX3_tell_0 : decode cX3_tell 0 = .ok (.aload_n 0, 1) := dk_42 (dk_at dksX3_tell_0 0 rfl rfl)
theorem dX3_tell_1 : decode cX3_tell 1 = .ok (.getfield 38, 3) := dk_180 0 38 (dk_at dksX3_tell_0 1 rfl rfl)
theorem dX3_tell_4 : decode cX3_tell 4 = .ok (.ifCond .eq 28, 3) := dk_153 0 28 (dk_at dksX3_tell_0 4 rfl rfl)
theorem dX3_tell_7 : decode cX3_tell 7 = .ok (.iload_n 2, 1) := dk_28 (dk_at dksX3_tell_0 7 rfl rfl)
theorem dX3_tell_8 : decode cX3_tell 8 = .ok (.aload_n 0, 1) := dk_42 (dk_at dksX3_tell_0 8 rfl rfl)
theorem dX3_tell_9 : decode cX3_tell 9 = .ok (.getfield 41, 3) := dk_180 0 41 (dk_at dksX3_tell_0 9 rfl rfl)
theorem dX3_tell_12 : decode cX3_tell 12 = .ok (.if_icmp .gt 19, 3) := dk_163 0 19 (dk_at dksX3_tell_0 12 rfl rfl)
theorem dX3_tell_15 : decode cX3_tell 15 = .ok (.iload_n 2, 1) := dk_28 (dk_at dksX3_tell_0 15 rfl rfl)
theorem dX3_tell_16 : decode cX3_tell 16 = .ok (.aload_n 0, 1) := dk_42 (dk_at dksX3_tell_0 16 rfl rfl)
theorem dX3_tell_17 : decode cX3_tell 17 = .ok (.getfield 41, 3) := dk_180 0 41 (dk_at dksX3_tell_0 17 rfl rfl)
theorem dX3_tell_20 : decode cX3_tell 20 = .ok (.if_icmp .ne 12, 3) := dk_160 0 12 (dk_at dksX3_tell_0 20 rfl rfl)
theorem dX3_tell_23 : decode cX3_tell 23 = .ok (.iload_n 1, 1) := dk_27 (dk_at dksX3_tell_0 23 rfl rfl)
theorem dX3_tell_24 : decode cX3_tell 24 = .ok (.aload_n 0, 1) := dk_42 (dk_at dksX3_tell_1 0 rfl rfl)
theorem dX3_tell_25 : decode cX3_tell 25 = .ok (.getfield 38, 3) := dk_180 0 38 (dk_at dksX3_tell_1 1 rfl rfl)
theorem dX3_tell_28 : decode cX3_tell 28 = .ok (.if_icmp .lt 4, 3) := dk_161 0 4 (dk_at dksX3_tell_1 4 rfl rfl)
theorem dX3_tell_31 : decode cX3_tell 31 = .ok (.return_, 1) := dk_177 (dk_at dksX3_tell_1 7 rfl rfl)
theorem dX3_tell_32 : decode cX3_tell 32 = .ok (.aload_n 0, 1) := dk_42 (dk_at dksX3_tell_1 8 rfl rfl)
theorem dX3_tell_33 : decode cX3_tell 33 = .ok (.iload_n 1, 1) := dk_27 (dk_at dksX3_tell_1 9 rfl rfl)
theorem dX3_tell_34 : decode cX3_tell 34 = .ok (.putfield 38, 3) := dk_181 0 38 (dk_at dksX3_tell_1 10 rfl rfl)
theorem dX3_tell_37 : decode cX3_tell 37 = .ok (.aload_n 0, 1) := dk_42 (dk_at dksX3_tell_1 13 rfl rfl)
theorem dX3_tell_38 : decode cX3_tell 38 = .ok (.iload_n 2, 1) := dk_28 (dk_at dksX3_tell_1 14 rfl rfl)
theorem dX3_tell_39 : decode cX3_tell 39 = .ok (.putfield 41, 3) := dk_181 0 41 (dk_at dksX3_tell_1 15 rfl rfl)
theorem dX3_tell_42 : decode cX3_tell 42 = .ok (.return_, 1) := dk_177 (dk_at dksX3_tell_1 18 rfl rfl)
abbrev cX3_known : ByteArray := prog_10_method_14_code
def yX3_known : MethodName := ⟨RX3, "known", "(Ljava/util/ArrayList;)I"⟩
def dkwX3_known_1 : List UInt8 := [7, 28, 182, 0, 75, 29, 172]
abbrev dktX3_known_1 : List UInt8 := dkwX3_known_1 ++ []
def dkwX3_known_0 : List UInt8 := [42, 3, 182, 0, 68, 61, 43, 42, 180, 0, 9, 28, 182, 0, 79, 184, 0, 92, 62, 29, 156, 0, 9, 42]
abbrev dktX3_known_0 : List UInt8 := dkwX3_known_0 ++ dktX3_known_1
theorem dksX3_known_0 : cX3_known.data.toList.drop 0 = dktX3_known_0 := by decide +kernel
theorem dksX3_known_1 : cX3_known.data.toList.drop 24 = dktX3_known_1 := dk_seg dksX3_known_0 24 rfl rfl
theorem dX3_known_0 : decode cX3_known 0 = .ok (.aload_n 0, 1) := dk_42 (dk_at dksX3_known_0 0 rfl rfl)
theorem dX3_known_1 : decode cX3_known 1 = .ok (.iconst 0, 1) := dk_3 (dk_at dksX3_known_0 1 rfl rfl)
theorem dX3_known_2 : decode cX3_known 2 = .ok (.invokevirtual 68, 3) := dk_182 0 68 (dk_at dksX3_known_0 2 rfl rfl)
theorem dX3_known_5 : decode cX3_known 5 = .ok (.istore_n 2, 1) := dk_61 (dk_at dksX3_known_0 5 rfl rfl)
theorem dX3_known_6 : decode cX3_known 6 = .ok (.aload_n 1, 1) := dk_43 (dk_at dksX3_known_0 6 rfl rfl)
theorem dX3_known_7 : decode cX3_known 7 = .ok (.aload_n 0, 1) := dk_42 (dk_at dksX3_known_0 7 rfl rfl)
theorem dX3_known_8 : decode cX3_known 8 = .ok (.getfield 9, 3) := dk_180 0 9 (dk_at dksX3_known_0 8 rfl rfl)
theorem dX3_known_11 : decode cX3_known 11 = .ok (.iload_n 2, 1) := dk_28 (dk_at dksX3_known_0 11 rfl rfl)
theorem dX3_known_12 : decode cX3_known 12 = .ok (.invokevirtual 79, 3) := dk_182 0 79 (dk_at dksX3_known_0 12 rfl rfl)
theorem dX3_known_15 : decode cX3_known 15 = .ok (.invokestatic 92, 3) := dk_184 0 92 (dk_at dksX3_known_0 15 rfl rfl)
theorem dX3_known_18 : decode cX3_known 18 = .ok (.istore_n 3, 1) := dk_62 (dk_at dksX3_known_0 18 rfl rfl)
theorem dX3_known_19 : decode cX3_known 19 = .ok (.iload_n 3, 1) := dk_29 (dk_at dksX3_known_0 19 rfl rfl)
theorem dX3_known_20 : decode cX3_known 20 = .ok (.ifCond .ge 9, 3) := dk_156 0 9 (dk_at dksX3_known_0 20 rfl rfl)
theorem dX3_known_23 : decode cX3_known 23 = .ok (.aload_n 0, 1) := dk_42 (dk_at dksX3_known_0 23 rfl rfl)
theorem dX3_known_24 : decode cX3_known 24 = .ok (.iconst 4, 1) := dk_7 (dk_at dksX3_known_1 0 rfl rfl)
theorem dX3_known_25 : decode cX3_known 25 = .ok (.iload_n 2, 1) := dk_28 (dk_at dksX3_known_1 1 rfl rfl)
theorem dX3_known_26 : decode cX3_known 26 = .ok (.invokevirtual 75, 3) := dk_182 0 75 (dk_at dksX3_known_1 2 rfl rfl)
theorem dX3_known_29 : decode cX3_known 29 = .ok (.iload_n 3, 1) := dk_29 (dk_at dksX3_known_1 5 rfl rfl)
theorem dX3_known_30 : decode cX3_known 30 = .ok (.ireturn, 1) := dk_172 (dk_at dksX3_known_1 6 rfl rfl)
abbrev cX3_joins : ByteArray := prog_10_method_18_code
def yX3_joins : MethodName := ⟨RX3, "joins", "(III)V"⟩
def dkwX3_joins_3 : List UInt8 := [181, 0, 209, 177]
abbrev dktX3_joins_3 : List UInt8 := dkwX3_joins_3 ++ []
def dkwX3_joins_2 : List UInt8 := [42, 180, 0, 83, 180, 0, 120, 28, 182, 0, 205, 192, 0, 132, 89, 180, 0, 209, 4, 27, 120, 128]
abbrev dktX3_joins_2 : List UInt8 := dkwX3_joins_2 ++ dktX3_joins_3
def dkwX3_joins_1 : List UInt8 := [180, 0, 83, 180, 0, 120, 27, 182, 0, 205, 192, 0, 132, 89, 180, 0, 209, 4, 28, 120, 128, 181, 0, 209]
abbrev dktX3_joins_1 : List UInt8 := dkwX3_joins_1 ++ dktX3_joins_2
def dkwX3_joins_0 : List UInt8 := [27, 28, 159, 0, 15, 42, 180, 0, 83, 27, 28, 182, 0, 201, 153, 0, 9, 42, 6, 29, 182, 0, 75, 42]
abbrev dktX3_joins_0 : List UInt8 := dkwX3_joins_0 ++ dktX3_joins_1
theorem dksX3_joins_0 : cX3_joins.data.toList.drop 0 = dktX3_joins_0 := by decide +kernel
theorem dksX3_joins_1 : cX3_joins.data.toList.drop 24 = dktX3_joins_1 := dk_seg dksX3_joins_0 24 rfl rfl
theorem dksX3_joins_2 : cX3_joins.data.toList.drop 48 = dktX3_joins_2 := dk_seg dksX3_joins_1 24 rfl rfl
theorem dksX3_joins_3 : cX3_joins.data.toList.drop 70 = dktX3_joins_3 := dk_seg dksX3_joins_2 22 rfl rfl
theorem dX3_joins_0 : decode cX3_joins 0 = .ok (.iload_n 1, 1) := dk_27 (dk_at dksX3_joins_0 0 rfl rfl)
theorem dX3_joins_1 : decode cX3_joins 1 = .ok (.iload_n 2, 1) := dk_28 (dk_at dksX3_joins_0 1 rfl rfl)
theorem dX3_joins_2 : decode cX3_joins 2 = .ok (.if_icmp .eq 15, 3) := dk_159 0 15 (dk_at dksX3_joins_0 2 rfl rfl)
theorem dX3_joins_5 : decode cX3_joins 5 = .ok (.aload_n 0, 1) := dk_42 (dk_at dksX3_joins_0 5 rfl rfl)
theorem dX3_joins_6 : decode cX3_joins 6 = .ok (.getfield 83, 3) := dk_180 0 83 (dk_at dksX3_joins_0 6 rfl rfl)
theorem dX3_joins_9 : decode cX3_joins 9 = .ok (.iload_n 1, 1) := dk_27 (dk_at dksX3_joins_0 9 rfl rfl)
theorem dX3_joins_10 : decode cX3_joins 10 = .ok (.iload_n 2, 1) := dk_28 (dk_at dksX3_joins_0 10 rfl rfl)
theorem dX3_joins_11 : decode cX3_joins 11 = .ok (.invokevirtual 201, 3) := dk_182 0 201 (dk_at dksX3_joins_0 11 rfl rfl)
theorem dX3_joins_14 : decode cX3_joins 14 = .ok (.ifCond .eq 9, 3) := dk_153 0 9 (dk_at dksX3_joins_0 14 rfl rfl)
theorem dX3_joins_17 : decode cX3_joins 17 = .ok (.aload_n 0, 1) := dk_42 (dk_at dksX3_joins_0 17 rfl rfl)
theorem dX3_joins_18 : decode cX3_joins 18 = .ok (.iconst 3, 1) := dk_6 (dk_at dksX3_joins_0 18 rfl rfl)
theorem dX3_joins_19 : decode cX3_joins 19 = .ok (.iload_n 3, 1) := dk_29 (dk_at dksX3_joins_0 19 rfl rfl)
theorem dX3_joins_20 : decode cX3_joins 20 = .ok (.invokevirtual 75, 3) := dk_182 0 75 (dk_at dksX3_joins_0 20 rfl rfl)
theorem dX3_joins_23 : decode cX3_joins 23 = .ok (.aload_n 0, 1) := dk_42 (dk_at dksX3_joins_0 23 rfl rfl)
theorem dX3_joins_24 : decode cX3_joins 24 = .ok (.getfield 83, 3) := dk_180 0 83 (dk_at dksX3_joins_1 0 rfl rfl)
theorem dX3_joins_27 : decode cX3_joins 27 = .ok (.getfield 120, 3) := dk_180 0 120 (dk_at dksX3_joins_1 3 rfl rfl)
theorem dX3_joins_30 : decode cX3_joins 30 = .ok (.iload_n 1, 1) := dk_27 (dk_at dksX3_joins_1 6 rfl rfl)
theorem dX3_joins_31 : decode cX3_joins 31 = .ok (.invokevirtual 205, 3) := dk_182 0 205 (dk_at dksX3_joins_1 7 rfl rfl)
theorem dX3_joins_34 : decode cX3_joins 34 = .ok (.checkcast 132, 3) := dk_192 0 132 (dk_at dksX3_joins_1 10 rfl rfl)
theorem dX3_joins_37 : decode cX3_joins 37 = .ok (.dup, 1) := dk_89 (dk_at dksX3_joins_1 13 rfl rfl)
theorem dX3_joins_38 : decode cX3_joins 38 = .ok (.getfield 209, 3) := dk_180 0 209 (dk_at dksX3_joins_1 14 rfl rfl)
theorem dX3_joins_41 : decode cX3_joins 41 = .ok (.iconst 1, 1) := dk_4 (dk_at dksX3_joins_1 17 rfl rfl)
theorem dX3_joins_42 : decode cX3_joins 42 = .ok (.iload_n 2, 1) := dk_28 (dk_at dksX3_joins_1 18 rfl rfl)
theorem dX3_joins_43 : decode cX3_joins 43 = .ok (.ishl, 1) := dk_120 (dk_at dksX3_joins_1 19 rfl rfl)
theorem dX3_joins_44 : decode cX3_joins 44 = .ok (.ior, 1) := dk_128 (dk_at dksX3_joins_1 20 rfl rfl)
theorem dX3_joins_45 : decode cX3_joins 45 = .ok (.putfield 209, 3) := dk_181 0 209 (dk_at dksX3_joins_1 21 rfl rfl)
theorem dX3_joins_48 : decode cX3_joins 48 = .ok (.aload_n 0, 1) := dk_42 (dk_at dksX3_joins_2 0 rfl rfl)
theorem dX3_joins_49 : decode cX3_joins 49 = .ok (.getfield 83, 3) := dk_180 0 83 (dk_at dksX3_joins_2 1 rfl rfl)
theorem dX3_joins_52 : decode cX3_joins 52 = .ok (.getfield 120, 3) := dk_180 0 120 (dk_at dksX3_joins_2 4 rfl rfl)
theorem dX3_joins_55 : decode cX3_joins 55 = .ok (.iload_n 2, 1) := dk_28 (dk_at dksX3_joins_2 7 rfl rfl)
theorem dX3_joins_56 : decode cX3_joins 56 = .ok (.invokevirtual 205, 3) := dk_182 0 205 (dk_at dksX3_joins_2 8 rfl rfl)
theorem dX3_joins_59 : decode cX3_joins 59 = .ok (.checkcast 132, 3) := dk_192 0 132 (dk_at dksX3_joins_2 11 rfl rfl)
theorem dX3_joins_62 : decode cX3_joins 62 = .ok (.dup, 1) := dk_89 (dk_at dksX3_joins_2 14 rfl rfl)
theorem dX3_joins_63 : decode cX3_joins 63 = .ok (.getfield 209, 3) := dk_180 0 209 (dk_at dksX3_joins_2 15 rfl rfl)
theorem dX3_joins_66 : decode cX3_joins 66 = .ok (.iconst 1, 1) := dk_4 (dk_at dksX3_joins_2 18 rfl rfl)
theorem dX3_joins_67 : decode cX3_joins 67 = .ok (.iload_n 1, 1) := dk_27 (dk_at dksX3_joins_2 19 rfl rfl)
theorem dX3_joins_68 : decode cX3_joins 68 = .ok (.ishl, 1) := dk_120 (dk_at dksX3_joins_2 20 rfl rfl)
theorem dX3_joins_69 : decode cX3_joins 69 = .ok (.ior, 1) := dk_128 (dk_at dksX3_joins_2 21 rfl rfl)
theorem dX3_joins_70 : decode cX3_joins 70 = .ok (.putfield 209, 3) := dk_181 0 209 (dk_at dksX3_joins_3 0 rfl rfl)
theorem dX3_joins_73 : decode cX3_joins 73 = .ok (.return_, 1) := dk_177 (dk_at dksX3_joins_3 3 rfl rfl)
abbrev cX3_number : ByteArray := prog_10_method_12_code
def yX3_number : MethodName := ⟨RX3, "number", "(II)I"⟩
def dkwX3_number_1 : List UInt8 := [28, 164, 0, 9, 42, 8, 29, 182, 0, 75, 21, 4, 172]
abbrev dktX3_number_1 : List UInt8 := dkwX3_number_1 ++ []
def dkwX3_number_0 : List UInt8 := [42, 4, 182, 0, 68, 62, 42, 180, 0, 9, 29, 182, 0, 72, 54, 4, 21, 4, 27, 161, 0, 9, 21, 4]
abbrev dktX3_number_0 : List UInt8 := dkwX3_number_0 ++ dktX3_number_1
theorem dksX3_number_0 : cX3_number.data.toList.drop 0 = dktX3_number_0 := by decide +kernel
theorem dksX3_number_1 : cX3_number.data.toList.drop 24 = dktX3_number_1 := dk_seg dksX3_number_0 24 rfl rfl
theorem dX3_number_0 : decode cX3_number 0 = .ok (.aload_n 0, 1) := dk_42 (dk_at dksX3_number_0 0 rfl rfl)
theorem dX3_number_1 : decode cX3_number 1 = .ok (.iconst 1, 1) := dk_4 (dk_at dksX3_number_0 1 rfl rfl)
theorem dX3_number_2 : decode cX3_number 2 = .ok (.invokevirtual 68, 3) := dk_182 0 68 (dk_at dksX3_number_0 2 rfl rfl)
theorem dX3_number_5 : decode cX3_number 5 = .ok (.istore_n 3, 1) := dk_62 (dk_at dksX3_number_0 5 rfl rfl)
theorem dX3_number_6 : decode cX3_number 6 = .ok (.aload_n 0, 1) := dk_42 (dk_at dksX3_number_0 6 rfl rfl)
theorem dX3_number_7 : decode cX3_number 7 = .ok (.getfield 9, 3) := dk_180 0 9 (dk_at dksX3_number_0 7 rfl rfl)
theorem dX3_number_10 : decode cX3_number 10 = .ok (.iload_n 3, 1) := dk_29 (dk_at dksX3_number_0 10 rfl rfl)
theorem dX3_number_11 : decode cX3_number 11 = .ok (.invokevirtual 72, 3) := dk_182 0 72 (dk_at dksX3_number_0 11 rfl rfl)
theorem dX3_number_14 : decode cX3_number 14 = .ok (.istore 4, 2) := dk_54 4 (dk_at dksX3_number_0 14 rfl rfl)
theorem dX3_number_16 : decode cX3_number 16 = .ok (.iload 4, 2) := dk_21 4 (dk_at dksX3_number_0 16 rfl rfl)
theorem dX3_number_18 : decode cX3_number 18 = .ok (.iload_n 1, 1) := dk_27 (dk_at dksX3_number_0 18 rfl rfl)
theorem dX3_number_19 : decode cX3_number 19 = .ok (.if_icmp .lt 9, 3) := dk_161 0 9 (dk_at dksX3_number_0 19 rfl rfl)
theorem dX3_number_22 : decode cX3_number 22 = .ok (.iload 4, 2) := dk_21 4 (dk_at dksX3_number_0 22 rfl rfl)
theorem dX3_number_24 : decode cX3_number 24 = .ok (.iload_n 2, 1) := dk_28 (dk_at dksX3_number_1 0 rfl rfl)
theorem dX3_number_25 : decode cX3_number 25 = .ok (.if_icmp .le 9, 3) := dk_164 0 9 (dk_at dksX3_number_1 1 rfl rfl)
theorem dX3_number_28 : decode cX3_number 28 = .ok (.aload_n 0, 1) := dk_42 (dk_at dksX3_number_1 4 rfl rfl)
theorem dX3_number_29 : decode cX3_number 29 = .ok (.iconst 5, 1) := dk_8 (dk_at dksX3_number_1 5 rfl rfl)
theorem dX3_number_30 : decode cX3_number 30 = .ok (.iload_n 3, 1) := dk_29 (dk_at dksX3_number_1 6 rfl rfl)
theorem dX3_number_31 : decode cX3_number 31 = .ok (.invokevirtual 75, 3) := dk_182 0 75 (dk_at dksX3_number_1 7 rfl rfl)
theorem dX3_number_34 : decode cX3_number 34 = .ok (.iload 4, 2) := dk_21 4 (dk_at dksX3_number_1 10 rfl rfl)
theorem dX3_number_36 : decode cX3_number 36 = .ok (.ireturn, 1) := dk_172 (dk_at dksX3_number_1 12 rfl rfl)
abbrev cX3_errandTold : ByteArray := prog_10_method_19_code
def yX3_errandTold : MethodName := ⟨RX3, "errandTold", "()V"⟩
def dkwX3_errandTold_6 : List UInt8 := [180, 0, 83, 89, 180, 0, 212, 4, 96, 181, 0, 212, 177]
abbrev dktX3_errandTold_6 : List UInt8 := dkwX3_errandTold_6 ++ []
def dkwX3_errandTold_5 : List UInt8 := [180, 0, 212, 27, 79, 42, 180, 0, 83, 180, 0, 220, 42, 180, 0, 83, 180, 0, 212, 29, 79, 42]
abbrev dktX3_errandTold_5 : List UInt8 := dkwX3_errandTold_5 ++ dktX3_errandTold_6
def dkwX3_errandTold_4 : List UInt8 := [89, 180, 0, 215, 4, 29, 120, 128, 181, 0, 215, 42, 180, 0, 83, 180, 0, 216, 42, 180, 0, 83]
abbrev dktX3_errandTold_4 : List UInt8 := dkwX3_errandTold_4 ++ dktX3_errandTold_5
def dkwX3_errandTold_3 : List UInt8 := [4, 160, 0, 9, 42, 6, 28, 182, 0, 75, 42, 180, 0, 83, 180, 0, 174, 27, 182, 0, 205, 192, 0, 177]
abbrev dktX3_errandTold_3 : List UInt8 := dkwX3_errandTold_3 ++ dktX3_errandTold_4
def dkwX3_errandTold_2 : List UInt8 := [155, 0, 59, 42, 180, 0, 83, 180, 0, 174, 27, 182, 0, 205, 192, 0, 177, 180, 0, 215, 29, 122, 4, 126]
abbrev dktX3_errandTold_2 : List UInt8 := dkwX3_errandTold_2 ++ dktX3_errandTold_3
def dkwX3_errandTold_1 : List UInt8 := [60, 42, 180, 0, 31, 61, 42, 42, 180, 0, 83, 180, 0, 120, 182, 0, 148, 62, 27, 155, 0, 63, 29]
abbrev dktX3_errandTold_1 : List UInt8 := dkwX3_errandTold_1 ++ dktX3_errandTold_2
def dkwX3_errandTold_0 : List UInt8 := [42, 42, 180, 0, 83, 180, 0, 212, 16, 8, 182, 0, 129, 42, 42, 180, 0, 83, 180, 0, 174, 182, 0, 148]
abbrev dktX3_errandTold_0 : List UInt8 := dkwX3_errandTold_0 ++ dktX3_errandTold_1
theorem dksX3_errandTold_0 : cX3_errandTold.data.toList.drop 0 = dktX3_errandTold_0 := by decide +kernel
theorem dksX3_errandTold_1 : cX3_errandTold.data.toList.drop 24 = dktX3_errandTold_1 := dk_seg dksX3_errandTold_0 24 rfl rfl
theorem dksX3_errandTold_2 : cX3_errandTold.data.toList.drop 47 = dktX3_errandTold_2 := dk_seg dksX3_errandTold_1 23 rfl rfl
theorem dksX3_errandTold_3 : cX3_errandTold.data.toList.drop 71 = dktX3_errandTold_3 := dk_seg dksX3_errandTold_2 24 rfl rfl
theorem dksX3_errandTold_4 : cX3_errandTold.data.toList.drop 95 = dktX3_errandTold_4 := dk_seg dksX3_errandTold_3 24 rfl rfl
theorem dksX3_errandTold_5 : cX3_errandTold.data.toList.drop 117 = dktX3_errandTold_5 := dk_seg dksX3_errandTold_4 22 rfl rfl
theorem dksX3_errandTold_6 : cX3_errandTold.data.toList.drop 139 = dktX3_errandTold_6 := dk_seg dksX3_errandTold_5 22 rfl rfl
theorem dX3_errandTold_0 : decode cX3_errandTold 0 = .ok (.aload_n 0, 1) := dk_42 (dk_at dksX3_errandTold_0 0 rfl rfl)
theorem dX3_errandTold_1 : decode cX3_errandTold 1 = .ok (.aload_n 0, 1) := dk_42 (dk_at dksX3_errandTold_0 1 rfl rfl)
theorem dX3_errandTold_2 : decode cX3_errandTold 2 = .ok (.getfield 83, 3) := dk_180 0 83 (dk_at dksX3_errandTold_0 2 rfl rfl)
theorem dX3_errandTold_5 : decode cX3_errandTold 5 = .ok (.getfield 212, 3) := dk_180 0 212 (dk_at dksX3_errandTold_0 5 rfl rfl)
theorem dX3_errandTold_8 : decode cX3_errandTold 8 = .ok (.bipush 8, 2) := dk_16 8 (dk_at dksX3_errandTold_0 8 rfl rfl)
theorem dX3_errandTold_10 : decode cX3_errandTold 10 = .ok (.invokevirtual 129, 3) := dk_182 0 129 (dk_at dksX3_errandTold_0 10 rfl rfl)
theorem dX3_errandTold_13 : decode cX3_errandTold 13 = .ok (.aload_n 0, 1) := dk_42 (dk_at dksX3_errandTold_0 13 rfl rfl)
theorem dX3_errandTold_14 : decode cX3_errandTold 14 = .ok (.aload_n 0, 1) := dk_42 (dk_at dksX3_errandTold_0 14 rfl rfl)
theorem dX3_errandTold_15 : decode cX3_errandTold 15 = .ok (.getfield 83, 3) := dk_180 0 83 (dk_at dksX3_errandTold_0 15 rfl rfl)
theorem dX3_errandTold_18 : decode cX3_errandTold 18 = .ok (.getfield 174, 3) := dk_180 0 174 (dk_at dksX3_errandTold_0 18 rfl rfl)
theorem dX3_errandTold_21 : decode cX3_errandTold 21 = .ok (.invokevirtual 148, 3) := dk_182 0 148 (dk_at dksX3_errandTold_0 21 rfl rfl)
theorem dX3_errandTold_24 : decode cX3_errandTold 24 = .ok (.istore_n 1, 1) := dk_60 (dk_at dksX3_errandTold_1 0 rfl rfl)
theorem dX3_errandTold_25 : decode cX3_errandTold 25 = .ok (.aload_n 0, 1) := dk_42 (dk_at dksX3_errandTold_1 1 rfl rfl)
theorem dX3_errandTold_26 : decode cX3_errandTold 26 = .ok (.getfield 31, 3) := dk_180 0 31 (dk_at dksX3_errandTold_1 2 rfl rfl)
theorem dX3_errandTold_29 : decode cX3_errandTold 29 = .ok (.istore_n 2, 1) := dk_61 (dk_at dksX3_errandTold_1 5 rfl rfl)
theorem dX3_errandTold_30 : decode cX3_errandTold 30 = .ok (.aload_n 0, 1) := dk_42 (dk_at dksX3_errandTold_1 6 rfl rfl)
theorem dX3_errandTold_31 : decode cX3_errandTold 31 = .ok (.aload_n 0, 1) := dk_42 (dk_at dksX3_errandTold_1 7 rfl rfl)
theorem dX3_errandTold_32 : decode cX3_errandTold 32 = .ok (.getfield 83, 3) := dk_180 0 83 (dk_at dksX3_errandTold_1 8 rfl rfl)
theorem dX3_errandTold_35 : decode cX3_errandTold 35 = .ok (.getfield 120, 3) := dk_180 0 120 (dk_at dksX3_errandTold_1 11 rfl rfl)
theorem dX3_errandTold_38 : decode cX3_errandTold 38 = .ok (.invokevirtual 148, 3) := dk_182 0 148 (dk_at dksX3_errandTold_1 14 rfl rfl)
theorem dX3_errandTold_41 : decode cX3_errandTold 41 = .ok (.istore_n 3, 1) := dk_62 (dk_at dksX3_errandTold_1 17 rfl rfl)
theorem dX3_errandTold_42 : decode cX3_errandTold 42 = .ok (.iload_n 1, 1) := dk_27 (dk_at dksX3_errandTold_1 18 rfl rfl)
theorem dX3_errandTold_43 : decode cX3_errandTold 43 = .ok (.ifCond .lt 63, 3) := dk_155 0 63 (dk_at dksX3_errandTold_1 19 rfl rfl)
theorem dX3_errandTold_46 : decode cX3_errandTold 46 = .ok (.iload_n 3, 1) := dk_29 (dk_at dksX3_errandTold_1 22 rfl rfl)
theorem dX3_errandTold_47 : decode cX3_errandTold 47 = .ok (.ifCond .lt 59, 3) := dk_155 0 59 (dk_at dksX3_errandTold_2 0 rfl rfl)
theorem dX3_errandTold_50 : decode cX3_errandTold 50 = .ok (.aload_n 0, 1) := dk_42 (dk_at dksX3_errandTold_2 3 rfl rfl)
theorem dX3_errandTold_51 : decode cX3_errandTold 51 = .ok (.getfield 83, 3) := dk_180 0 83 (dk_at dksX3_errandTold_2 4 rfl rfl)
theorem dX3_errandTold_54 : decode cX3_errandTold 54 = .ok (.getfield 174, 3) := dk_180 0 174 (dk_at dksX3_errandTold_2 7 rfl rfl)
theorem dX3_errandTold_57 : decode cX3_errandTold 57 = .ok (.iload_n 1, 1) := dk_27 (dk_at dksX3_errandTold_2 10 rfl rfl)
theorem dX3_errandTold_58 : decode cX3_errandTold 58 = .ok (.invokevirtual 205, 3) := dk_182 0 205 (dk_at dksX3_errandTold_2 11 rfl rfl)
theorem dX3_errandTold_61 : decode cX3_errandTold 61 = .ok (.checkcast 177, 3) := dk_192 0 177 (dk_at dksX3_errandTold_2 14 rfl rfl)
theorem dX3_errandTold_64 : decode cX3_errandTold 64 = .ok (.getfield 215, 3) := dk_180 0 215 (dk_at dksX3_errandTold_2 17 rfl rfl)
theorem dX3_errandTold_67 : decode cX3_errandTold 67 = .ok (.iload_n 3, 1) := dk_29 (dk_at dksX3_errandTold_2 20 rfl rfl)
theorem dX3_errandTold_68 : decode cX3_errandTold 68 = .ok (.ishr, 1) := dk_122 (dk_at dksX3_errandTold_2 21 rfl rfl)
theorem dX3_errandTold_69 : decode cX3_errandTold 69 = .ok (.iconst 1, 1) := dk_4 (dk_at dksX3_errandTold_2 22 rfl rfl)
theorem dX3_errandTold_70 : decode cX3_errandTold 70 = .ok (.iand, 1) := dk_126 (dk_at dksX3_errandTold_2 23 rfl rfl)
theorem dX3_errandTold_71 : decode cX3_errandTold 71 = .ok (.iconst 1, 1) := dk_4 (dk_at dksX3_errandTold_3 0 rfl rfl)
theorem dX3_errandTold_72 : decode cX3_errandTold 72 = .ok (.if_icmp .ne 9, 3) := dk_160 0 9 (dk_at dksX3_errandTold_3 1 rfl rfl)
theorem dX3_errandTold_75 : decode cX3_errandTold 75 = .ok (.aload_n 0, 1) := dk_42 (dk_at dksX3_errandTold_3 4 rfl rfl)
theorem dX3_errandTold_76 : decode cX3_errandTold 76 = .ok (.iconst 3, 1) := dk_6 (dk_at dksX3_errandTold_3 5 rfl rfl)
theorem dX3_errandTold_77 : decode cX3_errandTold 77 = .ok (.iload_n 2, 1) := dk_28 (dk_at dksX3_errandTold_3 6 rfl rfl)
theorem dX3_errandTold_78 : decode cX3_errandTold 78 = .ok (.invokevirtual 75, 3) := dk_182 0 75 (dk_at dksX3_errandTold_3 7 rfl rfl)
theorem dX3_errandTold_81 : decode cX3_errandTold 81 = .ok (.aload_n 0, 1) := dk_42 (dk_at dksX3_errandTold_3 10 rfl rfl)
theorem dX3_errandTold_82 : decode cX3_errandTold 82 = .ok (.getfield 83, 3) := dk_180 0 83 (dk_at dksX3_errandTold_3 11 rfl rfl)
theorem dX3_errandTold_85 : decode cX3_errandTold 85 = .ok (.getfield 174, 3) := dk_180 0 174 (dk_at dksX3_errandTold_3 14 rfl rfl)
theorem dX3_errandTold_88 : decode cX3_errandTold 88 = .ok (.iload_n 1, 1) := dk_27 (dk_at dksX3_errandTold_3 17 rfl rfl)
theorem dX3_errandTold_89 : decode cX3_errandTold 89 = .ok (.invokevirtual 205, 3) := dk_182 0 205 (dk_at dksX3_errandTold_3 18 rfl rfl)
theorem dX3_errandTold_92 : decode cX3_errandTold 92 = .ok (.checkcast 177, 3) := dk_192 0 177 (dk_at dksX3_errandTold_3 21 rfl rfl)
theorem dX3_errandTold_95 : decode cX3_errandTold 95 = .ok (.dup, 1) := dk_89 (dk_at dksX3_errandTold_4 0 rfl rfl)
theorem dX3_errandTold_96 : decode cX3_errandTold 96 = .ok (.getfield 215, 3) := dk_180 0 215 (dk_at dksX3_errandTold_4 1 rfl rfl)
theorem dX3_errandTold_99 : decode cX3_errandTold 99 = .ok (.iconst 1, 1) := dk_4 (dk_at dksX3_errandTold_4 4 rfl rfl)
theorem dX3_errandTold_100 : decode cX3_errandTold 100 = .ok (.iload_n 3, 1) := dk_29 (dk_at dksX3_errandTold_4 5 rfl rfl)
theorem dX3_errandTold_101 : decode cX3_errandTold 101 = .ok (.ishl, 1) := dk_120 (dk_at dksX3_errandTold_4 6 rfl rfl)
theorem dX3_errandTold_102 : decode cX3_errandTold 102 = .ok (.ior, 1) := dk_128 (dk_at dksX3_errandTold_4 7 rfl rfl)
theorem dX3_errandTold_103 : decode cX3_errandTold 103 = .ok (.putfield 215, 3) := dk_181 0 215 (dk_at dksX3_errandTold_4 8 rfl rfl)
theorem dX3_errandTold_106 : decode cX3_errandTold 106 = .ok (.aload_n 0, 1) := dk_42 (dk_at dksX3_errandTold_4 11 rfl rfl)
theorem dX3_errandTold_107 : decode cX3_errandTold 107 = .ok (.getfield 83, 3) := dk_180 0 83 (dk_at dksX3_errandTold_4 12 rfl rfl)
theorem dX3_errandTold_110 : decode cX3_errandTold 110 = .ok (.getfield 216, 3) := dk_180 0 216 (dk_at dksX3_errandTold_4 15 rfl rfl)
theorem dX3_errandTold_113 : decode cX3_errandTold 113 = .ok (.aload_n 0, 1) := dk_42 (dk_at dksX3_errandTold_4 18 rfl rfl)
theorem dX3_errandTold_114 : decode cX3_errandTold 114 = .ok (.getfield 83, 3) := dk_180 0 83 (dk_at dksX3_errandTold_4 19 rfl rfl)
theorem dX3_errandTold_117 : decode cX3_errandTold 117 = .ok (.getfield 212, 3) := dk_180 0 212 (dk_at dksX3_errandTold_5 0 rfl rfl)
theorem dX3_errandTold_120 : decode cX3_errandTold 120 = .ok (.iload_n 1, 1) := dk_27 (dk_at dksX3_errandTold_5 3 rfl rfl)
theorem dX3_errandTold_121 : decode cX3_errandTold 121 = .ok (.iastore, 1) := dk_79 (dk_at dksX3_errandTold_5 4 rfl rfl)
theorem dX3_errandTold_122 : decode cX3_errandTold 122 = .ok (.aload_n 0, 1) := dk_42 (dk_at dksX3_errandTold_5 5 rfl rfl)
theorem dX3_errandTold_123 : decode cX3_errandTold 123 = .ok (.getfield 83, 3) := dk_180 0 83 (dk_at dksX3_errandTold_5 6 rfl rfl)
theorem dX3_errandTold_126 : decode cX3_errandTold 126 = .ok (.getfield 220, 3) := dk_180 0 220 (dk_at dksX3_errandTold_5 9 rfl rfl)
theorem dX3_errandTold_129 : decode cX3_errandTold 129 = .ok (.aload_n 0, 1) := dk_42 (dk_at dksX3_errandTold_5 12 rfl rfl)
theorem dX3_errandTold_130 : decode cX3_errandTold 130 = .ok (.getfield 83, 3) := dk_180 0 83 (dk_at dksX3_errandTold_5 13 rfl rfl)
theorem dX3_errandTold_133 : decode cX3_errandTold 133 = .ok (.getfield 212, 3) := dk_180 0 212 (dk_at dksX3_errandTold_5 16 rfl rfl)
theorem dX3_errandTold_136 : decode cX3_errandTold 136 = .ok (.iload_n 3, 1) := dk_29 (dk_at dksX3_errandTold_5 19 rfl rfl)
theorem dX3_errandTold_137 : decode cX3_errandTold 137 = .ok (.iastore, 1) := dk_79 (dk_at dksX3_errandTold_5 20 rfl rfl)
theorem dX3_errandTold_138 : decode cX3_errandTold 138 = .ok (.aload_n 0, 1) := dk_42 (dk_at dksX3_errandTold_5 21 rfl rfl)
theorem dX3_errandTold_139 : decode cX3_errandTold 139 = .ok (.getfield 83, 3) := dk_180 0 83 (dk_at dksX3_errandTold_6 0 rfl rfl)
theorem dX3_errandTold_142 : decode cX3_errandTold 142 = .ok (.dup, 1) := dk_89 (dk_at dksX3_errandTold_6 3 rfl rfl)
theorem dX3_errandTold_143 : decode cX3_errandTold 143 = .ok (.getfield 212, 3) := dk_180 0 212 (dk_at dksX3_errandTold_6 4 rfl rfl)
theorem dX3_errandTold_146 : decode cX3_errandTold 146 = .ok (.iconst 1, 1) := dk_4 (dk_at dksX3_errandTold_6 7 rfl rfl)
theorem dX3_errandTold_147 : decode cX3_errandTold 147 = .ok (.iadd, 1) := dk_96 (dk_at dksX3_errandTold_6 8 rfl rfl)
theorem dX3_errandTold_148 : decode cX3_errandTold 148 = .ok (.putfield 212, 3) := dk_181 0 212 (dk_at dksX3_errandTold_6 9 rfl rfl)
theorem dX3_errandTold_151 : decode cX3_errandTold 151 = .ok (.return_, 1) := dk_177 (dk_at dksX3_errandTold_6 12 rfl rfl)
theorem q127 : (Jvm.Cond.initialized "DogsHour$Parser") ∈ lw_all := lw_g (lw_at lw_m1 7 rfl) rfl
theorem q278 : (Jvm.Cond.fieldLink "DogsHour$Parser" (44 : Nat) "DogsHour$Tokens" "sort" "[B") ∈ lw_all := lw_g (lw_at lw_m1 158 rfl) rfl
theorem q280 : (Jvm.Cond.fieldLink "DogsHour$Parser" (19 : Nat) "DogsHour$Tokens" "from" "[S") ∈ lw_all := lw_g (lw_at lw_m1 160 rfl) rfl
theorem q283 : (Jvm.Cond.fieldLink "DogsHour$Parser" (52 : Nat) "DogsHour$Tokens" "what" "[S") ∈ lw_all := lw_g (lw_at lw_m1 163 rfl) rfl
theorem q304 : (Jvm.Cond.instantiable "DogsHour$Parser" (7 : Nat)) ∈ lw_all := lw_g (lw_at lw_m1 184 rfl) rfl
theorem q306 : (Jvm.Cond.instanceMethod ({ cls := "DogsHour$Parser", name := "<init>", desc := "(LDogsHour$Tokens;LDogsHour$Fault;)V" } : Jvm.MethodName)) ∈ lw_all := lw_g (lw_at lw_m1 186 rfl) rfl
theorem q307 : (Jvm.Cond.code ({ cls := "DogsHour$Parser", name := "<init>", desc := "(LDogsHour$Tokens;LDogsHour$Fault;)V" } : Jvm.MethodName) prog_10_method_1_code (3 : Nat) (Option.none : Option Jvm.ClassFile.FieldType)) ∈ lw_all := lw_g (lw_at lw_m1 187 rfl) rfl
theorem q308 : (Jvm.Cond.methodLink "DogsHour$Parser" (3 : Nat) ({ cls := "java/lang/Object", name := "<init>", desc := "()V" } : Jvm.MethodName)) ∈ lw_all := lw_g (lw_at lw_m1 188 rfl) rfl
theorem q309 : (Jvm.Cond.fieldLink "DogsHour$Parser" (9 : Nat) "DogsHour$Parser" "t" "LDogsHour$Tokens;") ∈ lw_all := lw_g (lw_at lw_m1 189 rfl) rfl
theorem q310 : (Jvm.Cond.fieldLink "DogsHour$Parser" (15 : Nat) "DogsHour$Parser" "fault" "LDogsHour$Fault;") ∈ lw_all := lw_g (lw_at lw_m1 190 rfl) rfl
theorem q311 : (Jvm.Cond.fieldLink "DogsHour$Parser" (83 : Nat) "DogsHour$Parser" "text" "LDogsHour$Text;") ∈ lw_all := lw_g (lw_at lw_m1 191 rfl) rfl
theorem q312 : (Jvm.Cond.fieldLink "DogsHour$Parser" (31 : Nat) "DogsHour$Parser" "at" "I") ∈ lw_all := lw_g (lw_at lw_m1 192 rfl) rfl
theorem q313 : (Jvm.Cond.fieldLink "DogsHour$Parser" (99 : Nat) "DogsHour$Parser" "open" "I") ∈ lw_all := lw_g (lw_at lw_m1 193 rfl) rfl
theorem q314 : (Jvm.Cond.fieldLink "DogsHour$Parser" (38 : Nat) "DogsHour$Parser" "worst" "I") ∈ lw_all := lw_g (lw_at lw_m1 194 rfl) rfl
theorem q315 : (Jvm.Cond.fieldLink "DogsHour$Parser" (41 : Nat) "DogsHour$Parser" "worstToken" "I") ∈ lw_all := lw_g (lw_at lw_m1 195 rfl) rfl
theorem q316 : (Jvm.Cond.laysFinal "DogsHour$Parser" "DogsHour$Parser" "t" "LDogsHour$Tokens;") ∈ lw_all := lw_g (lw_at lw_m1 196 rfl) rfl
theorem q317 : (Jvm.Cond.soleField "DogsHour$Parser" "t") ∈ lw_all := lw_g (lw_at lw_m1 197 rfl) rfl
theorem q318 : (Jvm.Cond.laysFinal "DogsHour$Parser" "DogsHour$Parser" "fault" "LDogsHour$Fault;") ∈ lw_all := lw_g (lw_at lw_m1 198 rfl) rfl
theorem q319 : (Jvm.Cond.soleField "DogsHour$Parser" "fault") ∈ lw_all := lw_g (lw_at lw_m1 199 rfl) rfl
theorem q320 : (Jvm.Cond.lays "DogsHour$Parser" "DogsHour$Parser" "text" "LDogsHour$Text;") ∈ lw_all := lw_g (lw_at lw_m1 200 rfl) rfl
theorem q321 : (Jvm.Cond.soleField "DogsHour$Parser" "text") ∈ lw_all := lw_g (lw_at lw_m1 201 rfl) rfl
theorem q322 : (Jvm.Cond.lays "DogsHour$Parser" "DogsHour$Parser" "at" "I") ∈ lw_all := lw_g (lw_at lw_m1 202 rfl) rfl
theorem q323 : (Jvm.Cond.soleField "DogsHour$Parser" "at") ∈ lw_all := lw_g (lw_at lw_m1 203 rfl) rfl
theorem q324 : (Jvm.Cond.lays "DogsHour$Parser" "DogsHour$Parser" "open" "I") ∈ lw_all := lw_g (lw_at lw_m1 204 rfl) rfl
theorem q325 : (Jvm.Cond.soleField "DogsHour$Parser" "open") ∈ lw_all := lw_g (lw_at lw_m1 205 rfl) rfl
theorem q326 : (Jvm.Cond.lays "DogsHour$Parser" "DogsHour$Parser" "worst" "I") ∈ lw_all := lw_g (lw_at lw_m1 206 rfl) rfl
theorem q327 : (Jvm.Cond.soleField "DogsHour$Parser" "worst") ∈ lw_all := lw_g (lw_at lw_m1 207 rfl) rfl
theorem q328 : (Jvm.Cond.lays "DogsHour$Parser" "DogsHour$Parser" "worstToken" "I") ∈ lw_all := lw_g (lw_at lw_m1 208 rfl) rfl
theorem q329 : (Jvm.Cond.soleField "DogsHour$Parser" "worstToken") ∈ lw_all := lw_g (lw_at lw_m1 209 rfl) rfl
theorem q330 : (Jvm.Cond.superclass "DogsHour$Parser" "java/lang/Object") ∈ lw_all := lw_g (lw_at lw_m1 210 rfl) rfl
theorem q369 : (Jvm.Cond.fieldLink "DogsHour$Parser" (120 : Nat) "DogsHour$Text" "spots" "Ljava/util/ArrayList;") ∈ lw_all := lw_g (lw_at lw_m2 9 rfl) rfl
theorem q374 : (Jvm.Cond.fieldLink "DogsHour$Parser" (156 : Nat) "DogsHour$Text" "dogs" "Ljava/util/ArrayList;") ∈ lw_all := lw_g (lw_at lw_m2 14 rfl) rfl
theorem q378 : (Jvm.Cond.fieldLink "DogsHour$Parser" (174 : Nat) "DogsHour$Text" "people" "Ljava/util/ArrayList;") ∈ lw_all := lw_g (lw_at lw_m2 18 rfl) rfl
theorem q382 : (Jvm.Cond.fieldLink "DogsHour$Parser" (216 : Nat) "DogsHour$Text" "errandOf" "[I") ∈ lw_all := lw_g (lw_at lw_m2 22 rfl) rfl
theorem q386 : (Jvm.Cond.fieldLink "DogsHour$Parser" (220 : Nat) "DogsHour$Text" "errandAt" "[I") ∈ lw_all := lw_g (lw_at lw_m2 26 rfl) rfl
theorem q389 : (Jvm.Cond.fieldLink "DogsHour$Parser" (112 : Nat) "DogsHour$Text" "laws" "[LDogsHour$Law;") ∈ lw_all := lw_g (lw_at lw_m2 29 rfl) rfl
theorem q393 : (Jvm.Cond.fieldLink "DogsHour$Parser" (145 : Nat) "DogsHour$Text" "paths" "I") ∈ lw_all := lw_g (lw_at lw_m2 33 rfl) rfl
theorem q397 : (Jvm.Cond.fieldLink "DogsHour$Parser" (212 : Nat) "DogsHour$Text" "errands" "I") ∈ lw_all := lw_g (lw_at lw_m2 37 rfl) rfl
theorem q399 : (Jvm.Cond.fieldLink "DogsHour$Parser" (189 : Nat) "DogsHour$Text" "from" "I") ∈ lw_all := lw_g (lw_at lw_m2 39 rfl) rfl
theorem q402 : (Jvm.Cond.fieldLink "DogsHour$Parser" (196 : Nat) "DogsHour$Text" "till" "I") ∈ lw_all := lw_g (lw_at lw_m2 42 rfl) rfl
theorem q405 : (Jvm.Cond.fieldLink "DogsHour$Parser" (199 : Nat) "DogsHour$Text" "begins" "I") ∈ lw_all := lw_g (lw_at lw_m2 45 rfl) rfl
theorem q628 : (Jvm.Cond.instanceMethod ({ cls := "DogsHour$Parser", name := "read", desc := "()LDogsHour$Text;" } : Jvm.MethodName)) ∈ lw_all := lw_g (lw_at lw_m3 28 rfl) rfl
theorem q629 : (Jvm.Cond.selects "DogsHour$Parser" ({ cls := "DogsHour$Parser", name := "read", desc := "()LDogsHour$Text;" } : Jvm.MethodName) ({ cls := "DogsHour$Parser", name := "read", desc := "()LDogsHour$Text;" } : Jvm.MethodName)) ∈ lw_all := lw_g (lw_at lw_m3 29 rfl) rfl
theorem q630 : (Jvm.Cond.code ({ cls := "DogsHour$Parser", name := "read", desc := "()LDogsHour$Text;" } : Jvm.MethodName) prog_10_method_16_code (1 : Nat) (Option.some (Jvm.ClassFile.FieldType.object "DogsHour$Text"))) ∈ lw_all := lw_g (lw_at lw_m3 30 rfl) rfl
theorem q631 : (Jvm.Cond.methodLink "DogsHour$Parser" (95 : Nat) ({ cls := "DogsHour$Tokens", name := "read", desc := "()V" } : Jvm.MethodName)) ∈ lw_all := lw_g (lw_at lw_m3 31 rfl) rfl
theorem q705 : (Jvm.Cond.classLink "DogsHour$Parser" (87 : Nat) "DogsHour$Text") ∈ lw_all := lw_g (lw_at lw_m3 105 rfl) rfl
theorem q706 : (Jvm.Cond.methodLinkNest "DogsHour$Parser" (98 : Nat) ({ cls := "DogsHour$Text", name := "<init>", desc := "()V" } : Jvm.MethodName) "DogsHour") ∈ lw_tbl := lw_at lw_m3 106 rfl
theorem q707 : (Jvm.Cond.methodLink "DogsHour$Parser" (65 : Nat) ({ cls := "DogsHour$Parser", name := "sort", desc := "()I" } : Jvm.MethodName)) ∈ lw_all := lw_g (lw_at lw_m3 107 rfl) rfl
theorem q708 : (Jvm.Cond.privateMethod ({ cls := "DogsHour$Parser", name := "sort", desc := "()I" } : Jvm.MethodName)) ∈ lw_tbl := lw_at lw_m3 108 rfl
theorem q709 : (Jvm.Cond.instanceMethod ({ cls := "DogsHour$Parser", name := "sort", desc := "()I" } : Jvm.MethodName)) ∈ lw_all := lw_g (lw_at lw_m3 109 rfl) rfl
theorem q710 : (Jvm.Cond.code ({ cls := "DogsHour$Parser", name := "sort", desc := "()I" } : Jvm.MethodName) prog_10_method_5_code (1 : Nat) (Option.some Jvm.ClassFile.FieldType.int)) ∈ lw_all := lw_g (lw_at lw_m3 110 rfl) rfl
theorem q711 : (Jvm.Cond.methodLink "DogsHour$Parser" (48 : Nat) ({ cls := "DogsHour$Parser", name := "wrong", desc := "(I)LDogsHour$Fault;" } : Jvm.MethodName)) ∈ lw_all := lw_g (lw_at lw_m3 111 rfl) rfl
theorem q712 : (Jvm.Cond.privateMethod ({ cls := "DogsHour$Parser", name := "wrong", desc := "(I)LDogsHour$Fault;" } : Jvm.MethodName)) ∈ lw_tbl := lw_at lw_m3 112 rfl
theorem q713 : (Jvm.Cond.instanceMethod ({ cls := "DogsHour$Parser", name := "wrong", desc := "(I)LDogsHour$Fault;" } : Jvm.MethodName)) ∈ lw_all := lw_g (lw_at lw_m3 113 rfl) rfl
theorem q714 : (Jvm.Cond.code ({ cls := "DogsHour$Parser", name := "wrong", desc := "(I)LDogsHour$Fault;" } : Jvm.MethodName) prog_10_method_3_code (2 : Nat) (Option.some (Jvm.ClassFile.FieldType.object "DogsHour$Fault"))) ∈ lw_all := lw_g (lw_at lw_m3 114 rfl) rfl
theorem q715 : (Jvm.Cond.methodLink "DogsHour$Parser" (35 : Nat) ({ cls := "DogsHour$Parser", name := "wrongAt", desc := "(II)LDogsHour$Fault;" } : Jvm.MethodName)) ∈ lw_all := lw_g (lw_at lw_m3 115 rfl) rfl
theorem q716 : (Jvm.Cond.privateMethod ({ cls := "DogsHour$Parser", name := "wrongAt", desc := "(II)LDogsHour$Fault;" } : Jvm.MethodName)) ∈ lw_tbl := lw_at lw_m3 116 rfl
theorem q717 : (Jvm.Cond.instanceMethod ({ cls := "DogsHour$Parser", name := "wrongAt", desc := "(II)LDogsHour$Fault;" } : Jvm.MethodName)) ∈ lw_all := lw_g (lw_at lw_m3 117 rfl) rfl
theorem q718 : (Jvm.Cond.code ({ cls := "DogsHour$Parser", name := "wrongAt", desc := "(II)LDogsHour$Fault;" } : Jvm.MethodName) prog_10_method_2_code (3 : Nat) (Option.some (Jvm.ClassFile.FieldType.object "DogsHour$Fault"))) ∈ lw_all := lw_g (lw_at lw_m3 118 rfl) rfl
theorem q719 : (Jvm.Cond.methodLink "DogsHour$Parser" (25 : Nat) ({ cls := "DogsHour$Fault", name := "of", desc := "(II)LDogsHour$Fault;" } : Jvm.MethodName)) ∈ lw_all := lw_g (lw_at lw_m3 119 rfl) rfl
theorem q723 : (Jvm.Cond.methodLink "DogsHour$Parser" (102 : Nat) ({ cls := "DogsHour$Parser", name := "told", desc := "()V" } : Jvm.MethodName)) ∈ lw_all := lw_g (lw_at lw_m3 123 rfl) rfl
theorem q724 : (Jvm.Cond.privateMethod ({ cls := "DogsHour$Parser", name := "told", desc := "()V" } : Jvm.MethodName)) ∈ lw_tbl := lw_at lw_m3 124 rfl
theorem q725 : (Jvm.Cond.instanceMethod ({ cls := "DogsHour$Parser", name := "told", desc := "()V" } : Jvm.MethodName)) ∈ lw_all := lw_g (lw_at lw_m3 125 rfl) rfl
theorem q726 : (Jvm.Cond.code ({ cls := "DogsHour$Parser", name := "told", desc := "()V" } : Jvm.MethodName) prog_10_method_17_code (5 : Nat) (Option.none : Option Jvm.ClassFile.FieldType)) ∈ lw_all := lw_g (lw_at lw_m3 126 rfl) rfl
theorem q727 : (Jvm.Cond.methodLink "DogsHour$Parser" (59 : Nat) ({ cls := "DogsHour$Parser", name := "pass", desc := "()V" } : Jvm.MethodName)) ∈ lw_all := lw_g (lw_at lw_m3 127 rfl) rfl
theorem q728 : (Jvm.Cond.privateMethod ({ cls := "DogsHour$Parser", name := "pass", desc := "()V" } : Jvm.MethodName)) ∈ lw_tbl := lw_at lw_m3 128 rfl
theorem q729 : (Jvm.Cond.instanceMethod ({ cls := "DogsHour$Parser", name := "pass", desc := "()V" } : Jvm.MethodName)) ∈ lw_all := lw_g (lw_at lw_m3 129 rfl) rfl
theorem q730 : (Jvm.Cond.code ({ cls := "DogsHour$Parser", name := "pass", desc := "()V" } : Jvm.MethodName) prog_10_method_6_code (1 : Nat) (Option.none : Option Jvm.ClassFile.FieldType)) ∈ lw_all := lw_g (lw_at lw_m3 130 rfl) rfl
theorem q731 : (Jvm.Cond.methodLink "DogsHour$Parser" (116 : Nat) ({ cls := "DogsHour$Parser", name := "law", desc := "()LDogsHour$Law;" } : Jvm.MethodName)) ∈ lw_all := lw_g (lw_at lw_m3 131 rfl) rfl
theorem q732 : (Jvm.Cond.privateMethod ({ cls := "DogsHour$Parser", name := "law", desc := "()LDogsHour$Law;" } : Jvm.MethodName)) ∈ lw_tbl := lw_at lw_m3 132 rfl
theorem q733 : (Jvm.Cond.instanceMethod ({ cls := "DogsHour$Parser", name := "law", desc := "()LDogsHour$Law;" } : Jvm.MethodName)) ∈ lw_all := lw_g (lw_at lw_m3 133 rfl) rfl
theorem q734 : (Jvm.Cond.code ({ cls := "DogsHour$Parser", name := "law", desc := "()LDogsHour$Law;" } : Jvm.MethodName) prog_10_method_20_code (2 : Nat) (Option.some (Jvm.ClassFile.FieldType.object "DogsHour$Law"))) ∈ lw_all := lw_g (lw_at lw_m3 134 rfl) rfl
theorem q735 : (Jvm.Cond.classLink "DogsHour$Parser" (223 : Nat) "DogsHour$Law") ∈ lw_all := lw_g (lw_at lw_m3 135 rfl) rfl
theorem q737 : (Jvm.Cond.methodLinkNest "DogsHour$Parser" (225 : Nat) ({ cls := "DogsHour$Law", name := "<init>", desc := "()V" } : Jvm.MethodName) "DogsHour") ∈ lw_tbl := lw_at lw_m3 137 rfl
theorem q744 : (Jvm.Cond.fieldLink "DogsHour$Parser" (229 : Nat) "DogsHour$Law" "less" "[LDogsHour$Sum;") ∈ lw_all := lw_g (lw_at lw_m3 144 rfl) rfl
theorem q746 : (Jvm.Cond.fieldLink "DogsHour$Parser" (237 : Nat) "DogsHour$Law" "than" "[LDogsHour$Sum;") ∈ lw_all := lw_g (lw_at lw_m3 146 rfl) rfl
theorem q748 : (Jvm.Cond.fieldLink "DogsHour$Parser" (243 : Nat) "DogsHour$Law" "then" "[LDogsHour$Sum;") ∈ lw_all := lw_g (lw_at lw_m3 148 rfl) rfl
theorem q750 : (Jvm.Cond.fieldLink "DogsHour$Parser" (226 : Nat) "DogsHour$Law" "ifs" "I") ∈ lw_all := lw_g (lw_at lw_m3 150 rfl) rfl
theorem q760 : (Jvm.Cond.methodLink "DogsHour$Parser" (105 : Nat) ({ cls := "DogsHour$Parser", name := "sign", desc := "(I)V" } : Jvm.MethodName)) ∈ lw_all := lw_g (lw_at lw_m3 160 rfl) rfl
theorem q761 : (Jvm.Cond.privateMethod ({ cls := "DogsHour$Parser", name := "sign", desc := "(I)V" } : Jvm.MethodName)) ∈ lw_tbl := lw_at lw_m3 161 rfl
theorem q762 : (Jvm.Cond.instanceMethod ({ cls := "DogsHour$Parser", name := "sign", desc := "(I)V" } : Jvm.MethodName)) ∈ lw_all := lw_g (lw_at lw_m3 162 rfl) rfl
theorem q763 : (Jvm.Cond.code ({ cls := "DogsHour$Parser", name := "sign", desc := "(I)V" } : Jvm.MethodName) prog_10_method_9_code (2 : Nat) (Option.none : Option Jvm.ClassFile.FieldType)) ∈ lw_all := lw_g (lw_at lw_m3 163 rfl) rfl
theorem q764 : (Jvm.Cond.methodLink "DogsHour$Parser" (55 : Nat) ({ cls := "DogsHour$Parser", name := "isSign", desc := "(I)Z" } : Jvm.MethodName)) ∈ lw_all := lw_g (lw_at lw_m3 164 rfl) rfl
theorem q765 : (Jvm.Cond.privateMethod ({ cls := "DogsHour$Parser", name := "isSign", desc := "(I)Z" } : Jvm.MethodName)) ∈ lw_tbl := lw_at lw_m3 165 rfl
theorem q766 : (Jvm.Cond.instanceMethod ({ cls := "DogsHour$Parser", name := "isSign", desc := "(I)Z" } : Jvm.MethodName)) ∈ lw_all := lw_g (lw_at lw_m3 166 rfl) rfl
theorem q767 : (Jvm.Cond.code ({ cls := "DogsHour$Parser", name := "isSign", desc := "(I)Z" } : Jvm.MethodName) prog_10_method_7_code (2 : Nat) (Option.some Jvm.ClassFile.FieldType.boolean)) ∈ lw_all := lw_g (lw_at lw_m3 167 rfl) rfl
theorem q768 : (Jvm.Cond.methodLink "DogsHour$Parser" (62 : Nat) ({ cls := "DogsHour$Parser", name := "isWord", desc := "(I)Z" } : Jvm.MethodName)) ∈ lw_all := lw_g (lw_at lw_m3 168 rfl) rfl
theorem q769 : (Jvm.Cond.privateMethod ({ cls := "DogsHour$Parser", name := "isWord", desc := "(I)Z" } : Jvm.MethodName)) ∈ lw_tbl := lw_at lw_m3 169 rfl
theorem q770 : (Jvm.Cond.instanceMethod ({ cls := "DogsHour$Parser", name := "isWord", desc := "(I)Z" } : Jvm.MethodName)) ∈ lw_all := lw_g (lw_at lw_m3 170 rfl) rfl
theorem q771 : (Jvm.Cond.code ({ cls := "DogsHour$Parser", name := "isWord", desc := "(I)Z" } : Jvm.MethodName) prog_10_method_8_code (2 : Nat) (Option.some Jvm.ClassFile.FieldType.boolean)) ∈ lw_all := lw_g (lw_at lw_m3 171 rfl) rfl
theorem q772 : (Jvm.Cond.methodLink "DogsHour$Parser" (129 : Nat) ({ cls := "DogsHour$Parser", name := "begins", desc := "(II)V" } : Jvm.MethodName)) ∈ lw_all := lw_g (lw_at lw_m3 172 rfl) rfl
theorem q773 : (Jvm.Cond.privateMethod ({ cls := "DogsHour$Parser", name := "begins", desc := "(II)V" } : Jvm.MethodName)) ∈ lw_tbl := lw_at lw_m3 173 rfl
theorem q774 : (Jvm.Cond.instanceMethod ({ cls := "DogsHour$Parser", name := "begins", desc := "(II)V" } : Jvm.MethodName)) ∈ lw_all := lw_g (lw_at lw_m3 174 rfl) rfl
theorem q775 : (Jvm.Cond.code ({ cls := "DogsHour$Parser", name := "begins", desc := "(II)V" } : Jvm.MethodName) prog_10_method_15_code (3 : Nat) (Option.none : Option Jvm.ClassFile.FieldType)) ∈ lw_all := lw_g (lw_at lw_m3 175 rfl) rfl
theorem q776 : (Jvm.Cond.methodLink "DogsHour$Parser" (233 : Nat) ({ cls := "DogsHour$Parser", name := "sum", desc := "()LDogsHour$Sum;" } : Jvm.MethodName)) ∈ lw_all := lw_g (lw_at lw_m3 176 rfl) rfl
theorem q777 : (Jvm.Cond.privateMethod ({ cls := "DogsHour$Parser", name := "sum", desc := "()LDogsHour$Sum;" } : Jvm.MethodName)) ∈ lw_tbl := lw_at lw_m3 177 rfl
theorem q778 : (Jvm.Cond.instanceMethod ({ cls := "DogsHour$Parser", name := "sum", desc := "()LDogsHour$Sum;" } : Jvm.MethodName)) ∈ lw_all := lw_g (lw_at lw_m3 178 rfl) rfl
theorem q779 : (Jvm.Cond.code ({ cls := "DogsHour$Parser", name := "sum", desc := "()LDogsHour$Sum;" } : Jvm.MethodName) prog_10_method_21_code (3 : Nat) (Option.some (Jvm.ClassFile.FieldType.object "DogsHour$Sum"))) ∈ lw_all := lw_g (lw_at lw_m3 179 rfl) rfl
theorem q780 : (Jvm.Cond.methodLink "DogsHour$Parser" (246 : Nat) ({ cls := "DogsHour$Parser", name := "part", desc := "()LDogsHour$Sum;" } : Jvm.MethodName)) ∈ lw_all := lw_g (lw_at lw_m3 180 rfl) rfl
theorem q781 : (Jvm.Cond.privateMethod ({ cls := "DogsHour$Parser", name := "part", desc := "()LDogsHour$Sum;" } : Jvm.MethodName)) ∈ lw_tbl := lw_at lw_m3 181 rfl
theorem q782 : (Jvm.Cond.instanceMethod ({ cls := "DogsHour$Parser", name := "part", desc := "()LDogsHour$Sum;" } : Jvm.MethodName)) ∈ lw_all := lw_g (lw_at lw_m3 182 rfl) rfl
theorem q783 : (Jvm.Cond.code ({ cls := "DogsHour$Parser", name := "part", desc := "()LDogsHour$Sum;" } : Jvm.MethodName) prog_10_method_22_code (3 : Nat) (Option.some (Jvm.ClassFile.FieldType.object "DogsHour$Sum"))) ∈ lw_all := lw_g (lw_at lw_m3 183 rfl) rfl
theorem q784 : (Jvm.Cond.methodLink "DogsHour$Parser" (254 : Nat) ({ cls := "DogsHour$Parser", name := "unit", desc := "()LDogsHour$Sum;" } : Jvm.MethodName)) ∈ lw_all := lw_g (lw_at lw_m3 184 rfl) rfl
theorem q785 : (Jvm.Cond.privateMethod ({ cls := "DogsHour$Parser", name := "unit", desc := "()LDogsHour$Sum;" } : Jvm.MethodName)) ∈ lw_tbl := lw_at lw_m3 185 rfl
theorem q786 : (Jvm.Cond.instanceMethod ({ cls := "DogsHour$Parser", name := "unit", desc := "()LDogsHour$Sum;" } : Jvm.MethodName)) ∈ lw_all := lw_g (lw_at lw_m3 186 rfl) rfl
theorem q787 : (Jvm.Cond.code ({ cls := "DogsHour$Parser", name := "unit", desc := "()LDogsHour$Sum;" } : Jvm.MethodName) prog_10_method_23_code (2 : Nat) (Option.some (Jvm.ClassFile.FieldType.object "DogsHour$Sum"))) ∈ lw_all := lw_g (lw_at lw_m3 187 rfl) rfl
theorem q788 : (Jvm.Cond.classLink "DogsHour$Parser" (257 : Nat) "DogsHour$Number") ∈ lw_all := lw_g (lw_at lw_m3 188 rfl) rfl
theorem q790 : (Jvm.Cond.methodLink "DogsHour$Parser" (72 : Nat) ({ cls := "DogsHour$Tokens", name := "number", desc := "(I)I" } : Jvm.MethodName)) ∈ lw_all := lw_g (lw_at lw_m3 190 rfl) rfl
theorem q794 : (Jvm.Cond.methodLink "DogsHour$Parser" (259 : Nat) ({ cls := "DogsHour$Number", name := "<init>", desc := "(I)V" } : Jvm.MethodName)) ∈ lw_all := lw_g (lw_at lw_m3 194 rfl) rfl
theorem q805 : (Jvm.Cond.classLink "DogsHour$Parser" (261 : Nat) "DogsHour$Var") ∈ lw_all := lw_g (lw_at lw_m3 205 rfl) rfl
theorem q807 : (Jvm.Cond.methodLink "DogsHour$Parser" (263 : Nat) ({ cls := "DogsHour$Var", name := "<init>", desc := "(I)V" } : Jvm.MethodName)) ∈ lw_all := lw_g (lw_at lw_m3 207 rfl) rfl
theorem q815 : (Jvm.Cond.classLink "DogsHour$Parser" (249 : Nat) "DogsHour$Joined") ∈ lw_all := lw_g (lw_at lw_m3 215 rfl) rfl
theorem q817 : (Jvm.Cond.methodLink "DogsHour$Parser" (251 : Nat) ({ cls := "DogsHour$Joined", name := "<init>", desc := "(ILDogsHour$Sum;LDogsHour$Sum;)V" } : Jvm.MethodName)) ∈ lw_all := lw_g (lw_at lw_m3 217 rfl) rfl
theorem q831 : (Jvm.Cond.methodLink "DogsHour$Parser" (240 : Nat) ({ cls := "DogsHour$Parser", name := "word", desc := "(I)V" } : Jvm.MethodName)) ∈ lw_all := lw_g (lw_at lw_m3 231 rfl) rfl
theorem q832 : (Jvm.Cond.privateMethod ({ cls := "DogsHour$Parser", name := "word", desc := "(I)V" } : Jvm.MethodName)) ∈ lw_tbl := lw_at lw_m3 232 rfl
theorem q833 : (Jvm.Cond.instanceMethod ({ cls := "DogsHour$Parser", name := "word", desc := "(I)V" } : Jvm.MethodName)) ∈ lw_all := lw_g (lw_at lw_m3 233 rfl) rfl
theorem q834 : (Jvm.Cond.code ({ cls := "DogsHour$Parser", name := "word", desc := "(I)V" } : Jvm.MethodName) prog_10_method_10_code (2 : Nat) (Option.none : Option Jvm.ClassFile.FieldType)) ∈ lw_all := lw_g (lw_at lw_m3 234 rfl) rfl
theorem q835 : (Jvm.Cond.methodLink "DogsHour$Parser" (124 : Nat) ({ cls := "java/util/ArrayList", name := "size", desc := "()I" } : Jvm.MethodName)) ∈ lw_all := lw_g (lw_at lw_m3 235 rfl) rfl
theorem q836 : (Jvm.Cond.classLink "DogsHour$Parser" (132 : Nat) "DogsHour$Spot") ∈ lw_all := lw_g (lw_at lw_m3 236 rfl) rfl
theorem q838 : (Jvm.Cond.methodLink "DogsHour$Parser" (134 : Nat) ({ cls := "DogsHour$Parser", name := "name", desc := "()Ljava/lang/String;" } : Jvm.MethodName)) ∈ lw_all := lw_g (lw_at lw_m3 238 rfl) rfl
theorem q839 : (Jvm.Cond.privateMethod ({ cls := "DogsHour$Parser", name := "name", desc := "()Ljava/lang/String;" } : Jvm.MethodName)) ∈ lw_tbl := lw_at lw_m3 239 rfl
theorem q840 : (Jvm.Cond.instanceMethod ({ cls := "DogsHour$Parser", name := "name", desc := "()Ljava/lang/String;" } : Jvm.MethodName)) ∈ lw_all := lw_g (lw_at lw_m4 0 rfl) rfl
theorem q841 : (Jvm.Cond.code ({ cls := "DogsHour$Parser", name := "name", desc := "()Ljava/lang/String;" } : Jvm.MethodName) prog_10_method_13_code (3 : Nat) (Option.some (Jvm.ClassFile.FieldType.object "java/lang/String"))) ∈ lw_all := lw_g (lw_at lw_m4 1 rfl) rfl
theorem q842 : (Jvm.Cond.methodLink "DogsHour$Parser" (68 : Nat) ({ cls := "DogsHour$Parser", name := "take", desc := "(I)I" } : Jvm.MethodName)) ∈ lw_all := lw_g (lw_at lw_m4 2 rfl) rfl
theorem q843 : (Jvm.Cond.privateMethod ({ cls := "DogsHour$Parser", name := "take", desc := "(I)I" } : Jvm.MethodName)) ∈ lw_tbl := lw_at lw_m4 3 rfl
theorem q844 : (Jvm.Cond.instanceMethod ({ cls := "DogsHour$Parser", name := "take", desc := "(I)I" } : Jvm.MethodName)) ∈ lw_all := lw_g (lw_at lw_m4 4 rfl) rfl
theorem q845 : (Jvm.Cond.code ({ cls := "DogsHour$Parser", name := "take", desc := "(I)I" } : Jvm.MethodName) prog_10_method_11_code (2 : Nat) (Option.some Jvm.ClassFile.FieldType.int)) ∈ lw_all := lw_g (lw_at lw_m4 5 rfl) rfl
theorem q846 : (Jvm.Cond.methodLink "DogsHour$Parser" (79 : Nat) ({ cls := "DogsHour$Tokens", name := "text", desc := "(I)Ljava/lang/String;" } : Jvm.MethodName)) ∈ lw_all := lw_g (lw_at lw_m4 6 rfl) rfl
theorem q1012 : (Jvm.Cond.methodLink "DogsHour$Parser" (86 : Nat) ({ cls := "DogsHour$Text", name := "has", desc := "(Ljava/lang/String;)Z" } : Jvm.MethodName)) ∈ lw_all := lw_g (lw_at lw_m4 172 rfl) rfl
theorem q1030 : (Jvm.Cond.methodLink "DogsHour$Parser" (75 : Nat) ({ cls := "DogsHour$Parser", name := "tell", desc := "(II)V" } : Jvm.MethodName)) ∈ lw_all := lw_g (lw_at lw_m4 190 rfl) rfl
theorem q1031 : (Jvm.Cond.privateMethod ({ cls := "DogsHour$Parser", name := "tell", desc := "(II)V" } : Jvm.MethodName)) ∈ lw_tbl := lw_at lw_m4 191 rfl
theorem q1032 : (Jvm.Cond.instanceMethod ({ cls := "DogsHour$Parser", name := "tell", desc := "(II)V" } : Jvm.MethodName)) ∈ lw_all := lw_g (lw_at lw_m4 192 rfl) rfl
theorem q1033 : (Jvm.Cond.code ({ cls := "DogsHour$Parser", name := "tell", desc := "(II)V" } : Jvm.MethodName) prog_10_method_4_code (3 : Nat) (Option.none : Option Jvm.ClassFile.FieldType)) ∈ lw_all := lw_g (lw_at lw_m4 193 rfl) rfl
theorem q1034 : (Jvm.Cond.methodLink "DogsHour$Parser" (138 : Nat) ({ cls := "DogsHour$Spot", name := "<init>", desc := "(Ljava/lang/String;)V" } : Jvm.MethodName)) ∈ lw_all := lw_g (lw_at lw_m4 194 rfl) rfl
theorem q1043 : (Jvm.Cond.fieldLink "DogsHour$Parser" (209 : Nat) "DogsHour$Spot" "next" "I") ∈ lw_all := lw_g (lw_at lw_m4 203 rfl) rfl
theorem q1051 : (Jvm.Cond.methodLink "DogsHour$Parser" (141 : Nat) ({ cls := "java/util/ArrayList", name := "add", desc := "(Ljava/lang/Object;)Z" } : Jvm.MethodName)) ∈ lw_all := lw_g (lw_at lw_m4 211 rfl) rfl
theorem q1082 : (Jvm.Cond.selects "DogsHour$Parser" ({ cls := "java/lang/Object", name := "getClass", desc := "()Ljava/lang/Class;" } : Jvm.MethodName) ({ cls := "java/lang/Object", name := "getClass", desc := "()Ljava/lang/Class;" } : Jvm.MethodName)) ∈ lw_all := lw_g (lw_at lw_m5 2 rfl) rfl
theorem q1103 : (Jvm.Cond.methodLink "DogsHour$Parser" (148 : Nat) ({ cls := "DogsHour$Parser", name := "known", desc := "(Ljava/util/ArrayList;)I" } : Jvm.MethodName)) ∈ lw_all := lw_g (lw_at lw_m5 23 rfl) rfl
theorem q1104 : (Jvm.Cond.privateMethod ({ cls := "DogsHour$Parser", name := "known", desc := "(Ljava/util/ArrayList;)I" } : Jvm.MethodName)) ∈ lw_tbl := lw_at lw_m5 24 rfl
theorem q1105 : (Jvm.Cond.instanceMethod ({ cls := "DogsHour$Parser", name := "known", desc := "(Ljava/util/ArrayList;)I" } : Jvm.MethodName)) ∈ lw_all := lw_g (lw_at lw_m5 25 rfl) rfl
theorem q1106 : (Jvm.Cond.code ({ cls := "DogsHour$Parser", name := "known", desc := "(Ljava/util/ArrayList;)I" } : Jvm.MethodName) prog_10_method_14_code (4 : Nat) (Option.some Jvm.ClassFile.FieldType.int)) ∈ lw_all := lw_g (lw_at lw_m5 26 rfl) rfl
theorem q1107 : (Jvm.Cond.methodLink "DogsHour$Parser" (92 : Nat) ({ cls := "DogsHour$Text", name := "at", desc := "(Ljava/util/ArrayList;Ljava/lang/String;)I" } : Jvm.MethodName)) ∈ lw_all := lw_g (lw_at lw_m5 27 rfl) rfl
theorem q1108 : (Jvm.Cond.methodLink "DogsHour$Parser" (152 : Nat) ({ cls := "DogsHour$Parser", name := "joins", desc := "(III)V" } : Jvm.MethodName)) ∈ lw_all := lw_g (lw_at lw_m5 28 rfl) rfl
theorem q1109 : (Jvm.Cond.privateMethod ({ cls := "DogsHour$Parser", name := "joins", desc := "(III)V" } : Jvm.MethodName)) ∈ lw_tbl := lw_at lw_m5 29 rfl
theorem q1110 : (Jvm.Cond.instanceMethod ({ cls := "DogsHour$Parser", name := "joins", desc := "(III)V" } : Jvm.MethodName)) ∈ lw_all := lw_g (lw_at lw_m5 30 rfl) rfl
theorem q1111 : (Jvm.Cond.code ({ cls := "DogsHour$Parser", name := "joins", desc := "(III)V" } : Jvm.MethodName) prog_10_method_18_code (4 : Nat) (Option.none : Option Jvm.ClassFile.FieldType)) ∈ lw_all := lw_g (lw_at lw_m5 31 rfl) rfl
theorem q1112 : (Jvm.Cond.methodLink "DogsHour$Parser" (201 : Nat) ({ cls := "DogsHour$Text", name := "areNext", desc := "(II)Z" } : Jvm.MethodName)) ∈ lw_all := lw_g (lw_at lw_m5 32 rfl) rfl
theorem q1117 : (Jvm.Cond.methodLink "DogsHour$Parser" (205 : Nat) ({ cls := "java/util/ArrayList", name := "get", desc := "(I)Ljava/lang/Object;" } : Jvm.MethodName)) ∈ lw_all := lw_g (lw_at lw_m5 37 rfl) rfl
theorem q1118 : (Jvm.Cond.classLink "DogsHour$Parser" (159 : Nat) "DogsHour$Dog") ∈ lw_all := lw_g (lw_at lw_m5 38 rfl) rfl
theorem q1120 : (Jvm.Cond.methodLink "DogsHour$Parser" (161 : Nat) ({ cls := "DogsHour$Dog", name := "<init>", desc := "(Ljava/lang/String;)V" } : Jvm.MethodName)) ∈ lw_all := lw_g (lw_at lw_m5 40 rfl) rfl
theorem q1125 : (Jvm.Cond.fieldLink "DogsHour$Parser" (162 : Nat) "DogsHour$Dog" "kennel" "I") ∈ lw_all := lw_g (lw_at lw_m5 45 rfl) rfl
theorem q1128 : (Jvm.Cond.fieldLink "DogsHour$Parser" (168 : Nat) "DogsHour$Dog" "bite" "I") ∈ lw_all := lw_g (lw_at lw_m5 48 rfl) rfl
theorem q1131 : (Jvm.Cond.fieldLink "DogsHour$Parser" (171 : Nat) "DogsHour$Dog" "hunger" "I") ∈ lw_all := lw_g (lw_at lw_m5 51 rfl) rfl
theorem q1141 : (Jvm.Cond.methodLink "DogsHour$Parser" (165 : Nat) ({ cls := "DogsHour$Parser", name := "number", desc := "(II)I" } : Jvm.MethodName)) ∈ lw_all := lw_g (lw_at lw_m5 61 rfl) rfl
theorem q1142 : (Jvm.Cond.privateMethod ({ cls := "DogsHour$Parser", name := "number", desc := "(II)I" } : Jvm.MethodName)) ∈ lw_tbl := lw_at lw_m5 62 rfl
theorem q1143 : (Jvm.Cond.instanceMethod ({ cls := "DogsHour$Parser", name := "number", desc := "(II)I" } : Jvm.MethodName)) ∈ lw_all := lw_g (lw_at lw_m5 63 rfl) rfl
theorem q1144 : (Jvm.Cond.code ({ cls := "DogsHour$Parser", name := "number", desc := "(II)I" } : Jvm.MethodName) prog_10_method_12_code (5 : Nat) (Option.some Jvm.ClassFile.FieldType.int)) ∈ lw_all := lw_g (lw_at lw_m5 64 rfl) rfl
theorem q1145 : (Jvm.Cond.classLink "DogsHour$Parser" (177 : Nat) "DogsHour$Person") ∈ lw_all := lw_g (lw_at lw_m5 65 rfl) rfl
theorem q1147 : (Jvm.Cond.methodLink "DogsHour$Parser" (179 : Nat) ({ cls := "DogsHour$Person", name := "<init>", desc := "(Ljava/lang/String;)V" } : Jvm.MethodName)) ∈ lw_all := lw_g (lw_at lw_m5 67 rfl) rfl
theorem q1152 : (Jvm.Cond.fieldLink "DogsHour$Parser" (180 : Nat) "DogsHour$Person" "home" "I") ∈ lw_all := lw_g (lw_at lw_m5 72 rfl) rfl
theorem q1155 : (Jvm.Cond.fieldLink "DogsHour$Parser" (183 : Nat) "DogsHour$Person" "pocket" "I") ∈ lw_all := lw_g (lw_at lw_m5 75 rfl) rfl
theorem q1156 : (Jvm.Cond.fieldLink "DogsHour$Parser" (215 : Nat) "DogsHour$Person" "errands" "I") ∈ lw_all := lw_g (lw_at lw_m5 76 rfl) rfl
theorem q1165 : (Jvm.Cond.methodLink "DogsHour$Parser" (186 : Nat) ({ cls := "DogsHour$Parser", name := "errandTold", desc := "()V" } : Jvm.MethodName)) ∈ lw_all := lw_g (lw_at lw_m5 85 rfl) rfl
theorem q1166 : (Jvm.Cond.privateMethod ({ cls := "DogsHour$Parser", name := "errandTold", desc := "()V" } : Jvm.MethodName)) ∈ lw_tbl := lw_at lw_m5 86 rfl
theorem q1167 : (Jvm.Cond.instanceMethod ({ cls := "DogsHour$Parser", name := "errandTold", desc := "()V" } : Jvm.MethodName)) ∈ lw_all := lw_g (lw_at lw_m5 87 rfl) rfl
theorem q1168 : (Jvm.Cond.code ({ cls := "DogsHour$Parser", name := "errandTold", desc := "()V" } : Jvm.MethodName) prog_10_method_19_code (4 : Nat) (Option.none : Option Jvm.ClassFile.FieldType)) ∈ lw_all := lw_g (lw_at lw_m5 88 rfl) rfl
theorem q1169 : (Jvm.Cond.methodLink "DogsHour$Parser" (191 : Nat) ({ cls := "java/lang/Math", name := "min", desc := "(II)I" } : Jvm.MethodName)) ∈ lw_all := lw_g (lw_at lw_m5 89 rfl) rfl
theorem q1170 : (Jvm.Cond.methodLink "DogsHour$Parser" (109 : Nat) ({ cls := "DogsHour$Text", name := "laysFar", desc := "()V" } : Jvm.MethodName)) ∈ lw_all := lw_g (lw_at lw_m5 90 rfl) rfl
theorem q2179 : (Jvm.Cond.castable "DogsHour$Parser" "java/lang/Object") ∈ lw_tbl := lw_at lw_m9 139 rfl
theorem in_X3 : ∀ w ∈ wsX30, w ∈ lw_all := lw_in wsX30 [316, 318, 320, 322, 324, 326, 328] (by decide +kernel) (by decide +kernel)
/-! DogsHour$Text -/
set_option maxRecDepth 100000
def RX4 : String := "DogsHour$Text"
def TX4 : u_T := fun k => match k with
  | 0 => ("DogsHour$Text", "spots", "Ljava/util/ArrayList;", true)
  | 1 => ("DogsHour$Text", "dogs", "Ljava/util/ArrayList;", true)
  | 2 => ("DogsHour$Text", "people", "Ljava/util/ArrayList;", true)
  | 3 => ("DogsHour$Text", "errandOf", "[I", true)
  | 4 => ("DogsHour$Text", "errandAt", "[I", true)
  | 5 => ("DogsHour$Text", "laws", "[LDogsHour$Law;", true)
  | 6 => ("DogsHour$Text", "far", "[[I", true)
  | 7 => ("DogsHour$Text", "paths", "I", false)
  | 8 => ("DogsHour$Text", "errands", "I", false)
  | 9 => ("DogsHour$Text", "from", "I", false)
  | 10 => ("DogsHour$Text", "till", "I", false)
  | _ => ("DogsHour$Text", "begins", "I", false)
def tyX4 : Nat → FieldType := fun k => match k with
  | 0 => .object "java/util/ArrayList"
  | 1 => .object "java/util/ArrayList"
  | 2 => .object "java/util/ArrayList"
  | 3 => .array .int
  | 4 => .array .int
  | 5 => .array (.object "DogsHour$Law")
  | 6 => .array (.array .int)
  | 7 => .int
  | 8 => .int
  | 9 => .int
  | 10 => .int
  | _ => .int
abbrev wsX40 : List Cond := u_ws RX4 TX4 12
theorem nmX4 : ∀ a, a < 12 → ∀ b, b < 12 → a ≠ b → (TX4 a).2.1 ≠ (TX4 b).2.1 := by decide +kernel
theorem tyX4_ok : ∀ k, k < 12 → parseFieldDescriptor (TX4 k).2.2.1 = some (tyX4 k) := by decide +kernel
abbrev cX4_init : ByteArray := prog_15_method_1_code
def yX4_init : MethodName := ⟨RX4, "<init>", "()V"⟩
def dkwX4_init_3 : List UInt8 := [181, 0, 39, 42, 16, 60, 181, 0, 42, 42, 16, 120, 181, 0, 46, 177]
abbrev dktX4_init_3 : List UInt8 := dkwX4_init_3 ++ []
def dkwX4_init_2 : List UInt8 := [16, 8, 188, 10, 181, 0, 28, 42, 7, 189, 0, 31, 181, 0, 33, 42, 16, 7, 16, 7, 197, 0, 37, 2]
abbrev dktX4_init_2 : List UInt8 := dkwX4_init_2 ++ dktX4_init_3
def dkwX4_init_1 : List UInt8 := [181, 0, 18, 42, 187, 0, 9, 89, 183, 0, 11, 181, 0, 21, 42, 16, 8, 188, 10, 181, 0, 24, 42]
abbrev dktX4_init_1 : List UInt8 := dkwX4_init_1 ++ dktX4_init_2
def dkwX4_init_0 : List UInt8 := [42, 183, 0, 3, 42, 187, 0, 9, 89, 183, 0, 11, 181, 0, 12, 42, 187, 0, 9, 89, 183, 0, 11]
abbrev dktX4_init_0 : List UInt8 := dkwX4_init_0 ++ dktX4_init_1
theorem dksX4_init_0 : cX4_init.data.toList.drop 0 = dktX4_init_0 := by decide +kernel
theorem dksX4_init_1 : cX4_init.data.toList.drop 23 = dktX4_init_1 := dk_seg dksX4_init_0 23 rfl rfl
theorem dksX4_init_2 : cX4_init.data.toList.drop 46 = dktX4_init_2 := dk_seg dksX4_init_1 23 rfl rfl
theorem dksX4_init_3 : cX4_init.data.toList.drop 70 = dktX4_init_3 := dk_seg dksX4_init_2 24 rfl rfl
theorem dX4_init_0 : decode cX4_init 0 = .ok (.aload_n 0, 1) := dk_42 (dk_at dksX4_init_0 0 rfl rfl)
theorem dX4_init_1 : decode cX4_init 1 = .ok (.invokespecial 3, 3) := dk_183 0 3 (dk_at dksX4_init_0 1 rfl rfl)
theorem dX4_init_4 : decode cX4_init 4 = .ok (.aload_n 0, 1) := dk_42 (dk_at dksX4_init_0 4 rfl rfl)
theorem dX4_init_5 : decode cX4_init 5 = .ok (.new 9, 3) := dk_187 0 9 (dk_at dksX4_init_0 5 rfl rfl)
theorem dX4_init_8 : decode cX4_init 8 = .ok (.dup, 1) := dk_89 (dk_at dksX4_init_0 8 rfl rfl)
theorem dX4_init_9 : decode cX4_init 9 = .ok (.invokespecial 11, 3) := dk_183 0 11 (dk_at dksX4_init_0 9 rfl rfl)
theorem dX4_init_12 : decode cX4_init 12 = .ok (.putfield 12, 3) := dk_181 0 12 (dk_at dksX4_init_0 12 rfl rfl)
theorem dX4_init_15 : decode cX4_init 15 = .ok (.aload_n 0, 1) := dk_42 (dk_at dksX4_init_0 15 rfl rfl)
theorem dX4_init_16 : decode cX4_init 16 = .ok (.new 9, 3) := dk_187 0 9 (dk_at dksX4_init_0 16 rfl rfl)
theorem dX4_init_19 : decode cX4_init 19 = .ok (.dup, 1) := dk_89 (dk_at dksX4_init_0 19 rfl rfl)
theorem dX4_init_20 : decode cX4_init 20 = .ok (.invokespecial 11, 3) := dk_183 0 11 (dk_at dksX4_init_0 20 rfl rfl)
theorem dX4_init_23 : decode cX4_init 23 = .ok (.putfield 18, 3) := dk_181 0 18 (dk_at dksX4_init_1 0 rfl rfl)
theorem dX4_init_26 : decode cX4_init 26 = .ok (.aload_n 0, 1) := dk_42 (dk_at dksX4_init_1 3 rfl rfl)
theorem dX4_init_27 : decode cX4_init 27 = .ok (.new 9, 3) := dk_187 0 9 (dk_at dksX4_init_1 4 rfl rfl)
theorem dX4_init_30 : decode cX4_init 30 = .ok (.dup, 1) := dk_89 (dk_at dksX4_init_1 7 rfl rfl)
theorem dX4_init_31 : decode cX4_init 31 = .ok (.invokespecial 11, 3) := dk_183 0 11 (dk_at dksX4_init_1 8 rfl rfl)
theorem dX4_init_34 : decode cX4_init 34 = .ok (.putfield 21, 3) := dk_181 0 21 (dk_at dksX4_init_1 11 rfl rfl)
theorem dX4_init_37 : decode cX4_init 37 = .ok (.aload_n 0, 1) := dk_42 (dk_at dksX4_init_1 14 rfl rfl)
theorem dX4_init_38 : decode cX4_init 38 = .ok (.bipush 8, 2) := dk_16 8 (dk_at dksX4_init_1 15 rfl rfl)
theorem dX4_init_40 : decode cX4_init 40 = .ok (.newarray .int, 2) := dk_188_10 (dk_at dksX4_init_1 17 rfl rfl)
theorem dX4_init_42 : decode cX4_init 42 = .ok (.putfield 24, 3) := dk_181 0 24 (dk_at dksX4_init_1 19 rfl rfl)
theorem dX4_init_45 : decode cX4_init 45 = .ok (.aload_n 0, 1) := dk_42 (dk_at dksX4_init_1 22 rfl rfl)
theorem dX4_init_46 : decode cX4_init 46 = .ok (.bipush 8, 2) := dk_16 8 (dk_at dksX4_init_2 0 rfl rfl)
theorem dX4_init_48 : decode cX4_init 48 = .ok (.newarray .int, 2) := dk_188_10 (dk_at dksX4_init_2 2 rfl rfl)
theorem dX4_init_50 : decode cX4_init 50 = .ok (.putfield 28, 3) := dk_181 0 28 (dk_at dksX4_init_2 4 rfl rfl)
theorem dX4_init_53 : decode cX4_init 53 = .ok (.aload_n 0, 1) := dk_42 (dk_at dksX4_init_2 7 rfl rfl)
theorem dX4_init_54 : decode cX4_init 54 = .ok (.iconst 4, 1) := dk_7 (dk_at dksX4_init_2 8 rfl rfl)
theorem dX4_init_55 : decode cX4_init 55 = .ok (.anewarray 31, 3) := dk_189 0 31 (dk_at dksX4_init_2 9 rfl rfl)
theorem dX4_init_58 : decode cX4_init 58 = .ok (.putfield 33, 3) := dk_181 0 33 (dk_at dksX4_init_2 12 rfl rfl)
theorem dX4_init_61 : decode cX4_init 61 = .ok (.aload_n 0, 1) := dk_42 (dk_at dksX4_init_2 15 rfl rfl)
theorem dX4_init_62 : decode cX4_init 62 = .ok (.bipush 7, 2) := dk_16 7 (dk_at dksX4_init_2 16 rfl rfl)
theorem dX4_init_64 : decode cX4_init 64 = .ok (.bipush 7, 2) := dk_16 7 (dk_at dksX4_init_2 18 rfl rfl)
theorem dX4_init_66 : decode cX4_init 66 = .ok (.multianewarray 37 2, 4) := by decide +kernel
theorem dX4_init_70 : decode cX4_init 70 = .ok (.putfield 39, 3) := dk_181 0 39 (dk_at dksX4_init_3 0 rfl rfl)
theorem dX4_init_73 : decode cX4_init 73 = .ok (.aload_n 0, 1) := dk_42 (dk_at dksX4_init_3 3 rfl rfl)
theorem dX4_init_74 : decode cX4_init 74 = .ok (.bipush 60, 2) := dk_16 60 (dk_at dksX4_init_3 4 rfl rfl)
theorem dX4_init_76 : decode cX4_init 76 = .ok (.putfield 42, 3) := dk_181 0 42 (dk_at dksX4_init_3 6 rfl rfl)
theorem dX4_init_79 : decode cX4_init 79 = .ok (.aload_n 0, 1) := dk_42 (dk_at dksX4_init_3 9 rfl rfl)
theorem dX4_init_80 : decode cX4_init 80 = .ok (.bipush 120, 2) := dk_16 120 (dk_at dksX4_init_3 10 rfl rfl)
theorem dX4_init_82 : decode cX4_init 82 = .ok (.putfield 46, 3) := dk_181 0 46 (dk_at dksX4_init_3 12 rfl rfl)
theorem dX4_init_85 : decode cX4_init 85 = .ok (.return_, 1) := dk_177 (dk_at dksX4_init_3 15 rfl rfl)
abbrev cX4_has : ByteArray := prog_15_method_3_code
def yX4_has : MethodName := ⟨RX4, "has", "(Ljava/lang/String;)Z"⟩
def dkwX4_has_1 : List UInt8 := [180, 0, 21, 43, 184, 0, 69, 155, 0, 7, 4, 167, 0, 4, 3, 172]
abbrev dktX4_has_1 : List UInt8 := dkwX4_has_1 ++ []
def dkwX4_has_0 : List UInt8 := [42, 180, 0, 12, 43, 184, 0, 69, 156, 0, 25, 42, 180, 0, 18, 43, 184, 0, 69, 156, 0, 14, 42]
abbrev dktX4_has_0 : List UInt8 := dkwX4_has_0 ++ dktX4_has_1
theorem dksX4_has_0 : cX4_has.data.toList.drop 0 = dktX4_has_0 := by decide +kernel
theorem dksX4_has_1 : cX4_has.data.toList.drop 23 = dktX4_has_1 := dk_seg dksX4_has_0 23 rfl rfl
theorem dX4_has_0 : decode cX4_has 0 = .ok (.aload_n 0, 1) := dk_42 (dk_at dksX4_has_0 0 rfl rfl)
theorem dX4_has_1 : decode cX4_has 1 = .ok (.getfield 12, 3) := dk_180 0 12 (dk_at dksX4_has_0 1 rfl rfl)
theorem dX4_has_4 : decode cX4_has 4 = .ok (.aload_n 1, 1) := dk_43 (dk_at dksX4_has_0 4 rfl rfl)
theorem dX4_has_5 : decode cX4_has 5 = .ok (.invokestatic 69, 3) := dk_184 0 69 (dk_at dksX4_has_0 5 rfl rfl)
theorem dX4_has_8 : decode cX4_has 8 = .ok (.ifCond .ge 25, 3) := dk_156 0 25 (dk_at dksX4_has_0 8 rfl rfl)
theorem dX4_has_11 : decode cX4_has 11 = .ok (.aload_n 0, 1) := dk_42 (dk_at dksX4_has_0 11 rfl rfl)
theorem dX4_has_12 : decode cX4_has 12 = .ok (.getfield 18, 3) := dk_180 0 18 (dk_at dksX4_has_0 12 rfl rfl)
theorem dX4_has_15 : decode cX4_has 15 = .ok (.aload_n 1, 1) := dk_43 (dk_at dksX4_has_0 15 rfl rfl)
theorem dX4_has_16 : decode cX4_has 16 = .ok (.invokestatic 69, 3) := dk_184 0 69 (dk_at dksX4_has_0 16 rfl rfl)
theorem dX4_has_19 : decode cX4_has 19 = .ok (.ifCond .ge 14, 3) := dk_156 0 14 (dk_at dksX4_has_0 19 rfl rfl)
theorem dX4_has_22 : decode cX4_has 22 = .ok (.aload_n 0, 1) := dk_42 (dk_at dksX4_has_0 22 rfl rfl)
theorem dX4_has_23 : decode cX4_has 23 = .ok (.getfield 21, 3) := dk_180 0 21 (dk_at dksX4_has_1 0 rfl rfl)
theorem dX4_has_26 : decode cX4_has 26 = .ok (.aload_n 1, 1) := dk_43 (dk_at dksX4_has_1 3 rfl rfl)
theorem dX4_has_27 : decode cX4_has 27 = .ok (.invokestatic 69, 3) := dk_184 0 69 (dk_at dksX4_has_1 4 rfl rfl)
theorem dX4_has_30 : decode cX4_has 30 = .ok (.ifCond .lt 7, 3) := dk_155 0 7 (dk_at dksX4_has_1 7 rfl rfl)
theorem dX4_has_33 : decode cX4_has 33 = .ok (.iconst 1, 1) := dk_4 (dk_at dksX4_has_1 10 rfl rfl)
theorem dX4_has_34 : decode cX4_has 34 = .ok (.goto 4, 3) := dk_167 0 4 (dk_at dksX4_has_1 11 rfl rfl)
theorem dX4_has_37 : decode cX4_has 37 = .ok (.iconst 0, 1) := dk_3 (dk_at dksX4_has_1 14 rfl rfl)
theorem dX4_has_38 : decode cX4_has 38 = .ok (.ireturn, 1) := dk_172 (dk_at dksX4_has_1 15 rfl rfl)
abbrev cX4_at : ByteArray := prog_15_method_2_code
def yX4_at : MethodName := ⟨RX4, "at", "(Ljava/util/ArrayList;Ljava/lang/String;)I"⟩
def dkwX4_at_1 : List UInt8 := [182, 0, 63, 153, 0, 5, 28, 172, 132, 2, 1, 167, 255, 225, 2, 172]
abbrev dktX4_at_1 : List UInt8 := dkwX4_at_1 ++ []
def dkwX4_at_0 : List UInt8 := [3, 61, 28, 42, 182, 0, 49, 162, 0, 29, 42, 28, 182, 0, 53, 192, 0, 57, 180, 0, 59, 43]
abbrev dktX4_at_0 : List UInt8 := dkwX4_at_0 ++ dktX4_at_1
theorem dksX4_at_0 : cX4_at.data.toList.drop 0 = dktX4_at_0 := by decide +kernel
theorem dksX4_at_1 : cX4_at.data.toList.drop 22 = dktX4_at_1 := dk_seg dksX4_at_0 22 rfl rfl
theorem dX4_at_0 : decode cX4_at 0 = .ok (.iconst 0, 1) := dk_3 (dk_at dksX4_at_0 0 rfl rfl)
theorem dX4_at_1 : decode cX4_at 1 = .ok (.istore_n 2, 1) := dk_61 (dk_at dksX4_at_0 1 rfl rfl)
theorem dX4_at_2 : decode cX4_at 2 = .ok (.iload_n 2, 1) := dk_28 (dk_at dksX4_at_0 2 rfl rfl)
theorem dX4_at_3 : decode cX4_at 3 = .ok (.aload_n 0, 1) := dk_42 (dk_at dksX4_at_0 3 rfl rfl)
theorem dX4_at_4 : decode cX4_at 4 = .ok (.invokevirtual 49, 3) := dk_182 0 49 (dk_at dksX4_at_0 4 rfl rfl)
theorem dX4_at_7 : decode cX4_at 7 = .ok (.if_icmp .ge 29, 3) := dk_162 0 29 (dk_at dksX4_at_0 7 rfl rfl)
theorem dX4_at_10 : decode cX4_at 10 = .ok (.aload_n 0, 1) := dk_42 (dk_at dksX4_at_0 10 rfl rfl)
theorem dX4_at_11 : decode cX4_at 11 = .ok (.iload_n 2, 1) := dk_28 (dk_at dksX4_at_0 11 rfl rfl)
theorem dX4_at_12 : decode cX4_at 12 = .ok (.invokevirtual 53, 3) := dk_182 0 53 (dk_at dksX4_at_0 12 rfl rfl)
theorem dX4_at_15 : decode cX4_at 15 = .ok (.checkcast 57, 3) := dk_192 0 57 (dk_at dksX4_at_0 15 rfl rfl)
theorem dX4_at_18 : decode cX4_at 18 = .ok (.getfield 59, 3) := dk_180 0 59 (dk_at dksX4_at_0 18 rfl rfl)
theorem dX4_at_21 : decode cX4_at 21 = .ok (.aload_n 1, 1) := dk_43 (dk_at dksX4_at_0 21 rfl rfl)
theorem dX4_at_22 : decode cX4_at 22 = .ok (.invokevirtual 63, 3) := dk_182 0 63 (dk_at dksX4_at_1 0 rfl rfl)
theorem dX4_at_25 : decode cX4_at 25 = .ok (.ifCond .eq 5, 3) := dk_153 0 5 (dk_at dksX4_at_1 3 rfl rfl)
theorem dX4_at_28 : decode cX4_at 28 = .ok (.iload_n 2, 1) := dk_28 (dk_at dksX4_at_1 6 rfl rfl)
theorem dX4_at_29 : decode cX4_at 29 = .ok (.ireturn, 1) := dk_172 (dk_at dksX4_at_1 7 rfl rfl)
theorem dX4_at_30 : decode cX4_at 30 = .ok (.iinc 2 1, 3) := dk_132 2 1 (dk_at dksX4_at_1 8 rfl rfl)
theorem dX4_at_33 : decode cX4_at 33 = .ok (.goto (-31), 3) := dk_167 255 225 (dk_at dksX4_at_1 11 rfl rfl)
theorem dX4_at_36 : decode cX4_at 36 = .ok (.iconst (-1), 1) := dk_2 (dk_at dksX4_at_1 14 rfl rfl)
theorem dX4_at_37 : decode cX4_at 37 = .ok (.ireturn, 1) := dk_172 (dk_at dksX4_at_1 15 rfl rfl)
abbrev cX4_areNext : ByteArray := prog_15_method_4_code
def yX4_areNext : MethodName := ⟨RX4, "areNext", "(II)Z"⟩
def dkwX4_areNext_1 : List UInt8 := [167, 0, 4, 3, 172]
abbrev dktX4_areNext_1 : List UInt8 := dkwX4_areNext_1 ++ []
def dkwX4_areNext_0 : List UInt8 := [42, 180, 0, 12, 27, 182, 0, 53, 192, 0, 73, 180, 0, 75, 28, 122, 4, 126, 4, 160, 0, 7, 4]
abbrev dktX4_areNext_0 : List UInt8 := dkwX4_areNext_0 ++ dktX4_areNext_1
theorem dksX4_areNext_0 : cX4_areNext.data.toList.drop 0 = dktX4_areNext_0 := by decide +kernel
theorem dksX4_areNext_1 : cX4_areNext.data.toList.drop 23 = dktX4_areNext_1 := dk_seg dksX4_areNext_0 23 rfl rfl
theorem dX4_areNext_0 : decode cX4_areNext 0 = .ok (.aload_n 0, 1) := dk_42 (dk_at dksX4_areNext_0 0 rfl rfl)
theorem dX4_areNext_1 : decode cX4_areNext 1 = .ok (.getfield 12, 3) := dk_180 0 12 (dk_at dksX4_areNext_0 1 rfl rfl)
theorem dX4_areNext_4 : decode cX4_areNext 4 = .ok (.iload_n 1, 1) := dk_27 (dk_at dksX4_areNext_0 4 rfl rfl)
theorem dX4_areNext_5 : decode cX4_areNext 5 = .ok (.invokevirtual 53, 3) := dk_182 0 53 (dk_at dksX4_areNext_0 5 rfl rfl)
theorem dX4_areNext_8 : decode cX4_areNext 8 = .ok (.checkcast 73, 3) := dk_192 0 73 (dk_at dksX4_areNext_0 8 rfl rfl)
theorem dX4_areNext_11 : decode cX4_areNext 11 = .ok (.getfield 75, 3) := dk_180 0 75 (dk_at dksX4_areNext_0 11 rfl rfl)
theorem dX4_areNext_14 : decode cX4_areNext 14 = .ok (.iload_n 2, 1) := dk_28 (dk_at dksX4_areNext_0 14 rfl rfl)
theorem dX4_areNext_15 : decode cX4_areNext 15 = .ok (.ishr, 1) := dk_122 (dk_at dksX4_areNext_0 15 rfl rfl)
theorem dX4_areNext_16 : decode cX4_areNext 16 = .ok (.iconst 1, 1) := dk_4 (dk_at dksX4_areNext_0 16 rfl rfl)
theorem dX4_areNext_17 : decode cX4_areNext 17 = .ok (.iand, 1) := dk_126 (dk_at dksX4_areNext_0 17 rfl rfl)
theorem dX4_areNext_18 : decode cX4_areNext 18 = .ok (.iconst 1, 1) := dk_4 (dk_at dksX4_areNext_0 18 rfl rfl)
theorem dX4_areNext_19 : decode cX4_areNext 19 = .ok (.if_icmp .ne 7, 3) := dk_160 0 7 (dk_at dksX4_areNext_0 19 rfl rfl)
theorem dX4_areNext_22 : decode cX4_areNext 22 = .ok (.iconst 1, 1) := dk_4 (dk_at dksX4_areNext_0 22 rfl rfl)
theorem dX4_areNext_23 : decode cX4_areNext 23 = .ok (.goto 4, 3) := dk_167 0 4 (dk_at dksX4_areNext_1 0 rfl rfl)
theorem dX4_areNext_26 : decode cX4_areNext 26 = .ok (.iconst 0, 1) := dk_3 (dk_at dksX4_areNext_1 3 rfl rfl)
theorem dX4_areNext_27 : decode cX4_areNext 27 = .ok (.ireturn, 1) := dk_172 (dk_at dksX4_areNext_1 4 rfl rfl)
abbrev cX4_laysFar : ByteArray := prog_15_method_5_code
def yX4_laysFar : MethodName := ⟨RX4, "laysFar", "()V"⟩
def dkwX4_laysFar_6 : List UInt8 := [79, 132, 3, 1, 167, 255, 211, 132, 2, 1, 167, 255, 197, 132, 1, 1, 167, 255, 183, 177]
abbrev dktX4_laysFar_6 : List UInt8 := dkwX4_laysFar_6 ++ []
def dkwX4_laysFar_5 : List UInt8 := [28, 50, 29, 46, 42, 180, 0, 39, 28, 50, 27, 46, 42, 180, 0, 39, 27, 50, 29, 46, 96, 184, 0, 83]
abbrev dktX4_laysFar_5 : List UInt8 := dkwX4_laysFar_5 ++ dktX4_laysFar_6
def dkwX4_laysFar_4 : List UInt8 := [16, 7, 162, 0, 59, 3, 62, 29, 16, 7, 162, 0, 45, 42, 180, 0, 39, 28, 50, 29, 42, 180, 0, 39]
abbrev dktX4_laysFar_4 : List UInt8 := dkwX4_laysFar_4 ++ dktX4_laysFar_5
def dkwX4_laysFar_3 : List UInt8 := [132, 2, 1, 167, 255, 193, 132, 1, 1, 167, 255, 179, 3, 60, 27, 16, 7, 162, 0, 73, 3, 61, 28]
abbrev dktX4_laysFar_3 : List UInt8 := dkwX4_laysFar_3 ++ dktX4_laysFar_4
def dkwX4_laysFar_2 : List UInt8 := [182, 0, 49, 162, 0, 16, 42, 27, 28, 182, 0, 78, 153, 0, 7, 4, 167, 0, 5, 18, 82, 79]
abbrev dktX4_laysFar_2 : List UInt8 := dkwX4_laysFar_2 ++ dktX4_laysFar_3
def dkwX4_laysFar_1 : List UInt8 := [28, 160, 0, 7, 3, 167, 0, 40, 27, 42, 180, 0, 12, 182, 0, 49, 162, 0, 27, 28, 42, 180, 0, 12]
abbrev dktX4_laysFar_1 : List UInt8 := dkwX4_laysFar_1 ++ dktX4_laysFar_2
def dkwX4_laysFar_0 : List UInt8 := [3, 60, 27, 16, 7, 162, 0, 77, 3, 61, 28, 16, 7, 162, 0, 63, 42, 180, 0, 39, 27, 50, 28, 27]
abbrev dktX4_laysFar_0 : List UInt8 := dkwX4_laysFar_0 ++ dktX4_laysFar_1
theorem dksX4_laysFar_0 : cX4_laysFar.data.toList.drop 0 = dktX4_laysFar_0 := by decide +kernel
theorem dksX4_laysFar_1 : cX4_laysFar.data.toList.drop 24 = dktX4_laysFar_1 := dk_seg dksX4_laysFar_0 24 rfl rfl
theorem dksX4_laysFar_2 : cX4_laysFar.data.toList.drop 48 = dktX4_laysFar_2 := dk_seg dksX4_laysFar_1 24 rfl rfl
theorem dksX4_laysFar_3 : cX4_laysFar.data.toList.drop 70 = dktX4_laysFar_3 := dk_seg dksX4_laysFar_2 22 rfl rfl
theorem dksX4_laysFar_4 : cX4_laysFar.data.toList.drop 93 = dktX4_laysFar_4 := dk_seg dksX4_laysFar_3 23 rfl rfl
theorem dksX4_laysFar_5 : cX4_laysFar.data.toList.drop 117 = dktX4_laysFar_5 := dk_seg dksX4_laysFar_4 24 rfl rfl
theorem dksX4_laysFar_6 : cX4_laysFar.data.toList.drop 141 = dktX4_laysFar_6 := dk_seg dksX4_laysFar_5 24 rfl rfl
theorem dX4_laysFar_0 : decode cX4_laysFar 0 = .ok (.iconst 0, 1) := dk_3 (dk_at dksX4_laysFar_0 0 rfl rfl)
theorem dX4_laysFar_1 : decode cX4_laysFar 1 = .ok (.istore_n 1, 1) := dk_60 (dk_at dksX4_laysFar_0 1 rfl rfl)
theorem dX4_laysFar_2 : decode cX4_laysFar 2 = .ok (.iload_n 1, 1) := dk_27 (dk_at dksX4_laysFar_0 2 rfl rfl)
theorem dX4_laysFar_3 : decode cX4_laysFar 3 = .ok (.bipush 7, 2) := dk_16 7 (dk_at dksX4_laysFar_0 3 rfl rfl)
theorem dX4_laysFar_5 : decode cX4_laysFar 5 = .ok (.if_icmp .ge 77, 3) := dk_162 0 77 (dk_at dksX4_laysFar_0 5 rfl rfl)
theorem dX4_laysFar_8 : decode cX4_laysFar 8 = .ok (.iconst 0, 1) := dk_3 (dk_at dksX4_laysFar_0 8 rfl rfl)
theorem dX4_laysFar_9 : decode cX4_laysFar 9 = .ok (.istore_n 2, 1) := dk_61 (dk_at dksX4_laysFar_0 9 rfl rfl)
theorem dX4_laysFar_10 : decode cX4_laysFar 10 = .ok (.iload_n 2, 1) := dk_28 (dk_at dksX4_laysFar_0 10 rfl rfl)
theorem dX4_laysFar_11 : decode cX4_laysFar 11 = .ok (.bipush 7, 2) := dk_16 7 (dk_at dksX4_laysFar_0 11 rfl rfl)
theorem dX4_laysFar_13 : decode cX4_laysFar 13 = .ok (.if_icmp .ge 63, 3) := dk_162 0 63 (dk_at dksX4_laysFar_0 13 rfl rfl)
theorem dX4_laysFar_16 : decode cX4_laysFar 16 = .ok (.aload_n 0, 1) := dk_42 (dk_at dksX4_laysFar_0 16 rfl rfl)
theorem dX4_laysFar_17 : decode cX4_laysFar 17 = .ok (.getfield 39, 3) := dk_180 0 39 (dk_at dksX4_laysFar_0 17 rfl rfl)
theorem dX4_laysFar_20 : decode cX4_laysFar 20 = .ok (.iload_n 1, 1) := dk_27 (dk_at dksX4_laysFar_0 20 rfl rfl)
theorem dX4_laysFar_21 : decode cX4_laysFar 21 = .ok (.aaload, 1) := dk_50 (dk_at dksX4_laysFar_0 21 rfl rfl)
theorem dX4_laysFar_22 : decode cX4_laysFar 22 = .ok (.iload_n 2, 1) := dk_28 (dk_at dksX4_laysFar_0 22 rfl rfl)
theorem dX4_laysFar_23 : decode cX4_laysFar 23 = .ok (.iload_n 1, 1) := dk_27 (dk_at dksX4_laysFar_0 23 rfl rfl)
theorem dX4_laysFar_24 : decode cX4_laysFar 24 = .ok (.iload_n 2, 1) := dk_28 (dk_at dksX4_laysFar_1 0 rfl rfl)
theorem dX4_laysFar_25 : decode cX4_laysFar 25 = .ok (.if_icmp .ne 7, 3) := dk_160 0 7 (dk_at dksX4_laysFar_1 1 rfl rfl)
theorem dX4_laysFar_28 : decode cX4_laysFar 28 = .ok (.iconst 0, 1) := dk_3 (dk_at dksX4_laysFar_1 4 rfl rfl)
theorem dX4_laysFar_29 : decode cX4_laysFar 29 = .ok (.goto 40, 3) := dk_167 0 40 (dk_at dksX4_laysFar_1 5 rfl rfl)
theorem dX4_laysFar_32 : decode cX4_laysFar 32 = .ok (.iload_n 1, 1) := dk_27 (dk_at dksX4_laysFar_1 8 rfl rfl)
theorem dX4_laysFar_33 : decode cX4_laysFar 33 = .ok (.aload_n 0, 1) := dk_42 (dk_at dksX4_laysFar_1 9 rfl rfl)
theorem dX4_laysFar_34 : decode cX4_laysFar 34 = .ok (.getfield 12, 3) := dk_180 0 12 (dk_at dksX4_laysFar_1 10 rfl rfl)
theorem dX4_laysFar_37 : decode cX4_laysFar 37 = .ok (.invokevirtual 49, 3) := dk_182 0 49 (dk_at dksX4_laysFar_1 13 rfl rfl)
theorem dX4_laysFar_40 : decode cX4_laysFar 40 = .ok (.if_icmp .ge 27, 3) := dk_162 0 27 (dk_at dksX4_laysFar_1 16 rfl rfl)
theorem dX4_laysFar_43 : decode cX4_laysFar 43 = .ok (.iload_n 2, 1) := dk_28 (dk_at dksX4_laysFar_1 19 rfl rfl)
theorem dX4_laysFar_44 : decode cX4_laysFar 44 = .ok (.aload_n 0, 1) := dk_42 (dk_at dksX4_laysFar_1 20 rfl rfl)
theorem dX4_laysFar_45 : decode cX4_laysFar 45 = .ok (.getfield 12, 3) := dk_180 0 12 (dk_at dksX4_laysFar_1 21 rfl rfl)
theorem dX4_laysFar_48 : decode cX4_laysFar 48 = .ok (.invokevirtual 49, 3) := dk_182 0 49 (dk_at dksX4_laysFar_2 0 rfl rfl)
theorem dX4_laysFar_51 : decode cX4_laysFar 51 = .ok (.if_icmp .ge 16, 3) := dk_162 0 16 (dk_at dksX4_laysFar_2 3 rfl rfl)
theorem dX4_laysFar_54 : decode cX4_laysFar 54 = .ok (.aload_n 0, 1) := dk_42 (dk_at dksX4_laysFar_2 6 rfl rfl)
theorem dX4_laysFar_55 : decode cX4_laysFar 55 = .ok (.iload_n 1, 1) := dk_27 (dk_at dksX4_laysFar_2 7 rfl rfl)
theorem dX4_laysFar_56 : decode cX4_laysFar 56 = .ok (.iload_n 2, 1) := dk_28 (dk_at dksX4_laysFar_2 8 rfl rfl)
theorem dX4_laysFar_57 : decode cX4_laysFar 57 = .ok (.invokevirtual 78, 3) := dk_182 0 78 (dk_at dksX4_laysFar_2 9 rfl rfl)
theorem dX4_laysFar_60 : decode cX4_laysFar 60 = .ok (.ifCond .eq 7, 3) := dk_153 0 7 (dk_at dksX4_laysFar_2 12 rfl rfl)
theorem dX4_laysFar_63 : decode cX4_laysFar 63 = .ok (.iconst 1, 1) := dk_4 (dk_at dksX4_laysFar_2 15 rfl rfl)
theorem dX4_laysFar_64 : decode cX4_laysFar 64 = .ok (.goto 5, 3) := dk_167 0 5 (dk_at dksX4_laysFar_2 16 rfl rfl)
theorem dX4_laysFar_67 : decode cX4_laysFar 67 = .ok (.ldc 82, 2) := dk_18 82 (dk_at dksX4_laysFar_2 19 rfl rfl)
theorem dX4_laysFar_69 : decode cX4_laysFar 69 = .ok (.iastore, 1) := dk_79 (dk_at dksX4_laysFar_2 21 rfl rfl)
theorem dX4_laysFar_70 : decode cX4_laysFar 70 = .ok (.iinc 2 1, 3) := dk_132 2 1 (dk_at dksX4_laysFar_3 0 rfl rfl)
theorem dX4_laysFar_73 : decode cX4_laysFar 73 = .ok (.goto (-63), 3) := dk_167 255 193 (dk_at dksX4_laysFar_3 3 rfl rfl)
theorem dX4_laysFar_76 : decode cX4_laysFar 76 = .ok (.iinc 1 1, 3) := dk_132 1 1 (dk_at dksX4_laysFar_3 6 rfl rfl)
theorem dX4_laysFar_79 : decode cX4_laysFar 79 = .ok (.goto (-77), 3) := dk_167 255 179 (dk_at dksX4_laysFar_3 9 rfl rfl)
theorem dX4_laysFar_82 : decode cX4_laysFar 82 = .ok (.iconst 0, 1) := dk_3 (dk_at dksX4_laysFar_3 12 rfl rfl)
theorem dX4_laysFar_83 : decode cX4_laysFar 83 = .ok (.istore_n 1, 1) := dk_60 (dk_at dksX4_laysFar_3 13 rfl rfl)
theorem dX4_laysFar_84 : decode cX4_laysFar 84 = .ok (.iload_n 1, 1) := dk_27 (dk_at dksX4_laysFar_3 14 rfl rfl)
theorem dX4_laysFar_85 : decode cX4_laysFar 85 = .ok (.bipush 7, 2) := dk_16 7 (dk_at dksX4_laysFar_3 15 rfl rfl)
theorem dX4_laysFar_87 : decode cX4_laysFar 87 = .ok (.if_icmp .ge 73, 3) := dk_162 0 73 (dk_at dksX4_laysFar_3 17 rfl rfl)
theorem dX4_laysFar_90 : decode cX4_laysFar 90 = .ok (.iconst 0, 1) := dk_3 (dk_at dksX4_laysFar_3 20 rfl rfl)
theorem dX4_laysFar_91 : decode cX4_laysFar 91 = .ok (.istore_n 2, 1) := dk_61 (dk_at dksX4_laysFar_3 21 rfl rfl)
theorem dX4_laysFar_92 : decode cX4_laysFar 92 = .ok (.iload_n 2, 1) := dk_28 (dk_at dksX4_laysFar_3 22 rfl rfl)
theorem dX4_laysFar_93 : decode cX4_laysFar 93 = .ok (.bipush 7, 2) := dk_16 7 (dk_at dksX4_laysFar_4 0 rfl rfl)
theorem dX4_laysFar_95 : decode cX4_laysFar 95 = .ok (.if_icmp .ge 59, 3) := dk_162 0 59 (dk_at dksX4_laysFar_4 2 rfl rfl)
theorem dX4_laysFar_98 : decode cX4_laysFar 98 = .ok (.iconst 0, 1) := dk_3 (dk_at dksX4_laysFar_4 5 rfl rfl)
theorem dX4_laysFar_99 : decode cX4_laysFar 99 = .ok (.istore_n 3, 1) := dk_62 (dk_at dksX4_laysFar_4 6 rfl rfl)
theorem dX4_laysFar_100 : decode cX4_laysFar 100 = .ok (.iload_n 3, 1) := dk_29 (dk_at dksX4_laysFar_4 7 rfl rfl)
theorem dX4_laysFar_101 : decode cX4_laysFar 101 = .ok (.bipush 7, 2) := dk_16 7 (dk_at dksX4_laysFar_4 8 rfl rfl)
theorem dX4_laysFar_103 : decode cX4_laysFar 103 = .ok (.if_icmp .ge 45, 3) := dk_162 0 45 (dk_at dksX4_laysFar_4 10 rfl rfl)
theorem dX4_laysFar_106 : decode cX4_laysFar 106 = .ok (.aload_n 0, 1) := dk_42 (dk_at dksX4_laysFar_4 13 rfl rfl)
theorem dX4_laysFar_107 : decode cX4_laysFar 107 = .ok (.getfield 39, 3) := dk_180 0 39 (dk_at dksX4_laysFar_4 14 rfl rfl)
theorem dX4_laysFar_110 : decode cX4_laysFar 110 = .ok (.iload_n 2, 1) := dk_28 (dk_at dksX4_laysFar_4 17 rfl rfl)
theorem dX4_laysFar_111 : decode cX4_laysFar 111 = .ok (.aaload, 1) := dk_50 (dk_at dksX4_laysFar_4 18 rfl rfl)
theorem dX4_laysFar_112 : decode cX4_laysFar 112 = .ok (.iload_n 3, 1) := dk_29 (dk_at dksX4_laysFar_4 19 rfl rfl)
theorem dX4_laysFar_113 : decode cX4_laysFar 113 = .ok (.aload_n 0, 1) := dk_42 (dk_at dksX4_laysFar_4 20 rfl rfl)
theorem dX4_laysFar_114 : decode cX4_laysFar 114 = .ok (.getfield 39, 3) := dk_180 0 39 (dk_at dksX4_laysFar_4 21 rfl rfl)
theorem dX4_laysFar_117 : decode cX4_laysFar 117 = .ok (.iload_n 2, 1) := dk_28 (dk_at dksX4_laysFar_5 0 rfl rfl)
theorem dX4_laysFar_118 : decode cX4_laysFar 118 = .ok (.aaload, 1) := dk_50 (dk_at dksX4_laysFar_5 1 rfl rfl)
theorem dX4_laysFar_119 : decode cX4_laysFar 119 = .ok (.iload_n 3, 1) := dk_29 (dk_at dksX4_laysFar_5 2 rfl rfl)
theorem dX4_laysFar_120 : decode cX4_laysFar 120 = .ok (.iaload, 1) := dk_46 (dk_at dksX4_laysFar_5 3 rfl rfl)
theorem dX4_laysFar_121 : decode cX4_laysFar 121 = .ok (.aload_n 0, 1) := dk_42 (dk_at dksX4_laysFar_5 4 rfl rfl)
theorem dX4_laysFar_122 : decode cX4_laysFar 122 = .ok (.getfield 39, 3) := dk_180 0 39 (dk_at dksX4_laysFar_5 5 rfl rfl)
theorem dX4_laysFar_125 : decode cX4_laysFar 125 = .ok (.iload_n 2, 1) := dk_28 (dk_at dksX4_laysFar_5 8 rfl rfl)
theorem dX4_laysFar_126 : decode cX4_laysFar 126 = .ok (.aaload, 1) := dk_50 (dk_at dksX4_laysFar_5 9 rfl rfl)
theorem dX4_laysFar_127 : decode cX4_laysFar 127 = .ok (.iload_n 1, 1) := dk_27 (dk_at dksX4_laysFar_5 10 rfl rfl)
theorem dX4_laysFar_128 : decode cX4_laysFar 128 = .ok (.iaload, 1) := dk_46 (dk_at dksX4_laysFar_5 11 rfl rfl)
theorem dX4_laysFar_129 : decode cX4_laysFar 129 = .ok (.aload_n 0, 1) := dk_42 (dk_at dksX4_laysFar_5 12 rfl rfl)
theorem dX4_laysFar_130 : decode cX4_laysFar 130 = .ok (.getfield 39, 3) := dk_180 0 39 (dk_at dksX4_laysFar_5 13 rfl rfl)
theorem dX4_laysFar_133 : decode cX4_laysFar 133 = .ok (.iload_n 1, 1) := dk_27 (dk_at dksX4_laysFar_5 16 rfl rfl)
theorem dX4_laysFar_134 : decode cX4_laysFar 134 = .ok (.aaload, 1) := dk_50 (dk_at dksX4_laysFar_5 17 rfl rfl)
theorem dX4_laysFar_135 : decode cX4_laysFar 135 = .ok (.iload_n 3, 1) := dk_29 (dk_at dksX4_laysFar_5 18 rfl rfl)
theorem dX4_laysFar_136 : decode cX4_laysFar 136 = .ok (.iaload, 1) := dk_46 (dk_at dksX4_laysFar_5 19 rfl rfl)
theorem dX4_laysFar_137 : decode cX4_laysFar 137 = .ok (.iadd, 1) := dk_96 (dk_at dksX4_laysFar_5 20 rfl rfl)
theorem dX4_laysFar_138 : decode cX4_laysFar 138 = .ok (.invokestatic 83, 3) := dk_184 0 83 (dk_at dksX4_laysFar_5 21 rfl rfl)
theorem dX4_laysFar_141 : decode cX4_laysFar 141 = .ok (.iastore, 1) := dk_79 (dk_at dksX4_laysFar_6 0 rfl rfl)
theorem dX4_laysFar_142 : decode cX4_laysFar 142 = .ok (.iinc 3 1, 3) := dk_132 3 1 (dk_at dksX4_laysFar_6 1 rfl rfl)
theorem dX4_laysFar_145 : decode cX4_laysFar 145 = .ok (.goto (-45), 3) := dk_167 255 211 (dk_at dksX4_laysFar_6 4 rfl rfl)
theorem dX4_laysFar_148 : decode cX4_laysFar 148 = .ok (.iinc 2 1, 3) := dk_132 2 1 (dk_at dksX4_laysFar_6 7 rfl rfl)
theorem dX4_laysFar_151 : decode cX4_laysFar 151 = .ok (.goto (-59), 3) := dk_167 255 197 (dk_at dksX4_laysFar_6 10 rfl rfl)
theorem dX4_laysFar_154 : decode cX4_laysFar 154 = .ok (.iinc 1 1, 3) := dk_132 1 1 (dk_at dksX4_laysFar_6 13 rfl rfl)
theorem dX4_laysFar_157 : decode cX4_laysFar 157 = .ok (.goto (-73), 3) := dk_167 255 183 (dk_at dksX4_laysFar_6 16 rfl rfl)
theorem dX4_laysFar_160 : decode cX4_laysFar 160 = .ok (.return_, 1) := dk_177 (dk_at dksX4_laysFar_6 19 rfl rfl)
abbrev cX4_step : ByteArray := prog_15_method_7_code
def yX4_step : MethodName := ⟨RX4, "step", "(II)I"⟩
def dkwX4_step_2 : List UInt8 := [21, 4, 62, 132, 4, 1, 167, 255, 208, 29, 172]
abbrev dktX4_step_2 : List UInt8 := dkwX4_step_2 ++ []
def dkwX4_step_1 : List UInt8 := [153, 0, 26, 42, 180, 0, 39, 21, 4, 50, 28, 46, 42, 180, 0, 39, 29, 50, 28, 46, 162, 0, 6]
abbrev dktX4_step_1 : List UInt8 := dkwX4_step_1 ++ dktX4_step_2
def dkwX4_step_0 : List UInt8 := [27, 62, 3, 54, 4, 21, 4, 42, 180, 0, 12, 182, 0, 49, 162, 0, 42, 42, 27, 21, 4, 182, 0, 78]
abbrev dktX4_step_0 : List UInt8 := dkwX4_step_0 ++ dktX4_step_1
theorem dksX4_step_0 : cX4_step.data.toList.drop 0 = dktX4_step_0 := by decide +kernel
theorem dksX4_step_1 : cX4_step.data.toList.drop 24 = dktX4_step_1 := dk_seg dksX4_step_0 24 rfl rfl
theorem dksX4_step_2 : cX4_step.data.toList.drop 47 = dktX4_step_2 := dk_seg dksX4_step_1 23 rfl rfl
theorem dX4_step_0 : decode cX4_step 0 = .ok (.iload_n 1, 1) := dk_27 (dk_at dksX4_step_0 0 rfl rfl)
theorem dX4_step_1 : decode cX4_step 1 = .ok (.istore_n 3, 1) := dk_62 (dk_at dksX4_step_0 1 rfl rfl)
theorem dX4_step_2 : decode cX4_step 2 = .ok (.iconst 0, 1) := dk_3 (dk_at dksX4_step_0 2 rfl rfl)
theorem dX4_step_3 : decode cX4_step 3 = .ok (.istore 4, 2) := dk_54 4 (dk_at dksX4_step_0 3 rfl rfl)
theorem dX4_step_5 : decode cX4_step 5 = .ok (.iload 4, 2) := dk_21 4 (dk_at dksX4_step_0 5 rfl rfl)
theorem dX4_step_7 : decode cX4_step 7 = .ok (.aload_n 0, 1) := dk_42 (dk_at dksX4_step_0 7 rfl rfl)
theorem dX4_step_8 : decode cX4_step 8 = .ok (.getfield 12, 3) := dk_180 0 12 (dk_at dksX4_step_0 8 rfl rfl)
theorem dX4_step_11 : decode cX4_step 11 = .ok (.invokevirtual 49, 3) := dk_182 0 49 (dk_at dksX4_step_0 11 rfl rfl)
theorem dX4_step_14 : decode cX4_step 14 = .ok (.if_icmp .ge 42, 3) := dk_162 0 42 (dk_at dksX4_step_0 14 rfl rfl)
theorem dX4_step_17 : decode cX4_step 17 = .ok (.aload_n 0, 1) := dk_42 (dk_at dksX4_step_0 17 rfl rfl)
theorem dX4_step_18 : decode cX4_step 18 = .ok (.iload_n 1, 1) := dk_27 (dk_at dksX4_step_0 18 rfl rfl)
theorem dX4_step_19 : decode cX4_step 19 = .ok (.iload 4, 2) := dk_21 4 (dk_at dksX4_step_0 19 rfl rfl)
theorem dX4_step_21 : decode cX4_step 21 = .ok (.invokevirtual 78, 3) := dk_182 0 78 (dk_at dksX4_step_0 21 rfl rfl)
theorem dX4_step_24 : decode cX4_step 24 = .ok (.ifCond .eq 26, 3) := dk_153 0 26 (dk_at dksX4_step_1 0 rfl rfl)
theorem dX4_step_27 : decode cX4_step 27 = .ok (.aload_n 0, 1) := dk_42 (dk_at dksX4_step_1 3 rfl rfl)
theorem dX4_step_28 : decode cX4_step 28 = .ok (.getfield 39, 3) := dk_180 0 39 (dk_at dksX4_step_1 4 rfl rfl)
theorem dX4_step_31 : decode cX4_step 31 = .ok (.iload 4, 2) := dk_21 4 (dk_at dksX4_step_1 7 rfl rfl)
theorem dX4_step_33 : decode cX4_step 33 = .ok (.aaload, 1) := dk_50 (dk_at dksX4_step_1 9 rfl rfl)
theorem dX4_step_34 : decode cX4_step 34 = .ok (.iload_n 2, 1) := dk_28 (dk_at dksX4_step_1 10 rfl rfl)
theorem dX4_step_35 : decode cX4_step 35 = .ok (.iaload, 1) := dk_46 (dk_at dksX4_step_1 11 rfl rfl)
theorem dX4_step_36 : decode cX4_step 36 = .ok (.aload_n 0, 1) := dk_42 (dk_at dksX4_step_1 12 rfl rfl)
theorem dX4_step_37 : decode cX4_step 37 = .ok (.getfield 39, 3) := dk_180 0 39 (dk_at dksX4_step_1 13 rfl rfl)
theorem dX4_step_40 : decode cX4_step 40 = .ok (.iload_n 3, 1) := dk_29 (dk_at dksX4_step_1 16 rfl rfl)
theorem dX4_step_41 : decode cX4_step 41 = .ok (.aaload, 1) := dk_50 (dk_at dksX4_step_1 17 rfl rfl)
theorem dX4_step_42 : decode cX4_step 42 = .ok (.iload_n 2, 1) := dk_28 (dk_at dksX4_step_1 18 rfl rfl)
theorem dX4_step_43 : decode cX4_step 43 = .ok (.iaload, 1) := dk_46 (dk_at dksX4_step_1 19 rfl rfl)
theorem dX4_step_44 : decode cX4_step 44 = .ok (.if_icmp .ge 6, 3) := dk_162 0 6 (dk_at dksX4_step_1 20 rfl rfl)
theorem dX4_step_47 : decode cX4_step 47 = .ok (.iload 4, 2) := dk_21 4 (dk_at dksX4_step_2 0 rfl rfl)
theorem dX4_step_49 : decode cX4_step 49 = .ok (.istore_n 3, 1) := dk_62 (dk_at dksX4_step_2 2 rfl rfl)
theorem dX4_step_50 : decode cX4_step 50 = .ok (.iinc 4 1, 3) := dk_132 4 1 (dk_at dksX4_step_2 3 rfl rfl)
theorem dX4_step_53 : decode cX4_step 53 = .ok (.goto (-48), 3) := dk_167 255 208 (dk_at dksX4_step_2 6 rfl rfl)
theorem dX4_step_56 : decode cX4_step 56 = .ok (.iload_n 3, 1) := dk_29 (dk_at dksX4_step_2 9 rfl rfl)
theorem dX4_step_57 : decode cX4_step 57 = .ok (.ireturn, 1) := dk_172 (dk_at dksX4_step_2 10 rfl rfl)
abbrev cX4_isHour : ByteArray := prog_15_method_6_code
def yX4_isHour : MethodName := ⟨RX4, "isHour", "(I)Z"⟩
def dkwX4_isHour_0 : List UInt8 := [27, 42, 180, 0, 42, 161, 0, 15, 27, 42, 180, 0, 46, 162, 0, 7, 4, 167, 0, 4, 3, 172]
abbrev dktX4_isHour_0 : List UInt8 := dkwX4_isHour_0 ++ []
theorem dksX4_isHour_0 : cX4_isHour.data.toList.drop 0 = dktX4_isHour_0 := by decide +kernel
theorem dX4_isHour_0 : decode cX4_isHour 0 = .ok (.iload_n 1, 1) := dk_27 (dk_at dksX4_isHour_0 0 rfl rfl)
theorem dX4_isHour_1 : decode cX4_isHour 1 = .ok (.aload_n 0, 1) := dk_42 (dk_at dksX4_isHour_0 1 rfl rfl)
theorem dX4_isHour_2 : decode cX4_isHour 2 = .ok (.getfield 42, 3) := dk_180 0 42 (dk_at dksX4_isHour_0 2 rfl rfl)
theorem dX4_isHour_5 : decode cX4_isHour 5 = .ok (.if_icmp .lt 15, 3) := dk_161 0 15 (dk_at dksX4_isHour_0 5 rfl rfl)
theorem dX4_isHour_8 : decode cX4_isHour 8 = .ok (.iload_n 1, 1) := dk_27 (dk_at dksX4_isHour_0 8 rfl rfl)
theorem dX4_isHour_9 : decode cX4_isHour 9 = .ok (.aload_n 0, 1) := dk_42 (dk_at dksX4_isHour_0 9 rfl rfl)
theorem dX4_isHour_10 : decode cX4_isHour 10 = .ok (.getfield 46, 3) := dk_180 0 46 (dk_at dksX4_isHour_0 10 rfl rfl)
theorem dX4_isHour_13 : decode cX4_isHour 13 = .ok (.if_icmp .ge 7, 3) := dk_162 0 7 (dk_at dksX4_isHour_0 13 rfl rfl)
theorem dX4_isHour_16 : decode cX4_isHour 16 = .ok (.iconst 1, 1) := dk_4 (dk_at dksX4_isHour_0 16 rfl rfl)
theorem dX4_isHour_17 : decode cX4_isHour 17 = .ok (.goto 4, 3) := dk_167 0 4 (dk_at dksX4_isHour_0 17 rfl rfl)
theorem dX4_isHour_20 : decode cX4_isHour 20 = .ok (.iconst 0, 1) := dk_3 (dk_at dksX4_isHour_0 20 rfl rfl)
theorem dX4_isHour_21 : decode cX4_isHour 21 = .ok (.ireturn, 1) := dk_172 (dk_at dksX4_isHour_0 21 rfl rfl)
theorem q128 : (Jvm.Cond.initialized "DogsHour$Text") ∈ lw_all := lw_g (lw_at lw_m1 8 rfl) rfl
theorem q332 : (Jvm.Cond.instantiable "DogsHour$Text" (12 : Nat)) ∈ lw_all := lw_g (lw_at lw_m1 212 rfl) rfl
theorem q334 : (Jvm.Cond.instanceMethod ({ cls := "DogsHour$Text", name := "<init>", desc := "()V" } : Jvm.MethodName)) ∈ lw_all := lw_g (lw_at lw_m1 214 rfl) rfl
theorem q335 : (Jvm.Cond.code ({ cls := "DogsHour$Text", name := "<init>", desc := "()V" } : Jvm.MethodName) prog_15_method_1_code (1 : Nat) (Option.none : Option Jvm.ClassFile.FieldType)) ∈ lw_all := lw_g (lw_at lw_m1 215 rfl) rfl
theorem q336 : (Jvm.Cond.methodLink "DogsHour$Text" (3 : Nat) ({ cls := "java/lang/Object", name := "<init>", desc := "()V" } : Jvm.MethodName)) ∈ lw_all := lw_g (lw_at lw_m1 216 rfl) rfl
theorem q337 : (Jvm.Cond.classLink "DogsHour$Text" (9 : Nat) "java/util/ArrayList") ∈ lw_all := lw_g (lw_at lw_m1 217 rfl) rfl
theorem q339 : (Jvm.Cond.methodLink "DogsHour$Text" (11 : Nat) ({ cls := "java/util/ArrayList", name := "<init>", desc := "()V" } : Jvm.MethodName)) ∈ lw_all := lw_g (lw_at lw_m1 219 rfl) rfl
theorem q363 : (Jvm.Cond.classLink "DogsHour$Text" (31 : Nat) "DogsHour$Law") ∈ lw_all := lw_g (lw_at lw_m2 3 rfl) rfl
theorem q365 : (Jvm.Cond.classLink "DogsHour$Text" (37 : Nat) "[[I") ∈ lw_all := lw_g (lw_at lw_m2 5 rfl) rfl
theorem q367 : (Jvm.Cond.fieldLink "DogsHour$Text" (12 : Nat) "DogsHour$Text" "spots" "Ljava/util/ArrayList;") ∈ lw_all := lw_g (lw_at lw_m2 7 rfl) rfl
theorem q370 : (Jvm.Cond.fieldLink "DogsHour$Text" (18 : Nat) "DogsHour$Text" "dogs" "Ljava/util/ArrayList;") ∈ lw_all := lw_g (lw_at lw_m2 10 rfl) rfl
theorem q375 : (Jvm.Cond.fieldLink "DogsHour$Text" (21 : Nat) "DogsHour$Text" "people" "Ljava/util/ArrayList;") ∈ lw_all := lw_g (lw_at lw_m2 15 rfl) rfl
theorem q379 : (Jvm.Cond.fieldLink "DogsHour$Text" (24 : Nat) "DogsHour$Text" "errandOf" "[I") ∈ lw_all := lw_g (lw_at lw_m2 19 rfl) rfl
theorem q383 : (Jvm.Cond.fieldLink "DogsHour$Text" (28 : Nat) "DogsHour$Text" "errandAt" "[I") ∈ lw_all := lw_g (lw_at lw_m2 23 rfl) rfl
theorem q387 : (Jvm.Cond.fieldLink "DogsHour$Text" (33 : Nat) "DogsHour$Text" "laws" "[LDogsHour$Law;") ∈ lw_all := lw_g (lw_at lw_m2 27 rfl) rfl
theorem q390 : (Jvm.Cond.fieldLink "DogsHour$Text" (39 : Nat) "DogsHour$Text" "far" "[[I") ∈ lw_all := lw_g (lw_at lw_m2 30 rfl) rfl
theorem q398 : (Jvm.Cond.fieldLink "DogsHour$Text" (42 : Nat) "DogsHour$Text" "from" "I") ∈ lw_all := lw_g (lw_at lw_m2 38 rfl) rfl
theorem q401 : (Jvm.Cond.fieldLink "DogsHour$Text" (46 : Nat) "DogsHour$Text" "till" "I") ∈ lw_all := lw_g (lw_at lw_m2 41 rfl) rfl
theorem q406 : (Jvm.Cond.laysFinal "DogsHour$Text" "DogsHour$Text" "spots" "Ljava/util/ArrayList;") ∈ lw_all := lw_g (lw_at lw_m2 46 rfl) rfl
theorem q407 : (Jvm.Cond.soleField "DogsHour$Text" "spots") ∈ lw_all := lw_g (lw_at lw_m2 47 rfl) rfl
theorem q408 : (Jvm.Cond.laysFinal "DogsHour$Text" "DogsHour$Text" "dogs" "Ljava/util/ArrayList;") ∈ lw_all := lw_g (lw_at lw_m2 48 rfl) rfl
theorem q409 : (Jvm.Cond.soleField "DogsHour$Text" "dogs") ∈ lw_all := lw_g (lw_at lw_m2 49 rfl) rfl
theorem q410 : (Jvm.Cond.laysFinal "DogsHour$Text" "DogsHour$Text" "people" "Ljava/util/ArrayList;") ∈ lw_all := lw_g (lw_at lw_m2 50 rfl) rfl
theorem q411 : (Jvm.Cond.soleField "DogsHour$Text" "people") ∈ lw_all := lw_g (lw_at lw_m2 51 rfl) rfl
theorem q412 : (Jvm.Cond.laysFinal "DogsHour$Text" "DogsHour$Text" "errandOf" "[I") ∈ lw_all := lw_g (lw_at lw_m2 52 rfl) rfl
theorem q413 : (Jvm.Cond.soleField "DogsHour$Text" "errandOf") ∈ lw_all := lw_g (lw_at lw_m2 53 rfl) rfl
theorem q414 : (Jvm.Cond.laysFinal "DogsHour$Text" "DogsHour$Text" "errandAt" "[I") ∈ lw_all := lw_g (lw_at lw_m2 54 rfl) rfl
theorem q415 : (Jvm.Cond.soleField "DogsHour$Text" "errandAt") ∈ lw_all := lw_g (lw_at lw_m2 55 rfl) rfl
theorem q416 : (Jvm.Cond.laysFinal "DogsHour$Text" "DogsHour$Text" "laws" "[LDogsHour$Law;") ∈ lw_all := lw_g (lw_at lw_m2 56 rfl) rfl
theorem q417 : (Jvm.Cond.soleField "DogsHour$Text" "laws") ∈ lw_all := lw_g (lw_at lw_m2 57 rfl) rfl
theorem q418 : (Jvm.Cond.laysFinal "DogsHour$Text" "DogsHour$Text" "far" "[[I") ∈ lw_all := lw_g (lw_at lw_m2 58 rfl) rfl
theorem q419 : (Jvm.Cond.soleField "DogsHour$Text" "far") ∈ lw_all := lw_g (lw_at lw_m2 59 rfl) rfl
theorem q420 : (Jvm.Cond.lays "DogsHour$Text" "DogsHour$Text" "paths" "I") ∈ lw_all := lw_g (lw_at lw_m2 60 rfl) rfl
theorem q421 : (Jvm.Cond.soleField "DogsHour$Text" "paths") ∈ lw_all := lw_g (lw_at lw_m2 61 rfl) rfl
theorem q422 : (Jvm.Cond.lays "DogsHour$Text" "DogsHour$Text" "errands" "I") ∈ lw_all := lw_g (lw_at lw_m2 62 rfl) rfl
theorem q423 : (Jvm.Cond.soleField "DogsHour$Text" "errands") ∈ lw_all := lw_g (lw_at lw_m2 63 rfl) rfl
theorem q424 : (Jvm.Cond.lays "DogsHour$Text" "DogsHour$Text" "from" "I") ∈ lw_all := lw_g (lw_at lw_m2 64 rfl) rfl
theorem q425 : (Jvm.Cond.soleField "DogsHour$Text" "from") ∈ lw_all := lw_g (lw_at lw_m2 65 rfl) rfl
theorem q426 : (Jvm.Cond.lays "DogsHour$Text" "DogsHour$Text" "till" "I") ∈ lw_all := lw_g (lw_at lw_m2 66 rfl) rfl
theorem q427 : (Jvm.Cond.soleField "DogsHour$Text" "till") ∈ lw_all := lw_g (lw_at lw_m2 67 rfl) rfl
theorem q428 : (Jvm.Cond.lays "DogsHour$Text" "DogsHour$Text" "begins" "I") ∈ lw_all := lw_g (lw_at lw_m2 68 rfl) rfl
theorem q429 : (Jvm.Cond.soleField "DogsHour$Text" "begins") ∈ lw_all := lw_g (lw_at lw_m2 69 rfl) rfl
theorem q430 : (Jvm.Cond.superclass "DogsHour$Text" "java/lang/Object") ∈ lw_all := lw_g (lw_at lw_m2 70 rfl) rfl
theorem q1013 : (Jvm.Cond.instanceMethod ({ cls := "DogsHour$Text", name := "has", desc := "(Ljava/lang/String;)Z" } : Jvm.MethodName)) ∈ lw_all := lw_g (lw_at lw_m4 173 rfl) rfl
theorem q1014 : (Jvm.Cond.selects "DogsHour$Text" ({ cls := "DogsHour$Text", name := "has", desc := "(Ljava/lang/String;)Z" } : Jvm.MethodName) ({ cls := "DogsHour$Text", name := "has", desc := "(Ljava/lang/String;)Z" } : Jvm.MethodName)) ∈ lw_all := lw_g (lw_at lw_m4 174 rfl) rfl
theorem q1015 : (Jvm.Cond.code ({ cls := "DogsHour$Text", name := "has", desc := "(Ljava/lang/String;)Z" } : Jvm.MethodName) prog_15_method_3_code (2 : Nat) (Option.some Jvm.ClassFile.FieldType.boolean)) ∈ lw_all := lw_g (lw_at lw_m4 175 rfl) rfl
theorem q1016 : (Jvm.Cond.methodLink "DogsHour$Text" (69 : Nat) ({ cls := "DogsHour$Text", name := "at", desc := "(Ljava/util/ArrayList;Ljava/lang/String;)I" } : Jvm.MethodName)) ∈ lw_all := lw_g (lw_at lw_m4 176 rfl) rfl
theorem q1017 : (Jvm.Cond.static ({ cls := "DogsHour$Text", name := "at", desc := "(Ljava/util/ArrayList;Ljava/lang/String;)I" } : Jvm.MethodName)) ∈ lw_all := lw_g (lw_at lw_m4 177 rfl) rfl
theorem q1018 : (Jvm.Cond.code ({ cls := "DogsHour$Text", name := "at", desc := "(Ljava/util/ArrayList;Ljava/lang/String;)I" } : Jvm.MethodName) prog_15_method_2_code (3 : Nat) (Option.some Jvm.ClassFile.FieldType.int)) ∈ lw_all := lw_g (lw_at lw_m4 178 rfl) rfl
theorem q1019 : (Jvm.Cond.methodLink "DogsHour$Text" (49 : Nat) ({ cls := "java/util/ArrayList", name := "size", desc := "()I" } : Jvm.MethodName)) ∈ lw_all := lw_g (lw_at lw_m4 179 rfl) rfl
theorem q1020 : (Jvm.Cond.methodLink "DogsHour$Text" (53 : Nat) ({ cls := "java/util/ArrayList", name := "get", desc := "(I)Ljava/lang/Object;" } : Jvm.MethodName)) ∈ lw_all := lw_g (lw_at lw_m4 180 rfl) rfl
theorem q1021 : (Jvm.Cond.classLink "DogsHour$Text" (57 : Nat) "DogsHour$Named") ∈ lw_all := lw_g (lw_at lw_m4 181 rfl) rfl
theorem q1022 : (Jvm.Cond.methodLink "DogsHour$Text" (63 : Nat) ({ cls := "java/lang/String", name := "equals", desc := "(Ljava/lang/Object;)Z" } : Jvm.MethodName)) ∈ lw_all := lw_g (lw_at lw_m4 182 rfl) rfl
theorem q1041 : (Jvm.Cond.fieldLink "DogsHour$Text" (75 : Nat) "DogsHour$Spot" "next" "I") ∈ lw_all := lw_g (lw_at lw_m4 201 rfl) rfl
theorem q1045 : (Jvm.Cond.fieldLink "DogsHour$Text" (59 : Nat) "DogsHour$Named" "name" "Ljava/lang/String;") ∈ lw_all := lw_g (lw_at lw_m4 205 rfl) rfl
theorem q1086 : (Jvm.Cond.selects "DogsHour$Text" ({ cls := "java/lang/Object", name := "getClass", desc := "()Ljava/lang/Class;" } : Jvm.MethodName) ({ cls := "java/lang/Object", name := "getClass", desc := "()Ljava/lang/Class;" } : Jvm.MethodName)) ∈ lw_all := lw_g (lw_at lw_m5 6 rfl) rfl
theorem q1113 : (Jvm.Cond.instanceMethod ({ cls := "DogsHour$Text", name := "areNext", desc := "(II)Z" } : Jvm.MethodName)) ∈ lw_all := lw_g (lw_at lw_m5 33 rfl) rfl
theorem q1114 : (Jvm.Cond.selects "DogsHour$Text" ({ cls := "DogsHour$Text", name := "areNext", desc := "(II)Z" } : Jvm.MethodName) ({ cls := "DogsHour$Text", name := "areNext", desc := "(II)Z" } : Jvm.MethodName)) ∈ lw_all := lw_g (lw_at lw_m5 34 rfl) rfl
theorem q1115 : (Jvm.Cond.code ({ cls := "DogsHour$Text", name := "areNext", desc := "(II)Z" } : Jvm.MethodName) prog_15_method_4_code (3 : Nat) (Option.some Jvm.ClassFile.FieldType.boolean)) ∈ lw_all := lw_g (lw_at lw_m5 35 rfl) rfl
theorem q1116 : (Jvm.Cond.classLink "DogsHour$Text" (73 : Nat) "DogsHour$Spot") ∈ lw_all := lw_g (lw_at lw_m5 36 rfl) rfl
theorem q1171 : (Jvm.Cond.instanceMethod ({ cls := "DogsHour$Text", name := "laysFar", desc := "()V" } : Jvm.MethodName)) ∈ lw_all := lw_g (lw_at lw_m5 91 rfl) rfl
theorem q1172 : (Jvm.Cond.selects "DogsHour$Text" ({ cls := "DogsHour$Text", name := "laysFar", desc := "()V" } : Jvm.MethodName) ({ cls := "DogsHour$Text", name := "laysFar", desc := "()V" } : Jvm.MethodName)) ∈ lw_all := lw_g (lw_at lw_m5 92 rfl) rfl
theorem q1173 : (Jvm.Cond.code ({ cls := "DogsHour$Text", name := "laysFar", desc := "()V" } : Jvm.MethodName) prog_15_method_5_code (4 : Nat) (Option.none : Option Jvm.ClassFile.FieldType)) ∈ lw_all := lw_g (lw_at lw_m5 93 rfl) rfl
theorem q1174 : (Jvm.Cond.methodLink "DogsHour$Text" (78 : Nat) ({ cls := "DogsHour$Text", name := "areNext", desc := "(II)Z" } : Jvm.MethodName)) ∈ lw_all := lw_g (lw_at lw_m5 94 rfl) rfl
theorem q1175 : (Jvm.Cond.constant "DogsHour$Text" (82 : Nat) (1000000 : Int32)) ∈ lw_all := lw_g (lw_at lw_m5 95 rfl) rfl
theorem q1176 : (Jvm.Cond.methodLink "DogsHour$Text" (83 : Nat) ({ cls := "java/lang/Math", name := "min", desc := "(II)I" } : Jvm.MethodName)) ∈ lw_all := lw_g (lw_at lw_m5 96 rfl) rfl
theorem q1334 : (Jvm.Cond.instanceMethod ({ cls := "DogsHour$Text", name := "step", desc := "(II)I" } : Jvm.MethodName)) ∈ lw_all := lw_g (lw_at lw_m6 14 rfl) rfl
theorem q1335 : (Jvm.Cond.selects "DogsHour$Text" ({ cls := "DogsHour$Text", name := "step", desc := "(II)I" } : Jvm.MethodName) ({ cls := "DogsHour$Text", name := "step", desc := "(II)I" } : Jvm.MethodName)) ∈ lw_all := lw_g (lw_at lw_m6 15 rfl) rfl
theorem q1336 : (Jvm.Cond.code ({ cls := "DogsHour$Text", name := "step", desc := "(II)I" } : Jvm.MethodName) prog_15_method_7_code (5 : Nat) (Option.some Jvm.ClassFile.FieldType.int)) ∈ lw_all := lw_g (lw_at lw_m6 16 rfl) rfl
theorem q1338 : (Jvm.Cond.instanceMethod ({ cls := "DogsHour$Text", name := "isHour", desc := "(I)Z" } : Jvm.MethodName)) ∈ lw_all := lw_g (lw_at lw_m6 18 rfl) rfl
theorem q1339 : (Jvm.Cond.selects "DogsHour$Text" ({ cls := "DogsHour$Text", name := "isHour", desc := "(I)Z" } : Jvm.MethodName) ({ cls := "DogsHour$Text", name := "isHour", desc := "(I)Z" } : Jvm.MethodName)) ∈ lw_all := lw_g (lw_at lw_m6 19 rfl) rfl
theorem q1340 : (Jvm.Cond.code ({ cls := "DogsHour$Text", name := "isHour", desc := "(I)Z" } : Jvm.MethodName) prog_15_method_6_code (2 : Nat) (Option.some Jvm.ClassFile.FieldType.boolean)) ∈ lw_all := lw_g (lw_at lw_m6 20 rfl) rfl
theorem q2180 : (Jvm.Cond.castable "DogsHour$Text" "java/lang/Object") ∈ lw_tbl := lw_at lw_m9 140 rfl
theorem in_X4 : ∀ w ∈ wsX40, w ∈ lw_all := lw_in wsX40 [406, 408, 410, 412, 414, 416, 418, 420, 422, 424, 426, 428] (by decide +kernel) (by decide +kernel)
/-! DogsHour$Town -/
set_option maxRecDepth 100000
def RX5 : String := "DogsHour$Town"
def TX5 : u_T := fun k => match k with
  | 0 => ("DogsHour$Town", "dogAt", "[I", true)
  | 1 => ("DogsHour$Town", "taken", "[I", true)
  | 2 => ("DogsHour$Town", "took", "[I", true)
  | 3 => ("DogsHour$Town", "at", "[I", true)
  | 4 => ("DogsHour$Town", "goal", "[I", true)
  | 5 => ("DogsHour$Town", "pocket", "[I", true)
  | 6 => ("DogsHour$Town", "often", "[I", true)
  | 7 => ("DogsHour$Town", "fed", "[[I", true)
  | 8 => ("DogsHour$Town", "kicked", "[[I", true)
  | 9 => ("DogsHour$Town", "fetched", "I", false)
  | 10 => ("DogsHour$Town", "done", "I", false)
  | 11 => ("DogsHour$Town", "time", "I", false)
  | 12 => ("DogsHour$Town", "fading", "[I", true)
  | _ => ("DogsHour$Town", "asked", "LDogsHour$Asked;", true)
def tyX5 : Nat → FieldType := fun k => match k with
  | 0 => .array .int
  | 1 => .array .int
  | 2 => .array .int
  | 3 => .array .int
  | 4 => .array .int
  | 5 => .array .int
  | 6 => .array .int
  | 7 => .array (.array .int)
  | 8 => .array (.array .int)
  | 9 => .int
  | 10 => .int
  | 11 => .int
  | 12 => .array .int
  | _ => .object "DogsHour$Asked"
abbrev wsX50 : List Cond := u_ws RX5 TX5 14
set_option maxRecDepth 100000 in
theorem nmX5 : ∀ a, a < 14 → ∀ b, b < 14 → a ≠ b → (TX5 a).2.1 ≠ (TX5 b).2.1 := by decide +kernel
set_option maxRecDepth 100000 in
theorem tyX5_ok : ∀ k, k < 14 → parseFieldDescriptor (TX5 k).2.2.1 = some (tyX5 k) := by decide +kernel
abbrev cX5_init : ByteArray := prog_18_method_1_code
def yX5_init : MethodName := ⟨RX5, "<init>", "()V"⟩
def dkwX5_init_3 : List UInt8 := [181, 0, 38, 42, 7, 188, 10, 181, 0, 41, 42, 187, 0, 44, 89, 183, 0, 46, 181, 0, 47, 177]
abbrev dktX5_init_3 : List UInt8 := dkwX5_init_3 ++ []
def dkwX5_init_2 : List UInt8 := [42, 7, 188, 10, 181, 0, 30, 42, 8, 7, 197, 0, 33, 2, 181, 0, 35, 42, 8, 7, 197, 0, 33, 2]
abbrev dktX5_init_2 : List UInt8 := dkwX5_init_2 ++ dktX5_init_3
def dkwX5_init_1 : List UInt8 := [181, 0, 18, 42, 7, 188, 10, 181, 0, 21, 42, 7, 188, 10, 181, 0, 24, 42, 7, 188, 10, 181, 0, 27]
abbrev dktX5_init_1 : List UInt8 := dkwX5_init_1 ++ dktX5_init_2
def dkwX5_init_0 : List UInt8 := [42, 183, 0, 3, 42, 8, 188, 10, 181, 0, 9, 42, 8, 188, 10, 181, 0, 15, 42, 8, 188, 10]
abbrev dktX5_init_0 : List UInt8 := dkwX5_init_0 ++ dktX5_init_1
theorem dksX5_init_0 : cX5_init.data.toList.drop 0 = dktX5_init_0 := by decide +kernel
theorem dksX5_init_1 : cX5_init.data.toList.drop 22 = dktX5_init_1 := dk_seg dksX5_init_0 22 rfl rfl
theorem dksX5_init_2 : cX5_init.data.toList.drop 46 = dktX5_init_2 := dk_seg dksX5_init_1 24 rfl rfl
theorem dksX5_init_3 : cX5_init.data.toList.drop 70 = dktX5_init_3 := dk_seg dksX5_init_2 24 rfl rfl
theorem dX5_init_0 : decode cX5_init 0 = .ok (.aload_n 0, 1) := dk_42 (dk_at dksX5_init_0 0 rfl rfl)
theorem dX5_init_1 : decode cX5_init 1 = .ok (.invokespecial 3, 3) := dk_183 0 3 (dk_at dksX5_init_0 1 rfl rfl)
theorem dX5_init_4 : decode cX5_init 4 = .ok (.aload_n 0, 1) := dk_42 (dk_at dksX5_init_0 4 rfl rfl)
theorem dX5_init_5 : decode cX5_init 5 = .ok (.iconst 5, 1) := dk_8 (dk_at dksX5_init_0 5 rfl rfl)
theorem dX5_init_6 : decode cX5_init 6 = .ok (.newarray .int, 2) := dk_188_10 (dk_at dksX5_init_0 6 rfl rfl)
theorem dX5_init_8 : decode cX5_init 8 = .ok (.putfield 9, 3) := dk_181 0 9 (dk_at dksX5_init_0 8 rfl rfl)
theorem dX5_init_11 : decode cX5_init 11 = .ok (.aload_n 0, 1) := dk_42 (dk_at dksX5_init_0 11 rfl rfl)
theorem dX5_init_12 : decode cX5_init 12 = .ok (.iconst 5, 1) := dk_8 (dk_at dksX5_init_0 12 rfl rfl)
theorem dX5_init_13 : decode cX5_init 13 = .ok (.newarray .int, 2) := dk_188_10 (dk_at dksX5_init_0 13 rfl rfl)
theorem dX5_init_15 : decode cX5_init 15 = .ok (.putfield 15, 3) := dk_181 0 15 (dk_at dksX5_init_0 15 rfl rfl)
theorem dX5_init_18 : decode cX5_init 18 = .ok (.aload_n 0, 1) := dk_42 (dk_at dksX5_init_0 18 rfl rfl)
theorem dX5_init_19 : decode cX5_init 19 = .ok (.iconst 5, 1) := dk_8 (dk_at dksX5_init_0 19 rfl rfl)
theorem dX5_init_20 : decode cX5_init 20 = .ok (.newarray .int, 2) := dk_188_10 (dk_at dksX5_init_0 20 rfl rfl)
theorem dX5_init_22 : decode cX5_init 22 = .ok (.putfield 18, 3) := dk_181 0 18 (dk_at dksX5_init_1 0 rfl rfl)
theorem dX5_init_25 : decode cX5_init 25 = .ok (.aload_n 0, 1) := dk_42 (dk_at dksX5_init_1 3 rfl rfl)
theorem dX5_init_26 : decode cX5_init 26 = .ok (.iconst 4, 1) := dk_7 (dk_at dksX5_init_1 4 rfl rfl)
theorem dX5_init_27 : decode cX5_init 27 = .ok (.newarray .int, 2) := dk_188_10 (dk_at dksX5_init_1 5 rfl rfl)
theorem dX5_init_29 : decode cX5_init 29 = .ok (.putfield 21, 3) := dk_181 0 21 (dk_at dksX5_init_1 7 rfl rfl)
theorem dX5_init_32 : decode cX5_init 32 = .ok (.aload_n 0, 1) := dk_42 (dk_at dksX5_init_1 10 rfl rfl)
theorem dX5_init_33 : decode cX5_init 33 = .ok (.iconst 4, 1) := dk_7 (dk_at dksX5_init_1 11 rfl rfl)
theorem dX5_init_34 : decode cX5_init 34 = .ok (.newarray .int, 2) := dk_188_10 (dk_at dksX5_init_1 12 rfl rfl)
theorem dX5_init_36 : decode cX5_init 36 = .ok (.putfield 24, 3) := dk_181 0 24 (dk_at dksX5_init_1 14 rfl rfl)
theorem dX5_init_39 : decode cX5_init 39 = .ok (.aload_n 0, 1) := dk_42 (dk_at dksX5_init_1 17 rfl rfl)
theorem dX5_init_40 : decode cX5_init 40 = .ok (.iconst 4, 1) := dk_7 (dk_at dksX5_init_1 18 rfl rfl)
theorem dX5_init_41 : decode cX5_init 41 = .ok (.newarray .int, 2) := dk_188_10 (dk_at dksX5_init_1 19 rfl rfl)
theorem dX5_init_43 : decode cX5_init 43 = .ok (.putfield 27, 3) := dk_181 0 27 (dk_at dksX5_init_1 21 rfl rfl)
theorem dX5_init_46 : decode cX5_init 46 = .ok (.aload_n 0, 1) := dk_42 (dk_at dksX5_init_2 0 rfl rfl)
theorem dX5_init_47 : decode cX5_init 47 = .ok (.iconst 4, 1) := dk_7 (dk_at dksX5_init_2 1 rfl rfl)
theorem dX5_init_48 : decode cX5_init 48 = .ok (.newarray .int, 2) := dk_188_10 (dk_at dksX5_init_2 2 rfl rfl)
theorem dX5_init_50 : decode cX5_init 50 = .ok (.putfield 30, 3) := dk_181 0 30 (dk_at dksX5_init_2 4 rfl rfl)
theorem dX5_init_53 : decode cX5_init 53 = .ok (.aload_n 0, 1) := dk_42 (dk_at dksX5_init_2 7 rfl rfl)
theorem dX5_init_54 : decode cX5_init 54 = .ok (.iconst 5, 1) := dk_8 (dk_at dksX5_init_2 8 rfl rfl)
theorem dX5_init_55 : decode cX5_init 55 = .ok (.iconst 4, 1) := dk_7 (dk_at dksX5_init_2 9 rfl rfl)
theorem dX5_init_56 : decode cX5_init 56 = .ok (.multianewarray 33 2, 4) := by decide +kernel
theorem dX5_init_60 : decode cX5_init 60 = .ok (.putfield 35, 3) := dk_181 0 35 (dk_at dksX5_init_2 14 rfl rfl)
theorem dX5_init_63 : decode cX5_init 63 = .ok (.aload_n 0, 1) := dk_42 (dk_at dksX5_init_2 17 rfl rfl)
theorem dX5_init_64 : decode cX5_init 64 = .ok (.iconst 5, 1) := dk_8 (dk_at dksX5_init_2 18 rfl rfl)
theorem dX5_init_65 : decode cX5_init 65 = .ok (.iconst 4, 1) := dk_7 (dk_at dksX5_init_2 19 rfl rfl)
theorem dX5_init_66 : decode cX5_init 66 = .ok (.multianewarray 33 2, 4) := by decide +kernel
theorem dX5_init_70 : decode cX5_init 70 = .ok (.putfield 38, 3) := dk_181 0 38 (dk_at dksX5_init_3 0 rfl rfl)
theorem dX5_init_73 : decode cX5_init 73 = .ok (.aload_n 0, 1) := dk_42 (dk_at dksX5_init_3 3 rfl rfl)
theorem dX5_init_74 : decode cX5_init 74 = .ok (.iconst 4, 1) := dk_7 (dk_at dksX5_init_3 4 rfl rfl)
theorem dX5_init_75 : decode cX5_init 75 = .ok (.newarray .int, 2) := dk_188_10 (dk_at dksX5_init_3 5 rfl rfl)
theorem dX5_init_77 : decode cX5_init 77 = .ok (.putfield 41, 3) := dk_181 0 41 (dk_at dksX5_init_3 7 rfl rfl)
theorem dX5_init_80 : decode cX5_init 80 = .ok (.aload_n 0, 1) := dk_42 (dk_at dksX5_init_3 10 rfl rfl)
theorem dX5_init_81 : decode cX5_init 81 = .ok (.new 44, 3) := dk_187 0 44 (dk_at dksX5_init_3 11 rfl rfl)
theorem dX5_init_84 : decode cX5_init 84 = .ok (.dup, 1) := dk_89 (dk_at dksX5_init_3 14 rfl rfl)
theorem dX5_init_85 : decode cX5_init 85 = .ok (.invokespecial 46, 3) := dk_183 0 46 (dk_at dksX5_init_3 15 rfl rfl)
theorem dX5_init_88 : decode cX5_init 88 = .ok (.putfield 47, 3) := dk_181 0 47 (dk_at dksX5_init_3 18 rfl rfl)
theorem dX5_init_91 : decode cX5_init 91 = .ok (.return_, 1) := dk_177 (dk_at dksX5_init_3 21 rfl rfl)
abbrev cX5_begins : ByteArray := prog_18_method_2_code
def yX5_begins : MethodName := ⟨RX5, "begins", "(LDogsHour$Text;)V"⟩
def dkwX5_begins_8 : List UInt8 := [42, 3, 181, 0, 83, 42, 3, 181, 0, 86, 42, 3, 181, 0, 89, 177]
abbrev dktX5_begins_8 : List UInt8 := dkwX5_begins_8 ++ []
def dkwX5_begins_7 : List UInt8 := [192, 0, 76, 180, 0, 81, 167, 0, 4, 3, 79, 42, 180, 0, 30, 28, 3, 79, 132, 2, 1, 167, 255, 163]
abbrev dktX5_begins_7 : List UInt8 := dkwX5_begins_7 ++ dktX5_begins_8
def dkwX5_begins_6 : List UInt8 := [180, 0, 27, 28, 28, 43, 180, 0, 73, 182, 0, 57, 162, 0, 20, 43, 180, 0, 73, 28, 182, 0, 63]
abbrev dktX5_begins_6 : List UInt8 := dkwX5_begins_6 ++ dktX5_begins_7
def dkwX5_begins_5 : List UInt8 := [28, 182, 0, 63, 192, 0, 76, 180, 0, 78, 167, 0, 4, 3, 79, 42, 180, 0, 24, 28, 16, 254, 79, 42]
abbrev dktX5_begins_5 : List UInt8 := dkwX5_begins_5 ++ dktX5_begins_6
def dkwX5_begins_4 : List UInt8 := [7, 162, 0, 94, 42, 180, 0, 21, 28, 28, 43, 180, 0, 73, 182, 0, 57, 162, 0, 20, 43, 180, 0, 73]
abbrev dktX5_begins_4 : List UInt8 := dkwX5_begins_4 ++ dktX5_begins_5
def dkwX5_begins_3 : List UInt8 := [42, 180, 0, 38, 28, 50, 29, 3, 79, 132, 3, 1, 167, 255, 230, 132, 2, 1, 167, 255, 168, 3, 61, 28]
abbrev dktX5_begins_3 : List UInt8 := dkwX5_begins_3 ++ dktX5_begins_4
def dkwX5_begins_2 : List UInt8 := [79, 42, 180, 0, 18, 28, 3, 79, 3, 62, 29, 7, 162, 0, 27, 42, 180, 0, 35, 28, 50, 29, 3, 79]
abbrev dktX5_begins_2 : List UInt8 := dkwX5_begins_2 ++ dktX5_begins_3
def dkwX5_begins_1 : List UInt8 := [180, 0, 51, 28, 182, 0, 63, 192, 0, 67, 180, 0, 69, 167, 0, 4, 3, 79, 42, 180, 0, 15, 28, 3]
abbrev dktX5_begins_1 : List UInt8 := dkwX5_begins_1 ++ dktX5_begins_2
def dkwX5_begins_0 : List UInt8 := [3, 61, 28, 8, 162, 0, 89, 42, 180, 0, 9, 28, 28, 43, 180, 0, 51, 182, 0, 57, 162, 0, 20, 43]
abbrev dktX5_begins_0 : List UInt8 := dkwX5_begins_0 ++ dktX5_begins_1
theorem dksX5_begins_0 : cX5_begins.data.toList.drop 0 = dktX5_begins_0 := by decide +kernel
theorem dksX5_begins_1 : cX5_begins.data.toList.drop 24 = dktX5_begins_1 := dk_seg dksX5_begins_0 24 rfl rfl
theorem dksX5_begins_2 : cX5_begins.data.toList.drop 48 = dktX5_begins_2 := dk_seg dksX5_begins_1 24 rfl rfl
theorem dksX5_begins_3 : cX5_begins.data.toList.drop 72 = dktX5_begins_3 := dk_seg dksX5_begins_2 24 rfl rfl
theorem dksX5_begins_4 : cX5_begins.data.toList.drop 96 = dktX5_begins_4 := dk_seg dksX5_begins_3 24 rfl rfl
theorem dksX5_begins_5 : cX5_begins.data.toList.drop 120 = dktX5_begins_5 := dk_seg dksX5_begins_4 24 rfl rfl
theorem dksX5_begins_6 : cX5_begins.data.toList.drop 144 = dktX5_begins_6 := dk_seg dksX5_begins_5 24 rfl rfl
theorem dksX5_begins_7 : cX5_begins.data.toList.drop 167 = dktX5_begins_7 := dk_seg dksX5_begins_6 23 rfl rfl
theorem dksX5_begins_8 : cX5_begins.data.toList.drop 191 = dktX5_begins_8 := dk_seg dksX5_begins_7 24 rfl rfl
theorem dX5_begins_0 : decode cX5_begins 0 = .ok (.iconst 0, 1) := dk_3 (dk_at dksX5_begins_0 0 rfl rfl)
theorem dX5_begins_1 : decode cX5_begins 1 = .ok (.istore_n 2, 1) := dk_61 (dk_at dksX5_begins_0 1 rfl rfl)
theorem dX5_begins_2 : decode cX5_begins 2 = .ok (.iload_n 2, 1) := dk_28 (dk_at dksX5_begins_0 2 rfl rfl)
theorem dX5_begins_3 : decode cX5_begins 3 = .ok (.iconst 5, 1) := dk_8 (dk_at dksX5_begins_0 3 rfl rfl)
theorem dX5_begins_4 : decode cX5_begins 4 = .ok (.if_icmp .ge 89, 3) := dk_162 0 89 (dk_at dksX5_begins_0 4 rfl rfl)
theorem dX5_begins_7 : decode cX5_begins 7 = .ok (.aload_n 0, 1) := dk_42 (dk_at dksX5_begins_0 7 rfl rfl)
theorem dX5_begins_8 : decode cX5_begins 8 = .ok (.getfield 9, 3) := dk_180 0 9 (dk_at dksX5_begins_0 8 rfl rfl)
theorem dX5_begins_11 : decode cX5_begins 11 = .ok (.iload_n 2, 1) := dk_28 (dk_at dksX5_begins_0 11 rfl rfl)
theorem dX5_begins_12 : decode cX5_begins 12 = .ok (.iload_n 2, 1) := dk_28 (dk_at dksX5_begins_0 12 rfl rfl)
theorem dX5_begins_13 : decode cX5_begins 13 = .ok (.aload_n 1, 1) := dk_43 (dk_at dksX5_begins_0 13 rfl rfl)
theorem dX5_begins_14 : decode cX5_begins 14 = .ok (.getfield 51, 3) := dk_180 0 51 (dk_at dksX5_begins_0 14 rfl rfl)
theorem dX5_begins_17 : decode cX5_begins 17 = .ok (.invokevirtual 57, 3) := dk_182 0 57 (dk_at dksX5_begins_0 17 rfl rfl)
theorem dX5_begins_20 : decode cX5_begins 20 = .ok (.if_icmp .ge 20, 3) := dk_162 0 20 (dk_at dksX5_begins_0 20 rfl rfl)
theorem dX5_begins_23 : decode cX5_begins 23 = .ok (.aload_n 1, 1) := dk_43 (dk_at dksX5_begins_0 23 rfl rfl)
theorem dX5_begins_24 : decode cX5_begins 24 = .ok (.getfield 51, 3) := dk_180 0 51 (dk_at dksX5_begins_1 0 rfl rfl)
theorem dX5_begins_27 : decode cX5_begins 27 = .ok (.iload_n 2, 1) := dk_28 (dk_at dksX5_begins_1 3 rfl rfl)
theorem dX5_begins_28 : decode cX5_begins 28 = .ok (.invokevirtual 63, 3) := dk_182 0 63 (dk_at dksX5_begins_1 4 rfl rfl)
theorem dX5_begins_31 : decode cX5_begins 31 = .ok (.checkcast 67, 3) := dk_192 0 67 (dk_at dksX5_begins_1 7 rfl rfl)
theorem dX5_begins_34 : decode cX5_begins 34 = .ok (.getfield 69, 3) := dk_180 0 69 (dk_at dksX5_begins_1 10 rfl rfl)
theorem dX5_begins_37 : decode cX5_begins 37 = .ok (.goto 4, 3) := dk_167 0 4 (dk_at dksX5_begins_1 13 rfl rfl)
theorem dX5_begins_40 : decode cX5_begins 40 = .ok (.iconst 0, 1) := dk_3 (dk_at dksX5_begins_1 16 rfl rfl)
theorem dX5_begins_41 : decode cX5_begins 41 = .ok (.iastore, 1) := dk_79 (dk_at dksX5_begins_1 17 rfl rfl)
theorem dX5_begins_42 : decode cX5_begins 42 = .ok (.aload_n 0, 1) := dk_42 (dk_at dksX5_begins_1 18 rfl rfl)
theorem dX5_begins_43 : decode cX5_begins 43 = .ok (.getfield 15, 3) := dk_180 0 15 (dk_at dksX5_begins_1 19 rfl rfl)
theorem dX5_begins_46 : decode cX5_begins 46 = .ok (.iload_n 2, 1) := dk_28 (dk_at dksX5_begins_1 22 rfl rfl)
theorem dX5_begins_47 : decode cX5_begins 47 = .ok (.iconst 0, 1) := dk_3 (dk_at dksX5_begins_1 23 rfl rfl)
theorem dX5_begins_48 : decode cX5_begins 48 = .ok (.iastore, 1) := dk_79 (dk_at dksX5_begins_2 0 rfl rfl)
theorem dX5_begins_49 : decode cX5_begins 49 = .ok (.aload_n 0, 1) := dk_42 (dk_at dksX5_begins_2 1 rfl rfl)
theorem dX5_begins_50 : decode cX5_begins 50 = .ok (.getfield 18, 3) := dk_180 0 18 (dk_at dksX5_begins_2 2 rfl rfl)
theorem dX5_begins_53 : decode cX5_begins 53 = .ok (.iload_n 2, 1) := dk_28 (dk_at dksX5_begins_2 5 rfl rfl)
theorem dX5_begins_54 : decode cX5_begins 54 = .ok (.iconst 0, 1) := dk_3 (dk_at dksX5_begins_2 6 rfl rfl)
theorem dX5_begins_55 : decode cX5_begins 55 = .ok (.iastore, 1) := dk_79 (dk_at dksX5_begins_2 7 rfl rfl)
theorem dX5_begins_56 : decode cX5_begins 56 = .ok (.iconst 0, 1) := dk_3 (dk_at dksX5_begins_2 8 rfl rfl)
theorem dX5_begins_57 : decode cX5_begins 57 = .ok (.istore_n 3, 1) := dk_62 (dk_at dksX5_begins_2 9 rfl rfl)
theorem dX5_begins_58 : decode cX5_begins 58 = .ok (.iload_n 3, 1) := dk_29 (dk_at dksX5_begins_2 10 rfl rfl)
theorem dX5_begins_59 : decode cX5_begins 59 = .ok (.iconst 4, 1) := dk_7 (dk_at dksX5_begins_2 11 rfl rfl)
theorem dX5_begins_60 : decode cX5_begins 60 = .ok (.if_icmp .ge 27, 3) := dk_162 0 27 (dk_at dksX5_begins_2 12 rfl rfl)
theorem dX5_begins_63 : decode cX5_begins 63 = .ok (.aload_n 0, 1) := dk_42 (dk_at dksX5_begins_2 15 rfl rfl)
theorem dX5_begins_64 : decode cX5_begins 64 = .ok (.getfield 35, 3) := dk_180 0 35 (dk_at dksX5_begins_2 16 rfl rfl)
theorem dX5_begins_67 : decode cX5_begins 67 = .ok (.iload_n 2, 1) := dk_28 (dk_at dksX5_begins_2 19 rfl rfl)
theorem dX5_begins_68 : decode cX5_begins 68 = .ok (.aaload, 1) := dk_50 (dk_at dksX5_begins_2 20 rfl rfl)
theorem dX5_begins_69 : decode cX5_begins 69 = .ok (.iload_n 3, 1) := dk_29 (dk_at dksX5_begins_2 21 rfl rfl)
theorem dX5_begins_70 : decode cX5_begins 70 = .ok (.iconst 0, 1) := dk_3 (dk_at dksX5_begins_2 22 rfl rfl)
theorem dX5_begins_71 : decode cX5_begins 71 = .ok (.iastore, 1) := dk_79 (dk_at dksX5_begins_2 23 rfl rfl)
theorem dX5_begins_72 : decode cX5_begins 72 = .ok (.aload_n 0, 1) := dk_42 (dk_at dksX5_begins_3 0 rfl rfl)
theorem dX5_begins_73 : decode cX5_begins 73 = .ok (.getfield 38, 3) := dk_180 0 38 (dk_at dksX5_begins_3 1 rfl rfl)
theorem dX5_begins_76 : decode cX5_begins 76 = .ok (.iload_n 2, 1) := dk_28 (dk_at dksX5_begins_3 4 rfl rfl)
theorem dX5_begins_77 : decode cX5_begins 77 = .ok (.aaload, 1) := dk_50 (dk_at dksX5_begins_3 5 rfl rfl)
theorem dX5_begins_78 : decode cX5_begins 78 = .ok (.iload_n 3, 1) := dk_29 (dk_at dksX5_begins_3 6 rfl rfl)
theorem dX5_begins_79 : decode cX5_begins 79 = .ok (.iconst 0, 1) := dk_3 (dk_at dksX5_begins_3 7 rfl rfl)
theorem dX5_begins_80 : decode cX5_begins 80 = .ok (.iastore, 1) := dk_79 (dk_at dksX5_begins_3 8 rfl rfl)
theorem dX5_begins_81 : decode cX5_begins 81 = .ok (.iinc 3 1, 3) := dk_132 3 1 (dk_at dksX5_begins_3 9 rfl rfl)
theorem dX5_begins_84 : decode cX5_begins 84 = .ok (.goto (-26), 3) := dk_167 255 230 (dk_at dksX5_begins_3 12 rfl rfl)
theorem dX5_begins_87 : decode cX5_begins 87 = .ok (.iinc 2 1, 3) := dk_132 2 1 (dk_at dksX5_begins_3 15 rfl rfl)
theorem dX5_begins_90 : decode cX5_begins 90 = .ok (.goto (-88), 3) := dk_167 255 168 (dk_at dksX5_begins_3 18 rfl rfl)
theorem dX5_begins_93 : decode cX5_begins 93 = .ok (.iconst 0, 1) := dk_3 (dk_at dksX5_begins_3 21 rfl rfl)
theorem dX5_begins_94 : decode cX5_begins 94 = .ok (.istore_n 2, 1) := dk_61 (dk_at dksX5_begins_3 22 rfl rfl)
theorem dX5_begins_95 : decode cX5_begins 95 = .ok (.iload_n 2, 1) := dk_28 (dk_at dksX5_begins_3 23 rfl rfl)
theorem dX5_begins_96 : decode cX5_begins 96 = .ok (.iconst 4, 1) := dk_7 (dk_at dksX5_begins_4 0 rfl rfl)
theorem dX5_begins_97 : decode cX5_begins 97 = .ok (.if_icmp .ge 94, 3) := dk_162 0 94 (dk_at dksX5_begins_4 1 rfl rfl)
theorem dX5_begins_100 : decode cX5_begins 100 = .ok (.aload_n 0, 1) := dk_42 (dk_at dksX5_begins_4 4 rfl rfl)
theorem dX5_begins_101 : decode cX5_begins 101 = .ok (.getfield 21, 3) := dk_180 0 21 (dk_at dksX5_begins_4 5 rfl rfl)
theorem dX5_begins_104 : decode cX5_begins 104 = .ok (.iload_n 2, 1) := dk_28 (dk_at dksX5_begins_4 8 rfl rfl)
theorem dX5_begins_105 : decode cX5_begins 105 = .ok (.iload_n 2, 1) := dk_28 (dk_at dksX5_begins_4 9 rfl rfl)
theorem dX5_begins_106 : decode cX5_begins 106 = .ok (.aload_n 1, 1) := dk_43 (dk_at dksX5_begins_4 10 rfl rfl)
theorem dX5_begins_107 : decode cX5_begins 107 = .ok (.getfield 73, 3) := dk_180 0 73 (dk_at dksX5_begins_4 11 rfl rfl)
theorem dX5_begins_110 : decode cX5_begins 110 = .ok (.invokevirtual 57, 3) := dk_182 0 57 (dk_at dksX5_begins_4 14 rfl rfl)
theorem dX5_begins_113 : decode cX5_begins 113 = .ok (.if_icmp .ge 20, 3) := dk_162 0 20 (dk_at dksX5_begins_4 17 rfl rfl)
theorem dX5_begins_116 : decode cX5_begins 116 = .ok (.aload_n 1, 1) := dk_43 (dk_at dksX5_begins_4 20 rfl rfl)
theorem dX5_begins_117 : decode cX5_begins 117 = .ok (.getfield 73, 3) := dk_180 0 73 (dk_at dksX5_begins_4 21 rfl rfl)
theorem dX5_begins_120 : decode cX5_begins 120 = .ok (.iload_n 2, 1) := dk_28 (dk_at dksX5_begins_5 0 rfl rfl)
theorem dX5_begins_121 : decode cX5_begins 121 = .ok (.invokevirtual 63, 3) := dk_182 0 63 (dk_at dksX5_begins_5 1 rfl rfl)
theorem dX5_begins_124 : decode cX5_begins 124 = .ok (.checkcast 76, 3) := dk_192 0 76 (dk_at dksX5_begins_5 4 rfl rfl)
theorem dX5_begins_127 : decode cX5_begins 127 = .ok (.getfield 78, 3) := dk_180 0 78 (dk_at dksX5_begins_5 7 rfl rfl)
theorem dX5_begins_130 : decode cX5_begins 130 = .ok (.goto 4, 3) := dk_167 0 4 (dk_at dksX5_begins_5 10 rfl rfl)
theorem dX5_begins_133 : decode cX5_begins 133 = .ok (.iconst 0, 1) := dk_3 (dk_at dksX5_begins_5 13 rfl rfl)
theorem dX5_begins_134 : decode cX5_begins 134 = .ok (.iastore, 1) := dk_79 (dk_at dksX5_begins_5 14 rfl rfl)
theorem dX5_begins_135 : decode cX5_begins 135 = .ok (.aload_n 0, 1) := dk_42 (dk_at dksX5_begins_5 15 rfl rfl)
theorem dX5_begins_136 : decode cX5_begins 136 = .ok (.getfield 24, 3) := dk_180 0 24 (dk_at dksX5_begins_5 16 rfl rfl)
theorem dX5_begins_139 : decode cX5_begins 139 = .ok (.iload_n 2, 1) := dk_28 (dk_at dksX5_begins_5 19 rfl rfl)
theorem dX5_begins_140 : decode cX5_begins 140 = .ok (.bipush (-2), 2) := dk_16 254 (dk_at dksX5_begins_5 20 rfl rfl)
theorem dX5_begins_142 : decode cX5_begins 142 = .ok (.iastore, 1) := dk_79 (dk_at dksX5_begins_5 22 rfl rfl)
theorem dX5_begins_143 : decode cX5_begins 143 = .ok (.aload_n 0, 1) := dk_42 (dk_at dksX5_begins_5 23 rfl rfl)
theorem dX5_begins_144 : decode cX5_begins 144 = .ok (.getfield 27, 3) := dk_180 0 27 (dk_at dksX5_begins_6 0 rfl rfl)
theorem dX5_begins_147 : decode cX5_begins 147 = .ok (.iload_n 2, 1) := dk_28 (dk_at dksX5_begins_6 3 rfl rfl)
theorem dX5_begins_148 : decode cX5_begins 148 = .ok (.iload_n 2, 1) := dk_28 (dk_at dksX5_begins_6 4 rfl rfl)
theorem dX5_begins_149 : decode cX5_begins 149 = .ok (.aload_n 1, 1) := dk_43 (dk_at dksX5_begins_6 5 rfl rfl)
theorem dX5_begins_150 : decode cX5_begins 150 = .ok (.getfield 73, 3) := dk_180 0 73 (dk_at dksX5_begins_6 6 rfl rfl)
theorem dX5_begins_153 : decode cX5_begins 153 = .ok (.invokevirtual 57, 3) := dk_182 0 57 (dk_at dksX5_begins_6 9 rfl rfl)
theorem dX5_begins_156 : decode cX5_begins 156 = .ok (.if_icmp .ge 20, 3) := dk_162 0 20 (dk_at dksX5_begins_6 12 rfl rfl)
theorem dX5_begins_159 : decode cX5_begins 159 = .ok (.aload_n 1, 1) := dk_43 (dk_at dksX5_begins_6 15 rfl rfl)
theorem dX5_begins_160 : decode cX5_begins 160 = .ok (.getfield 73, 3) := dk_180 0 73 (dk_at dksX5_begins_6 16 rfl rfl)
theorem dX5_begins_163 : decode cX5_begins 163 = .ok (.iload_n 2, 1) := dk_28 (dk_at dksX5_begins_6 19 rfl rfl)
theorem dX5_begins_164 : decode cX5_begins 164 = .ok (.invokevirtual 63, 3) := dk_182 0 63 (dk_at dksX5_begins_6 20 rfl rfl)
theorem dX5_begins_167 : decode cX5_begins 167 = .ok (.checkcast 76, 3) := dk_192 0 76 (dk_at dksX5_begins_7 0 rfl rfl)
theorem dX5_begins_170 : decode cX5_begins 170 = .ok (.getfield 81, 3) := dk_180 0 81 (dk_at dksX5_begins_7 3 rfl rfl)
theorem dX5_begins_173 : decode cX5_begins 173 = .ok (.goto 4, 3) := dk_167 0 4 (dk_at dksX5_begins_7 6 rfl rfl)
theorem dX5_begins_176 : decode cX5_begins 176 = .ok (.iconst 0, 1) := dk_3 (dk_at dksX5_begins_7 9 rfl rfl)
theorem dX5_begins_177 : decode cX5_begins 177 = .ok (.iastore, 1) := dk_79 (dk_at dksX5_begins_7 10 rfl rfl)
theorem dX5_begins_178 : decode cX5_begins 178 = .ok (.aload_n 0, 1) := dk_42 (dk_at dksX5_begins_7 11 rfl rfl)
theorem dX5_begins_179 : decode cX5_begins 179 = .ok (.getfield 30, 3) := dk_180 0 30 (dk_at dksX5_begins_7 12 rfl rfl)
theorem dX5_begins_182 : decode cX5_begins 182 = .ok (.iload_n 2, 1) := dk_28 (dk_at dksX5_begins_7 15 rfl rfl)
theorem dX5_begins_183 : decode cX5_begins 183 = .ok (.iconst 0, 1) := dk_3 (dk_at dksX5_begins_7 16 rfl rfl)
theorem dX5_begins_184 : decode cX5_begins 184 = .ok (.iastore, 1) := dk_79 (dk_at dksX5_begins_7 17 rfl rfl)
theorem dX5_begins_185 : decode cX5_begins 185 = .ok (.iinc 2 1, 3) := dk_132 2 1 (dk_at dksX5_begins_7 18 rfl rfl)
theorem dX5_begins_188 : decode cX5_begins 188 = .ok (.goto (-93), 3) := dk_167 255 163 (dk_at dksX5_begins_7 21 rfl rfl)
theorem dX5_begins_191 : decode cX5_begins 191 = .ok (.aload_n 0, 1) := dk_42 (dk_at dksX5_begins_8 0 rfl rfl)
theorem dX5_begins_192 : decode cX5_begins 192 = .ok (.iconst 0, 1) := dk_3 (dk_at dksX5_begins_8 1 rfl rfl)
theorem dX5_begins_193 : decode cX5_begins 193 = .ok (.putfield 83, 3) := dk_181 0 83 (dk_at dksX5_begins_8 2 rfl rfl)
theorem dX5_begins_196 : decode cX5_begins 196 = .ok (.aload_n 0, 1) := dk_42 (dk_at dksX5_begins_8 5 rfl rfl)
theorem dX5_begins_197 : decode cX5_begins 197 = .ok (.iconst 0, 1) := dk_3 (dk_at dksX5_begins_8 6 rfl rfl)
theorem dX5_begins_198 : decode cX5_begins 198 = .ok (.putfield 86, 3) := dk_181 0 86 (dk_at dksX5_begins_8 7 rfl rfl)
theorem dX5_begins_201 : decode cX5_begins 201 = .ok (.aload_n 0, 1) := dk_42 (dk_at dksX5_begins_8 10 rfl rfl)
theorem dX5_begins_202 : decode cX5_begins 202 = .ok (.iconst 0, 1) := dk_3 (dk_at dksX5_begins_8 11 rfl rfl)
theorem dX5_begins_203 : decode cX5_begins 203 = .ok (.putfield 89, 3) := dk_181 0 89 (dk_at dksX5_begins_8 12 rfl rfl)
theorem dX5_begins_206 : decode cX5_begins 206 = .ok (.return_, 1) := dk_177 (dk_at dksX5_begins_8 15 rfl rfl)
abbrev cX5_isFetched : ByteArray := prog_18_method_6_code
def yX5_isFetched : MethodName := ⟨RX5, "isFetched", "(I)Z"⟩
def dkwX5_isFetched_0 : List UInt8 := [42, 180, 0, 83, 27, 122, 4, 126, 4, 160, 0, 7, 4, 167, 0, 4, 3, 172]
abbrev dktX5_isFetched_0 : List UInt8 := dkwX5_isFetched_0 ++ []
theorem dksX5_isFetched_0 : cX5_isFetched.data.toList.drop 0 = dktX5_isFetched_0 := by decide +kernel
theorem dX5_isFetched_0 : decode cX5_isFetched 0 = .ok (.aload_n 0, 1) := dk_42 (dk_at dksX5_isFetched_0 0 rfl rfl)
theorem dX5_isFetched_1 : decode cX5_isFetched 1 = .ok (.getfield 83, 3) := dk_180 0 83 (dk_at dksX5_isFetched_0 1 rfl rfl)
theorem dX5_isFetched_4 : decode cX5_isFetched 4 = .ok (.iload_n 1, 1) := dk_27 (dk_at dksX5_isFetched_0 4 rfl rfl)
theorem dX5_isFetched_5 : decode cX5_isFetched 5 = .ok (.ishr, 1) := dk_122 (dk_at dksX5_isFetched_0 5 rfl rfl)
theorem dX5_isFetched_6 : decode cX5_isFetched 6 = .ok (.iconst 1, 1) := dk_4 (dk_at dksX5_isFetched_0 6 rfl rfl)
theorem dX5_isFetched_7 : decode cX5_isFetched 7 = .ok (.iand, 1) := dk_126 (dk_at dksX5_isFetched_0 7 rfl rfl)
theorem dX5_isFetched_8 : decode cX5_isFetched 8 = .ok (.iconst 1, 1) := dk_4 (dk_at dksX5_isFetched_0 8 rfl rfl)
theorem dX5_isFetched_9 : decode cX5_isFetched 9 = .ok (.if_icmp .ne 7, 3) := dk_160 0 7 (dk_at dksX5_isFetched_0 9 rfl rfl)
theorem dX5_isFetched_12 : decode cX5_isFetched 12 = .ok (.iconst 1, 1) := dk_4 (dk_at dksX5_isFetched_0 12 rfl rfl)
theorem dX5_isFetched_13 : decode cX5_isFetched 13 = .ok (.goto 4, 3) := dk_167 0 4 (dk_at dksX5_isFetched_0 13 rfl rfl)
theorem dX5_isFetched_16 : decode cX5_isFetched 16 = .ok (.iconst 0, 1) := dk_3 (dk_at dksX5_isFetched_0 16 rfl rfl)
theorem dX5_isFetched_17 : decode cX5_isFetched 17 = .ok (.ireturn, 1) := dk_172 (dk_at dksX5_isFetched_0 17 rfl rfl)
abbrev cX5_wants : ByteArray := prog_18_method_8_code
def yX5_wants : MethodName := ⟨RX5, "wants", "(LDogsHour$Text;II)I"⟩
def dkwX5_wants_1 : List UInt8 := [3, 50, 42, 43, 28, 29, 182, 0, 131, 182, 0, 135, 172]
abbrev dktX5_wants_1 : List UInt8 := dkwX5_wants_1 ++ []
def dkwX5_wants_0 : List UInt8 := [43, 180, 0, 127, 3, 50, 199, 0, 14, 42, 180, 0, 38, 28, 50, 29, 46, 167, 0, 19, 43, 180, 0, 127]
abbrev dktX5_wants_0 : List UInt8 := dkwX5_wants_0 ++ dktX5_wants_1
theorem dksX5_wants_0 : cX5_wants.data.toList.drop 0 = dktX5_wants_0 := by decide +kernel
theorem dksX5_wants_1 : cX5_wants.data.toList.drop 24 = dktX5_wants_1 := dk_seg dksX5_wants_0 24 rfl rfl
theorem dX5_wants_0 : decode cX5_wants 0 = .ok (.aload_n 1, 1) := dk_43 (dk_at dksX5_wants_0 0 rfl rfl)
theorem dX5_wants_1 : decode cX5_wants 1 = .ok (.getfield 127, 3) := dk_180 0 127 (dk_at dksX5_wants_0 1 rfl rfl)
theorem dX5_wants_4 : decode cX5_wants 4 = .ok (.iconst 0, 1) := dk_3 (dk_at dksX5_wants_0 4 rfl rfl)
theorem dX5_wants_5 : decode cX5_wants 5 = .ok (.aaload, 1) := dk_50 (dk_at dksX5_wants_0 5 rfl rfl)
theorem dX5_wants_6 : decode cX5_wants 6 = .ok (.ifnonnull 14, 3) := dk_199 0 14 (dk_at dksX5_wants_0 6 rfl rfl)
theorem dX5_wants_9 : decode cX5_wants 9 = .ok (.aload_n 0, 1) := dk_42 (dk_at dksX5_wants_0 9 rfl rfl)
theorem dX5_wants_10 : decode cX5_wants 10 = .ok (.getfield 38, 3) := dk_180 0 38 (dk_at dksX5_wants_0 10 rfl rfl)
theorem dX5_wants_13 : decode cX5_wants 13 = .ok (.iload_n 2, 1) := dk_28 (dk_at dksX5_wants_0 13 rfl rfl)
theorem dX5_wants_14 : decode cX5_wants 14 = .ok (.aaload, 1) := dk_50 (dk_at dksX5_wants_0 14 rfl rfl)
theorem dX5_wants_15 : decode cX5_wants 15 = .ok (.iload_n 3, 1) := dk_29 (dk_at dksX5_wants_0 15 rfl rfl)
theorem dX5_wants_16 : decode cX5_wants 16 = .ok (.iaload, 1) := dk_46 (dk_at dksX5_wants_0 16 rfl rfl)
theorem dX5_wants_17 : decode cX5_wants 17 = .ok (.goto 19, 3) := dk_167 0 19 (dk_at dksX5_wants_0 17 rfl rfl)
theorem dX5_wants_20 : decode cX5_wants 20 = .ok (.aload_n 1, 1) := dk_43 (dk_at dksX5_wants_0 20 rfl rfl)
theorem dX5_wants_21 : decode cX5_wants 21 = .ok (.getfield 127, 3) := dk_180 0 127 (dk_at dksX5_wants_0 21 rfl rfl)
theorem dX5_wants_24 : decode cX5_wants 24 = .ok (.iconst 0, 1) := dk_3 (dk_at dksX5_wants_1 0 rfl rfl)
theorem dX5_wants_25 : decode cX5_wants 25 = .ok (.aaload, 1) := dk_50 (dk_at dksX5_wants_1 1 rfl rfl)
theorem dX5_wants_26 : decode cX5_wants 26 = .ok (.aload_n 0, 1) := dk_42 (dk_at dksX5_wants_1 2 rfl rfl)
theorem dX5_wants_27 : decode cX5_wants 27 = .ok (.aload_n 1, 1) := dk_43 (dk_at dksX5_wants_1 3 rfl rfl)
theorem dX5_wants_28 : decode cX5_wants 28 = .ok (.iload_n 2, 1) := dk_28 (dk_at dksX5_wants_1 4 rfl rfl)
theorem dX5_wants_29 : decode cX5_wants 29 = .ok (.iload_n 3, 1) := dk_29 (dk_at dksX5_wants_1 5 rfl rfl)
theorem dX5_wants_30 : decode cX5_wants 30 = .ok (.invokevirtual 131, 3) := dk_182 0 131 (dk_at dksX5_wants_1 6 rfl rfl)
theorem dX5_wants_33 : decode cX5_wants 33 = .ok (.invokevirtual 135, 3) := dk_182 0 135 (dk_at dksX5_wants_1 9 rfl rfl)
theorem dX5_wants_36 : decode cX5_wants 36 = .ok (.ireturn, 1) := dk_172 (dk_at dksX5_wants_1 12 rfl rfl)
abbrev cX5_asks : ByteArray := prog_18_method_7_code
def yX5_asks : MethodName := ⟨RX5, "asks", "(LDogsHour$Text;II)LDogsHour$Asked;"⟩
def dkwX5_asks_7 : List UInt8 := [180, 0, 15, 28, 46, 79, 42, 180, 0, 47, 176]
abbrev dktX5_asks_7 : List UInt8 := dkwX5_asks_7 ++ []
def dkwX5_asks_6 : List UInt8 := [79, 42, 180, 0, 47, 180, 0, 105, 16, 7, 28, 79, 42, 180, 0, 47, 180, 0, 105, 16, 8, 42]
abbrev dktX5_asks_6 : List UInt8 := dkwX5_asks_6 ++ dktX5_asks_7
def dkwX5_asks_5 : List UInt8 := [182, 0, 63, 192, 0, 67, 180, 0, 120, 79, 42, 180, 0, 47, 180, 0, 105, 16, 6, 42, 43, 182, 0, 123]
abbrev dktX5_asks_5 : List UInt8 := dkwX5_asks_5 ++ dktX5_asks_6
def dkwX5_asks_4 : List UInt8 := [182, 0, 63, 192, 0, 67, 180, 0, 117, 79, 42, 180, 0, 47, 180, 0, 105, 8, 43, 180, 0, 51, 28]
abbrev dktX5_asks_4 : List UInt8 := dkwX5_asks_4 ++ dktX5_asks_5
def dkwX5_asks_3 : List UInt8 := [180, 0, 105, 6, 42, 180, 0, 27, 29, 46, 79, 42, 180, 0, 47, 180, 0, 105, 7, 43, 180, 0, 51, 28]
abbrev dktX5_asks_3 : List UInt8 := dkwX5_asks_3 ++ dktX5_asks_4
def dkwX5_asks_2 : List UInt8 := [42, 180, 0, 9, 28, 46, 50, 42, 180, 0, 21, 29, 46, 46, 184, 0, 111, 79, 42, 180, 0, 47]
abbrev dktX5_asks_2 : List UInt8 := dkwX5_asks_2 ++ dktX5_asks_3
def dkwX5_asks_1 : List UInt8 := [4, 42, 180, 0, 38, 28, 50, 29, 46, 79, 42, 180, 0, 47, 180, 0, 105, 5, 16, 99, 43, 180, 0, 108]
abbrev dktX5_asks_1 : List UInt8 := dkwX5_asks_1 ++ dktX5_asks_2
def dkwX5_asks_0 : List UInt8 := [42, 180, 0, 47, 180, 0, 105, 3, 42, 180, 0, 35, 28, 50, 29, 46, 79, 42, 180, 0, 47, 180, 0, 105]
abbrev dktX5_asks_0 : List UInt8 := dkwX5_asks_0 ++ dktX5_asks_1
theorem dksX5_asks_0 : cX5_asks.data.toList.drop 0 = dktX5_asks_0 := by decide +kernel
theorem dksX5_asks_1 : cX5_asks.data.toList.drop 24 = dktX5_asks_1 := dk_seg dksX5_asks_0 24 rfl rfl
theorem dksX5_asks_2 : cX5_asks.data.toList.drop 48 = dktX5_asks_2 := dk_seg dksX5_asks_1 24 rfl rfl
theorem dksX5_asks_3 : cX5_asks.data.toList.drop 70 = dktX5_asks_3 := dk_seg dksX5_asks_2 22 rfl rfl
theorem dksX5_asks_4 : cX5_asks.data.toList.drop 94 = dktX5_asks_4 := dk_seg dksX5_asks_3 24 rfl rfl
theorem dksX5_asks_5 : cX5_asks.data.toList.drop 117 = dktX5_asks_5 := dk_seg dksX5_asks_4 23 rfl rfl
theorem dksX5_asks_6 : cX5_asks.data.toList.drop 141 = dktX5_asks_6 := dk_seg dksX5_asks_5 24 rfl rfl
theorem dksX5_asks_7 : cX5_asks.data.toList.drop 163 = dktX5_asks_7 := dk_seg dksX5_asks_6 22 rfl rfl
theorem dX5_asks_0 : decode cX5_asks 0 = .ok (.aload_n 0, 1) := dk_42 (dk_at dksX5_asks_0 0 rfl rfl)
theorem dX5_asks_1 : decode cX5_asks 1 = .ok (.getfield 47, 3) := dk_180 0 47 (dk_at dksX5_asks_0 1 rfl rfl)
theorem dX5_asks_4 : decode cX5_asks 4 = .ok (.getfield 105, 3) := dk_180 0 105 (dk_at dksX5_asks_0 4 rfl rfl)
theorem dX5_asks_7 : decode cX5_asks 7 = .ok (.iconst 0, 1) := dk_3 (dk_at dksX5_asks_0 7 rfl rfl)
theorem dX5_asks_8 : decode cX5_asks 8 = .ok (.aload_n 0, 1) := dk_42 (dk_at dksX5_asks_0 8 rfl rfl)
theorem dX5_asks_9 : decode cX5_asks 9 = .ok (.getfield 35, 3) := dk_180 0 35 (dk_at dksX5_asks_0 9 rfl rfl)
theorem dX5_asks_12 : decode cX5_asks 12 = .ok (.iload_n 2, 1) := dk_28 (dk_at dksX5_asks_0 12 rfl rfl)
theorem dX5_asks_13 : decode cX5_asks 13 = .ok (.aaload, 1) := dk_50 (dk_at dksX5_asks_0 13 rfl rfl)
theorem dX5_asks_14 : decode cX5_asks 14 = .ok (.iload_n 3, 1) := dk_29 (dk_at dksX5_asks_0 14 rfl rfl)
theorem dX5_asks_15 : decode cX5_asks 15 = .ok (.iaload, 1) := dk_46 (dk_at dksX5_asks_0 15 rfl rfl)
theorem dX5_asks_16 : decode cX5_asks 16 = .ok (.iastore, 1) := dk_79 (dk_at dksX5_asks_0 16 rfl rfl)
theorem dX5_asks_17 : decode cX5_asks 17 = .ok (.aload_n 0, 1) := dk_42 (dk_at dksX5_asks_0 17 rfl rfl)
theorem dX5_asks_18 : decode cX5_asks 18 = .ok (.getfield 47, 3) := dk_180 0 47 (dk_at dksX5_asks_0 18 rfl rfl)
theorem dX5_asks_21 : decode cX5_asks 21 = .ok (.getfield 105, 3) := dk_180 0 105 (dk_at dksX5_asks_0 21 rfl rfl)
theorem dX5_asks_24 : decode cX5_asks 24 = .ok (.iconst 1, 1) := dk_4 (dk_at dksX5_asks_1 0 rfl rfl)
theorem dX5_asks_25 : decode cX5_asks 25 = .ok (.aload_n 0, 1) := dk_42 (dk_at dksX5_asks_1 1 rfl rfl)
theorem dX5_asks_26 : decode cX5_asks 26 = .ok (.getfield 38, 3) := dk_180 0 38 (dk_at dksX5_asks_1 2 rfl rfl)
theorem dX5_asks_29 : decode cX5_asks 29 = .ok (.iload_n 2, 1) := dk_28 (dk_at dksX5_asks_1 5 rfl rfl)
theorem dX5_asks_30 : decode cX5_asks 30 = .ok (.aaload, 1) := dk_50 (dk_at dksX5_asks_1 6 rfl rfl)
theorem dX5_asks_31 : decode cX5_asks 31 = .ok (.iload_n 3, 1) := dk_29 (dk_at dksX5_asks_1 7 rfl rfl)
theorem dX5_asks_32 : decode cX5_asks 32 = .ok (.iaload, 1) := dk_46 (dk_at dksX5_asks_1 8 rfl rfl)
theorem dX5_asks_33 : decode cX5_asks 33 = .ok (.iastore, 1) := dk_79 (dk_at dksX5_asks_1 9 rfl rfl)
theorem dX5_asks_34 : decode cX5_asks 34 = .ok (.aload_n 0, 1) := dk_42 (dk_at dksX5_asks_1 10 rfl rfl)
theorem dX5_asks_35 : decode cX5_asks 35 = .ok (.getfield 47, 3) := dk_180 0 47 (dk_at dksX5_asks_1 11 rfl rfl)
theorem dX5_asks_38 : decode cX5_asks 38 = .ok (.getfield 105, 3) := dk_180 0 105 (dk_at dksX5_asks_1 14 rfl rfl)
theorem dX5_asks_41 : decode cX5_asks 41 = .ok (.iconst 2, 1) := dk_5 (dk_at dksX5_asks_1 17 rfl rfl)
theorem dX5_asks_42 : decode cX5_asks 42 = .ok (.bipush 99, 2) := dk_16 99 (dk_at dksX5_asks_1 18 rfl rfl)
theorem dX5_asks_44 : decode cX5_asks 44 = .ok (.aload_n 1, 1) := dk_43 (dk_at dksX5_asks_1 20 rfl rfl)
theorem dX5_asks_45 : decode cX5_asks 45 = .ok (.getfield 108, 3) := dk_180 0 108 (dk_at dksX5_asks_1 21 rfl rfl)
theorem dX5_asks_48 : decode cX5_asks 48 = .ok (.aload_n 0, 1) := dk_42 (dk_at dksX5_asks_2 0 rfl rfl)
theorem dX5_asks_49 : decode cX5_asks 49 = .ok (.getfield 9, 3) := dk_180 0 9 (dk_at dksX5_asks_2 1 rfl rfl)
theorem dX5_asks_52 : decode cX5_asks 52 = .ok (.iload_n 2, 1) := dk_28 (dk_at dksX5_asks_2 4 rfl rfl)
theorem dX5_asks_53 : decode cX5_asks 53 = .ok (.iaload, 1) := dk_46 (dk_at dksX5_asks_2 5 rfl rfl)
theorem dX5_asks_54 : decode cX5_asks 54 = .ok (.aaload, 1) := dk_50 (dk_at dksX5_asks_2 6 rfl rfl)
theorem dX5_asks_55 : decode cX5_asks 55 = .ok (.aload_n 0, 1) := dk_42 (dk_at dksX5_asks_2 7 rfl rfl)
theorem dX5_asks_56 : decode cX5_asks 56 = .ok (.getfield 21, 3) := dk_180 0 21 (dk_at dksX5_asks_2 8 rfl rfl)
theorem dX5_asks_59 : decode cX5_asks 59 = .ok (.iload_n 3, 1) := dk_29 (dk_at dksX5_asks_2 11 rfl rfl)
theorem dX5_asks_60 : decode cX5_asks 60 = .ok (.iaload, 1) := dk_46 (dk_at dksX5_asks_2 12 rfl rfl)
theorem dX5_asks_61 : decode cX5_asks 61 = .ok (.iaload, 1) := dk_46 (dk_at dksX5_asks_2 13 rfl rfl)
theorem dX5_asks_62 : decode cX5_asks 62 = .ok (.invokestatic 111, 3) := dk_184 0 111 (dk_at dksX5_asks_2 14 rfl rfl)
theorem dX5_asks_65 : decode cX5_asks 65 = .ok (.iastore, 1) := dk_79 (dk_at dksX5_asks_2 17 rfl rfl)
theorem dX5_asks_66 : decode cX5_asks 66 = .ok (.aload_n 0, 1) := dk_42 (dk_at dksX5_asks_2 18 rfl rfl)
theorem dX5_asks_67 : decode cX5_asks 67 = .ok (.getfield 47, 3) := dk_180 0 47 (dk_at dksX5_asks_2 19 rfl rfl)
theorem dX5_asks_70 : decode cX5_asks 70 = .ok (.getfield 105, 3) := dk_180 0 105 (dk_at dksX5_asks_3 0 rfl rfl)
theorem dX5_asks_73 : decode cX5_asks 73 = .ok (.iconst 3, 1) := dk_6 (dk_at dksX5_asks_3 3 rfl rfl)
theorem dX5_asks_74 : decode cX5_asks 74 = .ok (.aload_n 0, 1) := dk_42 (dk_at dksX5_asks_3 4 rfl rfl)
theorem dX5_asks_75 : decode cX5_asks 75 = .ok (.getfield 27, 3) := dk_180 0 27 (dk_at dksX5_asks_3 5 rfl rfl)
theorem dX5_asks_78 : decode cX5_asks 78 = .ok (.iload_n 3, 1) := dk_29 (dk_at dksX5_asks_3 8 rfl rfl)
theorem dX5_asks_79 : decode cX5_asks 79 = .ok (.iaload, 1) := dk_46 (dk_at dksX5_asks_3 9 rfl rfl)
theorem dX5_asks_80 : decode cX5_asks 80 = .ok (.iastore, 1) := dk_79 (dk_at dksX5_asks_3 10 rfl rfl)
theorem dX5_asks_81 : decode cX5_asks 81 = .ok (.aload_n 0, 1) := dk_42 (dk_at dksX5_asks_3 11 rfl rfl)
theorem dX5_asks_82 : decode cX5_asks 82 = .ok (.getfield 47, 3) := dk_180 0 47 (dk_at dksX5_asks_3 12 rfl rfl)
theorem dX5_asks_85 : decode cX5_asks 85 = .ok (.getfield 105, 3) := dk_180 0 105 (dk_at dksX5_asks_3 15 rfl rfl)
theorem dX5_asks_88 : decode cX5_asks 88 = .ok (.iconst 4, 1) := dk_7 (dk_at dksX5_asks_3 18 rfl rfl)
theorem dX5_asks_89 : decode cX5_asks 89 = .ok (.aload_n 1, 1) := dk_43 (dk_at dksX5_asks_3 19 rfl rfl)
theorem dX5_asks_90 : decode cX5_asks 90 = .ok (.getfield 51, 3) := dk_180 0 51 (dk_at dksX5_asks_3 20 rfl rfl)
theorem dX5_asks_93 : decode cX5_asks 93 = .ok (.iload_n 2, 1) := dk_28 (dk_at dksX5_asks_3 23 rfl rfl)
theorem dX5_asks_94 : decode cX5_asks 94 = .ok (.invokevirtual 63, 3) := dk_182 0 63 (dk_at dksX5_asks_4 0 rfl rfl)
theorem dX5_asks_97 : decode cX5_asks 97 = .ok (.checkcast 67, 3) := dk_192 0 67 (dk_at dksX5_asks_4 3 rfl rfl)
theorem dX5_asks_100 : decode cX5_asks 100 = .ok (.getfield 117, 3) := dk_180 0 117 (dk_at dksX5_asks_4 6 rfl rfl)
theorem dX5_asks_103 : decode cX5_asks 103 = .ok (.iastore, 1) := dk_79 (dk_at dksX5_asks_4 9 rfl rfl)
theorem dX5_asks_104 : decode cX5_asks 104 = .ok (.aload_n 0, 1) := dk_42 (dk_at dksX5_asks_4 10 rfl rfl)
theorem dX5_asks_105 : decode cX5_asks 105 = .ok (.getfield 47, 3) := dk_180 0 47 (dk_at dksX5_asks_4 11 rfl rfl)
theorem dX5_asks_108 : decode cX5_asks 108 = .ok (.getfield 105, 3) := dk_180 0 105 (dk_at dksX5_asks_4 14 rfl rfl)
theorem dX5_asks_111 : decode cX5_asks 111 = .ok (.iconst 5, 1) := dk_8 (dk_at dksX5_asks_4 17 rfl rfl)
theorem dX5_asks_112 : decode cX5_asks 112 = .ok (.aload_n 1, 1) := dk_43 (dk_at dksX5_asks_4 18 rfl rfl)
theorem dX5_asks_113 : decode cX5_asks 113 = .ok (.getfield 51, 3) := dk_180 0 51 (dk_at dksX5_asks_4 19 rfl rfl)
theorem dX5_asks_116 : decode cX5_asks 116 = .ok (.iload_n 2, 1) := dk_28 (dk_at dksX5_asks_4 22 rfl rfl)
theorem dX5_asks_117 : decode cX5_asks 117 = .ok (.invokevirtual 63, 3) := dk_182 0 63 (dk_at dksX5_asks_5 0 rfl rfl)
theorem dX5_asks_120 : decode cX5_asks 120 = .ok (.checkcast 67, 3) := dk_192 0 67 (dk_at dksX5_asks_5 3 rfl rfl)
theorem dX5_asks_123 : decode cX5_asks 123 = .ok (.getfield 120, 3) := dk_180 0 120 (dk_at dksX5_asks_5 6 rfl rfl)
theorem dX5_asks_126 : decode cX5_asks 126 = .ok (.iastore, 1) := dk_79 (dk_at dksX5_asks_5 9 rfl rfl)
theorem dX5_asks_127 : decode cX5_asks 127 = .ok (.aload_n 0, 1) := dk_42 (dk_at dksX5_asks_5 10 rfl rfl)
theorem dX5_asks_128 : decode cX5_asks 128 = .ok (.getfield 47, 3) := dk_180 0 47 (dk_at dksX5_asks_5 11 rfl rfl)
theorem dX5_asks_131 : decode cX5_asks 131 = .ok (.getfield 105, 3) := dk_180 0 105 (dk_at dksX5_asks_5 14 rfl rfl)
theorem dX5_asks_134 : decode cX5_asks 134 = .ok (.bipush 6, 2) := dk_16 6 (dk_at dksX5_asks_5 17 rfl rfl)
theorem dX5_asks_136 : decode cX5_asks 136 = .ok (.aload_n 0, 1) := dk_42 (dk_at dksX5_asks_5 19 rfl rfl)
theorem dX5_asks_137 : decode cX5_asks 137 = .ok (.aload_n 1, 1) := dk_43 (dk_at dksX5_asks_5 20 rfl rfl)
theorem dX5_asks_138 : decode cX5_asks 138 = .ok (.invokevirtual 123, 3) := dk_182 0 123 (dk_at dksX5_asks_5 21 rfl rfl)
theorem dX5_asks_141 : decode cX5_asks 141 = .ok (.iastore, 1) := dk_79 (dk_at dksX5_asks_6 0 rfl rfl)
theorem dX5_asks_142 : decode cX5_asks 142 = .ok (.aload_n 0, 1) := dk_42 (dk_at dksX5_asks_6 1 rfl rfl)
theorem dX5_asks_143 : decode cX5_asks 143 = .ok (.getfield 47, 3) := dk_180 0 47 (dk_at dksX5_asks_6 2 rfl rfl)
theorem dX5_asks_146 : decode cX5_asks 146 = .ok (.getfield 105, 3) := dk_180 0 105 (dk_at dksX5_asks_6 5 rfl rfl)
theorem dX5_asks_149 : decode cX5_asks 149 = .ok (.bipush 7, 2) := dk_16 7 (dk_at dksX5_asks_6 8 rfl rfl)
theorem dX5_asks_151 : decode cX5_asks 151 = .ok (.iload_n 2, 1) := dk_28 (dk_at dksX5_asks_6 10 rfl rfl)
theorem dX5_asks_152 : decode cX5_asks 152 = .ok (.iastore, 1) := dk_79 (dk_at dksX5_asks_6 11 rfl rfl)
theorem dX5_asks_153 : decode cX5_asks 153 = .ok (.aload_n 0, 1) := dk_42 (dk_at dksX5_asks_6 12 rfl rfl)
theorem dX5_asks_154 : decode cX5_asks 154 = .ok (.getfield 47, 3) := dk_180 0 47 (dk_at dksX5_asks_6 13 rfl rfl)
theorem dX5_asks_157 : decode cX5_asks 157 = .ok (.getfield 105, 3) := dk_180 0 105 (dk_at dksX5_asks_6 16 rfl rfl)
theorem dX5_asks_160 : decode cX5_asks 160 = .ok (.bipush 8, 2) := dk_16 8 (dk_at dksX5_asks_6 19 rfl rfl)
theorem dX5_asks_162 : decode cX5_asks 162 = .ok (.aload_n 0, 1) := dk_42 (dk_at dksX5_asks_6 21 rfl rfl)
theorem dX5_asks_163 : decode cX5_asks 163 = .ok (.getfield 15, 3) := dk_180 0 15 (dk_at dksX5_asks_7 0 rfl rfl)
theorem dX5_asks_166 : decode cX5_asks 166 = .ok (.iload_n 2, 1) := dk_28 (dk_at dksX5_asks_7 3 rfl rfl)
theorem dX5_asks_167 : decode cX5_asks 167 = .ok (.iaload, 1) := dk_46 (dk_at dksX5_asks_7 4 rfl rfl)
theorem dX5_asks_168 : decode cX5_asks 168 = .ok (.iastore, 1) := dk_79 (dk_at dksX5_asks_7 5 rfl rfl)
theorem dX5_asks_169 : decode cX5_asks 169 = .ok (.aload_n 0, 1) := dk_42 (dk_at dksX5_asks_7 6 rfl rfl)
theorem dX5_asks_170 : decode cX5_asks 170 = .ok (.getfield 47, 3) := dk_180 0 47 (dk_at dksX5_asks_7 7 rfl rfl)
theorem dX5_asks_173 : decode cX5_asks 173 = .ok (.areturn, 1) := dk_176 (dk_at dksX5_asks_7 10 rfl rfl)
abbrev cX5_minute : ByteArray := prog_18_method_5_code
def yX5_minute : MethodName := ⟨RX5, "minute", "(LDogsHour$Text;)I"⟩
def dkwX5_minute_0 : List UInt8 := [43, 180, 0, 102, 42, 180, 0, 89, 96, 17, 5, 160, 112, 172]
abbrev dktX5_minute_0 : List UInt8 := dkwX5_minute_0 ++ []
theorem dksX5_minute_0 : cX5_minute.data.toList.drop 0 = dktX5_minute_0 := by decide +kernel
theorem dX5_minute_0 : decode cX5_minute 0 = .ok (.aload_n 1, 1) := dk_43 (dk_at dksX5_minute_0 0 rfl rfl)
theorem dX5_minute_1 : decode cX5_minute 1 = .ok (.getfield 102, 3) := dk_180 0 102 (dk_at dksX5_minute_0 1 rfl rfl)
theorem dX5_minute_4 : decode cX5_minute 4 = .ok (.aload_n 0, 1) := dk_42 (dk_at dksX5_minute_0 4 rfl rfl)
theorem dX5_minute_5 : decode cX5_minute 5 = .ok (.getfield 89, 3) := dk_180 0 89 (dk_at dksX5_minute_0 5 rfl rfl)
theorem dX5_minute_8 : decode cX5_minute 8 = .ok (.iadd, 1) := dk_96 (dk_at dksX5_minute_0 8 rfl rfl)
theorem dX5_minute_9 : decode cX5_minute 9 = .ok (.sipush 1440, 3) := dk_17 5 160 (dk_at dksX5_minute_0 9 rfl rfl)
theorem dX5_minute_12 : decode cX5_minute 12 = .ok (.irem, 1) := dk_112 (dk_at dksX5_minute_0 12 rfl rfl)
theorem dX5_minute_13 : decode cX5_minute 13 = .ok (.ireturn, 1) := dk_172 (dk_at dksX5_minute_0 13 rfl rfl)
abbrev cX5_takesOf : ByteArray := prog_18_method_9_code
def yX5_takesOf : MethodName := ⟨RX5, "takesOf", "(LDogsHour$Text;II)I"⟩
def dkwX5_takesOf_2 : List UInt8 := [29, 46, 184, 0, 141, 172]
abbrev dktX5_takesOf_2 : List UInt8 := dkwX5_takesOf_2 ++ []
def dkwX5_takesOf_1 : List UInt8 := [167, 0, 19, 43, 180, 0, 127, 4, 50, 42, 43, 28, 29, 182, 0, 131, 182, 0, 135, 3, 42, 180, 0, 27]
abbrev dktX5_takesOf_1 : List UInt8 := dkwX5_takesOf_1 ++ dktX5_takesOf_2
def dkwX5_takesOf_0 : List UInt8 := [43, 180, 0, 127, 4, 50, 199, 0, 20, 43, 180, 0, 51, 28, 182, 0, 63, 192, 0, 67, 180, 0, 117]
abbrev dktX5_takesOf_0 : List UInt8 := dkwX5_takesOf_0 ++ dktX5_takesOf_1
theorem dksX5_takesOf_0 : cX5_takesOf.data.toList.drop 0 = dktX5_takesOf_0 := by decide +kernel
theorem dksX5_takesOf_1 : cX5_takesOf.data.toList.drop 23 = dktX5_takesOf_1 := dk_seg dksX5_takesOf_0 23 rfl rfl
theorem dksX5_takesOf_2 : cX5_takesOf.data.toList.drop 47 = dktX5_takesOf_2 := dk_seg dksX5_takesOf_1 24 rfl rfl
theorem dX5_takesOf_0 : decode cX5_takesOf 0 = .ok (.aload_n 1, 1) := dk_43 (dk_at dksX5_takesOf_0 0 rfl rfl)
theorem dX5_takesOf_1 : decode cX5_takesOf 1 = .ok (.getfield 127, 3) := dk_180 0 127 (dk_at dksX5_takesOf_0 1 rfl rfl)
theorem dX5_takesOf_4 : decode cX5_takesOf 4 = .ok (.iconst 1, 1) := dk_4 (dk_at dksX5_takesOf_0 4 rfl rfl)
theorem dX5_takesOf_5 : decode cX5_takesOf 5 = .ok (.aaload, 1) := dk_50 (dk_at dksX5_takesOf_0 5 rfl rfl)
theorem dX5_takesOf_6 : decode cX5_takesOf 6 = .ok (.ifnonnull 20, 3) := dk_199 0 20 (dk_at dksX5_takesOf_0 6 rfl rfl)
theorem dX5_takesOf_9 : decode cX5_takesOf 9 = .ok (.aload_n 1, 1) := dk_43 (dk_at dksX5_takesOf_0 9 rfl rfl)
theorem dX5_takesOf_10 : decode cX5_takesOf 10 = .ok (.getfield 51, 3) := dk_180 0 51 (dk_at dksX5_takesOf_0 10 rfl rfl)
theorem dX5_takesOf_13 : decode cX5_takesOf 13 = .ok (.iload_n 2, 1) := dk_28 (dk_at dksX5_takesOf_0 13 rfl rfl)
theorem dX5_takesOf_14 : decode cX5_takesOf 14 = .ok (.invokevirtual 63, 3) := dk_182 0 63 (dk_at dksX5_takesOf_0 14 rfl rfl)
theorem dX5_takesOf_17 : decode cX5_takesOf 17 = .ok (.checkcast 67, 3) := dk_192 0 67 (dk_at dksX5_takesOf_0 17 rfl rfl)
theorem dX5_takesOf_20 : decode cX5_takesOf 20 = .ok (.getfield 117, 3) := dk_180 0 117 (dk_at dksX5_takesOf_0 20 rfl rfl)
theorem dX5_takesOf_23 : decode cX5_takesOf 23 = .ok (.goto 19, 3) := dk_167 0 19 (dk_at dksX5_takesOf_1 0 rfl rfl)
theorem dX5_takesOf_26 : decode cX5_takesOf 26 = .ok (.aload_n 1, 1) := dk_43 (dk_at dksX5_takesOf_1 3 rfl rfl)
theorem dX5_takesOf_27 : decode cX5_takesOf 27 = .ok (.getfield 127, 3) := dk_180 0 127 (dk_at dksX5_takesOf_1 4 rfl rfl)
theorem dX5_takesOf_30 : decode cX5_takesOf 30 = .ok (.iconst 1, 1) := dk_4 (dk_at dksX5_takesOf_1 7 rfl rfl)
theorem dX5_takesOf_31 : decode cX5_takesOf 31 = .ok (.aaload, 1) := dk_50 (dk_at dksX5_takesOf_1 8 rfl rfl)
theorem dX5_takesOf_32 : decode cX5_takesOf 32 = .ok (.aload_n 0, 1) := dk_42 (dk_at dksX5_takesOf_1 9 rfl rfl)
theorem dX5_takesOf_33 : decode cX5_takesOf 33 = .ok (.aload_n 1, 1) := dk_43 (dk_at dksX5_takesOf_1 10 rfl rfl)
theorem dX5_takesOf_34 : decode cX5_takesOf 34 = .ok (.iload_n 2, 1) := dk_28 (dk_at dksX5_takesOf_1 11 rfl rfl)
theorem dX5_takesOf_35 : decode cX5_takesOf 35 = .ok (.iload_n 3, 1) := dk_29 (dk_at dksX5_takesOf_1 12 rfl rfl)
theorem dX5_takesOf_36 : decode cX5_takesOf 36 = .ok (.invokevirtual 131, 3) := dk_182 0 131 (dk_at dksX5_takesOf_1 13 rfl rfl)
theorem dX5_takesOf_39 : decode cX5_takesOf 39 = .ok (.invokevirtual 135, 3) := dk_182 0 135 (dk_at dksX5_takesOf_1 16 rfl rfl)
theorem dX5_takesOf_42 : decode cX5_takesOf 42 = .ok (.iconst 0, 1) := dk_3 (dk_at dksX5_takesOf_1 19 rfl rfl)
theorem dX5_takesOf_43 : decode cX5_takesOf 43 = .ok (.aload_n 0, 1) := dk_42 (dk_at dksX5_takesOf_1 20 rfl rfl)
theorem dX5_takesOf_44 : decode cX5_takesOf 44 = .ok (.getfield 27, 3) := dk_180 0 27 (dk_at dksX5_takesOf_1 21 rfl rfl)
theorem dX5_takesOf_47 : decode cX5_takesOf 47 = .ok (.iload_n 3, 1) := dk_29 (dk_at dksX5_takesOf_2 0 rfl rfl)
theorem dX5_takesOf_48 : decode cX5_takesOf 48 = .ok (.iaload, 1) := dk_46 (dk_at dksX5_takesOf_2 1 rfl rfl)
theorem dX5_takesOf_49 : decode cX5_takesOf 49 = .ok (.invokestatic 141, 3) := dk_184 0 141 (dk_at dksX5_takesOf_2 2 rfl rfl)
theorem dX5_takesOf_52 : decode cX5_takesOf 52 = .ok (.ireturn, 1) := dk_172 (dk_at dksX5_takesOf_2 5 rfl rfl)
abbrev cX5_fades : ByteArray := prog_18_method_10_code
def yX5_fades : MethodName := ⟨RX5, "fades", "(LDogsHour$Text;II)I"⟩
def dkwX5_fades_1 : List UInt8 := [182, 0, 131, 182, 0, 135, 3, 16, 99, 184, 0, 141, 172]
abbrev dktX5_fades_1 : List UInt8 := dkwX5_fades_1 ++ []
def dkwX5_fades_0 : List UInt8 := [43, 180, 0, 127, 5, 50, 199, 0, 7, 4, 167, 0, 25, 43, 180, 0, 127, 5, 50, 42, 43, 28, 29]
abbrev dktX5_fades_0 : List UInt8 := dkwX5_fades_0 ++ dktX5_fades_1
theorem dksX5_fades_0 : cX5_fades.data.toList.drop 0 = dktX5_fades_0 := by decide +kernel
theorem dksX5_fades_1 : cX5_fades.data.toList.drop 23 = dktX5_fades_1 := dk_seg dksX5_fades_0 23 rfl rfl
theorem dX5_fades_0 : decode cX5_fades 0 = .ok (.aload_n 1, 1) := dk_43 (dk_at dksX5_fades_0 0 rfl rfl)
theorem dX5_fades_1 : decode cX5_fades 1 = .ok (.getfield 127, 3) := dk_180 0 127 (dk_at dksX5_fades_0 1 rfl rfl)
theorem dX5_fades_4 : decode cX5_fades 4 = .ok (.iconst 2, 1) := dk_5 (dk_at dksX5_fades_0 4 rfl rfl)
theorem dX5_fades_5 : decode cX5_fades 5 = .ok (.aaload, 1) := dk_50 (dk_at dksX5_fades_0 5 rfl rfl)
theorem dX5_fades_6 : decode cX5_fades 6 = .ok (.ifnonnull 7, 3) := dk_199 0 7 (dk_at dksX5_fades_0 6 rfl rfl)
theorem dX5_fades_9 : decode cX5_fades 9 = .ok (.iconst 1, 1) := dk_4 (dk_at dksX5_fades_0 9 rfl rfl)
theorem dX5_fades_10 : decode cX5_fades 10 = .ok (.goto 25, 3) := dk_167 0 25 (dk_at dksX5_fades_0 10 rfl rfl)
theorem dX5_fades_13 : decode cX5_fades 13 = .ok (.aload_n 1, 1) := dk_43 (dk_at dksX5_fades_0 13 rfl rfl)
theorem dX5_fades_14 : decode cX5_fades 14 = .ok (.getfield 127, 3) := dk_180 0 127 (dk_at dksX5_fades_0 14 rfl rfl)
theorem dX5_fades_17 : decode cX5_fades 17 = .ok (.iconst 2, 1) := dk_5 (dk_at dksX5_fades_0 17 rfl rfl)
theorem dX5_fades_18 : decode cX5_fades 18 = .ok (.aaload, 1) := dk_50 (dk_at dksX5_fades_0 18 rfl rfl)
theorem dX5_fades_19 : decode cX5_fades 19 = .ok (.aload_n 0, 1) := dk_42 (dk_at dksX5_fades_0 19 rfl rfl)
theorem dX5_fades_20 : decode cX5_fades 20 = .ok (.aload_n 1, 1) := dk_43 (dk_at dksX5_fades_0 20 rfl rfl)
theorem dX5_fades_21 : decode cX5_fades 21 = .ok (.iload_n 2, 1) := dk_28 (dk_at dksX5_fades_0 21 rfl rfl)
theorem dX5_fades_22 : decode cX5_fades 22 = .ok (.iload_n 3, 1) := dk_29 (dk_at dksX5_fades_0 22 rfl rfl)
theorem dX5_fades_23 : decode cX5_fades 23 = .ok (.invokevirtual 131, 3) := dk_182 0 131 (dk_at dksX5_fades_1 0 rfl rfl)
theorem dX5_fades_26 : decode cX5_fades 26 = .ok (.invokevirtual 135, 3) := dk_182 0 135 (dk_at dksX5_fades_1 3 rfl rfl)
theorem dX5_fades_29 : decode cX5_fades 29 = .ok (.iconst 0, 1) := dk_3 (dk_at dksX5_fades_1 6 rfl rfl)
theorem dX5_fades_30 : decode cX5_fades 30 = .ok (.bipush 99, 2) := dk_16 99 (dk_at dksX5_fades_1 7 rfl rfl)
theorem dX5_fades_32 : decode cX5_fades 32 = .ok (.invokestatic 141, 3) := dk_184 0 141 (dk_at dksX5_fades_1 9 rfl rfl)
theorem dX5_fades_35 : decode cX5_fades 35 = .ok (.ireturn, 1) := dk_172 (dk_at dksX5_fades_1 12 rfl rfl)
abbrev cX5_takes : ByteArray := prog_18_method_4_code
def yX5_takes : MethodName := ⟨RX5, "takes", "(LDogsHour$Town;)V"⟩
def dkwX5_takes_6 : List UInt8 := [180, 0, 89, 181, 0, 89, 177]
abbrev dktX5_takes_6 : List UInt8 := dkwX5_takes_6 ++ []
def dkwX5_takes_5 : List UInt8 := [132, 2, 1, 167, 255, 218, 42, 43, 180, 0, 83, 181, 0, 83, 42, 43, 180, 0, 86, 181, 0, 86, 42, 43]
abbrev dktX5_takes_5 : List UInt8 := dkwX5_takes_5 ++ dktX5_takes_6
def dkwX5_takes_4 : List UInt8 := [180, 0, 35, 28, 50, 184, 0, 98, 43, 180, 0, 38, 28, 50, 42, 180, 0, 38, 28, 50, 184, 0, 98]
abbrev dktX5_takes_4 : List UInt8 := dkwX5_takes_4 ++ dktX5_takes_5
def dkwX5_takes_3 : List UInt8 := [180, 0, 30, 42, 180, 0, 30, 184, 0, 98, 3, 61, 28, 8, 162, 0, 39, 43, 180, 0, 35, 28, 50, 42]
abbrev dktX5_takes_3 : List UInt8 := dkwX5_takes_3 ++ dktX5_takes_4
def dkwX5_takes_2 : List UInt8 := [180, 0, 24, 42, 180, 0, 24, 184, 0, 98, 43, 180, 0, 27, 42, 180, 0, 27, 184, 0, 98, 43]
abbrev dktX5_takes_2 : List UInt8 := dkwX5_takes_2 ++ dktX5_takes_3
def dkwX5_takes_1 : List UInt8 := [180, 0, 18, 42, 180, 0, 18, 184, 0, 98, 43, 180, 0, 21, 42, 180, 0, 21, 184, 0, 98, 43]
abbrev dktX5_takes_1 : List UInt8 := dkwX5_takes_1 ++ dktX5_takes_2
def dkwX5_takes_0 : List UInt8 := [43, 180, 0, 9, 42, 180, 0, 9, 184, 0, 98, 43, 180, 0, 15, 42, 180, 0, 15, 184, 0, 98, 43]
abbrev dktX5_takes_0 : List UInt8 := dkwX5_takes_0 ++ dktX5_takes_1
theorem dksX5_takes_0 : cX5_takes.data.toList.drop 0 = dktX5_takes_0 := by decide +kernel
theorem dksX5_takes_1 : cX5_takes.data.toList.drop 23 = dktX5_takes_1 := dk_seg dksX5_takes_0 23 rfl rfl
theorem dksX5_takes_2 : cX5_takes.data.toList.drop 45 = dktX5_takes_2 := dk_seg dksX5_takes_1 22 rfl rfl
theorem dksX5_takes_3 : cX5_takes.data.toList.drop 67 = dktX5_takes_3 := dk_seg dksX5_takes_2 22 rfl rfl
theorem dksX5_takes_4 : cX5_takes.data.toList.drop 91 = dktX5_takes_4 := dk_seg dksX5_takes_3 24 rfl rfl
theorem dksX5_takes_5 : cX5_takes.data.toList.drop 114 = dktX5_takes_5 := dk_seg dksX5_takes_4 23 rfl rfl
theorem dksX5_takes_6 : cX5_takes.data.toList.drop 138 = dktX5_takes_6 := dk_seg dksX5_takes_5 24 rfl rfl
theorem dX5_takes_0 : decode cX5_takes 0 = .ok (.aload_n 1, 1) := dk_43 (dk_at dksX5_takes_0 0 rfl rfl)
theorem dX5_takes_1 : decode cX5_takes 1 = .ok (.getfield 9, 3) := dk_180 0 9 (dk_at dksX5_takes_0 1 rfl rfl)
theorem dX5_takes_4 : decode cX5_takes 4 = .ok (.aload_n 0, 1) := dk_42 (dk_at dksX5_takes_0 4 rfl rfl)
theorem dX5_takes_5 : decode cX5_takes 5 = .ok (.getfield 9, 3) := dk_180 0 9 (dk_at dksX5_takes_0 5 rfl rfl)
theorem dX5_takes_8 : decode cX5_takes 8 = .ok (.invokestatic 98, 3) := dk_184 0 98 (dk_at dksX5_takes_0 8 rfl rfl)
theorem dX5_takes_11 : decode cX5_takes 11 = .ok (.aload_n 1, 1) := dk_43 (dk_at dksX5_takes_0 11 rfl rfl)
theorem dX5_takes_12 : decode cX5_takes 12 = .ok (.getfield 15, 3) := dk_180 0 15 (dk_at dksX5_takes_0 12 rfl rfl)
theorem dX5_takes_15 : decode cX5_takes 15 = .ok (.aload_n 0, 1) := dk_42 (dk_at dksX5_takes_0 15 rfl rfl)
theorem dX5_takes_16 : decode cX5_takes 16 = .ok (.getfield 15, 3) := dk_180 0 15 (dk_at dksX5_takes_0 16 rfl rfl)
theorem dX5_takes_19 : decode cX5_takes 19 = .ok (.invokestatic 98, 3) := dk_184 0 98 (dk_at dksX5_takes_0 19 rfl rfl)
theorem dX5_takes_22 : decode cX5_takes 22 = .ok (.aload_n 1, 1) := dk_43 (dk_at dksX5_takes_0 22 rfl rfl)
theorem dX5_takes_23 : decode cX5_takes 23 = .ok (.getfield 18, 3) := dk_180 0 18 (dk_at dksX5_takes_1 0 rfl rfl)
theorem dX5_takes_26 : decode cX5_takes 26 = .ok (.aload_n 0, 1) := dk_42 (dk_at dksX5_takes_1 3 rfl rfl)
theorem dX5_takes_27 : decode cX5_takes 27 = .ok (.getfield 18, 3) := dk_180 0 18 (dk_at dksX5_takes_1 4 rfl rfl)
theorem dX5_takes_30 : decode cX5_takes 30 = .ok (.invokestatic 98, 3) := dk_184 0 98 (dk_at dksX5_takes_1 7 rfl rfl)
theorem dX5_takes_33 : decode cX5_takes 33 = .ok (.aload_n 1, 1) := dk_43 (dk_at dksX5_takes_1 10 rfl rfl)
theorem dX5_takes_34 : decode cX5_takes 34 = .ok (.getfield 21, 3) := dk_180 0 21 (dk_at dksX5_takes_1 11 rfl rfl)
theorem dX5_takes_37 : decode cX5_takes 37 = .ok (.aload_n 0, 1) := dk_42 (dk_at dksX5_takes_1 14 rfl rfl)
theorem dX5_takes_38 : decode cX5_takes 38 = .ok (.getfield 21, 3) := dk_180 0 21 (dk_at dksX5_takes_1 15 rfl rfl)
theorem dX5_takes_41 : decode cX5_takes 41 = .ok (.invokestatic 98, 3) := dk_184 0 98 (dk_at dksX5_takes_1 18 rfl rfl)
theorem dX5_takes_44 : decode cX5_takes 44 = .ok (.aload_n 1, 1) := dk_43 (dk_at dksX5_takes_1 21 rfl rfl)
theorem dX5_takes_45 : decode cX5_takes 45 = .ok (.getfield 24, 3) := dk_180 0 24 (dk_at dksX5_takes_2 0 rfl rfl)
theorem dX5_takes_48 : decode cX5_takes 48 = .ok (.aload_n 0, 1) := dk_42 (dk_at dksX5_takes_2 3 rfl rfl)
theorem dX5_takes_49 : decode cX5_takes 49 = .ok (.getfield 24, 3) := dk_180 0 24 (dk_at dksX5_takes_2 4 rfl rfl)
theorem dX5_takes_52 : decode cX5_takes 52 = .ok (.invokestatic 98, 3) := dk_184 0 98 (dk_at dksX5_takes_2 7 rfl rfl)
theorem dX5_takes_55 : decode cX5_takes 55 = .ok (.aload_n 1, 1) := dk_43 (dk_at dksX5_takes_2 10 rfl rfl)
theorem dX5_takes_56 : decode cX5_takes 56 = .ok (.getfield 27, 3) := dk_180 0 27 (dk_at dksX5_takes_2 11 rfl rfl)
theorem dX5_takes_59 : decode cX5_takes 59 = .ok (.aload_n 0, 1) := dk_42 (dk_at dksX5_takes_2 14 rfl rfl)
theorem dX5_takes_60 : decode cX5_takes 60 = .ok (.getfield 27, 3) := dk_180 0 27 (dk_at dksX5_takes_2 15 rfl rfl)
theorem dX5_takes_63 : decode cX5_takes 63 = .ok (.invokestatic 98, 3) := dk_184 0 98 (dk_at dksX5_takes_2 18 rfl rfl)
theorem dX5_takes_66 : decode cX5_takes 66 = .ok (.aload_n 1, 1) := dk_43 (dk_at dksX5_takes_2 21 rfl rfl)
theorem dX5_takes_67 : decode cX5_takes 67 = .ok (.getfield 30, 3) := dk_180 0 30 (dk_at dksX5_takes_3 0 rfl rfl)
theorem dX5_takes_70 : decode cX5_takes 70 = .ok (.aload_n 0, 1) := dk_42 (dk_at dksX5_takes_3 3 rfl rfl)
theorem dX5_takes_71 : decode cX5_takes 71 = .ok (.getfield 30, 3) := dk_180 0 30 (dk_at dksX5_takes_3 4 rfl rfl)
theorem dX5_takes_74 : decode cX5_takes 74 = .ok (.invokestatic 98, 3) := dk_184 0 98 (dk_at dksX5_takes_3 7 rfl rfl)
theorem dX5_takes_77 : decode cX5_takes 77 = .ok (.iconst 0, 1) := dk_3 (dk_at dksX5_takes_3 10 rfl rfl)
theorem dX5_takes_78 : decode cX5_takes 78 = .ok (.istore_n 2, 1) := dk_61 (dk_at dksX5_takes_3 11 rfl rfl)
theorem dX5_takes_79 : decode cX5_takes 79 = .ok (.iload_n 2, 1) := dk_28 (dk_at dksX5_takes_3 12 rfl rfl)
theorem dX5_takes_80 : decode cX5_takes 80 = .ok (.iconst 5, 1) := dk_8 (dk_at dksX5_takes_3 13 rfl rfl)
theorem dX5_takes_81 : decode cX5_takes 81 = .ok (.if_icmp .ge 39, 3) := dk_162 0 39 (dk_at dksX5_takes_3 14 rfl rfl)
theorem dX5_takes_84 : decode cX5_takes 84 = .ok (.aload_n 1, 1) := dk_43 (dk_at dksX5_takes_3 17 rfl rfl)
theorem dX5_takes_85 : decode cX5_takes 85 = .ok (.getfield 35, 3) := dk_180 0 35 (dk_at dksX5_takes_3 18 rfl rfl)
theorem dX5_takes_88 : decode cX5_takes 88 = .ok (.iload_n 2, 1) := dk_28 (dk_at dksX5_takes_3 21 rfl rfl)
theorem dX5_takes_89 : decode cX5_takes 89 = .ok (.aaload, 1) := dk_50 (dk_at dksX5_takes_3 22 rfl rfl)
theorem dX5_takes_90 : decode cX5_takes 90 = .ok (.aload_n 0, 1) := dk_42 (dk_at dksX5_takes_3 23 rfl rfl)
theorem dX5_takes_91 : decode cX5_takes 91 = .ok (.getfield 35, 3) := dk_180 0 35 (dk_at dksX5_takes_4 0 rfl rfl)
theorem dX5_takes_94 : decode cX5_takes 94 = .ok (.iload_n 2, 1) := dk_28 (dk_at dksX5_takes_4 3 rfl rfl)
theorem dX5_takes_95 : decode cX5_takes 95 = .ok (.aaload, 1) := dk_50 (dk_at dksX5_takes_4 4 rfl rfl)
theorem dX5_takes_96 : decode cX5_takes 96 = .ok (.invokestatic 98, 3) := dk_184 0 98 (dk_at dksX5_takes_4 5 rfl rfl)
theorem dX5_takes_99 : decode cX5_takes 99 = .ok (.aload_n 1, 1) := dk_43 (dk_at dksX5_takes_4 8 rfl rfl)
theorem dX5_takes_100 : decode cX5_takes 100 = .ok (.getfield 38, 3) := dk_180 0 38 (dk_at dksX5_takes_4 9 rfl rfl)
theorem dX5_takes_103 : decode cX5_takes 103 = .ok (.iload_n 2, 1) := dk_28 (dk_at dksX5_takes_4 12 rfl rfl)
theorem dX5_takes_104 : decode cX5_takes 104 = .ok (.aaload, 1) := dk_50 (dk_at dksX5_takes_4 13 rfl rfl)
theorem dX5_takes_105 : decode cX5_takes 105 = .ok (.aload_n 0, 1) := dk_42 (dk_at dksX5_takes_4 14 rfl rfl)
theorem dX5_takes_106 : decode cX5_takes 106 = .ok (.getfield 38, 3) := dk_180 0 38 (dk_at dksX5_takes_4 15 rfl rfl)
theorem dX5_takes_109 : decode cX5_takes 109 = .ok (.iload_n 2, 1) := dk_28 (dk_at dksX5_takes_4 18 rfl rfl)
theorem dX5_takes_110 : decode cX5_takes 110 = .ok (.aaload, 1) := dk_50 (dk_at dksX5_takes_4 19 rfl rfl)
theorem dX5_takes_111 : decode cX5_takes 111 = .ok (.invokestatic 98, 3) := dk_184 0 98 (dk_at dksX5_takes_4 20 rfl rfl)
theorem dX5_takes_114 : decode cX5_takes 114 = .ok (.iinc 2 1, 3) := dk_132 2 1 (dk_at dksX5_takes_5 0 rfl rfl)
theorem dX5_takes_117 : decode cX5_takes 117 = .ok (.goto (-38), 3) := dk_167 255 218 (dk_at dksX5_takes_5 3 rfl rfl)
theorem dX5_takes_120 : decode cX5_takes 120 = .ok (.aload_n 0, 1) := dk_42 (dk_at dksX5_takes_5 6 rfl rfl)
theorem dX5_takes_121 : decode cX5_takes 121 = .ok (.aload_n 1, 1) := dk_43 (dk_at dksX5_takes_5 7 rfl rfl)
theorem dX5_takes_122 : decode cX5_takes 122 = .ok (.getfield 83, 3) := dk_180 0 83 (dk_at dksX5_takes_5 8 rfl rfl)
theorem dX5_takes_125 : decode cX5_takes 125 = .ok (.putfield 83, 3) := dk_181 0 83 (dk_at dksX5_takes_5 11 rfl rfl)
theorem dX5_takes_128 : decode cX5_takes 128 = .ok (.aload_n 0, 1) := dk_42 (dk_at dksX5_takes_5 14 rfl rfl)
theorem dX5_takes_129 : decode cX5_takes 129 = .ok (.aload_n 1, 1) := dk_43 (dk_at dksX5_takes_5 15 rfl rfl)
theorem dX5_takes_130 : decode cX5_takes 130 = .ok (.getfield 86, 3) := dk_180 0 86 (dk_at dksX5_takes_5 16 rfl rfl)
theorem dX5_takes_133 : decode cX5_takes 133 = .ok (.putfield 86, 3) := dk_181 0 86 (dk_at dksX5_takes_5 19 rfl rfl)
theorem dX5_takes_136 : decode cX5_takes 136 = .ok (.aload_n 0, 1) := dk_42 (dk_at dksX5_takes_5 22 rfl rfl)
theorem dX5_takes_137 : decode cX5_takes 137 = .ok (.aload_n 1, 1) := dk_43 (dk_at dksX5_takes_5 23 rfl rfl)
theorem dX5_takes_138 : decode cX5_takes 138 = .ok (.getfield 89, 3) := dk_180 0 89 (dk_at dksX5_takes_6 0 rfl rfl)
theorem dX5_takes_141 : decode cX5_takes 141 = .ok (.putfield 89, 3) := dk_181 0 89 (dk_at dksX5_takes_6 3 rfl rfl)
theorem dX5_takes_144 : decode cX5_takes 144 = .ok (.return_, 1) := dk_177 (dk_at dksX5_takes_6 6 rfl rfl)
abbrev cX5_copies : ByteArray := prog_18_method_3_code
def yX5_copies : MethodName := ⟨RX5, "copies", "([I[I)V"⟩
def dkwX5_copies_0 : List UInt8 := [42, 3, 43, 3, 42, 190, 184, 0, 92, 177]
abbrev dktX5_copies_0 : List UInt8 := dkwX5_copies_0 ++ []
theorem dksX5_copies_0 : cX5_copies.data.toList.drop 0 = dktX5_copies_0 := by decide +kernel
theorem dX5_copies_0 : decode cX5_copies 0 = .ok (.aload_n 0, 1) := dk_42 (dk_at dksX5_copies_0 0 rfl rfl)
theorem dX5_copies_1 : decode cX5_copies 1 = .ok (.iconst 0, 1) := dk_3 (dk_at dksX5_copies_0 1 rfl rfl)
theorem dX5_copies_2 : decode cX5_copies 2 = .ok (.aload_n 1, 1) := dk_43 (dk_at dksX5_copies_0 2 rfl rfl)
theorem dX5_copies_3 : decode cX5_copies 3 = .ok (.iconst 0, 1) := dk_3 (dk_at dksX5_copies_0 3 rfl rfl)
theorem dX5_copies_4 : decode cX5_copies 4 = .ok (.aload_n 0, 1) := dk_42 (dk_at dksX5_copies_0 4 rfl rfl)
theorem dX5_copies_5 : decode cX5_copies 5 = .ok (.arraylength, 1) := dk_190 (dk_at dksX5_copies_0 5 rfl rfl)
theorem dX5_copies_6 : decode cX5_copies 6 = .ok (.invokestatic 92, 3) := dk_184 0 92 (dk_at dksX5_copies_0 6 rfl rfl)
theorem dX5_copies_9 : decode cX5_copies 9 = .ok (.return_, 1) := dk_177 (dk_at dksX5_copies_0 9 rfl rfl)
abbrev cX5_goesBy : ByteArray := prog_18_method_17_code
def yX5_goesBy : MethodName := ⟨RX5, "goesBy", "(LDogsHour$Text;[LDogsHour$Time;)V"⟩
def dkwX5_goesBy_4 : List UInt8 := [182, 0, 192, 132, 3, 1, 167, 255, 236, 177]
abbrev dktX5_goesBy_4 : List UInt8 := dkwX5_goesBy_4 ++ []
def dkwX5_goesBy_3 : List UInt8 := [182, 0, 123, 153, 0, 4, 177, 3, 62, 29, 43, 180, 0, 51, 182, 0, 57, 162, 0, 15, 42, 43, 29]
abbrev dktX5_goesBy_3 : List UInt8 := dkwX5_goesBy_3 ++ dktX5_goesBy_4
def dkwX5_goesBy_2 : List UInt8 := [167, 0, 4, 3, 50, 42, 43, 182, 0, 186, 42, 89, 180, 0, 89, 4, 96, 181, 0, 89, 42, 43]
abbrev dktX5_goesBy_2 : List UInt8 := dkwX5_goesBy_2 ++ dktX5_goesBy_3
def dkwX5_goesBy_1 : List UInt8 := [182, 0, 179, 132, 3, 1, 167, 255, 228, 44, 43, 42, 43, 182, 0, 123, 182, 0, 183, 153, 0, 7, 4]
abbrev dktX5_goesBy_1 : List UInt8 := dkwX5_goesBy_1 ++ dktX5_goesBy_2
def dkwX5_goesBy_0 : List UInt8 := [3, 62, 29, 43, 180, 0, 73, 182, 0, 57, 162, 0, 23, 42, 29, 182, 0, 145, 154, 0, 9, 42, 43, 29]
abbrev dktX5_goesBy_0 : List UInt8 := dkwX5_goesBy_0 ++ dktX5_goesBy_1
theorem dksX5_goesBy_0 : cX5_goesBy.data.toList.drop 0 = dktX5_goesBy_0 := by decide +kernel
theorem dksX5_goesBy_1 : cX5_goesBy.data.toList.drop 24 = dktX5_goesBy_1 := dk_seg dksX5_goesBy_0 24 rfl rfl
theorem dksX5_goesBy_2 : cX5_goesBy.data.toList.drop 47 = dktX5_goesBy_2 := dk_seg dksX5_goesBy_1 23 rfl rfl
theorem dksX5_goesBy_3 : cX5_goesBy.data.toList.drop 69 = dktX5_goesBy_3 := dk_seg dksX5_goesBy_2 22 rfl rfl
theorem dksX5_goesBy_4 : cX5_goesBy.data.toList.drop 92 = dktX5_goesBy_4 := dk_seg dksX5_goesBy_3 23 rfl rfl
theorem dX5_goesBy_0 : decode cX5_goesBy 0 = .ok (.iconst 0, 1) := dk_3 (dk_at dksX5_goesBy_0 0 rfl rfl)
theorem dX5_goesBy_1 : decode cX5_goesBy 1 = .ok (.istore_n 3, 1) := dk_62 (dk_at dksX5_goesBy_0 1 rfl rfl)
theorem dX5_goesBy_2 : decode cX5_goesBy 2 = .ok (.iload_n 3, 1) := dk_29 (dk_at dksX5_goesBy_0 2 rfl rfl)
theorem dX5_goesBy_3 : decode cX5_goesBy 3 = .ok (.aload_n 1, 1) := dk_43 (dk_at dksX5_goesBy_0 3 rfl rfl)
theorem dX5_goesBy_4 : decode cX5_goesBy 4 = .ok (.getfield 73, 3) := dk_180 0 73 (dk_at dksX5_goesBy_0 4 rfl rfl)
theorem dX5_goesBy_7 : decode cX5_goesBy 7 = .ok (.invokevirtual 57, 3) := dk_182 0 57 (dk_at dksX5_goesBy_0 7 rfl rfl)
theorem dX5_goesBy_10 : decode cX5_goesBy 10 = .ok (.if_icmp .ge 23, 3) := dk_162 0 23 (dk_at dksX5_goesBy_0 10 rfl rfl)
theorem dX5_goesBy_13 : decode cX5_goesBy 13 = .ok (.aload_n 0, 1) := dk_42 (dk_at dksX5_goesBy_0 13 rfl rfl)
theorem dX5_goesBy_14 : decode cX5_goesBy 14 = .ok (.iload_n 3, 1) := dk_29 (dk_at dksX5_goesBy_0 14 rfl rfl)
theorem dX5_goesBy_15 : decode cX5_goesBy 15 = .ok (.invokevirtual 145, 3) := dk_182 0 145 (dk_at dksX5_goesBy_0 15 rfl rfl)
theorem dX5_goesBy_18 : decode cX5_goesBy 18 = .ok (.ifCond .ne 9, 3) := dk_154 0 9 (dk_at dksX5_goesBy_0 18 rfl rfl)
theorem dX5_goesBy_21 : decode cX5_goesBy 21 = .ok (.aload_n 0, 1) := dk_42 (dk_at dksX5_goesBy_0 21 rfl rfl)
theorem dX5_goesBy_22 : decode cX5_goesBy 22 = .ok (.aload_n 1, 1) := dk_43 (dk_at dksX5_goesBy_0 22 rfl rfl)
theorem dX5_goesBy_23 : decode cX5_goesBy 23 = .ok (.iload_n 3, 1) := dk_29 (dk_at dksX5_goesBy_0 23 rfl rfl)
theorem dX5_goesBy_24 : decode cX5_goesBy 24 = .ok (.invokevirtual 179, 3) := dk_182 0 179 (dk_at dksX5_goesBy_1 0 rfl rfl)
theorem dX5_goesBy_27 : decode cX5_goesBy 27 = .ok (.iinc 3 1, 3) := dk_132 3 1 (dk_at dksX5_goesBy_1 3 rfl rfl)
theorem dX5_goesBy_30 : decode cX5_goesBy 30 = .ok (.goto (-28), 3) := dk_167 255 228 (dk_at dksX5_goesBy_1 6 rfl rfl)
theorem dX5_goesBy_33 : decode cX5_goesBy 33 = .ok (.aload_n 2, 1) := dk_44 (dk_at dksX5_goesBy_1 9 rfl rfl)
theorem dX5_goesBy_34 : decode cX5_goesBy 34 = .ok (.aload_n 1, 1) := dk_43 (dk_at dksX5_goesBy_1 10 rfl rfl)
theorem dX5_goesBy_35 : decode cX5_goesBy 35 = .ok (.aload_n 0, 1) := dk_42 (dk_at dksX5_goesBy_1 11 rfl rfl)
theorem dX5_goesBy_36 : decode cX5_goesBy 36 = .ok (.aload_n 1, 1) := dk_43 (dk_at dksX5_goesBy_1 12 rfl rfl)
theorem dX5_goesBy_37 : decode cX5_goesBy 37 = .ok (.invokevirtual 123, 3) := dk_182 0 123 (dk_at dksX5_goesBy_1 13 rfl rfl)
theorem dX5_goesBy_40 : decode cX5_goesBy 40 = .ok (.invokevirtual 183, 3) := dk_182 0 183 (dk_at dksX5_goesBy_1 16 rfl rfl)
theorem dX5_goesBy_43 : decode cX5_goesBy 43 = .ok (.ifCond .eq 7, 3) := dk_153 0 7 (dk_at dksX5_goesBy_1 19 rfl rfl)
theorem dX5_goesBy_46 : decode cX5_goesBy 46 = .ok (.iconst 1, 1) := dk_4 (dk_at dksX5_goesBy_1 22 rfl rfl)
theorem dX5_goesBy_47 : decode cX5_goesBy 47 = .ok (.goto 4, 3) := dk_167 0 4 (dk_at dksX5_goesBy_2 0 rfl rfl)
theorem dX5_goesBy_50 : decode cX5_goesBy 50 = .ok (.iconst 0, 1) := dk_3 (dk_at dksX5_goesBy_2 3 rfl rfl)
theorem dX5_goesBy_51 : decode cX5_goesBy 51 = .ok (.aaload, 1) := dk_50 (dk_at dksX5_goesBy_2 4 rfl rfl)
theorem dX5_goesBy_52 : decode cX5_goesBy 52 = .ok (.aload_n 0, 1) := dk_42 (dk_at dksX5_goesBy_2 5 rfl rfl)
theorem dX5_goesBy_53 : decode cX5_goesBy 53 = .ok (.aload_n 1, 1) := dk_43 (dk_at dksX5_goesBy_2 6 rfl rfl)
theorem dX5_goesBy_54 : decode cX5_goesBy 54 = .ok (.invokevirtual 186, 3) := dk_182 0 186 (dk_at dksX5_goesBy_2 7 rfl rfl)
theorem dX5_goesBy_57 : decode cX5_goesBy 57 = .ok (.aload_n 0, 1) := dk_42 (dk_at dksX5_goesBy_2 10 rfl rfl)
theorem dX5_goesBy_58 : decode cX5_goesBy 58 = .ok (.dup, 1) := dk_89 (dk_at dksX5_goesBy_2 11 rfl rfl)
theorem dX5_goesBy_59 : decode cX5_goesBy 59 = .ok (.getfield 89, 3) := dk_180 0 89 (dk_at dksX5_goesBy_2 12 rfl rfl)
theorem dX5_goesBy_62 : decode cX5_goesBy 62 = .ok (.iconst 1, 1) := dk_4 (dk_at dksX5_goesBy_2 15 rfl rfl)
theorem dX5_goesBy_63 : decode cX5_goesBy 63 = .ok (.iadd, 1) := dk_96 (dk_at dksX5_goesBy_2 16 rfl rfl)
theorem dX5_goesBy_64 : decode cX5_goesBy 64 = .ok (.putfield 89, 3) := dk_181 0 89 (dk_at dksX5_goesBy_2 17 rfl rfl)
theorem dX5_goesBy_67 : decode cX5_goesBy 67 = .ok (.aload_n 0, 1) := dk_42 (dk_at dksX5_goesBy_2 20 rfl rfl)
theorem dX5_goesBy_68 : decode cX5_goesBy 68 = .ok (.aload_n 1, 1) := dk_43 (dk_at dksX5_goesBy_2 21 rfl rfl)
theorem dX5_goesBy_69 : decode cX5_goesBy 69 = .ok (.invokevirtual 123, 3) := dk_182 0 123 (dk_at dksX5_goesBy_3 0 rfl rfl)
theorem dX5_goesBy_72 : decode cX5_goesBy 72 = .ok (.ifCond .eq 4, 3) := dk_153 0 4 (dk_at dksX5_goesBy_3 3 rfl rfl)
theorem dX5_goesBy_75 : decode cX5_goesBy 75 = .ok (.return_, 1) := dk_177 (dk_at dksX5_goesBy_3 6 rfl rfl)
theorem dX5_goesBy_76 : decode cX5_goesBy 76 = .ok (.iconst 0, 1) := dk_3 (dk_at dksX5_goesBy_3 7 rfl rfl)
theorem dX5_goesBy_77 : decode cX5_goesBy 77 = .ok (.istore_n 3, 1) := dk_62 (dk_at dksX5_goesBy_3 8 rfl rfl)
theorem dX5_goesBy_78 : decode cX5_goesBy 78 = .ok (.iload_n 3, 1) := dk_29 (dk_at dksX5_goesBy_3 9 rfl rfl)
theorem dX5_goesBy_79 : decode cX5_goesBy 79 = .ok (.aload_n 1, 1) := dk_43 (dk_at dksX5_goesBy_3 10 rfl rfl)
theorem dX5_goesBy_80 : decode cX5_goesBy 80 = .ok (.getfield 51, 3) := dk_180 0 51 (dk_at dksX5_goesBy_3 11 rfl rfl)
theorem dX5_goesBy_83 : decode cX5_goesBy 83 = .ok (.invokevirtual 57, 3) := dk_182 0 57 (dk_at dksX5_goesBy_3 14 rfl rfl)
theorem dX5_goesBy_86 : decode cX5_goesBy 86 = .ok (.if_icmp .ge 15, 3) := dk_162 0 15 (dk_at dksX5_goesBy_3 17 rfl rfl)
theorem dX5_goesBy_89 : decode cX5_goesBy 89 = .ok (.aload_n 0, 1) := dk_42 (dk_at dksX5_goesBy_3 20 rfl rfl)
theorem dX5_goesBy_90 : decode cX5_goesBy 90 = .ok (.aload_n 1, 1) := dk_43 (dk_at dksX5_goesBy_3 21 rfl rfl)
theorem dX5_goesBy_91 : decode cX5_goesBy 91 = .ok (.iload_n 3, 1) := dk_29 (dk_at dksX5_goesBy_3 22 rfl rfl)
theorem dX5_goesBy_92 : decode cX5_goesBy 92 = .ok (.invokevirtual 192, 3) := dk_182 0 192 (dk_at dksX5_goesBy_4 0 rfl rfl)
theorem dX5_goesBy_95 : decode cX5_goesBy 95 = .ok (.iinc 3 1, 3) := dk_132 3 1 (dk_at dksX5_goesBy_4 3 rfl rfl)
theorem dX5_goesBy_98 : decode cX5_goesBy 98 = .ok (.goto (-20), 3) := dk_167 255 236 (dk_at dksX5_goesBy_4 6 rfl rfl)
theorem dX5_goesBy_101 : decode cX5_goesBy 101 = .ok (.return_, 1) := dk_177 (dk_at dksX5_goesBy_4 9 rfl rfl)
abbrev cX5_walks : ByteArray := prog_18_method_13_code
def yX5_walks : MethodName := ⟨RX5, "walks", "(LDogsHour$Text;I)V"⟩
def dkwX5_walks_4 : List UInt8 := [167, 255, 208, 177]
abbrev dktX5_walks_4 : List UInt8 := dkwX5_walks_4 ++ []
def dkwX5_walks_3 : List UInt8 := [42, 180, 0, 21, 28, 46, 160, 0, 15, 42, 89, 180, 0, 86, 4, 29, 120, 128, 181, 0, 86, 132, 3, 1]
abbrev dktX5_walks_3 : List UInt8 := dkwX5_walks_3 ++ dktX5_walks_4
def dkwX5_walks_2 : List UInt8 := [29, 43, 180, 0, 157, 162, 0, 46, 43, 180, 0, 160, 29, 46, 28, 160, 0, 30, 43, 180, 0, 163, 29, 46]
abbrev dktX5_walks_2 : List UInt8 := dkwX5_walks_2 ++ dktX5_walks_3
def dkwX5_walks_1 : List UInt8 := [42, 180, 0, 21, 28, 43, 42, 180, 0, 21, 28, 46, 42, 180, 0, 24, 28, 46, 182, 0, 154, 79, 3, 62]
abbrev dktX5_walks_1 : List UInt8 := dkwX5_walks_1 ++ dktX5_walks_2
def dkwX5_walks_0 : List UInt8 := [42, 180, 0, 24, 28, 46, 155, 0, 40, 42, 180, 0, 24, 28, 46, 42, 180, 0, 21, 28, 46, 159, 0, 25]
abbrev dktX5_walks_0 : List UInt8 := dkwX5_walks_0 ++ dktX5_walks_1
theorem dksX5_walks_0 : cX5_walks.data.toList.drop 0 = dktX5_walks_0 := by decide +kernel
theorem dksX5_walks_1 : cX5_walks.data.toList.drop 24 = dktX5_walks_1 := dk_seg dksX5_walks_0 24 rfl rfl
theorem dksX5_walks_2 : cX5_walks.data.toList.drop 48 = dktX5_walks_2 := dk_seg dksX5_walks_1 24 rfl rfl
theorem dksX5_walks_3 : cX5_walks.data.toList.drop 72 = dktX5_walks_3 := dk_seg dksX5_walks_2 24 rfl rfl
theorem dksX5_walks_4 : cX5_walks.data.toList.drop 96 = dktX5_walks_4 := dk_seg dksX5_walks_3 24 rfl rfl
theorem dX5_walks_0 : decode cX5_walks 0 = .ok (.aload_n 0, 1) := dk_42 (dk_at dksX5_walks_0 0 rfl rfl)
theorem dX5_walks_1 : decode cX5_walks 1 = .ok (.getfield 24, 3) := dk_180 0 24 (dk_at dksX5_walks_0 1 rfl rfl)
theorem dX5_walks_4 : decode cX5_walks 4 = .ok (.iload_n 2, 1) := dk_28 (dk_at dksX5_walks_0 4 rfl rfl)
theorem dX5_walks_5 : decode cX5_walks 5 = .ok (.iaload, 1) := dk_46 (dk_at dksX5_walks_0 5 rfl rfl)
theorem dX5_walks_6 : decode cX5_walks 6 = .ok (.ifCond .lt 40, 3) := dk_155 0 40 (dk_at dksX5_walks_0 6 rfl rfl)
theorem dX5_walks_9 : decode cX5_walks 9 = .ok (.aload_n 0, 1) := dk_42 (dk_at dksX5_walks_0 9 rfl rfl)
theorem dX5_walks_10 : decode cX5_walks 10 = .ok (.getfield 24, 3) := dk_180 0 24 (dk_at dksX5_walks_0 10 rfl rfl)
theorem dX5_walks_13 : decode cX5_walks 13 = .ok (.iload_n 2, 1) := dk_28 (dk_at dksX5_walks_0 13 rfl rfl)
theorem dX5_walks_14 : decode cX5_walks 14 = .ok (.iaload, 1) := dk_46 (dk_at dksX5_walks_0 14 rfl rfl)
theorem dX5_walks_15 : decode cX5_walks 15 = .ok (.aload_n 0, 1) := dk_42 (dk_at dksX5_walks_0 15 rfl rfl)
theorem dX5_walks_16 : decode cX5_walks 16 = .ok (.getfield 21, 3) := dk_180 0 21 (dk_at dksX5_walks_0 16 rfl rfl)
theorem dX5_walks_19 : decode cX5_walks 19 = .ok (.iload_n 2, 1) := dk_28 (dk_at dksX5_walks_0 19 rfl rfl)
theorem dX5_walks_20 : decode cX5_walks 20 = .ok (.iaload, 1) := dk_46 (dk_at dksX5_walks_0 20 rfl rfl)
theorem dX5_walks_21 : decode cX5_walks 21 = .ok (.if_icmp .eq 25, 3) := dk_159 0 25 (dk_at dksX5_walks_0 21 rfl rfl)
theorem dX5_walks_24 : decode cX5_walks 24 = .ok (.aload_n 0, 1) := dk_42 (dk_at dksX5_walks_1 0 rfl rfl)
theorem dX5_walks_25 : decode cX5_walks 25 = .ok (.getfield 21, 3) := dk_180 0 21 (dk_at dksX5_walks_1 1 rfl rfl)
theorem dX5_walks_28 : decode cX5_walks 28 = .ok (.iload_n 2, 1) := dk_28 (dk_at dksX5_walks_1 4 rfl rfl)
theorem dX5_walks_29 : decode cX5_walks 29 = .ok (.aload_n 1, 1) := dk_43 (dk_at dksX5_walks_1 5 rfl rfl)
theorem dX5_walks_30 : decode cX5_walks 30 = .ok (.aload_n 0, 1) := dk_42 (dk_at dksX5_walks_1 6 rfl rfl)
theorem dX5_walks_31 : decode cX5_walks 31 = .ok (.getfield 21, 3) := dk_180 0 21 (dk_at dksX5_walks_1 7 rfl rfl)
theorem dX5_walks_34 : decode cX5_walks 34 = .ok (.iload_n 2, 1) := dk_28 (dk_at dksX5_walks_1 10 rfl rfl)
theorem dX5_walks_35 : decode cX5_walks 35 = .ok (.iaload, 1) := dk_46 (dk_at dksX5_walks_1 11 rfl rfl)
theorem dX5_walks_36 : decode cX5_walks 36 = .ok (.aload_n 0, 1) := dk_42 (dk_at dksX5_walks_1 12 rfl rfl)
theorem dX5_walks_37 : decode cX5_walks 37 = .ok (.getfield 24, 3) := dk_180 0 24 (dk_at dksX5_walks_1 13 rfl rfl)
theorem dX5_walks_40 : decode cX5_walks 40 = .ok (.iload_n 2, 1) := dk_28 (dk_at dksX5_walks_1 16 rfl rfl)
theorem dX5_walks_41 : decode cX5_walks 41 = .ok (.iaload, 1) := dk_46 (dk_at dksX5_walks_1 17 rfl rfl)
theorem dX5_walks_42 : decode cX5_walks 42 = .ok (.invokevirtual 154, 3) := dk_182 0 154 (dk_at dksX5_walks_1 18 rfl rfl)
theorem dX5_walks_45 : decode cX5_walks 45 = .ok (.iastore, 1) := dk_79 (dk_at dksX5_walks_1 21 rfl rfl)
theorem dX5_walks_46 : decode cX5_walks 46 = .ok (.iconst 0, 1) := dk_3 (dk_at dksX5_walks_1 22 rfl rfl)
theorem dX5_walks_47 : decode cX5_walks 47 = .ok (.istore_n 3, 1) := dk_62 (dk_at dksX5_walks_1 23 rfl rfl)
theorem dX5_walks_48 : decode cX5_walks 48 = .ok (.iload_n 3, 1) := dk_29 (dk_at dksX5_walks_2 0 rfl rfl)
theorem dX5_walks_49 : decode cX5_walks 49 = .ok (.aload_n 1, 1) := dk_43 (dk_at dksX5_walks_2 1 rfl rfl)
theorem dX5_walks_50 : decode cX5_walks 50 = .ok (.getfield 157, 3) := dk_180 0 157 (dk_at dksX5_walks_2 2 rfl rfl)
theorem dX5_walks_53 : decode cX5_walks 53 = .ok (.if_icmp .ge 46, 3) := dk_162 0 46 (dk_at dksX5_walks_2 5 rfl rfl)
theorem dX5_walks_56 : decode cX5_walks 56 = .ok (.aload_n 1, 1) := dk_43 (dk_at dksX5_walks_2 8 rfl rfl)
theorem dX5_walks_57 : decode cX5_walks 57 = .ok (.getfield 160, 3) := dk_180 0 160 (dk_at dksX5_walks_2 9 rfl rfl)
theorem dX5_walks_60 : decode cX5_walks 60 = .ok (.iload_n 3, 1) := dk_29 (dk_at dksX5_walks_2 12 rfl rfl)
theorem dX5_walks_61 : decode cX5_walks 61 = .ok (.iaload, 1) := dk_46 (dk_at dksX5_walks_2 13 rfl rfl)
theorem dX5_walks_62 : decode cX5_walks 62 = .ok (.iload_n 2, 1) := dk_28 (dk_at dksX5_walks_2 14 rfl rfl)
theorem dX5_walks_63 : decode cX5_walks 63 = .ok (.if_icmp .ne 30, 3) := dk_160 0 30 (dk_at dksX5_walks_2 15 rfl rfl)
theorem dX5_walks_66 : decode cX5_walks 66 = .ok (.aload_n 1, 1) := dk_43 (dk_at dksX5_walks_2 18 rfl rfl)
theorem dX5_walks_67 : decode cX5_walks 67 = .ok (.getfield 163, 3) := dk_180 0 163 (dk_at dksX5_walks_2 19 rfl rfl)
theorem dX5_walks_70 : decode cX5_walks 70 = .ok (.iload_n 3, 1) := dk_29 (dk_at dksX5_walks_2 22 rfl rfl)
theorem dX5_walks_71 : decode cX5_walks 71 = .ok (.iaload, 1) := dk_46 (dk_at dksX5_walks_2 23 rfl rfl)
theorem dX5_walks_72 : decode cX5_walks 72 = .ok (.aload_n 0, 1) := dk_42 (dk_at dksX5_walks_3 0 rfl rfl)
theorem dX5_walks_73 : decode cX5_walks 73 = .ok (.getfield 21, 3) := dk_180 0 21 (dk_at dksX5_walks_3 1 rfl rfl)
theorem dX5_walks_76 : decode cX5_walks 76 = .ok (.iload_n 2, 1) := dk_28 (dk_at dksX5_walks_3 4 rfl rfl)
theorem dX5_walks_77 : decode cX5_walks 77 = .ok (.iaload, 1) := dk_46 (dk_at dksX5_walks_3 5 rfl rfl)
theorem dX5_walks_78 : decode cX5_walks 78 = .ok (.if_icmp .ne 15, 3) := dk_160 0 15 (dk_at dksX5_walks_3 6 rfl rfl)
theorem dX5_walks_81 : decode cX5_walks 81 = .ok (.aload_n 0, 1) := dk_42 (dk_at dksX5_walks_3 9 rfl rfl)
theorem dX5_walks_82 : decode cX5_walks 82 = .ok (.dup, 1) := dk_89 (dk_at dksX5_walks_3 10 rfl rfl)
theorem dX5_walks_83 : decode cX5_walks 83 = .ok (.getfield 86, 3) := dk_180 0 86 (dk_at dksX5_walks_3 11 rfl rfl)
theorem dX5_walks_86 : decode cX5_walks 86 = .ok (.iconst 1, 1) := dk_4 (dk_at dksX5_walks_3 14 rfl rfl)
theorem dX5_walks_87 : decode cX5_walks 87 = .ok (.iload_n 3, 1) := dk_29 (dk_at dksX5_walks_3 15 rfl rfl)
theorem dX5_walks_88 : decode cX5_walks 88 = .ok (.ishl, 1) := dk_120 (dk_at dksX5_walks_3 16 rfl rfl)
theorem dX5_walks_89 : decode cX5_walks 89 = .ok (.ior, 1) := dk_128 (dk_at dksX5_walks_3 17 rfl rfl)
theorem dX5_walks_90 : decode cX5_walks 90 = .ok (.putfield 86, 3) := dk_181 0 86 (dk_at dksX5_walks_3 18 rfl rfl)
theorem dX5_walks_93 : decode cX5_walks 93 = .ok (.iinc 3 1, 3) := dk_132 3 1 (dk_at dksX5_walks_3 21 rfl rfl)
theorem dX5_walks_96 : decode cX5_walks 96 = .ok (.goto (-48), 3) := dk_167 255 208 (dk_at dksX5_walks_4 0 rfl rfl)
theorem dX5_walks_99 : decode cX5_walks 99 = .ok (.return_, 1) := dk_177 (dk_at dksX5_walks_4 3 rfl rfl)
abbrev cX5_hunts : ByteArray := prog_18_method_14_code
def yX5_hunts : MethodName := ⟨RX5, "hunts", "(LDogsHour$Text;I)V"⟩
def dkwX5_hunts_6 : List UInt8 := [180, 0, 18, 28, 92, 46, 21, 4, 96, 79, 177]
abbrev dktX5_hunts_6 : List UInt8 := dkwX5_hunts_6 ++ []
def dkwX5_hunts_5 : List UInt8 := [180, 0, 27, 29, 92, 46, 21, 4, 100, 79, 42, 180, 0, 15, 28, 92, 46, 21, 4, 96, 79, 42]
abbrev dktX5_hunts_5 : List UInt8 := dkwX5_hunts_5 ++ dktX5_hunts_6
def dkwX5_hunts_4 : List UInt8 := [29, 3, 79, 42, 180, 0, 24, 29, 16, 254, 79, 177, 42, 43, 28, 29, 182, 0, 170, 54, 4, 42]
abbrev dktX5_hunts_4 : List UInt8 := dkwX5_hunts_4 ++ dktX5_hunts_5
def dkwX5_hunts_3 : List UInt8 := [180, 0, 83, 4, 29, 120, 128, 181, 0, 83, 42, 180, 0, 30, 29, 92, 46, 4, 96, 79, 42, 180, 0, 21]
abbrev dktX5_hunts_3 : List UInt8 := dkwX5_hunts_3 ++ dktX5_hunts_4
def dkwX5_hunts_2 : List UInt8 := [79, 177, 42, 180, 0, 38, 28, 50, 29, 46, 42, 180, 0, 35, 28, 50, 29, 46, 164, 0, 41, 42, 89]
abbrev dktX5_hunts_2 : List UInt8 := dkwX5_hunts_2 ++ dktX5_hunts_3
def dkwX5_hunts_1 : List UInt8 := [159, 0, 26, 42, 180, 0, 9, 28, 43, 42, 180, 0, 9, 28, 46, 42, 180, 0, 21, 29, 46, 182, 0, 154]
abbrev dktX5_hunts_1 : List UInt8 := dkwX5_hunts_1 ++ dktX5_hunts_2
def dkwX5_hunts_0 : List UInt8 := [42, 43, 28, 182, 0, 166, 62, 29, 156, 0, 4, 177, 42, 180, 0, 9, 28, 46, 42, 180, 0, 21, 29, 46]
abbrev dktX5_hunts_0 : List UInt8 := dkwX5_hunts_0 ++ dktX5_hunts_1
theorem dksX5_hunts_0 : cX5_hunts.data.toList.drop 0 = dktX5_hunts_0 := by decide +kernel
theorem dksX5_hunts_1 : cX5_hunts.data.toList.drop 24 = dktX5_hunts_1 := dk_seg dksX5_hunts_0 24 rfl rfl
theorem dksX5_hunts_2 : cX5_hunts.data.toList.drop 48 = dktX5_hunts_2 := dk_seg dksX5_hunts_1 24 rfl rfl
theorem dksX5_hunts_3 : cX5_hunts.data.toList.drop 71 = dktX5_hunts_3 := dk_seg dksX5_hunts_2 23 rfl rfl
theorem dksX5_hunts_4 : cX5_hunts.data.toList.drop 95 = dktX5_hunts_4 := dk_seg dksX5_hunts_3 24 rfl rfl
theorem dksX5_hunts_5 : cX5_hunts.data.toList.drop 117 = dktX5_hunts_5 := dk_seg dksX5_hunts_4 22 rfl rfl
theorem dksX5_hunts_6 : cX5_hunts.data.toList.drop 139 = dktX5_hunts_6 := dk_seg dksX5_hunts_5 22 rfl rfl
theorem dX5_hunts_0 : decode cX5_hunts 0 = .ok (.aload_n 0, 1) := dk_42 (dk_at dksX5_hunts_0 0 rfl rfl)
theorem dX5_hunts_1 : decode cX5_hunts 1 = .ok (.aload_n 1, 1) := dk_43 (dk_at dksX5_hunts_0 1 rfl rfl)
theorem dX5_hunts_2 : decode cX5_hunts 2 = .ok (.iload_n 2, 1) := dk_28 (dk_at dksX5_hunts_0 2 rfl rfl)
theorem dX5_hunts_3 : decode cX5_hunts 3 = .ok (.invokevirtual 166, 3) := dk_182 0 166 (dk_at dksX5_hunts_0 3 rfl rfl)
theorem dX5_hunts_6 : decode cX5_hunts 6 = .ok (.istore_n 3, 1) := dk_62 (dk_at dksX5_hunts_0 6 rfl rfl)
theorem dX5_hunts_7 : decode cX5_hunts 7 = .ok (.iload_n 3, 1) := dk_29 (dk_at dksX5_hunts_0 7 rfl rfl)
theorem dX5_hunts_8 : decode cX5_hunts 8 = .ok (.ifCond .ge 4, 3) := dk_156 0 4 (dk_at dksX5_hunts_0 8 rfl rfl)
theorem dX5_hunts_11 : decode cX5_hunts 11 = .ok (.return_, 1) := dk_177 (dk_at dksX5_hunts_0 11 rfl rfl)
theorem dX5_hunts_12 : decode cX5_hunts 12 = .ok (.aload_n 0, 1) := dk_42 (dk_at dksX5_hunts_0 12 rfl rfl)
theorem dX5_hunts_13 : decode cX5_hunts 13 = .ok (.getfield 9, 3) := dk_180 0 9 (dk_at dksX5_hunts_0 13 rfl rfl)
theorem dX5_hunts_16 : decode cX5_hunts 16 = .ok (.iload_n 2, 1) := dk_28 (dk_at dksX5_hunts_0 16 rfl rfl)
theorem dX5_hunts_17 : decode cX5_hunts 17 = .ok (.iaload, 1) := dk_46 (dk_at dksX5_hunts_0 17 rfl rfl)
theorem dX5_hunts_18 : decode cX5_hunts 18 = .ok (.aload_n 0, 1) := dk_42 (dk_at dksX5_hunts_0 18 rfl rfl)
theorem dX5_hunts_19 : decode cX5_hunts 19 = .ok (.getfield 21, 3) := dk_180 0 21 (dk_at dksX5_hunts_0 19 rfl rfl)
theorem dX5_hunts_22 : decode cX5_hunts 22 = .ok (.iload_n 3, 1) := dk_29 (dk_at dksX5_hunts_0 22 rfl rfl)
theorem dX5_hunts_23 : decode cX5_hunts 23 = .ok (.iaload, 1) := dk_46 (dk_at dksX5_hunts_0 23 rfl rfl)
theorem dX5_hunts_24 : decode cX5_hunts 24 = .ok (.if_icmp .eq 26, 3) := dk_159 0 26 (dk_at dksX5_hunts_1 0 rfl rfl)
theorem dX5_hunts_27 : decode cX5_hunts 27 = .ok (.aload_n 0, 1) := dk_42 (dk_at dksX5_hunts_1 3 rfl rfl)
theorem dX5_hunts_28 : decode cX5_hunts 28 = .ok (.getfield 9, 3) := dk_180 0 9 (dk_at dksX5_hunts_1 4 rfl rfl)
theorem dX5_hunts_31 : decode cX5_hunts 31 = .ok (.iload_n 2, 1) := dk_28 (dk_at dksX5_hunts_1 7 rfl rfl)
theorem dX5_hunts_32 : decode cX5_hunts 32 = .ok (.aload_n 1, 1) := dk_43 (dk_at dksX5_hunts_1 8 rfl rfl)
theorem dX5_hunts_33 : decode cX5_hunts 33 = .ok (.aload_n 0, 1) := dk_42 (dk_at dksX5_hunts_1 9 rfl rfl)
theorem dX5_hunts_34 : decode cX5_hunts 34 = .ok (.getfield 9, 3) := dk_180 0 9 (dk_at dksX5_hunts_1 10 rfl rfl)
theorem dX5_hunts_37 : decode cX5_hunts 37 = .ok (.iload_n 2, 1) := dk_28 (dk_at dksX5_hunts_1 13 rfl rfl)
theorem dX5_hunts_38 : decode cX5_hunts 38 = .ok (.iaload, 1) := dk_46 (dk_at dksX5_hunts_1 14 rfl rfl)
theorem dX5_hunts_39 : decode cX5_hunts 39 = .ok (.aload_n 0, 1) := dk_42 (dk_at dksX5_hunts_1 15 rfl rfl)
theorem dX5_hunts_40 : decode cX5_hunts 40 = .ok (.getfield 21, 3) := dk_180 0 21 (dk_at dksX5_hunts_1 16 rfl rfl)
theorem dX5_hunts_43 : decode cX5_hunts 43 = .ok (.iload_n 3, 1) := dk_29 (dk_at dksX5_hunts_1 19 rfl rfl)
theorem dX5_hunts_44 : decode cX5_hunts 44 = .ok (.iaload, 1) := dk_46 (dk_at dksX5_hunts_1 20 rfl rfl)
theorem dX5_hunts_45 : decode cX5_hunts 45 = .ok (.invokevirtual 154, 3) := dk_182 0 154 (dk_at dksX5_hunts_1 21 rfl rfl)
theorem dX5_hunts_48 : decode cX5_hunts 48 = .ok (.iastore, 1) := dk_79 (dk_at dksX5_hunts_2 0 rfl rfl)
theorem dX5_hunts_49 : decode cX5_hunts 49 = .ok (.return_, 1) := dk_177 (dk_at dksX5_hunts_2 1 rfl rfl)
theorem dX5_hunts_50 : decode cX5_hunts 50 = .ok (.aload_n 0, 1) := dk_42 (dk_at dksX5_hunts_2 2 rfl rfl)
theorem dX5_hunts_51 : decode cX5_hunts 51 = .ok (.getfield 38, 3) := dk_180 0 38 (dk_at dksX5_hunts_2 3 rfl rfl)
theorem dX5_hunts_54 : decode cX5_hunts 54 = .ok (.iload_n 2, 1) := dk_28 (dk_at dksX5_hunts_2 6 rfl rfl)
theorem dX5_hunts_55 : decode cX5_hunts 55 = .ok (.aaload, 1) := dk_50 (dk_at dksX5_hunts_2 7 rfl rfl)
theorem dX5_hunts_56 : decode cX5_hunts 56 = .ok (.iload_n 3, 1) := dk_29 (dk_at dksX5_hunts_2 8 rfl rfl)
theorem dX5_hunts_57 : decode cX5_hunts 57 = .ok (.iaload, 1) := dk_46 (dk_at dksX5_hunts_2 9 rfl rfl)
theorem dX5_hunts_58 : decode cX5_hunts 58 = .ok (.aload_n 0, 1) := dk_42 (dk_at dksX5_hunts_2 10 rfl rfl)
theorem dX5_hunts_59 : decode cX5_hunts 59 = .ok (.getfield 35, 3) := dk_180 0 35 (dk_at dksX5_hunts_2 11 rfl rfl)
theorem dX5_hunts_62 : decode cX5_hunts 62 = .ok (.iload_n 2, 1) := dk_28 (dk_at dksX5_hunts_2 14 rfl rfl)
theorem dX5_hunts_63 : decode cX5_hunts 63 = .ok (.aaload, 1) := dk_50 (dk_at dksX5_hunts_2 15 rfl rfl)
theorem dX5_hunts_64 : decode cX5_hunts 64 = .ok (.iload_n 3, 1) := dk_29 (dk_at dksX5_hunts_2 16 rfl rfl)
theorem dX5_hunts_65 : decode cX5_hunts 65 = .ok (.iaload, 1) := dk_46 (dk_at dksX5_hunts_2 17 rfl rfl)
theorem dX5_hunts_66 : decode cX5_hunts 66 = .ok (.if_icmp .le 41, 3) := dk_164 0 41 (dk_at dksX5_hunts_2 18 rfl rfl)
theorem dX5_hunts_69 : decode cX5_hunts 69 = .ok (.aload_n 0, 1) := dk_42 (dk_at dksX5_hunts_2 21 rfl rfl)
theorem dX5_hunts_70 : decode cX5_hunts 70 = .ok (.dup, 1) := dk_89 (dk_at dksX5_hunts_2 22 rfl rfl)
theorem dX5_hunts_71 : decode cX5_hunts 71 = .ok (.getfield 83, 3) := dk_180 0 83 (dk_at dksX5_hunts_3 0 rfl rfl)
theorem dX5_hunts_74 : decode cX5_hunts 74 = .ok (.iconst 1, 1) := dk_4 (dk_at dksX5_hunts_3 3 rfl rfl)
theorem dX5_hunts_75 : decode cX5_hunts 75 = .ok (.iload_n 3, 1) := dk_29 (dk_at dksX5_hunts_3 4 rfl rfl)
theorem dX5_hunts_76 : decode cX5_hunts 76 = .ok (.ishl, 1) := dk_120 (dk_at dksX5_hunts_3 5 rfl rfl)
theorem dX5_hunts_77 : decode cX5_hunts 77 = .ok (.ior, 1) := dk_128 (dk_at dksX5_hunts_3 6 rfl rfl)
theorem dX5_hunts_78 : decode cX5_hunts 78 = .ok (.putfield 83, 3) := dk_181 0 83 (dk_at dksX5_hunts_3 7 rfl rfl)
theorem dX5_hunts_81 : decode cX5_hunts 81 = .ok (.aload_n 0, 1) := dk_42 (dk_at dksX5_hunts_3 10 rfl rfl)
theorem dX5_hunts_82 : decode cX5_hunts 82 = .ok (.getfield 30, 3) := dk_180 0 30 (dk_at dksX5_hunts_3 11 rfl rfl)
theorem dX5_hunts_85 : decode cX5_hunts 85 = .ok (.iload_n 3, 1) := dk_29 (dk_at dksX5_hunts_3 14 rfl rfl)
theorem dX5_hunts_86 : decode cX5_hunts 86 = .ok (.dup2, 1) := dk_92 (dk_at dksX5_hunts_3 15 rfl rfl)
theorem dX5_hunts_87 : decode cX5_hunts 87 = .ok (.iaload, 1) := dk_46 (dk_at dksX5_hunts_3 16 rfl rfl)
theorem dX5_hunts_88 : decode cX5_hunts 88 = .ok (.iconst 1, 1) := dk_4 (dk_at dksX5_hunts_3 17 rfl rfl)
theorem dX5_hunts_89 : decode cX5_hunts 89 = .ok (.iadd, 1) := dk_96 (dk_at dksX5_hunts_3 18 rfl rfl)
theorem dX5_hunts_90 : decode cX5_hunts 90 = .ok (.iastore, 1) := dk_79 (dk_at dksX5_hunts_3 19 rfl rfl)
theorem dX5_hunts_91 : decode cX5_hunts 91 = .ok (.aload_n 0, 1) := dk_42 (dk_at dksX5_hunts_3 20 rfl rfl)
theorem dX5_hunts_92 : decode cX5_hunts 92 = .ok (.getfield 21, 3) := dk_180 0 21 (dk_at dksX5_hunts_3 21 rfl rfl)
theorem dX5_hunts_95 : decode cX5_hunts 95 = .ok (.iload_n 3, 1) := dk_29 (dk_at dksX5_hunts_4 0 rfl rfl)
theorem dX5_hunts_96 : decode cX5_hunts 96 = .ok (.iconst 0, 1) := dk_3 (dk_at dksX5_hunts_4 1 rfl rfl)
theorem dX5_hunts_97 : decode cX5_hunts 97 = .ok (.iastore, 1) := dk_79 (dk_at dksX5_hunts_4 2 rfl rfl)
theorem dX5_hunts_98 : decode cX5_hunts 98 = .ok (.aload_n 0, 1) := dk_42 (dk_at dksX5_hunts_4 3 rfl rfl)
theorem dX5_hunts_99 : decode cX5_hunts 99 = .ok (.getfield 24, 3) := dk_180 0 24 (dk_at dksX5_hunts_4 4 rfl rfl)
theorem dX5_hunts_102 : decode cX5_hunts 102 = .ok (.iload_n 3, 1) := dk_29 (dk_at dksX5_hunts_4 7 rfl rfl)
theorem dX5_hunts_103 : decode cX5_hunts 103 = .ok (.bipush (-2), 2) := dk_16 254 (dk_at dksX5_hunts_4 8 rfl rfl)
theorem dX5_hunts_105 : decode cX5_hunts 105 = .ok (.iastore, 1) := dk_79 (dk_at dksX5_hunts_4 10 rfl rfl)
theorem dX5_hunts_106 : decode cX5_hunts 106 = .ok (.return_, 1) := dk_177 (dk_at dksX5_hunts_4 11 rfl rfl)
theorem dX5_hunts_107 : decode cX5_hunts 107 = .ok (.aload_n 0, 1) := dk_42 (dk_at dksX5_hunts_4 12 rfl rfl)
theorem dX5_hunts_108 : decode cX5_hunts 108 = .ok (.aload_n 1, 1) := dk_43 (dk_at dksX5_hunts_4 13 rfl rfl)
theorem dX5_hunts_109 : decode cX5_hunts 109 = .ok (.iload_n 2, 1) := dk_28 (dk_at dksX5_hunts_4 14 rfl rfl)
theorem dX5_hunts_110 : decode cX5_hunts 110 = .ok (.iload_n 3, 1) := dk_29 (dk_at dksX5_hunts_4 15 rfl rfl)
theorem dX5_hunts_111 : decode cX5_hunts 111 = .ok (.invokevirtual 170, 3) := dk_182 0 170 (dk_at dksX5_hunts_4 16 rfl rfl)
theorem dX5_hunts_114 : decode cX5_hunts 114 = .ok (.istore 4, 2) := dk_54 4 (dk_at dksX5_hunts_4 19 rfl rfl)
theorem dX5_hunts_116 : decode cX5_hunts 116 = .ok (.aload_n 0, 1) := dk_42 (dk_at dksX5_hunts_4 21 rfl rfl)
theorem dX5_hunts_117 : decode cX5_hunts 117 = .ok (.getfield 27, 3) := dk_180 0 27 (dk_at dksX5_hunts_5 0 rfl rfl)
theorem dX5_hunts_120 : decode cX5_hunts 120 = .ok (.iload_n 3, 1) := dk_29 (dk_at dksX5_hunts_5 3 rfl rfl)
theorem dX5_hunts_121 : decode cX5_hunts 121 = .ok (.dup2, 1) := dk_92 (dk_at dksX5_hunts_5 4 rfl rfl)
theorem dX5_hunts_122 : decode cX5_hunts 122 = .ok (.iaload, 1) := dk_46 (dk_at dksX5_hunts_5 5 rfl rfl)
theorem dX5_hunts_123 : decode cX5_hunts 123 = .ok (.iload 4, 2) := dk_21 4 (dk_at dksX5_hunts_5 6 rfl rfl)
theorem dX5_hunts_125 : decode cX5_hunts 125 = .ok (.isub, 1) := dk_100 (dk_at dksX5_hunts_5 8 rfl rfl)
theorem dX5_hunts_126 : decode cX5_hunts 126 = .ok (.iastore, 1) := dk_79 (dk_at dksX5_hunts_5 9 rfl rfl)
theorem dX5_hunts_127 : decode cX5_hunts 127 = .ok (.aload_n 0, 1) := dk_42 (dk_at dksX5_hunts_5 10 rfl rfl)
theorem dX5_hunts_128 : decode cX5_hunts 128 = .ok (.getfield 15, 3) := dk_180 0 15 (dk_at dksX5_hunts_5 11 rfl rfl)
theorem dX5_hunts_131 : decode cX5_hunts 131 = .ok (.iload_n 2, 1) := dk_28 (dk_at dksX5_hunts_5 14 rfl rfl)
theorem dX5_hunts_132 : decode cX5_hunts 132 = .ok (.dup2, 1) := dk_92 (dk_at dksX5_hunts_5 15 rfl rfl)
theorem dX5_hunts_133 : decode cX5_hunts 133 = .ok (.iaload, 1) := dk_46 (dk_at dksX5_hunts_5 16 rfl rfl)
theorem dX5_hunts_134 : decode cX5_hunts 134 = .ok (.iload 4, 2) := dk_21 4 (dk_at dksX5_hunts_5 17 rfl rfl)
theorem dX5_hunts_136 : decode cX5_hunts 136 = .ok (.iadd, 1) := dk_96 (dk_at dksX5_hunts_5 19 rfl rfl)
theorem dX5_hunts_137 : decode cX5_hunts 137 = .ok (.iastore, 1) := dk_79 (dk_at dksX5_hunts_5 20 rfl rfl)
theorem dX5_hunts_138 : decode cX5_hunts 138 = .ok (.aload_n 0, 1) := dk_42 (dk_at dksX5_hunts_5 21 rfl rfl)
theorem dX5_hunts_139 : decode cX5_hunts 139 = .ok (.getfield 18, 3) := dk_180 0 18 (dk_at dksX5_hunts_6 0 rfl rfl)
theorem dX5_hunts_142 : decode cX5_hunts 142 = .ok (.iload_n 2, 1) := dk_28 (dk_at dksX5_hunts_6 3 rfl rfl)
theorem dX5_hunts_143 : decode cX5_hunts 143 = .ok (.dup2, 1) := dk_92 (dk_at dksX5_hunts_6 4 rfl rfl)
theorem dX5_hunts_144 : decode cX5_hunts 144 = .ok (.iaload, 1) := dk_46 (dk_at dksX5_hunts_6 5 rfl rfl)
theorem dX5_hunts_145 : decode cX5_hunts 145 = .ok (.iload 4, 2) := dk_21 4 (dk_at dksX5_hunts_6 6 rfl rfl)
theorem dX5_hunts_147 : decode cX5_hunts 147 = .ok (.iadd, 1) := dk_96 (dk_at dksX5_hunts_6 8 rfl rfl)
theorem dX5_hunts_148 : decode cX5_hunts 148 = .ok (.iastore, 1) := dk_79 (dk_at dksX5_hunts_6 9 rfl rfl)
theorem dX5_hunts_149 : decode cX5_hunts 149 = .ok (.return_, 1) := dk_177 (dk_at dksX5_hunts_6 10 rfl rfl)
abbrev cX5_minds : ByteArray := prog_18_method_12_code
def yX5_minds : MethodName := ⟨RX5, "minds", "(LDogsHour$Text;I)I"⟩
def dkwX5_minds_4 : List UInt8 := [172]
abbrev dktX5_minds_4 : List UInt8 := dkwX5_minds_4 ++ []
def dkwX5_minds_3 : List UInt8 := [21, 6, 21, 4, 163, 0, 6, 167, 0, 10, 21, 5, 62, 21, 6, 54, 4, 132, 5, 1, 167, 255, 174, 29]
abbrev dktX5_minds_3 : List UInt8 := dkwX5_minds_3 ++ dktX5_minds_4
def dkwX5_minds_2 : List UInt8 := [46, 18, 149, 161, 0, 6, 167, 0, 34, 42, 43, 28, 21, 5, 182, 0, 150, 54, 6, 29, 155, 0, 13]
abbrev dktX5_minds_2 : List UInt8 := dkwX5_minds_2 ++ dktX5_minds_3
def dkwX5_minds_1 : List UInt8 := [182, 0, 145, 154, 0, 61, 43, 180, 0, 108, 42, 180, 0, 9, 28, 46, 50, 42, 180, 0, 21, 21, 5, 46]
abbrev dktX5_minds_1 : List UInt8 := dkwX5_minds_1 ++ dktX5_minds_2
def dkwX5_minds_0 : List UInt8 := [16, 254, 62, 3, 54, 4, 3, 54, 5, 21, 5, 43, 180, 0, 73, 182, 0, 57, 162, 0, 76, 42, 21, 5]
abbrev dktX5_minds_0 : List UInt8 := dkwX5_minds_0 ++ dktX5_minds_1
theorem dksX5_minds_0 : cX5_minds.data.toList.drop 0 = dktX5_minds_0 := by decide +kernel
theorem dksX5_minds_1 : cX5_minds.data.toList.drop 24 = dktX5_minds_1 := dk_seg dksX5_minds_0 24 rfl rfl
theorem dksX5_minds_2 : cX5_minds.data.toList.drop 48 = dktX5_minds_2 := dk_seg dksX5_minds_1 24 rfl rfl
theorem dksX5_minds_3 : cX5_minds.data.toList.drop 71 = dktX5_minds_3 := dk_seg dksX5_minds_2 23 rfl rfl
theorem dksX5_minds_4 : cX5_minds.data.toList.drop 95 = dktX5_minds_4 := dk_seg dksX5_minds_3 24 rfl rfl
theorem dX5_minds_0 : decode cX5_minds 0 = .ok (.bipush (-2), 2) := dk_16 254 (dk_at dksX5_minds_0 0 rfl rfl)
theorem dX5_minds_2 : decode cX5_minds 2 = .ok (.istore_n 3, 1) := dk_62 (dk_at dksX5_minds_0 2 rfl rfl)
theorem dX5_minds_3 : decode cX5_minds 3 = .ok (.iconst 0, 1) := dk_3 (dk_at dksX5_minds_0 3 rfl rfl)
theorem dX5_minds_4 : decode cX5_minds 4 = .ok (.istore 4, 2) := dk_54 4 (dk_at dksX5_minds_0 4 rfl rfl)
theorem dX5_minds_6 : decode cX5_minds 6 = .ok (.iconst 0, 1) := dk_3 (dk_at dksX5_minds_0 6 rfl rfl)
theorem dX5_minds_7 : decode cX5_minds 7 = .ok (.istore 5, 2) := dk_54 5 (dk_at dksX5_minds_0 7 rfl rfl)
theorem dX5_minds_9 : decode cX5_minds 9 = .ok (.iload 5, 2) := dk_21 5 (dk_at dksX5_minds_0 9 rfl rfl)
theorem dX5_minds_11 : decode cX5_minds 11 = .ok (.aload_n 1, 1) := dk_43 (dk_at dksX5_minds_0 11 rfl rfl)
theorem dX5_minds_12 : decode cX5_minds 12 = .ok (.getfield 73, 3) := dk_180 0 73 (dk_at dksX5_minds_0 12 rfl rfl)
theorem dX5_minds_15 : decode cX5_minds 15 = .ok (.invokevirtual 57, 3) := dk_182 0 57 (dk_at dksX5_minds_0 15 rfl rfl)
theorem dX5_minds_18 : decode cX5_minds 18 = .ok (.if_icmp .ge 76, 3) := dk_162 0 76 (dk_at dksX5_minds_0 18 rfl rfl)
theorem dX5_minds_21 : decode cX5_minds 21 = .ok (.aload_n 0, 1) := dk_42 (dk_at dksX5_minds_0 21 rfl rfl)
theorem dX5_minds_22 : decode cX5_minds 22 = .ok (.iload 5, 2) := dk_21 5 (dk_at dksX5_minds_0 22 rfl rfl)
theorem dX5_minds_24 : decode cX5_minds 24 = .ok (.invokevirtual 145, 3) := dk_182 0 145 (dk_at dksX5_minds_1 0 rfl rfl)
theorem dX5_minds_27 : decode cX5_minds 27 = .ok (.ifCond .ne 61, 3) := dk_154 0 61 (dk_at dksX5_minds_1 3 rfl rfl)
theorem dX5_minds_30 : decode cX5_minds 30 = .ok (.aload_n 1, 1) := dk_43 (dk_at dksX5_minds_1 6 rfl rfl)
theorem dX5_minds_31 : decode cX5_minds 31 = .ok (.getfield 108, 3) := dk_180 0 108 (dk_at dksX5_minds_1 7 rfl rfl)
theorem dX5_minds_34 : decode cX5_minds 34 = .ok (.aload_n 0, 1) := dk_42 (dk_at dksX5_minds_1 10 rfl rfl)
theorem dX5_minds_35 : decode cX5_minds 35 = .ok (.getfield 9, 3) := dk_180 0 9 (dk_at dksX5_minds_1 11 rfl rfl)
theorem dX5_minds_38 : decode cX5_minds 38 = .ok (.iload_n 2, 1) := dk_28 (dk_at dksX5_minds_1 14 rfl rfl)
theorem dX5_minds_39 : decode cX5_minds 39 = .ok (.iaload, 1) := dk_46 (dk_at dksX5_minds_1 15 rfl rfl)
theorem dX5_minds_40 : decode cX5_minds 40 = .ok (.aaload, 1) := dk_50 (dk_at dksX5_minds_1 16 rfl rfl)
theorem dX5_minds_41 : decode cX5_minds 41 = .ok (.aload_n 0, 1) := dk_42 (dk_at dksX5_minds_1 17 rfl rfl)
theorem dX5_minds_42 : decode cX5_minds 42 = .ok (.getfield 21, 3) := dk_180 0 21 (dk_at dksX5_minds_1 18 rfl rfl)
theorem dX5_minds_45 : decode cX5_minds 45 = .ok (.iload 5, 2) := dk_21 5 (dk_at dksX5_minds_1 21 rfl rfl)
theorem dX5_minds_47 : decode cX5_minds 47 = .ok (.iaload, 1) := dk_46 (dk_at dksX5_minds_1 23 rfl rfl)
theorem dX5_minds_48 : decode cX5_minds 48 = .ok (.iaload, 1) := dk_46 (dk_at dksX5_minds_2 0 rfl rfl)
theorem dX5_minds_49 : decode cX5_minds 49 = .ok (.ldc 149, 2) := dk_18 149 (dk_at dksX5_minds_2 1 rfl rfl)
theorem dX5_minds_51 : decode cX5_minds 51 = .ok (.if_icmp .lt 6, 3) := dk_161 0 6 (dk_at dksX5_minds_2 3 rfl rfl)
theorem dX5_minds_54 : decode cX5_minds 54 = .ok (.goto 34, 3) := dk_167 0 34 (dk_at dksX5_minds_2 6 rfl rfl)
theorem dX5_minds_57 : decode cX5_minds 57 = .ok (.aload_n 0, 1) := dk_42 (dk_at dksX5_minds_2 9 rfl rfl)
theorem dX5_minds_58 : decode cX5_minds 58 = .ok (.aload_n 1, 1) := dk_43 (dk_at dksX5_minds_2 10 rfl rfl)
theorem dX5_minds_59 : decode cX5_minds 59 = .ok (.iload_n 2, 1) := dk_28 (dk_at dksX5_minds_2 11 rfl rfl)
theorem dX5_minds_60 : decode cX5_minds 60 = .ok (.iload 5, 2) := dk_21 5 (dk_at dksX5_minds_2 12 rfl rfl)
theorem dX5_minds_62 : decode cX5_minds 62 = .ok (.invokevirtual 150, 3) := dk_182 0 150 (dk_at dksX5_minds_2 14 rfl rfl)
theorem dX5_minds_65 : decode cX5_minds 65 = .ok (.istore 6, 2) := dk_54 6 (dk_at dksX5_minds_2 17 rfl rfl)
theorem dX5_minds_67 : decode cX5_minds 67 = .ok (.iload_n 3, 1) := dk_29 (dk_at dksX5_minds_2 19 rfl rfl)
theorem dX5_minds_68 : decode cX5_minds 68 = .ok (.ifCond .lt 13, 3) := dk_155 0 13 (dk_at dksX5_minds_2 20 rfl rfl)
theorem dX5_minds_71 : decode cX5_minds 71 = .ok (.iload 6, 2) := dk_21 6 (dk_at dksX5_minds_3 0 rfl rfl)
theorem dX5_minds_73 : decode cX5_minds 73 = .ok (.iload 4, 2) := dk_21 4 (dk_at dksX5_minds_3 2 rfl rfl)
theorem dX5_minds_75 : decode cX5_minds 75 = .ok (.if_icmp .gt 6, 3) := dk_163 0 6 (dk_at dksX5_minds_3 4 rfl rfl)
theorem dX5_minds_78 : decode cX5_minds 78 = .ok (.goto 10, 3) := dk_167 0 10 (dk_at dksX5_minds_3 7 rfl rfl)
theorem dX5_minds_81 : decode cX5_minds 81 = .ok (.iload 5, 2) := dk_21 5 (dk_at dksX5_minds_3 10 rfl rfl)
theorem dX5_minds_83 : decode cX5_minds 83 = .ok (.istore_n 3, 1) := dk_62 (dk_at dksX5_minds_3 12 rfl rfl)
theorem dX5_minds_84 : decode cX5_minds 84 = .ok (.iload 6, 2) := dk_21 6 (dk_at dksX5_minds_3 13 rfl rfl)
theorem dX5_minds_86 : decode cX5_minds 86 = .ok (.istore 4, 2) := dk_54 4 (dk_at dksX5_minds_3 15 rfl rfl)
theorem dX5_minds_88 : decode cX5_minds 88 = .ok (.iinc 5 1, 3) := dk_132 5 1 (dk_at dksX5_minds_3 17 rfl rfl)
theorem dX5_minds_91 : decode cX5_minds 91 = .ok (.goto (-82), 3) := dk_167 255 174 (dk_at dksX5_minds_3 20 rfl rfl)
theorem dX5_minds_94 : decode cX5_minds 94 = .ok (.iload_n 3, 1) := dk_29 (dk_at dksX5_minds_3 23 rfl rfl)
theorem dX5_minds_95 : decode cX5_minds 95 = .ok (.ireturn, 1) := dk_172 (dk_at dksX5_minds_4 0 rfl rfl)
abbrev cX5_rests : ByteArray := prog_18_method_15_code
def yX5_rests : MethodName := ⟨RX5, "rests", "(LDogsHour$Text;)V"⟩
def dkwX5_rests_2 : List UInt8 := [3, 181, 0, 83, 177]
abbrev dktX5_rests_2 : List UInt8 := dkwX5_rests_2 ++ []
def dkwX5_rests_1 : List UInt8 := [182, 0, 63, 192, 0, 67, 180, 0, 69, 79, 42, 180, 0, 15, 28, 3, 79, 132, 2, 1, 167, 255, 215, 42]
abbrev dktX5_rests_1 : List UInt8 := dkwX5_rests_1 ++ dktX5_rests_2
def dkwX5_rests_0 : List UInt8 := [3, 61, 28, 43, 180, 0, 51, 182, 0, 57, 162, 0, 36, 42, 180, 0, 9, 28, 43, 180, 0, 51, 28]
abbrev dktX5_rests_0 : List UInt8 := dkwX5_rests_0 ++ dktX5_rests_1
theorem dksX5_rests_0 : cX5_rests.data.toList.drop 0 = dktX5_rests_0 := by decide +kernel
theorem dksX5_rests_1 : cX5_rests.data.toList.drop 23 = dktX5_rests_1 := dk_seg dksX5_rests_0 23 rfl rfl
theorem dksX5_rests_2 : cX5_rests.data.toList.drop 47 = dktX5_rests_2 := dk_seg dksX5_rests_1 24 rfl rfl
theorem dX5_rests_0 : decode cX5_rests 0 = .ok (.iconst 0, 1) := dk_3 (dk_at dksX5_rests_0 0 rfl rfl)
theorem dX5_rests_1 : decode cX5_rests 1 = .ok (.istore_n 2, 1) := dk_61 (dk_at dksX5_rests_0 1 rfl rfl)
theorem dX5_rests_2 : decode cX5_rests 2 = .ok (.iload_n 2, 1) := dk_28 (dk_at dksX5_rests_0 2 rfl rfl)
theorem dX5_rests_3 : decode cX5_rests 3 = .ok (.aload_n 1, 1) := dk_43 (dk_at dksX5_rests_0 3 rfl rfl)
theorem dX5_rests_4 : decode cX5_rests 4 = .ok (.getfield 51, 3) := dk_180 0 51 (dk_at dksX5_rests_0 4 rfl rfl)
theorem dX5_rests_7 : decode cX5_rests 7 = .ok (.invokevirtual 57, 3) := dk_182 0 57 (dk_at dksX5_rests_0 7 rfl rfl)
theorem dX5_rests_10 : decode cX5_rests 10 = .ok (.if_icmp .ge 36, 3) := dk_162 0 36 (dk_at dksX5_rests_0 10 rfl rfl)
theorem dX5_rests_13 : decode cX5_rests 13 = .ok (.aload_n 0, 1) := dk_42 (dk_at dksX5_rests_0 13 rfl rfl)
theorem dX5_rests_14 : decode cX5_rests 14 = .ok (.getfield 9, 3) := dk_180 0 9 (dk_at dksX5_rests_0 14 rfl rfl)
theorem dX5_rests_17 : decode cX5_rests 17 = .ok (.iload_n 2, 1) := dk_28 (dk_at dksX5_rests_0 17 rfl rfl)
theorem dX5_rests_18 : decode cX5_rests 18 = .ok (.aload_n 1, 1) := dk_43 (dk_at dksX5_rests_0 18 rfl rfl)
theorem dX5_rests_19 : decode cX5_rests 19 = .ok (.getfield 51, 3) := dk_180 0 51 (dk_at dksX5_rests_0 19 rfl rfl)
theorem dX5_rests_22 : decode cX5_rests 22 = .ok (.iload_n 2, 1) := dk_28 (dk_at dksX5_rests_0 22 rfl rfl)
theorem dX5_rests_23 : decode cX5_rests 23 = .ok (.invokevirtual 63, 3) := dk_182 0 63 (dk_at dksX5_rests_1 0 rfl rfl)
theorem dX5_rests_26 : decode cX5_rests 26 = .ok (.checkcast 67, 3) := dk_192 0 67 (dk_at dksX5_rests_1 3 rfl rfl)
theorem dX5_rests_29 : decode cX5_rests 29 = .ok (.getfield 69, 3) := dk_180 0 69 (dk_at dksX5_rests_1 6 rfl rfl)
theorem dX5_rests_32 : decode cX5_rests 32 = .ok (.iastore, 1) := dk_79 (dk_at dksX5_rests_1 9 rfl rfl)
theorem dX5_rests_33 : decode cX5_rests 33 = .ok (.aload_n 0, 1) := dk_42 (dk_at dksX5_rests_1 10 rfl rfl)
theorem dX5_rests_34 : decode cX5_rests 34 = .ok (.getfield 15, 3) := dk_180 0 15 (dk_at dksX5_rests_1 11 rfl rfl)
theorem dX5_rests_37 : decode cX5_rests 37 = .ok (.iload_n 2, 1) := dk_28 (dk_at dksX5_rests_1 14 rfl rfl)
theorem dX5_rests_38 : decode cX5_rests 38 = .ok (.iconst 0, 1) := dk_3 (dk_at dksX5_rests_1 15 rfl rfl)
theorem dX5_rests_39 : decode cX5_rests 39 = .ok (.iastore, 1) := dk_79 (dk_at dksX5_rests_1 16 rfl rfl)
theorem dX5_rests_40 : decode cX5_rests 40 = .ok (.iinc 2 1, 3) := dk_132 2 1 (dk_at dksX5_rests_1 17 rfl rfl)
theorem dX5_rests_43 : decode cX5_rests 43 = .ok (.goto (-41), 3) := dk_167 255 215 (dk_at dksX5_rests_1 20 rfl rfl)
theorem dX5_rests_46 : decode cX5_rests 46 = .ok (.aload_n 0, 1) := dk_42 (dk_at dksX5_rests_1 23 rfl rfl)
theorem dX5_rests_47 : decode cX5_rests 47 = .ok (.iconst 0, 1) := dk_3 (dk_at dksX5_rests_2 0 rfl rfl)
theorem dX5_rests_48 : decode cX5_rests 48 = .ok (.putfield 83, 3) := dk_181 0 83 (dk_at dksX5_rests_2 1 rfl rfl)
theorem dX5_rests_51 : decode cX5_rests 51 = .ok (.return_, 1) := dk_177 (dk_at dksX5_rests_2 4 rfl rfl)
abbrev cX5_forgets : ByteArray := prog_18_method_16_code
def yX5_forgets : MethodName := ⟨RX5, "forgets", "(LDogsHour$Text;I)V"⟩
def dkwX5_forgets_4 : List UInt8 := [29, 46, 100, 184, 0, 176, 79, 132, 3, 1, 167, 255, 188, 177]
abbrev dktX5_forgets_4 : List UInt8 := dkwX5_forgets_4 ++ []
def dkwX5_forgets_3 : List UInt8 := [184, 0, 176, 79, 42, 180, 0, 38, 28, 50, 29, 3, 42, 180, 0, 38, 28, 50, 29, 46, 42, 180, 0, 41]
abbrev dktX5_forgets_3 : List UInt8 := dkwX5_forgets_3 ++ dktX5_forgets_4
def dkwX5_forgets_2 : List UInt8 := [180, 0, 35, 28, 50, 29, 3, 42, 180, 0, 35, 28, 50, 29, 46, 42, 180, 0, 41, 29, 46, 100]
abbrev dktX5_forgets_2 : List UInt8 := dkwX5_forgets_2 ++ dktX5_forgets_3
def dkwX5_forgets_1 : List UInt8 := [182, 0, 173, 79, 132, 3, 1, 167, 255, 229, 3, 62, 29, 43, 180, 0, 73, 182, 0, 57, 162, 0, 63, 42]
abbrev dktX5_forgets_1 : List UInt8 := dkwX5_forgets_1 ++ dktX5_forgets_2
def dkwX5_forgets_0 : List UInt8 := [3, 62, 29, 43, 180, 0, 73, 182, 0, 57, 162, 0, 22, 42, 180, 0, 41, 29, 42, 43, 28, 29]
abbrev dktX5_forgets_0 : List UInt8 := dkwX5_forgets_0 ++ dktX5_forgets_1
theorem dksX5_forgets_0 : cX5_forgets.data.toList.drop 0 = dktX5_forgets_0 := by decide +kernel
theorem dksX5_forgets_1 : cX5_forgets.data.toList.drop 22 = dktX5_forgets_1 := dk_seg dksX5_forgets_0 22 rfl rfl
theorem dksX5_forgets_2 : cX5_forgets.data.toList.drop 46 = dktX5_forgets_2 := dk_seg dksX5_forgets_1 24 rfl rfl
theorem dksX5_forgets_3 : cX5_forgets.data.toList.drop 68 = dktX5_forgets_3 := dk_seg dksX5_forgets_2 22 rfl rfl
theorem dksX5_forgets_4 : cX5_forgets.data.toList.drop 92 = dktX5_forgets_4 := dk_seg dksX5_forgets_3 24 rfl rfl
theorem dX5_forgets_0 : decode cX5_forgets 0 = .ok (.iconst 0, 1) := dk_3 (dk_at dksX5_forgets_0 0 rfl rfl)
theorem dX5_forgets_1 : decode cX5_forgets 1 = .ok (.istore_n 3, 1) := dk_62 (dk_at dksX5_forgets_0 1 rfl rfl)
theorem dX5_forgets_2 : decode cX5_forgets 2 = .ok (.iload_n 3, 1) := dk_29 (dk_at dksX5_forgets_0 2 rfl rfl)
theorem dX5_forgets_3 : decode cX5_forgets 3 = .ok (.aload_n 1, 1) := dk_43 (dk_at dksX5_forgets_0 3 rfl rfl)
theorem dX5_forgets_4 : decode cX5_forgets 4 = .ok (.getfield 73, 3) := dk_180 0 73 (dk_at dksX5_forgets_0 4 rfl rfl)
theorem dX5_forgets_7 : decode cX5_forgets 7 = .ok (.invokevirtual 57, 3) := dk_182 0 57 (dk_at dksX5_forgets_0 7 rfl rfl)
theorem dX5_forgets_10 : decode cX5_forgets 10 = .ok (.if_icmp .ge 22, 3) := dk_162 0 22 (dk_at dksX5_forgets_0 10 rfl rfl)
theorem dX5_forgets_13 : decode cX5_forgets 13 = .ok (.aload_n 0, 1) := dk_42 (dk_at dksX5_forgets_0 13 rfl rfl)
theorem dX5_forgets_14 : decode cX5_forgets 14 = .ok (.getfield 41, 3) := dk_180 0 41 (dk_at dksX5_forgets_0 14 rfl rfl)
theorem dX5_forgets_17 : decode cX5_forgets 17 = .ok (.iload_n 3, 1) := dk_29 (dk_at dksX5_forgets_0 17 rfl rfl)
theorem dX5_forgets_18 : decode cX5_forgets 18 = .ok (.aload_n 0, 1) := dk_42 (dk_at dksX5_forgets_0 18 rfl rfl)
theorem dX5_forgets_19 : decode cX5_forgets 19 = .ok (.aload_n 1, 1) := dk_43 (dk_at dksX5_forgets_0 19 rfl rfl)
theorem dX5_forgets_20 : decode cX5_forgets 20 = .ok (.iload_n 2, 1) := dk_28 (dk_at dksX5_forgets_0 20 rfl rfl)
theorem dX5_forgets_21 : decode cX5_forgets 21 = .ok (.iload_n 3, 1) := dk_29 (dk_at dksX5_forgets_0 21 rfl rfl)
theorem dX5_forgets_22 : decode cX5_forgets 22 = .ok (.invokevirtual 173, 3) := dk_182 0 173 (dk_at dksX5_forgets_1 0 rfl rfl)
theorem dX5_forgets_25 : decode cX5_forgets 25 = .ok (.iastore, 1) := dk_79 (dk_at dksX5_forgets_1 3 rfl rfl)
theorem dX5_forgets_26 : decode cX5_forgets 26 = .ok (.iinc 3 1, 3) := dk_132 3 1 (dk_at dksX5_forgets_1 4 rfl rfl)
theorem dX5_forgets_29 : decode cX5_forgets 29 = .ok (.goto (-27), 3) := dk_167 255 229 (dk_at dksX5_forgets_1 7 rfl rfl)
theorem dX5_forgets_32 : decode cX5_forgets 32 = .ok (.iconst 0, 1) := dk_3 (dk_at dksX5_forgets_1 10 rfl rfl)
theorem dX5_forgets_33 : decode cX5_forgets 33 = .ok (.istore_n 3, 1) := dk_62 (dk_at dksX5_forgets_1 11 rfl rfl)
theorem dX5_forgets_34 : decode cX5_forgets 34 = .ok (.iload_n 3, 1) := dk_29 (dk_at dksX5_forgets_1 12 rfl rfl)
theorem dX5_forgets_35 : decode cX5_forgets 35 = .ok (.aload_n 1, 1) := dk_43 (dk_at dksX5_forgets_1 13 rfl rfl)
theorem dX5_forgets_36 : decode cX5_forgets 36 = .ok (.getfield 73, 3) := dk_180 0 73 (dk_at dksX5_forgets_1 14 rfl rfl)
theorem dX5_forgets_39 : decode cX5_forgets 39 = .ok (.invokevirtual 57, 3) := dk_182 0 57 (dk_at dksX5_forgets_1 17 rfl rfl)
theorem dX5_forgets_42 : decode cX5_forgets 42 = .ok (.if_icmp .ge 63, 3) := dk_162 0 63 (dk_at dksX5_forgets_1 20 rfl rfl)
theorem dX5_forgets_45 : decode cX5_forgets 45 = .ok (.aload_n 0, 1) := dk_42 (dk_at dksX5_forgets_1 23 rfl rfl)
theorem dX5_forgets_46 : decode cX5_forgets 46 = .ok (.getfield 35, 3) := dk_180 0 35 (dk_at dksX5_forgets_2 0 rfl rfl)
theorem dX5_forgets_49 : decode cX5_forgets 49 = .ok (.iload_n 2, 1) := dk_28 (dk_at dksX5_forgets_2 3 rfl rfl)
theorem dX5_forgets_50 : decode cX5_forgets 50 = .ok (.aaload, 1) := dk_50 (dk_at dksX5_forgets_2 4 rfl rfl)
theorem dX5_forgets_51 : decode cX5_forgets 51 = .ok (.iload_n 3, 1) := dk_29 (dk_at dksX5_forgets_2 5 rfl rfl)
theorem dX5_forgets_52 : decode cX5_forgets 52 = .ok (.iconst 0, 1) := dk_3 (dk_at dksX5_forgets_2 6 rfl rfl)
theorem dX5_forgets_53 : decode cX5_forgets 53 = .ok (.aload_n 0, 1) := dk_42 (dk_at dksX5_forgets_2 7 rfl rfl)
theorem dX5_forgets_54 : decode cX5_forgets 54 = .ok (.getfield 35, 3) := dk_180 0 35 (dk_at dksX5_forgets_2 8 rfl rfl)
theorem dX5_forgets_57 : decode cX5_forgets 57 = .ok (.iload_n 2, 1) := dk_28 (dk_at dksX5_forgets_2 11 rfl rfl)
theorem dX5_forgets_58 : decode cX5_forgets 58 = .ok (.aaload, 1) := dk_50 (dk_at dksX5_forgets_2 12 rfl rfl)
theorem dX5_forgets_59 : decode cX5_forgets 59 = .ok (.iload_n 3, 1) := dk_29 (dk_at dksX5_forgets_2 13 rfl rfl)
theorem dX5_forgets_60 : decode cX5_forgets 60 = .ok (.iaload, 1) := dk_46 (dk_at dksX5_forgets_2 14 rfl rfl)
theorem dX5_forgets_61 : decode cX5_forgets 61 = .ok (.aload_n 0, 1) := dk_42 (dk_at dksX5_forgets_2 15 rfl rfl)
theorem dX5_forgets_62 : decode cX5_forgets 62 = .ok (.getfield 41, 3) := dk_180 0 41 (dk_at dksX5_forgets_2 16 rfl rfl)
theorem dX5_forgets_65 : decode cX5_forgets 65 = .ok (.iload_n 3, 1) := dk_29 (dk_at dksX5_forgets_2 19 rfl rfl)
theorem dX5_forgets_66 : decode cX5_forgets 66 = .ok (.iaload, 1) := dk_46 (dk_at dksX5_forgets_2 20 rfl rfl)
theorem dX5_forgets_67 : decode cX5_forgets 67 = .ok (.isub, 1) := dk_100 (dk_at dksX5_forgets_2 21 rfl rfl)
theorem dX5_forgets_68 : decode cX5_forgets 68 = .ok (.invokestatic 176, 3) := dk_184 0 176 (dk_at dksX5_forgets_3 0 rfl rfl)
theorem dX5_forgets_71 : decode cX5_forgets 71 = .ok (.iastore, 1) := dk_79 (dk_at dksX5_forgets_3 3 rfl rfl)
theorem dX5_forgets_72 : decode cX5_forgets 72 = .ok (.aload_n 0, 1) := dk_42 (dk_at dksX5_forgets_3 4 rfl rfl)
theorem dX5_forgets_73 : decode cX5_forgets 73 = .ok (.getfield 38, 3) := dk_180 0 38 (dk_at dksX5_forgets_3 5 rfl rfl)
theorem dX5_forgets_76 : decode cX5_forgets 76 = .ok (.iload_n 2, 1) := dk_28 (dk_at dksX5_forgets_3 8 rfl rfl)
theorem dX5_forgets_77 : decode cX5_forgets 77 = .ok (.aaload, 1) := dk_50 (dk_at dksX5_forgets_3 9 rfl rfl)
theorem dX5_forgets_78 : decode cX5_forgets 78 = .ok (.iload_n 3, 1) := dk_29 (dk_at dksX5_forgets_3 10 rfl rfl)
theorem dX5_forgets_79 : decode cX5_forgets 79 = .ok (.iconst 0, 1) := dk_3 (dk_at dksX5_forgets_3 11 rfl rfl)
theorem dX5_forgets_80 : decode cX5_forgets 80 = .ok (.aload_n 0, 1) := dk_42 (dk_at dksX5_forgets_3 12 rfl rfl)
theorem dX5_forgets_81 : decode cX5_forgets 81 = .ok (.getfield 38, 3) := dk_180 0 38 (dk_at dksX5_forgets_3 13 rfl rfl)
theorem dX5_forgets_84 : decode cX5_forgets 84 = .ok (.iload_n 2, 1) := dk_28 (dk_at dksX5_forgets_3 16 rfl rfl)
theorem dX5_forgets_85 : decode cX5_forgets 85 = .ok (.aaload, 1) := dk_50 (dk_at dksX5_forgets_3 17 rfl rfl)
theorem dX5_forgets_86 : decode cX5_forgets 86 = .ok (.iload_n 3, 1) := dk_29 (dk_at dksX5_forgets_3 18 rfl rfl)
theorem dX5_forgets_87 : decode cX5_forgets 87 = .ok (.iaload, 1) := dk_46 (dk_at dksX5_forgets_3 19 rfl rfl)
theorem dX5_forgets_88 : decode cX5_forgets 88 = .ok (.aload_n 0, 1) := dk_42 (dk_at dksX5_forgets_3 20 rfl rfl)
theorem dX5_forgets_89 : decode cX5_forgets 89 = .ok (.getfield 41, 3) := dk_180 0 41 (dk_at dksX5_forgets_3 21 rfl rfl)
theorem dX5_forgets_92 : decode cX5_forgets 92 = .ok (.iload_n 3, 1) := dk_29 (dk_at dksX5_forgets_4 0 rfl rfl)
theorem dX5_forgets_93 : decode cX5_forgets 93 = .ok (.iaload, 1) := dk_46 (dk_at dksX5_forgets_4 1 rfl rfl)
theorem dX5_forgets_94 : decode cX5_forgets 94 = .ok (.isub, 1) := dk_100 (dk_at dksX5_forgets_4 2 rfl rfl)
theorem dX5_forgets_95 : decode cX5_forgets 95 = .ok (.invokestatic 176, 3) := dk_184 0 176 (dk_at dksX5_forgets_4 3 rfl rfl)
theorem dX5_forgets_98 : decode cX5_forgets 98 = .ok (.iastore, 1) := dk_79 (dk_at dksX5_forgets_4 6 rfl rfl)
theorem dX5_forgets_99 : decode cX5_forgets 99 = .ok (.iinc 3 1, 3) := dk_132 3 1 (dk_at dksX5_forgets_4 7 rfl rfl)
theorem dX5_forgets_102 : decode cX5_forgets 102 = .ok (.goto (-68), 3) := dk_167 255 188 (dk_at dksX5_forgets_4 10 rfl rfl)
theorem dX5_forgets_105 : decode cX5_forgets 105 = .ok (.return_, 1) := dk_177 (dk_at dksX5_forgets_4 13 rfl rfl)
abbrev cX5_dues : ByteArray := prog_18_method_11_code
def yX5_dues : MethodName := ⟨RX5, "dues", "(LDogsHour$Text;I)I"⟩
def dkwX5_dues_6 : List UInt8 := [180, 0, 47, 182, 0, 135, 3, 16, 99, 184, 0, 141, 172]
abbrev dktX5_dues_6 : List UInt8 := dkwX5_dues_6 ++ []
def dkwX5_dues_5 : List UInt8 := [79, 42, 180, 0, 47, 180, 0, 105, 16, 8, 42, 180, 0, 15, 28, 46, 79, 43, 180, 0, 127, 6, 50, 42]
abbrev dktX5_dues_5 : List UInt8 := dkwX5_dues_5 ++ dktX5_dues_6
def dkwX5_dues_4 : List UInt8 := [180, 0, 47, 180, 0, 105, 16, 6, 42, 43, 182, 0, 123, 79, 42, 180, 0, 47, 180, 0, 105, 16, 7, 28]
abbrev dktX5_dues_4 : List UInt8 := dkwX5_dues_4 ++ dktX5_dues_5
def dkwX5_dues_3 : List UInt8 := [180, 0, 47, 180, 0, 105, 8, 43, 180, 0, 51, 28, 182, 0, 63, 192, 0, 67, 180, 0, 120, 79, 42]
abbrev dktX5_dues_3 : List UInt8 := dkwX5_dues_3 ++ dktX5_dues_4
def dkwX5_dues_2 : List UInt8 := [180, 0, 47, 180, 0, 105, 7, 43, 180, 0, 51, 28, 182, 0, 63, 192, 0, 67, 180, 0, 117, 79, 42]
abbrev dktX5_dues_2 : List UInt8 := dkwX5_dues_2 ++ dktX5_dues_3
def dkwX5_dues_1 : List UInt8 := [16, 9, 162, 0, 19, 42, 180, 0, 47, 180, 0, 105, 29, 3, 79, 132, 3, 1, 167, 255, 237, 42]
abbrev dktX5_dues_1 : List UInt8 := dkwX5_dues_1 ++ dktX5_dues_2
def dkwX5_dues_0 : List UInt8 := [43, 180, 0, 127, 6, 50, 199, 0, 15, 16, 99, 42, 180, 0, 15, 28, 46, 184, 0, 111, 172, 3, 62, 29]
abbrev dktX5_dues_0 : List UInt8 := dkwX5_dues_0 ++ dktX5_dues_1
theorem dksX5_dues_0 : cX5_dues.data.toList.drop 0 = dktX5_dues_0 := by decide +kernel
theorem dksX5_dues_1 : cX5_dues.data.toList.drop 24 = dktX5_dues_1 := dk_seg dksX5_dues_0 24 rfl rfl
theorem dksX5_dues_2 : cX5_dues.data.toList.drop 46 = dktX5_dues_2 := dk_seg dksX5_dues_1 22 rfl rfl
theorem dksX5_dues_3 : cX5_dues.data.toList.drop 69 = dktX5_dues_3 := dk_seg dksX5_dues_2 23 rfl rfl
theorem dksX5_dues_4 : cX5_dues.data.toList.drop 92 = dktX5_dues_4 := dk_seg dksX5_dues_3 23 rfl rfl
theorem dksX5_dues_5 : cX5_dues.data.toList.drop 116 = dktX5_dues_5 := dk_seg dksX5_dues_4 24 rfl rfl
theorem dksX5_dues_6 : cX5_dues.data.toList.drop 140 = dktX5_dues_6 := dk_seg dksX5_dues_5 24 rfl rfl
theorem dX5_dues_0 : decode cX5_dues 0 = .ok (.aload_n 1, 1) := dk_43 (dk_at dksX5_dues_0 0 rfl rfl)
theorem dX5_dues_1 : decode cX5_dues 1 = .ok (.getfield 127, 3) := dk_180 0 127 (dk_at dksX5_dues_0 1 rfl rfl)
theorem dX5_dues_4 : decode cX5_dues 4 = .ok (.iconst 3, 1) := dk_6 (dk_at dksX5_dues_0 4 rfl rfl)
theorem dX5_dues_5 : decode cX5_dues 5 = .ok (.aaload, 1) := dk_50 (dk_at dksX5_dues_0 5 rfl rfl)
theorem dX5_dues_6 : decode cX5_dues 6 = .ok (.ifnonnull 15, 3) := dk_199 0 15 (dk_at dksX5_dues_0 6 rfl rfl)
theorem dX5_dues_9 : decode cX5_dues 9 = .ok (.bipush 99, 2) := dk_16 99 (dk_at dksX5_dues_0 9 rfl rfl)
theorem dX5_dues_11 : decode cX5_dues 11 = .ok (.aload_n 0, 1) := dk_42 (dk_at dksX5_dues_0 11 rfl rfl)
theorem dX5_dues_12 : decode cX5_dues 12 = .ok (.getfield 15, 3) := dk_180 0 15 (dk_at dksX5_dues_0 12 rfl rfl)
theorem dX5_dues_15 : decode cX5_dues 15 = .ok (.iload_n 2, 1) := dk_28 (dk_at dksX5_dues_0 15 rfl rfl)
theorem dX5_dues_16 : decode cX5_dues 16 = .ok (.iaload, 1) := dk_46 (dk_at dksX5_dues_0 16 rfl rfl)
theorem dX5_dues_17 : decode cX5_dues 17 = .ok (.invokestatic 111, 3) := dk_184 0 111 (dk_at dksX5_dues_0 17 rfl rfl)
theorem dX5_dues_20 : decode cX5_dues 20 = .ok (.ireturn, 1) := dk_172 (dk_at dksX5_dues_0 20 rfl rfl)
theorem dX5_dues_21 : decode cX5_dues 21 = .ok (.iconst 0, 1) := dk_3 (dk_at dksX5_dues_0 21 rfl rfl)
theorem dX5_dues_22 : decode cX5_dues 22 = .ok (.istore_n 3, 1) := dk_62 (dk_at dksX5_dues_0 22 rfl rfl)
theorem dX5_dues_23 : decode cX5_dues 23 = .ok (.iload_n 3, 1) := dk_29 (dk_at dksX5_dues_0 23 rfl rfl)
theorem dX5_dues_24 : decode cX5_dues 24 = .ok (.bipush 9, 2) := dk_16 9 (dk_at dksX5_dues_1 0 rfl rfl)
theorem dX5_dues_26 : decode cX5_dues 26 = .ok (.if_icmp .ge 19, 3) := dk_162 0 19 (dk_at dksX5_dues_1 2 rfl rfl)
theorem dX5_dues_29 : decode cX5_dues 29 = .ok (.aload_n 0, 1) := dk_42 (dk_at dksX5_dues_1 5 rfl rfl)
theorem dX5_dues_30 : decode cX5_dues 30 = .ok (.getfield 47, 3) := dk_180 0 47 (dk_at dksX5_dues_1 6 rfl rfl)
theorem dX5_dues_33 : decode cX5_dues 33 = .ok (.getfield 105, 3) := dk_180 0 105 (dk_at dksX5_dues_1 9 rfl rfl)
theorem dX5_dues_36 : decode cX5_dues 36 = .ok (.iload_n 3, 1) := dk_29 (dk_at dksX5_dues_1 12 rfl rfl)
theorem dX5_dues_37 : decode cX5_dues 37 = .ok (.iconst 0, 1) := dk_3 (dk_at dksX5_dues_1 13 rfl rfl)
theorem dX5_dues_38 : decode cX5_dues 38 = .ok (.iastore, 1) := dk_79 (dk_at dksX5_dues_1 14 rfl rfl)
theorem dX5_dues_39 : decode cX5_dues 39 = .ok (.iinc 3 1, 3) := dk_132 3 1 (dk_at dksX5_dues_1 15 rfl rfl)
theorem dX5_dues_42 : decode cX5_dues 42 = .ok (.goto (-19), 3) := dk_167 255 237 (dk_at dksX5_dues_1 18 rfl rfl)
theorem dX5_dues_45 : decode cX5_dues 45 = .ok (.aload_n 0, 1) := dk_42 (dk_at dksX5_dues_1 21 rfl rfl)
theorem dX5_dues_46 : decode cX5_dues 46 = .ok (.getfield 47, 3) := dk_180 0 47 (dk_at dksX5_dues_2 0 rfl rfl)
theorem dX5_dues_49 : decode cX5_dues 49 = .ok (.getfield 105, 3) := dk_180 0 105 (dk_at dksX5_dues_2 3 rfl rfl)
theorem dX5_dues_52 : decode cX5_dues 52 = .ok (.iconst 4, 1) := dk_7 (dk_at dksX5_dues_2 6 rfl rfl)
theorem dX5_dues_53 : decode cX5_dues 53 = .ok (.aload_n 1, 1) := dk_43 (dk_at dksX5_dues_2 7 rfl rfl)
theorem dX5_dues_54 : decode cX5_dues 54 = .ok (.getfield 51, 3) := dk_180 0 51 (dk_at dksX5_dues_2 8 rfl rfl)
theorem dX5_dues_57 : decode cX5_dues 57 = .ok (.iload_n 2, 1) := dk_28 (dk_at dksX5_dues_2 11 rfl rfl)
theorem dX5_dues_58 : decode cX5_dues 58 = .ok (.invokevirtual 63, 3) := dk_182 0 63 (dk_at dksX5_dues_2 12 rfl rfl)
theorem dX5_dues_61 : decode cX5_dues 61 = .ok (.checkcast 67, 3) := dk_192 0 67 (dk_at dksX5_dues_2 15 rfl rfl)
theorem dX5_dues_64 : decode cX5_dues 64 = .ok (.getfield 117, 3) := dk_180 0 117 (dk_at dksX5_dues_2 18 rfl rfl)
theorem dX5_dues_67 : decode cX5_dues 67 = .ok (.iastore, 1) := dk_79 (dk_at dksX5_dues_2 21 rfl rfl)
theorem dX5_dues_68 : decode cX5_dues 68 = .ok (.aload_n 0, 1) := dk_42 (dk_at dksX5_dues_2 22 rfl rfl)
theorem dX5_dues_69 : decode cX5_dues 69 = .ok (.getfield 47, 3) := dk_180 0 47 (dk_at dksX5_dues_3 0 rfl rfl)
theorem dX5_dues_72 : decode cX5_dues 72 = .ok (.getfield 105, 3) := dk_180 0 105 (dk_at dksX5_dues_3 3 rfl rfl)
theorem dX5_dues_75 : decode cX5_dues 75 = .ok (.iconst 5, 1) := dk_8 (dk_at dksX5_dues_3 6 rfl rfl)
theorem dX5_dues_76 : decode cX5_dues 76 = .ok (.aload_n 1, 1) := dk_43 (dk_at dksX5_dues_3 7 rfl rfl)
theorem dX5_dues_77 : decode cX5_dues 77 = .ok (.getfield 51, 3) := dk_180 0 51 (dk_at dksX5_dues_3 8 rfl rfl)
theorem dX5_dues_80 : decode cX5_dues 80 = .ok (.iload_n 2, 1) := dk_28 (dk_at dksX5_dues_3 11 rfl rfl)
theorem dX5_dues_81 : decode cX5_dues 81 = .ok (.invokevirtual 63, 3) := dk_182 0 63 (dk_at dksX5_dues_3 12 rfl rfl)
theorem dX5_dues_84 : decode cX5_dues 84 = .ok (.checkcast 67, 3) := dk_192 0 67 (dk_at dksX5_dues_3 15 rfl rfl)
theorem dX5_dues_87 : decode cX5_dues 87 = .ok (.getfield 120, 3) := dk_180 0 120 (dk_at dksX5_dues_3 18 rfl rfl)
theorem dX5_dues_90 : decode cX5_dues 90 = .ok (.iastore, 1) := dk_79 (dk_at dksX5_dues_3 21 rfl rfl)
theorem dX5_dues_91 : decode cX5_dues 91 = .ok (.aload_n 0, 1) := dk_42 (dk_at dksX5_dues_3 22 rfl rfl)
theorem dX5_dues_92 : decode cX5_dues 92 = .ok (.getfield 47, 3) := dk_180 0 47 (dk_at dksX5_dues_4 0 rfl rfl)
theorem dX5_dues_95 : decode cX5_dues 95 = .ok (.getfield 105, 3) := dk_180 0 105 (dk_at dksX5_dues_4 3 rfl rfl)
theorem dX5_dues_98 : decode cX5_dues 98 = .ok (.bipush 6, 2) := dk_16 6 (dk_at dksX5_dues_4 6 rfl rfl)
theorem dX5_dues_100 : decode cX5_dues 100 = .ok (.aload_n 0, 1) := dk_42 (dk_at dksX5_dues_4 8 rfl rfl)
theorem dX5_dues_101 : decode cX5_dues 101 = .ok (.aload_n 1, 1) := dk_43 (dk_at dksX5_dues_4 9 rfl rfl)
theorem dX5_dues_102 : decode cX5_dues 102 = .ok (.invokevirtual 123, 3) := dk_182 0 123 (dk_at dksX5_dues_4 10 rfl rfl)
theorem dX5_dues_105 : decode cX5_dues 105 = .ok (.iastore, 1) := dk_79 (dk_at dksX5_dues_4 13 rfl rfl)
theorem dX5_dues_106 : decode cX5_dues 106 = .ok (.aload_n 0, 1) := dk_42 (dk_at dksX5_dues_4 14 rfl rfl)
theorem dX5_dues_107 : decode cX5_dues 107 = .ok (.getfield 47, 3) := dk_180 0 47 (dk_at dksX5_dues_4 15 rfl rfl)
theorem dX5_dues_110 : decode cX5_dues 110 = .ok (.getfield 105, 3) := dk_180 0 105 (dk_at dksX5_dues_4 18 rfl rfl)
theorem dX5_dues_113 : decode cX5_dues 113 = .ok (.bipush 7, 2) := dk_16 7 (dk_at dksX5_dues_4 21 rfl rfl)
theorem dX5_dues_115 : decode cX5_dues 115 = .ok (.iload_n 2, 1) := dk_28 (dk_at dksX5_dues_4 23 rfl rfl)
theorem dX5_dues_116 : decode cX5_dues 116 = .ok (.iastore, 1) := dk_79 (dk_at dksX5_dues_5 0 rfl rfl)
theorem dX5_dues_117 : decode cX5_dues 117 = .ok (.aload_n 0, 1) := dk_42 (dk_at dksX5_dues_5 1 rfl rfl)
theorem dX5_dues_118 : decode cX5_dues 118 = .ok (.getfield 47, 3) := dk_180 0 47 (dk_at dksX5_dues_5 2 rfl rfl)
theorem dX5_dues_121 : decode cX5_dues 121 = .ok (.getfield 105, 3) := dk_180 0 105 (dk_at dksX5_dues_5 5 rfl rfl)
theorem dX5_dues_124 : decode cX5_dues 124 = .ok (.bipush 8, 2) := dk_16 8 (dk_at dksX5_dues_5 8 rfl rfl)
theorem dX5_dues_126 : decode cX5_dues 126 = .ok (.aload_n 0, 1) := dk_42 (dk_at dksX5_dues_5 10 rfl rfl)
theorem dX5_dues_127 : decode cX5_dues 127 = .ok (.getfield 15, 3) := dk_180 0 15 (dk_at dksX5_dues_5 11 rfl rfl)
theorem dX5_dues_130 : decode cX5_dues 130 = .ok (.iload_n 2, 1) := dk_28 (dk_at dksX5_dues_5 14 rfl rfl)
theorem dX5_dues_131 : decode cX5_dues 131 = .ok (.iaload, 1) := dk_46 (dk_at dksX5_dues_5 15 rfl rfl)
theorem dX5_dues_132 : decode cX5_dues 132 = .ok (.iastore, 1) := dk_79 (dk_at dksX5_dues_5 16 rfl rfl)
theorem dX5_dues_133 : decode cX5_dues 133 = .ok (.aload_n 1, 1) := dk_43 (dk_at dksX5_dues_5 17 rfl rfl)
theorem dX5_dues_134 : decode cX5_dues 134 = .ok (.getfield 127, 3) := dk_180 0 127 (dk_at dksX5_dues_5 18 rfl rfl)
theorem dX5_dues_137 : decode cX5_dues 137 = .ok (.iconst 3, 1) := dk_6 (dk_at dksX5_dues_5 21 rfl rfl)
theorem dX5_dues_138 : decode cX5_dues 138 = .ok (.aaload, 1) := dk_50 (dk_at dksX5_dues_5 22 rfl rfl)
theorem dX5_dues_139 : decode cX5_dues 139 = .ok (.aload_n 0, 1) := dk_42 (dk_at dksX5_dues_5 23 rfl rfl)
theorem dX5_dues_140 : decode cX5_dues 140 = .ok (.getfield 47, 3) := dk_180 0 47 (dk_at dksX5_dues_6 0 rfl rfl)
theorem dX5_dues_143 : decode cX5_dues 143 = .ok (.invokevirtual 135, 3) := dk_182 0 135 (dk_at dksX5_dues_6 3 rfl rfl)
theorem dX5_dues_146 : decode cX5_dues 146 = .ok (.iconst 0, 1) := dk_3 (dk_at dksX5_dues_6 6 rfl rfl)
theorem dX5_dues_147 : decode cX5_dues 147 = .ok (.bipush 99, 2) := dk_16 99 (dk_at dksX5_dues_6 7 rfl rfl)
theorem dX5_dues_149 : decode cX5_dues 149 = .ok (.invokestatic 141, 3) := dk_184 0 141 (dk_at dksX5_dues_6 9 rfl rfl)
theorem dX5_dues_152 : decode cX5_dues 152 = .ok (.ireturn, 1) := dk_172 (dk_at dksX5_dues_6 12 rfl rfl)
theorem q132 : (Jvm.Cond.initialized "DogsHour$Town") ∈ lw_all := lw_g (lw_at lw_m1 12 rfl) rfl
theorem q372 : (Jvm.Cond.fieldLink "DogsHour$Town" (51 : Nat) "DogsHour$Text" "dogs" "Ljava/util/ArrayList;") ∈ lw_all := lw_g (lw_at lw_m2 12 rfl) rfl
theorem q376 : (Jvm.Cond.fieldLink "DogsHour$Town" (73 : Nat) "DogsHour$Text" "people" "Ljava/util/ArrayList;") ∈ lw_all := lw_g (lw_at lw_m2 16 rfl) rfl
theorem q380 : (Jvm.Cond.fieldLink "DogsHour$Town" (160 : Nat) "DogsHour$Text" "errandOf" "[I") ∈ lw_all := lw_g (lw_at lw_m2 20 rfl) rfl
theorem q384 : (Jvm.Cond.fieldLink "DogsHour$Town" (163 : Nat) "DogsHour$Text" "errandAt" "[I") ∈ lw_all := lw_g (lw_at lw_m2 24 rfl) rfl
theorem q388 : (Jvm.Cond.fieldLink "DogsHour$Town" (127 : Nat) "DogsHour$Text" "laws" "[LDogsHour$Law;") ∈ lw_all := lw_g (lw_at lw_m2 28 rfl) rfl
theorem q391 : (Jvm.Cond.fieldLink "DogsHour$Town" (108 : Nat) "DogsHour$Text" "far" "[[I") ∈ lw_all := lw_g (lw_at lw_m2 31 rfl) rfl
theorem q395 : (Jvm.Cond.fieldLink "DogsHour$Town" (157 : Nat) "DogsHour$Text" "errands" "I") ∈ lw_all := lw_g (lw_at lw_m2 35 rfl) rfl
theorem q404 : (Jvm.Cond.fieldLink "DogsHour$Town" (102 : Nat) "DogsHour$Text" "begins" "I") ∈ lw_all := lw_g (lw_at lw_m2 44 rfl) rfl
theorem q433 : (Jvm.Cond.instantiable "DogsHour$Town" (14 : Nat)) ∈ lw_all := lw_g (lw_at lw_m2 73 rfl) rfl
theorem q435 : (Jvm.Cond.instanceMethod ({ cls := "DogsHour$Town", name := "<init>", desc := "()V" } : Jvm.MethodName)) ∈ lw_all := lw_g (lw_at lw_m2 75 rfl) rfl
theorem q436 : (Jvm.Cond.code ({ cls := "DogsHour$Town", name := "<init>", desc := "()V" } : Jvm.MethodName) prog_18_method_1_code (1 : Nat) (Option.none : Option Jvm.ClassFile.FieldType)) ∈ lw_all := lw_g (lw_at lw_m2 76 rfl) rfl
theorem q437 : (Jvm.Cond.methodLink "DogsHour$Town" (3 : Nat) ({ cls := "java/lang/Object", name := "<init>", desc := "()V" } : Jvm.MethodName)) ∈ lw_all := lw_g (lw_at lw_m2 77 rfl) rfl
theorem q438 : (Jvm.Cond.classLink "DogsHour$Town" (33 : Nat) "[[I") ∈ lw_all := lw_g (lw_at lw_m2 78 rfl) rfl
theorem q439 : (Jvm.Cond.classLink "DogsHour$Town" (44 : Nat) "DogsHour$Asked") ∈ lw_all := lw_g (lw_at lw_m2 79 rfl) rfl
theorem q441 : (Jvm.Cond.methodLinkNest "DogsHour$Town" (46 : Nat) ({ cls := "DogsHour$Asked", name := "<init>", desc := "()V" } : Jvm.MethodName) "DogsHour") ∈ lw_tbl := lw_at lw_m2 81 rfl
theorem q447 : (Jvm.Cond.fieldLink "DogsHour$Town" (105 : Nat) "DogsHour$Asked" "v" "[I") ∈ lw_all := lw_g (lw_at lw_m2 87 rfl) rfl
theorem q455 : (Jvm.Cond.fieldLink "DogsHour$Town" (9 : Nat) "DogsHour$Town" "dogAt" "[I") ∈ lw_all := lw_g (lw_at lw_m2 95 rfl) rfl
theorem q457 : (Jvm.Cond.fieldLink "DogsHour$Town" (15 : Nat) "DogsHour$Town" "taken" "[I") ∈ lw_all := lw_g (lw_at lw_m2 97 rfl) rfl
theorem q459 : (Jvm.Cond.fieldLink "DogsHour$Town" (18 : Nat) "DogsHour$Town" "took" "[I") ∈ lw_all := lw_g (lw_at lw_m2 99 rfl) rfl
theorem q461 : (Jvm.Cond.fieldLink "DogsHour$Town" (21 : Nat) "DogsHour$Town" "at" "[I") ∈ lw_all := lw_g (lw_at lw_m2 101 rfl) rfl
theorem q463 : (Jvm.Cond.fieldLink "DogsHour$Town" (24 : Nat) "DogsHour$Town" "goal" "[I") ∈ lw_all := lw_g (lw_at lw_m2 103 rfl) rfl
theorem q465 : (Jvm.Cond.fieldLink "DogsHour$Town" (27 : Nat) "DogsHour$Town" "pocket" "[I") ∈ lw_all := lw_g (lw_at lw_m2 105 rfl) rfl
theorem q467 : (Jvm.Cond.fieldLink "DogsHour$Town" (30 : Nat) "DogsHour$Town" "often" "[I") ∈ lw_all := lw_g (lw_at lw_m2 107 rfl) rfl
theorem q469 : (Jvm.Cond.fieldLink "DogsHour$Town" (35 : Nat) "DogsHour$Town" "fed" "[[I") ∈ lw_all := lw_g (lw_at lw_m2 109 rfl) rfl
theorem q471 : (Jvm.Cond.fieldLink "DogsHour$Town" (38 : Nat) "DogsHour$Town" "kicked" "[[I") ∈ lw_all := lw_g (lw_at lw_m2 111 rfl) rfl
theorem q473 : (Jvm.Cond.fieldLink "DogsHour$Town" (83 : Nat) "DogsHour$Town" "fetched" "I") ∈ lw_all := lw_g (lw_at lw_m2 113 rfl) rfl
theorem q475 : (Jvm.Cond.fieldLink "DogsHour$Town" (86 : Nat) "DogsHour$Town" "done" "I") ∈ lw_all := lw_g (lw_at lw_m2 115 rfl) rfl
theorem q477 : (Jvm.Cond.fieldLink "DogsHour$Town" (89 : Nat) "DogsHour$Town" "time" "I") ∈ lw_all := lw_g (lw_at lw_m2 117 rfl) rfl
theorem q479 : (Jvm.Cond.fieldLink "DogsHour$Town" (41 : Nat) "DogsHour$Town" "fading" "[I") ∈ lw_all := lw_g (lw_at lw_m2 119 rfl) rfl
theorem q480 : (Jvm.Cond.fieldLink "DogsHour$Town" (47 : Nat) "DogsHour$Town" "asked" "LDogsHour$Asked;") ∈ lw_all := lw_g (lw_at lw_m2 120 rfl) rfl
theorem q481 : (Jvm.Cond.laysFinal "DogsHour$Town" "DogsHour$Town" "dogAt" "[I") ∈ lw_all := lw_g (lw_at lw_m2 121 rfl) rfl
theorem q482 : (Jvm.Cond.soleField "DogsHour$Town" "dogAt") ∈ lw_all := lw_g (lw_at lw_m2 122 rfl) rfl
theorem q483 : (Jvm.Cond.laysFinal "DogsHour$Town" "DogsHour$Town" "taken" "[I") ∈ lw_all := lw_g (lw_at lw_m2 123 rfl) rfl
theorem q484 : (Jvm.Cond.soleField "DogsHour$Town" "taken") ∈ lw_all := lw_g (lw_at lw_m2 124 rfl) rfl
theorem q485 : (Jvm.Cond.laysFinal "DogsHour$Town" "DogsHour$Town" "took" "[I") ∈ lw_all := lw_g (lw_at lw_m2 125 rfl) rfl
theorem q486 : (Jvm.Cond.soleField "DogsHour$Town" "took") ∈ lw_all := lw_g (lw_at lw_m2 126 rfl) rfl
theorem q487 : (Jvm.Cond.laysFinal "DogsHour$Town" "DogsHour$Town" "at" "[I") ∈ lw_all := lw_g (lw_at lw_m2 127 rfl) rfl
theorem q488 : (Jvm.Cond.soleField "DogsHour$Town" "at") ∈ lw_all := lw_g (lw_at lw_m2 128 rfl) rfl
theorem q489 : (Jvm.Cond.laysFinal "DogsHour$Town" "DogsHour$Town" "goal" "[I") ∈ lw_all := lw_g (lw_at lw_m2 129 rfl) rfl
theorem q490 : (Jvm.Cond.soleField "DogsHour$Town" "goal") ∈ lw_all := lw_g (lw_at lw_m2 130 rfl) rfl
theorem q491 : (Jvm.Cond.laysFinal "DogsHour$Town" "DogsHour$Town" "pocket" "[I") ∈ lw_all := lw_g (lw_at lw_m2 131 rfl) rfl
theorem q492 : (Jvm.Cond.soleField "DogsHour$Town" "pocket") ∈ lw_all := lw_g (lw_at lw_m2 132 rfl) rfl
theorem q493 : (Jvm.Cond.laysFinal "DogsHour$Town" "DogsHour$Town" "often" "[I") ∈ lw_all := lw_g (lw_at lw_m2 133 rfl) rfl
theorem q494 : (Jvm.Cond.soleField "DogsHour$Town" "often") ∈ lw_all := lw_g (lw_at lw_m2 134 rfl) rfl
theorem q495 : (Jvm.Cond.laysFinal "DogsHour$Town" "DogsHour$Town" "fed" "[[I") ∈ lw_all := lw_g (lw_at lw_m2 135 rfl) rfl
theorem q496 : (Jvm.Cond.soleField "DogsHour$Town" "fed") ∈ lw_all := lw_g (lw_at lw_m2 136 rfl) rfl
theorem q497 : (Jvm.Cond.laysFinal "DogsHour$Town" "DogsHour$Town" "kicked" "[[I") ∈ lw_all := lw_g (lw_at lw_m2 137 rfl) rfl
theorem q498 : (Jvm.Cond.soleField "DogsHour$Town" "kicked") ∈ lw_all := lw_g (lw_at lw_m2 138 rfl) rfl
theorem q499 : (Jvm.Cond.lays "DogsHour$Town" "DogsHour$Town" "fetched" "I") ∈ lw_all := lw_g (lw_at lw_m2 139 rfl) rfl
theorem q500 : (Jvm.Cond.soleField "DogsHour$Town" "fetched") ∈ lw_all := lw_g (lw_at lw_m2 140 rfl) rfl
theorem q501 : (Jvm.Cond.lays "DogsHour$Town" "DogsHour$Town" "done" "I") ∈ lw_all := lw_g (lw_at lw_m2 141 rfl) rfl
theorem q502 : (Jvm.Cond.soleField "DogsHour$Town" "done") ∈ lw_all := lw_g (lw_at lw_m2 142 rfl) rfl
theorem q503 : (Jvm.Cond.lays "DogsHour$Town" "DogsHour$Town" "time" "I") ∈ lw_all := lw_g (lw_at lw_m2 143 rfl) rfl
theorem q504 : (Jvm.Cond.soleField "DogsHour$Town" "time") ∈ lw_all := lw_g (lw_at lw_m2 144 rfl) rfl
theorem q505 : (Jvm.Cond.laysFinal "DogsHour$Town" "DogsHour$Town" "fading" "[I") ∈ lw_all := lw_g (lw_at lw_m2 145 rfl) rfl
theorem q506 : (Jvm.Cond.soleField "DogsHour$Town" "fading") ∈ lw_all := lw_g (lw_at lw_m2 146 rfl) rfl
theorem q507 : (Jvm.Cond.laysFinal "DogsHour$Town" "DogsHour$Town" "asked" "LDogsHour$Asked;") ∈ lw_all := lw_g (lw_at lw_m2 147 rfl) rfl
theorem q508 : (Jvm.Cond.soleField "DogsHour$Town" "asked") ∈ lw_all := lw_g (lw_at lw_m2 148 rfl) rfl
theorem q509 : (Jvm.Cond.superclass "DogsHour$Town" "java/lang/Object") ∈ lw_all := lw_g (lw_at lw_m2 149 rfl) rfl
theorem q532 : (Jvm.Cond.instanceMethod ({ cls := "DogsHour$Town", name := "begins", desc := "(LDogsHour$Text;)V" } : Jvm.MethodName)) ∈ lw_all := lw_g (lw_at lw_m2 172 rfl) rfl
theorem q533 : (Jvm.Cond.selects "DogsHour$Town" ({ cls := "DogsHour$Town", name := "begins", desc := "(LDogsHour$Text;)V" } : Jvm.MethodName) ({ cls := "DogsHour$Town", name := "begins", desc := "(LDogsHour$Text;)V" } : Jvm.MethodName)) ∈ lw_all := lw_g (lw_at lw_m2 173 rfl) rfl
theorem q534 : (Jvm.Cond.code ({ cls := "DogsHour$Town", name := "begins", desc := "(LDogsHour$Text;)V" } : Jvm.MethodName) prog_18_method_2_code (4 : Nat) (Option.none : Option Jvm.ClassFile.FieldType)) ∈ lw_all := lw_g (lw_at lw_m2 174 rfl) rfl
theorem q535 : (Jvm.Cond.methodLink "DogsHour$Town" (57 : Nat) ({ cls := "java/util/ArrayList", name := "size", desc := "()I" } : Jvm.MethodName)) ∈ lw_all := lw_g (lw_at lw_m2 175 rfl) rfl
theorem q539 : (Jvm.Cond.methodLink "DogsHour$Town" (63 : Nat) ({ cls := "java/util/ArrayList", name := "get", desc := "(I)Ljava/lang/Object;" } : Jvm.MethodName)) ∈ lw_all := lw_g (lw_at lw_m2 179 rfl) rfl
theorem q553 : (Jvm.Cond.classLink "DogsHour$Town" (67 : Nat) "DogsHour$Dog") ∈ lw_all := lw_g (lw_at lw_m2 193 rfl) rfl
theorem q554 : (Jvm.Cond.classLink "DogsHour$Town" (76 : Nat) "DogsHour$Person") ∈ lw_all := lw_g (lw_at lw_m2 194 rfl) rfl
theorem q1088 : (Jvm.Cond.selects "DogsHour$Town" ({ cls := "java/lang/Object", name := "getClass", desc := "()Ljava/lang/Class;" } : Jvm.MethodName) ({ cls := "java/lang/Object", name := "getClass", desc := "()Ljava/lang/Class;" } : Jvm.MethodName)) ∈ lw_all := lw_g (lw_at lw_m5 8 rfl) rfl
theorem q1124 : (Jvm.Cond.fieldLink "DogsHour$Town" (69 : Nat) "DogsHour$Dog" "kennel" "I") ∈ lw_all := lw_g (lw_at lw_m5 44 rfl) rfl
theorem q1127 : (Jvm.Cond.fieldLink "DogsHour$Town" (117 : Nat) "DogsHour$Dog" "bite" "I") ∈ lw_all := lw_g (lw_at lw_m5 47 rfl) rfl
theorem q1130 : (Jvm.Cond.fieldLink "DogsHour$Town" (120 : Nat) "DogsHour$Dog" "hunger" "I") ∈ lw_all := lw_g (lw_at lw_m5 50 rfl) rfl
theorem q1151 : (Jvm.Cond.fieldLink "DogsHour$Town" (78 : Nat) "DogsHour$Person" "home" "I") ∈ lw_all := lw_g (lw_at lw_m5 71 rfl) rfl
theorem q1154 : (Jvm.Cond.fieldLink "DogsHour$Town" (81 : Nat) "DogsHour$Person" "pocket" "I") ∈ lw_all := lw_g (lw_at lw_m5 74 rfl) rfl
theorem q1230 : (Jvm.Cond.instanceMethod ({ cls := "DogsHour$Town", name := "isFetched", desc := "(I)Z" } : Jvm.MethodName)) ∈ lw_all := lw_g (lw_at lw_m5 150 rfl) rfl
theorem q1231 : (Jvm.Cond.selects "DogsHour$Town" ({ cls := "DogsHour$Town", name := "isFetched", desc := "(I)Z" } : Jvm.MethodName) ({ cls := "DogsHour$Town", name := "isFetched", desc := "(I)Z" } : Jvm.MethodName)) ∈ lw_all := lw_g (lw_at lw_m5 151 rfl) rfl
theorem q1232 : (Jvm.Cond.code ({ cls := "DogsHour$Town", name := "isFetched", desc := "(I)Z" } : Jvm.MethodName) prog_18_method_6_code (2 : Nat) (Option.some Jvm.ClassFile.FieldType.boolean)) ∈ lw_all := lw_g (lw_at lw_m5 152 rfl) rfl
theorem q1243 : (Jvm.Cond.instanceMethod ({ cls := "DogsHour$Town", name := "wants", desc := "(LDogsHour$Text;II)I" } : Jvm.MethodName)) ∈ lw_all := lw_g (lw_at lw_m5 163 rfl) rfl
theorem q1244 : (Jvm.Cond.selects "DogsHour$Town" ({ cls := "DogsHour$Town", name := "wants", desc := "(LDogsHour$Text;II)I" } : Jvm.MethodName) ({ cls := "DogsHour$Town", name := "wants", desc := "(LDogsHour$Text;II)I" } : Jvm.MethodName)) ∈ lw_all := lw_g (lw_at lw_m5 164 rfl) rfl
theorem q1245 : (Jvm.Cond.code ({ cls := "DogsHour$Town", name := "wants", desc := "(LDogsHour$Text;II)I" } : Jvm.MethodName) prog_18_method_8_code (4 : Nat) (Option.some Jvm.ClassFile.FieldType.int)) ∈ lw_all := lw_g (lw_at lw_m5 165 rfl) rfl
theorem q1246 : (Jvm.Cond.methodLink "DogsHour$Town" (131 : Nat) ({ cls := "DogsHour$Town", name := "asks", desc := "(LDogsHour$Text;II)LDogsHour$Asked;" } : Jvm.MethodName)) ∈ lw_all := lw_g (lw_at lw_m5 166 rfl) rfl
theorem q1247 : (Jvm.Cond.privateMethod ({ cls := "DogsHour$Town", name := "asks", desc := "(LDogsHour$Text;II)LDogsHour$Asked;" } : Jvm.MethodName)) ∈ lw_tbl := lw_at lw_m5 167 rfl
theorem q1248 : (Jvm.Cond.instanceMethod ({ cls := "DogsHour$Town", name := "asks", desc := "(LDogsHour$Text;II)LDogsHour$Asked;" } : Jvm.MethodName)) ∈ lw_all := lw_g (lw_at lw_m5 168 rfl) rfl
theorem q1249 : (Jvm.Cond.code ({ cls := "DogsHour$Town", name := "asks", desc := "(LDogsHour$Text;II)LDogsHour$Asked;" } : Jvm.MethodName) prog_18_method_7_code (4 : Nat) (Option.some (Jvm.ClassFile.FieldType.object "DogsHour$Asked"))) ∈ lw_all := lw_g (lw_at lw_m5 169 rfl) rfl
theorem q1250 : (Jvm.Cond.methodLink "DogsHour$Town" (111 : Nat) ({ cls := "java/lang/Math", name := "min", desc := "(II)I" } : Jvm.MethodName)) ∈ lw_all := lw_g (lw_at lw_m5 170 rfl) rfl
theorem q1251 : (Jvm.Cond.methodLink "DogsHour$Town" (123 : Nat) ({ cls := "DogsHour$Town", name := "minute", desc := "(LDogsHour$Text;)I" } : Jvm.MethodName)) ∈ lw_all := lw_g (lw_at lw_m5 171 rfl) rfl
theorem q1252 : (Jvm.Cond.instanceMethod ({ cls := "DogsHour$Town", name := "minute", desc := "(LDogsHour$Text;)I" } : Jvm.MethodName)) ∈ lw_all := lw_g (lw_at lw_m5 172 rfl) rfl
theorem q1253 : (Jvm.Cond.selects "DogsHour$Town" ({ cls := "DogsHour$Town", name := "minute", desc := "(LDogsHour$Text;)I" } : Jvm.MethodName) ({ cls := "DogsHour$Town", name := "minute", desc := "(LDogsHour$Text;)I" } : Jvm.MethodName)) ∈ lw_all := lw_g (lw_at lw_m5 173 rfl) rfl
theorem q1254 : (Jvm.Cond.code ({ cls := "DogsHour$Town", name := "minute", desc := "(LDogsHour$Text;)I" } : Jvm.MethodName) prog_18_method_5_code (2 : Nat) (Option.some Jvm.ClassFile.FieldType.int)) ∈ lw_all := lw_g (lw_at lw_m5 174 rfl) rfl
theorem q1255 : (Jvm.Cond.methodLink "DogsHour$Town" (135 : Nat) ({ cls := "DogsHour$Law", name := "of", desc := "(LDogsHour$Asked;)I" } : Jvm.MethodName)) ∈ lw_all := lw_g (lw_at lw_m5 175 rfl) rfl
theorem q1273 : (Jvm.Cond.instanceMethod ({ cls := "DogsHour$Town", name := "takesOf", desc := "(LDogsHour$Text;II)I" } : Jvm.MethodName)) ∈ lw_all := lw_g (lw_at lw_m5 193 rfl) rfl
theorem q1274 : (Jvm.Cond.selects "DogsHour$Town" ({ cls := "DogsHour$Town", name := "takesOf", desc := "(LDogsHour$Text;II)I" } : Jvm.MethodName) ({ cls := "DogsHour$Town", name := "takesOf", desc := "(LDogsHour$Text;II)I" } : Jvm.MethodName)) ∈ lw_all := lw_g (lw_at lw_m5 194 rfl) rfl
theorem q1275 : (Jvm.Cond.code ({ cls := "DogsHour$Town", name := "takesOf", desc := "(LDogsHour$Text;II)I" } : Jvm.MethodName) prog_18_method_9_code (4 : Nat) (Option.some Jvm.ClassFile.FieldType.int)) ∈ lw_all := lw_g (lw_at lw_m5 195 rfl) rfl
theorem q1276 : (Jvm.Cond.methodLinkNest "DogsHour$Town" (141 : Nat) ({ cls := "DogsHour", name := "within", desc := "(III)I" } : Jvm.MethodName) "DogsHour") ∈ lw_tbl := lw_at lw_m5 196 rfl
theorem q1282 : (Jvm.Cond.instanceMethod ({ cls := "DogsHour$Town", name := "fades", desc := "(LDogsHour$Text;II)I" } : Jvm.MethodName)) ∈ lw_all := lw_g (lw_at lw_m5 202 rfl) rfl
theorem q1283 : (Jvm.Cond.selects "DogsHour$Town" ({ cls := "DogsHour$Town", name := "fades", desc := "(LDogsHour$Text;II)I" } : Jvm.MethodName) ({ cls := "DogsHour$Town", name := "fades", desc := "(LDogsHour$Text;II)I" } : Jvm.MethodName)) ∈ lw_all := lw_g (lw_at lw_m5 203 rfl) rfl
theorem q1284 : (Jvm.Cond.code ({ cls := "DogsHour$Town", name := "fades", desc := "(LDogsHour$Text;II)I" } : Jvm.MethodName) prog_18_method_10_code (4 : Nat) (Option.some Jvm.ClassFile.FieldType.int)) ∈ lw_all := lw_g (lw_at lw_m5 204 rfl) rfl
theorem q1294 : (Jvm.Cond.instanceMethod ({ cls := "DogsHour$Town", name := "takes", desc := "(LDogsHour$Town;)V" } : Jvm.MethodName)) ∈ lw_all := lw_g (lw_at lw_m5 214 rfl) rfl
theorem q1295 : (Jvm.Cond.selects "DogsHour$Town" ({ cls := "DogsHour$Town", name := "takes", desc := "(LDogsHour$Town;)V" } : Jvm.MethodName) ({ cls := "DogsHour$Town", name := "takes", desc := "(LDogsHour$Town;)V" } : Jvm.MethodName)) ∈ lw_all := lw_g (lw_at lw_m5 215 rfl) rfl
theorem q1296 : (Jvm.Cond.code ({ cls := "DogsHour$Town", name := "takes", desc := "(LDogsHour$Town;)V" } : Jvm.MethodName) prog_18_method_4_code (3 : Nat) (Option.none : Option Jvm.ClassFile.FieldType)) ∈ lw_all := lw_g (lw_at lw_m5 216 rfl) rfl
theorem q1297 : (Jvm.Cond.methodLink "DogsHour$Town" (98 : Nat) ({ cls := "DogsHour$Town", name := "copies", desc := "([I[I)V" } : Jvm.MethodName)) ∈ lw_all := lw_g (lw_at lw_m5 217 rfl) rfl
theorem q1298 : (Jvm.Cond.static ({ cls := "DogsHour$Town", name := "copies", desc := "([I[I)V" } : Jvm.MethodName)) ∈ lw_all := lw_g (lw_at lw_m5 218 rfl) rfl
theorem q1299 : (Jvm.Cond.code ({ cls := "DogsHour$Town", name := "copies", desc := "([I[I)V" } : Jvm.MethodName) prog_18_method_3_code (2 : Nat) (Option.none : Option Jvm.ClassFile.FieldType)) ∈ lw_all := lw_g (lw_at lw_m5 219 rfl) rfl
theorem q1300 : (Jvm.Cond.methodLink "DogsHour$Town" (92 : Nat) ({ cls := "java/lang/System", name := "arraycopy", desc := "(Ljava/lang/Object;ILjava/lang/Object;II)V" } : Jvm.MethodName)) ∈ lw_all := lw_g (lw_at lw_m5 220 rfl) rfl
theorem q1325 : (Jvm.Cond.instanceMethod ({ cls := "DogsHour$Town", name := "goesBy", desc := "(LDogsHour$Text;[LDogsHour$Time;)V" } : Jvm.MethodName)) ∈ lw_all := lw_g (lw_at lw_m6 5 rfl) rfl
theorem q1326 : (Jvm.Cond.selects "DogsHour$Town" ({ cls := "DogsHour$Town", name := "goesBy", desc := "(LDogsHour$Text;[LDogsHour$Time;)V" } : Jvm.MethodName) ({ cls := "DogsHour$Town", name := "goesBy", desc := "(LDogsHour$Text;[LDogsHour$Time;)V" } : Jvm.MethodName)) ∈ lw_all := lw_g (lw_at lw_m6 6 rfl) rfl
theorem q1327 : (Jvm.Cond.code ({ cls := "DogsHour$Town", name := "goesBy", desc := "(LDogsHour$Text;[LDogsHour$Time;)V" } : Jvm.MethodName) prog_18_method_17_code (4 : Nat) (Option.none : Option Jvm.ClassFile.FieldType)) ∈ lw_all := lw_g (lw_at lw_m6 7 rfl) rfl
theorem q1328 : (Jvm.Cond.methodLink "DogsHour$Town" (145 : Nat) ({ cls := "DogsHour$Town", name := "isFetched", desc := "(I)Z" } : Jvm.MethodName)) ∈ lw_all := lw_g (lw_at lw_m6 8 rfl) rfl
theorem q1329 : (Jvm.Cond.methodLink "DogsHour$Town" (179 : Nat) ({ cls := "DogsHour$Town", name := "walks", desc := "(LDogsHour$Text;I)V" } : Jvm.MethodName)) ∈ lw_all := lw_g (lw_at lw_m6 9 rfl) rfl
theorem q1330 : (Jvm.Cond.privateMethod ({ cls := "DogsHour$Town", name := "walks", desc := "(LDogsHour$Text;I)V" } : Jvm.MethodName)) ∈ lw_tbl := lw_at lw_m6 10 rfl
theorem q1331 : (Jvm.Cond.instanceMethod ({ cls := "DogsHour$Town", name := "walks", desc := "(LDogsHour$Text;I)V" } : Jvm.MethodName)) ∈ lw_all := lw_g (lw_at lw_m6 11 rfl) rfl
theorem q1332 : (Jvm.Cond.code ({ cls := "DogsHour$Town", name := "walks", desc := "(LDogsHour$Text;I)V" } : Jvm.MethodName) prog_18_method_13_code (4 : Nat) (Option.none : Option Jvm.ClassFile.FieldType)) ∈ lw_all := lw_g (lw_at lw_m6 12 rfl) rfl
theorem q1333 : (Jvm.Cond.methodLink "DogsHour$Town" (154 : Nat) ({ cls := "DogsHour$Text", name := "step", desc := "(II)I" } : Jvm.MethodName)) ∈ lw_all := lw_g (lw_at lw_m6 13 rfl) rfl
theorem q1337 : (Jvm.Cond.methodLink "DogsHour$Town" (183 : Nat) ({ cls := "DogsHour$Text", name := "isHour", desc := "(I)Z" } : Jvm.MethodName)) ∈ lw_all := lw_g (lw_at lw_m6 17 rfl) rfl
theorem q1341 : (Jvm.Cond.methodLink "DogsHour$Town" (186 : Nat) ({ cls := "DogsHour$Time", name := "goes", desc := "(LDogsHour$Town;LDogsHour$Text;)V" } : Jvm.MethodName)) ∈ lw_all := lw_g (lw_at lw_m6 21 rfl) rfl
theorem q1349 : (Jvm.Cond.instanceMethod ({ cls := "DogsHour$Town", name := "hunts", desc := "(LDogsHour$Text;I)V" } : Jvm.MethodName)) ∈ lw_all := lw_g (lw_at lw_m6 29 rfl) rfl
theorem q1350 : (Jvm.Cond.selects "DogsHour$Town" ({ cls := "DogsHour$Town", name := "hunts", desc := "(LDogsHour$Text;I)V" } : Jvm.MethodName) ({ cls := "DogsHour$Town", name := "hunts", desc := "(LDogsHour$Text;I)V" } : Jvm.MethodName)) ∈ lw_all := lw_g (lw_at lw_m6 30 rfl) rfl
theorem q1351 : (Jvm.Cond.code ({ cls := "DogsHour$Town", name := "hunts", desc := "(LDogsHour$Text;I)V" } : Jvm.MethodName) prog_18_method_14_code (5 : Nat) (Option.none : Option Jvm.ClassFile.FieldType)) ∈ lw_all := lw_g (lw_at lw_m6 31 rfl) rfl
theorem q1352 : (Jvm.Cond.methodLink "DogsHour$Town" (166 : Nat) ({ cls := "DogsHour$Town", name := "minds", desc := "(LDogsHour$Text;I)I" } : Jvm.MethodName)) ∈ lw_all := lw_g (lw_at lw_m6 32 rfl) rfl
theorem q1353 : (Jvm.Cond.instanceMethod ({ cls := "DogsHour$Town", name := "minds", desc := "(LDogsHour$Text;I)I" } : Jvm.MethodName)) ∈ lw_all := lw_g (lw_at lw_m6 33 rfl) rfl
theorem q1354 : (Jvm.Cond.selects "DogsHour$Town" ({ cls := "DogsHour$Town", name := "minds", desc := "(LDogsHour$Text;I)I" } : Jvm.MethodName) ({ cls := "DogsHour$Town", name := "minds", desc := "(LDogsHour$Text;I)I" } : Jvm.MethodName)) ∈ lw_all := lw_g (lw_at lw_m6 34 rfl) rfl
theorem q1355 : (Jvm.Cond.code ({ cls := "DogsHour$Town", name := "minds", desc := "(LDogsHour$Text;I)I" } : Jvm.MethodName) prog_18_method_12_code (7 : Nat) (Option.some Jvm.ClassFile.FieldType.int)) ∈ lw_all := lw_g (lw_at lw_m6 35 rfl) rfl
theorem q1356 : (Jvm.Cond.constant "DogsHour$Town" (149 : Nat) (1000000 : Int32)) ∈ lw_all := lw_g (lw_at lw_m6 36 rfl) rfl
theorem q1357 : (Jvm.Cond.methodLink "DogsHour$Town" (150 : Nat) ({ cls := "DogsHour$Town", name := "wants", desc := "(LDogsHour$Text;II)I" } : Jvm.MethodName)) ∈ lw_all := lw_g (lw_at lw_m6 37 rfl) rfl
theorem q1358 : (Jvm.Cond.methodLink "DogsHour$Town" (170 : Nat) ({ cls := "DogsHour$Town", name := "takesOf", desc := "(LDogsHour$Text;II)I" } : Jvm.MethodName)) ∈ lw_all := lw_g (lw_at lw_m6 38 rfl) rfl
theorem q1363 : (Jvm.Cond.instanceMethod ({ cls := "DogsHour$Town", name := "rests", desc := "(LDogsHour$Text;)V" } : Jvm.MethodName)) ∈ lw_all := lw_g (lw_at lw_m6 43 rfl) rfl
theorem q1364 : (Jvm.Cond.selects "DogsHour$Town" ({ cls := "DogsHour$Town", name := "rests", desc := "(LDogsHour$Text;)V" } : Jvm.MethodName) ({ cls := "DogsHour$Town", name := "rests", desc := "(LDogsHour$Text;)V" } : Jvm.MethodName)) ∈ lw_all := lw_g (lw_at lw_m6 44 rfl) rfl
theorem q1365 : (Jvm.Cond.code ({ cls := "DogsHour$Town", name := "rests", desc := "(LDogsHour$Text;)V" } : Jvm.MethodName) prog_18_method_15_code (3 : Nat) (Option.none : Option Jvm.ClassFile.FieldType)) ∈ lw_all := lw_g (lw_at lw_m6 45 rfl) rfl
theorem q1366 : (Jvm.Cond.methodLink "DogsHour$Town" (192 : Nat) ({ cls := "DogsHour$Town", name := "forgets", desc := "(LDogsHour$Text;I)V" } : Jvm.MethodName)) ∈ lw_all := lw_g (lw_at lw_m6 46 rfl) rfl
theorem q1367 : (Jvm.Cond.privateMethod ({ cls := "DogsHour$Town", name := "forgets", desc := "(LDogsHour$Text;I)V" } : Jvm.MethodName)) ∈ lw_tbl := lw_at lw_m6 47 rfl
theorem q1368 : (Jvm.Cond.instanceMethod ({ cls := "DogsHour$Town", name := "forgets", desc := "(LDogsHour$Text;I)V" } : Jvm.MethodName)) ∈ lw_all := lw_g (lw_at lw_m6 48 rfl) rfl
theorem q1369 : (Jvm.Cond.code ({ cls := "DogsHour$Town", name := "forgets", desc := "(LDogsHour$Text;I)V" } : Jvm.MethodName) prog_18_method_16_code (4 : Nat) (Option.none : Option Jvm.ClassFile.FieldType)) ∈ lw_all := lw_g (lw_at lw_m6 49 rfl) rfl
theorem q1370 : (Jvm.Cond.methodLink "DogsHour$Town" (173 : Nat) ({ cls := "DogsHour$Town", name := "fades", desc := "(LDogsHour$Text;II)I" } : Jvm.MethodName)) ∈ lw_all := lw_g (lw_at lw_m6 50 rfl) rfl
theorem q1371 : (Jvm.Cond.methodLink "DogsHour$Town" (176 : Nat) ({ cls := "java/lang/Math", name := "max", desc := "(II)I" } : Jvm.MethodName)) ∈ lw_all := lw_g (lw_at lw_m6 51 rfl) rfl
theorem q1425 : (Jvm.Cond.instanceMethod ({ cls := "DogsHour$Town", name := "dues", desc := "(LDogsHour$Text;I)I" } : Jvm.MethodName)) ∈ lw_all := lw_g (lw_at lw_m6 105 rfl) rfl
theorem q1426 : (Jvm.Cond.selects "DogsHour$Town" ({ cls := "DogsHour$Town", name := "dues", desc := "(LDogsHour$Text;I)I" } : Jvm.MethodName) ({ cls := "DogsHour$Town", name := "dues", desc := "(LDogsHour$Text;I)I" } : Jvm.MethodName)) ∈ lw_all := lw_g (lw_at lw_m6 106 rfl) rfl
theorem q1427 : (Jvm.Cond.code ({ cls := "DogsHour$Town", name := "dues", desc := "(LDogsHour$Text;I)I" } : Jvm.MethodName) prog_18_method_11_code (4 : Nat) (Option.some Jvm.ClassFile.FieldType.int)) ∈ lw_all := lw_g (lw_at lw_m6 107 rfl) rfl
theorem q2173 : (Jvm.Cond.castable "DogsHour$Town" "java/lang/Object") ∈ lw_tbl := lw_at lw_m9 133 rfl
theorem in_X5 : ∀ w ∈ wsX50, w ∈ lw_all := lw_in wsX50 [481, 483, 485, 487, 489, 491, 493, 495, 497, 499, 501, 503, 505, 507] (by decide +kernel) (by decide +kernel)
/-! DogsHour$Asked -/
set_option maxRecDepth 100000
def RX6 : String := "DogsHour$Asked"
def TX6 : u_T := fun k => match k with
  | 0 => ("DogsHour$Asked", "v", "[I", true)
  | _ => ("DogsHour$Asked", "nought", "Z", false)
def tyX6 : Nat → FieldType := fun k => match k with
  | 0 => .array .int
  | _ => .boolean
abbrev wsX60 : List Cond := u_ws RX6 TX6 2
theorem nmX6 : ∀ a, a < 2 → ∀ b, b < 2 → a ≠ b → (TX6 a).2.1 ≠ (TX6 b).2.1 := by decide +kernel
theorem tyX6_ok : ∀ k, k < 2 → parseFieldDescriptor (TX6 k).2.2.1 = some (tyX6 k) := by decide +kernel
abbrev cX6_init : ByteArray := prog_2_method_1_code
def yX6_init : MethodName := ⟨RX6, "<init>", "()V"⟩
def dkwX6_init_0 : List UInt8 := [42, 183, 0, 1, 42, 16, 9, 188, 10, 181, 0, 7, 177]
abbrev dktX6_init_0 : List UInt8 := dkwX6_init_0 ++ []
theorem dksX6_init_0 : cX6_init.data.toList.drop 0 = dktX6_init_0 := by decide +kernel
theorem dX6_init_0 : decode cX6_init 0 = .ok (.aload_n 0, 1) := dk_42 (dk_at dksX6_init_0 0 rfl rfl)
theorem dX6_init_1 : decode cX6_init 1 = .ok (.invokespecial 1, 3) := dk_183 0 1 (dk_at dksX6_init_0 1 rfl rfl)
theorem dX6_init_4 : decode cX6_init 4 = .ok (.aload_n 0, 1) := dk_42 (dk_at dksX6_init_0 4 rfl rfl)
theorem dX6_init_5 : decode cX6_init 5 = .ok (.bipush 9, 2) := dk_16 9 (dk_at dksX6_init_0 5 rfl rfl)
theorem dX6_init_7 : decode cX6_init 7 = .ok (.newarray .int, 2) := dk_188_10 (dk_at dksX6_init_0 7 rfl rfl)
theorem dX6_init_9 : decode cX6_init 9 = .ok (.putfield 7, 3) := dk_181 0 7 (dk_at dksX6_init_0 9 rfl rfl)
theorem dX6_init_12 : decode cX6_init 12 = .ok (.return_, 1) := dk_177 (dk_at dksX6_init_0 12 rfl rfl)
theorem q133 : (Jvm.Cond.initialized "DogsHour$Asked") ∈ lw_all := lw_g (lw_at lw_m1 13 rfl) rfl
theorem q440 : (Jvm.Cond.instantiable "DogsHour$Asked" (2 : Nat)) ∈ lw_all := lw_g (lw_at lw_m2 80 rfl) rfl
theorem q442 : (Jvm.Cond.instanceMethod ({ cls := "DogsHour$Asked", name := "<init>", desc := "()V" } : Jvm.MethodName)) ∈ lw_all := lw_g (lw_at lw_m2 82 rfl) rfl
theorem q443 : (Jvm.Cond.code ({ cls := "DogsHour$Asked", name := "<init>", desc := "()V" } : Jvm.MethodName) prog_2_method_1_code (1 : Nat) (Option.none : Option Jvm.ClassFile.FieldType)) ∈ lw_all := lw_g (lw_at lw_m2 83 rfl) rfl
theorem q444 : (Jvm.Cond.methodLink "DogsHour$Asked" (1 : Nat) ({ cls := "java/lang/Object", name := "<init>", desc := "()V" } : Jvm.MethodName)) ∈ lw_all := lw_g (lw_at lw_m2 84 rfl) rfl
theorem q445 : (Jvm.Cond.fieldLink "DogsHour$Asked" (7 : Nat) "DogsHour$Asked" "v" "[I") ∈ lw_all := lw_g (lw_at lw_m2 85 rfl) rfl
theorem q450 : (Jvm.Cond.laysFinal "DogsHour$Asked" "DogsHour$Asked" "v" "[I") ∈ lw_all := lw_g (lw_at lw_m2 90 rfl) rfl
theorem q451 : (Jvm.Cond.soleField "DogsHour$Asked" "v") ∈ lw_all := lw_g (lw_at lw_m2 91 rfl) rfl
theorem q452 : (Jvm.Cond.lays "DogsHour$Asked" "DogsHour$Asked" "nought" "Z") ∈ lw_all := lw_g (lw_at lw_m2 92 rfl) rfl
theorem q453 : (Jvm.Cond.soleField "DogsHour$Asked" "nought") ∈ lw_all := lw_g (lw_at lw_m2 93 rfl) rfl
theorem q454 : (Jvm.Cond.superclass "DogsHour$Asked" "java/lang/Object") ∈ lw_all := lw_g (lw_at lw_m2 94 rfl) rfl
theorem q1075 : (Jvm.Cond.selects "DogsHour$Asked" ({ cls := "java/lang/Object", name := "getClass", desc := "()Ljava/lang/Class;" } : Jvm.MethodName) ({ cls := "java/lang/Object", name := "getClass", desc := "()Ljava/lang/Class;" } : Jvm.MethodName)) ∈ lw_all := lw_g (lw_at lw_m4 235 rfl) rfl
theorem q2182 : (Jvm.Cond.castable "DogsHour$Asked" "java/lang/Object") ∈ lw_tbl := lw_at lw_m9 142 rfl
theorem in_X6 : ∀ w ∈ wsX60, w ∈ lw_all := lw_in wsX60 [450, 452] (by decide +kernel) (by decide +kernel)
/-! DogsHour$Time -/
set_option maxRecDepth 100000
def RX7 : String := "DogsHour$Time"
abbrev cX7_init : ByteArray := prog_16_method_1_code
def yX7_init : MethodName := ⟨RX7, "<init>", "()V"⟩
theorem dX7_init_0 : decode cX7_init 0 = .ok (.aload_n 0, 1) := by decide +kernel
theorem dX7_init_1 : decode cX7_init 1 = .ok (.invokespecial 1, 3) := by decide +kernel
theorem dX7_init_4 : decode cX7_init 4 = .ok (.return_, 1) := by decide +kernel
theorem q134 : (Jvm.Cond.initialized "DogsHour$Time") ∈ lw_all := lw_g (lw_at lw_m1 14 rfl) rfl
theorem q519 : (Jvm.Cond.instanceMethod ({ cls := "DogsHour$Time", name := "<init>", desc := "()V" } : Jvm.MethodName)) ∈ lw_all := lw_g (lw_at lw_m2 159 rfl) rfl
theorem q520 : (Jvm.Cond.code ({ cls := "DogsHour$Time", name := "<init>", desc := "()V" } : Jvm.MethodName) prog_16_method_1_code (1 : Nat) (Option.none : Option Jvm.ClassFile.FieldType)) ∈ lw_all := lw_g (lw_at lw_m2 160 rfl) rfl
theorem q521 : (Jvm.Cond.methodLink "DogsHour$Time" (1 : Nat) ({ cls := "java/lang/Object", name := "<init>", desc := "()V" } : Jvm.MethodName)) ∈ lw_all := lw_g (lw_at lw_m2 161 rfl) rfl
theorem q1342 : (Jvm.Cond.declares ({ cls := "DogsHour$Time", name := "goes", desc := "(LDogsHour$Town;LDogsHour$Text;)V" } : Jvm.MethodName)) ∈ lw_tbl := lw_at lw_m6 22 rfl
theorem q1343 : (Jvm.Cond.sameMethod "DogsHour$Time" "DogsHour$Time" "goes" "(LDogsHour$Town;LDogsHour$Text;)V") ∈ lw_all := lw_g (lw_at lw_m6 23 rfl) rfl
theorem q2174 : (Jvm.Cond.castable "DogsHour$Time" "java/lang/Object") ∈ lw_tbl := lw_at lw_m9 134 rfl
/-! DogsHour$Peace -/
set_option maxRecDepth 100000
def RX8 : String := "DogsHour$Peace"
abbrev cX8_init : ByteArray := prog_11_method_1_code
def yX8_init : MethodName := ⟨RX8, "<init>", "()V"⟩
theorem dX8_init_0 : decode cX8_init 0 = .ok (.aload_n 0, 1) := by decide +kernel
theorem dX8_init_1 : decode cX8_init 1 = .ok (.invokespecial 1, 3) := by decide +kernel
theorem dX8_init_4 : decode cX8_init 4 = .ok (.return_, 1) := by decide +kernel
abbrev cX8_goes : ByteArray := prog_11_method_2_code
def yX8_goes : MethodName := ⟨RX8, "goes", "(LDogsHour$Town;LDogsHour$Text;)V"⟩
def dkwX8_goes_0 : List UInt8 := [43, 44, 182, 0, 7, 177]
abbrev dktX8_goes_0 : List UInt8 := dkwX8_goes_0 ++ []
theorem dksX8_goes_0 : cX8_goes.data.toList.drop 0 = dktX8_goes_0 := by decide +kernel
theorem dX8_goes_0 : decode cX8_goes 0 = .ok (.aload_n 1, 1) := dk_43 (dk_at dksX8_goes_0 0 rfl rfl)
theorem dX8_goes_1 : decode cX8_goes 1 = .ok (.aload_n 2, 1) := dk_44 (dk_at dksX8_goes_0 1 rfl rfl)
theorem dX8_goes_2 : decode cX8_goes 2 = .ok (.invokevirtual 7, 3) := dk_182 0 7 (dk_at dksX8_goes_0 2 rfl rfl)
theorem dX8_goes_5 : decode cX8_goes 5 = .ok (.return_, 1) := dk_177 (dk_at dksX8_goes_0 5 rfl rfl)
theorem q135 : (Jvm.Cond.initialized "DogsHour$Peace") ∈ lw_all := lw_g (lw_at lw_m1 15 rfl) rfl
theorem q514 : (Jvm.Cond.instantiable "DogsHour$Peace" (0 : Nat)) ∈ lw_all := lw_g (lw_at lw_m2 154 rfl) rfl
theorem q516 : (Jvm.Cond.instanceMethod ({ cls := "DogsHour$Peace", name := "<init>", desc := "()V" } : Jvm.MethodName)) ∈ lw_all := lw_g (lw_at lw_m2 156 rfl) rfl
theorem q517 : (Jvm.Cond.code ({ cls := "DogsHour$Peace", name := "<init>", desc := "()V" } : Jvm.MethodName) prog_11_method_1_code (1 : Nat) (Option.none : Option Jvm.ClassFile.FieldType)) ∈ lw_all := lw_g (lw_at lw_m2 157 rfl) rfl
theorem q518 : (Jvm.Cond.methodLinkNest "DogsHour$Peace" (1 : Nat) ({ cls := "DogsHour$Time", name := "<init>", desc := "()V" } : Jvm.MethodName) "DogsHour") ∈ lw_tbl := lw_at lw_m2 158 rfl
theorem q522 : (Jvm.Cond.superclass "DogsHour$Peace" "DogsHour$Time") ∈ lw_all := lw_g (lw_at lw_m2 162 rfl) rfl
theorem q1083 : (Jvm.Cond.selects "DogsHour$Peace" ({ cls := "java/lang/Object", name := "getClass", desc := "()Ljava/lang/Class;" } : Jvm.MethodName) ({ cls := "java/lang/Object", name := "getClass", desc := "()Ljava/lang/Class;" } : Jvm.MethodName)) ∈ lw_all := lw_g (lw_at lw_m5 3 rfl) rfl
theorem q1359 : (Jvm.Cond.selects "DogsHour$Peace" ({ cls := "DogsHour$Time", name := "goes", desc := "(LDogsHour$Town;LDogsHour$Text;)V" } : Jvm.MethodName) ({ cls := "DogsHour$Peace", name := "goes", desc := "(LDogsHour$Town;LDogsHour$Text;)V" } : Jvm.MethodName)) ∈ lw_all := lw_g (lw_at lw_m6 39 rfl) rfl
theorem q1360 : (Jvm.Cond.instanceMethod ({ cls := "DogsHour$Peace", name := "goes", desc := "(LDogsHour$Town;LDogsHour$Text;)V" } : Jvm.MethodName)) ∈ lw_all := lw_g (lw_at lw_m6 40 rfl) rfl
theorem q1361 : (Jvm.Cond.code ({ cls := "DogsHour$Peace", name := "goes", desc := "(LDogsHour$Town;LDogsHour$Text;)V" } : Jvm.MethodName) prog_11_method_2_code (3 : Nat) (Option.none : Option Jvm.ClassFile.FieldType)) ∈ lw_all := lw_g (lw_at lw_m6 41 rfl) rfl
theorem q1362 : (Jvm.Cond.methodLink "DogsHour$Peace" (7 : Nat) ({ cls := "DogsHour$Town", name := "rests", desc := "(LDogsHour$Text;)V" } : Jvm.MethodName)) ∈ lw_all := lw_g (lw_at lw_m6 42 rfl) rfl
theorem q2183 : (Jvm.Cond.castable "DogsHour$Peace" "java/lang/Object") ∈ lw_tbl := lw_at lw_m9 143 rfl
theorem q2194 : (Jvm.Cond.castable "DogsHour$Peace" "DogsHour$Time") ∈ lw_tbl := lw_at lw_m9 154 rfl
/-! DogsHour$Hunt -/
set_option maxRecDepth 100000
def RX9 : String := "DogsHour$Hunt"
abbrev cX9_init : ByteArray := prog_5_method_1_code
def yX9_init : MethodName := ⟨RX9, "<init>", "()V"⟩
theorem dX9_init_0 : decode cX9_init 0 = .ok (.aload_n 0, 1) := by decide +kernel
theorem dX9_init_1 : decode cX9_init 1 = .ok (.invokespecial 1, 3) := by decide +kernel
theorem dX9_init_4 : decode cX9_init 4 = .ok (.return_, 1) := by decide +kernel
abbrev cX9_goes : ByteArray := prog_5_method_2_code
def yX9_goes : MethodName := ⟨RX9, "goes", "(LDogsHour$Town;LDogsHour$Text;)V"⟩
def dkwX9_goes_1 : List UInt8 := [167, 255, 236, 177]
abbrev dktX9_goes_1 : List UInt8 := dkwX9_goes_1 ++ []
def dkwX9_goes_0 : List UInt8 := [3, 62, 29, 44, 180, 0, 7, 182, 0, 13, 162, 0, 15, 43, 44, 29, 182, 0, 19, 132, 3, 1]
abbrev dktX9_goes_0 : List UInt8 := dkwX9_goes_0 ++ dktX9_goes_1
theorem dksX9_goes_0 : cX9_goes.data.toList.drop 0 = dktX9_goes_0 := by decide +kernel
theorem dksX9_goes_1 : cX9_goes.data.toList.drop 22 = dktX9_goes_1 := dk_seg dksX9_goes_0 22 rfl rfl
theorem dX9_goes_0 : decode cX9_goes 0 = .ok (.iconst 0, 1) := dk_3 (dk_at dksX9_goes_0 0 rfl rfl)
theorem dX9_goes_1 : decode cX9_goes 1 = .ok (.istore_n 3, 1) := dk_62 (dk_at dksX9_goes_0 1 rfl rfl)
theorem dX9_goes_2 : decode cX9_goes 2 = .ok (.iload_n 3, 1) := dk_29 (dk_at dksX9_goes_0 2 rfl rfl)
theorem dX9_goes_3 : decode cX9_goes 3 = .ok (.aload_n 2, 1) := dk_44 (dk_at dksX9_goes_0 3 rfl rfl)
theorem dX9_goes_4 : decode cX9_goes 4 = .ok (.getfield 7, 3) := dk_180 0 7 (dk_at dksX9_goes_0 4 rfl rfl)
theorem dX9_goes_7 : decode cX9_goes 7 = .ok (.invokevirtual 13, 3) := dk_182 0 13 (dk_at dksX9_goes_0 7 rfl rfl)
theorem dX9_goes_10 : decode cX9_goes 10 = .ok (.if_icmp .ge 15, 3) := dk_162 0 15 (dk_at dksX9_goes_0 10 rfl rfl)
theorem dX9_goes_13 : decode cX9_goes 13 = .ok (.aload_n 1, 1) := dk_43 (dk_at dksX9_goes_0 13 rfl rfl)
theorem dX9_goes_14 : decode cX9_goes 14 = .ok (.aload_n 2, 1) := dk_44 (dk_at dksX9_goes_0 14 rfl rfl)
theorem dX9_goes_15 : decode cX9_goes 15 = .ok (.iload_n 3, 1) := dk_29 (dk_at dksX9_goes_0 15 rfl rfl)
theorem dX9_goes_16 : decode cX9_goes 16 = .ok (.invokevirtual 19, 3) := dk_182 0 19 (dk_at dksX9_goes_0 16 rfl rfl)
theorem dX9_goes_19 : decode cX9_goes 19 = .ok (.iinc 3 1, 3) := dk_132 3 1 (dk_at dksX9_goes_0 19 rfl rfl)
theorem dX9_goes_22 : decode cX9_goes 22 = .ok (.goto (-20), 3) := dk_167 255 236 (dk_at dksX9_goes_1 0 rfl rfl)
theorem dX9_goes_25 : decode cX9_goes 25 = .ok (.return_, 1) := dk_177 (dk_at dksX9_goes_1 3 rfl rfl)
theorem q136 : (Jvm.Cond.initialized "DogsHour$Hunt") ∈ lw_all := lw_g (lw_at lw_m1 16 rfl) rfl
theorem q371 : (Jvm.Cond.fieldLink "DogsHour$Hunt" (7 : Nat) "DogsHour$Text" "dogs" "Ljava/util/ArrayList;") ∈ lw_all := lw_g (lw_at lw_m2 11 rfl) rfl
theorem q524 : (Jvm.Cond.instantiable "DogsHour$Hunt" (0 : Nat)) ∈ lw_all := lw_g (lw_at lw_m2 164 rfl) rfl
theorem q526 : (Jvm.Cond.instanceMethod ({ cls := "DogsHour$Hunt", name := "<init>", desc := "()V" } : Jvm.MethodName)) ∈ lw_all := lw_g (lw_at lw_m2 166 rfl) rfl
theorem q527 : (Jvm.Cond.code ({ cls := "DogsHour$Hunt", name := "<init>", desc := "()V" } : Jvm.MethodName) prog_5_method_1_code (1 : Nat) (Option.none : Option Jvm.ClassFile.FieldType)) ∈ lw_all := lw_g (lw_at lw_m2 167 rfl) rfl
theorem q528 : (Jvm.Cond.methodLinkNest "DogsHour$Hunt" (1 : Nat) ({ cls := "DogsHour$Time", name := "<init>", desc := "()V" } : Jvm.MethodName) "DogsHour") ∈ lw_tbl := lw_at lw_m2 168 rfl
theorem q529 : (Jvm.Cond.superclass "DogsHour$Hunt" "DogsHour$Time") ∈ lw_all := lw_g (lw_at lw_m2 169 rfl) rfl
theorem q1078 : (Jvm.Cond.selects "DogsHour$Hunt" ({ cls := "java/lang/Object", name := "getClass", desc := "()Ljava/lang/Class;" } : Jvm.MethodName) ({ cls := "java/lang/Object", name := "getClass", desc := "()Ljava/lang/Class;" } : Jvm.MethodName)) ∈ lw_all := lw_g (lw_at lw_m4 238 rfl) rfl
theorem q1344 : (Jvm.Cond.selects "DogsHour$Hunt" ({ cls := "DogsHour$Time", name := "goes", desc := "(LDogsHour$Town;LDogsHour$Text;)V" } : Jvm.MethodName) ({ cls := "DogsHour$Hunt", name := "goes", desc := "(LDogsHour$Town;LDogsHour$Text;)V" } : Jvm.MethodName)) ∈ lw_all := lw_g (lw_at lw_m6 24 rfl) rfl
theorem q1345 : (Jvm.Cond.instanceMethod ({ cls := "DogsHour$Hunt", name := "goes", desc := "(LDogsHour$Town;LDogsHour$Text;)V" } : Jvm.MethodName)) ∈ lw_all := lw_g (lw_at lw_m6 25 rfl) rfl
theorem q1346 : (Jvm.Cond.code ({ cls := "DogsHour$Hunt", name := "goes", desc := "(LDogsHour$Town;LDogsHour$Text;)V" } : Jvm.MethodName) prog_5_method_2_code (4 : Nat) (Option.none : Option Jvm.ClassFile.FieldType)) ∈ lw_all := lw_g (lw_at lw_m6 26 rfl) rfl
theorem q1347 : (Jvm.Cond.methodLink "DogsHour$Hunt" (13 : Nat) ({ cls := "java/util/ArrayList", name := "size", desc := "()I" } : Jvm.MethodName)) ∈ lw_all := lw_g (lw_at lw_m6 27 rfl) rfl
theorem q1348 : (Jvm.Cond.methodLink "DogsHour$Hunt" (19 : Nat) ({ cls := "DogsHour$Town", name := "hunts", desc := "(LDogsHour$Text;I)V" } : Jvm.MethodName)) ∈ lw_all := lw_g (lw_at lw_m6 28 rfl) rfl
theorem q2184 : (Jvm.Cond.castable "DogsHour$Hunt" "java/lang/Object") ∈ lw_tbl := lw_at lw_m9 144 rfl
theorem q2195 : (Jvm.Cond.castable "DogsHour$Hunt" "DogsHour$Time") ∈ lw_tbl := lw_at lw_m9 155 rfl
/-! DogsHour$Law -/
set_option maxRecDepth 100000
def RX11 : String := "DogsHour$Law"
def TX11 : u_T := fun k => match k with
  | 0 => ("DogsHour$Law", "less", "[LDogsHour$Sum;", true)
  | 1 => ("DogsHour$Law", "than", "[LDogsHour$Sum;", true)
  | 2 => ("DogsHour$Law", "then", "[LDogsHour$Sum;", true)
  | _ => ("DogsHour$Law", "ifs", "I", false)
def tyX11 : Nat → FieldType := fun k => match k with
  | 0 => .array (.object "DogsHour$Sum")
  | 1 => .array (.object "DogsHour$Sum")
  | 2 => .array (.object "DogsHour$Sum")
  | _ => .int
abbrev wsX110 : List Cond := u_ws RX11 TX11 4
theorem nmX11 : ∀ a, a < 4 → ∀ b, b < 4 → a ≠ b → (TX11 a).2.1 ≠ (TX11 b).2.1 := by decide +kernel
theorem tyX11_ok : ∀ k, k < 4 → parseFieldDescriptor (TX11 k).2.2.1 = some (tyX11 k) := by decide +kernel
abbrev cX11_init : ByteArray := prog_7_method_1_code
def yX11_init : MethodName := ⟨RX11, "<init>", "()V"⟩
def dkwX11_init_1 : List UInt8 := [189, 0, 9, 181, 0, 20, 177]
abbrev dktX11_init_1 : List UInt8 := dkwX11_init_1 ++ []
def dkwX11_init_0 : List UInt8 := [42, 183, 0, 3, 42, 7, 189, 0, 9, 181, 0, 11, 42, 7, 189, 0, 9, 181, 0, 17, 42, 8]
abbrev dktX11_init_0 : List UInt8 := dkwX11_init_0 ++ dktX11_init_1
theorem dksX11_init_0 : cX11_init.data.toList.drop 0 = dktX11_init_0 := by decide +kernel
theorem dksX11_init_1 : cX11_init.data.toList.drop 22 = dktX11_init_1 := dk_seg dksX11_init_0 22 rfl rfl
theorem dX11_init_0 : decode cX11_init 0 = .ok (.aload_n 0, 1) := dk_42 (dk_at dksX11_init_0 0 rfl rfl)
theorem dX11_init_1 : decode cX11_init 1 = .ok (.invokespecial 3, 3) := dk_183 0 3 (dk_at dksX11_init_0 1 rfl rfl)
theorem dX11_init_4 : decode cX11_init 4 = .ok (.aload_n 0, 1) := dk_42 (dk_at dksX11_init_0 4 rfl rfl)
theorem dX11_init_5 : decode cX11_init 5 = .ok (.iconst 4, 1) := dk_7 (dk_at dksX11_init_0 5 rfl rfl)
theorem dX11_init_6 : decode cX11_init 6 = .ok (.anewarray 9, 3) := dk_189 0 9 (dk_at dksX11_init_0 6 rfl rfl)
theorem dX11_init_9 : decode cX11_init 9 = .ok (.putfield 11, 3) := dk_181 0 11 (dk_at dksX11_init_0 9 rfl rfl)
theorem dX11_init_12 : decode cX11_init 12 = .ok (.aload_n 0, 1) := dk_42 (dk_at dksX11_init_0 12 rfl rfl)
theorem dX11_init_13 : decode cX11_init 13 = .ok (.iconst 4, 1) := dk_7 (dk_at dksX11_init_0 13 rfl rfl)
theorem dX11_init_14 : decode cX11_init 14 = .ok (.anewarray 9, 3) := dk_189 0 9 (dk_at dksX11_init_0 14 rfl rfl)
theorem dX11_init_17 : decode cX11_init 17 = .ok (.putfield 17, 3) := dk_181 0 17 (dk_at dksX11_init_0 17 rfl rfl)
theorem dX11_init_20 : decode cX11_init 20 = .ok (.aload_n 0, 1) := dk_42 (dk_at dksX11_init_0 20 rfl rfl)
theorem dX11_init_21 : decode cX11_init 21 = .ok (.iconst 5, 1) := dk_8 (dk_at dksX11_init_0 21 rfl rfl)
theorem dX11_init_22 : decode cX11_init 22 = .ok (.anewarray 9, 3) := dk_189 0 9 (dk_at dksX11_init_1 0 rfl rfl)
theorem dX11_init_25 : decode cX11_init 25 = .ok (.putfield 20, 3) := dk_181 0 20 (dk_at dksX11_init_1 3 rfl rfl)
theorem dX11_init_28 : decode cX11_init 28 = .ok (.return_, 1) := dk_177 (dk_at dksX11_init_1 6 rfl rfl)
abbrev cX11_of : ByteArray := prog_7_method_2_code
def yX11_of : MethodName := ⟨RX11, "of", "(LDogsHour$Asked;)I"⟩
def dkwX11_of_2 : List UInt8 := [180, 0, 20, 28, 50, 43, 182, 0, 33, 62, 43, 180, 0, 23, 153, 0, 7, 3, 167, 0, 4, 29, 172]
abbrev dktX11_of_2 : List UInt8 := dkwX11_of_2 ++ []
def dkwX11_of_1 : List UInt8 := [182, 0, 33, 42, 180, 0, 17, 28, 50, 43, 182, 0, 33, 161, 0, 9, 132, 2, 1, 167, 255, 222, 42]
abbrev dktX11_of_1 : List UInt8 := dkwX11_of_1 ++ dktX11_of_2
def dkwX11_of_0 : List UInt8 := [43, 3, 181, 0, 23, 3, 61, 28, 42, 180, 0, 29, 162, 0, 32, 42, 180, 0, 11, 28, 50, 43]
abbrev dktX11_of_0 : List UInt8 := dkwX11_of_0 ++ dktX11_of_1
theorem dksX11_of_0 : cX11_of.data.toList.drop 0 = dktX11_of_0 := by decide +kernel
theorem dksX11_of_1 : cX11_of.data.toList.drop 22 = dktX11_of_1 := dk_seg dksX11_of_0 22 rfl rfl
theorem dksX11_of_2 : cX11_of.data.toList.drop 45 = dktX11_of_2 := dk_seg dksX11_of_1 23 rfl rfl
theorem dX11_of_0 : decode cX11_of 0 = .ok (.aload_n 1, 1) := dk_43 (dk_at dksX11_of_0 0 rfl rfl)
theorem dX11_of_1 : decode cX11_of 1 = .ok (.iconst 0, 1) := dk_3 (dk_at dksX11_of_0 1 rfl rfl)
theorem dX11_of_2 : decode cX11_of 2 = .ok (.putfield 23, 3) := dk_181 0 23 (dk_at dksX11_of_0 2 rfl rfl)
theorem dX11_of_5 : decode cX11_of 5 = .ok (.iconst 0, 1) := dk_3 (dk_at dksX11_of_0 5 rfl rfl)
theorem dX11_of_6 : decode cX11_of 6 = .ok (.istore_n 2, 1) := dk_61 (dk_at dksX11_of_0 6 rfl rfl)
theorem dX11_of_7 : decode cX11_of 7 = .ok (.iload_n 2, 1) := dk_28 (dk_at dksX11_of_0 7 rfl rfl)
theorem dX11_of_8 : decode cX11_of 8 = .ok (.aload_n 0, 1) := dk_42 (dk_at dksX11_of_0 8 rfl rfl)
theorem dX11_of_9 : decode cX11_of 9 = .ok (.getfield 29, 3) := dk_180 0 29 (dk_at dksX11_of_0 9 rfl rfl)
theorem dX11_of_12 : decode cX11_of 12 = .ok (.if_icmp .ge 32, 3) := dk_162 0 32 (dk_at dksX11_of_0 12 rfl rfl)
theorem dX11_of_15 : decode cX11_of 15 = .ok (.aload_n 0, 1) := dk_42 (dk_at dksX11_of_0 15 rfl rfl)
theorem dX11_of_16 : decode cX11_of 16 = .ok (.getfield 11, 3) := dk_180 0 11 (dk_at dksX11_of_0 16 rfl rfl)
theorem dX11_of_19 : decode cX11_of 19 = .ok (.iload_n 2, 1) := dk_28 (dk_at dksX11_of_0 19 rfl rfl)
theorem dX11_of_20 : decode cX11_of 20 = .ok (.aaload, 1) := dk_50 (dk_at dksX11_of_0 20 rfl rfl)
theorem dX11_of_21 : decode cX11_of 21 = .ok (.aload_n 1, 1) := dk_43 (dk_at dksX11_of_0 21 rfl rfl)
theorem dX11_of_22 : decode cX11_of 22 = .ok (.invokevirtual 33, 3) := dk_182 0 33 (dk_at dksX11_of_1 0 rfl rfl)
theorem dX11_of_25 : decode cX11_of 25 = .ok (.aload_n 0, 1) := dk_42 (dk_at dksX11_of_1 3 rfl rfl)
theorem dX11_of_26 : decode cX11_of 26 = .ok (.getfield 17, 3) := dk_180 0 17 (dk_at dksX11_of_1 4 rfl rfl)
theorem dX11_of_29 : decode cX11_of 29 = .ok (.iload_n 2, 1) := dk_28 (dk_at dksX11_of_1 7 rfl rfl)
theorem dX11_of_30 : decode cX11_of 30 = .ok (.aaload, 1) := dk_50 (dk_at dksX11_of_1 8 rfl rfl)
theorem dX11_of_31 : decode cX11_of 31 = .ok (.aload_n 1, 1) := dk_43 (dk_at dksX11_of_1 9 rfl rfl)
theorem dX11_of_32 : decode cX11_of 32 = .ok (.invokevirtual 33, 3) := dk_182 0 33 (dk_at dksX11_of_1 10 rfl rfl)
theorem dX11_of_35 : decode cX11_of 35 = .ok (.if_icmp .lt 9, 3) := dk_161 0 9 (dk_at dksX11_of_1 13 rfl rfl)
theorem dX11_of_38 : decode cX11_of 38 = .ok (.iinc 2 1, 3) := dk_132 2 1 (dk_at dksX11_of_1 16 rfl rfl)
theorem dX11_of_41 : decode cX11_of 41 = .ok (.goto (-34), 3) := dk_167 255 222 (dk_at dksX11_of_1 19 rfl rfl)
theorem dX11_of_44 : decode cX11_of 44 = .ok (.aload_n 0, 1) := dk_42 (dk_at dksX11_of_1 22 rfl rfl)
theorem dX11_of_45 : decode cX11_of 45 = .ok (.getfield 20, 3) := dk_180 0 20 (dk_at dksX11_of_2 0 rfl rfl)
theorem dX11_of_48 : decode cX11_of 48 = .ok (.iload_n 2, 1) := dk_28 (dk_at dksX11_of_2 3 rfl rfl)
theorem dX11_of_49 : decode cX11_of 49 = .ok (.aaload, 1) := dk_50 (dk_at dksX11_of_2 4 rfl rfl)
theorem dX11_of_50 : decode cX11_of 50 = .ok (.aload_n 1, 1) := dk_43 (dk_at dksX11_of_2 5 rfl rfl)
theorem dX11_of_51 : decode cX11_of 51 = .ok (.invokevirtual 33, 3) := dk_182 0 33 (dk_at dksX11_of_2 6 rfl rfl)
theorem dX11_of_54 : decode cX11_of 54 = .ok (.istore_n 3, 1) := dk_62 (dk_at dksX11_of_2 9 rfl rfl)
theorem dX11_of_55 : decode cX11_of 55 = .ok (.aload_n 1, 1) := dk_43 (dk_at dksX11_of_2 10 rfl rfl)
theorem dX11_of_56 : decode cX11_of 56 = .ok (.getfield 23, 3) := dk_180 0 23 (dk_at dksX11_of_2 11 rfl rfl)
theorem dX11_of_59 : decode cX11_of 59 = .ok (.ifCond .eq 7, 3) := dk_153 0 7 (dk_at dksX11_of_2 14 rfl rfl)
theorem dX11_of_62 : decode cX11_of 62 = .ok (.iconst 0, 1) := dk_3 (dk_at dksX11_of_2 17 rfl rfl)
theorem dX11_of_63 : decode cX11_of 63 = .ok (.goto 4, 3) := dk_167 0 4 (dk_at dksX11_of_2 18 rfl rfl)
theorem dX11_of_66 : decode cX11_of 66 = .ok (.iload_n 3, 1) := dk_29 (dk_at dksX11_of_2 21 rfl rfl)
theorem dX11_of_67 : decode cX11_of 67 = .ok (.ireturn, 1) := dk_172 (dk_at dksX11_of_2 22 rfl rfl)
theorem q143 : (Jvm.Cond.initialized "DogsHour$Law") ∈ lw_all := lw_g (lw_at lw_m1 23 rfl) rfl
theorem q448 : (Jvm.Cond.fieldLink "DogsHour$Law" (23 : Nat) "DogsHour$Asked" "nought" "Z") ∈ lw_all := lw_g (lw_at lw_m2 88 rfl) rfl
theorem q736 : (Jvm.Cond.instantiable "DogsHour$Law" (4 : Nat)) ∈ lw_all := lw_g (lw_at lw_m3 136 rfl) rfl
theorem q738 : (Jvm.Cond.instanceMethod ({ cls := "DogsHour$Law", name := "<init>", desc := "()V" } : Jvm.MethodName)) ∈ lw_all := lw_g (lw_at lw_m3 138 rfl) rfl
theorem q739 : (Jvm.Cond.code ({ cls := "DogsHour$Law", name := "<init>", desc := "()V" } : Jvm.MethodName) prog_7_method_1_code (1 : Nat) (Option.none : Option Jvm.ClassFile.FieldType)) ∈ lw_all := lw_g (lw_at lw_m3 139 rfl) rfl
theorem q740 : (Jvm.Cond.methodLink "DogsHour$Law" (3 : Nat) ({ cls := "java/lang/Object", name := "<init>", desc := "()V" } : Jvm.MethodName)) ∈ lw_all := lw_g (lw_at lw_m3 140 rfl) rfl
theorem q741 : (Jvm.Cond.classLink "DogsHour$Law" (9 : Nat) "DogsHour$Sum") ∈ lw_all := lw_g (lw_at lw_m3 141 rfl) rfl
theorem q743 : (Jvm.Cond.fieldLink "DogsHour$Law" (11 : Nat) "DogsHour$Law" "less" "[LDogsHour$Sum;") ∈ lw_all := lw_g (lw_at lw_m3 143 rfl) rfl
theorem q745 : (Jvm.Cond.fieldLink "DogsHour$Law" (17 : Nat) "DogsHour$Law" "than" "[LDogsHour$Sum;") ∈ lw_all := lw_g (lw_at lw_m3 145 rfl) rfl
theorem q747 : (Jvm.Cond.fieldLink "DogsHour$Law" (20 : Nat) "DogsHour$Law" "then" "[LDogsHour$Sum;") ∈ lw_all := lw_g (lw_at lw_m3 147 rfl) rfl
theorem q749 : (Jvm.Cond.fieldLink "DogsHour$Law" (29 : Nat) "DogsHour$Law" "ifs" "I") ∈ lw_all := lw_g (lw_at lw_m3 149 rfl) rfl
theorem q751 : (Jvm.Cond.laysFinal "DogsHour$Law" "DogsHour$Law" "less" "[LDogsHour$Sum;") ∈ lw_all := lw_g (lw_at lw_m3 151 rfl) rfl
theorem q752 : (Jvm.Cond.soleField "DogsHour$Law" "less") ∈ lw_all := lw_g (lw_at lw_m3 152 rfl) rfl
theorem q753 : (Jvm.Cond.laysFinal "DogsHour$Law" "DogsHour$Law" "than" "[LDogsHour$Sum;") ∈ lw_all := lw_g (lw_at lw_m3 153 rfl) rfl
theorem q754 : (Jvm.Cond.soleField "DogsHour$Law" "than") ∈ lw_all := lw_g (lw_at lw_m3 154 rfl) rfl
theorem q755 : (Jvm.Cond.laysFinal "DogsHour$Law" "DogsHour$Law" "then" "[LDogsHour$Sum;") ∈ lw_all := lw_g (lw_at lw_m3 155 rfl) rfl
theorem q756 : (Jvm.Cond.soleField "DogsHour$Law" "then") ∈ lw_all := lw_g (lw_at lw_m3 156 rfl) rfl
theorem q757 : (Jvm.Cond.lays "DogsHour$Law" "DogsHour$Law" "ifs" "I") ∈ lw_all := lw_g (lw_at lw_m3 157 rfl) rfl
theorem q758 : (Jvm.Cond.soleField "DogsHour$Law" "ifs") ∈ lw_all := lw_g (lw_at lw_m3 158 rfl) rfl
theorem q759 : (Jvm.Cond.superclass "DogsHour$Law" "java/lang/Object") ∈ lw_all := lw_g (lw_at lw_m3 159 rfl) rfl
theorem q1080 : (Jvm.Cond.selects "DogsHour$Law" ({ cls := "java/lang/Object", name := "getClass", desc := "()Ljava/lang/Class;" } : Jvm.MethodName) ({ cls := "java/lang/Object", name := "getClass", desc := "()Ljava/lang/Class;" } : Jvm.MethodName)) ∈ lw_all := lw_g (lw_at lw_m5 0 rfl) rfl
theorem q1256 : (Jvm.Cond.instanceMethod ({ cls := "DogsHour$Law", name := "of", desc := "(LDogsHour$Asked;)I" } : Jvm.MethodName)) ∈ lw_all := lw_g (lw_at lw_m5 176 rfl) rfl
theorem q1257 : (Jvm.Cond.selects "DogsHour$Law" ({ cls := "DogsHour$Law", name := "of", desc := "(LDogsHour$Asked;)I" } : Jvm.MethodName) ({ cls := "DogsHour$Law", name := "of", desc := "(LDogsHour$Asked;)I" } : Jvm.MethodName)) ∈ lw_all := lw_g (lw_at lw_m5 177 rfl) rfl
theorem q1258 : (Jvm.Cond.code ({ cls := "DogsHour$Law", name := "of", desc := "(LDogsHour$Asked;)I" } : Jvm.MethodName) prog_7_method_2_code (4 : Nat) (Option.some Jvm.ClassFile.FieldType.int)) ∈ lw_all := lw_g (lw_at lw_m5 178 rfl) rfl
theorem q1259 : (Jvm.Cond.methodLink "DogsHour$Law" (33 : Nat) ({ cls := "DogsHour$Sum", name := "of", desc := "(LDogsHour$Asked;)I" } : Jvm.MethodName)) ∈ lw_all := lw_g (lw_at lw_m5 179 rfl) rfl
theorem q2172 : (Jvm.Cond.castable "DogsHour$Law" "java/lang/Object") ∈ lw_tbl := lw_at lw_m9 132 rfl
theorem in_X11 : ∀ w ∈ wsX110, w ∈ lw_all := lw_in wsX110 [751, 753, 755, 757] (by decide +kernel) (by decide +kernel)
/-! DogsHour$Sum -/
set_option maxRecDepth 100000
def RX12 : String := "DogsHour$Sum"
abbrev cX12_init : ByteArray := prog_14_method_1_code
def yX12_init : MethodName := ⟨RX12, "<init>", "()V"⟩
theorem dX12_init_0 : decode cX12_init 0 = .ok (.aload_n 0, 1) := by decide +kernel
theorem dX12_init_1 : decode cX12_init 1 = .ok (.invokespecial 1, 3) := by decide +kernel
theorem dX12_init_4 : decode cX12_init 4 = .ok (.return_, 1) := by decide +kernel
theorem q144 : (Jvm.Cond.initialized "DogsHour$Sum") ∈ lw_all := lw_g (lw_at lw_m1 24 rfl) rfl
theorem q798 : (Jvm.Cond.instanceMethod ({ cls := "DogsHour$Sum", name := "<init>", desc := "()V" } : Jvm.MethodName)) ∈ lw_all := lw_g (lw_at lw_m3 198 rfl) rfl
theorem q799 : (Jvm.Cond.code ({ cls := "DogsHour$Sum", name := "<init>", desc := "()V" } : Jvm.MethodName) prog_14_method_1_code (1 : Nat) (Option.none : Option Jvm.ClassFile.FieldType)) ∈ lw_all := lw_g (lw_at lw_m3 199 rfl) rfl
theorem q800 : (Jvm.Cond.methodLink "DogsHour$Sum" (1 : Nat) ({ cls := "java/lang/Object", name := "<init>", desc := "()V" } : Jvm.MethodName)) ∈ lw_all := lw_g (lw_at lw_m3 200 rfl) rfl
theorem q1260 : (Jvm.Cond.declares ({ cls := "DogsHour$Sum", name := "of", desc := "(LDogsHour$Asked;)I" } : Jvm.MethodName)) ∈ lw_tbl := lw_at lw_m5 180 rfl
theorem q1261 : (Jvm.Cond.sameMethod "DogsHour$Sum" "DogsHour$Sum" "of" "(LDogsHour$Asked;)I") ∈ lw_all := lw_g (lw_at lw_m5 181 rfl) rfl
theorem q2175 : (Jvm.Cond.castable "DogsHour$Sum" "java/lang/Object") ∈ lw_tbl := lw_at lw_m9 135 rfl
/-! DogsHour$Number -/
set_option maxRecDepth 100000
def RX13 : String := "DogsHour$Number"
def TX13 : u_T := fun k => match k with
  | _ => ("DogsHour$Number", "v", "I", true)
def tyX13 : Nat → FieldType := fun k => match k with
  | _ => .int
abbrev wsX130 : List Cond := u_ws RX13 TX13 1
theorem nmX13 : ∀ a, a < 1 → ∀ b, b < 1 → a ≠ b → (TX13 a).2.1 ≠ (TX13 b).2.1 := by decide +kernel
theorem tyX13_ok : ∀ k, k < 1 → parseFieldDescriptor (TX13 k).2.2.1 = some (tyX13 k) := by decide +kernel
abbrev cX13_init : ByteArray := prog_9_method_1_code
def yX13_init : MethodName := ⟨RX13, "<init>", "(I)V"⟩
def dkwX13_init_0 : List UInt8 := [42, 183, 0, 1, 42, 27, 181, 0, 7, 177]
abbrev dktX13_init_0 : List UInt8 := dkwX13_init_0 ++ []
theorem dksX13_init_0 : cX13_init.data.toList.drop 0 = dktX13_init_0 := by decide +kernel
theorem dX13_init_0 : decode cX13_init 0 = .ok (.aload_n 0, 1) := dk_42 (dk_at dksX13_init_0 0 rfl rfl)
theorem dX13_init_1 : decode cX13_init 1 = .ok (.invokespecial 1, 3) := dk_183 0 1 (dk_at dksX13_init_0 1 rfl rfl)
theorem dX13_init_4 : decode cX13_init 4 = .ok (.aload_n 0, 1) := dk_42 (dk_at dksX13_init_0 4 rfl rfl)
theorem dX13_init_5 : decode cX13_init 5 = .ok (.iload_n 1, 1) := dk_27 (dk_at dksX13_init_0 5 rfl rfl)
theorem dX13_init_6 : decode cX13_init 6 = .ok (.putfield 7, 3) := dk_181 0 7 (dk_at dksX13_init_0 6 rfl rfl)
theorem dX13_init_9 : decode cX13_init 9 = .ok (.return_, 1) := dk_177 (dk_at dksX13_init_0 9 rfl rfl)
abbrev cX13_of : ByteArray := prog_9_method_2_code
def yX13_of : MethodName := ⟨RX13, "of", "(LDogsHour$Asked;)I"⟩
theorem dX13_of_0 : decode cX13_of 0 = .ok (.aload_n 0, 1) := by decide +kernel
theorem dX13_of_1 : decode cX13_of 1 = .ok (.getfield 7, 3) := by decide +kernel
theorem dX13_of_4 : decode cX13_of 4 = .ok (.ireturn, 1) := by decide +kernel
theorem q145 : (Jvm.Cond.initialized "DogsHour$Number") ∈ lw_all := lw_g (lw_at lw_m1 25 rfl) rfl
theorem q789 : (Jvm.Cond.instantiable "DogsHour$Number" (1 : Nat)) ∈ lw_all := lw_g (lw_at lw_m3 189 rfl) rfl
theorem q795 : (Jvm.Cond.instanceMethod ({ cls := "DogsHour$Number", name := "<init>", desc := "(I)V" } : Jvm.MethodName)) ∈ lw_all := lw_g (lw_at lw_m3 195 rfl) rfl
theorem q796 : (Jvm.Cond.code ({ cls := "DogsHour$Number", name := "<init>", desc := "(I)V" } : Jvm.MethodName) prog_9_method_1_code (2 : Nat) (Option.none : Option Jvm.ClassFile.FieldType)) ∈ lw_all := lw_g (lw_at lw_m3 196 rfl) rfl
theorem q797 : (Jvm.Cond.methodLinkNest "DogsHour$Number" (1 : Nat) ({ cls := "DogsHour$Sum", name := "<init>", desc := "()V" } : Jvm.MethodName) "DogsHour") ∈ lw_tbl := lw_at lw_m3 197 rfl
theorem q801 : (Jvm.Cond.fieldLink "DogsHour$Number" (7 : Nat) "DogsHour$Number" "v" "I") ∈ lw_all := lw_g (lw_at lw_m3 201 rfl) rfl
theorem q802 : (Jvm.Cond.laysFinal "DogsHour$Number" "DogsHour$Number" "v" "I") ∈ lw_all := lw_g (lw_at lw_m3 202 rfl) rfl
theorem q803 : (Jvm.Cond.soleField "DogsHour$Number" "v") ∈ lw_all := lw_g (lw_at lw_m3 203 rfl) rfl
theorem q804 : (Jvm.Cond.superclass "DogsHour$Number" "DogsHour$Sum") ∈ lw_all := lw_g (lw_at lw_m3 204 rfl) rfl
theorem q1081 : (Jvm.Cond.selects "DogsHour$Number" ({ cls := "java/lang/Object", name := "getClass", desc := "()Ljava/lang/Class;" } : Jvm.MethodName) ({ cls := "java/lang/Object", name := "getClass", desc := "()Ljava/lang/Class;" } : Jvm.MethodName)) ∈ lw_all := lw_g (lw_at lw_m5 1 rfl) rfl
theorem q1266 : (Jvm.Cond.instanceMethod ({ cls := "DogsHour$Number", name := "of", desc := "(LDogsHour$Asked;)I" } : Jvm.MethodName)) ∈ lw_all := lw_g (lw_at lw_m5 186 rfl) rfl
theorem q1267 : (Jvm.Cond.code ({ cls := "DogsHour$Number", name := "of", desc := "(LDogsHour$Asked;)I" } : Jvm.MethodName) prog_9_method_2_code (2 : Nat) (Option.some Jvm.ClassFile.FieldType.int)) ∈ lw_all := lw_g (lw_at lw_m5 187 rfl) rfl
theorem q1270 : (Jvm.Cond.selects "DogsHour$Number" ({ cls := "DogsHour$Sum", name := "of", desc := "(LDogsHour$Asked;)I" } : Jvm.MethodName) ({ cls := "DogsHour$Number", name := "of", desc := "(LDogsHour$Asked;)I" } : Jvm.MethodName)) ∈ lw_all := lw_g (lw_at lw_m5 190 rfl) rfl
theorem q2186 : (Jvm.Cond.castable "DogsHour$Number" "java/lang/Object") ∈ lw_tbl := lw_at lw_m9 146 rfl
theorem q2196 : (Jvm.Cond.castable "DogsHour$Number" "DogsHour$Sum") ∈ lw_tbl := lw_at lw_m9 156 rfl
theorem in_X13 : ∀ w ∈ wsX130, w ∈ lw_all := lw_in wsX130 [802] (by decide +kernel) (by decide +kernel)
/-! DogsHour$Var -/
set_option maxRecDepth 100000
def RX14 : String := "DogsHour$Var"
def TX14 : u_T := fun k => match k with
  | _ => ("DogsHour$Var", "k", "I", true)
def tyX14 : Nat → FieldType := fun k => match k with
  | _ => .int
abbrev wsX140 : List Cond := u_ws RX14 TX14 1
theorem nmX14 : ∀ a, a < 1 → ∀ b, b < 1 → a ≠ b → (TX14 a).2.1 ≠ (TX14 b).2.1 := by decide +kernel
theorem tyX14_ok : ∀ k, k < 1 → parseFieldDescriptor (TX14 k).2.2.1 = some (tyX14 k) := by decide +kernel
abbrev cX14_init : ByteArray := prog_19_method_1_code
def yX14_init : MethodName := ⟨RX14, "<init>", "(I)V"⟩
def dkwX14_init_0 : List UInt8 := [42, 183, 0, 1, 42, 27, 181, 0, 7, 177]
abbrev dktX14_init_0 : List UInt8 := dkwX14_init_0 ++ []
theorem dksX14_init_0 : cX14_init.data.toList.drop 0 = dktX14_init_0 := by decide +kernel
theorem dX14_init_0 : decode cX14_init 0 = .ok (.aload_n 0, 1) := dk_42 (dk_at dksX14_init_0 0 rfl rfl)
theorem dX14_init_1 : decode cX14_init 1 = .ok (.invokespecial 1, 3) := dk_183 0 1 (dk_at dksX14_init_0 1 rfl rfl)
theorem dX14_init_4 : decode cX14_init 4 = .ok (.aload_n 0, 1) := dk_42 (dk_at dksX14_init_0 4 rfl rfl)
theorem dX14_init_5 : decode cX14_init 5 = .ok (.iload_n 1, 1) := dk_27 (dk_at dksX14_init_0 5 rfl rfl)
theorem dX14_init_6 : decode cX14_init 6 = .ok (.putfield 7, 3) := dk_181 0 7 (dk_at dksX14_init_0 6 rfl rfl)
theorem dX14_init_9 : decode cX14_init 9 = .ok (.return_, 1) := dk_177 (dk_at dksX14_init_0 9 rfl rfl)
abbrev cX14_of : ByteArray := prog_19_method_2_code
def yX14_of : MethodName := ⟨RX14, "of", "(LDogsHour$Asked;)I"⟩
def dkwX14_of_0 : List UInt8 := [43, 180, 0, 13, 42, 180, 0, 7, 46, 172]
abbrev dktX14_of_0 : List UInt8 := dkwX14_of_0 ++ []
theorem dksX14_of_0 : cX14_of.data.toList.drop 0 = dktX14_of_0 := by decide +kernel
theorem dX14_of_0 : decode cX14_of 0 = .ok (.aload_n 1, 1) := dk_43 (dk_at dksX14_of_0 0 rfl rfl)
theorem dX14_of_1 : decode cX14_of 1 = .ok (.getfield 13, 3) := dk_180 0 13 (dk_at dksX14_of_0 1 rfl rfl)
theorem dX14_of_4 : decode cX14_of 4 = .ok (.aload_n 0, 1) := dk_42 (dk_at dksX14_of_0 4 rfl rfl)
theorem dX14_of_5 : decode cX14_of 5 = .ok (.getfield 7, 3) := dk_180 0 7 (dk_at dksX14_of_0 5 rfl rfl)
theorem dX14_of_8 : decode cX14_of 8 = .ok (.iaload, 1) := dk_46 (dk_at dksX14_of_0 8 rfl rfl)
theorem dX14_of_9 : decode cX14_of 9 = .ok (.ireturn, 1) := dk_172 (dk_at dksX14_of_0 9 rfl rfl)
theorem q146 : (Jvm.Cond.initialized "DogsHour$Var") ∈ lw_all := lw_g (lw_at lw_m1 26 rfl) rfl
theorem q446 : (Jvm.Cond.fieldLink "DogsHour$Var" (13 : Nat) "DogsHour$Asked" "v" "[I") ∈ lw_all := lw_g (lw_at lw_m2 86 rfl) rfl
theorem q806 : (Jvm.Cond.instantiable "DogsHour$Var" (1 : Nat)) ∈ lw_all := lw_g (lw_at lw_m3 206 rfl) rfl
theorem q808 : (Jvm.Cond.instanceMethod ({ cls := "DogsHour$Var", name := "<init>", desc := "(I)V" } : Jvm.MethodName)) ∈ lw_all := lw_g (lw_at lw_m3 208 rfl) rfl
theorem q809 : (Jvm.Cond.code ({ cls := "DogsHour$Var", name := "<init>", desc := "(I)V" } : Jvm.MethodName) prog_19_method_1_code (2 : Nat) (Option.none : Option Jvm.ClassFile.FieldType)) ∈ lw_all := lw_g (lw_at lw_m3 209 rfl) rfl
theorem q810 : (Jvm.Cond.methodLinkNest "DogsHour$Var" (1 : Nat) ({ cls := "DogsHour$Sum", name := "<init>", desc := "()V" } : Jvm.MethodName) "DogsHour") ∈ lw_tbl := lw_at lw_m3 210 rfl
theorem q811 : (Jvm.Cond.fieldLink "DogsHour$Var" (7 : Nat) "DogsHour$Var" "k" "I") ∈ lw_all := lw_g (lw_at lw_m3 211 rfl) rfl
theorem q812 : (Jvm.Cond.laysFinal "DogsHour$Var" "DogsHour$Var" "k" "I") ∈ lw_all := lw_g (lw_at lw_m3 212 rfl) rfl
theorem q813 : (Jvm.Cond.soleField "DogsHour$Var" "k") ∈ lw_all := lw_g (lw_at lw_m3 213 rfl) rfl
theorem q814 : (Jvm.Cond.superclass "DogsHour$Var" "DogsHour$Sum") ∈ lw_all := lw_g (lw_at lw_m3 214 rfl) rfl
theorem q1089 : (Jvm.Cond.selects "DogsHour$Var" ({ cls := "java/lang/Object", name := "getClass", desc := "()Ljava/lang/Class;" } : Jvm.MethodName) ({ cls := "java/lang/Object", name := "getClass", desc := "()Ljava/lang/Class;" } : Jvm.MethodName)) ∈ lw_all := lw_g (lw_at lw_m5 9 rfl) rfl
theorem q1268 : (Jvm.Cond.instanceMethod ({ cls := "DogsHour$Var", name := "of", desc := "(LDogsHour$Asked;)I" } : Jvm.MethodName)) ∈ lw_all := lw_g (lw_at lw_m5 188 rfl) rfl
theorem q1269 : (Jvm.Cond.code ({ cls := "DogsHour$Var", name := "of", desc := "(LDogsHour$Asked;)I" } : Jvm.MethodName) prog_19_method_2_code (2 : Nat) (Option.some Jvm.ClassFile.FieldType.int)) ∈ lw_all := lw_g (lw_at lw_m5 189 rfl) rfl
theorem q1271 : (Jvm.Cond.selects "DogsHour$Var" ({ cls := "DogsHour$Sum", name := "of", desc := "(LDogsHour$Asked;)I" } : Jvm.MethodName) ({ cls := "DogsHour$Var", name := "of", desc := "(LDogsHour$Asked;)I" } : Jvm.MethodName)) ∈ lw_all := lw_g (lw_at lw_m5 191 rfl) rfl
theorem q2187 : (Jvm.Cond.castable "DogsHour$Var" "java/lang/Object") ∈ lw_tbl := lw_at lw_m9 147 rfl
theorem q2197 : (Jvm.Cond.castable "DogsHour$Var" "DogsHour$Sum") ∈ lw_tbl := lw_at lw_m9 157 rfl
theorem in_X14 : ∀ w ∈ wsX140, w ∈ lw_all := lw_in wsX140 [812] (by decide +kernel) (by decide +kernel)
/-! DogsHour$Joined -/
set_option maxRecDepth 100000
def RX15 : String := "DogsHour$Joined"
def TX15 : u_T := fun k => match k with
  | 0 => ("DogsHour$Joined", "op", "I", true)
  | 1 => ("DogsHour$Joined", "a", "LDogsHour$Sum;", true)
  | _ => ("DogsHour$Joined", "b", "LDogsHour$Sum;", true)
def tyX15 : Nat → FieldType := fun k => match k with
  | 0 => .int
  | 1 => .object "DogsHour$Sum"
  | _ => .object "DogsHour$Sum"
abbrev wsX150 : List Cond := u_ws RX15 TX15 3
theorem nmX15 : ∀ a, a < 3 → ∀ b, b < 3 → a ≠ b → (TX15 a).2.1 ≠ (TX15 b).2.1 := by decide +kernel
theorem tyX15_ok : ∀ k, k < 3 → parseFieldDescriptor (TX15 k).2.2.1 = some (tyX15 k) := by decide +kernel
abbrev cX15_init : ByteArray := prog_6_method_1_code
def yX15_init : MethodName := ⟨RX15, "<init>", "(ILDogsHour$Sum;LDogsHour$Sum;)V"⟩
def dkwX15_init_0 : List UInt8 := [42, 183, 0, 1, 42, 27, 181, 0, 7, 42, 44, 181, 0, 13, 42, 45, 181, 0, 17, 177]
abbrev dktX15_init_0 : List UInt8 := dkwX15_init_0 ++ []
theorem dksX15_init_0 : cX15_init.data.toList.drop 0 = dktX15_init_0 := by decide +kernel
theorem dX15_init_0 : decode cX15_init 0 = .ok (.aload_n 0, 1) := dk_42 (dk_at dksX15_init_0 0 rfl rfl)
theorem dX15_init_1 : decode cX15_init 1 = .ok (.invokespecial 1, 3) := dk_183 0 1 (dk_at dksX15_init_0 1 rfl rfl)
theorem dX15_init_4 : decode cX15_init 4 = .ok (.aload_n 0, 1) := dk_42 (dk_at dksX15_init_0 4 rfl rfl)
theorem dX15_init_5 : decode cX15_init 5 = .ok (.iload_n 1, 1) := dk_27 (dk_at dksX15_init_0 5 rfl rfl)
theorem dX15_init_6 : decode cX15_init 6 = .ok (.putfield 7, 3) := dk_181 0 7 (dk_at dksX15_init_0 6 rfl rfl)
theorem dX15_init_9 : decode cX15_init 9 = .ok (.aload_n 0, 1) := dk_42 (dk_at dksX15_init_0 9 rfl rfl)
theorem dX15_init_10 : decode cX15_init 10 = .ok (.aload_n 2, 1) := dk_44 (dk_at dksX15_init_0 10 rfl rfl)
theorem dX15_init_11 : decode cX15_init 11 = .ok (.putfield 13, 3) := dk_181 0 13 (dk_at dksX15_init_0 11 rfl rfl)
theorem dX15_init_14 : decode cX15_init 14 = .ok (.aload_n 0, 1) := dk_42 (dk_at dksX15_init_0 14 rfl rfl)
theorem dX15_init_15 : decode cX15_init 15 = .ok (.aload_n 3, 1) := dk_45 (dk_at dksX15_init_0 15 rfl rfl)
theorem dX15_init_16 : decode cX15_init 16 = .ok (.putfield 17, 3) := dk_181 0 17 (dk_at dksX15_init_0 16 rfl rfl)
theorem dX15_init_19 : decode cX15_init 19 = .ok (.return_, 1) := dk_177 (dk_at dksX15_init_0 19 rfl rfl)
abbrev cX15_of : ByteArray := prog_6_method_2_code
def yX15_of : MethodName := ⟨RX15, "of", "(LDogsHour$Asked;)I"⟩
def dkwX15_of_3 : List UInt8 := [181, 0, 24, 3, 172]
abbrev dktX15_of_3 : List UInt8 := dkwX15_of_3 ++ []
def dkwX15_of_2 : List UInt8 := [28, 29, 96, 172, 28, 29, 100, 172, 28, 29, 104, 172, 29, 153, 0, 7, 28, 29, 108, 172, 43, 4]
abbrev dktX15_of_2 : List UInt8 := dkwX15_of_2 ++ dktX15_of_3
def dkwX15_of_1 : List UInt8 := [170, 0, 0, 0, 0, 42, 0, 0, 0, 42, 0, 0, 0, 45, 0, 0, 0, 38, 0, 0, 0, 30, 0, 0, 0, 42, 0, 0, 0, 34]
abbrev dktX15_of_1 : List UInt8 := dkwX15_of_1 ++ dktX15_of_2
def dkwX15_of_0 : List UInt8 := [42, 180, 0, 13, 43, 182, 0, 20, 61, 42, 180, 0, 17, 43, 182, 0, 20, 62, 42, 180, 0, 7]
abbrev dktX15_of_0 : List UInt8 := dkwX15_of_0 ++ dktX15_of_1
theorem dksX15_of_0 : cX15_of.data.toList.drop 0 = dktX15_of_0 := by decide +kernel
theorem dksX15_of_1 : cX15_of.data.toList.drop 22 = dktX15_of_1 := dk_seg dksX15_of_0 22 rfl rfl
theorem dksX15_of_2 : cX15_of.data.toList.drop 52 = dktX15_of_2 := dk_seg dksX15_of_1 30 rfl rfl
theorem dksX15_of_3 : cX15_of.data.toList.drop 74 = dktX15_of_3 := dk_seg dksX15_of_2 22 rfl rfl
theorem dX15_of_0 : decode cX15_of 0 = .ok (.aload_n 0, 1) := dk_42 (dk_at dksX15_of_0 0 rfl rfl)
theorem dX15_of_1 : decode cX15_of 1 = .ok (.getfield 13, 3) := dk_180 0 13 (dk_at dksX15_of_0 1 rfl rfl)
theorem dX15_of_4 : decode cX15_of 4 = .ok (.aload_n 1, 1) := dk_43 (dk_at dksX15_of_0 4 rfl rfl)
theorem dX15_of_5 : decode cX15_of 5 = .ok (.invokevirtual 20, 3) := dk_182 0 20 (dk_at dksX15_of_0 5 rfl rfl)
theorem dX15_of_8 : decode cX15_of 8 = .ok (.istore_n 2, 1) := dk_61 (dk_at dksX15_of_0 8 rfl rfl)
theorem dX15_of_9 : decode cX15_of 9 = .ok (.aload_n 0, 1) := dk_42 (dk_at dksX15_of_0 9 rfl rfl)
theorem dX15_of_10 : decode cX15_of 10 = .ok (.getfield 17, 3) := dk_180 0 17 (dk_at dksX15_of_0 10 rfl rfl)
theorem dX15_of_13 : decode cX15_of 13 = .ok (.aload_n 1, 1) := dk_43 (dk_at dksX15_of_0 13 rfl rfl)
theorem dX15_of_14 : decode cX15_of 14 = .ok (.invokevirtual 20, 3) := dk_182 0 20 (dk_at dksX15_of_0 14 rfl rfl)
theorem dX15_of_17 : decode cX15_of 17 = .ok (.istore_n 3, 1) := dk_62 (dk_at dksX15_of_0 17 rfl rfl)
theorem dX15_of_18 : decode cX15_of 18 = .ok (.aload_n 0, 1) := dk_42 (dk_at dksX15_of_0 18 rfl rfl)
theorem dX15_of_19 : decode cX15_of 19 = .ok (.getfield 7, 3) := dk_180 0 7 (dk_at dksX15_of_0 19 rfl rfl)
theorem dX15_of_22 : decode cX15_of 22 = .ok (.tableswitch 42 42 45 #[38, 30, 42, 34], 30) := by decide +kernel
theorem dX15_of_52 : decode cX15_of 52 = .ok (.iload_n 2, 1) := dk_28 (dk_at dksX15_of_2 0 rfl rfl)
theorem dX15_of_53 : decode cX15_of 53 = .ok (.iload_n 3, 1) := dk_29 (dk_at dksX15_of_2 1 rfl rfl)
theorem dX15_of_54 : decode cX15_of 54 = .ok (.iadd, 1) := dk_96 (dk_at dksX15_of_2 2 rfl rfl)
theorem dX15_of_55 : decode cX15_of 55 = .ok (.ireturn, 1) := dk_172 (dk_at dksX15_of_2 3 rfl rfl)
theorem dX15_of_56 : decode cX15_of 56 = .ok (.iload_n 2, 1) := dk_28 (dk_at dksX15_of_2 4 rfl rfl)
theorem dX15_of_57 : decode cX15_of 57 = .ok (.iload_n 3, 1) := dk_29 (dk_at dksX15_of_2 5 rfl rfl)
theorem dX15_of_58 : decode cX15_of 58 = .ok (.isub, 1) := dk_100 (dk_at dksX15_of_2 6 rfl rfl)
theorem dX15_of_59 : decode cX15_of 59 = .ok (.ireturn, 1) := dk_172 (dk_at dksX15_of_2 7 rfl rfl)
theorem dX15_of_60 : decode cX15_of 60 = .ok (.iload_n 2, 1) := dk_28 (dk_at dksX15_of_2 8 rfl rfl)
theorem dX15_of_61 : decode cX15_of 61 = .ok (.iload_n 3, 1) := dk_29 (dk_at dksX15_of_2 9 rfl rfl)
theorem dX15_of_62 : decode cX15_of 62 = .ok (.imul, 1) := dk_104 (dk_at dksX15_of_2 10 rfl rfl)
theorem dX15_of_63 : decode cX15_of 63 = .ok (.ireturn, 1) := dk_172 (dk_at dksX15_of_2 11 rfl rfl)
theorem dX15_of_64 : decode cX15_of 64 = .ok (.iload_n 3, 1) := dk_29 (dk_at dksX15_of_2 12 rfl rfl)
theorem dX15_of_65 : decode cX15_of 65 = .ok (.ifCond .eq 7, 3) := dk_153 0 7 (dk_at dksX15_of_2 13 rfl rfl)
theorem dX15_of_68 : decode cX15_of 68 = .ok (.iload_n 2, 1) := dk_28 (dk_at dksX15_of_2 16 rfl rfl)
theorem dX15_of_69 : decode cX15_of 69 = .ok (.iload_n 3, 1) := dk_29 (dk_at dksX15_of_2 17 rfl rfl)
theorem dX15_of_70 : decode cX15_of 70 = .ok (.idiv, 1) := dk_108 (dk_at dksX15_of_2 18 rfl rfl)
theorem dX15_of_71 : decode cX15_of 71 = .ok (.ireturn, 1) := dk_172 (dk_at dksX15_of_2 19 rfl rfl)
theorem dX15_of_72 : decode cX15_of 72 = .ok (.aload_n 1, 1) := dk_43 (dk_at dksX15_of_2 20 rfl rfl)
theorem dX15_of_73 : decode cX15_of 73 = .ok (.iconst 1, 1) := dk_4 (dk_at dksX15_of_2 21 rfl rfl)
theorem dX15_of_74 : decode cX15_of 74 = .ok (.putfield 24, 3) := dk_181 0 24 (dk_at dksX15_of_3 0 rfl rfl)
theorem dX15_of_77 : decode cX15_of 77 = .ok (.iconst 0, 1) := dk_3 (dk_at dksX15_of_3 3 rfl rfl)
theorem dX15_of_78 : decode cX15_of 78 = .ok (.ireturn, 1) := dk_172 (dk_at dksX15_of_3 4 rfl rfl)
theorem q147 : (Jvm.Cond.initialized "DogsHour$Joined") ∈ lw_all := lw_g (lw_at lw_m1 27 rfl) rfl
theorem q449 : (Jvm.Cond.fieldLink "DogsHour$Joined" (24 : Nat) "DogsHour$Asked" "nought" "Z") ∈ lw_all := lw_g (lw_at lw_m2 89 rfl) rfl
theorem q816 : (Jvm.Cond.instantiable "DogsHour$Joined" (3 : Nat)) ∈ lw_all := lw_g (lw_at lw_m3 216 rfl) rfl
theorem q818 : (Jvm.Cond.instanceMethod ({ cls := "DogsHour$Joined", name := "<init>", desc := "(ILDogsHour$Sum;LDogsHour$Sum;)V" } : Jvm.MethodName)) ∈ lw_all := lw_g (lw_at lw_m3 218 rfl) rfl
theorem q819 : (Jvm.Cond.code ({ cls := "DogsHour$Joined", name := "<init>", desc := "(ILDogsHour$Sum;LDogsHour$Sum;)V" } : Jvm.MethodName) prog_6_method_1_code (4 : Nat) (Option.none : Option Jvm.ClassFile.FieldType)) ∈ lw_all := lw_g (lw_at lw_m3 219 rfl) rfl
theorem q820 : (Jvm.Cond.methodLinkNest "DogsHour$Joined" (1 : Nat) ({ cls := "DogsHour$Sum", name := "<init>", desc := "()V" } : Jvm.MethodName) "DogsHour") ∈ lw_tbl := lw_at lw_m3 220 rfl
theorem q821 : (Jvm.Cond.fieldLink "DogsHour$Joined" (7 : Nat) "DogsHour$Joined" "op" "I") ∈ lw_all := lw_g (lw_at lw_m3 221 rfl) rfl
theorem q822 : (Jvm.Cond.fieldLink "DogsHour$Joined" (13 : Nat) "DogsHour$Joined" "a" "LDogsHour$Sum;") ∈ lw_all := lw_g (lw_at lw_m3 222 rfl) rfl
theorem q823 : (Jvm.Cond.fieldLink "DogsHour$Joined" (17 : Nat) "DogsHour$Joined" "b" "LDogsHour$Sum;") ∈ lw_all := lw_g (lw_at lw_m3 223 rfl) rfl
theorem q824 : (Jvm.Cond.laysFinal "DogsHour$Joined" "DogsHour$Joined" "op" "I") ∈ lw_all := lw_g (lw_at lw_m3 224 rfl) rfl
theorem q825 : (Jvm.Cond.soleField "DogsHour$Joined" "op") ∈ lw_all := lw_g (lw_at lw_m3 225 rfl) rfl
theorem q826 : (Jvm.Cond.laysFinal "DogsHour$Joined" "DogsHour$Joined" "a" "LDogsHour$Sum;") ∈ lw_all := lw_g (lw_at lw_m3 226 rfl) rfl
theorem q827 : (Jvm.Cond.soleField "DogsHour$Joined" "a") ∈ lw_all := lw_g (lw_at lw_m3 227 rfl) rfl
theorem q828 : (Jvm.Cond.laysFinal "DogsHour$Joined" "DogsHour$Joined" "b" "LDogsHour$Sum;") ∈ lw_all := lw_g (lw_at lw_m3 228 rfl) rfl
theorem q829 : (Jvm.Cond.soleField "DogsHour$Joined" "b") ∈ lw_all := lw_g (lw_at lw_m3 229 rfl) rfl
theorem q830 : (Jvm.Cond.superclass "DogsHour$Joined" "DogsHour$Sum") ∈ lw_all := lw_g (lw_at lw_m3 230 rfl) rfl
theorem q1079 : (Jvm.Cond.selects "DogsHour$Joined" ({ cls := "java/lang/Object", name := "getClass", desc := "()Ljava/lang/Class;" } : Jvm.MethodName) ({ cls := "java/lang/Object", name := "getClass", desc := "()Ljava/lang/Class;" } : Jvm.MethodName)) ∈ lw_all := lw_g (lw_at lw_m4 239 rfl) rfl
theorem q1262 : (Jvm.Cond.selects "DogsHour$Joined" ({ cls := "DogsHour$Sum", name := "of", desc := "(LDogsHour$Asked;)I" } : Jvm.MethodName) ({ cls := "DogsHour$Joined", name := "of", desc := "(LDogsHour$Asked;)I" } : Jvm.MethodName)) ∈ lw_all := lw_g (lw_at lw_m5 182 rfl) rfl
theorem q1263 : (Jvm.Cond.instanceMethod ({ cls := "DogsHour$Joined", name := "of", desc := "(LDogsHour$Asked;)I" } : Jvm.MethodName)) ∈ lw_all := lw_g (lw_at lw_m5 183 rfl) rfl
theorem q1264 : (Jvm.Cond.code ({ cls := "DogsHour$Joined", name := "of", desc := "(LDogsHour$Asked;)I" } : Jvm.MethodName) prog_6_method_2_code (4 : Nat) (Option.some Jvm.ClassFile.FieldType.int)) ∈ lw_all := lw_g (lw_at lw_m5 184 rfl) rfl
theorem q1265 : (Jvm.Cond.methodLink "DogsHour$Joined" (20 : Nat) ({ cls := "DogsHour$Sum", name := "of", desc := "(LDogsHour$Asked;)I" } : Jvm.MethodName)) ∈ lw_all := lw_g (lw_at lw_m5 185 rfl) rfl
theorem q2188 : (Jvm.Cond.castable "DogsHour$Joined" "java/lang/Object") ∈ lw_tbl := lw_at lw_m9 148 rfl
theorem q2198 : (Jvm.Cond.castable "DogsHour$Joined" "DogsHour$Sum") ∈ lw_tbl := lw_at lw_m9 158 rfl
theorem in_X15 : ∀ w ∈ wsX150, w ∈ lw_all := lw_in wsX150 [824, 826, 828] (by decide +kernel) (by decide +kernel)
/-! DogsHour$Named -/
set_option maxRecDepth 100000
def RX16 : String := "DogsHour$Named"
abbrev cX16_init : ByteArray := prog_8_method_1_code
def yX16_init : MethodName := ⟨RX16, "<init>", "(Ljava/lang/String;)V"⟩
def dkwX16_init_0 : List UInt8 := [42, 183, 0, 1, 42, 43, 181, 0, 7, 177]
abbrev dktX16_init_0 : List UInt8 := dkwX16_init_0 ++ []
theorem dksX16_init_0 : cX16_init.data.toList.drop 0 = dktX16_init_0 := by decide +kernel
theorem dX16_init_0 : decode cX16_init 0 = .ok (.aload_n 0, 1) := dk_42 (dk_at dksX16_init_0 0 rfl rfl)
theorem dX16_init_1 : decode cX16_init 1 = .ok (.invokespecial 1, 3) := dk_183 0 1 (dk_at dksX16_init_0 1 rfl rfl)
theorem dX16_init_4 : decode cX16_init 4 = .ok (.aload_n 0, 1) := dk_42 (dk_at dksX16_init_0 4 rfl rfl)
theorem dX16_init_5 : decode cX16_init 5 = .ok (.aload_n 1, 1) := dk_43 (dk_at dksX16_init_0 5 rfl rfl)
theorem dX16_init_6 : decode cX16_init 6 = .ok (.putfield 7, 3) := dk_181 0 7 (dk_at dksX16_init_0 6 rfl rfl)
theorem dX16_init_9 : decode cX16_init 9 = .ok (.return_, 1) := dk_177 (dk_at dksX16_init_0 9 rfl rfl)
theorem q148 : (Jvm.Cond.initialized "DogsHour$Named") ∈ lw_all := lw_g (lw_at lw_m1 28 rfl) rfl
theorem q1038 : (Jvm.Cond.instanceMethod ({ cls := "DogsHour$Named", name := "<init>", desc := "(Ljava/lang/String;)V" } : Jvm.MethodName)) ∈ lw_all := lw_g (lw_at lw_m4 198 rfl) rfl
theorem q1039 : (Jvm.Cond.code ({ cls := "DogsHour$Named", name := "<init>", desc := "(Ljava/lang/String;)V" } : Jvm.MethodName) prog_8_method_1_code (2 : Nat) (Option.none : Option Jvm.ClassFile.FieldType)) ∈ lw_all := lw_g (lw_at lw_m4 199 rfl) rfl
theorem q1040 : (Jvm.Cond.methodLink "DogsHour$Named" (1 : Nat) ({ cls := "java/lang/Object", name := "<init>", desc := "()V" } : Jvm.MethodName)) ∈ lw_all := lw_g (lw_at lw_m4 200 rfl) rfl
theorem q1044 : (Jvm.Cond.fieldLink "DogsHour$Named" (7 : Nat) "DogsHour$Named" "name" "Ljava/lang/String;") ∈ lw_all := lw_g (lw_at lw_m4 204 rfl) rfl
theorem q1049 : (Jvm.Cond.soleField "DogsHour$Named" "name") ∈ lw_all := lw_g (lw_at lw_m4 209 rfl) rfl
/-! DogsHour$Spot -/
set_option maxRecDepth 100000
def RX17 : String := "DogsHour$Spot"
def TX17 : u_T := fun k => match k with
  | 0 => ("DogsHour$Named", "name", "Ljava/lang/String;", true)
  | _ => ("DogsHour$Spot", "next", "I", false)
def tyX17 : Nat → FieldType := fun k => match k with
  | 0 => .object "java/lang/String"
  | _ => .int
abbrev wsX170 : List Cond := u_ws RX17 TX17 2
theorem nmX17 : ∀ a, a < 2 → ∀ b, b < 2 → a ≠ b → (TX17 a).2.1 ≠ (TX17 b).2.1 := by decide +kernel
theorem tyX17_ok : ∀ k, k < 2 → parseFieldDescriptor (TX17 k).2.2.1 = some (tyX17 k) := by decide +kernel
abbrev cX17_init : ByteArray := prog_13_method_1_code
def yX17_init : MethodName := ⟨RX17, "<init>", "(Ljava/lang/String;)V"⟩
def dkwX17_init_0 : List UInt8 := [42, 43, 183, 0, 1, 177]
abbrev dktX17_init_0 : List UInt8 := dkwX17_init_0 ++ []
theorem dksX17_init_0 : cX17_init.data.toList.drop 0 = dktX17_init_0 := by decide +kernel
theorem dX17_init_0 : decode cX17_init 0 = .ok (.aload_n 0, 1) := dk_42 (dk_at dksX17_init_0 0 rfl rfl)
theorem dX17_init_1 : decode cX17_init 1 = .ok (.aload_n 1, 1) := dk_43 (dk_at dksX17_init_0 1 rfl rfl)
theorem dX17_init_2 : decode cX17_init 2 = .ok (.invokespecial 1, 3) := dk_183 0 1 (dk_at dksX17_init_0 2 rfl rfl)
theorem dX17_init_5 : decode cX17_init 5 = .ok (.return_, 1) := dk_177 (dk_at dksX17_init_0 5 rfl rfl)
theorem q149 : (Jvm.Cond.initialized "DogsHour$Spot") ∈ lw_all := lw_g (lw_at lw_m1 29 rfl) rfl
theorem q837 : (Jvm.Cond.instantiable "DogsHour$Spot" (2 : Nat)) ∈ lw_all := lw_g (lw_at lw_m3 237 rfl) rfl
theorem q1035 : (Jvm.Cond.instanceMethod ({ cls := "DogsHour$Spot", name := "<init>", desc := "(Ljava/lang/String;)V" } : Jvm.MethodName)) ∈ lw_all := lw_g (lw_at lw_m4 195 rfl) rfl
theorem q1036 : (Jvm.Cond.code ({ cls := "DogsHour$Spot", name := "<init>", desc := "(Ljava/lang/String;)V" } : Jvm.MethodName) prog_13_method_1_code (2 : Nat) (Option.none : Option Jvm.ClassFile.FieldType)) ∈ lw_all := lw_g (lw_at lw_m4 196 rfl) rfl
theorem q1037 : (Jvm.Cond.methodLink "DogsHour$Spot" (1 : Nat) ({ cls := "DogsHour$Named", name := "<init>", desc := "(Ljava/lang/String;)V" } : Jvm.MethodName)) ∈ lw_all := lw_g (lw_at lw_m4 197 rfl) rfl
theorem q1046 : (Jvm.Cond.lays "DogsHour$Spot" "DogsHour$Spot" "next" "I") ∈ lw_all := lw_g (lw_at lw_m4 206 rfl) rfl
theorem q1047 : (Jvm.Cond.soleField "DogsHour$Spot" "next") ∈ lw_all := lw_g (lw_at lw_m4 207 rfl) rfl
theorem q1048 : (Jvm.Cond.laysFinal "DogsHour$Spot" "DogsHour$Named" "name" "Ljava/lang/String;") ∈ lw_all := lw_g (lw_at lw_m4 208 rfl) rfl
theorem q1050 : (Jvm.Cond.superclass "DogsHour$Spot" "DogsHour$Named") ∈ lw_all := lw_g (lw_at lw_m4 210 rfl) rfl
theorem q1085 : (Jvm.Cond.selects "DogsHour$Spot" ({ cls := "java/lang/Object", name := "getClass", desc := "()Ljava/lang/Class;" } : Jvm.MethodName) ({ cls := "java/lang/Object", name := "getClass", desc := "()Ljava/lang/Class;" } : Jvm.MethodName)) ∈ lw_all := lw_g (lw_at lw_m5 5 rfl) rfl
theorem q2170 : (Jvm.Cond.castable "DogsHour$Spot" "DogsHour$Named") ∈ lw_tbl := lw_at lw_m9 130 rfl
theorem q2189 : (Jvm.Cond.castable "DogsHour$Spot" "java/lang/Object") ∈ lw_tbl := lw_at lw_m9 149 rfl
theorem in_X17 : ∀ w ∈ wsX170, w ∈ lw_all := lw_in wsX170 [1048, 1046] (by decide +kernel) (by decide +kernel)
/-! DogsHour$Dog -/
set_option maxRecDepth 100000
def RX18 : String := "DogsHour$Dog"
def TX18 : u_T := fun k => match k with
  | 0 => ("DogsHour$Named", "name", "Ljava/lang/String;", true)
  | 1 => ("DogsHour$Dog", "kennel", "I", false)
  | 2 => ("DogsHour$Dog", "bite", "I", false)
  | _ => ("DogsHour$Dog", "hunger", "I", false)
def tyX18 : Nat → FieldType := fun k => match k with
  | 0 => .object "java/lang/String"
  | 1 => .int
  | 2 => .int
  | _ => .int
abbrev wsX180 : List Cond := u_ws RX18 TX18 4
theorem nmX18 : ∀ a, a < 4 → ∀ b, b < 4 → a ≠ b → (TX18 a).2.1 ≠ (TX18 b).2.1 := by decide +kernel
theorem tyX18_ok : ∀ k, k < 4 → parseFieldDescriptor (TX18 k).2.2.1 = some (tyX18 k) := by decide +kernel
abbrev cX18_init : ByteArray := prog_3_method_1_code
def yX18_init : MethodName := ⟨RX18, "<init>", "(Ljava/lang/String;)V"⟩
def dkwX18_init_0 : List UInt8 := [42, 43, 183, 0, 1, 177]
abbrev dktX18_init_0 : List UInt8 := dkwX18_init_0 ++ []
theorem dksX18_init_0 : cX18_init.data.toList.drop 0 = dktX18_init_0 := by decide +kernel
theorem dX18_init_0 : decode cX18_init 0 = .ok (.aload_n 0, 1) := dk_42 (dk_at dksX18_init_0 0 rfl rfl)
theorem dX18_init_1 : decode cX18_init 1 = .ok (.aload_n 1, 1) := dk_43 (dk_at dksX18_init_0 1 rfl rfl)
theorem dX18_init_2 : decode cX18_init 2 = .ok (.invokespecial 1, 3) := dk_183 0 1 (dk_at dksX18_init_0 2 rfl rfl)
theorem dX18_init_5 : decode cX18_init 5 = .ok (.return_, 1) := dk_177 (dk_at dksX18_init_0 5 rfl rfl)
theorem q156 : (Jvm.Cond.initialized "DogsHour$Dog") ∈ lw_all := lw_g (lw_at lw_m1 36 rfl) rfl
theorem q1076 : (Jvm.Cond.selects "DogsHour$Dog" ({ cls := "java/lang/Object", name := "getClass", desc := "()Ljava/lang/Class;" } : Jvm.MethodName) ({ cls := "java/lang/Object", name := "getClass", desc := "()Ljava/lang/Class;" } : Jvm.MethodName)) ∈ lw_all := lw_g (lw_at lw_m4 236 rfl) rfl
theorem q1119 : (Jvm.Cond.instantiable "DogsHour$Dog" (4 : Nat)) ∈ lw_all := lw_g (lw_at lw_m5 39 rfl) rfl
theorem q1121 : (Jvm.Cond.instanceMethod ({ cls := "DogsHour$Dog", name := "<init>", desc := "(Ljava/lang/String;)V" } : Jvm.MethodName)) ∈ lw_all := lw_g (lw_at lw_m5 41 rfl) rfl
theorem q1122 : (Jvm.Cond.code ({ cls := "DogsHour$Dog", name := "<init>", desc := "(Ljava/lang/String;)V" } : Jvm.MethodName) prog_3_method_1_code (2 : Nat) (Option.none : Option Jvm.ClassFile.FieldType)) ∈ lw_all := lw_g (lw_at lw_m5 42 rfl) rfl
theorem q1123 : (Jvm.Cond.methodLink "DogsHour$Dog" (1 : Nat) ({ cls := "DogsHour$Named", name := "<init>", desc := "(Ljava/lang/String;)V" } : Jvm.MethodName)) ∈ lw_all := lw_g (lw_at lw_m5 43 rfl) rfl
theorem q1133 : (Jvm.Cond.lays "DogsHour$Dog" "DogsHour$Dog" "kennel" "I") ∈ lw_all := lw_g (lw_at lw_m5 53 rfl) rfl
theorem q1134 : (Jvm.Cond.soleField "DogsHour$Dog" "kennel") ∈ lw_all := lw_g (lw_at lw_m5 54 rfl) rfl
theorem q1135 : (Jvm.Cond.lays "DogsHour$Dog" "DogsHour$Dog" "bite" "I") ∈ lw_all := lw_g (lw_at lw_m5 55 rfl) rfl
theorem q1136 : (Jvm.Cond.soleField "DogsHour$Dog" "bite") ∈ lw_all := lw_g (lw_at lw_m5 56 rfl) rfl
theorem q1137 : (Jvm.Cond.lays "DogsHour$Dog" "DogsHour$Dog" "hunger" "I") ∈ lw_all := lw_g (lw_at lw_m5 57 rfl) rfl
theorem q1138 : (Jvm.Cond.soleField "DogsHour$Dog" "hunger") ∈ lw_all := lw_g (lw_at lw_m5 58 rfl) rfl
theorem q1139 : (Jvm.Cond.laysFinal "DogsHour$Dog" "DogsHour$Named" "name" "Ljava/lang/String;") ∈ lw_all := lw_g (lw_at lw_m5 59 rfl) rfl
theorem q1140 : (Jvm.Cond.superclass "DogsHour$Dog" "DogsHour$Named") ∈ lw_all := lw_g (lw_at lw_m5 60 rfl) rfl
theorem q2168 : (Jvm.Cond.castable "DogsHour$Dog" "DogsHour$Named") ∈ lw_tbl := lw_at lw_m9 128 rfl
theorem q2191 : (Jvm.Cond.castable "DogsHour$Dog" "java/lang/Object") ∈ lw_tbl := lw_at lw_m9 151 rfl
theorem in_X18 : ∀ w ∈ wsX180, w ∈ lw_all := lw_in wsX180 [1139, 1133, 1135, 1137] (by decide +kernel) (by decide +kernel)
/-! DogsHour$Person -/
set_option maxRecDepth 100000
def RX19 : String := "DogsHour$Person"
def TX19 : u_T := fun k => match k with
  | 0 => ("DogsHour$Named", "name", "Ljava/lang/String;", true)
  | 1 => ("DogsHour$Person", "home", "I", false)
  | 2 => ("DogsHour$Person", "pocket", "I", false)
  | _ => ("DogsHour$Person", "errands", "I", false)
def tyX19 : Nat → FieldType := fun k => match k with
  | 0 => .object "java/lang/String"
  | 1 => .int
  | 2 => .int
  | _ => .int
abbrev wsX190 : List Cond := u_ws RX19 TX19 4
theorem nmX19 : ∀ a, a < 4 → ∀ b, b < 4 → a ≠ b → (TX19 a).2.1 ≠ (TX19 b).2.1 := by decide +kernel
theorem tyX19_ok : ∀ k, k < 4 → parseFieldDescriptor (TX19 k).2.2.1 = some (tyX19 k) := by decide +kernel
abbrev cX19_init : ByteArray := prog_12_method_1_code
def yX19_init : MethodName := ⟨RX19, "<init>", "(Ljava/lang/String;)V"⟩
def dkwX19_init_0 : List UInt8 := [42, 43, 183, 0, 1, 177]
abbrev dktX19_init_0 : List UInt8 := dkwX19_init_0 ++ []
theorem dksX19_init_0 : cX19_init.data.toList.drop 0 = dktX19_init_0 := by decide +kernel
theorem dX19_init_0 : decode cX19_init 0 = .ok (.aload_n 0, 1) := dk_42 (dk_at dksX19_init_0 0 rfl rfl)
theorem dX19_init_1 : decode cX19_init 1 = .ok (.aload_n 1, 1) := dk_43 (dk_at dksX19_init_0 1 rfl rfl)
theorem dX19_init_2 : decode cX19_init 2 = .ok (.invokespecial 1, 3) := dk_183 0 1 (dk_at dksX19_init_0 2 rfl rfl)
theorem dX19_init_5 : decode cX19_init 5 = .ok (.return_, 1) := dk_177 (dk_at dksX19_init_0 5 rfl rfl)
theorem q157 : (Jvm.Cond.initialized "DogsHour$Person") ∈ lw_all := lw_g (lw_at lw_m1 37 rfl) rfl
theorem q1084 : (Jvm.Cond.selects "DogsHour$Person" ({ cls := "java/lang/Object", name := "getClass", desc := "()Ljava/lang/Class;" } : Jvm.MethodName) ({ cls := "java/lang/Object", name := "getClass", desc := "()Ljava/lang/Class;" } : Jvm.MethodName)) ∈ lw_all := lw_g (lw_at lw_m5 4 rfl) rfl
theorem q1146 : (Jvm.Cond.instantiable "DogsHour$Person" (4 : Nat)) ∈ lw_all := lw_g (lw_at lw_m5 66 rfl) rfl
theorem q1148 : (Jvm.Cond.instanceMethod ({ cls := "DogsHour$Person", name := "<init>", desc := "(Ljava/lang/String;)V" } : Jvm.MethodName)) ∈ lw_all := lw_g (lw_at lw_m5 68 rfl) rfl
theorem q1149 : (Jvm.Cond.code ({ cls := "DogsHour$Person", name := "<init>", desc := "(Ljava/lang/String;)V" } : Jvm.MethodName) prog_12_method_1_code (2 : Nat) (Option.none : Option Jvm.ClassFile.FieldType)) ∈ lw_all := lw_g (lw_at lw_m5 69 rfl) rfl
theorem q1150 : (Jvm.Cond.methodLink "DogsHour$Person" (1 : Nat) ({ cls := "DogsHour$Named", name := "<init>", desc := "(Ljava/lang/String;)V" } : Jvm.MethodName)) ∈ lw_all := lw_g (lw_at lw_m5 70 rfl) rfl
theorem q1157 : (Jvm.Cond.lays "DogsHour$Person" "DogsHour$Person" "home" "I") ∈ lw_all := lw_g (lw_at lw_m5 77 rfl) rfl
theorem q1158 : (Jvm.Cond.soleField "DogsHour$Person" "home") ∈ lw_all := lw_g (lw_at lw_m5 78 rfl) rfl
theorem q1159 : (Jvm.Cond.lays "DogsHour$Person" "DogsHour$Person" "pocket" "I") ∈ lw_all := lw_g (lw_at lw_m5 79 rfl) rfl
theorem q1160 : (Jvm.Cond.soleField "DogsHour$Person" "pocket") ∈ lw_all := lw_g (lw_at lw_m5 80 rfl) rfl
theorem q1161 : (Jvm.Cond.lays "DogsHour$Person" "DogsHour$Person" "errands" "I") ∈ lw_all := lw_g (lw_at lw_m5 81 rfl) rfl
theorem q1162 : (Jvm.Cond.soleField "DogsHour$Person" "errands") ∈ lw_all := lw_g (lw_at lw_m5 82 rfl) rfl
theorem q1163 : (Jvm.Cond.laysFinal "DogsHour$Person" "DogsHour$Named" "name" "Ljava/lang/String;") ∈ lw_all := lw_g (lw_at lw_m5 83 rfl) rfl
theorem q1164 : (Jvm.Cond.superclass "DogsHour$Person" "DogsHour$Named") ∈ lw_all := lw_g (lw_at lw_m5 84 rfl) rfl
theorem q2169 : (Jvm.Cond.castable "DogsHour$Person" "DogsHour$Named") ∈ lw_tbl := lw_at lw_m9 129 rfl
theorem q2192 : (Jvm.Cond.castable "DogsHour$Person" "java/lang/Object") ∈ lw_tbl := lw_at lw_m9 152 rfl
theorem in_X19 : ∀ w ∈ wsX190, w ∈ lw_all := lw_in wsX190 [1163, 1157, 1159, 1161] (by decide +kernel) (by decide +kernel)
