/-! DogsHour -/
set_option maxRecDepth 100000
def RX0 : String := "DogsHour"
def TX0 : u_T := fun k => match k with
  | 0 => ("DogsHour", "fault", "LDogsHour$Fault;", true)
  | 1 => ("DogsHour", "tokens", "LDogsHour$Tokens;", true)
  | 2 => ("DogsHour", "parser", "LDogsHour$Parser;", true)
  | 3 => ("DogsHour", "text", "LDogsHour$Text;", false)
  | 4 => ("DogsHour", "place", "I", false)
  | 5 => ("DogsHour", "undos", "I", false)
  | 6 => ("DogsHour", "undoAt", "I", false)
  | 7 => ("DogsHour", "town", "LDogsHour$Town;", true)
  | 8 => ("DogsHour", "trial", "LDogsHour$Town;", true)
  | 9 => ("DogsHour", "past", "[LDogsHour$Town;", true)
  | 10 => ("DogsHour", "slots", "[LDogsHour$Town;", true)
  | 11 => ("DogsHour", "times", "[LDogsHour$Time;", true)
  | 12 => ("DogsHour", "held", "[Z", true)
  | 13 => ("DogsHour", "steps", "[[I", true)
  | 14 => ("DogsHour", "tolds", "I", false)
  | 15 => ("DogsHour", "toldPerson", "[I", true)
  | 16 => ("DogsHour", "toldWas", "[Z", true)
  | _ => ("DogsHour", "fetchedBy", "[I", true)
def tyX0 : Nat → FieldType := fun k => match k with
  | 0 => .object "DogsHour$Fault"
  | 1 => .object "DogsHour$Tokens"
  | 2 => .object "DogsHour$Parser"
  | 3 => .object "DogsHour$Text"
  | 4 => .int
  | 5 => .int
  | 6 => .int
  | 7 => .object "DogsHour$Town"
  | 8 => .object "DogsHour$Town"
  | 9 => .array (.object "DogsHour$Town")
  | 10 => .array (.object "DogsHour$Town")
  | 11 => .array (.object "DogsHour$Time")
  | 12 => .array .boolean
  | 13 => .array (.array .int)
  | 14 => .int
  | 15 => .array .int
  | 16 => .array .boolean
  | _ => .array .int
abbrev wsX00 : List Cond := u_ws RX0 TX0 18
set_option maxRecDepth 100000 in
theorem nmX0 : ∀ a, a < 18 → ∀ b, b < 18 → a ≠ b → (TX0 a).2.1 ≠ (TX0 b).2.1 := by decide +kernel
set_option maxRecDepth 100000 in
theorem tyX0_ok : ∀ k, k < 18 → parseFieldDescriptor (TX0 k).2.2.1 = some (tyX0 k) := by decide +kernel
abbrev cX0_init : ByteArray := prog_1_method_2_code
def yX0_init : MethodName := ⟨RX0, "<init>", "()V"⟩
def dkwX0_init_10 : List UInt8 := [180, 0, 44, 182, 0, 100, 177]
abbrev dktX0_init_10 : List UInt8 := dkwX0_init_10 ++ []
def dkwX0_init_9 : List UInt8 := [180, 0, 62, 27, 187, 0, 52, 89, 183, 0, 54, 83, 132, 1, 1, 167, 255, 234, 42, 180, 0, 55, 42]
abbrev dktX0_init_9 : List UInt8 := dkwX0_init_9 ++ dktX0_init_10
def dkwX0_init_8 : List UInt8 := [188, 4, 181, 0, 94, 42, 16, 20, 188, 10, 181, 0, 97, 3, 60, 27, 16, 40, 162, 0, 22, 42]
abbrev dktX0_init_8 : List UInt8 := dkwX0_init_8 ++ dktX0_init_9
def dkwX0_init_7 : List UInt8 := [42, 17, 0, 128, 16, 7, 197, 0, 85, 2, 181, 0, 87, 42, 16, 20, 188, 10, 181, 0, 90, 42, 16, 20]
abbrev dktX0_init_7 : List UInt8 := dkwX0_init_7 ++ dktX0_init_8
def dkwX0_init_6 : List UInt8 := [183, 0, 73, 83, 89, 4, 187, 0, 74, 89, 183, 0, 76, 83, 181, 0, 77, 42, 6, 188, 4, 181, 0, 81]
abbrev dktX0_init_6 : List UInt8 := dkwX0_init_6 ++ dktX0_init_7
def dkwX0_init_5 : List UInt8 := [89, 5, 187, 0, 52, 89, 183, 0, 54, 83, 181, 0, 66, 42, 5, 189, 0, 69, 89, 3, 187, 0, 71, 89]
abbrev dktX0_init_5 : List UInt8 := dkwX0_init_5 ++ dktX0_init_6
def dkwX0_init_4 : List UInt8 := [6, 189, 0, 52, 89, 3, 187, 0, 52, 89, 183, 0, 54, 83, 89, 4, 187, 0, 52, 89, 183, 0, 54, 83]
abbrev dktX0_init_4 : List UInt8 := dkwX0_init_4 ++ dktX0_init_5
def dkwX0_init_3 : List UInt8 := [181, 0, 55, 42, 187, 0, 52, 89, 183, 0, 54, 181, 0, 59, 42, 16, 40, 189, 0, 52, 181, 0, 62, 42]
abbrev dktX0_init_3 : List UInt8 := dkwX0_init_3 ++ dktX0_init_4
def dkwX0_init_2 : List UInt8 := [187, 0, 41, 89, 183, 0, 43, 181, 0, 44, 42, 2, 181, 0, 48, 42, 187, 0, 52, 89, 183, 0, 54]
abbrev dktX0_init_2 : List UInt8 := dkwX0_init_2 ++ dktX0_init_3
def dkwX0_init_1 : List UInt8 := [181, 0, 28, 42, 187, 0, 32, 89, 42, 180, 0, 28, 42, 180, 0, 19, 183, 0, 34, 181, 0, 37, 42]
abbrev dktX0_init_1 : List UInt8 := dkwX0_init_1 ++ dktX0_init_2
def dkwX0_init_0 : List UInt8 := [42, 183, 0, 10, 42, 187, 0, 16, 89, 183, 0, 18, 181, 0, 19, 42, 187, 0, 25, 89, 183, 0, 27]
abbrev dktX0_init_0 : List UInt8 := dkwX0_init_0 ++ dktX0_init_1
theorem dksX0_init_0 : cX0_init.data.toList.drop 0 = dktX0_init_0 := by decide +kernel
theorem dksX0_init_1 : cX0_init.data.toList.drop 23 = dktX0_init_1 := dk_seg dksX0_init_0 23 rfl rfl
theorem dksX0_init_2 : cX0_init.data.toList.drop 46 = dktX0_init_2 := dk_seg dksX0_init_1 23 rfl rfl
theorem dksX0_init_3 : cX0_init.data.toList.drop 69 = dktX0_init_3 := dk_seg dksX0_init_2 23 rfl rfl
theorem dksX0_init_4 : cX0_init.data.toList.drop 93 = dktX0_init_4 := dk_seg dksX0_init_3 24 rfl rfl
theorem dksX0_init_5 : cX0_init.data.toList.drop 117 = dktX0_init_5 := dk_seg dksX0_init_4 24 rfl rfl
theorem dksX0_init_6 : cX0_init.data.toList.drop 141 = dktX0_init_6 := dk_seg dksX0_init_5 24 rfl rfl
theorem dksX0_init_7 : cX0_init.data.toList.drop 165 = dktX0_init_7 := dk_seg dksX0_init_6 24 rfl rfl
theorem dksX0_init_8 : cX0_init.data.toList.drop 189 = dktX0_init_8 := dk_seg dksX0_init_7 24 rfl rfl
theorem dksX0_init_9 : cX0_init.data.toList.drop 211 = dktX0_init_9 := dk_seg dksX0_init_8 22 rfl rfl
theorem dksX0_init_10 : cX0_init.data.toList.drop 234 = dktX0_init_10 := dk_seg dksX0_init_9 23 rfl rfl
theorem dX0_init_0 : decode cX0_init 0 = .ok (.aload_n 0, 1) := dk_42 (dk_at dksX0_init_0 0 rfl rfl)
theorem dX0_init_1 : decode cX0_init 1 = .ok (.invokespecial 10, 3) := dk_183 0 10 (dk_at dksX0_init_0 1 rfl rfl)
theorem dX0_init_4 : decode cX0_init 4 = .ok (.aload_n 0, 1) := dk_42 (dk_at dksX0_init_0 4 rfl rfl)
theorem dX0_init_5 : decode cX0_init 5 = .ok (.new 16, 3) := dk_187 0 16 (dk_at dksX0_init_0 5 rfl rfl)
theorem dX0_init_8 : decode cX0_init 8 = .ok (.dup, 1) := dk_89 (dk_at dksX0_init_0 8 rfl rfl)
theorem dX0_init_9 : decode cX0_init 9 = .ok (.invokespecial 18, 3) := dk_183 0 18 (dk_at dksX0_init_0 9 rfl rfl)
theorem dX0_init_12 : decode cX0_init 12 = .ok (.putfield 19, 3) := dk_181 0 19 (dk_at dksX0_init_0 12 rfl rfl)
theorem dX0_init_15 : decode cX0_init 15 = .ok (.aload_n 0, 1) := dk_42 (dk_at dksX0_init_0 15 rfl rfl)
theorem dX0_init_16 : decode cX0_init 16 = .ok (.new 25, 3) := dk_187 0 25 (dk_at dksX0_init_0 16 rfl rfl)
theorem dX0_init_19 : decode cX0_init 19 = .ok (.dup, 1) := dk_89 (dk_at dksX0_init_0 19 rfl rfl)
theorem dX0_init_20 : decode cX0_init 20 = .ok (.invokespecial 27, 3) := dk_183 0 27 (dk_at dksX0_init_0 20 rfl rfl)
theorem dX0_init_23 : decode cX0_init 23 = .ok (.putfield 28, 3) := dk_181 0 28 (dk_at dksX0_init_1 0 rfl rfl)
theorem dX0_init_26 : decode cX0_init 26 = .ok (.aload_n 0, 1) := dk_42 (dk_at dksX0_init_1 3 rfl rfl)
theorem dX0_init_27 : decode cX0_init 27 = .ok (.new 32, 3) := dk_187 0 32 (dk_at dksX0_init_1 4 rfl rfl)
theorem dX0_init_30 : decode cX0_init 30 = .ok (.dup, 1) := dk_89 (dk_at dksX0_init_1 7 rfl rfl)
theorem dX0_init_31 : decode cX0_init 31 = .ok (.aload_n 0, 1) := dk_42 (dk_at dksX0_init_1 8 rfl rfl)
theorem dX0_init_32 : decode cX0_init 32 = .ok (.getfield 28, 3) := dk_180 0 28 (dk_at dksX0_init_1 9 rfl rfl)
theorem dX0_init_35 : decode cX0_init 35 = .ok (.aload_n 0, 1) := dk_42 (dk_at dksX0_init_1 12 rfl rfl)
theorem dX0_init_36 : decode cX0_init 36 = .ok (.getfield 19, 3) := dk_180 0 19 (dk_at dksX0_init_1 13 rfl rfl)
theorem dX0_init_39 : decode cX0_init 39 = .ok (.invokespecial 34, 3) := dk_183 0 34 (dk_at dksX0_init_1 16 rfl rfl)
theorem dX0_init_42 : decode cX0_init 42 = .ok (.putfield 37, 3) := dk_181 0 37 (dk_at dksX0_init_1 19 rfl rfl)
theorem dX0_init_45 : decode cX0_init 45 = .ok (.aload_n 0, 1) := dk_42 (dk_at dksX0_init_1 22 rfl rfl)
theorem dX0_init_46 : decode cX0_init 46 = .ok (.new 41, 3) := dk_187 0 41 (dk_at dksX0_init_2 0 rfl rfl)
theorem dX0_init_49 : decode cX0_init 49 = .ok (.dup, 1) := dk_89 (dk_at dksX0_init_2 3 rfl rfl)
theorem dX0_init_50 : decode cX0_init 50 = .ok (.invokespecial 43, 3) := dk_183 0 43 (dk_at dksX0_init_2 4 rfl rfl)
theorem dX0_init_53 : decode cX0_init 53 = .ok (.putfield 44, 3) := dk_181 0 44 (dk_at dksX0_init_2 7 rfl rfl)
theorem dX0_init_56 : decode cX0_init 56 = .ok (.aload_n 0, 1) := dk_42 (dk_at dksX0_init_2 10 rfl rfl)
theorem dX0_init_57 : decode cX0_init 57 = .ok (.iconst (-1), 1) := dk_2 (dk_at dksX0_init_2 11 rfl rfl)
theorem dX0_init_58 : decode cX0_init 58 = .ok (.putfield 48, 3) := dk_181 0 48 (dk_at dksX0_init_2 12 rfl rfl)
theorem dX0_init_61 : decode cX0_init 61 = .ok (.aload_n 0, 1) := dk_42 (dk_at dksX0_init_2 15 rfl rfl)
theorem dX0_init_62 : decode cX0_init 62 = .ok (.new 52, 3) := dk_187 0 52 (dk_at dksX0_init_2 16 rfl rfl)
theorem dX0_init_65 : decode cX0_init 65 = .ok (.dup, 1) := dk_89 (dk_at dksX0_init_2 19 rfl rfl)
theorem dX0_init_66 : decode cX0_init 66 = .ok (.invokespecial 54, 3) := dk_183 0 54 (dk_at dksX0_init_2 20 rfl rfl)
theorem dX0_init_69 : decode cX0_init 69 = .ok (.putfield 55, 3) := dk_181 0 55 (dk_at dksX0_init_3 0 rfl rfl)
theorem dX0_init_72 : decode cX0_init 72 = .ok (.aload_n 0, 1) := dk_42 (dk_at dksX0_init_3 3 rfl rfl)
theorem dX0_init_73 : decode cX0_init 73 = .ok (.new 52, 3) := dk_187 0 52 (dk_at dksX0_init_3 4 rfl rfl)
theorem dX0_init_76 : decode cX0_init 76 = .ok (.dup, 1) := dk_89 (dk_at dksX0_init_3 7 rfl rfl)
theorem dX0_init_77 : decode cX0_init 77 = .ok (.invokespecial 54, 3) := dk_183 0 54 (dk_at dksX0_init_3 8 rfl rfl)
theorem dX0_init_80 : decode cX0_init 80 = .ok (.putfield 59, 3) := dk_181 0 59 (dk_at dksX0_init_3 11 rfl rfl)
theorem dX0_init_83 : decode cX0_init 83 = .ok (.aload_n 0, 1) := dk_42 (dk_at dksX0_init_3 14 rfl rfl)
theorem dX0_init_84 : decode cX0_init 84 = .ok (.bipush 40, 2) := dk_16 40 (dk_at dksX0_init_3 15 rfl rfl)
theorem dX0_init_86 : decode cX0_init 86 = .ok (.anewarray 52, 3) := dk_189 0 52 (dk_at dksX0_init_3 17 rfl rfl)
theorem dX0_init_89 : decode cX0_init 89 = .ok (.putfield 62, 3) := dk_181 0 62 (dk_at dksX0_init_3 20 rfl rfl)
theorem dX0_init_92 : decode cX0_init 92 = .ok (.aload_n 0, 1) := dk_42 (dk_at dksX0_init_3 23 rfl rfl)
theorem dX0_init_93 : decode cX0_init 93 = .ok (.iconst 3, 1) := dk_6 (dk_at dksX0_init_4 0 rfl rfl)
theorem dX0_init_94 : decode cX0_init 94 = .ok (.anewarray 52, 3) := dk_189 0 52 (dk_at dksX0_init_4 1 rfl rfl)
theorem dX0_init_97 : decode cX0_init 97 = .ok (.dup, 1) := dk_89 (dk_at dksX0_init_4 4 rfl rfl)
theorem dX0_init_98 : decode cX0_init 98 = .ok (.iconst 0, 1) := dk_3 (dk_at dksX0_init_4 5 rfl rfl)
theorem dX0_init_99 : decode cX0_init 99 = .ok (.new 52, 3) := dk_187 0 52 (dk_at dksX0_init_4 6 rfl rfl)
theorem dX0_init_102 : decode cX0_init 102 = .ok (.dup, 1) := dk_89 (dk_at dksX0_init_4 9 rfl rfl)
theorem dX0_init_103 : decode cX0_init 103 = .ok (.invokespecial 54, 3) := dk_183 0 54 (dk_at dksX0_init_4 10 rfl rfl)
theorem dX0_init_106 : decode cX0_init 106 = .ok (.aastore, 1) := dk_83 (dk_at dksX0_init_4 13 rfl rfl)
theorem dX0_init_107 : decode cX0_init 107 = .ok (.dup, 1) := dk_89 (dk_at dksX0_init_4 14 rfl rfl)
theorem dX0_init_108 : decode cX0_init 108 = .ok (.iconst 1, 1) := dk_4 (dk_at dksX0_init_4 15 rfl rfl)
theorem dX0_init_109 : decode cX0_init 109 = .ok (.new 52, 3) := dk_187 0 52 (dk_at dksX0_init_4 16 rfl rfl)
theorem dX0_init_112 : decode cX0_init 112 = .ok (.dup, 1) := dk_89 (dk_at dksX0_init_4 19 rfl rfl)
theorem dX0_init_113 : decode cX0_init 113 = .ok (.invokespecial 54, 3) := dk_183 0 54 (dk_at dksX0_init_4 20 rfl rfl)
theorem dX0_init_116 : decode cX0_init 116 = .ok (.aastore, 1) := dk_83 (dk_at dksX0_init_4 23 rfl rfl)
theorem dX0_init_117 : decode cX0_init 117 = .ok (.dup, 1) := dk_89 (dk_at dksX0_init_5 0 rfl rfl)
theorem dX0_init_118 : decode cX0_init 118 = .ok (.iconst 2, 1) := dk_5 (dk_at dksX0_init_5 1 rfl rfl)
theorem dX0_init_119 : decode cX0_init 119 = .ok (.new 52, 3) := dk_187 0 52 (dk_at dksX0_init_5 2 rfl rfl)
theorem dX0_init_122 : decode cX0_init 122 = .ok (.dup, 1) := dk_89 (dk_at dksX0_init_5 5 rfl rfl)
theorem dX0_init_123 : decode cX0_init 123 = .ok (.invokespecial 54, 3) := dk_183 0 54 (dk_at dksX0_init_5 6 rfl rfl)
theorem dX0_init_126 : decode cX0_init 126 = .ok (.aastore, 1) := dk_83 (dk_at dksX0_init_5 9 rfl rfl)
theorem dX0_init_127 : decode cX0_init 127 = .ok (.putfield 66, 3) := dk_181 0 66 (dk_at dksX0_init_5 10 rfl rfl)
theorem dX0_init_130 : decode cX0_init 130 = .ok (.aload_n 0, 1) := dk_42 (dk_at dksX0_init_5 13 rfl rfl)
theorem dX0_init_131 : decode cX0_init 131 = .ok (.iconst 2, 1) := dk_5 (dk_at dksX0_init_5 14 rfl rfl)
theorem dX0_init_132 : decode cX0_init 132 = .ok (.anewarray 69, 3) := dk_189 0 69 (dk_at dksX0_init_5 15 rfl rfl)
theorem dX0_init_135 : decode cX0_init 135 = .ok (.dup, 1) := dk_89 (dk_at dksX0_init_5 18 rfl rfl)
theorem dX0_init_136 : decode cX0_init 136 = .ok (.iconst 0, 1) := dk_3 (dk_at dksX0_init_5 19 rfl rfl)
theorem dX0_init_137 : decode cX0_init 137 = .ok (.new 71, 3) := dk_187 0 71 (dk_at dksX0_init_5 20 rfl rfl)
theorem dX0_init_140 : decode cX0_init 140 = .ok (.dup, 1) := dk_89 (dk_at dksX0_init_5 23 rfl rfl)
theorem dX0_init_141 : decode cX0_init 141 = .ok (.invokespecial 73, 3) := dk_183 0 73 (dk_at dksX0_init_6 0 rfl rfl)
theorem dX0_init_144 : decode cX0_init 144 = .ok (.aastore, 1) := dk_83 (dk_at dksX0_init_6 3 rfl rfl)
theorem dX0_init_145 : decode cX0_init 145 = .ok (.dup, 1) := dk_89 (dk_at dksX0_init_6 4 rfl rfl)
theorem dX0_init_146 : decode cX0_init 146 = .ok (.iconst 1, 1) := dk_4 (dk_at dksX0_init_6 5 rfl rfl)
theorem dX0_init_147 : decode cX0_init 147 = .ok (.new 74, 3) := dk_187 0 74 (dk_at dksX0_init_6 6 rfl rfl)
theorem dX0_init_150 : decode cX0_init 150 = .ok (.dup, 1) := dk_89 (dk_at dksX0_init_6 9 rfl rfl)
theorem dX0_init_151 : decode cX0_init 151 = .ok (.invokespecial 76, 3) := dk_183 0 76 (dk_at dksX0_init_6 10 rfl rfl)
theorem dX0_init_154 : decode cX0_init 154 = .ok (.aastore, 1) := dk_83 (dk_at dksX0_init_6 13 rfl rfl)
theorem dX0_init_155 : decode cX0_init 155 = .ok (.putfield 77, 3) := dk_181 0 77 (dk_at dksX0_init_6 14 rfl rfl)
theorem dX0_init_158 : decode cX0_init 158 = .ok (.aload_n 0, 1) := dk_42 (dk_at dksX0_init_6 17 rfl rfl)
theorem dX0_init_159 : decode cX0_init 159 = .ok (.iconst 3, 1) := dk_6 (dk_at dksX0_init_6 18 rfl rfl)
theorem dX0_init_160 : decode cX0_init 160 = .ok (.newarray .boolean, 2) := dk_188_4 (dk_at dksX0_init_6 19 rfl rfl)
theorem dX0_init_162 : decode cX0_init 162 = .ok (.putfield 81, 3) := dk_181 0 81 (dk_at dksX0_init_6 21 rfl rfl)
theorem dX0_init_165 : decode cX0_init 165 = .ok (.aload_n 0, 1) := dk_42 (dk_at dksX0_init_7 0 rfl rfl)
theorem dX0_init_166 : decode cX0_init 166 = .ok (.sipush 128, 3) := dk_17 0 128 (dk_at dksX0_init_7 1 rfl rfl)
theorem dX0_init_169 : decode cX0_init 169 = .ok (.bipush 7, 2) := dk_16 7 (dk_at dksX0_init_7 4 rfl rfl)
theorem dX0_init_171 : decode cX0_init 171 = .ok (.multianewarray 85 2, 4) := by decide +kernel
theorem dX0_init_175 : decode cX0_init 175 = .ok (.putfield 87, 3) := dk_181 0 87 (dk_at dksX0_init_7 10 rfl rfl)
theorem dX0_init_178 : decode cX0_init 178 = .ok (.aload_n 0, 1) := dk_42 (dk_at dksX0_init_7 13 rfl rfl)
theorem dX0_init_179 : decode cX0_init 179 = .ok (.bipush 20, 2) := dk_16 20 (dk_at dksX0_init_7 14 rfl rfl)
theorem dX0_init_181 : decode cX0_init 181 = .ok (.newarray .int, 2) := dk_188_10 (dk_at dksX0_init_7 16 rfl rfl)
theorem dX0_init_183 : decode cX0_init 183 = .ok (.putfield 90, 3) := dk_181 0 90 (dk_at dksX0_init_7 18 rfl rfl)
theorem dX0_init_186 : decode cX0_init 186 = .ok (.aload_n 0, 1) := dk_42 (dk_at dksX0_init_7 21 rfl rfl)
theorem dX0_init_187 : decode cX0_init 187 = .ok (.bipush 20, 2) := dk_16 20 (dk_at dksX0_init_7 22 rfl rfl)
theorem dX0_init_189 : decode cX0_init 189 = .ok (.newarray .boolean, 2) := dk_188_4 (dk_at dksX0_init_8 0 rfl rfl)
theorem dX0_init_191 : decode cX0_init 191 = .ok (.putfield 94, 3) := dk_181 0 94 (dk_at dksX0_init_8 2 rfl rfl)
theorem dX0_init_194 : decode cX0_init 194 = .ok (.aload_n 0, 1) := dk_42 (dk_at dksX0_init_8 5 rfl rfl)
theorem dX0_init_195 : decode cX0_init 195 = .ok (.bipush 20, 2) := dk_16 20 (dk_at dksX0_init_8 6 rfl rfl)
theorem dX0_init_197 : decode cX0_init 197 = .ok (.newarray .int, 2) := dk_188_10 (dk_at dksX0_init_8 8 rfl rfl)
theorem dX0_init_199 : decode cX0_init 199 = .ok (.putfield 97, 3) := dk_181 0 97 (dk_at dksX0_init_8 10 rfl rfl)
theorem dX0_init_202 : decode cX0_init 202 = .ok (.iconst 0, 1) := dk_3 (dk_at dksX0_init_8 13 rfl rfl)
theorem dX0_init_203 : decode cX0_init 203 = .ok (.istore_n 1, 1) := dk_60 (dk_at dksX0_init_8 14 rfl rfl)
theorem dX0_init_204 : decode cX0_init 204 = .ok (.iload_n 1, 1) := dk_27 (dk_at dksX0_init_8 15 rfl rfl)
theorem dX0_init_205 : decode cX0_init 205 = .ok (.bipush 40, 2) := dk_16 40 (dk_at dksX0_init_8 16 rfl rfl)
theorem dX0_init_207 : decode cX0_init 207 = .ok (.if_icmp .ge 22, 3) := dk_162 0 22 (dk_at dksX0_init_8 18 rfl rfl)
theorem dX0_init_210 : decode cX0_init 210 = .ok (.aload_n 0, 1) := dk_42 (dk_at dksX0_init_8 21 rfl rfl)
theorem dX0_init_211 : decode cX0_init 211 = .ok (.getfield 62, 3) := dk_180 0 62 (dk_at dksX0_init_9 0 rfl rfl)
theorem dX0_init_214 : decode cX0_init 214 = .ok (.iload_n 1, 1) := dk_27 (dk_at dksX0_init_9 3 rfl rfl)
theorem dX0_init_215 : decode cX0_init 215 = .ok (.new 52, 3) := dk_187 0 52 (dk_at dksX0_init_9 4 rfl rfl)
theorem dX0_init_218 : decode cX0_init 218 = .ok (.dup, 1) := dk_89 (dk_at dksX0_init_9 7 rfl rfl)
theorem dX0_init_219 : decode cX0_init 219 = .ok (.invokespecial 54, 3) := dk_183 0 54 (dk_at dksX0_init_9 8 rfl rfl)
theorem dX0_init_222 : decode cX0_init 222 = .ok (.aastore, 1) := dk_83 (dk_at dksX0_init_9 11 rfl rfl)
theorem dX0_init_223 : decode cX0_init 223 = .ok (.iinc 1 1, 3) := dk_132 1 1 (dk_at dksX0_init_9 12 rfl rfl)
theorem dX0_init_226 : decode cX0_init 226 = .ok (.goto (-22), 3) := dk_167 255 234 (dk_at dksX0_init_9 15 rfl rfl)
theorem dX0_init_229 : decode cX0_init 229 = .ok (.aload_n 0, 1) := dk_42 (dk_at dksX0_init_9 18 rfl rfl)
theorem dX0_init_230 : decode cX0_init 230 = .ok (.getfield 55, 3) := dk_180 0 55 (dk_at dksX0_init_9 19 rfl rfl)
theorem dX0_init_233 : decode cX0_init 233 = .ok (.aload_n 0, 1) := dk_42 (dk_at dksX0_init_9 22 rfl rfl)
theorem dX0_init_234 : decode cX0_init 234 = .ok (.getfield 44, 3) := dk_180 0 44 (dk_at dksX0_init_10 0 rfl rfl)
theorem dX0_init_237 : decode cX0_init 237 = .ok (.invokevirtual 100, 3) := dk_182 0 100 (dk_at dksX0_init_10 3 rfl rfl)
theorem dX0_init_240 : decode cX0_init 240 = .ok (.return_, 1) := dk_177 (dk_at dksX0_init_10 6 rfl rfl)
abbrev cX0_feed : ByteArray := prog_1_method_3_code
def yX0_feed : MethodName := ⟨RX0, "feed", "(IIIII)I"⟩
def dkwX0_feed_2 : List UInt8 := [180, 0, 28, 180, 0, 104, 172]
abbrev dktX0_feed_2 : List UInt8 := dkwX0_feed_2 ++ []
def dkwX0_feed_1 : List UInt8 := [28, 182, 0, 107, 42, 29, 182, 0, 107, 42, 21, 4, 182, 0, 107, 42, 21, 5, 182, 0, 107, 42]
abbrev dktX0_feed_1 : List UInt8 := dkwX0_feed_1 ++ dktX0_feed_2
def dkwX0_feed_0 : List UInt8 := [42, 180, 0, 28, 180, 0, 104, 16, 20, 96, 17, 7, 208, 164, 0, 5, 2, 172, 42, 27, 182, 0, 107, 42]
abbrev dktX0_feed_0 : List UInt8 := dkwX0_feed_0 ++ dktX0_feed_1
theorem dksX0_feed_0 : cX0_feed.data.toList.drop 0 = dktX0_feed_0 := by decide +kernel
theorem dksX0_feed_1 : cX0_feed.data.toList.drop 24 = dktX0_feed_1 := dk_seg dksX0_feed_0 24 rfl rfl
theorem dksX0_feed_2 : cX0_feed.data.toList.drop 46 = dktX0_feed_2 := dk_seg dksX0_feed_1 22 rfl rfl
theorem dX0_feed_0 : decode cX0_feed 0 = .ok (.aload_n 0, 1) := dk_42 (dk_at dksX0_feed_0 0 rfl rfl)
theorem dX0_feed_1 : decode cX0_feed 1 = .ok (.getfield 28, 3) := dk_180 0 28 (dk_at dksX0_feed_0 1 rfl rfl)
theorem dX0_feed_4 : decode cX0_feed 4 = .ok (.getfield 104, 3) := dk_180 0 104 (dk_at dksX0_feed_0 4 rfl rfl)
theorem dX0_feed_7 : decode cX0_feed 7 = .ok (.bipush 20, 2) := dk_16 20 (dk_at dksX0_feed_0 7 rfl rfl)
theorem dX0_feed_9 : decode cX0_feed 9 = .ok (.iadd, 1) := dk_96 (dk_at dksX0_feed_0 9 rfl rfl)
theorem dX0_feed_10 : decode cX0_feed 10 = .ok (.sipush 2000, 3) := dk_17 7 208 (dk_at dksX0_feed_0 10 rfl rfl)
theorem dX0_feed_13 : decode cX0_feed 13 = .ok (.if_icmp .le 5, 3) := dk_164 0 5 (dk_at dksX0_feed_0 13 rfl rfl)
theorem dX0_feed_16 : decode cX0_feed 16 = .ok (.iconst (-1), 1) := dk_2 (dk_at dksX0_feed_0 16 rfl rfl)
theorem dX0_feed_17 : decode cX0_feed 17 = .ok (.ireturn, 1) := dk_172 (dk_at dksX0_feed_0 17 rfl rfl)
theorem dX0_feed_18 : decode cX0_feed 18 = .ok (.aload_n 0, 1) := dk_42 (dk_at dksX0_feed_0 18 rfl rfl)
theorem dX0_feed_19 : decode cX0_feed 19 = .ok (.iload_n 1, 1) := dk_27 (dk_at dksX0_feed_0 19 rfl rfl)
theorem dX0_feed_20 : decode cX0_feed 20 = .ok (.invokevirtual 107, 3) := dk_182 0 107 (dk_at dksX0_feed_0 20 rfl rfl)
theorem dX0_feed_23 : decode cX0_feed 23 = .ok (.aload_n 0, 1) := dk_42 (dk_at dksX0_feed_0 23 rfl rfl)
theorem dX0_feed_24 : decode cX0_feed 24 = .ok (.iload_n 2, 1) := dk_28 (dk_at dksX0_feed_1 0 rfl rfl)
theorem dX0_feed_25 : decode cX0_feed 25 = .ok (.invokevirtual 107, 3) := dk_182 0 107 (dk_at dksX0_feed_1 1 rfl rfl)
theorem dX0_feed_28 : decode cX0_feed 28 = .ok (.aload_n 0, 1) := dk_42 (dk_at dksX0_feed_1 4 rfl rfl)
theorem dX0_feed_29 : decode cX0_feed 29 = .ok (.iload_n 3, 1) := dk_29 (dk_at dksX0_feed_1 5 rfl rfl)
theorem dX0_feed_30 : decode cX0_feed 30 = .ok (.invokevirtual 107, 3) := dk_182 0 107 (dk_at dksX0_feed_1 6 rfl rfl)
theorem dX0_feed_33 : decode cX0_feed 33 = .ok (.aload_n 0, 1) := dk_42 (dk_at dksX0_feed_1 9 rfl rfl)
theorem dX0_feed_34 : decode cX0_feed 34 = .ok (.iload 4, 2) := dk_21 4 (dk_at dksX0_feed_1 10 rfl rfl)
theorem dX0_feed_36 : decode cX0_feed 36 = .ok (.invokevirtual 107, 3) := dk_182 0 107 (dk_at dksX0_feed_1 12 rfl rfl)
theorem dX0_feed_39 : decode cX0_feed 39 = .ok (.aload_n 0, 1) := dk_42 (dk_at dksX0_feed_1 15 rfl rfl)
theorem dX0_feed_40 : decode cX0_feed 40 = .ok (.iload 5, 2) := dk_21 5 (dk_at dksX0_feed_1 16 rfl rfl)
theorem dX0_feed_42 : decode cX0_feed 42 = .ok (.invokevirtual 107, 3) := dk_182 0 107 (dk_at dksX0_feed_1 18 rfl rfl)
theorem dX0_feed_45 : decode cX0_feed 45 = .ok (.aload_n 0, 1) := dk_42 (dk_at dksX0_feed_1 21 rfl rfl)
theorem dX0_feed_46 : decode cX0_feed 46 = .ok (.getfield 28, 3) := dk_180 0 28 (dk_at dksX0_feed_2 0 rfl rfl)
theorem dX0_feed_49 : decode cX0_feed 49 = .ok (.getfield 104, 3) := dk_180 0 104 (dk_at dksX0_feed_2 3 rfl rfl)
theorem dX0_feed_52 : decode cX0_feed 52 = .ok (.ireturn, 1) := dk_172 (dk_at dksX0_feed_2 6 rfl rfl)
abbrev cX0_typed : ByteArray := prog_1_method_4_code
def yX0_typed : MethodName := ⟨RX0, "typed", "(I)V"⟩
def dkwX0_typed_1 : List UInt8 := [145, 84, 42, 180, 0, 28, 89, 180, 0, 104, 4, 96, 181, 0, 104, 132, 2, 248, 167, 255, 217, 177]
abbrev dktX0_typed_1 : List UInt8 := dkwX0_typed_1 ++ []
def dkwX0_typed_0 : List UInt8 := [16, 24, 61, 28, 155, 0, 41, 42, 180, 0, 28, 180, 0, 111, 42, 180, 0, 28, 180, 0, 104, 27, 28, 122]
abbrev dktX0_typed_0 : List UInt8 := dkwX0_typed_0 ++ dktX0_typed_1
theorem dksX0_typed_0 : cX0_typed.data.toList.drop 0 = dktX0_typed_0 := by decide +kernel
theorem dksX0_typed_1 : cX0_typed.data.toList.drop 24 = dktX0_typed_1 := dk_seg dksX0_typed_0 24 rfl rfl
theorem dX0_typed_0 : decode cX0_typed 0 = .ok (.bipush 24, 2) := dk_16 24 (dk_at dksX0_typed_0 0 rfl rfl)
theorem dX0_typed_2 : decode cX0_typed 2 = .ok (.istore_n 2, 1) := dk_61 (dk_at dksX0_typed_0 2 rfl rfl)
theorem dX0_typed_3 : decode cX0_typed 3 = .ok (.iload_n 2, 1) := dk_28 (dk_at dksX0_typed_0 3 rfl rfl)
theorem dX0_typed_4 : decode cX0_typed 4 = .ok (.ifCond .lt 41, 3) := dk_155 0 41 (dk_at dksX0_typed_0 4 rfl rfl)
theorem dX0_typed_7 : decode cX0_typed 7 = .ok (.aload_n 0, 1) := dk_42 (dk_at dksX0_typed_0 7 rfl rfl)
theorem dX0_typed_8 : decode cX0_typed 8 = .ok (.getfield 28, 3) := dk_180 0 28 (dk_at dksX0_typed_0 8 rfl rfl)
theorem dX0_typed_11 : decode cX0_typed 11 = .ok (.getfield 111, 3) := dk_180 0 111 (dk_at dksX0_typed_0 11 rfl rfl)
theorem dX0_typed_14 : decode cX0_typed 14 = .ok (.aload_n 0, 1) := dk_42 (dk_at dksX0_typed_0 14 rfl rfl)
theorem dX0_typed_15 : decode cX0_typed 15 = .ok (.getfield 28, 3) := dk_180 0 28 (dk_at dksX0_typed_0 15 rfl rfl)
theorem dX0_typed_18 : decode cX0_typed 18 = .ok (.getfield 104, 3) := dk_180 0 104 (dk_at dksX0_typed_0 18 rfl rfl)
theorem dX0_typed_21 : decode cX0_typed 21 = .ok (.iload_n 1, 1) := dk_27 (dk_at dksX0_typed_0 21 rfl rfl)
theorem dX0_typed_22 : decode cX0_typed 22 = .ok (.iload_n 2, 1) := dk_28 (dk_at dksX0_typed_0 22 rfl rfl)
theorem dX0_typed_23 : decode cX0_typed 23 = .ok (.ishr, 1) := dk_122 (dk_at dksX0_typed_0 23 rfl rfl)
theorem dX0_typed_24 : decode cX0_typed 24 = .ok (.i2b, 1) := dk_145 (dk_at dksX0_typed_1 0 rfl rfl)
theorem dX0_typed_25 : decode cX0_typed 25 = .ok (.bastore, 1) := dk_84 (dk_at dksX0_typed_1 1 rfl rfl)
theorem dX0_typed_26 : decode cX0_typed 26 = .ok (.aload_n 0, 1) := dk_42 (dk_at dksX0_typed_1 2 rfl rfl)
theorem dX0_typed_27 : decode cX0_typed 27 = .ok (.getfield 28, 3) := dk_180 0 28 (dk_at dksX0_typed_1 3 rfl rfl)
theorem dX0_typed_30 : decode cX0_typed 30 = .ok (.dup, 1) := dk_89 (dk_at dksX0_typed_1 6 rfl rfl)
theorem dX0_typed_31 : decode cX0_typed 31 = .ok (.getfield 104, 3) := dk_180 0 104 (dk_at dksX0_typed_1 7 rfl rfl)
theorem dX0_typed_34 : decode cX0_typed 34 = .ok (.iconst 1, 1) := dk_4 (dk_at dksX0_typed_1 10 rfl rfl)
theorem dX0_typed_35 : decode cX0_typed 35 = .ok (.iadd, 1) := dk_96 (dk_at dksX0_typed_1 11 rfl rfl)
theorem dX0_typed_36 : decode cX0_typed 36 = .ok (.putfield 104, 3) := dk_181 0 104 (dk_at dksX0_typed_1 12 rfl rfl)
theorem dX0_typed_39 : decode cX0_typed 39 = .ok (.iinc 2 (-8), 3) := dk_132 2 248 (dk_at dksX0_typed_1 15 rfl rfl)
theorem dX0_typed_42 : decode cX0_typed 42 = .ok (.goto (-39), 3) := dk_167 255 217 (dk_at dksX0_typed_1 18 rfl rfl)
theorem dX0_typed_45 : decode cX0_typed 45 = .ok (.return_, 1) := dk_177 (dk_at dksX0_typed_1 21 rfl rfl)
abbrev cX0_back : ByteArray := prog_1_method_5_code
def yX0_back : MethodName := ⟨RX0, "back", "(I)I"⟩
def dkwX0_back_1 : List UInt8 := [180, 0, 104, 27, 100, 181, 0, 104, 42, 180, 0, 28, 180, 0, 104, 172]
abbrev dktX0_back_1 : List UInt8 := dkwX0_back_1 ++ []
def dkwX0_back_0 : List UInt8 := [27, 155, 0, 14, 27, 42, 180, 0, 28, 180, 0, 104, 164, 0, 5, 2, 172, 42, 180, 0, 28, 89]
abbrev dktX0_back_0 : List UInt8 := dkwX0_back_0 ++ dktX0_back_1
theorem dksX0_back_0 : cX0_back.data.toList.drop 0 = dktX0_back_0 := by decide +kernel
theorem dksX0_back_1 : cX0_back.data.toList.drop 22 = dktX0_back_1 := dk_seg dksX0_back_0 22 rfl rfl
theorem dX0_back_0 : decode cX0_back 0 = .ok (.iload_n 1, 1) := dk_27 (dk_at dksX0_back_0 0 rfl rfl)
theorem dX0_back_1 : decode cX0_back 1 = .ok (.ifCond .lt 14, 3) := dk_155 0 14 (dk_at dksX0_back_0 1 rfl rfl)
theorem dX0_back_4 : decode cX0_back 4 = .ok (.iload_n 1, 1) := dk_27 (dk_at dksX0_back_0 4 rfl rfl)
theorem dX0_back_5 : decode cX0_back 5 = .ok (.aload_n 0, 1) := dk_42 (dk_at dksX0_back_0 5 rfl rfl)
theorem dX0_back_6 : decode cX0_back 6 = .ok (.getfield 28, 3) := dk_180 0 28 (dk_at dksX0_back_0 6 rfl rfl)
theorem dX0_back_9 : decode cX0_back 9 = .ok (.getfield 104, 3) := dk_180 0 104 (dk_at dksX0_back_0 9 rfl rfl)
theorem dX0_back_12 : decode cX0_back 12 = .ok (.if_icmp .le 5, 3) := dk_164 0 5 (dk_at dksX0_back_0 12 rfl rfl)
theorem dX0_back_15 : decode cX0_back 15 = .ok (.iconst (-1), 1) := dk_2 (dk_at dksX0_back_0 15 rfl rfl)
theorem dX0_back_16 : decode cX0_back 16 = .ok (.ireturn, 1) := dk_172 (dk_at dksX0_back_0 16 rfl rfl)
theorem dX0_back_17 : decode cX0_back 17 = .ok (.aload_n 0, 1) := dk_42 (dk_at dksX0_back_0 17 rfl rfl)
theorem dX0_back_18 : decode cX0_back 18 = .ok (.getfield 28, 3) := dk_180 0 28 (dk_at dksX0_back_0 18 rfl rfl)
theorem dX0_back_21 : decode cX0_back 21 = .ok (.dup, 1) := dk_89 (dk_at dksX0_back_0 21 rfl rfl)
theorem dX0_back_22 : decode cX0_back 22 = .ok (.getfield 104, 3) := dk_180 0 104 (dk_at dksX0_back_1 0 rfl rfl)
theorem dX0_back_25 : decode cX0_back 25 = .ok (.iload_n 1, 1) := dk_27 (dk_at dksX0_back_1 3 rfl rfl)
theorem dX0_back_26 : decode cX0_back 26 = .ok (.isub, 1) := dk_100 (dk_at dksX0_back_1 4 rfl rfl)
theorem dX0_back_27 : decode cX0_back 27 = .ok (.putfield 104, 3) := dk_181 0 104 (dk_at dksX0_back_1 5 rfl rfl)
theorem dX0_back_30 : decode cX0_back 30 = .ok (.aload_n 0, 1) := dk_42 (dk_at dksX0_back_1 8 rfl rfl)
theorem dX0_back_31 : decode cX0_back 31 = .ok (.getfield 28, 3) := dk_180 0 28 (dk_at dksX0_back_1 9 rfl rfl)
theorem dX0_back_34 : decode cX0_back 34 = .ok (.getfield 104, 3) := dk_180 0 104 (dk_at dksX0_back_1 12 rfl rfl)
theorem dX0_back_37 : decode cX0_back 37 = .ok (.ireturn, 1) := dk_172 (dk_at dksX0_back_1 15 rfl rfl)
abbrev cX0_read : ByteArray := prog_1_method_6_code
def yX0_read : MethodName := ⟨RX0, "read", "()I"⟩
def dkwX0_read_3 : List UInt8 := [180, 0, 128, 181, 0, 48, 42, 180, 0, 28, 3, 181, 0, 104, 27, 172]
abbrev dktX0_read_3 : List UInt8 := dkwX0_read_3 ++ []
def dkwX0_read_2 : List UInt8 := [180, 0, 81, 28, 3, 84, 132, 2, 1, 167, 255, 241, 167, 0, 17, 77, 44, 180, 0, 125, 60, 42, 44]
abbrev dktX0_read_2 : List UInt8 := dkwX0_read_2 ++ dktX0_read_3
def dkwX0_read_1 : List UInt8 := [180, 0, 44, 182, 0, 100, 42, 3, 181, 0, 119, 42, 3, 181, 0, 122, 3, 61, 28, 6, 162, 0, 16, 42]
abbrev dktX0_read_1 : List UInt8 := dkwX0_read_1 ++ dktX0_read_2
def dkwX0_read_0 : List UInt8 := [3, 60, 42, 2, 181, 0, 48, 42, 42, 180, 0, 37, 182, 0, 115, 181, 0, 44, 42, 180, 0, 55, 42]
abbrev dktX0_read_0 : List UInt8 := dkwX0_read_0 ++ dktX0_read_1
theorem dksX0_read_0 : cX0_read.data.toList.drop 0 = dktX0_read_0 := by decide +kernel
theorem dksX0_read_1 : cX0_read.data.toList.drop 23 = dktX0_read_1 := dk_seg dksX0_read_0 23 rfl rfl
theorem dksX0_read_2 : cX0_read.data.toList.drop 47 = dktX0_read_2 := dk_seg dksX0_read_1 24 rfl rfl
theorem dksX0_read_3 : cX0_read.data.toList.drop 70 = dktX0_read_3 := dk_seg dksX0_read_2 23 rfl rfl
theorem dX0_read_0 : decode cX0_read 0 = .ok (.iconst 0, 1) := dk_3 (dk_at dksX0_read_0 0 rfl rfl)
theorem dX0_read_1 : decode cX0_read 1 = .ok (.istore_n 1, 1) := dk_60 (dk_at dksX0_read_0 1 rfl rfl)
theorem dX0_read_2 : decode cX0_read 2 = .ok (.aload_n 0, 1) := dk_42 (dk_at dksX0_read_0 2 rfl rfl)
theorem dX0_read_3 : decode cX0_read 3 = .ok (.iconst (-1), 1) := dk_2 (dk_at dksX0_read_0 3 rfl rfl)
theorem dX0_read_4 : decode cX0_read 4 = .ok (.putfield 48, 3) := dk_181 0 48 (dk_at dksX0_read_0 4 rfl rfl)
theorem dX0_read_7 : decode cX0_read 7 = .ok (.aload_n 0, 1) := dk_42 (dk_at dksX0_read_0 7 rfl rfl)
theorem dX0_read_8 : decode cX0_read 8 = .ok (.aload_n 0, 1) := dk_42 (dk_at dksX0_read_0 8 rfl rfl)
theorem dX0_read_9 : decode cX0_read 9 = .ok (.getfield 37, 3) := dk_180 0 37 (dk_at dksX0_read_0 9 rfl rfl)
theorem dX0_read_12 : decode cX0_read 12 = .ok (.invokevirtual 115, 3) := dk_182 0 115 (dk_at dksX0_read_0 12 rfl rfl)
theorem dX0_read_15 : decode cX0_read 15 = .ok (.putfield 44, 3) := dk_181 0 44 (dk_at dksX0_read_0 15 rfl rfl)
theorem dX0_read_18 : decode cX0_read 18 = .ok (.aload_n 0, 1) := dk_42 (dk_at dksX0_read_0 18 rfl rfl)
theorem dX0_read_19 : decode cX0_read 19 = .ok (.getfield 55, 3) := dk_180 0 55 (dk_at dksX0_read_0 19 rfl rfl)
theorem dX0_read_22 : decode cX0_read 22 = .ok (.aload_n 0, 1) := dk_42 (dk_at dksX0_read_0 22 rfl rfl)
theorem dX0_read_23 : decode cX0_read 23 = .ok (.getfield 44, 3) := dk_180 0 44 (dk_at dksX0_read_1 0 rfl rfl)
theorem dX0_read_26 : decode cX0_read 26 = .ok (.invokevirtual 100, 3) := dk_182 0 100 (dk_at dksX0_read_1 3 rfl rfl)
theorem dX0_read_29 : decode cX0_read 29 = .ok (.aload_n 0, 1) := dk_42 (dk_at dksX0_read_1 6 rfl rfl)
theorem dX0_read_30 : decode cX0_read 30 = .ok (.iconst 0, 1) := dk_3 (dk_at dksX0_read_1 7 rfl rfl)
theorem dX0_read_31 : decode cX0_read 31 = .ok (.putfield 119, 3) := dk_181 0 119 (dk_at dksX0_read_1 8 rfl rfl)
theorem dX0_read_34 : decode cX0_read 34 = .ok (.aload_n 0, 1) := dk_42 (dk_at dksX0_read_1 11 rfl rfl)
theorem dX0_read_35 : decode cX0_read 35 = .ok (.iconst 0, 1) := dk_3 (dk_at dksX0_read_1 12 rfl rfl)
theorem dX0_read_36 : decode cX0_read 36 = .ok (.putfield 122, 3) := dk_181 0 122 (dk_at dksX0_read_1 13 rfl rfl)
theorem dX0_read_39 : decode cX0_read 39 = .ok (.iconst 0, 1) := dk_3 (dk_at dksX0_read_1 16 rfl rfl)
theorem dX0_read_40 : decode cX0_read 40 = .ok (.istore_n 2, 1) := dk_61 (dk_at dksX0_read_1 17 rfl rfl)
theorem dX0_read_41 : decode cX0_read 41 = .ok (.iload_n 2, 1) := dk_28 (dk_at dksX0_read_1 18 rfl rfl)
theorem dX0_read_42 : decode cX0_read 42 = .ok (.iconst 3, 1) := dk_6 (dk_at dksX0_read_1 19 rfl rfl)
theorem dX0_read_43 : decode cX0_read 43 = .ok (.if_icmp .ge 16, 3) := dk_162 0 16 (dk_at dksX0_read_1 20 rfl rfl)
theorem dX0_read_46 : decode cX0_read 46 = .ok (.aload_n 0, 1) := dk_42 (dk_at dksX0_read_1 23 rfl rfl)
theorem dX0_read_47 : decode cX0_read 47 = .ok (.getfield 81, 3) := dk_180 0 81 (dk_at dksX0_read_2 0 rfl rfl)
theorem dX0_read_50 : decode cX0_read 50 = .ok (.iload_n 2, 1) := dk_28 (dk_at dksX0_read_2 3 rfl rfl)
theorem dX0_read_51 : decode cX0_read 51 = .ok (.iconst 0, 1) := dk_3 (dk_at dksX0_read_2 4 rfl rfl)
theorem dX0_read_52 : decode cX0_read 52 = .ok (.bastore, 1) := dk_84 (dk_at dksX0_read_2 5 rfl rfl)
theorem dX0_read_53 : decode cX0_read 53 = .ok (.iinc 2 1, 3) := dk_132 2 1 (dk_at dksX0_read_2 6 rfl rfl)
theorem dX0_read_56 : decode cX0_read 56 = .ok (.goto (-15), 3) := dk_167 255 241 (dk_at dksX0_read_2 9 rfl rfl)
theorem dX0_read_59 : decode cX0_read 59 = .ok (.goto 17, 3) := dk_167 0 17 (dk_at dksX0_read_2 12 rfl rfl)
theorem dX0_read_62 : decode cX0_read 62 = .ok (.astore_n 2, 1) := dk_77 (dk_at dksX0_read_2 15 rfl rfl)
theorem dX0_read_63 : decode cX0_read 63 = .ok (.aload_n 2, 1) := dk_44 (dk_at dksX0_read_2 16 rfl rfl)
theorem dX0_read_64 : decode cX0_read 64 = .ok (.getfield 125, 3) := dk_180 0 125 (dk_at dksX0_read_2 17 rfl rfl)
theorem dX0_read_67 : decode cX0_read 67 = .ok (.istore_n 1, 1) := dk_60 (dk_at dksX0_read_2 20 rfl rfl)
theorem dX0_read_68 : decode cX0_read 68 = .ok (.aload_n 0, 1) := dk_42 (dk_at dksX0_read_2 21 rfl rfl)
theorem dX0_read_69 : decode cX0_read 69 = .ok (.aload_n 2, 1) := dk_44 (dk_at dksX0_read_2 22 rfl rfl)
theorem dX0_read_70 : decode cX0_read 70 = .ok (.getfield 128, 3) := dk_180 0 128 (dk_at dksX0_read_3 0 rfl rfl)
theorem dX0_read_73 : decode cX0_read 73 = .ok (.putfield 48, 3) := dk_181 0 48 (dk_at dksX0_read_3 3 rfl rfl)
theorem dX0_read_76 : decode cX0_read 76 = .ok (.aload_n 0, 1) := dk_42 (dk_at dksX0_read_3 6 rfl rfl)
theorem dX0_read_77 : decode cX0_read 77 = .ok (.getfield 28, 3) := dk_180 0 28 (dk_at dksX0_read_3 7 rfl rfl)
theorem dX0_read_80 : decode cX0_read 80 = .ok (.iconst 0, 1) := dk_3 (dk_at dksX0_read_3 10 rfl rfl)
theorem dX0_read_81 : decode cX0_read 81 = .ok (.putfield 104, 3) := dk_181 0 104 (dk_at dksX0_read_3 11 rfl rfl)
theorem dX0_read_84 : decode cX0_read 84 = .ok (.iload_n 1, 1) := dk_27 (dk_at dksX0_read_3 14 rfl rfl)
theorem dX0_read_85 : decode cX0_read 85 = .ok (.ireturn, 1) := dk_172 (dk_at dksX0_read_3 15 rfl rfl)
abbrev cX0_place : ByteArray := prog_1_method_7_code
def yX0_place : MethodName := ⟨RX0, "place", "()I"⟩
theorem dX0_place_0 : decode cX0_place 0 = .ok (.aload_n 0, 1) := by decide +kernel
theorem dX0_place_1 : decode cX0_place 1 = .ok (.getfield 48, 3) := by decide +kernel
theorem dX0_place_4 : decode cX0_place 4 = .ok (.ireturn, 1) := by decide +kernel
abbrev cX0_spot : ByteArray := prog_1_method_17_code
def yX0_spot : MethodName := ⟨RX0, "spot", "(II)I"⟩
def dkwX0_spot_8 : List UInt8 := [182, 0, 184, 154, 0, 7, 4, 167, 0, 4, 3, 96, 62, 132, 4, 1, 167, 255, 210, 29, 172, 2, 172]
abbrev dktX0_spot_8 : List UInt8 := dkwX0_spot_8 ++ []
def dkwX0_spot_7 : List UInt8 := [180, 0, 178, 162, 0, 40, 29, 42, 180, 0, 44, 180, 0, 181, 21, 4, 46, 27, 160, 0, 16, 42, 21, 4]
abbrev dktX0_spot_7 : List UInt8 := dkwX0_spot_7 ++ dktX0_spot_8
def dkwX0_spot_6 : List UInt8 := [167, 0, 4, 3, 128, 62, 132, 4, 1, 167, 255, 219, 29, 172, 3, 54, 4, 21, 4, 42, 180, 0, 44]
abbrev dktX0_spot_6 : List UInt8 := dkwX0_spot_6 ++ dktX0_spot_7
def dkwX0_spot_5 : List UInt8 := [162, 0, 34, 29, 42, 180, 0, 55, 180, 0, 175, 21, 4, 46, 27, 160, 0, 10, 4, 21, 4, 120]
abbrev dktX0_spot_5 : List UInt8 := dkwX0_spot_5 ++ dktX0_spot_6
def dkwX0_spot_4 : List UInt8 := [120, 167, 0, 4, 3, 128, 62, 132, 4, 1, 167, 255, 219, 29, 172, 3, 54, 4, 21, 4, 42, 182, 0, 154]
abbrev dktX0_spot_4 : List UInt8 := dkwX0_spot_4 ++ dktX0_spot_5
def dkwX0_spot_3 : List UInt8 := [182, 0, 152, 162, 0, 34, 29, 42, 180, 0, 55, 180, 0, 172, 21, 4, 46, 27, 160, 0, 10, 4, 21, 4]
abbrev dktX0_spot_3 : List UInt8 := dkwX0_spot_3 ++ dktX0_spot_4
def dkwX0_spot_2 : List UInt8 := [42, 180, 0, 44, 180, 0, 129, 27, 182, 0, 163, 192, 0, 167, 180, 0, 169, 172, 3, 54, 4, 21, 4, 42]
abbrev dktX0_spot_2 : List UInt8 := dkwX0_spot_2 ++ dktX0_spot_3
def dkwX0_spot_1 : List UInt8 := [170, 0, 0, 0, 0, 0, 193, 0, 0, 0, 0, 0, 0, 0, 3, 0, 0, 0, 31, 0, 0, 0, 49, 0, 0, 0, 94, 0, 0, 0, 139]
abbrev dktX0_spot_1 : List UInt8 := dkwX0_spot_1 ++ dktX0_spot_2
def dkwX0_spot_0 : List UInt8 := [42, 27, 182, 0, 159, 154, 0, 5, 2, 172, 3, 62, 28]
abbrev dktX0_spot_0 : List UInt8 := dkwX0_spot_0 ++ dktX0_spot_1
theorem dksX0_spot_0 : cX0_spot.data.toList.drop 0 = dktX0_spot_0 := by decide +kernel
theorem dksX0_spot_1 : cX0_spot.data.toList.drop 13 = dktX0_spot_1 := dk_seg dksX0_spot_0 13 rfl rfl
theorem dksX0_spot_2 : cX0_spot.data.toList.drop 44 = dktX0_spot_2 := dk_seg dksX0_spot_1 31 rfl rfl
theorem dksX0_spot_3 : cX0_spot.data.toList.drop 68 = dktX0_spot_3 := dk_seg dksX0_spot_2 24 rfl rfl
theorem dksX0_spot_4 : cX0_spot.data.toList.drop 92 = dktX0_spot_4 := dk_seg dksX0_spot_3 24 rfl rfl
theorem dksX0_spot_5 : cX0_spot.data.toList.drop 116 = dktX0_spot_5 := dk_seg dksX0_spot_4 24 rfl rfl
theorem dksX0_spot_6 : cX0_spot.data.toList.drop 138 = dktX0_spot_6 := dk_seg dksX0_spot_5 22 rfl rfl
theorem dksX0_spot_7 : cX0_spot.data.toList.drop 161 = dktX0_spot_7 := dk_seg dksX0_spot_6 23 rfl rfl
theorem dksX0_spot_8 : cX0_spot.data.toList.drop 185 = dktX0_spot_8 := dk_seg dksX0_spot_7 24 rfl rfl
theorem dX0_spot_0 : decode cX0_spot 0 = .ok (.aload_n 0, 1) := dk_42 (dk_at dksX0_spot_0 0 rfl rfl)
theorem dX0_spot_1 : decode cX0_spot 1 = .ok (.iload_n 1, 1) := dk_27 (dk_at dksX0_spot_0 1 rfl rfl)
theorem dX0_spot_2 : decode cX0_spot 2 = .ok (.invokevirtual 159, 3) := dk_182 0 159 (dk_at dksX0_spot_0 2 rfl rfl)
theorem dX0_spot_5 : decode cX0_spot 5 = .ok (.ifCond .ne 5, 3) := dk_154 0 5 (dk_at dksX0_spot_0 5 rfl rfl)
theorem dX0_spot_8 : decode cX0_spot 8 = .ok (.iconst (-1), 1) := dk_2 (dk_at dksX0_spot_0 8 rfl rfl)
theorem dX0_spot_9 : decode cX0_spot 9 = .ok (.ireturn, 1) := dk_172 (dk_at dksX0_spot_0 9 rfl rfl)
theorem dX0_spot_10 : decode cX0_spot 10 = .ok (.iconst 0, 1) := dk_3 (dk_at dksX0_spot_0 10 rfl rfl)
theorem dX0_spot_11 : decode cX0_spot 11 = .ok (.istore_n 3, 1) := dk_62 (dk_at dksX0_spot_0 11 rfl rfl)
theorem dX0_spot_12 : decode cX0_spot 12 = .ok (.iload_n 2, 1) := dk_28 (dk_at dksX0_spot_0 12 rfl rfl)
theorem dX0_spot_13 : decode cX0_spot 13 = .ok (.tableswitch 193 0 3 #[31, 49, 94, 139], 31) := by decide +kernel
theorem dX0_spot_44 : decode cX0_spot 44 = .ok (.aload_n 0, 1) := dk_42 (dk_at dksX0_spot_2 0 rfl rfl)
theorem dX0_spot_45 : decode cX0_spot 45 = .ok (.getfield 44, 3) := dk_180 0 44 (dk_at dksX0_spot_2 1 rfl rfl)
theorem dX0_spot_48 : decode cX0_spot 48 = .ok (.getfield 129, 3) := dk_180 0 129 (dk_at dksX0_spot_2 4 rfl rfl)
theorem dX0_spot_51 : decode cX0_spot 51 = .ok (.iload_n 1, 1) := dk_27 (dk_at dksX0_spot_2 7 rfl rfl)
theorem dX0_spot_52 : decode cX0_spot 52 = .ok (.invokevirtual 163, 3) := dk_182 0 163 (dk_at dksX0_spot_2 8 rfl rfl)
theorem dX0_spot_55 : decode cX0_spot 55 = .ok (.checkcast 167, 3) := dk_192 0 167 (dk_at dksX0_spot_2 11 rfl rfl)
theorem dX0_spot_58 : decode cX0_spot 58 = .ok (.getfield 169, 3) := dk_180 0 169 (dk_at dksX0_spot_2 14 rfl rfl)
theorem dX0_spot_61 : decode cX0_spot 61 = .ok (.ireturn, 1) := dk_172 (dk_at dksX0_spot_2 17 rfl rfl)
theorem dX0_spot_62 : decode cX0_spot 62 = .ok (.iconst 0, 1) := dk_3 (dk_at dksX0_spot_2 18 rfl rfl)
theorem dX0_spot_63 : decode cX0_spot 63 = .ok (.istore 4, 2) := dk_54 4 (dk_at dksX0_spot_2 19 rfl rfl)
theorem dX0_spot_65 : decode cX0_spot 65 = .ok (.iload 4, 2) := dk_21 4 (dk_at dksX0_spot_2 21 rfl rfl)
theorem dX0_spot_67 : decode cX0_spot 67 = .ok (.aload_n 0, 1) := dk_42 (dk_at dksX0_spot_2 23 rfl rfl)
theorem dX0_spot_68 : decode cX0_spot 68 = .ok (.invokevirtual 152, 3) := dk_182 0 152 (dk_at dksX0_spot_3 0 rfl rfl)
theorem dX0_spot_71 : decode cX0_spot 71 = .ok (.if_icmp .ge 34, 3) := dk_162 0 34 (dk_at dksX0_spot_3 3 rfl rfl)
theorem dX0_spot_74 : decode cX0_spot 74 = .ok (.iload_n 3, 1) := dk_29 (dk_at dksX0_spot_3 6 rfl rfl)
theorem dX0_spot_75 : decode cX0_spot 75 = .ok (.aload_n 0, 1) := dk_42 (dk_at dksX0_spot_3 7 rfl rfl)
theorem dX0_spot_76 : decode cX0_spot 76 = .ok (.getfield 55, 3) := dk_180 0 55 (dk_at dksX0_spot_3 8 rfl rfl)
theorem dX0_spot_79 : decode cX0_spot 79 = .ok (.getfield 172, 3) := dk_180 0 172 (dk_at dksX0_spot_3 11 rfl rfl)
theorem dX0_spot_82 : decode cX0_spot 82 = .ok (.iload 4, 2) := dk_21 4 (dk_at dksX0_spot_3 14 rfl rfl)
theorem dX0_spot_84 : decode cX0_spot 84 = .ok (.iaload, 1) := dk_46 (dk_at dksX0_spot_3 16 rfl rfl)
theorem dX0_spot_85 : decode cX0_spot 85 = .ok (.iload_n 1, 1) := dk_27 (dk_at dksX0_spot_3 17 rfl rfl)
theorem dX0_spot_86 : decode cX0_spot 86 = .ok (.if_icmp .ne 10, 3) := dk_160 0 10 (dk_at dksX0_spot_3 18 rfl rfl)
theorem dX0_spot_89 : decode cX0_spot 89 = .ok (.iconst 1, 1) := dk_4 (dk_at dksX0_spot_3 21 rfl rfl)
theorem dX0_spot_90 : decode cX0_spot 90 = .ok (.iload 4, 2) := dk_21 4 (dk_at dksX0_spot_3 22 rfl rfl)
theorem dX0_spot_92 : decode cX0_spot 92 = .ok (.ishl, 1) := dk_120 (dk_at dksX0_spot_4 0 rfl rfl)
theorem dX0_spot_93 : decode cX0_spot 93 = .ok (.goto 4, 3) := dk_167 0 4 (dk_at dksX0_spot_4 1 rfl rfl)
theorem dX0_spot_96 : decode cX0_spot 96 = .ok (.iconst 0, 1) := dk_3 (dk_at dksX0_spot_4 4 rfl rfl)
theorem dX0_spot_97 : decode cX0_spot 97 = .ok (.ior, 1) := dk_128 (dk_at dksX0_spot_4 5 rfl rfl)
theorem dX0_spot_98 : decode cX0_spot 98 = .ok (.istore_n 3, 1) := dk_62 (dk_at dksX0_spot_4 6 rfl rfl)
theorem dX0_spot_99 : decode cX0_spot 99 = .ok (.iinc 4 1, 3) := dk_132 4 1 (dk_at dksX0_spot_4 7 rfl rfl)
theorem dX0_spot_102 : decode cX0_spot 102 = .ok (.goto (-37), 3) := dk_167 255 219 (dk_at dksX0_spot_4 10 rfl rfl)
theorem dX0_spot_105 : decode cX0_spot 105 = .ok (.iload_n 3, 1) := dk_29 (dk_at dksX0_spot_4 13 rfl rfl)
theorem dX0_spot_106 : decode cX0_spot 106 = .ok (.ireturn, 1) := dk_172 (dk_at dksX0_spot_4 14 rfl rfl)
theorem dX0_spot_107 : decode cX0_spot 107 = .ok (.iconst 0, 1) := dk_3 (dk_at dksX0_spot_4 15 rfl rfl)
theorem dX0_spot_108 : decode cX0_spot 108 = .ok (.istore 4, 2) := dk_54 4 (dk_at dksX0_spot_4 16 rfl rfl)
theorem dX0_spot_110 : decode cX0_spot 110 = .ok (.iload 4, 2) := dk_21 4 (dk_at dksX0_spot_4 18 rfl rfl)
theorem dX0_spot_112 : decode cX0_spot 112 = .ok (.aload_n 0, 1) := dk_42 (dk_at dksX0_spot_4 20 rfl rfl)
theorem dX0_spot_113 : decode cX0_spot 113 = .ok (.invokevirtual 154, 3) := dk_182 0 154 (dk_at dksX0_spot_4 21 rfl rfl)
theorem dX0_spot_116 : decode cX0_spot 116 = .ok (.if_icmp .ge 34, 3) := dk_162 0 34 (dk_at dksX0_spot_5 0 rfl rfl)
theorem dX0_spot_119 : decode cX0_spot 119 = .ok (.iload_n 3, 1) := dk_29 (dk_at dksX0_spot_5 3 rfl rfl)
theorem dX0_spot_120 : decode cX0_spot 120 = .ok (.aload_n 0, 1) := dk_42 (dk_at dksX0_spot_5 4 rfl rfl)
theorem dX0_spot_121 : decode cX0_spot 121 = .ok (.getfield 55, 3) := dk_180 0 55 (dk_at dksX0_spot_5 5 rfl rfl)
theorem dX0_spot_124 : decode cX0_spot 124 = .ok (.getfield 175, 3) := dk_180 0 175 (dk_at dksX0_spot_5 8 rfl rfl)
theorem dX0_spot_127 : decode cX0_spot 127 = .ok (.iload 4, 2) := dk_21 4 (dk_at dksX0_spot_5 11 rfl rfl)
theorem dX0_spot_129 : decode cX0_spot 129 = .ok (.iaload, 1) := dk_46 (dk_at dksX0_spot_5 13 rfl rfl)
theorem dX0_spot_130 : decode cX0_spot 130 = .ok (.iload_n 1, 1) := dk_27 (dk_at dksX0_spot_5 14 rfl rfl)
theorem dX0_spot_131 : decode cX0_spot 131 = .ok (.if_icmp .ne 10, 3) := dk_160 0 10 (dk_at dksX0_spot_5 15 rfl rfl)
theorem dX0_spot_134 : decode cX0_spot 134 = .ok (.iconst 1, 1) := dk_4 (dk_at dksX0_spot_5 18 rfl rfl)
theorem dX0_spot_135 : decode cX0_spot 135 = .ok (.iload 4, 2) := dk_21 4 (dk_at dksX0_spot_5 19 rfl rfl)
theorem dX0_spot_137 : decode cX0_spot 137 = .ok (.ishl, 1) := dk_120 (dk_at dksX0_spot_5 21 rfl rfl)
theorem dX0_spot_138 : decode cX0_spot 138 = .ok (.goto 4, 3) := dk_167 0 4 (dk_at dksX0_spot_6 0 rfl rfl)
theorem dX0_spot_141 : decode cX0_spot 141 = .ok (.iconst 0, 1) := dk_3 (dk_at dksX0_spot_6 3 rfl rfl)
theorem dX0_spot_142 : decode cX0_spot 142 = .ok (.ior, 1) := dk_128 (dk_at dksX0_spot_6 4 rfl rfl)
theorem dX0_spot_143 : decode cX0_spot 143 = .ok (.istore_n 3, 1) := dk_62 (dk_at dksX0_spot_6 5 rfl rfl)
theorem dX0_spot_144 : decode cX0_spot 144 = .ok (.iinc 4 1, 3) := dk_132 4 1 (dk_at dksX0_spot_6 6 rfl rfl)
theorem dX0_spot_147 : decode cX0_spot 147 = .ok (.goto (-37), 3) := dk_167 255 219 (dk_at dksX0_spot_6 9 rfl rfl)
theorem dX0_spot_150 : decode cX0_spot 150 = .ok (.iload_n 3, 1) := dk_29 (dk_at dksX0_spot_6 12 rfl rfl)
theorem dX0_spot_151 : decode cX0_spot 151 = .ok (.ireturn, 1) := dk_172 (dk_at dksX0_spot_6 13 rfl rfl)
theorem dX0_spot_152 : decode cX0_spot 152 = .ok (.iconst 0, 1) := dk_3 (dk_at dksX0_spot_6 14 rfl rfl)
theorem dX0_spot_153 : decode cX0_spot 153 = .ok (.istore 4, 2) := dk_54 4 (dk_at dksX0_spot_6 15 rfl rfl)
theorem dX0_spot_155 : decode cX0_spot 155 = .ok (.iload 4, 2) := dk_21 4 (dk_at dksX0_spot_6 17 rfl rfl)
theorem dX0_spot_157 : decode cX0_spot 157 = .ok (.aload_n 0, 1) := dk_42 (dk_at dksX0_spot_6 19 rfl rfl)
theorem dX0_spot_158 : decode cX0_spot 158 = .ok (.getfield 44, 3) := dk_180 0 44 (dk_at dksX0_spot_6 20 rfl rfl)
theorem dX0_spot_161 : decode cX0_spot 161 = .ok (.getfield 178, 3) := dk_180 0 178 (dk_at dksX0_spot_7 0 rfl rfl)
theorem dX0_spot_164 : decode cX0_spot 164 = .ok (.if_icmp .ge 40, 3) := dk_162 0 40 (dk_at dksX0_spot_7 3 rfl rfl)
theorem dX0_spot_167 : decode cX0_spot 167 = .ok (.iload_n 3, 1) := dk_29 (dk_at dksX0_spot_7 6 rfl rfl)
theorem dX0_spot_168 : decode cX0_spot 168 = .ok (.aload_n 0, 1) := dk_42 (dk_at dksX0_spot_7 7 rfl rfl)
theorem dX0_spot_169 : decode cX0_spot 169 = .ok (.getfield 44, 3) := dk_180 0 44 (dk_at dksX0_spot_7 8 rfl rfl)
theorem dX0_spot_172 : decode cX0_spot 172 = .ok (.getfield 181, 3) := dk_180 0 181 (dk_at dksX0_spot_7 11 rfl rfl)
theorem dX0_spot_175 : decode cX0_spot 175 = .ok (.iload 4, 2) := dk_21 4 (dk_at dksX0_spot_7 14 rfl rfl)
theorem dX0_spot_177 : decode cX0_spot 177 = .ok (.iaload, 1) := dk_46 (dk_at dksX0_spot_7 16 rfl rfl)
theorem dX0_spot_178 : decode cX0_spot 178 = .ok (.iload_n 1, 1) := dk_27 (dk_at dksX0_spot_7 17 rfl rfl)
theorem dX0_spot_179 : decode cX0_spot 179 = .ok (.if_icmp .ne 16, 3) := dk_160 0 16 (dk_at dksX0_spot_7 18 rfl rfl)
theorem dX0_spot_182 : decode cX0_spot 182 = .ok (.aload_n 0, 1) := dk_42 (dk_at dksX0_spot_7 21 rfl rfl)
theorem dX0_spot_183 : decode cX0_spot 183 = .ok (.iload 4, 2) := dk_21 4 (dk_at dksX0_spot_7 22 rfl rfl)
theorem dX0_spot_185 : decode cX0_spot 185 = .ok (.invokevirtual 184, 3) := dk_182 0 184 (dk_at dksX0_spot_8 0 rfl rfl)
theorem dX0_spot_188 : decode cX0_spot 188 = .ok (.ifCond .ne 7, 3) := dk_154 0 7 (dk_at dksX0_spot_8 3 rfl rfl)
theorem dX0_spot_191 : decode cX0_spot 191 = .ok (.iconst 1, 1) := dk_4 (dk_at dksX0_spot_8 6 rfl rfl)
theorem dX0_spot_192 : decode cX0_spot 192 = .ok (.goto 4, 3) := dk_167 0 4 (dk_at dksX0_spot_8 7 rfl rfl)
theorem dX0_spot_195 : decode cX0_spot 195 = .ok (.iconst 0, 1) := dk_3 (dk_at dksX0_spot_8 10 rfl rfl)
theorem dX0_spot_196 : decode cX0_spot 196 = .ok (.iadd, 1) := dk_96 (dk_at dksX0_spot_8 11 rfl rfl)
theorem dX0_spot_197 : decode cX0_spot 197 = .ok (.istore_n 3, 1) := dk_62 (dk_at dksX0_spot_8 12 rfl rfl)
theorem dX0_spot_198 : decode cX0_spot 198 = .ok (.iinc 4 1, 3) := dk_132 4 1 (dk_at dksX0_spot_8 13 rfl rfl)
theorem dX0_spot_201 : decode cX0_spot 201 = .ok (.goto (-46), 3) := dk_167 255 210 (dk_at dksX0_spot_8 16 rfl rfl)
theorem dX0_spot_204 : decode cX0_spot 204 = .ok (.iload_n 3, 1) := dk_29 (dk_at dksX0_spot_8 19 rfl rfl)
theorem dX0_spot_205 : decode cX0_spot 205 = .ok (.ireturn, 1) := dk_172 (dk_at dksX0_spot_8 20 rfl rfl)
theorem dX0_spot_206 : decode cX0_spot 206 = .ok (.iconst (-1), 1) := dk_2 (dk_at dksX0_spot_8 21 rfl rfl)
theorem dX0_spot_207 : decode cX0_spot 207 = .ok (.ireturn, 1) := dk_172 (dk_at dksX0_spot_8 22 rfl rfl)
abbrev cX0_isPlace : ByteArray := prog_1_method_12_code
def yX0_isPlace : MethodName := ⟨RX0, "isPlace", "(I)Z"⟩
def dkwX0_isPlace_0 : List UInt8 := [27, 3, 42, 182, 0, 145, 4, 100, 184, 0, 148, 172]
abbrev dktX0_isPlace_0 : List UInt8 := dkwX0_isPlace_0 ++ []
theorem dksX0_isPlace_0 : cX0_isPlace.data.toList.drop 0 = dktX0_isPlace_0 := by decide +kernel
theorem dX0_isPlace_0 : decode cX0_isPlace 0 = .ok (.iload_n 1, 1) := dk_27 (dk_at dksX0_isPlace_0 0 rfl rfl)
theorem dX0_isPlace_1 : decode cX0_isPlace 1 = .ok (.iconst 0, 1) := dk_3 (dk_at dksX0_isPlace_0 1 rfl rfl)
theorem dX0_isPlace_2 : decode cX0_isPlace 2 = .ok (.aload_n 0, 1) := dk_42 (dk_at dksX0_isPlace_0 2 rfl rfl)
theorem dX0_isPlace_3 : decode cX0_isPlace 3 = .ok (.invokevirtual 145, 3) := dk_182 0 145 (dk_at dksX0_isPlace_0 3 rfl rfl)
theorem dX0_isPlace_6 : decode cX0_isPlace 6 = .ok (.iconst 1, 1) := dk_4 (dk_at dksX0_isPlace_0 6 rfl rfl)
theorem dX0_isPlace_7 : decode cX0_isPlace 7 = .ok (.isub, 1) := dk_100 (dk_at dksX0_isPlace_0 7 rfl rfl)
theorem dX0_isPlace_8 : decode cX0_isPlace 8 = .ok (.invokestatic 148, 3) := dk_184 0 148 (dk_at dksX0_isPlace_0 8 rfl rfl)
theorem dX0_isPlace_11 : decode cX0_isPlace 11 = .ok (.ireturn, 1) := dk_172 (dk_at dksX0_isPlace_0 11 rfl rfl)
abbrev cX0_places : ByteArray := prog_1_method_9_code
def yX0_places : MethodName := ⟨RX0, "places", "()I"⟩
def dkwX0_places_0 : List UInt8 := [42, 180, 0, 44, 180, 0, 129, 182, 0, 133, 172]
abbrev dktX0_places_0 : List UInt8 := dkwX0_places_0 ++ []
theorem dksX0_places_0 : cX0_places.data.toList.drop 0 = dktX0_places_0 := by decide +kernel
theorem dX0_places_0 : decode cX0_places 0 = .ok (.aload_n 0, 1) := dk_42 (dk_at dksX0_places_0 0 rfl rfl)
theorem dX0_places_1 : decode cX0_places 1 = .ok (.getfield 44, 3) := dk_180 0 44 (dk_at dksX0_places_0 1 rfl rfl)
theorem dX0_places_4 : decode cX0_places 4 = .ok (.getfield 129, 3) := dk_180 0 129 (dk_at dksX0_places_0 4 rfl rfl)
theorem dX0_places_7 : decode cX0_places 7 = .ok (.invokevirtual 133, 3) := dk_182 0 133 (dk_at dksX0_places_0 7 rfl rfl)
theorem dX0_places_10 : decode cX0_places 10 = .ok (.ireturn, 1) := dk_172 (dk_at dksX0_places_0 10 rfl rfl)
abbrev cX0_isIn : ByteArray := prog_1_method_8_code
def yX0_isIn : MethodName := ⟨RX0, "isIn", "(III)Z"⟩
def dkwX0_isIn_0 : List UInt8 := [26, 27, 161, 0, 12, 26, 28, 163, 0, 7, 4, 167, 0, 4, 3, 172]
abbrev dktX0_isIn_0 : List UInt8 := dkwX0_isIn_0 ++ []
theorem dksX0_isIn_0 : cX0_isIn.data.toList.drop 0 = dktX0_isIn_0 := by decide +kernel
theorem dX0_isIn_0 : decode cX0_isIn 0 = .ok (.iload_n 0, 1) := dk_26 (dk_at dksX0_isIn_0 0 rfl rfl)
theorem dX0_isIn_1 : decode cX0_isIn 1 = .ok (.iload_n 1, 1) := dk_27 (dk_at dksX0_isIn_0 1 rfl rfl)
theorem dX0_isIn_2 : decode cX0_isIn 2 = .ok (.if_icmp .lt 12, 3) := dk_161 0 12 (dk_at dksX0_isIn_0 2 rfl rfl)
theorem dX0_isIn_5 : decode cX0_isIn 5 = .ok (.iload_n 0, 1) := dk_26 (dk_at dksX0_isIn_0 5 rfl rfl)
theorem dX0_isIn_6 : decode cX0_isIn 6 = .ok (.iload_n 2, 1) := dk_28 (dk_at dksX0_isIn_0 6 rfl rfl)
theorem dX0_isIn_7 : decode cX0_isIn 7 = .ok (.if_icmp .gt 7, 3) := dk_163 0 7 (dk_at dksX0_isIn_0 7 rfl rfl)
theorem dX0_isIn_10 : decode cX0_isIn 10 = .ok (.iconst 1, 1) := dk_4 (dk_at dksX0_isIn_0 10 rfl rfl)
theorem dX0_isIn_11 : decode cX0_isIn 11 = .ok (.goto 4, 3) := dk_167 0 4 (dk_at dksX0_isIn_0 11 rfl rfl)
theorem dX0_isIn_14 : decode cX0_isIn 14 = .ok (.iconst 0, 1) := dk_3 (dk_at dksX0_isIn_0 14 rfl rfl)
theorem dX0_isIn_15 : decode cX0_isIn 15 = .ok (.ireturn, 1) := dk_172 (dk_at dksX0_isIn_0 15 rfl rfl)
abbrev cX0_dogs : ByteArray := prog_1_method_10_code
def yX0_dogs : MethodName := ⟨RX0, "dogs", "()I"⟩
def dkwX0_dogs_0 : List UInt8 := [42, 180, 0, 44, 180, 0, 139, 182, 0, 133, 172]
abbrev dktX0_dogs_0 : List UInt8 := dkwX0_dogs_0 ++ []
theorem dksX0_dogs_0 : cX0_dogs.data.toList.drop 0 = dktX0_dogs_0 := by decide +kernel
theorem dX0_dogs_0 : decode cX0_dogs 0 = .ok (.aload_n 0, 1) := dk_42 (dk_at dksX0_dogs_0 0 rfl rfl)
theorem dX0_dogs_1 : decode cX0_dogs 1 = .ok (.getfield 44, 3) := dk_180 0 44 (dk_at dksX0_dogs_0 1 rfl rfl)
theorem dX0_dogs_4 : decode cX0_dogs 4 = .ok (.getfield 139, 3) := dk_180 0 139 (dk_at dksX0_dogs_0 4 rfl rfl)
theorem dX0_dogs_7 : decode cX0_dogs 7 = .ok (.invokevirtual 133, 3) := dk_182 0 133 (dk_at dksX0_dogs_0 7 rfl rfl)
theorem dX0_dogs_10 : decode cX0_dogs 10 = .ok (.ireturn, 1) := dk_172 (dk_at dksX0_dogs_0 10 rfl rfl)
abbrev cX0_people : ByteArray := prog_1_method_11_code
def yX0_people : MethodName := ⟨RX0, "people", "()I"⟩
def dkwX0_people_0 : List UInt8 := [42, 180, 0, 44, 180, 0, 142, 182, 0, 133, 172]
abbrev dktX0_people_0 : List UInt8 := dkwX0_people_0 ++ []
theorem dksX0_people_0 : cX0_people.data.toList.drop 0 = dktX0_people_0 := by decide +kernel
theorem dX0_people_0 : decode cX0_people 0 = .ok (.aload_n 0, 1) := dk_42 (dk_at dksX0_people_0 0 rfl rfl)
theorem dX0_people_1 : decode cX0_people 1 = .ok (.getfield 44, 3) := dk_180 0 44 (dk_at dksX0_people_0 1 rfl rfl)
theorem dX0_people_4 : decode cX0_people 4 = .ok (.getfield 142, 3) := dk_180 0 142 (dk_at dksX0_people_0 4 rfl rfl)
theorem dX0_people_7 : decode cX0_people 7 = .ok (.invokevirtual 133, 3) := dk_182 0 133 (dk_at dksX0_people_0 7 rfl rfl)
theorem dX0_people_10 : decode cX0_people 10 = .ok (.ireturn, 1) := dk_172 (dk_at dksX0_people_0 10 rfl rfl)
abbrev cX0_isDone : ByteArray := prog_1_method_16_code
def yX0_isDone : MethodName := ⟨RX0, "isDone", "(I)Z"⟩
def dkwX0_isDone_0 : List UInt8 := [42, 180, 0, 55, 180, 0, 156, 27, 122, 4, 126, 4, 160, 0, 7, 4, 167, 0, 4, 3, 172]
abbrev dktX0_isDone_0 : List UInt8 := dkwX0_isDone_0 ++ []
theorem dksX0_isDone_0 : cX0_isDone.data.toList.drop 0 = dktX0_isDone_0 := by decide +kernel
theorem dX0_isDone_0 : decode cX0_isDone 0 = .ok (.aload_n 0, 1) := dk_42 (dk_at dksX0_isDone_0 0 rfl rfl)
theorem dX0_isDone_1 : decode cX0_isDone 1 = .ok (.getfield 55, 3) := dk_180 0 55 (dk_at dksX0_isDone_0 1 rfl rfl)
theorem dX0_isDone_4 : decode cX0_isDone 4 = .ok (.getfield 156, 3) := dk_180 0 156 (dk_at dksX0_isDone_0 4 rfl rfl)
theorem dX0_isDone_7 : decode cX0_isDone 7 = .ok (.iload_n 1, 1) := dk_27 (dk_at dksX0_isDone_0 7 rfl rfl)
theorem dX0_isDone_8 : decode cX0_isDone 8 = .ok (.ishr, 1) := dk_122 (dk_at dksX0_isDone_0 8 rfl rfl)
theorem dX0_isDone_9 : decode cX0_isDone 9 = .ok (.iconst 1, 1) := dk_4 (dk_at dksX0_isDone_0 9 rfl rfl)
theorem dX0_isDone_10 : decode cX0_isDone 10 = .ok (.iand, 1) := dk_126 (dk_at dksX0_isDone_0 10 rfl rfl)
theorem dX0_isDone_11 : decode cX0_isDone 11 = .ok (.iconst 1, 1) := dk_4 (dk_at dksX0_isDone_0 11 rfl rfl)
theorem dX0_isDone_12 : decode cX0_isDone 12 = .ok (.if_icmp .ne 7, 3) := dk_160 0 7 (dk_at dksX0_isDone_0 12 rfl rfl)
theorem dX0_isDone_15 : decode cX0_isDone 15 = .ok (.iconst 1, 1) := dk_4 (dk_at dksX0_isDone_0 15 rfl rfl)
theorem dX0_isDone_16 : decode cX0_isDone 16 = .ok (.goto 4, 3) := dk_167 0 4 (dk_at dksX0_isDone_0 16 rfl rfl)
theorem dX0_isDone_19 : decode cX0_isDone 19 = .ok (.iconst 0, 1) := dk_3 (dk_at dksX0_isDone_0 19 rfl rfl)
theorem dX0_isDone_20 : decode cX0_isDone 20 = .ok (.ireturn, 1) := dk_172 (dk_at dksX0_isDone_0 20 rfl rfl)
abbrev cX0_dog : ByteArray := prog_1_method_18_code
def yX0_dog : MethodName := ⟨RX0, "dog", "(II)I"⟩
def dkwX0_dog_4 : List UInt8 := [172, 42, 180, 0, 55, 180, 0, 201, 27, 46, 172, 42, 180, 0, 55, 180, 0, 204, 27, 46, 172, 2, 172]
abbrev dktX0_dog_4 : List UInt8 := dkwX0_dog_4 ++ []
def dkwX0_dog_3 : List UInt8 := [45, 180, 0, 192, 172, 45, 180, 0, 195, 172, 45, 180, 0, 198, 172, 42, 180, 0, 55, 180, 0, 172, 27, 46]
abbrev dktX0_dog_3 : List UInt8 := dkwX0_dog_3 ++ dktX0_dog_4
def dkwX0_dog_2 : List UInt8 := [170, 0, 0, 0, 0, 83, 0, 0, 0, 0, 0, 0, 0, 5, 0, 0, 0, 38, 0, 0, 0, 43, 0, 0, 0, 48, 0, 0, 0, 53, 0, 0, 0, 63, 0, 0, 0, 73]
abbrev dktX0_dog_2 : List UInt8 := dkwX0_dog_2 ++ dktX0_dog_3
def dkwX0_dog_1 : List UInt8 := [78, 28]
abbrev dktX0_dog_1 : List UInt8 := dkwX0_dog_1 ++ dktX0_dog_2
def dkwX0_dog_0 : List UInt8 := [42, 27, 182, 0, 187, 154, 0, 5, 2, 172, 42, 180, 0, 44, 180, 0, 139, 27, 182, 0, 163, 192, 0, 190]
abbrev dktX0_dog_0 : List UInt8 := dkwX0_dog_0 ++ dktX0_dog_1
theorem dksX0_dog_0 : cX0_dog.data.toList.drop 0 = dktX0_dog_0 := by decide +kernel
theorem dksX0_dog_1 : cX0_dog.data.toList.drop 24 = dktX0_dog_1 := dk_seg dksX0_dog_0 24 rfl rfl
theorem dksX0_dog_2 : cX0_dog.data.toList.drop 26 = dktX0_dog_2 := dk_seg dksX0_dog_1 2 rfl rfl
theorem dksX0_dog_3 : cX0_dog.data.toList.drop 64 = dktX0_dog_3 := dk_seg dksX0_dog_2 38 rfl rfl
theorem dksX0_dog_4 : cX0_dog.data.toList.drop 88 = dktX0_dog_4 := dk_seg dksX0_dog_3 24 rfl rfl
theorem dX0_dog_0 : decode cX0_dog 0 = .ok (.aload_n 0, 1) := dk_42 (dk_at dksX0_dog_0 0 rfl rfl)
theorem dX0_dog_1 : decode cX0_dog 1 = .ok (.iload_n 1, 1) := dk_27 (dk_at dksX0_dog_0 1 rfl rfl)
theorem dX0_dog_2 : decode cX0_dog 2 = .ok (.invokevirtual 187, 3) := dk_182 0 187 (dk_at dksX0_dog_0 2 rfl rfl)
theorem dX0_dog_5 : decode cX0_dog 5 = .ok (.ifCond .ne 5, 3) := dk_154 0 5 (dk_at dksX0_dog_0 5 rfl rfl)
theorem dX0_dog_8 : decode cX0_dog 8 = .ok (.iconst (-1), 1) := dk_2 (dk_at dksX0_dog_0 8 rfl rfl)
theorem dX0_dog_9 : decode cX0_dog 9 = .ok (.ireturn, 1) := dk_172 (dk_at dksX0_dog_0 9 rfl rfl)
theorem dX0_dog_10 : decode cX0_dog 10 = .ok (.aload_n 0, 1) := dk_42 (dk_at dksX0_dog_0 10 rfl rfl)
theorem dX0_dog_11 : decode cX0_dog 11 = .ok (.getfield 44, 3) := dk_180 0 44 (dk_at dksX0_dog_0 11 rfl rfl)
theorem dX0_dog_14 : decode cX0_dog 14 = .ok (.getfield 139, 3) := dk_180 0 139 (dk_at dksX0_dog_0 14 rfl rfl)
theorem dX0_dog_17 : decode cX0_dog 17 = .ok (.iload_n 1, 1) := dk_27 (dk_at dksX0_dog_0 17 rfl rfl)
theorem dX0_dog_18 : decode cX0_dog 18 = .ok (.invokevirtual 163, 3) := dk_182 0 163 (dk_at dksX0_dog_0 18 rfl rfl)
theorem dX0_dog_21 : decode cX0_dog 21 = .ok (.checkcast 190, 3) := dk_192 0 190 (dk_at dksX0_dog_0 21 rfl rfl)
theorem dX0_dog_24 : decode cX0_dog 24 = .ok (.astore_n 3, 1) := dk_78 (dk_at dksX0_dog_1 0 rfl rfl)
theorem dX0_dog_25 : decode cX0_dog 25 = .ok (.iload_n 2, 1) := dk_28 (dk_at dksX0_dog_1 1 rfl rfl)
theorem dX0_dog_26 : decode cX0_dog 26 = .ok (.tableswitch 83 0 5 #[38, 43, 48, 53, 63, 73], 38) := by decide +kernel
theorem dX0_dog_64 : decode cX0_dog 64 = .ok (.aload_n 3, 1) := dk_45 (dk_at dksX0_dog_3 0 rfl rfl)
theorem dX0_dog_65 : decode cX0_dog 65 = .ok (.getfield 192, 3) := dk_180 0 192 (dk_at dksX0_dog_3 1 rfl rfl)
theorem dX0_dog_68 : decode cX0_dog 68 = .ok (.ireturn, 1) := dk_172 (dk_at dksX0_dog_3 4 rfl rfl)
theorem dX0_dog_69 : decode cX0_dog 69 = .ok (.aload_n 3, 1) := dk_45 (dk_at dksX0_dog_3 5 rfl rfl)
theorem dX0_dog_70 : decode cX0_dog 70 = .ok (.getfield 195, 3) := dk_180 0 195 (dk_at dksX0_dog_3 6 rfl rfl)
theorem dX0_dog_73 : decode cX0_dog 73 = .ok (.ireturn, 1) := dk_172 (dk_at dksX0_dog_3 9 rfl rfl)
theorem dX0_dog_74 : decode cX0_dog 74 = .ok (.aload_n 3, 1) := dk_45 (dk_at dksX0_dog_3 10 rfl rfl)
theorem dX0_dog_75 : decode cX0_dog 75 = .ok (.getfield 198, 3) := dk_180 0 198 (dk_at dksX0_dog_3 11 rfl rfl)
theorem dX0_dog_78 : decode cX0_dog 78 = .ok (.ireturn, 1) := dk_172 (dk_at dksX0_dog_3 14 rfl rfl)
theorem dX0_dog_79 : decode cX0_dog 79 = .ok (.aload_n 0, 1) := dk_42 (dk_at dksX0_dog_3 15 rfl rfl)
theorem dX0_dog_80 : decode cX0_dog 80 = .ok (.getfield 55, 3) := dk_180 0 55 (dk_at dksX0_dog_3 16 rfl rfl)
theorem dX0_dog_83 : decode cX0_dog 83 = .ok (.getfield 172, 3) := dk_180 0 172 (dk_at dksX0_dog_3 19 rfl rfl)
theorem dX0_dog_86 : decode cX0_dog 86 = .ok (.iload_n 1, 1) := dk_27 (dk_at dksX0_dog_3 22 rfl rfl)
theorem dX0_dog_87 : decode cX0_dog 87 = .ok (.iaload, 1) := dk_46 (dk_at dksX0_dog_3 23 rfl rfl)
theorem dX0_dog_88 : decode cX0_dog 88 = .ok (.ireturn, 1) := dk_172 (dk_at dksX0_dog_4 0 rfl rfl)
theorem dX0_dog_89 : decode cX0_dog 89 = .ok (.aload_n 0, 1) := dk_42 (dk_at dksX0_dog_4 1 rfl rfl)
theorem dX0_dog_90 : decode cX0_dog 90 = .ok (.getfield 55, 3) := dk_180 0 55 (dk_at dksX0_dog_4 2 rfl rfl)
theorem dX0_dog_93 : decode cX0_dog 93 = .ok (.getfield 201, 3) := dk_180 0 201 (dk_at dksX0_dog_4 5 rfl rfl)
theorem dX0_dog_96 : decode cX0_dog 96 = .ok (.iload_n 1, 1) := dk_27 (dk_at dksX0_dog_4 8 rfl rfl)
theorem dX0_dog_97 : decode cX0_dog 97 = .ok (.iaload, 1) := dk_46 (dk_at dksX0_dog_4 9 rfl rfl)
theorem dX0_dog_98 : decode cX0_dog 98 = .ok (.ireturn, 1) := dk_172 (dk_at dksX0_dog_4 10 rfl rfl)
theorem dX0_dog_99 : decode cX0_dog 99 = .ok (.aload_n 0, 1) := dk_42 (dk_at dksX0_dog_4 11 rfl rfl)
theorem dX0_dog_100 : decode cX0_dog 100 = .ok (.getfield 55, 3) := dk_180 0 55 (dk_at dksX0_dog_4 12 rfl rfl)
theorem dX0_dog_103 : decode cX0_dog 103 = .ok (.getfield 204, 3) := dk_180 0 204 (dk_at dksX0_dog_4 15 rfl rfl)
theorem dX0_dog_106 : decode cX0_dog 106 = .ok (.iload_n 1, 1) := dk_27 (dk_at dksX0_dog_4 18 rfl rfl)
theorem dX0_dog_107 : decode cX0_dog 107 = .ok (.iaload, 1) := dk_46 (dk_at dksX0_dog_4 19 rfl rfl)
theorem dX0_dog_108 : decode cX0_dog 108 = .ok (.ireturn, 1) := dk_172 (dk_at dksX0_dog_4 20 rfl rfl)
theorem dX0_dog_109 : decode cX0_dog 109 = .ok (.iconst (-1), 1) := dk_2 (dk_at dksX0_dog_4 21 rfl rfl)
theorem dX0_dog_110 : decode cX0_dog 110 = .ok (.ireturn, 1) := dk_172 (dk_at dksX0_dog_4 22 rfl rfl)
abbrev cX0_isDog : ByteArray := prog_1_method_13_code
def yX0_isDog : MethodName := ⟨RX0, "isDog", "(I)Z"⟩
def dkwX0_isDog_0 : List UInt8 := [27, 3, 42, 182, 0, 152, 4, 100, 184, 0, 148, 172]
abbrev dktX0_isDog_0 : List UInt8 := dkwX0_isDog_0 ++ []
theorem dksX0_isDog_0 : cX0_isDog.data.toList.drop 0 = dktX0_isDog_0 := by decide +kernel
theorem dX0_isDog_0 : decode cX0_isDog 0 = .ok (.iload_n 1, 1) := dk_27 (dk_at dksX0_isDog_0 0 rfl rfl)
theorem dX0_isDog_1 : decode cX0_isDog 1 = .ok (.iconst 0, 1) := dk_3 (dk_at dksX0_isDog_0 1 rfl rfl)
theorem dX0_isDog_2 : decode cX0_isDog 2 = .ok (.aload_n 0, 1) := dk_42 (dk_at dksX0_isDog_0 2 rfl rfl)
theorem dX0_isDog_3 : decode cX0_isDog 3 = .ok (.invokevirtual 152, 3) := dk_182 0 152 (dk_at dksX0_isDog_0 3 rfl rfl)
theorem dX0_isDog_6 : decode cX0_isDog 6 = .ok (.iconst 1, 1) := dk_4 (dk_at dksX0_isDog_0 6 rfl rfl)
theorem dX0_isDog_7 : decode cX0_isDog 7 = .ok (.isub, 1) := dk_100 (dk_at dksX0_isDog_0 7 rfl rfl)
theorem dX0_isDog_8 : decode cX0_isDog 8 = .ok (.invokestatic 148, 3) := dk_184 0 148 (dk_at dksX0_isDog_0 8 rfl rfl)
theorem dX0_isDog_11 : decode cX0_isDog 11 = .ok (.ireturn, 1) := dk_172 (dk_at dksX0_isDog_0 11 rfl rfl)
abbrev cX0_person : ByteArray := prog_1_method_20_code
def yX0_person : MethodName := ⟨RX0, "person", "(II)I"⟩
def dkwX0_person_5 : List UInt8 := [27, 182, 0, 227, 172, 42, 180, 0, 55, 180, 0, 231, 27, 46, 172, 2, 172]
abbrev dktX0_person_5 : List UInt8 := dkwX0_person_5 ++ []
def dkwX0_person_4 : List UInt8 := [46, 172, 42, 180, 0, 55, 27, 182, 0, 224, 153, 0, 7, 4, 167, 0, 4, 3, 172, 42, 42, 180, 0, 55]
abbrev dktX0_person_4 : List UInt8 := dkwX0_person_4 ++ dktX0_person_5
def dkwX0_person_3 : List UInt8 := [180, 0, 218, 27, 46, 172, 42, 180, 0, 55, 180, 0, 175, 27, 46, 172, 42, 180, 0, 55, 180, 0, 221, 27]
abbrev dktX0_person_3 : List UInt8 := dkwX0_person_3 ++ dktX0_person_4
def dkwX0_person_2 : List UInt8 := [42, 180, 0, 44, 180, 0, 142, 27, 182, 0, 163, 192, 0, 213, 180, 0, 215, 172, 42, 180, 0, 55]
abbrev dktX0_person_2 : List UInt8 := dkwX0_person_2 ++ dktX0_person_3
def dkwX0_person_1 : List UInt8 := [170, 0, 0, 0, 126, 0, 0, 0, 0, 0, 0, 0, 6, 0, 0, 0, 41, 0, 0, 0, 59, 0, 0, 0, 69, 0, 0, 0, 79, 0, 0, 0, 89, 0, 0, 0, 106, 0, 0, 0, 116]
abbrev dktX0_person_1 : List UInt8 := dkwX0_person_1 ++ dktX0_person_2
def dkwX0_person_0 : List UInt8 := [42, 27, 182, 0, 210, 154, 0, 5, 2, 172, 28]
abbrev dktX0_person_0 : List UInt8 := dkwX0_person_0 ++ dktX0_person_1
theorem dksX0_person_0 : cX0_person.data.toList.drop 0 = dktX0_person_0 := by decide +kernel
theorem dksX0_person_1 : cX0_person.data.toList.drop 11 = dktX0_person_1 := dk_seg dksX0_person_0 11 rfl rfl
theorem dksX0_person_2 : cX0_person.data.toList.drop 52 = dktX0_person_2 := dk_seg dksX0_person_1 41 rfl rfl
theorem dksX0_person_3 : cX0_person.data.toList.drop 74 = dktX0_person_3 := dk_seg dksX0_person_2 22 rfl rfl
theorem dksX0_person_4 : cX0_person.data.toList.drop 98 = dktX0_person_4 := dk_seg dksX0_person_3 24 rfl rfl
theorem dksX0_person_5 : cX0_person.data.toList.drop 122 = dktX0_person_5 := dk_seg dksX0_person_4 24 rfl rfl
theorem dX0_person_0 : decode cX0_person 0 = .ok (.aload_n 0, 1) := dk_42 (dk_at dksX0_person_0 0 rfl rfl)
theorem dX0_person_1 : decode cX0_person 1 = .ok (.iload_n 1, 1) := dk_27 (dk_at dksX0_person_0 1 rfl rfl)
theorem dX0_person_2 : decode cX0_person 2 = .ok (.invokevirtual 210, 3) := dk_182 0 210 (dk_at dksX0_person_0 2 rfl rfl)
theorem dX0_person_5 : decode cX0_person 5 = .ok (.ifCond .ne 5, 3) := dk_154 0 5 (dk_at dksX0_person_0 5 rfl rfl)
theorem dX0_person_8 : decode cX0_person 8 = .ok (.iconst (-1), 1) := dk_2 (dk_at dksX0_person_0 8 rfl rfl)
theorem dX0_person_9 : decode cX0_person 9 = .ok (.ireturn, 1) := dk_172 (dk_at dksX0_person_0 9 rfl rfl)
theorem dX0_person_10 : decode cX0_person 10 = .ok (.iload_n 2, 1) := dk_28 (dk_at dksX0_person_0 10 rfl rfl)
theorem dX0_person_11 : decode cX0_person 11 = .ok (.tableswitch 126 0 6 #[41, 59, 69, 79, 89, 106, 116], 41) := by decide +kernel
theorem dX0_person_52 : decode cX0_person 52 = .ok (.aload_n 0, 1) := dk_42 (dk_at dksX0_person_2 0 rfl rfl)
theorem dX0_person_53 : decode cX0_person 53 = .ok (.getfield 44, 3) := dk_180 0 44 (dk_at dksX0_person_2 1 rfl rfl)
theorem dX0_person_56 : decode cX0_person 56 = .ok (.getfield 142, 3) := dk_180 0 142 (dk_at dksX0_person_2 4 rfl rfl)
theorem dX0_person_59 : decode cX0_person 59 = .ok (.iload_n 1, 1) := dk_27 (dk_at dksX0_person_2 7 rfl rfl)
theorem dX0_person_60 : decode cX0_person 60 = .ok (.invokevirtual 163, 3) := dk_182 0 163 (dk_at dksX0_person_2 8 rfl rfl)
theorem dX0_person_63 : decode cX0_person 63 = .ok (.checkcast 213, 3) := dk_192 0 213 (dk_at dksX0_person_2 11 rfl rfl)
theorem dX0_person_66 : decode cX0_person 66 = .ok (.getfield 215, 3) := dk_180 0 215 (dk_at dksX0_person_2 14 rfl rfl)
theorem dX0_person_69 : decode cX0_person 69 = .ok (.ireturn, 1) := dk_172 (dk_at dksX0_person_2 17 rfl rfl)
theorem dX0_person_70 : decode cX0_person 70 = .ok (.aload_n 0, 1) := dk_42 (dk_at dksX0_person_2 18 rfl rfl)
theorem dX0_person_71 : decode cX0_person 71 = .ok (.getfield 55, 3) := dk_180 0 55 (dk_at dksX0_person_2 19 rfl rfl)
theorem dX0_person_74 : decode cX0_person 74 = .ok (.getfield 218, 3) := dk_180 0 218 (dk_at dksX0_person_3 0 rfl rfl)
theorem dX0_person_77 : decode cX0_person 77 = .ok (.iload_n 1, 1) := dk_27 (dk_at dksX0_person_3 3 rfl rfl)
theorem dX0_person_78 : decode cX0_person 78 = .ok (.iaload, 1) := dk_46 (dk_at dksX0_person_3 4 rfl rfl)
theorem dX0_person_79 : decode cX0_person 79 = .ok (.ireturn, 1) := dk_172 (dk_at dksX0_person_3 5 rfl rfl)
theorem dX0_person_80 : decode cX0_person 80 = .ok (.aload_n 0, 1) := dk_42 (dk_at dksX0_person_3 6 rfl rfl)
theorem dX0_person_81 : decode cX0_person 81 = .ok (.getfield 55, 3) := dk_180 0 55 (dk_at dksX0_person_3 7 rfl rfl)
theorem dX0_person_84 : decode cX0_person 84 = .ok (.getfield 175, 3) := dk_180 0 175 (dk_at dksX0_person_3 10 rfl rfl)
theorem dX0_person_87 : decode cX0_person 87 = .ok (.iload_n 1, 1) := dk_27 (dk_at dksX0_person_3 13 rfl rfl)
theorem dX0_person_88 : decode cX0_person 88 = .ok (.iaload, 1) := dk_46 (dk_at dksX0_person_3 14 rfl rfl)
theorem dX0_person_89 : decode cX0_person 89 = .ok (.ireturn, 1) := dk_172 (dk_at dksX0_person_3 15 rfl rfl)
theorem dX0_person_90 : decode cX0_person 90 = .ok (.aload_n 0, 1) := dk_42 (dk_at dksX0_person_3 16 rfl rfl)
theorem dX0_person_91 : decode cX0_person 91 = .ok (.getfield 55, 3) := dk_180 0 55 (dk_at dksX0_person_3 17 rfl rfl)
theorem dX0_person_94 : decode cX0_person 94 = .ok (.getfield 221, 3) := dk_180 0 221 (dk_at dksX0_person_3 20 rfl rfl)
theorem dX0_person_97 : decode cX0_person 97 = .ok (.iload_n 1, 1) := dk_27 (dk_at dksX0_person_3 23 rfl rfl)
theorem dX0_person_98 : decode cX0_person 98 = .ok (.iaload, 1) := dk_46 (dk_at dksX0_person_4 0 rfl rfl)
theorem dX0_person_99 : decode cX0_person 99 = .ok (.ireturn, 1) := dk_172 (dk_at dksX0_person_4 1 rfl rfl)
theorem dX0_person_100 : decode cX0_person 100 = .ok (.aload_n 0, 1) := dk_42 (dk_at dksX0_person_4 2 rfl rfl)
theorem dX0_person_101 : decode cX0_person 101 = .ok (.getfield 55, 3) := dk_180 0 55 (dk_at dksX0_person_4 3 rfl rfl)
theorem dX0_person_104 : decode cX0_person 104 = .ok (.iload_n 1, 1) := dk_27 (dk_at dksX0_person_4 6 rfl rfl)
theorem dX0_person_105 : decode cX0_person 105 = .ok (.invokevirtual 224, 3) := dk_182 0 224 (dk_at dksX0_person_4 7 rfl rfl)
theorem dX0_person_108 : decode cX0_person 108 = .ok (.ifCond .eq 7, 3) := dk_153 0 7 (dk_at dksX0_person_4 10 rfl rfl)
theorem dX0_person_111 : decode cX0_person 111 = .ok (.iconst 1, 1) := dk_4 (dk_at dksX0_person_4 13 rfl rfl)
theorem dX0_person_112 : decode cX0_person 112 = .ok (.goto 4, 3) := dk_167 0 4 (dk_at dksX0_person_4 14 rfl rfl)
theorem dX0_person_115 : decode cX0_person 115 = .ok (.iconst 0, 1) := dk_3 (dk_at dksX0_person_4 17 rfl rfl)
theorem dX0_person_116 : decode cX0_person 116 = .ok (.ireturn, 1) := dk_172 (dk_at dksX0_person_4 18 rfl rfl)
theorem dX0_person_117 : decode cX0_person 117 = .ok (.aload_n 0, 1) := dk_42 (dk_at dksX0_person_4 19 rfl rfl)
theorem dX0_person_118 : decode cX0_person 118 = .ok (.aload_n 0, 1) := dk_42 (dk_at dksX0_person_4 20 rfl rfl)
theorem dX0_person_119 : decode cX0_person 119 = .ok (.getfield 55, 3) := dk_180 0 55 (dk_at dksX0_person_4 21 rfl rfl)
theorem dX0_person_122 : decode cX0_person 122 = .ok (.iload_n 1, 1) := dk_27 (dk_at dksX0_person_5 0 rfl rfl)
theorem dX0_person_123 : decode cX0_person 123 = .ok (.invokevirtual 227, 3) := dk_182 0 227 (dk_at dksX0_person_5 1 rfl rfl)
theorem dX0_person_126 : decode cX0_person 126 = .ok (.ireturn, 1) := dk_172 (dk_at dksX0_person_5 4 rfl rfl)
theorem dX0_person_127 : decode cX0_person 127 = .ok (.aload_n 0, 1) := dk_42 (dk_at dksX0_person_5 5 rfl rfl)
theorem dX0_person_128 : decode cX0_person 128 = .ok (.getfield 55, 3) := dk_180 0 55 (dk_at dksX0_person_5 6 rfl rfl)
theorem dX0_person_131 : decode cX0_person 131 = .ok (.getfield 231, 3) := dk_180 0 231 (dk_at dksX0_person_5 9 rfl rfl)
theorem dX0_person_134 : decode cX0_person 134 = .ok (.iload_n 1, 1) := dk_27 (dk_at dksX0_person_5 12 rfl rfl)
theorem dX0_person_135 : decode cX0_person 135 = .ok (.iaload, 1) := dk_46 (dk_at dksX0_person_5 13 rfl rfl)
theorem dX0_person_136 : decode cX0_person 136 = .ok (.ireturn, 1) := dk_172 (dk_at dksX0_person_5 14 rfl rfl)
theorem dX0_person_137 : decode cX0_person 137 = .ok (.iconst (-1), 1) := dk_2 (dk_at dksX0_person_5 15 rfl rfl)
theorem dX0_person_138 : decode cX0_person 138 = .ok (.ireturn, 1) := dk_172 (dk_at dksX0_person_5 16 rfl rfl)
abbrev cX0_isPerson : ByteArray := prog_1_method_14_code
def yX0_isPerson : MethodName := ⟨RX0, "isPerson", "(I)Z"⟩
def dkwX0_isPerson_0 : List UInt8 := [27, 3, 42, 182, 0, 154, 4, 100, 184, 0, 148, 172]
abbrev dktX0_isPerson_0 : List UInt8 := dkwX0_isPerson_0 ++ []
theorem dksX0_isPerson_0 : cX0_isPerson.data.toList.drop 0 = dktX0_isPerson_0 := by decide +kernel
theorem dX0_isPerson_0 : decode cX0_isPerson 0 = .ok (.iload_n 1, 1) := dk_27 (dk_at dksX0_isPerson_0 0 rfl rfl)
theorem dX0_isPerson_1 : decode cX0_isPerson 1 = .ok (.iconst 0, 1) := dk_3 (dk_at dksX0_isPerson_0 1 rfl rfl)
theorem dX0_isPerson_2 : decode cX0_isPerson 2 = .ok (.aload_n 0, 1) := dk_42 (dk_at dksX0_isPerson_0 2 rfl rfl)
theorem dX0_isPerson_3 : decode cX0_isPerson 3 = .ok (.invokevirtual 154, 3) := dk_182 0 154 (dk_at dksX0_isPerson_0 3 rfl rfl)
theorem dX0_isPerson_6 : decode cX0_isPerson 6 = .ok (.iconst 1, 1) := dk_4 (dk_at dksX0_isPerson_0 6 rfl rfl)
theorem dX0_isPerson_7 : decode cX0_isPerson 7 = .ok (.isub, 1) := dk_100 (dk_at dksX0_isPerson_0 7 rfl rfl)
theorem dX0_isPerson_8 : decode cX0_isPerson 8 = .ok (.invokestatic 148, 3) := dk_184 0 148 (dk_at dksX0_isPerson_0 8 rfl rfl)
theorem dX0_isPerson_11 : decode cX0_isPerson 11 = .ok (.ireturn, 1) := dk_172 (dk_at dksX0_isPerson_0 11 rfl rfl)
abbrev cX0_leftOf : ByteArray := prog_1_method_19_code
def yX0_leftOf : MethodName := ⟨RX0, "leftOf", "(LDogsHour$Town;I)I"⟩
def dkwX0_leftOf_2 : List UInt8 := [167, 0, 4, 3, 96, 62, 132, 4, 1, 167, 255, 207, 29, 172]
abbrev dktX0_leftOf_2 : List UInt8 := dkwX0_leftOf_2 ++ []
def dkwX0_leftOf_1 : List UInt8 := [180, 0, 207, 21, 4, 46, 28, 160, 0, 19, 43, 180, 0, 156, 21, 4, 122, 4, 126, 154, 0, 7, 4]
abbrev dktX0_leftOf_1 : List UInt8 := dkwX0_leftOf_1 ++ dktX0_leftOf_2
def dkwX0_leftOf_0 : List UInt8 := [3, 62, 3, 54, 4, 21, 4, 42, 180, 0, 44, 180, 0, 178, 162, 0, 43, 29, 42, 180, 0, 44]
abbrev dktX0_leftOf_0 : List UInt8 := dkwX0_leftOf_0 ++ dktX0_leftOf_1
theorem dksX0_leftOf_0 : cX0_leftOf.data.toList.drop 0 = dktX0_leftOf_0 := by decide +kernel
theorem dksX0_leftOf_1 : cX0_leftOf.data.toList.drop 22 = dktX0_leftOf_1 := dk_seg dksX0_leftOf_0 22 rfl rfl
theorem dksX0_leftOf_2 : cX0_leftOf.data.toList.drop 45 = dktX0_leftOf_2 := dk_seg dksX0_leftOf_1 23 rfl rfl
theorem dX0_leftOf_0 : decode cX0_leftOf 0 = .ok (.iconst 0, 1) := dk_3 (dk_at dksX0_leftOf_0 0 rfl rfl)
theorem dX0_leftOf_1 : decode cX0_leftOf 1 = .ok (.istore_n 3, 1) := dk_62 (dk_at dksX0_leftOf_0 1 rfl rfl)
theorem dX0_leftOf_2 : decode cX0_leftOf 2 = .ok (.iconst 0, 1) := dk_3 (dk_at dksX0_leftOf_0 2 rfl rfl)
theorem dX0_leftOf_3 : decode cX0_leftOf 3 = .ok (.istore 4, 2) := dk_54 4 (dk_at dksX0_leftOf_0 3 rfl rfl)
theorem dX0_leftOf_5 : decode cX0_leftOf 5 = .ok (.iload 4, 2) := dk_21 4 (dk_at dksX0_leftOf_0 5 rfl rfl)
theorem dX0_leftOf_7 : decode cX0_leftOf 7 = .ok (.aload_n 0, 1) := dk_42 (dk_at dksX0_leftOf_0 7 rfl rfl)
theorem dX0_leftOf_8 : decode cX0_leftOf 8 = .ok (.getfield 44, 3) := dk_180 0 44 (dk_at dksX0_leftOf_0 8 rfl rfl)
theorem dX0_leftOf_11 : decode cX0_leftOf 11 = .ok (.getfield 178, 3) := dk_180 0 178 (dk_at dksX0_leftOf_0 11 rfl rfl)
theorem dX0_leftOf_14 : decode cX0_leftOf 14 = .ok (.if_icmp .ge 43, 3) := dk_162 0 43 (dk_at dksX0_leftOf_0 14 rfl rfl)
theorem dX0_leftOf_17 : decode cX0_leftOf 17 = .ok (.iload_n 3, 1) := dk_29 (dk_at dksX0_leftOf_0 17 rfl rfl)
theorem dX0_leftOf_18 : decode cX0_leftOf 18 = .ok (.aload_n 0, 1) := dk_42 (dk_at dksX0_leftOf_0 18 rfl rfl)
theorem dX0_leftOf_19 : decode cX0_leftOf 19 = .ok (.getfield 44, 3) := dk_180 0 44 (dk_at dksX0_leftOf_0 19 rfl rfl)
theorem dX0_leftOf_22 : decode cX0_leftOf 22 = .ok (.getfield 207, 3) := dk_180 0 207 (dk_at dksX0_leftOf_1 0 rfl rfl)
theorem dX0_leftOf_25 : decode cX0_leftOf 25 = .ok (.iload 4, 2) := dk_21 4 (dk_at dksX0_leftOf_1 3 rfl rfl)
theorem dX0_leftOf_27 : decode cX0_leftOf 27 = .ok (.iaload, 1) := dk_46 (dk_at dksX0_leftOf_1 5 rfl rfl)
theorem dX0_leftOf_28 : decode cX0_leftOf 28 = .ok (.iload_n 2, 1) := dk_28 (dk_at dksX0_leftOf_1 6 rfl rfl)
theorem dX0_leftOf_29 : decode cX0_leftOf 29 = .ok (.if_icmp .ne 19, 3) := dk_160 0 19 (dk_at dksX0_leftOf_1 7 rfl rfl)
theorem dX0_leftOf_32 : decode cX0_leftOf 32 = .ok (.aload_n 1, 1) := dk_43 (dk_at dksX0_leftOf_1 10 rfl rfl)
theorem dX0_leftOf_33 : decode cX0_leftOf 33 = .ok (.getfield 156, 3) := dk_180 0 156 (dk_at dksX0_leftOf_1 11 rfl rfl)
theorem dX0_leftOf_36 : decode cX0_leftOf 36 = .ok (.iload 4, 2) := dk_21 4 (dk_at dksX0_leftOf_1 14 rfl rfl)
theorem dX0_leftOf_38 : decode cX0_leftOf 38 = .ok (.ishr, 1) := dk_122 (dk_at dksX0_leftOf_1 16 rfl rfl)
theorem dX0_leftOf_39 : decode cX0_leftOf 39 = .ok (.iconst 1, 1) := dk_4 (dk_at dksX0_leftOf_1 17 rfl rfl)
theorem dX0_leftOf_40 : decode cX0_leftOf 40 = .ok (.iand, 1) := dk_126 (dk_at dksX0_leftOf_1 18 rfl rfl)
theorem dX0_leftOf_41 : decode cX0_leftOf 41 = .ok (.ifCond .ne 7, 3) := dk_154 0 7 (dk_at dksX0_leftOf_1 19 rfl rfl)
theorem dX0_leftOf_44 : decode cX0_leftOf 44 = .ok (.iconst 1, 1) := dk_4 (dk_at dksX0_leftOf_1 22 rfl rfl)
theorem dX0_leftOf_45 : decode cX0_leftOf 45 = .ok (.goto 4, 3) := dk_167 0 4 (dk_at dksX0_leftOf_2 0 rfl rfl)
theorem dX0_leftOf_48 : decode cX0_leftOf 48 = .ok (.iconst 0, 1) := dk_3 (dk_at dksX0_leftOf_2 3 rfl rfl)
theorem dX0_leftOf_49 : decode cX0_leftOf 49 = .ok (.iadd, 1) := dk_96 (dk_at dksX0_leftOf_2 4 rfl rfl)
theorem dX0_leftOf_50 : decode cX0_leftOf 50 = .ok (.istore_n 3, 1) := dk_62 (dk_at dksX0_leftOf_2 5 rfl rfl)
theorem dX0_leftOf_51 : decode cX0_leftOf 51 = .ok (.iinc 4 1, 3) := dk_132 4 1 (dk_at dksX0_leftOf_2 6 rfl rfl)
theorem dX0_leftOf_54 : decode cX0_leftOf 54 = .ok (.goto (-49), 3) := dk_167 255 207 (dk_at dksX0_leftOf_2 9 rfl rfl)
theorem dX0_leftOf_57 : decode cX0_leftOf 57 = .ok (.iload_n 3, 1) := dk_29 (dk_at dksX0_leftOf_2 12 rfl rfl)
theorem dX0_leftOf_58 : decode cX0_leftOf 58 = .ok (.ireturn, 1) := dk_172 (dk_at dksX0_leftOf_2 13 rfl rfl)
abbrev cX0_mind : ByteArray := prog_1_method_21_code
def yX0_mind : MethodName := ⟨RX0, "mind", "(III)I"⟩
def dkwX0_mind_4 : List UInt8 := [182, 0, 245, 172, 42, 180, 0, 55, 42, 180, 0, 44, 27, 28, 182, 0, 248, 172, 18, 234, 172]
abbrev dktX0_mind_4 : List UInt8 := dkwX0_mind_4 ++ []
def dkwX0_mind_3 : List UInt8 := [42, 180, 0, 55, 42, 180, 0, 44, 27, 28, 182, 0, 241, 172, 42, 180, 0, 55, 42, 180, 0, 44, 27, 28]
abbrev dktX0_mind_3 : List UInt8 := dkwX0_mind_3 ++ dktX0_mind_4
def dkwX0_mind_2 : List UInt8 := [42, 180, 0, 55, 180, 0, 235, 27, 50, 28, 46, 172, 42, 180, 0, 55, 180, 0, 238, 27, 50, 28, 46, 172]
abbrev dktX0_mind_2 : List UInt8 := dkwX0_mind_2 ++ dktX0_mind_3
def dkwX0_mind_1 : List UInt8 := [170, 0, 0, 0, 0, 0, 0, 102, 0, 0, 0, 0, 0, 0, 0, 4, 0, 0, 0, 36, 0, 0, 0, 48, 0, 0, 0, 60, 0, 0, 0, 74, 0, 0, 0, 88]
abbrev dktX0_mind_1 : List UInt8 := dkwX0_mind_1 ++ dktX0_mind_2
def dkwX0_mind_0 : List UInt8 := [42, 27, 182, 0, 187, 153, 0, 11, 42, 28, 182, 0, 210, 154, 0, 6, 18, 234, 172, 29]
abbrev dktX0_mind_0 : List UInt8 := dkwX0_mind_0 ++ dktX0_mind_1
theorem dksX0_mind_0 : cX0_mind.data.toList.drop 0 = dktX0_mind_0 := by decide +kernel
theorem dksX0_mind_1 : cX0_mind.data.toList.drop 20 = dktX0_mind_1 := dk_seg dksX0_mind_0 20 rfl rfl
theorem dksX0_mind_2 : cX0_mind.data.toList.drop 56 = dktX0_mind_2 := dk_seg dksX0_mind_1 36 rfl rfl
theorem dksX0_mind_3 : cX0_mind.data.toList.drop 80 = dktX0_mind_3 := dk_seg dksX0_mind_2 24 rfl rfl
theorem dksX0_mind_4 : cX0_mind.data.toList.drop 104 = dktX0_mind_4 := dk_seg dksX0_mind_3 24 rfl rfl
theorem dX0_mind_0 : decode cX0_mind 0 = .ok (.aload_n 0, 1) := dk_42 (dk_at dksX0_mind_0 0 rfl rfl)
theorem dX0_mind_1 : decode cX0_mind 1 = .ok (.iload_n 1, 1) := dk_27 (dk_at dksX0_mind_0 1 rfl rfl)
theorem dX0_mind_2 : decode cX0_mind 2 = .ok (.invokevirtual 187, 3) := dk_182 0 187 (dk_at dksX0_mind_0 2 rfl rfl)
theorem dX0_mind_5 : decode cX0_mind 5 = .ok (.ifCond .eq 11, 3) := dk_153 0 11 (dk_at dksX0_mind_0 5 rfl rfl)
theorem dX0_mind_8 : decode cX0_mind 8 = .ok (.aload_n 0, 1) := dk_42 (dk_at dksX0_mind_0 8 rfl rfl)
theorem dX0_mind_9 : decode cX0_mind 9 = .ok (.iload_n 2, 1) := dk_28 (dk_at dksX0_mind_0 9 rfl rfl)
theorem dX0_mind_10 : decode cX0_mind 10 = .ok (.invokevirtual 210, 3) := dk_182 0 210 (dk_at dksX0_mind_0 10 rfl rfl)
theorem dX0_mind_13 : decode cX0_mind 13 = .ok (.ifCond .ne 6, 3) := dk_154 0 6 (dk_at dksX0_mind_0 13 rfl rfl)
theorem dX0_mind_16 : decode cX0_mind 16 = .ok (.ldc 234, 2) := dk_18 234 (dk_at dksX0_mind_0 16 rfl rfl)
theorem dX0_mind_18 : decode cX0_mind 18 = .ok (.ireturn, 1) := dk_172 (dk_at dksX0_mind_0 18 rfl rfl)
theorem dX0_mind_19 : decode cX0_mind 19 = .ok (.iload_n 3, 1) := dk_29 (dk_at dksX0_mind_0 19 rfl rfl)
theorem dX0_mind_20 : decode cX0_mind 20 = .ok (.tableswitch 102 0 4 #[36, 48, 60, 74, 88], 36) := by decide +kernel
theorem dX0_mind_56 : decode cX0_mind 56 = .ok (.aload_n 0, 1) := dk_42 (dk_at dksX0_mind_2 0 rfl rfl)
theorem dX0_mind_57 : decode cX0_mind 57 = .ok (.getfield 55, 3) := dk_180 0 55 (dk_at dksX0_mind_2 1 rfl rfl)
theorem dX0_mind_60 : decode cX0_mind 60 = .ok (.getfield 235, 3) := dk_180 0 235 (dk_at dksX0_mind_2 4 rfl rfl)
theorem dX0_mind_63 : decode cX0_mind 63 = .ok (.iload_n 1, 1) := dk_27 (dk_at dksX0_mind_2 7 rfl rfl)
theorem dX0_mind_64 : decode cX0_mind 64 = .ok (.aaload, 1) := dk_50 (dk_at dksX0_mind_2 8 rfl rfl)
theorem dX0_mind_65 : decode cX0_mind 65 = .ok (.iload_n 2, 1) := dk_28 (dk_at dksX0_mind_2 9 rfl rfl)
theorem dX0_mind_66 : decode cX0_mind 66 = .ok (.iaload, 1) := dk_46 (dk_at dksX0_mind_2 10 rfl rfl)
theorem dX0_mind_67 : decode cX0_mind 67 = .ok (.ireturn, 1) := dk_172 (dk_at dksX0_mind_2 11 rfl rfl)
theorem dX0_mind_68 : decode cX0_mind 68 = .ok (.aload_n 0, 1) := dk_42 (dk_at dksX0_mind_2 12 rfl rfl)
theorem dX0_mind_69 : decode cX0_mind 69 = .ok (.getfield 55, 3) := dk_180 0 55 (dk_at dksX0_mind_2 13 rfl rfl)
theorem dX0_mind_72 : decode cX0_mind 72 = .ok (.getfield 238, 3) := dk_180 0 238 (dk_at dksX0_mind_2 16 rfl rfl)
theorem dX0_mind_75 : decode cX0_mind 75 = .ok (.iload_n 1, 1) := dk_27 (dk_at dksX0_mind_2 19 rfl rfl)
theorem dX0_mind_76 : decode cX0_mind 76 = .ok (.aaload, 1) := dk_50 (dk_at dksX0_mind_2 20 rfl rfl)
theorem dX0_mind_77 : decode cX0_mind 77 = .ok (.iload_n 2, 1) := dk_28 (dk_at dksX0_mind_2 21 rfl rfl)
theorem dX0_mind_78 : decode cX0_mind 78 = .ok (.iaload, 1) := dk_46 (dk_at dksX0_mind_2 22 rfl rfl)
theorem dX0_mind_79 : decode cX0_mind 79 = .ok (.ireturn, 1) := dk_172 (dk_at dksX0_mind_2 23 rfl rfl)
theorem dX0_mind_80 : decode cX0_mind 80 = .ok (.aload_n 0, 1) := dk_42 (dk_at dksX0_mind_3 0 rfl rfl)
theorem dX0_mind_81 : decode cX0_mind 81 = .ok (.getfield 55, 3) := dk_180 0 55 (dk_at dksX0_mind_3 1 rfl rfl)
theorem dX0_mind_84 : decode cX0_mind 84 = .ok (.aload_n 0, 1) := dk_42 (dk_at dksX0_mind_3 4 rfl rfl)
theorem dX0_mind_85 : decode cX0_mind 85 = .ok (.getfield 44, 3) := dk_180 0 44 (dk_at dksX0_mind_3 5 rfl rfl)
theorem dX0_mind_88 : decode cX0_mind 88 = .ok (.iload_n 1, 1) := dk_27 (dk_at dksX0_mind_3 8 rfl rfl)
theorem dX0_mind_89 : decode cX0_mind 89 = .ok (.iload_n 2, 1) := dk_28 (dk_at dksX0_mind_3 9 rfl rfl)
theorem dX0_mind_90 : decode cX0_mind 90 = .ok (.invokevirtual 241, 3) := dk_182 0 241 (dk_at dksX0_mind_3 10 rfl rfl)
theorem dX0_mind_93 : decode cX0_mind 93 = .ok (.ireturn, 1) := dk_172 (dk_at dksX0_mind_3 13 rfl rfl)
theorem dX0_mind_94 : decode cX0_mind 94 = .ok (.aload_n 0, 1) := dk_42 (dk_at dksX0_mind_3 14 rfl rfl)
theorem dX0_mind_95 : decode cX0_mind 95 = .ok (.getfield 55, 3) := dk_180 0 55 (dk_at dksX0_mind_3 15 rfl rfl)
theorem dX0_mind_98 : decode cX0_mind 98 = .ok (.aload_n 0, 1) := dk_42 (dk_at dksX0_mind_3 18 rfl rfl)
theorem dX0_mind_99 : decode cX0_mind 99 = .ok (.getfield 44, 3) := dk_180 0 44 (dk_at dksX0_mind_3 19 rfl rfl)
theorem dX0_mind_102 : decode cX0_mind 102 = .ok (.iload_n 1, 1) := dk_27 (dk_at dksX0_mind_3 22 rfl rfl)
theorem dX0_mind_103 : decode cX0_mind 103 = .ok (.iload_n 2, 1) := dk_28 (dk_at dksX0_mind_3 23 rfl rfl)
theorem dX0_mind_104 : decode cX0_mind 104 = .ok (.invokevirtual 245, 3) := dk_182 0 245 (dk_at dksX0_mind_4 0 rfl rfl)
theorem dX0_mind_107 : decode cX0_mind 107 = .ok (.ireturn, 1) := dk_172 (dk_at dksX0_mind_4 3 rfl rfl)
theorem dX0_mind_108 : decode cX0_mind 108 = .ok (.aload_n 0, 1) := dk_42 (dk_at dksX0_mind_4 4 rfl rfl)
theorem dX0_mind_109 : decode cX0_mind 109 = .ok (.getfield 55, 3) := dk_180 0 55 (dk_at dksX0_mind_4 5 rfl rfl)
theorem dX0_mind_112 : decode cX0_mind 112 = .ok (.aload_n 0, 1) := dk_42 (dk_at dksX0_mind_4 8 rfl rfl)
theorem dX0_mind_113 : decode cX0_mind 113 = .ok (.getfield 44, 3) := dk_180 0 44 (dk_at dksX0_mind_4 9 rfl rfl)
theorem dX0_mind_116 : decode cX0_mind 116 = .ok (.iload_n 1, 1) := dk_27 (dk_at dksX0_mind_4 12 rfl rfl)
theorem dX0_mind_117 : decode cX0_mind 117 = .ok (.iload_n 2, 1) := dk_28 (dk_at dksX0_mind_4 13 rfl rfl)
theorem dX0_mind_118 : decode cX0_mind 118 = .ok (.invokevirtual 248, 3) := dk_182 0 248 (dk_at dksX0_mind_4 14 rfl rfl)
theorem dX0_mind_121 : decode cX0_mind 121 = .ok (.ireturn, 1) := dk_172 (dk_at dksX0_mind_4 17 rfl rfl)
theorem dX0_mind_122 : decode cX0_mind 122 = .ok (.ldc 234, 2) := dk_18 234 (dk_at dksX0_mind_4 18 rfl rfl)
theorem dX0_mind_124 : decode cX0_mind 124 = .ok (.ireturn, 1) := dk_172 (dk_at dksX0_mind_4 20 rfl rfl)
abbrev cX0_within : ByteArray := prog_1_method_1_code
def yX0_within : MethodName := ⟨RX0, "within", "(III)I"⟩
def dkwX0_within_0 : List UInt8 := [27, 28, 26, 184, 0, 1, 184, 0, 7, 172]
abbrev dktX0_within_0 : List UInt8 := dkwX0_within_0 ++ []
theorem dksX0_within_0 : cX0_within.data.toList.drop 0 = dktX0_within_0 := by decide +kernel
theorem dX0_within_0 : decode cX0_within 0 = .ok (.iload_n 1, 1) := dk_27 (dk_at dksX0_within_0 0 rfl rfl)
theorem dX0_within_1 : decode cX0_within 1 = .ok (.iload_n 2, 1) := dk_28 (dk_at dksX0_within_0 1 rfl rfl)
theorem dX0_within_2 : decode cX0_within 2 = .ok (.iload_n 0, 1) := dk_26 (dk_at dksX0_within_0 2 rfl rfl)
theorem dX0_within_3 : decode cX0_within 3 = .ok (.invokestatic 1, 3) := dk_184 0 1 (dk_at dksX0_within_0 3 rfl rfl)
theorem dX0_within_6 : decode cX0_within 6 = .ok (.invokestatic 7, 3) := dk_184 0 7 (dk_at dksX0_within_0 6 rfl rfl)
theorem dX0_within_9 : decode cX0_within 9 = .ok (.ireturn, 1) := dk_172 (dk_at dksX0_within_0 9 rfl rfl)
abbrev cX0_go : ByteArray := prog_1_method_23_code
def yX0_go : MethodName := ⟨RX0, "go", "(II)Z"⟩
def dkwX0_go_3 : List UInt8 := [180, 0, 221, 27, 29, 79, 4, 172]
abbrev dktX0_go_3 : List UInt8 := dkwX0_go_3 ++ []
def dkwX0_go_2 : List UInt8 := [42, 180, 0, 55, 180, 0, 221, 27, 46, 29, 160, 0, 5, 3, 172, 42, 182, 1, 2, 42, 180, 0, 55]
abbrev dktX0_go_2 : List UInt8 := dkwX0_go_2 ++ dktX0_go_3
def dkwX0_go_1 : List UInt8 := [180, 0, 55, 27, 182, 0, 224, 153, 0, 5, 3, 172, 28, 2, 160, 0, 8, 16, 254, 167, 0, 4, 28, 62]
abbrev dktX0_go_1 : List UInt8 := dkwX0_go_1 ++ dktX0_go_2
def dkwX0_go_0 : List UInt8 := [42, 27, 182, 0, 210, 153, 0, 27, 28, 2, 159, 0, 11, 42, 28, 182, 0, 159, 153, 0, 14, 42]
abbrev dktX0_go_0 : List UInt8 := dkwX0_go_0 ++ dktX0_go_1
theorem dksX0_go_0 : cX0_go.data.toList.drop 0 = dktX0_go_0 := by decide +kernel
theorem dksX0_go_1 : cX0_go.data.toList.drop 22 = dktX0_go_1 := dk_seg dksX0_go_0 22 rfl rfl
theorem dksX0_go_2 : cX0_go.data.toList.drop 46 = dktX0_go_2 := dk_seg dksX0_go_1 24 rfl rfl
theorem dksX0_go_3 : cX0_go.data.toList.drop 69 = dktX0_go_3 := dk_seg dksX0_go_2 23 rfl rfl
theorem dX0_go_0 : decode cX0_go 0 = .ok (.aload_n 0, 1) := dk_42 (dk_at dksX0_go_0 0 rfl rfl)
theorem dX0_go_1 : decode cX0_go 1 = .ok (.iload_n 1, 1) := dk_27 (dk_at dksX0_go_0 1 rfl rfl)
theorem dX0_go_2 : decode cX0_go 2 = .ok (.invokevirtual 210, 3) := dk_182 0 210 (dk_at dksX0_go_0 2 rfl rfl)
theorem dX0_go_5 : decode cX0_go 5 = .ok (.ifCond .eq 27, 3) := dk_153 0 27 (dk_at dksX0_go_0 5 rfl rfl)
theorem dX0_go_8 : decode cX0_go 8 = .ok (.iload_n 2, 1) := dk_28 (dk_at dksX0_go_0 8 rfl rfl)
theorem dX0_go_9 : decode cX0_go 9 = .ok (.iconst (-1), 1) := dk_2 (dk_at dksX0_go_0 9 rfl rfl)
theorem dX0_go_10 : decode cX0_go 10 = .ok (.if_icmp .eq 11, 3) := dk_159 0 11 (dk_at dksX0_go_0 10 rfl rfl)
theorem dX0_go_13 : decode cX0_go 13 = .ok (.aload_n 0, 1) := dk_42 (dk_at dksX0_go_0 13 rfl rfl)
theorem dX0_go_14 : decode cX0_go 14 = .ok (.iload_n 2, 1) := dk_28 (dk_at dksX0_go_0 14 rfl rfl)
theorem dX0_go_15 : decode cX0_go 15 = .ok (.invokevirtual 159, 3) := dk_182 0 159 (dk_at dksX0_go_0 15 rfl rfl)
theorem dX0_go_18 : decode cX0_go 18 = .ok (.ifCond .eq 14, 3) := dk_153 0 14 (dk_at dksX0_go_0 18 rfl rfl)
theorem dX0_go_21 : decode cX0_go 21 = .ok (.aload_n 0, 1) := dk_42 (dk_at dksX0_go_0 21 rfl rfl)
theorem dX0_go_22 : decode cX0_go 22 = .ok (.getfield 55, 3) := dk_180 0 55 (dk_at dksX0_go_1 0 rfl rfl)
theorem dX0_go_25 : decode cX0_go 25 = .ok (.iload_n 1, 1) := dk_27 (dk_at dksX0_go_1 3 rfl rfl)
theorem dX0_go_26 : decode cX0_go 26 = .ok (.invokevirtual 224, 3) := dk_182 0 224 (dk_at dksX0_go_1 4 rfl rfl)
theorem dX0_go_29 : decode cX0_go 29 = .ok (.ifCond .eq 5, 3) := dk_153 0 5 (dk_at dksX0_go_1 7 rfl rfl)
theorem dX0_go_32 : decode cX0_go 32 = .ok (.iconst 0, 1) := dk_3 (dk_at dksX0_go_1 10 rfl rfl)
theorem dX0_go_33 : decode cX0_go 33 = .ok (.ireturn, 1) := dk_172 (dk_at dksX0_go_1 11 rfl rfl)
theorem dX0_go_34 : decode cX0_go 34 = .ok (.iload_n 2, 1) := dk_28 (dk_at dksX0_go_1 12 rfl rfl)
theorem dX0_go_35 : decode cX0_go 35 = .ok (.iconst (-1), 1) := dk_2 (dk_at dksX0_go_1 13 rfl rfl)
theorem dX0_go_36 : decode cX0_go 36 = .ok (.if_icmp .ne 8, 3) := dk_160 0 8 (dk_at dksX0_go_1 14 rfl rfl)
theorem dX0_go_39 : decode cX0_go 39 = .ok (.bipush (-2), 2) := dk_16 254 (dk_at dksX0_go_1 17 rfl rfl)
theorem dX0_go_41 : decode cX0_go 41 = .ok (.goto 4, 3) := dk_167 0 4 (dk_at dksX0_go_1 19 rfl rfl)
theorem dX0_go_44 : decode cX0_go 44 = .ok (.iload_n 2, 1) := dk_28 (dk_at dksX0_go_1 22 rfl rfl)
theorem dX0_go_45 : decode cX0_go 45 = .ok (.istore_n 3, 1) := dk_62 (dk_at dksX0_go_1 23 rfl rfl)
theorem dX0_go_46 : decode cX0_go 46 = .ok (.aload_n 0, 1) := dk_42 (dk_at dksX0_go_2 0 rfl rfl)
theorem dX0_go_47 : decode cX0_go 47 = .ok (.getfield 55, 3) := dk_180 0 55 (dk_at dksX0_go_2 1 rfl rfl)
theorem dX0_go_50 : decode cX0_go 50 = .ok (.getfield 221, 3) := dk_180 0 221 (dk_at dksX0_go_2 4 rfl rfl)
theorem dX0_go_53 : decode cX0_go 53 = .ok (.iload_n 1, 1) := dk_27 (dk_at dksX0_go_2 7 rfl rfl)
theorem dX0_go_54 : decode cX0_go 54 = .ok (.iaload, 1) := dk_46 (dk_at dksX0_go_2 8 rfl rfl)
theorem dX0_go_55 : decode cX0_go 55 = .ok (.iload_n 3, 1) := dk_29 (dk_at dksX0_go_2 9 rfl rfl)
theorem dX0_go_56 : decode cX0_go 56 = .ok (.if_icmp .ne 5, 3) := dk_160 0 5 (dk_at dksX0_go_2 10 rfl rfl)
theorem dX0_go_59 : decode cX0_go 59 = .ok (.iconst 0, 1) := dk_3 (dk_at dksX0_go_2 13 rfl rfl)
theorem dX0_go_60 : decode cX0_go 60 = .ok (.ireturn, 1) := dk_172 (dk_at dksX0_go_2 14 rfl rfl)
theorem dX0_go_61 : decode cX0_go 61 = .ok (.aload_n 0, 1) := dk_42 (dk_at dksX0_go_2 15 rfl rfl)
theorem dX0_go_62 : decode cX0_go 62 = .ok (.invokevirtual 258, 3) := dk_182 1 2 (dk_at dksX0_go_2 16 rfl rfl)
theorem dX0_go_65 : decode cX0_go 65 = .ok (.aload_n 0, 1) := dk_42 (dk_at dksX0_go_2 19 rfl rfl)
theorem dX0_go_66 : decode cX0_go 66 = .ok (.getfield 55, 3) := dk_180 0 55 (dk_at dksX0_go_2 20 rfl rfl)
theorem dX0_go_69 : decode cX0_go 69 = .ok (.getfield 221, 3) := dk_180 0 221 (dk_at dksX0_go_3 0 rfl rfl)
theorem dX0_go_72 : decode cX0_go 72 = .ok (.iload_n 1, 1) := dk_27 (dk_at dksX0_go_3 3 rfl rfl)
theorem dX0_go_73 : decode cX0_go 73 = .ok (.iload_n 3, 1) := dk_29 (dk_at dksX0_go_3 4 rfl rfl)
theorem dX0_go_74 : decode cX0_go 74 = .ok (.iastore, 1) := dk_79 (dk_at dksX0_go_3 5 rfl rfl)
theorem dX0_go_75 : decode cX0_go 75 = .ok (.iconst 1, 1) := dk_4 (dk_at dksX0_go_3 6 rfl rfl)
theorem dX0_go_76 : decode cX0_go 76 = .ok (.ireturn, 1) := dk_172 (dk_at dksX0_go_3 7 rfl rfl)
abbrev cX0_keeps : ByteArray := prog_1_method_22_code
def yX0_keeps : MethodName := ⟨RX0, "keeps", "()V"⟩
def dkwX0_keeps_1 : List UInt8 := [16, 40, 112, 181, 0, 251, 42, 16, 40, 42, 180, 0, 119, 4, 96, 184, 0, 1, 181, 0, 119, 177]
abbrev dktX0_keeps_1 : List UInt8 := dkwX0_keeps_1 ++ []
def dkwX0_keeps_0 : List UInt8 := [42, 180, 0, 62, 42, 180, 0, 251, 50, 42, 180, 0, 55, 182, 0, 254, 42, 42, 180, 0, 251, 4, 96]
abbrev dktX0_keeps_0 : List UInt8 := dkwX0_keeps_0 ++ dktX0_keeps_1
theorem dksX0_keeps_0 : cX0_keeps.data.toList.drop 0 = dktX0_keeps_0 := by decide +kernel
theorem dksX0_keeps_1 : cX0_keeps.data.toList.drop 23 = dktX0_keeps_1 := dk_seg dksX0_keeps_0 23 rfl rfl
theorem dX0_keeps_0 : decode cX0_keeps 0 = .ok (.aload_n 0, 1) := dk_42 (dk_at dksX0_keeps_0 0 rfl rfl)
theorem dX0_keeps_1 : decode cX0_keeps 1 = .ok (.getfield 62, 3) := dk_180 0 62 (dk_at dksX0_keeps_0 1 rfl rfl)
theorem dX0_keeps_4 : decode cX0_keeps 4 = .ok (.aload_n 0, 1) := dk_42 (dk_at dksX0_keeps_0 4 rfl rfl)
theorem dX0_keeps_5 : decode cX0_keeps 5 = .ok (.getfield 251, 3) := dk_180 0 251 (dk_at dksX0_keeps_0 5 rfl rfl)
theorem dX0_keeps_8 : decode cX0_keeps 8 = .ok (.aaload, 1) := dk_50 (dk_at dksX0_keeps_0 8 rfl rfl)
theorem dX0_keeps_9 : decode cX0_keeps 9 = .ok (.aload_n 0, 1) := dk_42 (dk_at dksX0_keeps_0 9 rfl rfl)
theorem dX0_keeps_10 : decode cX0_keeps 10 = .ok (.getfield 55, 3) := dk_180 0 55 (dk_at dksX0_keeps_0 10 rfl rfl)
theorem dX0_keeps_13 : decode cX0_keeps 13 = .ok (.invokevirtual 254, 3) := dk_182 0 254 (dk_at dksX0_keeps_0 13 rfl rfl)
theorem dX0_keeps_16 : decode cX0_keeps 16 = .ok (.aload_n 0, 1) := dk_42 (dk_at dksX0_keeps_0 16 rfl rfl)
theorem dX0_keeps_17 : decode cX0_keeps 17 = .ok (.aload_n 0, 1) := dk_42 (dk_at dksX0_keeps_0 17 rfl rfl)
theorem dX0_keeps_18 : decode cX0_keeps 18 = .ok (.getfield 251, 3) := dk_180 0 251 (dk_at dksX0_keeps_0 18 rfl rfl)
theorem dX0_keeps_21 : decode cX0_keeps 21 = .ok (.iconst 1, 1) := dk_4 (dk_at dksX0_keeps_0 21 rfl rfl)
theorem dX0_keeps_22 : decode cX0_keeps 22 = .ok (.iadd, 1) := dk_96 (dk_at dksX0_keeps_0 22 rfl rfl)
theorem dX0_keeps_23 : decode cX0_keeps 23 = .ok (.bipush 40, 2) := dk_16 40 (dk_at dksX0_keeps_1 0 rfl rfl)
theorem dX0_keeps_25 : decode cX0_keeps 25 = .ok (.irem, 1) := dk_112 (dk_at dksX0_keeps_1 2 rfl rfl)
theorem dX0_keeps_26 : decode cX0_keeps 26 = .ok (.putfield 251, 3) := dk_181 0 251 (dk_at dksX0_keeps_1 3 rfl rfl)
theorem dX0_keeps_29 : decode cX0_keeps 29 = .ok (.aload_n 0, 1) := dk_42 (dk_at dksX0_keeps_1 6 rfl rfl)
theorem dX0_keeps_30 : decode cX0_keeps 30 = .ok (.bipush 40, 2) := dk_16 40 (dk_at dksX0_keeps_1 7 rfl rfl)
theorem dX0_keeps_32 : decode cX0_keeps 32 = .ok (.aload_n 0, 1) := dk_42 (dk_at dksX0_keeps_1 9 rfl rfl)
theorem dX0_keeps_33 : decode cX0_keeps 33 = .ok (.getfield 119, 3) := dk_180 0 119 (dk_at dksX0_keeps_1 10 rfl rfl)
theorem dX0_keeps_36 : decode cX0_keeps 36 = .ok (.iconst 1, 1) := dk_4 (dk_at dksX0_keeps_1 13 rfl rfl)
theorem dX0_keeps_37 : decode cX0_keeps 37 = .ok (.iadd, 1) := dk_96 (dk_at dksX0_keeps_1 14 rfl rfl)
theorem dX0_keeps_38 : decode cX0_keeps 38 = .ok (.invokestatic 1, 3) := dk_184 0 1 (dk_at dksX0_keeps_1 15 rfl rfl)
theorem dX0_keeps_41 : decode cX0_keeps 41 = .ok (.putfield 119, 3) := dk_181 0 119 (dk_at dksX0_keeps_1 18 rfl rfl)
theorem dX0_keeps_44 : decode cX0_keeps 44 = .ok (.return_, 1) := dk_177 (dk_at dksX0_keeps_1 21 rfl rfl)
abbrev cX0_give : ByteArray := prog_1_method_25_code
def yX0_give : MethodName := ⟨RX0, "give", "(III)I"⟩
def dkwX0_give_4 : List UInt8 := [180, 0, 235, 28, 50, 27, 92, 46, 29, 96, 79, 42, 180, 0, 55, 180, 0, 235, 28, 50, 27, 46, 172]
abbrev dktX0_give_4 : List UInt8 := dkwX0_give_4 ++ []
def dkwX0_give_3 : List UInt8 := [172, 42, 182, 1, 2, 42, 180, 0, 55, 180, 0, 218, 27, 92, 46, 29, 100, 79, 42, 180, 0, 55]
abbrev dktX0_give_3 : List UInt8 := dkwX0_give_3 ++ dktX0_give_4
def dkwX0_give_2 : List UInt8 := [161, 0, 22, 42, 180, 0, 55, 180, 0, 235, 28, 50, 27, 46, 29, 96, 17, 3, 231, 164, 0, 6, 16, 254]
abbrev dktX0_give_2 : List UInt8 := dkwX0_give_2 ++ dktX0_give_3
def dkwX0_give_1 : List UInt8 := [154, 0, 5, 2, 172, 42, 27, 28, 182, 1, 5, 153, 0, 35, 42, 180, 0, 55, 180, 0, 218, 27, 46, 29]
abbrev dktX0_give_1 : List UInt8 := dkwX0_give_1 ++ dktX0_give_2
def dkwX0_give_0 : List UInt8 := [42, 27, 182, 0, 210, 153, 0, 21, 42, 28, 182, 0, 187, 153, 0, 13, 29, 4, 16, 99, 184, 0, 148]
abbrev dktX0_give_0 : List UInt8 := dkwX0_give_0 ++ dktX0_give_1
theorem dksX0_give_0 : cX0_give.data.toList.drop 0 = dktX0_give_0 := by decide +kernel
theorem dksX0_give_1 : cX0_give.data.toList.drop 23 = dktX0_give_1 := dk_seg dksX0_give_0 23 rfl rfl
theorem dksX0_give_2 : cX0_give.data.toList.drop 47 = dktX0_give_2 := dk_seg dksX0_give_1 24 rfl rfl
theorem dksX0_give_3 : cX0_give.data.toList.drop 71 = dktX0_give_3 := dk_seg dksX0_give_2 24 rfl rfl
theorem dksX0_give_4 : cX0_give.data.toList.drop 93 = dktX0_give_4 := dk_seg dksX0_give_3 22 rfl rfl
theorem dX0_give_0 : decode cX0_give 0 = .ok (.aload_n 0, 1) := dk_42 (dk_at dksX0_give_0 0 rfl rfl)
theorem dX0_give_1 : decode cX0_give 1 = .ok (.iload_n 1, 1) := dk_27 (dk_at dksX0_give_0 1 rfl rfl)
theorem dX0_give_2 : decode cX0_give 2 = .ok (.invokevirtual 210, 3) := dk_182 0 210 (dk_at dksX0_give_0 2 rfl rfl)
theorem dX0_give_5 : decode cX0_give 5 = .ok (.ifCond .eq 21, 3) := dk_153 0 21 (dk_at dksX0_give_0 5 rfl rfl)
theorem dX0_give_8 : decode cX0_give 8 = .ok (.aload_n 0, 1) := dk_42 (dk_at dksX0_give_0 8 rfl rfl)
theorem dX0_give_9 : decode cX0_give 9 = .ok (.iload_n 2, 1) := dk_28 (dk_at dksX0_give_0 9 rfl rfl)
theorem dX0_give_10 : decode cX0_give 10 = .ok (.invokevirtual 187, 3) := dk_182 0 187 (dk_at dksX0_give_0 10 rfl rfl)
theorem dX0_give_13 : decode cX0_give 13 = .ok (.ifCond .eq 13, 3) := dk_153 0 13 (dk_at dksX0_give_0 13 rfl rfl)
theorem dX0_give_16 : decode cX0_give 16 = .ok (.iload_n 3, 1) := dk_29 (dk_at dksX0_give_0 16 rfl rfl)
theorem dX0_give_17 : decode cX0_give 17 = .ok (.iconst 1, 1) := dk_4 (dk_at dksX0_give_0 17 rfl rfl)
theorem dX0_give_18 : decode cX0_give 18 = .ok (.bipush 99, 2) := dk_16 99 (dk_at dksX0_give_0 18 rfl rfl)
theorem dX0_give_20 : decode cX0_give 20 = .ok (.invokestatic 148, 3) := dk_184 0 148 (dk_at dksX0_give_0 20 rfl rfl)
theorem dX0_give_23 : decode cX0_give 23 = .ok (.ifCond .ne 5, 3) := dk_154 0 5 (dk_at dksX0_give_1 0 rfl rfl)
theorem dX0_give_26 : decode cX0_give 26 = .ok (.iconst (-1), 1) := dk_2 (dk_at dksX0_give_1 3 rfl rfl)
theorem dX0_give_27 : decode cX0_give 27 = .ok (.ireturn, 1) := dk_172 (dk_at dksX0_give_1 4 rfl rfl)
theorem dX0_give_28 : decode cX0_give 28 = .ok (.aload_n 0, 1) := dk_42 (dk_at dksX0_give_1 5 rfl rfl)
theorem dX0_give_29 : decode cX0_give 29 = .ok (.iload_n 1, 1) := dk_27 (dk_at dksX0_give_1 6 rfl rfl)
theorem dX0_give_30 : decode cX0_give 30 = .ok (.iload_n 2, 1) := dk_28 (dk_at dksX0_give_1 7 rfl rfl)
theorem dX0_give_31 : decode cX0_give 31 = .ok (.invokevirtual 261, 3) := dk_182 1 5 (dk_at dksX0_give_1 8 rfl rfl)
theorem dX0_give_34 : decode cX0_give 34 = .ok (.ifCond .eq 35, 3) := dk_153 0 35 (dk_at dksX0_give_1 11 rfl rfl)
theorem dX0_give_37 : decode cX0_give 37 = .ok (.aload_n 0, 1) := dk_42 (dk_at dksX0_give_1 14 rfl rfl)
theorem dX0_give_38 : decode cX0_give 38 = .ok (.getfield 55, 3) := dk_180 0 55 (dk_at dksX0_give_1 15 rfl rfl)
theorem dX0_give_41 : decode cX0_give 41 = .ok (.getfield 218, 3) := dk_180 0 218 (dk_at dksX0_give_1 18 rfl rfl)
theorem dX0_give_44 : decode cX0_give 44 = .ok (.iload_n 1, 1) := dk_27 (dk_at dksX0_give_1 21 rfl rfl)
theorem dX0_give_45 : decode cX0_give 45 = .ok (.iaload, 1) := dk_46 (dk_at dksX0_give_1 22 rfl rfl)
theorem dX0_give_46 : decode cX0_give 46 = .ok (.iload_n 3, 1) := dk_29 (dk_at dksX0_give_1 23 rfl rfl)
theorem dX0_give_47 : decode cX0_give 47 = .ok (.if_icmp .lt 22, 3) := dk_161 0 22 (dk_at dksX0_give_2 0 rfl rfl)
theorem dX0_give_50 : decode cX0_give 50 = .ok (.aload_n 0, 1) := dk_42 (dk_at dksX0_give_2 3 rfl rfl)
theorem dX0_give_51 : decode cX0_give 51 = .ok (.getfield 55, 3) := dk_180 0 55 (dk_at dksX0_give_2 4 rfl rfl)
theorem dX0_give_54 : decode cX0_give 54 = .ok (.getfield 235, 3) := dk_180 0 235 (dk_at dksX0_give_2 7 rfl rfl)
theorem dX0_give_57 : decode cX0_give 57 = .ok (.iload_n 2, 1) := dk_28 (dk_at dksX0_give_2 10 rfl rfl)
theorem dX0_give_58 : decode cX0_give 58 = .ok (.aaload, 1) := dk_50 (dk_at dksX0_give_2 11 rfl rfl)
theorem dX0_give_59 : decode cX0_give 59 = .ok (.iload_n 1, 1) := dk_27 (dk_at dksX0_give_2 12 rfl rfl)
theorem dX0_give_60 : decode cX0_give 60 = .ok (.iaload, 1) := dk_46 (dk_at dksX0_give_2 13 rfl rfl)
theorem dX0_give_61 : decode cX0_give 61 = .ok (.iload_n 3, 1) := dk_29 (dk_at dksX0_give_2 14 rfl rfl)
theorem dX0_give_62 : decode cX0_give 62 = .ok (.iadd, 1) := dk_96 (dk_at dksX0_give_2 15 rfl rfl)
theorem dX0_give_63 : decode cX0_give 63 = .ok (.sipush 999, 3) := dk_17 3 231 (dk_at dksX0_give_2 16 rfl rfl)
theorem dX0_give_66 : decode cX0_give 66 = .ok (.if_icmp .le 6, 3) := dk_164 0 6 (dk_at dksX0_give_2 19 rfl rfl)
theorem dX0_give_69 : decode cX0_give 69 = .ok (.bipush (-2), 2) := dk_16 254 (dk_at dksX0_give_2 22 rfl rfl)
theorem dX0_give_71 : decode cX0_give 71 = .ok (.ireturn, 1) := dk_172 (dk_at dksX0_give_3 0 rfl rfl)
theorem dX0_give_72 : decode cX0_give 72 = .ok (.aload_n 0, 1) := dk_42 (dk_at dksX0_give_3 1 rfl rfl)
theorem dX0_give_73 : decode cX0_give 73 = .ok (.invokevirtual 258, 3) := dk_182 1 2 (dk_at dksX0_give_3 2 rfl rfl)
theorem dX0_give_76 : decode cX0_give 76 = .ok (.aload_n 0, 1) := dk_42 (dk_at dksX0_give_3 5 rfl rfl)
theorem dX0_give_77 : decode cX0_give 77 = .ok (.getfield 55, 3) := dk_180 0 55 (dk_at dksX0_give_3 6 rfl rfl)
theorem dX0_give_80 : decode cX0_give 80 = .ok (.getfield 218, 3) := dk_180 0 218 (dk_at dksX0_give_3 9 rfl rfl)
theorem dX0_give_83 : decode cX0_give 83 = .ok (.iload_n 1, 1) := dk_27 (dk_at dksX0_give_3 12 rfl rfl)
theorem dX0_give_84 : decode cX0_give 84 = .ok (.dup2, 1) := dk_92 (dk_at dksX0_give_3 13 rfl rfl)
theorem dX0_give_85 : decode cX0_give 85 = .ok (.iaload, 1) := dk_46 (dk_at dksX0_give_3 14 rfl rfl)
theorem dX0_give_86 : decode cX0_give 86 = .ok (.iload_n 3, 1) := dk_29 (dk_at dksX0_give_3 15 rfl rfl)
theorem dX0_give_87 : decode cX0_give 87 = .ok (.isub, 1) := dk_100 (dk_at dksX0_give_3 16 rfl rfl)
theorem dX0_give_88 : decode cX0_give 88 = .ok (.iastore, 1) := dk_79 (dk_at dksX0_give_3 17 rfl rfl)
theorem dX0_give_89 : decode cX0_give 89 = .ok (.aload_n 0, 1) := dk_42 (dk_at dksX0_give_3 18 rfl rfl)
theorem dX0_give_90 : decode cX0_give 90 = .ok (.getfield 55, 3) := dk_180 0 55 (dk_at dksX0_give_3 19 rfl rfl)
theorem dX0_give_93 : decode cX0_give 93 = .ok (.getfield 235, 3) := dk_180 0 235 (dk_at dksX0_give_4 0 rfl rfl)
theorem dX0_give_96 : decode cX0_give 96 = .ok (.iload_n 2, 1) := dk_28 (dk_at dksX0_give_4 3 rfl rfl)
theorem dX0_give_97 : decode cX0_give 97 = .ok (.aaload, 1) := dk_50 (dk_at dksX0_give_4 4 rfl rfl)
theorem dX0_give_98 : decode cX0_give 98 = .ok (.iload_n 1, 1) := dk_27 (dk_at dksX0_give_4 5 rfl rfl)
theorem dX0_give_99 : decode cX0_give 99 = .ok (.dup2, 1) := dk_92 (dk_at dksX0_give_4 6 rfl rfl)
theorem dX0_give_100 : decode cX0_give 100 = .ok (.iaload, 1) := dk_46 (dk_at dksX0_give_4 7 rfl rfl)
theorem dX0_give_101 : decode cX0_give 101 = .ok (.iload_n 3, 1) := dk_29 (dk_at dksX0_give_4 8 rfl rfl)
theorem dX0_give_102 : decode cX0_give 102 = .ok (.iadd, 1) := dk_96 (dk_at dksX0_give_4 9 rfl rfl)
theorem dX0_give_103 : decode cX0_give 103 = .ok (.iastore, 1) := dk_79 (dk_at dksX0_give_4 10 rfl rfl)
theorem dX0_give_104 : decode cX0_give 104 = .ok (.aload_n 0, 1) := dk_42 (dk_at dksX0_give_4 11 rfl rfl)
theorem dX0_give_105 : decode cX0_give 105 = .ok (.getfield 55, 3) := dk_180 0 55 (dk_at dksX0_give_4 12 rfl rfl)
theorem dX0_give_108 : decode cX0_give 108 = .ok (.getfield 235, 3) := dk_180 0 235 (dk_at dksX0_give_4 15 rfl rfl)
theorem dX0_give_111 : decode cX0_give 111 = .ok (.iload_n 2, 1) := dk_28 (dk_at dksX0_give_4 18 rfl rfl)
theorem dX0_give_112 : decode cX0_give 112 = .ok (.aaload, 1) := dk_50 (dk_at dksX0_give_4 19 rfl rfl)
theorem dX0_give_113 : decode cX0_give 113 = .ok (.iload_n 1, 1) := dk_27 (dk_at dksX0_give_4 20 rfl rfl)
theorem dX0_give_114 : decode cX0_give 114 = .ok (.iaload, 1) := dk_46 (dk_at dksX0_give_4 21 rfl rfl)
theorem dX0_give_115 : decode cX0_give 115 = .ok (.ireturn, 1) := dk_172 (dk_at dksX0_give_4 22 rfl rfl)
abbrev cX0_areTogether : ByteArray := prog_1_method_24_code
def yX0_areTogether : MethodName := ⟨RX0, "areTogether", "(II)Z"⟩
def dkwX0_areTogether_1 : List UInt8 := [180, 0, 172, 28, 46, 160, 0, 7, 4, 167, 0, 4, 3, 172]
abbrev dktX0_areTogether_1 : List UInt8 := dkwX0_areTogether_1 ++ []
def dkwX0_areTogether_0 : List UInt8 := [42, 180, 0, 55, 27, 182, 0, 224, 154, 0, 28, 42, 180, 0, 55, 180, 0, 175, 27, 46, 42, 180, 0, 55]
abbrev dktX0_areTogether_0 : List UInt8 := dkwX0_areTogether_0 ++ dktX0_areTogether_1
theorem dksX0_areTogether_0 : cX0_areTogether.data.toList.drop 0 = dktX0_areTogether_0 := by decide +kernel
theorem dksX0_areTogether_1 : cX0_areTogether.data.toList.drop 24 = dktX0_areTogether_1 := dk_seg dksX0_areTogether_0 24 rfl rfl
theorem dX0_areTogether_0 : decode cX0_areTogether 0 = .ok (.aload_n 0, 1) := dk_42 (dk_at dksX0_areTogether_0 0 rfl rfl)
theorem dX0_areTogether_1 : decode cX0_areTogether 1 = .ok (.getfield 55, 3) := dk_180 0 55 (dk_at dksX0_areTogether_0 1 rfl rfl)
theorem dX0_areTogether_4 : decode cX0_areTogether 4 = .ok (.iload_n 1, 1) := dk_27 (dk_at dksX0_areTogether_0 4 rfl rfl)
theorem dX0_areTogether_5 : decode cX0_areTogether 5 = .ok (.invokevirtual 224, 3) := dk_182 0 224 (dk_at dksX0_areTogether_0 5 rfl rfl)
theorem dX0_areTogether_8 : decode cX0_areTogether 8 = .ok (.ifCond .ne 28, 3) := dk_154 0 28 (dk_at dksX0_areTogether_0 8 rfl rfl)
theorem dX0_areTogether_11 : decode cX0_areTogether 11 = .ok (.aload_n 0, 1) := dk_42 (dk_at dksX0_areTogether_0 11 rfl rfl)
theorem dX0_areTogether_12 : decode cX0_areTogether 12 = .ok (.getfield 55, 3) := dk_180 0 55 (dk_at dksX0_areTogether_0 12 rfl rfl)
theorem dX0_areTogether_15 : decode cX0_areTogether 15 = .ok (.getfield 175, 3) := dk_180 0 175 (dk_at dksX0_areTogether_0 15 rfl rfl)
theorem dX0_areTogether_18 : decode cX0_areTogether 18 = .ok (.iload_n 1, 1) := dk_27 (dk_at dksX0_areTogether_0 18 rfl rfl)
theorem dX0_areTogether_19 : decode cX0_areTogether 19 = .ok (.iaload, 1) := dk_46 (dk_at dksX0_areTogether_0 19 rfl rfl)
theorem dX0_areTogether_20 : decode cX0_areTogether 20 = .ok (.aload_n 0, 1) := dk_42 (dk_at dksX0_areTogether_0 20 rfl rfl)
theorem dX0_areTogether_21 : decode cX0_areTogether 21 = .ok (.getfield 55, 3) := dk_180 0 55 (dk_at dksX0_areTogether_0 21 rfl rfl)
theorem dX0_areTogether_24 : decode cX0_areTogether 24 = .ok (.getfield 172, 3) := dk_180 0 172 (dk_at dksX0_areTogether_1 0 rfl rfl)
theorem dX0_areTogether_27 : decode cX0_areTogether 27 = .ok (.iload_n 2, 1) := dk_28 (dk_at dksX0_areTogether_1 3 rfl rfl)
theorem dX0_areTogether_28 : decode cX0_areTogether 28 = .ok (.iaload, 1) := dk_46 (dk_at dksX0_areTogether_1 4 rfl rfl)
theorem dX0_areTogether_29 : decode cX0_areTogether 29 = .ok (.if_icmp .ne 7, 3) := dk_160 0 7 (dk_at dksX0_areTogether_1 5 rfl rfl)
theorem dX0_areTogether_32 : decode cX0_areTogether 32 = .ok (.iconst 1, 1) := dk_4 (dk_at dksX0_areTogether_1 8 rfl rfl)
theorem dX0_areTogether_33 : decode cX0_areTogether 33 = .ok (.goto 4, 3) := dk_167 0 4 (dk_at dksX0_areTogether_1 9 rfl rfl)
theorem dX0_areTogether_36 : decode cX0_areTogether 36 = .ok (.iconst 0, 1) := dk_3 (dk_at dksX0_areTogether_1 12 rfl rfl)
theorem dX0_areTogether_37 : decode cX0_areTogether 37 = .ok (.ireturn, 1) := dk_172 (dk_at dksX0_areTogether_1 13 rfl rfl)
abbrev cX0_kick : ByteArray := prog_1_method_26_code
def yX0_kick : MethodName := ⟨RX0, "kick", "(II)I"⟩
def dkwX0_kick_3 : List UInt8 := [180, 0, 238, 28, 50, 27, 46, 172]
abbrev dktX0_kick_3 : List UInt8 := dkwX0_kick_3 ++ []
def dkwX0_kick_2 : List UInt8 := [182, 1, 2, 42, 180, 0, 55, 180, 0, 238, 28, 50, 27, 92, 46, 4, 96, 79, 42, 180, 0, 55]
abbrev dktX0_kick_2 : List UInt8 := dkwX0_kick_2 ++ dktX0_kick_3
def dkwX0_kick_1 : List UInt8 := [153, 0, 20, 42, 180, 0, 55, 180, 0, 238, 28, 50, 27, 46, 17, 3, 231, 160, 0, 6, 16, 254, 172, 42]
abbrev dktX0_kick_1 : List UInt8 := dkwX0_kick_1 ++ dktX0_kick_2
def dkwX0_kick_0 : List UInt8 := [42, 27, 182, 0, 210, 153, 0, 11, 42, 28, 182, 0, 187, 154, 0, 5, 2, 172, 42, 27, 28, 182, 1, 5]
abbrev dktX0_kick_0 : List UInt8 := dkwX0_kick_0 ++ dktX0_kick_1
theorem dksX0_kick_0 : cX0_kick.data.toList.drop 0 = dktX0_kick_0 := by decide +kernel
theorem dksX0_kick_1 : cX0_kick.data.toList.drop 24 = dktX0_kick_1 := dk_seg dksX0_kick_0 24 rfl rfl
theorem dksX0_kick_2 : cX0_kick.data.toList.drop 48 = dktX0_kick_2 := dk_seg dksX0_kick_1 24 rfl rfl
theorem dksX0_kick_3 : cX0_kick.data.toList.drop 70 = dktX0_kick_3 := dk_seg dksX0_kick_2 22 rfl rfl
theorem dX0_kick_0 : decode cX0_kick 0 = .ok (.aload_n 0, 1) := dk_42 (dk_at dksX0_kick_0 0 rfl rfl)
theorem dX0_kick_1 : decode cX0_kick 1 = .ok (.iload_n 1, 1) := dk_27 (dk_at dksX0_kick_0 1 rfl rfl)
theorem dX0_kick_2 : decode cX0_kick 2 = .ok (.invokevirtual 210, 3) := dk_182 0 210 (dk_at dksX0_kick_0 2 rfl rfl)
theorem dX0_kick_5 : decode cX0_kick 5 = .ok (.ifCond .eq 11, 3) := dk_153 0 11 (dk_at dksX0_kick_0 5 rfl rfl)
theorem dX0_kick_8 : decode cX0_kick 8 = .ok (.aload_n 0, 1) := dk_42 (dk_at dksX0_kick_0 8 rfl rfl)
theorem dX0_kick_9 : decode cX0_kick 9 = .ok (.iload_n 2, 1) := dk_28 (dk_at dksX0_kick_0 9 rfl rfl)
theorem dX0_kick_10 : decode cX0_kick 10 = .ok (.invokevirtual 187, 3) := dk_182 0 187 (dk_at dksX0_kick_0 10 rfl rfl)
theorem dX0_kick_13 : decode cX0_kick 13 = .ok (.ifCond .ne 5, 3) := dk_154 0 5 (dk_at dksX0_kick_0 13 rfl rfl)
theorem dX0_kick_16 : decode cX0_kick 16 = .ok (.iconst (-1), 1) := dk_2 (dk_at dksX0_kick_0 16 rfl rfl)
theorem dX0_kick_17 : decode cX0_kick 17 = .ok (.ireturn, 1) := dk_172 (dk_at dksX0_kick_0 17 rfl rfl)
theorem dX0_kick_18 : decode cX0_kick 18 = .ok (.aload_n 0, 1) := dk_42 (dk_at dksX0_kick_0 18 rfl rfl)
theorem dX0_kick_19 : decode cX0_kick 19 = .ok (.iload_n 1, 1) := dk_27 (dk_at dksX0_kick_0 19 rfl rfl)
theorem dX0_kick_20 : decode cX0_kick 20 = .ok (.iload_n 2, 1) := dk_28 (dk_at dksX0_kick_0 20 rfl rfl)
theorem dX0_kick_21 : decode cX0_kick 21 = .ok (.invokevirtual 261, 3) := dk_182 1 5 (dk_at dksX0_kick_0 21 rfl rfl)
theorem dX0_kick_24 : decode cX0_kick 24 = .ok (.ifCond .eq 20, 3) := dk_153 0 20 (dk_at dksX0_kick_1 0 rfl rfl)
theorem dX0_kick_27 : decode cX0_kick 27 = .ok (.aload_n 0, 1) := dk_42 (dk_at dksX0_kick_1 3 rfl rfl)
theorem dX0_kick_28 : decode cX0_kick 28 = .ok (.getfield 55, 3) := dk_180 0 55 (dk_at dksX0_kick_1 4 rfl rfl)
theorem dX0_kick_31 : decode cX0_kick 31 = .ok (.getfield 238, 3) := dk_180 0 238 (dk_at dksX0_kick_1 7 rfl rfl)
theorem dX0_kick_34 : decode cX0_kick 34 = .ok (.iload_n 2, 1) := dk_28 (dk_at dksX0_kick_1 10 rfl rfl)
theorem dX0_kick_35 : decode cX0_kick 35 = .ok (.aaload, 1) := dk_50 (dk_at dksX0_kick_1 11 rfl rfl)
theorem dX0_kick_36 : decode cX0_kick 36 = .ok (.iload_n 1, 1) := dk_27 (dk_at dksX0_kick_1 12 rfl rfl)
theorem dX0_kick_37 : decode cX0_kick 37 = .ok (.iaload, 1) := dk_46 (dk_at dksX0_kick_1 13 rfl rfl)
theorem dX0_kick_38 : decode cX0_kick 38 = .ok (.sipush 999, 3) := dk_17 3 231 (dk_at dksX0_kick_1 14 rfl rfl)
theorem dX0_kick_41 : decode cX0_kick 41 = .ok (.if_icmp .ne 6, 3) := dk_160 0 6 (dk_at dksX0_kick_1 17 rfl rfl)
theorem dX0_kick_44 : decode cX0_kick 44 = .ok (.bipush (-2), 2) := dk_16 254 (dk_at dksX0_kick_1 20 rfl rfl)
theorem dX0_kick_46 : decode cX0_kick 46 = .ok (.ireturn, 1) := dk_172 (dk_at dksX0_kick_1 22 rfl rfl)
theorem dX0_kick_47 : decode cX0_kick 47 = .ok (.aload_n 0, 1) := dk_42 (dk_at dksX0_kick_1 23 rfl rfl)
theorem dX0_kick_48 : decode cX0_kick 48 = .ok (.invokevirtual 258, 3) := dk_182 1 2 (dk_at dksX0_kick_2 0 rfl rfl)
theorem dX0_kick_51 : decode cX0_kick 51 = .ok (.aload_n 0, 1) := dk_42 (dk_at dksX0_kick_2 3 rfl rfl)
theorem dX0_kick_52 : decode cX0_kick 52 = .ok (.getfield 55, 3) := dk_180 0 55 (dk_at dksX0_kick_2 4 rfl rfl)
theorem dX0_kick_55 : decode cX0_kick 55 = .ok (.getfield 238, 3) := dk_180 0 238 (dk_at dksX0_kick_2 7 rfl rfl)
theorem dX0_kick_58 : decode cX0_kick 58 = .ok (.iload_n 2, 1) := dk_28 (dk_at dksX0_kick_2 10 rfl rfl)
theorem dX0_kick_59 : decode cX0_kick 59 = .ok (.aaload, 1) := dk_50 (dk_at dksX0_kick_2 11 rfl rfl)
theorem dX0_kick_60 : decode cX0_kick 60 = .ok (.iload_n 1, 1) := dk_27 (dk_at dksX0_kick_2 12 rfl rfl)
theorem dX0_kick_61 : decode cX0_kick 61 = .ok (.dup2, 1) := dk_92 (dk_at dksX0_kick_2 13 rfl rfl)
theorem dX0_kick_62 : decode cX0_kick 62 = .ok (.iaload, 1) := dk_46 (dk_at dksX0_kick_2 14 rfl rfl)
theorem dX0_kick_63 : decode cX0_kick 63 = .ok (.iconst 1, 1) := dk_4 (dk_at dksX0_kick_2 15 rfl rfl)
theorem dX0_kick_64 : decode cX0_kick 64 = .ok (.iadd, 1) := dk_96 (dk_at dksX0_kick_2 16 rfl rfl)
theorem dX0_kick_65 : decode cX0_kick 65 = .ok (.iastore, 1) := dk_79 (dk_at dksX0_kick_2 17 rfl rfl)
theorem dX0_kick_66 : decode cX0_kick 66 = .ok (.aload_n 0, 1) := dk_42 (dk_at dksX0_kick_2 18 rfl rfl)
theorem dX0_kick_67 : decode cX0_kick 67 = .ok (.getfield 55, 3) := dk_180 0 55 (dk_at dksX0_kick_2 19 rfl rfl)
theorem dX0_kick_70 : decode cX0_kick 70 = .ok (.getfield 238, 3) := dk_180 0 238 (dk_at dksX0_kick_3 0 rfl rfl)
theorem dX0_kick_73 : decode cX0_kick 73 = .ok (.iload_n 2, 1) := dk_28 (dk_at dksX0_kick_3 3 rfl rfl)
theorem dX0_kick_74 : decode cX0_kick 74 = .ok (.aaload, 1) := dk_50 (dk_at dksX0_kick_3 4 rfl rfl)
theorem dX0_kick_75 : decode cX0_kick 75 = .ok (.iload_n 1, 1) := dk_27 (dk_at dksX0_kick_3 5 rfl rfl)
theorem dX0_kick_76 : decode cX0_kick 76 = .ok (.iaload, 1) := dk_46 (dk_at dksX0_kick_3 6 rfl rfl)
theorem dX0_kick_77 : decode cX0_kick 77 = .ok (.ireturn, 1) := dk_172 (dk_at dksX0_kick_3 7 rfl rfl)
abbrev cX0_minutes : ByteArray := prog_1_method_28_code
def yX0_minutes : MethodName := ⟨RX0, "minutes", "(I)I"⟩
def dkwX0_minutes_1 : List UInt8 := [182, 1, 16, 42, 180, 0, 55, 180, 1, 20, 172]
abbrev dktX0_minutes_1 : List UInt8 := dkwX0_minutes_1 ++ []
def dkwX0_minutes_0 : List UInt8 := [27, 184, 1, 13, 154, 0, 5, 2, 172, 27, 158, 0, 7, 42, 182, 1, 2, 42, 42, 180, 0, 55, 27]
abbrev dktX0_minutes_0 : List UInt8 := dkwX0_minutes_0 ++ dktX0_minutes_1
theorem dksX0_minutes_0 : cX0_minutes.data.toList.drop 0 = dktX0_minutes_0 := by decide +kernel
theorem dksX0_minutes_1 : cX0_minutes.data.toList.drop 23 = dktX0_minutes_1 := dk_seg dksX0_minutes_0 23 rfl rfl
theorem dX0_minutes_0 : decode cX0_minutes 0 = .ok (.iload_n 1, 1) := dk_27 (dk_at dksX0_minutes_0 0 rfl rfl)
theorem dX0_minutes_1 : decode cX0_minutes 1 = .ok (.invokestatic 269, 3) := dk_184 1 13 (dk_at dksX0_minutes_0 1 rfl rfl)
theorem dX0_minutes_4 : decode cX0_minutes 4 = .ok (.ifCond .ne 5, 3) := dk_154 0 5 (dk_at dksX0_minutes_0 4 rfl rfl)
theorem dX0_minutes_7 : decode cX0_minutes 7 = .ok (.iconst (-1), 1) := dk_2 (dk_at dksX0_minutes_0 7 rfl rfl)
theorem dX0_minutes_8 : decode cX0_minutes 8 = .ok (.ireturn, 1) := dk_172 (dk_at dksX0_minutes_0 8 rfl rfl)
theorem dX0_minutes_9 : decode cX0_minutes 9 = .ok (.iload_n 1, 1) := dk_27 (dk_at dksX0_minutes_0 9 rfl rfl)
theorem dX0_minutes_10 : decode cX0_minutes 10 = .ok (.ifCond .le 7, 3) := dk_158 0 7 (dk_at dksX0_minutes_0 10 rfl rfl)
theorem dX0_minutes_13 : decode cX0_minutes 13 = .ok (.aload_n 0, 1) := dk_42 (dk_at dksX0_minutes_0 13 rfl rfl)
theorem dX0_minutes_14 : decode cX0_minutes 14 = .ok (.invokevirtual 258, 3) := dk_182 1 2 (dk_at dksX0_minutes_0 14 rfl rfl)
theorem dX0_minutes_17 : decode cX0_minutes 17 = .ok (.aload_n 0, 1) := dk_42 (dk_at dksX0_minutes_0 17 rfl rfl)
theorem dX0_minutes_18 : decode cX0_minutes 18 = .ok (.aload_n 0, 1) := dk_42 (dk_at dksX0_minutes_0 18 rfl rfl)
theorem dX0_minutes_19 : decode cX0_minutes 19 = .ok (.getfield 55, 3) := dk_180 0 55 (dk_at dksX0_minutes_0 19 rfl rfl)
theorem dX0_minutes_22 : decode cX0_minutes 22 = .ok (.iload_n 1, 1) := dk_27 (dk_at dksX0_minutes_0 22 rfl rfl)
theorem dX0_minutes_23 : decode cX0_minutes 23 = .ok (.invokevirtual 272, 3) := dk_182 1 16 (dk_at dksX0_minutes_1 0 rfl rfl)
theorem dX0_minutes_26 : decode cX0_minutes 26 = .ok (.aload_n 0, 1) := dk_42 (dk_at dksX0_minutes_1 3 rfl rfl)
theorem dX0_minutes_27 : decode cX0_minutes 27 = .ok (.getfield 55, 3) := dk_180 0 55 (dk_at dksX0_minutes_1 4 rfl rfl)
theorem dX0_minutes_30 : decode cX0_minutes 30 = .ok (.getfield 276, 3) := dk_180 1 20 (dk_at dksX0_minutes_1 7 rfl rfl)
theorem dX0_minutes_33 : decode cX0_minutes 33 = .ok (.ireturn, 1) := dk_172 (dk_at dksX0_minutes_1 10 rfl rfl)
abbrev cX0_isAhead : ByteArray := prog_1_method_15_code
def yX0_isAhead : MethodName := ⟨RX0, "isAhead", "(I)Z"⟩
def dkwX0_isAhead_0 : List UInt8 := [26, 3, 17, 5, 160, 184, 0, 148, 172]
abbrev dktX0_isAhead_0 : List UInt8 := dkwX0_isAhead_0 ++ []
theorem dksX0_isAhead_0 : cX0_isAhead.data.toList.drop 0 = dktX0_isAhead_0 := by decide +kernel
theorem dX0_isAhead_0 : decode cX0_isAhead 0 = .ok (.iload_n 0, 1) := dk_26 (dk_at dksX0_isAhead_0 0 rfl rfl)
theorem dX0_isAhead_1 : decode cX0_isAhead 1 = .ok (.iconst 0, 1) := dk_3 (dk_at dksX0_isAhead_0 1 rfl rfl)
theorem dX0_isAhead_2 : decode cX0_isAhead 2 = .ok (.sipush 1440, 3) := dk_17 5 160 (dk_at dksX0_isAhead_0 2 rfl rfl)
theorem dX0_isAhead_5 : decode cX0_isAhead 5 = .ok (.invokestatic 148, 3) := dk_184 0 148 (dk_at dksX0_isAhead_0 5 rfl rfl)
theorem dX0_isAhead_8 : decode cX0_isAhead 8 = .ok (.ireturn, 1) := dk_172 (dk_at dksX0_isAhead_0 8 rfl rfl)
abbrev cX0_runs : ByteArray := prog_1_method_27_code
def yX0_runs : MethodName := ⟨RX0, "runs", "(LDogsHour$Town;I)V"⟩
def dkwX0_runs_1 : List UInt8 := [167, 255, 236, 177]
abbrev dktX0_runs_1 : List UInt8 := dkwX0_runs_1 ++ []
def dkwX0_runs_0 : List UInt8 := [3, 62, 29, 28, 162, 0, 21, 43, 42, 180, 0, 44, 42, 180, 0, 77, 182, 1, 9, 132, 3, 1]
abbrev dktX0_runs_0 : List UInt8 := dkwX0_runs_0 ++ dktX0_runs_1
theorem dksX0_runs_0 : cX0_runs.data.toList.drop 0 = dktX0_runs_0 := by decide +kernel
theorem dksX0_runs_1 : cX0_runs.data.toList.drop 22 = dktX0_runs_1 := dk_seg dksX0_runs_0 22 rfl rfl
theorem dX0_runs_0 : decode cX0_runs 0 = .ok (.iconst 0, 1) := dk_3 (dk_at dksX0_runs_0 0 rfl rfl)
theorem dX0_runs_1 : decode cX0_runs 1 = .ok (.istore_n 3, 1) := dk_62 (dk_at dksX0_runs_0 1 rfl rfl)
theorem dX0_runs_2 : decode cX0_runs 2 = .ok (.iload_n 3, 1) := dk_29 (dk_at dksX0_runs_0 2 rfl rfl)
theorem dX0_runs_3 : decode cX0_runs 3 = .ok (.iload_n 2, 1) := dk_28 (dk_at dksX0_runs_0 3 rfl rfl)
theorem dX0_runs_4 : decode cX0_runs 4 = .ok (.if_icmp .ge 21, 3) := dk_162 0 21 (dk_at dksX0_runs_0 4 rfl rfl)
theorem dX0_runs_7 : decode cX0_runs 7 = .ok (.aload_n 1, 1) := dk_43 (dk_at dksX0_runs_0 7 rfl rfl)
theorem dX0_runs_8 : decode cX0_runs 8 = .ok (.aload_n 0, 1) := dk_42 (dk_at dksX0_runs_0 8 rfl rfl)
theorem dX0_runs_9 : decode cX0_runs 9 = .ok (.getfield 44, 3) := dk_180 0 44 (dk_at dksX0_runs_0 9 rfl rfl)
theorem dX0_runs_12 : decode cX0_runs 12 = .ok (.aload_n 0, 1) := dk_42 (dk_at dksX0_runs_0 12 rfl rfl)
theorem dX0_runs_13 : decode cX0_runs 13 = .ok (.getfield 77, 3) := dk_180 0 77 (dk_at dksX0_runs_0 13 rfl rfl)
theorem dX0_runs_16 : decode cX0_runs 16 = .ok (.invokevirtual 265, 3) := dk_182 1 9 (dk_at dksX0_runs_0 16 rfl rfl)
theorem dX0_runs_19 : decode cX0_runs 19 = .ok (.iinc 3 1, 3) := dk_132 3 1 (dk_at dksX0_runs_0 19 rfl rfl)
theorem dX0_runs_22 : decode cX0_runs 22 = .ok (.goto (-20), 3) := dk_167 255 236 (dk_at dksX0_runs_1 0 rfl rfl)
theorem dX0_runs_25 : decode cX0_runs 25 = .ok (.return_, 1) := dk_177 (dk_at dksX0_runs_1 3 rfl rfl)
abbrev cX0_undo : ByteArray := prog_1_method_29_code
def yX0_undo : MethodName := ⟨RX0, "undo", "()Z"⟩
def dkwX0_undo_2 : List UInt8 := [182, 0, 254, 4, 172]
abbrev dktX0_undo_2 : List UInt8 := dkwX0_undo_2 ++ []
def dkwX0_undo_1 : List UInt8 := [16, 40, 96, 4, 100, 16, 40, 112, 181, 0, 251, 42, 180, 0, 55, 42, 180, 0, 62, 42, 180, 0, 251, 50]
abbrev dktX0_undo_1 : List UInt8 := dkwX0_undo_1 ++ dktX0_undo_2
def dkwX0_undo_0 : List UInt8 := [42, 180, 0, 119, 154, 0, 5, 3, 172, 42, 89, 180, 0, 119, 4, 100, 181, 0, 119, 42, 42, 180, 0, 251]
abbrev dktX0_undo_0 : List UInt8 := dkwX0_undo_0 ++ dktX0_undo_1
theorem dksX0_undo_0 : cX0_undo.data.toList.drop 0 = dktX0_undo_0 := by decide +kernel
theorem dksX0_undo_1 : cX0_undo.data.toList.drop 24 = dktX0_undo_1 := dk_seg dksX0_undo_0 24 rfl rfl
theorem dksX0_undo_2 : cX0_undo.data.toList.drop 48 = dktX0_undo_2 := dk_seg dksX0_undo_1 24 rfl rfl
theorem dX0_undo_0 : decode cX0_undo 0 = .ok (.aload_n 0, 1) := dk_42 (dk_at dksX0_undo_0 0 rfl rfl)
theorem dX0_undo_1 : decode cX0_undo 1 = .ok (.getfield 119, 3) := dk_180 0 119 (dk_at dksX0_undo_0 1 rfl rfl)
theorem dX0_undo_4 : decode cX0_undo 4 = .ok (.ifCond .ne 5, 3) := dk_154 0 5 (dk_at dksX0_undo_0 4 rfl rfl)
theorem dX0_undo_7 : decode cX0_undo 7 = .ok (.iconst 0, 1) := dk_3 (dk_at dksX0_undo_0 7 rfl rfl)
theorem dX0_undo_8 : decode cX0_undo 8 = .ok (.ireturn, 1) := dk_172 (dk_at dksX0_undo_0 8 rfl rfl)
theorem dX0_undo_9 : decode cX0_undo 9 = .ok (.aload_n 0, 1) := dk_42 (dk_at dksX0_undo_0 9 rfl rfl)
theorem dX0_undo_10 : decode cX0_undo 10 = .ok (.dup, 1) := dk_89 (dk_at dksX0_undo_0 10 rfl rfl)
theorem dX0_undo_11 : decode cX0_undo 11 = .ok (.getfield 119, 3) := dk_180 0 119 (dk_at dksX0_undo_0 11 rfl rfl)
theorem dX0_undo_14 : decode cX0_undo 14 = .ok (.iconst 1, 1) := dk_4 (dk_at dksX0_undo_0 14 rfl rfl)
theorem dX0_undo_15 : decode cX0_undo 15 = .ok (.isub, 1) := dk_100 (dk_at dksX0_undo_0 15 rfl rfl)
theorem dX0_undo_16 : decode cX0_undo 16 = .ok (.putfield 119, 3) := dk_181 0 119 (dk_at dksX0_undo_0 16 rfl rfl)
theorem dX0_undo_19 : decode cX0_undo 19 = .ok (.aload_n 0, 1) := dk_42 (dk_at dksX0_undo_0 19 rfl rfl)
theorem dX0_undo_20 : decode cX0_undo 20 = .ok (.aload_n 0, 1) := dk_42 (dk_at dksX0_undo_0 20 rfl rfl)
theorem dX0_undo_21 : decode cX0_undo 21 = .ok (.getfield 251, 3) := dk_180 0 251 (dk_at dksX0_undo_0 21 rfl rfl)
theorem dX0_undo_24 : decode cX0_undo 24 = .ok (.bipush 40, 2) := dk_16 40 (dk_at dksX0_undo_1 0 rfl rfl)
theorem dX0_undo_26 : decode cX0_undo 26 = .ok (.iadd, 1) := dk_96 (dk_at dksX0_undo_1 2 rfl rfl)
theorem dX0_undo_27 : decode cX0_undo 27 = .ok (.iconst 1, 1) := dk_4 (dk_at dksX0_undo_1 3 rfl rfl)
theorem dX0_undo_28 : decode cX0_undo 28 = .ok (.isub, 1) := dk_100 (dk_at dksX0_undo_1 4 rfl rfl)
theorem dX0_undo_29 : decode cX0_undo 29 = .ok (.bipush 40, 2) := dk_16 40 (dk_at dksX0_undo_1 5 rfl rfl)
theorem dX0_undo_31 : decode cX0_undo 31 = .ok (.irem, 1) := dk_112 (dk_at dksX0_undo_1 7 rfl rfl)
theorem dX0_undo_32 : decode cX0_undo 32 = .ok (.putfield 251, 3) := dk_181 0 251 (dk_at dksX0_undo_1 8 rfl rfl)
theorem dX0_undo_35 : decode cX0_undo 35 = .ok (.aload_n 0, 1) := dk_42 (dk_at dksX0_undo_1 11 rfl rfl)
theorem dX0_undo_36 : decode cX0_undo 36 = .ok (.getfield 55, 3) := dk_180 0 55 (dk_at dksX0_undo_1 12 rfl rfl)
theorem dX0_undo_39 : decode cX0_undo 39 = .ok (.aload_n 0, 1) := dk_42 (dk_at dksX0_undo_1 15 rfl rfl)
theorem dX0_undo_40 : decode cX0_undo 40 = .ok (.getfield 62, 3) := dk_180 0 62 (dk_at dksX0_undo_1 16 rfl rfl)
theorem dX0_undo_43 : decode cX0_undo 43 = .ok (.aload_n 0, 1) := dk_42 (dk_at dksX0_undo_1 19 rfl rfl)
theorem dX0_undo_44 : decode cX0_undo 44 = .ok (.getfield 251, 3) := dk_180 0 251 (dk_at dksX0_undo_1 20 rfl rfl)
theorem dX0_undo_47 : decode cX0_undo 47 = .ok (.aaload, 1) := dk_50 (dk_at dksX0_undo_1 23 rfl rfl)
theorem dX0_undo_48 : decode cX0_undo 48 = .ok (.invokevirtual 254, 3) := dk_182 0 254 (dk_at dksX0_undo_2 0 rfl rfl)
theorem dX0_undo_51 : decode cX0_undo 51 = .ok (.iconst 1, 1) := dk_4 (dk_at dksX0_undo_2 3 rfl rfl)
theorem dX0_undo_52 : decode cX0_undo 52 = .ok (.ireturn, 1) := dk_172 (dk_at dksX0_undo_2 4 rfl rfl)
abbrev cX0_far : ByteArray := prog_1_method_30_code
def yX0_far : MethodName := ⟨RX0, "far", "(II)I"⟩
def dkwX0_far_2 : List UInt8 := [180, 1, 23, 27, 50, 28, 46, 172]
abbrev dktX0_far_2 : List UInt8 := dkwX0_far_2 ++ []
def dkwX0_far_1 : List UInt8 := [180, 1, 23, 27, 50, 28, 46, 19, 1, 26, 161, 0, 8, 16, 254, 167, 0, 14, 42, 180, 0, 44]
abbrev dktX0_far_1 : List UInt8 := dkwX0_far_1 ++ dktX0_far_2
def dkwX0_far_0 : List UInt8 := [42, 27, 182, 0, 159, 153, 0, 11, 42, 28, 182, 0, 159, 154, 0, 7, 2, 167, 0, 36, 42, 180, 0, 44]
abbrev dktX0_far_0 : List UInt8 := dkwX0_far_0 ++ dktX0_far_1
theorem dksX0_far_0 : cX0_far.data.toList.drop 0 = dktX0_far_0 := by decide +kernel
theorem dksX0_far_1 : cX0_far.data.toList.drop 24 = dktX0_far_1 := dk_seg dksX0_far_0 24 rfl rfl
theorem dksX0_far_2 : cX0_far.data.toList.drop 46 = dktX0_far_2 := dk_seg dksX0_far_1 22 rfl rfl
theorem dX0_far_0 : decode cX0_far 0 = .ok (.aload_n 0, 1) := dk_42 (dk_at dksX0_far_0 0 rfl rfl)
theorem dX0_far_1 : decode cX0_far 1 = .ok (.iload_n 1, 1) := dk_27 (dk_at dksX0_far_0 1 rfl rfl)
theorem dX0_far_2 : decode cX0_far 2 = .ok (.invokevirtual 159, 3) := dk_182 0 159 (dk_at dksX0_far_0 2 rfl rfl)
theorem dX0_far_5 : decode cX0_far 5 = .ok (.ifCond .eq 11, 3) := dk_153 0 11 (dk_at dksX0_far_0 5 rfl rfl)
theorem dX0_far_8 : decode cX0_far 8 = .ok (.aload_n 0, 1) := dk_42 (dk_at dksX0_far_0 8 rfl rfl)
theorem dX0_far_9 : decode cX0_far 9 = .ok (.iload_n 2, 1) := dk_28 (dk_at dksX0_far_0 9 rfl rfl)
theorem dX0_far_10 : decode cX0_far 10 = .ok (.invokevirtual 159, 3) := dk_182 0 159 (dk_at dksX0_far_0 10 rfl rfl)
theorem dX0_far_13 : decode cX0_far 13 = .ok (.ifCond .ne 7, 3) := dk_154 0 7 (dk_at dksX0_far_0 13 rfl rfl)
theorem dX0_far_16 : decode cX0_far 16 = .ok (.iconst (-1), 1) := dk_2 (dk_at dksX0_far_0 16 rfl rfl)
theorem dX0_far_17 : decode cX0_far 17 = .ok (.goto 36, 3) := dk_167 0 36 (dk_at dksX0_far_0 17 rfl rfl)
theorem dX0_far_20 : decode cX0_far 20 = .ok (.aload_n 0, 1) := dk_42 (dk_at dksX0_far_0 20 rfl rfl)
theorem dX0_far_21 : decode cX0_far 21 = .ok (.getfield 44, 3) := dk_180 0 44 (dk_at dksX0_far_0 21 rfl rfl)
theorem dX0_far_24 : decode cX0_far 24 = .ok (.getfield 279, 3) := dk_180 1 23 (dk_at dksX0_far_1 0 rfl rfl)
theorem dX0_far_27 : decode cX0_far 27 = .ok (.iload_n 1, 1) := dk_27 (dk_at dksX0_far_1 3 rfl rfl)
theorem dX0_far_28 : decode cX0_far 28 = .ok (.aaload, 1) := dk_50 (dk_at dksX0_far_1 4 rfl rfl)
theorem dX0_far_29 : decode cX0_far 29 = .ok (.iload_n 2, 1) := dk_28 (dk_at dksX0_far_1 5 rfl rfl)
theorem dX0_far_30 : decode cX0_far 30 = .ok (.iaload, 1) := dk_46 (dk_at dksX0_far_1 6 rfl rfl)
theorem dX0_far_31 : decode cX0_far 31 = .ok (.ldc_w 282, 3) := dk_19 1 26 (dk_at dksX0_far_1 7 rfl rfl)
theorem dX0_far_34 : decode cX0_far 34 = .ok (.if_icmp .lt 8, 3) := dk_161 0 8 (dk_at dksX0_far_1 10 rfl rfl)
theorem dX0_far_37 : decode cX0_far 37 = .ok (.bipush (-2), 2) := dk_16 254 (dk_at dksX0_far_1 13 rfl rfl)
theorem dX0_far_39 : decode cX0_far 39 = .ok (.goto 14, 3) := dk_167 0 14 (dk_at dksX0_far_1 15 rfl rfl)
theorem dX0_far_42 : decode cX0_far 42 = .ok (.aload_n 0, 1) := dk_42 (dk_at dksX0_far_1 18 rfl rfl)
theorem dX0_far_43 : decode cX0_far 43 = .ok (.getfield 44, 3) := dk_180 0 44 (dk_at dksX0_far_1 19 rfl rfl)
theorem dX0_far_46 : decode cX0_far 46 = .ok (.getfield 279, 3) := dk_180 1 23 (dk_at dksX0_far_2 0 rfl rfl)
theorem dX0_far_49 : decode cX0_far 49 = .ok (.iload_n 1, 1) := dk_27 (dk_at dksX0_far_2 3 rfl rfl)
theorem dX0_far_50 : decode cX0_far 50 = .ok (.aaload, 1) := dk_50 (dk_at dksX0_far_2 4 rfl rfl)
theorem dX0_far_51 : decode cX0_far 51 = .ok (.iload_n 2, 1) := dk_28 (dk_at dksX0_far_2 5 rfl rfl)
theorem dX0_far_52 : decode cX0_far 52 = .ok (.iaload, 1) := dk_46 (dk_at dksX0_far_2 6 rfl rfl)
theorem dX0_far_53 : decode cX0_far 53 = .ok (.ireturn, 1) := dk_172 (dk_at dksX0_far_2 7 rfl rfl)
abbrev cX0_till : ByteArray := prog_1_method_32_code
def yX0_till : MethodName := ⟨RX0, "till", "()I"⟩
theorem dX0_till_0 : decode cX0_till 0 = .ok (.aload_n 0, 1) := by decide +kernel
theorem dX0_till_1 : decode cX0_till 1 = .ok (.invokevirtual 290, 3) := by decide +kernel
theorem dX0_till_4 : decode cX0_till 4 = .ok (.ireturn, 1) := by decide +kernel
abbrev cX0_tillHour : ByteArray := prog_1_method_31_code
def yX0_tillHour : MethodName := ⟨RX0, "tillHour", "()I"⟩
def dkwX0_tillHour_1 : List UInt8 := [17, 5, 160, 112, 60, 27, 154, 0, 9, 17, 5, 160, 167, 0, 4, 27, 172]
abbrev dktX0_tillHour_1 : List UInt8 := dkwX0_tillHour_1 ++ []
def dkwX0_tillHour_0 : List UInt8 := [42, 180, 0, 44, 180, 1, 27, 42, 180, 0, 55, 42, 180, 0, 44, 182, 1, 30, 100, 17, 5, 160, 96]
abbrev dktX0_tillHour_0 : List UInt8 := dkwX0_tillHour_0 ++ dktX0_tillHour_1
theorem dksX0_tillHour_0 : cX0_tillHour.data.toList.drop 0 = dktX0_tillHour_0 := by decide +kernel
theorem dksX0_tillHour_1 : cX0_tillHour.data.toList.drop 23 = dktX0_tillHour_1 := dk_seg dksX0_tillHour_0 23 rfl rfl
theorem dX0_tillHour_0 : decode cX0_tillHour 0 = .ok (.aload_n 0, 1) := dk_42 (dk_at dksX0_tillHour_0 0 rfl rfl)
theorem dX0_tillHour_1 : decode cX0_tillHour 1 = .ok (.getfield 44, 3) := dk_180 0 44 (dk_at dksX0_tillHour_0 1 rfl rfl)
theorem dX0_tillHour_4 : decode cX0_tillHour 4 = .ok (.getfield 283, 3) := dk_180 1 27 (dk_at dksX0_tillHour_0 4 rfl rfl)
theorem dX0_tillHour_7 : decode cX0_tillHour 7 = .ok (.aload_n 0, 1) := dk_42 (dk_at dksX0_tillHour_0 7 rfl rfl)
theorem dX0_tillHour_8 : decode cX0_tillHour 8 = .ok (.getfield 55, 3) := dk_180 0 55 (dk_at dksX0_tillHour_0 8 rfl rfl)
theorem dX0_tillHour_11 : decode cX0_tillHour 11 = .ok (.aload_n 0, 1) := dk_42 (dk_at dksX0_tillHour_0 11 rfl rfl)
theorem dX0_tillHour_12 : decode cX0_tillHour 12 = .ok (.getfield 44, 3) := dk_180 0 44 (dk_at dksX0_tillHour_0 12 rfl rfl)
theorem dX0_tillHour_15 : decode cX0_tillHour 15 = .ok (.invokevirtual 286, 3) := dk_182 1 30 (dk_at dksX0_tillHour_0 15 rfl rfl)
theorem dX0_tillHour_18 : decode cX0_tillHour 18 = .ok (.isub, 1) := dk_100 (dk_at dksX0_tillHour_0 18 rfl rfl)
theorem dX0_tillHour_19 : decode cX0_tillHour 19 = .ok (.sipush 1440, 3) := dk_17 5 160 (dk_at dksX0_tillHour_0 19 rfl rfl)
theorem dX0_tillHour_22 : decode cX0_tillHour 22 = .ok (.iadd, 1) := dk_96 (dk_at dksX0_tillHour_0 22 rfl rfl)
theorem dX0_tillHour_23 : decode cX0_tillHour 23 = .ok (.sipush 1440, 3) := dk_17 5 160 (dk_at dksX0_tillHour_1 0 rfl rfl)
theorem dX0_tillHour_26 : decode cX0_tillHour 26 = .ok (.irem, 1) := dk_112 (dk_at dksX0_tillHour_1 3 rfl rfl)
theorem dX0_tillHour_27 : decode cX0_tillHour 27 = .ok (.istore_n 1, 1) := dk_60 (dk_at dksX0_tillHour_1 4 rfl rfl)
theorem dX0_tillHour_28 : decode cX0_tillHour 28 = .ok (.iload_n 1, 1) := dk_27 (dk_at dksX0_tillHour_1 5 rfl rfl)
theorem dX0_tillHour_29 : decode cX0_tillHour 29 = .ok (.ifCond .ne 9, 3) := dk_154 0 9 (dk_at dksX0_tillHour_1 6 rfl rfl)
theorem dX0_tillHour_32 : decode cX0_tillHour 32 = .ok (.sipush 1440, 3) := dk_17 5 160 (dk_at dksX0_tillHour_1 9 rfl rfl)
theorem dX0_tillHour_35 : decode cX0_tillHour 35 = .ok (.goto 4, 3) := dk_167 0 4 (dk_at dksX0_tillHour_1 12 rfl rfl)
theorem dX0_tillHour_38 : decode cX0_tillHour 38 = .ok (.iload_n 1, 1) := dk_27 (dk_at dksX0_tillHour_1 15 rfl rfl)
theorem dX0_tillHour_39 : decode cX0_tillHour 39 = .ok (.ireturn, 1) := dk_172 (dk_at dksX0_tillHour_1 16 rfl rfl)
abbrev cX0_round : ByteArray := prog_1_method_35_code
def yX0_round : MethodName := ⟨RX0, "round", "(II)I"⟩
def dkwX0_round_4 : List UInt8 := [29, 42, 182, 1, 34, 163, 0, 7, 4, 167, 0, 4, 3, 172]
abbrev dktX0_round_4 : List UInt8 := dkwX0_round_4 ++ []
def dkwX0_round_3 : List UInt8 := [167, 0, 37, 42, 180, 0, 44, 42, 180, 0, 55, 42, 180, 0, 44, 182, 1, 30, 182, 1, 45, 154, 0, 15]
abbrev dktX0_round_3 : List UInt8 := dkwX0_round_3 ++ dktX0_round_4
def dkwX0_round_2 : List UInt8 := [180, 0, 215, 182, 1, 41, 62, 29, 19, 1, 26, 161, 0, 6, 16, 254, 172, 28, 154, 0, 7, 29]
abbrev dktX0_round_2 : List UInt8 := dkwX0_round_2 ++ dktX0_round_3
def dkwX0_round_1 : List UInt8 := [180, 0, 175, 27, 46, 42, 27, 182, 1, 37, 42, 180, 0, 44, 180, 0, 142, 27, 182, 0, 163, 192, 0, 213]
abbrev dktX0_round_1 : List UInt8 := dkwX0_round_1 ++ dktX0_round_2
def dkwX0_round_0 : List UInt8 := [42, 27, 182, 0, 210, 153, 0, 12, 28, 3, 4, 184, 0, 148, 154, 0, 5, 2, 172, 42, 42, 180, 0, 55]
abbrev dktX0_round_0 : List UInt8 := dkwX0_round_0 ++ dktX0_round_1
theorem dksX0_round_0 : cX0_round.data.toList.drop 0 = dktX0_round_0 := by decide +kernel
theorem dksX0_round_1 : cX0_round.data.toList.drop 24 = dktX0_round_1 := dk_seg dksX0_round_0 24 rfl rfl
theorem dksX0_round_2 : cX0_round.data.toList.drop 48 = dktX0_round_2 := dk_seg dksX0_round_1 24 rfl rfl
theorem dksX0_round_3 : cX0_round.data.toList.drop 70 = dktX0_round_3 := dk_seg dksX0_round_2 22 rfl rfl
theorem dksX0_round_4 : cX0_round.data.toList.drop 94 = dktX0_round_4 := dk_seg dksX0_round_3 24 rfl rfl
theorem dX0_round_0 : decode cX0_round 0 = .ok (.aload_n 0, 1) := dk_42 (dk_at dksX0_round_0 0 rfl rfl)
theorem dX0_round_1 : decode cX0_round 1 = .ok (.iload_n 1, 1) := dk_27 (dk_at dksX0_round_0 1 rfl rfl)
theorem dX0_round_2 : decode cX0_round 2 = .ok (.invokevirtual 210, 3) := dk_182 0 210 (dk_at dksX0_round_0 2 rfl rfl)
theorem dX0_round_5 : decode cX0_round 5 = .ok (.ifCond .eq 12, 3) := dk_153 0 12 (dk_at dksX0_round_0 5 rfl rfl)
theorem dX0_round_8 : decode cX0_round 8 = .ok (.iload_n 2, 1) := dk_28 (dk_at dksX0_round_0 8 rfl rfl)
theorem dX0_round_9 : decode cX0_round 9 = .ok (.iconst 0, 1) := dk_3 (dk_at dksX0_round_0 9 rfl rfl)
theorem dX0_round_10 : decode cX0_round 10 = .ok (.iconst 1, 1) := dk_4 (dk_at dksX0_round_0 10 rfl rfl)
theorem dX0_round_11 : decode cX0_round 11 = .ok (.invokestatic 148, 3) := dk_184 0 148 (dk_at dksX0_round_0 11 rfl rfl)
theorem dX0_round_14 : decode cX0_round 14 = .ok (.ifCond .ne 5, 3) := dk_154 0 5 (dk_at dksX0_round_0 14 rfl rfl)
theorem dX0_round_17 : decode cX0_round 17 = .ok (.iconst (-1), 1) := dk_2 (dk_at dksX0_round_0 17 rfl rfl)
theorem dX0_round_18 : decode cX0_round 18 = .ok (.ireturn, 1) := dk_172 (dk_at dksX0_round_0 18 rfl rfl)
theorem dX0_round_19 : decode cX0_round 19 = .ok (.aload_n 0, 1) := dk_42 (dk_at dksX0_round_0 19 rfl rfl)
theorem dX0_round_20 : decode cX0_round 20 = .ok (.aload_n 0, 1) := dk_42 (dk_at dksX0_round_0 20 rfl rfl)
theorem dX0_round_21 : decode cX0_round 21 = .ok (.getfield 55, 3) := dk_180 0 55 (dk_at dksX0_round_0 21 rfl rfl)
theorem dX0_round_24 : decode cX0_round 24 = .ok (.getfield 175, 3) := dk_180 0 175 (dk_at dksX0_round_1 0 rfl rfl)
theorem dX0_round_27 : decode cX0_round 27 = .ok (.iload_n 1, 1) := dk_27 (dk_at dksX0_round_1 3 rfl rfl)
theorem dX0_round_28 : decode cX0_round 28 = .ok (.iaload, 1) := dk_46 (dk_at dksX0_round_1 4 rfl rfl)
theorem dX0_round_29 : decode cX0_round 29 = .ok (.aload_n 0, 1) := dk_42 (dk_at dksX0_round_1 5 rfl rfl)
theorem dX0_round_30 : decode cX0_round 30 = .ok (.iload_n 1, 1) := dk_27 (dk_at dksX0_round_1 6 rfl rfl)
theorem dX0_round_31 : decode cX0_round 31 = .ok (.invokevirtual 293, 3) := dk_182 1 37 (dk_at dksX0_round_1 7 rfl rfl)
theorem dX0_round_34 : decode cX0_round 34 = .ok (.aload_n 0, 1) := dk_42 (dk_at dksX0_round_1 10 rfl rfl)
theorem dX0_round_35 : decode cX0_round 35 = .ok (.getfield 44, 3) := dk_180 0 44 (dk_at dksX0_round_1 11 rfl rfl)
theorem dX0_round_38 : decode cX0_round 38 = .ok (.getfield 142, 3) := dk_180 0 142 (dk_at dksX0_round_1 14 rfl rfl)
theorem dX0_round_41 : decode cX0_round 41 = .ok (.iload_n 1, 1) := dk_27 (dk_at dksX0_round_1 17 rfl rfl)
theorem dX0_round_42 : decode cX0_round 42 = .ok (.invokevirtual 163, 3) := dk_182 0 163 (dk_at dksX0_round_1 18 rfl rfl)
theorem dX0_round_45 : decode cX0_round 45 = .ok (.checkcast 213, 3) := dk_192 0 213 (dk_at dksX0_round_1 21 rfl rfl)
theorem dX0_round_48 : decode cX0_round 48 = .ok (.getfield 215, 3) := dk_180 0 215 (dk_at dksX0_round_2 0 rfl rfl)
theorem dX0_round_51 : decode cX0_round 51 = .ok (.invokevirtual 297, 3) := dk_182 1 41 (dk_at dksX0_round_2 3 rfl rfl)
theorem dX0_round_54 : decode cX0_round 54 = .ok (.istore_n 3, 1) := dk_62 (dk_at dksX0_round_2 6 rfl rfl)
theorem dX0_round_55 : decode cX0_round 55 = .ok (.iload_n 3, 1) := dk_29 (dk_at dksX0_round_2 7 rfl rfl)
theorem dX0_round_56 : decode cX0_round 56 = .ok (.ldc_w 282, 3) := dk_19 1 26 (dk_at dksX0_round_2 8 rfl rfl)
theorem dX0_round_59 : decode cX0_round 59 = .ok (.if_icmp .lt 6, 3) := dk_161 0 6 (dk_at dksX0_round_2 11 rfl rfl)
theorem dX0_round_62 : decode cX0_round 62 = .ok (.bipush (-2), 2) := dk_16 254 (dk_at dksX0_round_2 14 rfl rfl)
theorem dX0_round_64 : decode cX0_round 64 = .ok (.ireturn, 1) := dk_172 (dk_at dksX0_round_2 16 rfl rfl)
theorem dX0_round_65 : decode cX0_round 65 = .ok (.iload_n 2, 1) := dk_28 (dk_at dksX0_round_2 17 rfl rfl)
theorem dX0_round_66 : decode cX0_round 66 = .ok (.ifCond .ne 7, 3) := dk_154 0 7 (dk_at dksX0_round_2 18 rfl rfl)
theorem dX0_round_69 : decode cX0_round 69 = .ok (.iload_n 3, 1) := dk_29 (dk_at dksX0_round_2 21 rfl rfl)
theorem dX0_round_70 : decode cX0_round 70 = .ok (.goto 37, 3) := dk_167 0 37 (dk_at dksX0_round_3 0 rfl rfl)
theorem dX0_round_73 : decode cX0_round 73 = .ok (.aload_n 0, 1) := dk_42 (dk_at dksX0_round_3 3 rfl rfl)
theorem dX0_round_74 : decode cX0_round 74 = .ok (.getfield 44, 3) := dk_180 0 44 (dk_at dksX0_round_3 4 rfl rfl)
theorem dX0_round_77 : decode cX0_round 77 = .ok (.aload_n 0, 1) := dk_42 (dk_at dksX0_round_3 7 rfl rfl)
theorem dX0_round_78 : decode cX0_round 78 = .ok (.getfield 55, 3) := dk_180 0 55 (dk_at dksX0_round_3 8 rfl rfl)
theorem dX0_round_81 : decode cX0_round 81 = .ok (.aload_n 0, 1) := dk_42 (dk_at dksX0_round_3 11 rfl rfl)
theorem dX0_round_82 : decode cX0_round 82 = .ok (.getfield 44, 3) := dk_180 0 44 (dk_at dksX0_round_3 12 rfl rfl)
theorem dX0_round_85 : decode cX0_round 85 = .ok (.invokevirtual 286, 3) := dk_182 1 30 (dk_at dksX0_round_3 15 rfl rfl)
theorem dX0_round_88 : decode cX0_round 88 = .ok (.invokevirtual 301, 3) := dk_182 1 45 (dk_at dksX0_round_3 18 rfl rfl)
theorem dX0_round_91 : decode cX0_round 91 = .ok (.ifCond .ne 15, 3) := dk_154 0 15 (dk_at dksX0_round_3 21 rfl rfl)
theorem dX0_round_94 : decode cX0_round 94 = .ok (.iload_n 3, 1) := dk_29 (dk_at dksX0_round_4 0 rfl rfl)
theorem dX0_round_95 : decode cX0_round 95 = .ok (.aload_n 0, 1) := dk_42 (dk_at dksX0_round_4 1 rfl rfl)
theorem dX0_round_96 : decode cX0_round 96 = .ok (.invokevirtual 290, 3) := dk_182 1 34 (dk_at dksX0_round_4 2 rfl rfl)
theorem dX0_round_99 : decode cX0_round 99 = .ok (.if_icmp .gt 7, 3) := dk_163 0 7 (dk_at dksX0_round_4 5 rfl rfl)
theorem dX0_round_102 : decode cX0_round 102 = .ok (.iconst 1, 1) := dk_4 (dk_at dksX0_round_4 8 rfl rfl)
theorem dX0_round_103 : decode cX0_round 103 = .ok (.goto 4, 3) := dk_167 0 4 (dk_at dksX0_round_4 9 rfl rfl)
theorem dX0_round_106 : decode cX0_round 106 = .ok (.iconst 0, 1) := dk_3 (dk_at dksX0_round_4 12 rfl rfl)
theorem dX0_round_107 : decode cX0_round 107 = .ok (.ireturn, 1) := dk_172 (dk_at dksX0_round_4 13 rfl rfl)
abbrev cX0_errandsLeft : ByteArray := prog_1_method_34_code
def yX0_errandsLeft : MethodName := ⟨RX0, "errandsLeft", "(I)I"⟩
def dkwX0_errandsLeft_2 : List UInt8 := [167, 0, 4, 3, 128, 61, 132, 3, 1, 167, 255, 203, 28, 172]
abbrev dktX0_errandsLeft_2 : List UInt8 := dkwX0_errandsLeft_2 ++ []
def dkwX0_errandsLeft_1 : List UInt8 := [46, 27, 160, 0, 25, 42, 29, 182, 0, 184, 154, 0, 17, 4, 42, 180, 0, 44, 180, 0, 181, 29, 46, 120]
abbrev dktX0_errandsLeft_1 : List UInt8 := dkwX0_errandsLeft_1 ++ dktX0_errandsLeft_2
def dkwX0_errandsLeft_0 : List UInt8 := [3, 61, 3, 62, 29, 42, 180, 0, 44, 180, 0, 178, 162, 0, 48, 28, 42, 180, 0, 44, 180, 0, 207, 29]
abbrev dktX0_errandsLeft_0 : List UInt8 := dkwX0_errandsLeft_0 ++ dktX0_errandsLeft_1
theorem dksX0_errandsLeft_0 : cX0_errandsLeft.data.toList.drop 0 = dktX0_errandsLeft_0 := by decide +kernel
theorem dksX0_errandsLeft_1 : cX0_errandsLeft.data.toList.drop 24 = dktX0_errandsLeft_1 := dk_seg dksX0_errandsLeft_0 24 rfl rfl
theorem dksX0_errandsLeft_2 : cX0_errandsLeft.data.toList.drop 48 = dktX0_errandsLeft_2 := dk_seg dksX0_errandsLeft_1 24 rfl rfl
theorem dX0_errandsLeft_0 : decode cX0_errandsLeft 0 = .ok (.iconst 0, 1) := dk_3 (dk_at dksX0_errandsLeft_0 0 rfl rfl)
theorem dX0_errandsLeft_1 : decode cX0_errandsLeft 1 = .ok (.istore_n 2, 1) := dk_61 (dk_at dksX0_errandsLeft_0 1 rfl rfl)
theorem dX0_errandsLeft_2 : decode cX0_errandsLeft 2 = .ok (.iconst 0, 1) := dk_3 (dk_at dksX0_errandsLeft_0 2 rfl rfl)
theorem dX0_errandsLeft_3 : decode cX0_errandsLeft 3 = .ok (.istore_n 3, 1) := dk_62 (dk_at dksX0_errandsLeft_0 3 rfl rfl)
theorem dX0_errandsLeft_4 : decode cX0_errandsLeft 4 = .ok (.iload_n 3, 1) := dk_29 (dk_at dksX0_errandsLeft_0 4 rfl rfl)
theorem dX0_errandsLeft_5 : decode cX0_errandsLeft 5 = .ok (.aload_n 0, 1) := dk_42 (dk_at dksX0_errandsLeft_0 5 rfl rfl)
theorem dX0_errandsLeft_6 : decode cX0_errandsLeft 6 = .ok (.getfield 44, 3) := dk_180 0 44 (dk_at dksX0_errandsLeft_0 6 rfl rfl)
theorem dX0_errandsLeft_9 : decode cX0_errandsLeft 9 = .ok (.getfield 178, 3) := dk_180 0 178 (dk_at dksX0_errandsLeft_0 9 rfl rfl)
theorem dX0_errandsLeft_12 : decode cX0_errandsLeft 12 = .ok (.if_icmp .ge 48, 3) := dk_162 0 48 (dk_at dksX0_errandsLeft_0 12 rfl rfl)
theorem dX0_errandsLeft_15 : decode cX0_errandsLeft 15 = .ok (.iload_n 2, 1) := dk_28 (dk_at dksX0_errandsLeft_0 15 rfl rfl)
theorem dX0_errandsLeft_16 : decode cX0_errandsLeft 16 = .ok (.aload_n 0, 1) := dk_42 (dk_at dksX0_errandsLeft_0 16 rfl rfl)
theorem dX0_errandsLeft_17 : decode cX0_errandsLeft 17 = .ok (.getfield 44, 3) := dk_180 0 44 (dk_at dksX0_errandsLeft_0 17 rfl rfl)
theorem dX0_errandsLeft_20 : decode cX0_errandsLeft 20 = .ok (.getfield 207, 3) := dk_180 0 207 (dk_at dksX0_errandsLeft_0 20 rfl rfl)
theorem dX0_errandsLeft_23 : decode cX0_errandsLeft 23 = .ok (.iload_n 3, 1) := dk_29 (dk_at dksX0_errandsLeft_0 23 rfl rfl)
theorem dX0_errandsLeft_24 : decode cX0_errandsLeft 24 = .ok (.iaload, 1) := dk_46 (dk_at dksX0_errandsLeft_1 0 rfl rfl)
theorem dX0_errandsLeft_25 : decode cX0_errandsLeft 25 = .ok (.iload_n 1, 1) := dk_27 (dk_at dksX0_errandsLeft_1 1 rfl rfl)
theorem dX0_errandsLeft_26 : decode cX0_errandsLeft 26 = .ok (.if_icmp .ne 25, 3) := dk_160 0 25 (dk_at dksX0_errandsLeft_1 2 rfl rfl)
theorem dX0_errandsLeft_29 : decode cX0_errandsLeft 29 = .ok (.aload_n 0, 1) := dk_42 (dk_at dksX0_errandsLeft_1 5 rfl rfl)
theorem dX0_errandsLeft_30 : decode cX0_errandsLeft 30 = .ok (.iload_n 3, 1) := dk_29 (dk_at dksX0_errandsLeft_1 6 rfl rfl)
theorem dX0_errandsLeft_31 : decode cX0_errandsLeft 31 = .ok (.invokevirtual 184, 3) := dk_182 0 184 (dk_at dksX0_errandsLeft_1 7 rfl rfl)
theorem dX0_errandsLeft_34 : decode cX0_errandsLeft 34 = .ok (.ifCond .ne 17, 3) := dk_154 0 17 (dk_at dksX0_errandsLeft_1 10 rfl rfl)
theorem dX0_errandsLeft_37 : decode cX0_errandsLeft 37 = .ok (.iconst 1, 1) := dk_4 (dk_at dksX0_errandsLeft_1 13 rfl rfl)
theorem dX0_errandsLeft_38 : decode cX0_errandsLeft 38 = .ok (.aload_n 0, 1) := dk_42 (dk_at dksX0_errandsLeft_1 14 rfl rfl)
theorem dX0_errandsLeft_39 : decode cX0_errandsLeft 39 = .ok (.getfield 44, 3) := dk_180 0 44 (dk_at dksX0_errandsLeft_1 15 rfl rfl)
theorem dX0_errandsLeft_42 : decode cX0_errandsLeft 42 = .ok (.getfield 181, 3) := dk_180 0 181 (dk_at dksX0_errandsLeft_1 18 rfl rfl)
theorem dX0_errandsLeft_45 : decode cX0_errandsLeft 45 = .ok (.iload_n 3, 1) := dk_29 (dk_at dksX0_errandsLeft_1 21 rfl rfl)
theorem dX0_errandsLeft_46 : decode cX0_errandsLeft 46 = .ok (.iaload, 1) := dk_46 (dk_at dksX0_errandsLeft_1 22 rfl rfl)
theorem dX0_errandsLeft_47 : decode cX0_errandsLeft 47 = .ok (.ishl, 1) := dk_120 (dk_at dksX0_errandsLeft_1 23 rfl rfl)
theorem dX0_errandsLeft_48 : decode cX0_errandsLeft 48 = .ok (.goto 4, 3) := dk_167 0 4 (dk_at dksX0_errandsLeft_2 0 rfl rfl)
theorem dX0_errandsLeft_51 : decode cX0_errandsLeft 51 = .ok (.iconst 0, 1) := dk_3 (dk_at dksX0_errandsLeft_2 3 rfl rfl)
theorem dX0_errandsLeft_52 : decode cX0_errandsLeft 52 = .ok (.ior, 1) := dk_128 (dk_at dksX0_errandsLeft_2 4 rfl rfl)
theorem dX0_errandsLeft_53 : decode cX0_errandsLeft 53 = .ok (.istore_n 2, 1) := dk_61 (dk_at dksX0_errandsLeft_2 5 rfl rfl)
theorem dX0_errandsLeft_54 : decode cX0_errandsLeft 54 = .ok (.iinc 3 1, 3) := dk_132 3 1 (dk_at dksX0_errandsLeft_2 6 rfl rfl)
theorem dX0_errandsLeft_57 : decode cX0_errandsLeft 57 = .ok (.goto (-53), 3) := dk_167 255 203 (dk_at dksX0_errandsLeft_2 9 rfl rfl)
theorem dX0_errandsLeft_60 : decode cX0_errandsLeft 60 = .ok (.iload_n 2, 1) := dk_28 (dk_at dksX0_errandsLeft_2 12 rfl rfl)
theorem dX0_errandsLeft_61 : decode cX0_errandsLeft 61 = .ok (.ireturn, 1) := dk_172 (dk_at dksX0_errandsLeft_2 13 rfl rfl)
abbrev cX0_roundOf : ByteArray := prog_1_method_33_code
def yX0_roundOf : MethodName := ⟨RX0, "roundOf", "(III)I"⟩
def dkwX0_roundOf_10 : List UInt8 := [132, 6, 1, 167, 255, 100, 132, 5, 1, 167, 255, 83, 21, 4, 172]
abbrev dktX0_roundOf_10 : List UInt8 := dkwX0_roundOf_10 ++ []
def dkwX0_roundOf_9 : List UInt8 := [42, 180, 0, 44, 180, 1, 23, 21, 6, 50, 21, 7, 46, 96, 184, 0, 1, 79, 132, 7, 1, 167, 255, 173]
abbrev dktX0_roundOf_9 : List UInt8 := dkwX0_roundOf_9 ++ dktX0_roundOf_10
def dkwX0_roundOf_8 : List UInt8 := [180, 0, 87, 21, 5, 4, 21, 7, 120, 128, 50, 21, 7, 46, 42, 180, 0, 87, 21, 5, 50, 21, 6, 46]
abbrev dktX0_roundOf_8 : List UInt8 := dkwX0_roundOf_8 ++ dktX0_roundOf_9
def dkwX0_roundOf_7 : List UInt8 := [21, 7, 120, 126, 153, 0, 60, 42, 180, 0, 87, 21, 5, 4, 21, 7, 120, 128, 50, 21, 7, 42]
abbrev dktX0_roundOf_7 : List UInt8 := dkwX0_roundOf_7 ++ dktX0_roundOf_8
def dkwX0_roundOf_6 : List UInt8 := [184, 0, 1, 54, 4, 3, 54, 7, 21, 7, 42, 182, 0, 145, 162, 0, 80, 28, 21, 5, 2, 130, 126, 4]
abbrev dktX0_roundOf_6 : List UInt8 := dkwX0_roundOf_6 ++ dktX0_roundOf_7
def dkwX0_roundOf_5 : List UInt8 := [180, 0, 87, 21, 5, 50, 21, 6, 46, 42, 180, 0, 44, 180, 1, 23, 21, 6, 50, 29, 46, 96]
abbrev dktX0_roundOf_5 : List UInt8 := dkwX0_roundOf_5 ++ dktX0_roundOf_6
def dkwX0_roundOf_4 : List UInt8 := [50, 21, 6, 46, 19, 1, 26, 161, 0, 6, 167, 0, 128, 21, 5, 28, 160, 0, 33, 21, 4, 42]
abbrev dktX0_roundOf_4 : List UInt8 := dkwX0_roundOf_4 ++ dktX0_roundOf_5
def dkwX0_roundOf_3 : List UInt8 := [17, 0, 128, 162, 0, 171, 3, 54, 6, 21, 6, 42, 182, 0, 145, 162, 0, 153, 42, 180, 0, 87, 21, 5]
abbrev dktX0_roundOf_3 : List UInt8 := dkwX0_roundOf_3 ++ dktX0_roundOf_4
def dkwX0_roundOf_2 : List UInt8 := [132, 5, 1, 167, 255, 216, 42, 180, 0, 87, 28, 4, 27, 120, 126, 50, 27, 3, 79, 3, 54, 5, 21, 5]
abbrev dktX0_roundOf_2 : List UInt8 := dkwX0_roundOf_2 ++ dktX0_roundOf_3
def dkwX0_roundOf_1 : List UInt8 := [162, 0, 22, 42, 180, 0, 87, 21, 5, 50, 21, 6, 19, 1, 26, 79, 132, 6, 1, 167, 255, 233]
abbrev dktX0_roundOf_1 : List UInt8 := dkwX0_roundOf_1 ++ dktX0_roundOf_2
def dkwX0_roundOf_0 : List UInt8 := [19, 1, 26, 54, 4, 3, 54, 5, 21, 5, 17, 0, 128, 162, 0, 38, 3, 54, 6, 21, 6, 16, 7]
abbrev dktX0_roundOf_0 : List UInt8 := dkwX0_roundOf_0 ++ dktX0_roundOf_1
theorem dksX0_roundOf_0 : cX0_roundOf.data.toList.drop 0 = dktX0_roundOf_0 := by decide +kernel
theorem dksX0_roundOf_1 : cX0_roundOf.data.toList.drop 23 = dktX0_roundOf_1 := dk_seg dksX0_roundOf_0 23 rfl rfl
theorem dksX0_roundOf_2 : cX0_roundOf.data.toList.drop 45 = dktX0_roundOf_2 := dk_seg dksX0_roundOf_1 22 rfl rfl
theorem dksX0_roundOf_3 : cX0_roundOf.data.toList.drop 69 = dktX0_roundOf_3 := dk_seg dksX0_roundOf_2 24 rfl rfl
theorem dksX0_roundOf_4 : cX0_roundOf.data.toList.drop 93 = dktX0_roundOf_4 := dk_seg dksX0_roundOf_3 24 rfl rfl
theorem dksX0_roundOf_5 : cX0_roundOf.data.toList.drop 115 = dktX0_roundOf_5 := dk_seg dksX0_roundOf_4 22 rfl rfl
theorem dksX0_roundOf_6 : cX0_roundOf.data.toList.drop 137 = dktX0_roundOf_6 := dk_seg dksX0_roundOf_5 22 rfl rfl
theorem dksX0_roundOf_7 : cX0_roundOf.data.toList.drop 161 = dktX0_roundOf_7 := dk_seg dksX0_roundOf_6 24 rfl rfl
theorem dksX0_roundOf_8 : cX0_roundOf.data.toList.drop 183 = dktX0_roundOf_8 := dk_seg dksX0_roundOf_7 22 rfl rfl
theorem dksX0_roundOf_9 : cX0_roundOf.data.toList.drop 207 = dktX0_roundOf_9 := dk_seg dksX0_roundOf_8 24 rfl rfl
theorem dksX0_roundOf_10 : cX0_roundOf.data.toList.drop 231 = dktX0_roundOf_10 := dk_seg dksX0_roundOf_9 24 rfl rfl
theorem dX0_roundOf_0 : decode cX0_roundOf 0 = .ok (.ldc_w 282, 3) := dk_19 1 26 (dk_at dksX0_roundOf_0 0 rfl rfl)
theorem dX0_roundOf_3 : decode cX0_roundOf 3 = .ok (.istore 4, 2) := dk_54 4 (dk_at dksX0_roundOf_0 3 rfl rfl)
theorem dX0_roundOf_5 : decode cX0_roundOf 5 = .ok (.iconst 0, 1) := dk_3 (dk_at dksX0_roundOf_0 5 rfl rfl)
theorem dX0_roundOf_6 : decode cX0_roundOf 6 = .ok (.istore 5, 2) := dk_54 5 (dk_at dksX0_roundOf_0 6 rfl rfl)
theorem dX0_roundOf_8 : decode cX0_roundOf 8 = .ok (.iload 5, 2) := dk_21 5 (dk_at dksX0_roundOf_0 8 rfl rfl)
theorem dX0_roundOf_10 : decode cX0_roundOf 10 = .ok (.sipush 128, 3) := dk_17 0 128 (dk_at dksX0_roundOf_0 10 rfl rfl)
theorem dX0_roundOf_13 : decode cX0_roundOf 13 = .ok (.if_icmp .ge 38, 3) := dk_162 0 38 (dk_at dksX0_roundOf_0 13 rfl rfl)
theorem dX0_roundOf_16 : decode cX0_roundOf 16 = .ok (.iconst 0, 1) := dk_3 (dk_at dksX0_roundOf_0 16 rfl rfl)
theorem dX0_roundOf_17 : decode cX0_roundOf 17 = .ok (.istore 6, 2) := dk_54 6 (dk_at dksX0_roundOf_0 17 rfl rfl)
theorem dX0_roundOf_19 : decode cX0_roundOf 19 = .ok (.iload 6, 2) := dk_21 6 (dk_at dksX0_roundOf_0 19 rfl rfl)
theorem dX0_roundOf_21 : decode cX0_roundOf 21 = .ok (.bipush 7, 2) := dk_16 7 (dk_at dksX0_roundOf_0 21 rfl rfl)
theorem dX0_roundOf_23 : decode cX0_roundOf 23 = .ok (.if_icmp .ge 22, 3) := dk_162 0 22 (dk_at dksX0_roundOf_1 0 rfl rfl)
theorem dX0_roundOf_26 : decode cX0_roundOf 26 = .ok (.aload_n 0, 1) := dk_42 (dk_at dksX0_roundOf_1 3 rfl rfl)
theorem dX0_roundOf_27 : decode cX0_roundOf 27 = .ok (.getfield 87, 3) := dk_180 0 87 (dk_at dksX0_roundOf_1 4 rfl rfl)
theorem dX0_roundOf_30 : decode cX0_roundOf 30 = .ok (.iload 5, 2) := dk_21 5 (dk_at dksX0_roundOf_1 7 rfl rfl)
theorem dX0_roundOf_32 : decode cX0_roundOf 32 = .ok (.aaload, 1) := dk_50 (dk_at dksX0_roundOf_1 9 rfl rfl)
theorem dX0_roundOf_33 : decode cX0_roundOf 33 = .ok (.iload 6, 2) := dk_21 6 (dk_at dksX0_roundOf_1 10 rfl rfl)
theorem dX0_roundOf_35 : decode cX0_roundOf 35 = .ok (.ldc_w 282, 3) := dk_19 1 26 (dk_at dksX0_roundOf_1 12 rfl rfl)
theorem dX0_roundOf_38 : decode cX0_roundOf 38 = .ok (.iastore, 1) := dk_79 (dk_at dksX0_roundOf_1 15 rfl rfl)
theorem dX0_roundOf_39 : decode cX0_roundOf 39 = .ok (.iinc 6 1, 3) := dk_132 6 1 (dk_at dksX0_roundOf_1 16 rfl rfl)
theorem dX0_roundOf_42 : decode cX0_roundOf 42 = .ok (.goto (-23), 3) := dk_167 255 233 (dk_at dksX0_roundOf_1 19 rfl rfl)
theorem dX0_roundOf_45 : decode cX0_roundOf 45 = .ok (.iinc 5 1, 3) := dk_132 5 1 (dk_at dksX0_roundOf_2 0 rfl rfl)
theorem dX0_roundOf_48 : decode cX0_roundOf 48 = .ok (.goto (-40), 3) := dk_167 255 216 (dk_at dksX0_roundOf_2 3 rfl rfl)
theorem dX0_roundOf_51 : decode cX0_roundOf 51 = .ok (.aload_n 0, 1) := dk_42 (dk_at dksX0_roundOf_2 6 rfl rfl)
theorem dX0_roundOf_52 : decode cX0_roundOf 52 = .ok (.getfield 87, 3) := dk_180 0 87 (dk_at dksX0_roundOf_2 7 rfl rfl)
theorem dX0_roundOf_55 : decode cX0_roundOf 55 = .ok (.iload_n 2, 1) := dk_28 (dk_at dksX0_roundOf_2 10 rfl rfl)
theorem dX0_roundOf_56 : decode cX0_roundOf 56 = .ok (.iconst 1, 1) := dk_4 (dk_at dksX0_roundOf_2 11 rfl rfl)
theorem dX0_roundOf_57 : decode cX0_roundOf 57 = .ok (.iload_n 1, 1) := dk_27 (dk_at dksX0_roundOf_2 12 rfl rfl)
theorem dX0_roundOf_58 : decode cX0_roundOf 58 = .ok (.ishl, 1) := dk_120 (dk_at dksX0_roundOf_2 13 rfl rfl)
theorem dX0_roundOf_59 : decode cX0_roundOf 59 = .ok (.iand, 1) := dk_126 (dk_at dksX0_roundOf_2 14 rfl rfl)
theorem dX0_roundOf_60 : decode cX0_roundOf 60 = .ok (.aaload, 1) := dk_50 (dk_at dksX0_roundOf_2 15 rfl rfl)
theorem dX0_roundOf_61 : decode cX0_roundOf 61 = .ok (.iload_n 1, 1) := dk_27 (dk_at dksX0_roundOf_2 16 rfl rfl)
theorem dX0_roundOf_62 : decode cX0_roundOf 62 = .ok (.iconst 0, 1) := dk_3 (dk_at dksX0_roundOf_2 17 rfl rfl)
theorem dX0_roundOf_63 : decode cX0_roundOf 63 = .ok (.iastore, 1) := dk_79 (dk_at dksX0_roundOf_2 18 rfl rfl)
theorem dX0_roundOf_64 : decode cX0_roundOf 64 = .ok (.iconst 0, 1) := dk_3 (dk_at dksX0_roundOf_2 19 rfl rfl)
theorem dX0_roundOf_65 : decode cX0_roundOf 65 = .ok (.istore 5, 2) := dk_54 5 (dk_at dksX0_roundOf_2 20 rfl rfl)
theorem dX0_roundOf_67 : decode cX0_roundOf 67 = .ok (.iload 5, 2) := dk_21 5 (dk_at dksX0_roundOf_2 22 rfl rfl)
theorem dX0_roundOf_69 : decode cX0_roundOf 69 = .ok (.sipush 128, 3) := dk_17 0 128 (dk_at dksX0_roundOf_3 0 rfl rfl)
theorem dX0_roundOf_72 : decode cX0_roundOf 72 = .ok (.if_icmp .ge 171, 3) := dk_162 0 171 (dk_at dksX0_roundOf_3 3 rfl rfl)
theorem dX0_roundOf_75 : decode cX0_roundOf 75 = .ok (.iconst 0, 1) := dk_3 (dk_at dksX0_roundOf_3 6 rfl rfl)
theorem dX0_roundOf_76 : decode cX0_roundOf 76 = .ok (.istore 6, 2) := dk_54 6 (dk_at dksX0_roundOf_3 7 rfl rfl)
theorem dX0_roundOf_78 : decode cX0_roundOf 78 = .ok (.iload 6, 2) := dk_21 6 (dk_at dksX0_roundOf_3 9 rfl rfl)
theorem dX0_roundOf_80 : decode cX0_roundOf 80 = .ok (.aload_n 0, 1) := dk_42 (dk_at dksX0_roundOf_3 11 rfl rfl)
theorem dX0_roundOf_81 : decode cX0_roundOf 81 = .ok (.invokevirtual 145, 3) := dk_182 0 145 (dk_at dksX0_roundOf_3 12 rfl rfl)
theorem dX0_roundOf_84 : decode cX0_roundOf 84 = .ok (.if_icmp .ge 153, 3) := dk_162 0 153 (dk_at dksX0_roundOf_3 15 rfl rfl)
theorem dX0_roundOf_87 : decode cX0_roundOf 87 = .ok (.aload_n 0, 1) := dk_42 (dk_at dksX0_roundOf_3 18 rfl rfl)
theorem dX0_roundOf_88 : decode cX0_roundOf 88 = .ok (.getfield 87, 3) := dk_180 0 87 (dk_at dksX0_roundOf_3 19 rfl rfl)
theorem dX0_roundOf_91 : decode cX0_roundOf 91 = .ok (.iload 5, 2) := dk_21 5 (dk_at dksX0_roundOf_3 22 rfl rfl)
theorem dX0_roundOf_93 : decode cX0_roundOf 93 = .ok (.aaload, 1) := dk_50 (dk_at dksX0_roundOf_4 0 rfl rfl)
theorem dX0_roundOf_94 : decode cX0_roundOf 94 = .ok (.iload 6, 2) := dk_21 6 (dk_at dksX0_roundOf_4 1 rfl rfl)
theorem dX0_roundOf_96 : decode cX0_roundOf 96 = .ok (.iaload, 1) := dk_46 (dk_at dksX0_roundOf_4 3 rfl rfl)
theorem dX0_roundOf_97 : decode cX0_roundOf 97 = .ok (.ldc_w 282, 3) := dk_19 1 26 (dk_at dksX0_roundOf_4 4 rfl rfl)
theorem dX0_roundOf_100 : decode cX0_roundOf 100 = .ok (.if_icmp .lt 6, 3) := dk_161 0 6 (dk_at dksX0_roundOf_4 7 rfl rfl)
theorem dX0_roundOf_103 : decode cX0_roundOf 103 = .ok (.goto 128, 3) := dk_167 0 128 (dk_at dksX0_roundOf_4 10 rfl rfl)
theorem dX0_roundOf_106 : decode cX0_roundOf 106 = .ok (.iload 5, 2) := dk_21 5 (dk_at dksX0_roundOf_4 13 rfl rfl)
theorem dX0_roundOf_108 : decode cX0_roundOf 108 = .ok (.iload_n 2, 1) := dk_28 (dk_at dksX0_roundOf_4 15 rfl rfl)
theorem dX0_roundOf_109 : decode cX0_roundOf 109 = .ok (.if_icmp .ne 33, 3) := dk_160 0 33 (dk_at dksX0_roundOf_4 16 rfl rfl)
theorem dX0_roundOf_112 : decode cX0_roundOf 112 = .ok (.iload 4, 2) := dk_21 4 (dk_at dksX0_roundOf_4 19 rfl rfl)
theorem dX0_roundOf_114 : decode cX0_roundOf 114 = .ok (.aload_n 0, 1) := dk_42 (dk_at dksX0_roundOf_4 21 rfl rfl)
theorem dX0_roundOf_115 : decode cX0_roundOf 115 = .ok (.getfield 87, 3) := dk_180 0 87 (dk_at dksX0_roundOf_5 0 rfl rfl)
theorem dX0_roundOf_118 : decode cX0_roundOf 118 = .ok (.iload 5, 2) := dk_21 5 (dk_at dksX0_roundOf_5 3 rfl rfl)
theorem dX0_roundOf_120 : decode cX0_roundOf 120 = .ok (.aaload, 1) := dk_50 (dk_at dksX0_roundOf_5 5 rfl rfl)
theorem dX0_roundOf_121 : decode cX0_roundOf 121 = .ok (.iload 6, 2) := dk_21 6 (dk_at dksX0_roundOf_5 6 rfl rfl)
theorem dX0_roundOf_123 : decode cX0_roundOf 123 = .ok (.iaload, 1) := dk_46 (dk_at dksX0_roundOf_5 8 rfl rfl)
theorem dX0_roundOf_124 : decode cX0_roundOf 124 = .ok (.aload_n 0, 1) := dk_42 (dk_at dksX0_roundOf_5 9 rfl rfl)
theorem dX0_roundOf_125 : decode cX0_roundOf 125 = .ok (.getfield 44, 3) := dk_180 0 44 (dk_at dksX0_roundOf_5 10 rfl rfl)
theorem dX0_roundOf_128 : decode cX0_roundOf 128 = .ok (.getfield 279, 3) := dk_180 1 23 (dk_at dksX0_roundOf_5 13 rfl rfl)
theorem dX0_roundOf_131 : decode cX0_roundOf 131 = .ok (.iload 6, 2) := dk_21 6 (dk_at dksX0_roundOf_5 16 rfl rfl)
theorem dX0_roundOf_133 : decode cX0_roundOf 133 = .ok (.aaload, 1) := dk_50 (dk_at dksX0_roundOf_5 18 rfl rfl)
theorem dX0_roundOf_134 : decode cX0_roundOf 134 = .ok (.iload_n 3, 1) := dk_29 (dk_at dksX0_roundOf_5 19 rfl rfl)
theorem dX0_roundOf_135 : decode cX0_roundOf 135 = .ok (.iaload, 1) := dk_46 (dk_at dksX0_roundOf_5 20 rfl rfl)
theorem dX0_roundOf_136 : decode cX0_roundOf 136 = .ok (.iadd, 1) := dk_96 (dk_at dksX0_roundOf_5 21 rfl rfl)
theorem dX0_roundOf_137 : decode cX0_roundOf 137 = .ok (.invokestatic 1, 3) := dk_184 0 1 (dk_at dksX0_roundOf_6 0 rfl rfl)
theorem dX0_roundOf_140 : decode cX0_roundOf 140 = .ok (.istore 4, 2) := dk_54 4 (dk_at dksX0_roundOf_6 3 rfl rfl)
theorem dX0_roundOf_142 : decode cX0_roundOf 142 = .ok (.iconst 0, 1) := dk_3 (dk_at dksX0_roundOf_6 5 rfl rfl)
theorem dX0_roundOf_143 : decode cX0_roundOf 143 = .ok (.istore 7, 2) := dk_54 7 (dk_at dksX0_roundOf_6 6 rfl rfl)
theorem dX0_roundOf_145 : decode cX0_roundOf 145 = .ok (.iload 7, 2) := dk_21 7 (dk_at dksX0_roundOf_6 8 rfl rfl)
theorem dX0_roundOf_147 : decode cX0_roundOf 147 = .ok (.aload_n 0, 1) := dk_42 (dk_at dksX0_roundOf_6 10 rfl rfl)
theorem dX0_roundOf_148 : decode cX0_roundOf 148 = .ok (.invokevirtual 145, 3) := dk_182 0 145 (dk_at dksX0_roundOf_6 11 rfl rfl)
theorem dX0_roundOf_151 : decode cX0_roundOf 151 = .ok (.if_icmp .ge 80, 3) := dk_162 0 80 (dk_at dksX0_roundOf_6 14 rfl rfl)
theorem dX0_roundOf_154 : decode cX0_roundOf 154 = .ok (.iload_n 2, 1) := dk_28 (dk_at dksX0_roundOf_6 17 rfl rfl)
theorem dX0_roundOf_155 : decode cX0_roundOf 155 = .ok (.iload 5, 2) := dk_21 5 (dk_at dksX0_roundOf_6 18 rfl rfl)
theorem dX0_roundOf_157 : decode cX0_roundOf 157 = .ok (.iconst (-1), 1) := dk_2 (dk_at dksX0_roundOf_6 20 rfl rfl)
theorem dX0_roundOf_158 : decode cX0_roundOf 158 = .ok (.ixor, 1) := dk_130 (dk_at dksX0_roundOf_6 21 rfl rfl)
theorem dX0_roundOf_159 : decode cX0_roundOf 159 = .ok (.iand, 1) := dk_126 (dk_at dksX0_roundOf_6 22 rfl rfl)
theorem dX0_roundOf_160 : decode cX0_roundOf 160 = .ok (.iconst 1, 1) := dk_4 (dk_at dksX0_roundOf_6 23 rfl rfl)
theorem dX0_roundOf_161 : decode cX0_roundOf 161 = .ok (.iload 7, 2) := dk_21 7 (dk_at dksX0_roundOf_7 0 rfl rfl)
theorem dX0_roundOf_163 : decode cX0_roundOf 163 = .ok (.ishl, 1) := dk_120 (dk_at dksX0_roundOf_7 2 rfl rfl)
theorem dX0_roundOf_164 : decode cX0_roundOf 164 = .ok (.iand, 1) := dk_126 (dk_at dksX0_roundOf_7 3 rfl rfl)
theorem dX0_roundOf_165 : decode cX0_roundOf 165 = .ok (.ifCond .eq 60, 3) := dk_153 0 60 (dk_at dksX0_roundOf_7 4 rfl rfl)
theorem dX0_roundOf_168 : decode cX0_roundOf 168 = .ok (.aload_n 0, 1) := dk_42 (dk_at dksX0_roundOf_7 7 rfl rfl)
theorem dX0_roundOf_169 : decode cX0_roundOf 169 = .ok (.getfield 87, 3) := dk_180 0 87 (dk_at dksX0_roundOf_7 8 rfl rfl)
theorem dX0_roundOf_172 : decode cX0_roundOf 172 = .ok (.iload 5, 2) := dk_21 5 (dk_at dksX0_roundOf_7 11 rfl rfl)
theorem dX0_roundOf_174 : decode cX0_roundOf 174 = .ok (.iconst 1, 1) := dk_4 (dk_at dksX0_roundOf_7 13 rfl rfl)
theorem dX0_roundOf_175 : decode cX0_roundOf 175 = .ok (.iload 7, 2) := dk_21 7 (dk_at dksX0_roundOf_7 14 rfl rfl)
theorem dX0_roundOf_177 : decode cX0_roundOf 177 = .ok (.ishl, 1) := dk_120 (dk_at dksX0_roundOf_7 16 rfl rfl)
theorem dX0_roundOf_178 : decode cX0_roundOf 178 = .ok (.ior, 1) := dk_128 (dk_at dksX0_roundOf_7 17 rfl rfl)
theorem dX0_roundOf_179 : decode cX0_roundOf 179 = .ok (.aaload, 1) := dk_50 (dk_at dksX0_roundOf_7 18 rfl rfl)
theorem dX0_roundOf_180 : decode cX0_roundOf 180 = .ok (.iload 7, 2) := dk_21 7 (dk_at dksX0_roundOf_7 19 rfl rfl)
theorem dX0_roundOf_182 : decode cX0_roundOf 182 = .ok (.aload_n 0, 1) := dk_42 (dk_at dksX0_roundOf_7 21 rfl rfl)
theorem dX0_roundOf_183 : decode cX0_roundOf 183 = .ok (.getfield 87, 3) := dk_180 0 87 (dk_at dksX0_roundOf_8 0 rfl rfl)
theorem dX0_roundOf_186 : decode cX0_roundOf 186 = .ok (.iload 5, 2) := dk_21 5 (dk_at dksX0_roundOf_8 3 rfl rfl)
theorem dX0_roundOf_188 : decode cX0_roundOf 188 = .ok (.iconst 1, 1) := dk_4 (dk_at dksX0_roundOf_8 5 rfl rfl)
theorem dX0_roundOf_189 : decode cX0_roundOf 189 = .ok (.iload 7, 2) := dk_21 7 (dk_at dksX0_roundOf_8 6 rfl rfl)
theorem dX0_roundOf_191 : decode cX0_roundOf 191 = .ok (.ishl, 1) := dk_120 (dk_at dksX0_roundOf_8 8 rfl rfl)
theorem dX0_roundOf_192 : decode cX0_roundOf 192 = .ok (.ior, 1) := dk_128 (dk_at dksX0_roundOf_8 9 rfl rfl)
theorem dX0_roundOf_193 : decode cX0_roundOf 193 = .ok (.aaload, 1) := dk_50 (dk_at dksX0_roundOf_8 10 rfl rfl)
theorem dX0_roundOf_194 : decode cX0_roundOf 194 = .ok (.iload 7, 2) := dk_21 7 (dk_at dksX0_roundOf_8 11 rfl rfl)
theorem dX0_roundOf_196 : decode cX0_roundOf 196 = .ok (.iaload, 1) := dk_46 (dk_at dksX0_roundOf_8 13 rfl rfl)
theorem dX0_roundOf_197 : decode cX0_roundOf 197 = .ok (.aload_n 0, 1) := dk_42 (dk_at dksX0_roundOf_8 14 rfl rfl)
theorem dX0_roundOf_198 : decode cX0_roundOf 198 = .ok (.getfield 87, 3) := dk_180 0 87 (dk_at dksX0_roundOf_8 15 rfl rfl)
theorem dX0_roundOf_201 : decode cX0_roundOf 201 = .ok (.iload 5, 2) := dk_21 5 (dk_at dksX0_roundOf_8 18 rfl rfl)
theorem dX0_roundOf_203 : decode cX0_roundOf 203 = .ok (.aaload, 1) := dk_50 (dk_at dksX0_roundOf_8 20 rfl rfl)
theorem dX0_roundOf_204 : decode cX0_roundOf 204 = .ok (.iload 6, 2) := dk_21 6 (dk_at dksX0_roundOf_8 21 rfl rfl)
theorem dX0_roundOf_206 : decode cX0_roundOf 206 = .ok (.iaload, 1) := dk_46 (dk_at dksX0_roundOf_8 23 rfl rfl)
theorem dX0_roundOf_207 : decode cX0_roundOf 207 = .ok (.aload_n 0, 1) := dk_42 (dk_at dksX0_roundOf_9 0 rfl rfl)
theorem dX0_roundOf_208 : decode cX0_roundOf 208 = .ok (.getfield 44, 3) := dk_180 0 44 (dk_at dksX0_roundOf_9 1 rfl rfl)
theorem dX0_roundOf_211 : decode cX0_roundOf 211 = .ok (.getfield 279, 3) := dk_180 1 23 (dk_at dksX0_roundOf_9 4 rfl rfl)
theorem dX0_roundOf_214 : decode cX0_roundOf 214 = .ok (.iload 6, 2) := dk_21 6 (dk_at dksX0_roundOf_9 7 rfl rfl)
theorem dX0_roundOf_216 : decode cX0_roundOf 216 = .ok (.aaload, 1) := dk_50 (dk_at dksX0_roundOf_9 9 rfl rfl)
theorem dX0_roundOf_217 : decode cX0_roundOf 217 = .ok (.iload 7, 2) := dk_21 7 (dk_at dksX0_roundOf_9 10 rfl rfl)
theorem dX0_roundOf_219 : decode cX0_roundOf 219 = .ok (.iaload, 1) := dk_46 (dk_at dksX0_roundOf_9 12 rfl rfl)
theorem dX0_roundOf_220 : decode cX0_roundOf 220 = .ok (.iadd, 1) := dk_96 (dk_at dksX0_roundOf_9 13 rfl rfl)
theorem dX0_roundOf_221 : decode cX0_roundOf 221 = .ok (.invokestatic 1, 3) := dk_184 0 1 (dk_at dksX0_roundOf_9 14 rfl rfl)
theorem dX0_roundOf_224 : decode cX0_roundOf 224 = .ok (.iastore, 1) := dk_79 (dk_at dksX0_roundOf_9 17 rfl rfl)
theorem dX0_roundOf_225 : decode cX0_roundOf 225 = .ok (.iinc 7 1, 3) := dk_132 7 1 (dk_at dksX0_roundOf_9 18 rfl rfl)
theorem dX0_roundOf_228 : decode cX0_roundOf 228 = .ok (.goto (-83), 3) := dk_167 255 173 (dk_at dksX0_roundOf_9 21 rfl rfl)
theorem dX0_roundOf_231 : decode cX0_roundOf 231 = .ok (.iinc 6 1, 3) := dk_132 6 1 (dk_at dksX0_roundOf_10 0 rfl rfl)
theorem dX0_roundOf_234 : decode cX0_roundOf 234 = .ok (.goto (-156), 3) := dk_167 255 100 (dk_at dksX0_roundOf_10 3 rfl rfl)
theorem dX0_roundOf_237 : decode cX0_roundOf 237 = .ok (.iinc 5 1, 3) := dk_132 5 1 (dk_at dksX0_roundOf_10 6 rfl rfl)
theorem dX0_roundOf_240 : decode cX0_roundOf 240 = .ok (.goto (-173), 3) := dk_167 255 83 (dk_at dksX0_roundOf_10 9 rfl rfl)
theorem dX0_roundOf_243 : decode cX0_roundOf 243 = .ok (.iload 4, 2) := dk_21 4 (dk_at dksX0_roundOf_10 12 rfl rfl)
theorem dX0_roundOf_245 : decode cX0_roundOf 245 = .ok (.ireturn, 1) := dk_172 (dk_at dksX0_roundOf_10 14 rfl rfl)
abbrev cX0_minds : ByteArray := prog_1_method_36_code
def yX0_minds : MethodName := ⟨RX0, "minds", "(I)I"⟩
def dkwX0_minds_1 : List UInt8 := [172]
abbrev dktX0_minds_1 : List UInt8 := dkwX0_minds_1 ++ []
def dkwX0_minds_0 : List UInt8 := [42, 27, 182, 0, 187, 153, 0, 18, 42, 180, 0, 55, 42, 180, 0, 44, 27, 182, 1, 48, 167, 0, 4, 2]
abbrev dktX0_minds_0 : List UInt8 := dkwX0_minds_0 ++ dktX0_minds_1
theorem dksX0_minds_0 : cX0_minds.data.toList.drop 0 = dktX0_minds_0 := by decide +kernel
theorem dksX0_minds_1 : cX0_minds.data.toList.drop 24 = dktX0_minds_1 := dk_seg dksX0_minds_0 24 rfl rfl
theorem dX0_minds_0 : decode cX0_minds 0 = .ok (.aload_n 0, 1) := dk_42 (dk_at dksX0_minds_0 0 rfl rfl)
theorem dX0_minds_1 : decode cX0_minds 1 = .ok (.iload_n 1, 1) := dk_27 (dk_at dksX0_minds_0 1 rfl rfl)
theorem dX0_minds_2 : decode cX0_minds 2 = .ok (.invokevirtual 187, 3) := dk_182 0 187 (dk_at dksX0_minds_0 2 rfl rfl)
theorem dX0_minds_5 : decode cX0_minds 5 = .ok (.ifCond .eq 18, 3) := dk_153 0 18 (dk_at dksX0_minds_0 5 rfl rfl)
theorem dX0_minds_8 : decode cX0_minds 8 = .ok (.aload_n 0, 1) := dk_42 (dk_at dksX0_minds_0 8 rfl rfl)
theorem dX0_minds_9 : decode cX0_minds 9 = .ok (.getfield 55, 3) := dk_180 0 55 (dk_at dksX0_minds_0 9 rfl rfl)
theorem dX0_minds_12 : decode cX0_minds 12 = .ok (.aload_n 0, 1) := dk_42 (dk_at dksX0_minds_0 12 rfl rfl)
theorem dX0_minds_13 : decode cX0_minds 13 = .ok (.getfield 44, 3) := dk_180 0 44 (dk_at dksX0_minds_0 13 rfl rfl)
theorem dX0_minds_16 : decode cX0_minds 16 = .ok (.iload_n 1, 1) := dk_27 (dk_at dksX0_minds_0 16 rfl rfl)
theorem dX0_minds_17 : decode cX0_minds 17 = .ok (.invokevirtual 304, 3) := dk_182 1 48 (dk_at dksX0_minds_0 17 rfl rfl)
theorem dX0_minds_20 : decode cX0_minds 20 = .ok (.goto 4, 3) := dk_167 0 4 (dk_at dksX0_minds_0 20 rfl rfl)
theorem dX0_minds_23 : decode cX0_minds 23 = .ok (.iconst (-1), 1) := dk_2 (dk_at dksX0_minds_0 23 rfl rfl)
theorem dX0_minds_24 : decode cX0_minds 24 = .ok (.ireturn, 1) := dk_172 (dk_at dksX0_minds_1 0 rfl rfl)
abbrev cX0_feeding : ByteArray := prog_1_method_37_code
def yX0_feeding : MethodName := ⟨RX0, "feeding", "(I)I"⟩
def dkwX0_feeding_2 : List UInt8 := [184, 0, 7, 96, 61, 132, 3, 1, 167, 255, 215, 28, 172]
abbrev dktX0_feeding_2 : List UInt8 := dkwX0_feeding_2 ++ []
def dkwX0_feeding_1 : List UInt8 := [42, 180, 0, 55, 180, 0, 238, 29, 50, 27, 46, 42, 180, 0, 55, 180, 0, 235, 29, 50, 27, 46, 100]
abbrev dktX0_feeding_1 : List UInt8 := dkwX0_feeding_1 ++ dktX0_feeding_2
def dkwX0_feeding_0 : List UInt8 := [42, 27, 182, 0, 210, 154, 0, 5, 2, 172, 3, 61, 3, 62, 29, 42, 182, 0, 152, 162, 0, 39, 28, 3]
abbrev dktX0_feeding_0 : List UInt8 := dkwX0_feeding_0 ++ dktX0_feeding_1
theorem dksX0_feeding_0 : cX0_feeding.data.toList.drop 0 = dktX0_feeding_0 := by decide +kernel
theorem dksX0_feeding_1 : cX0_feeding.data.toList.drop 24 = dktX0_feeding_1 := dk_seg dksX0_feeding_0 24 rfl rfl
theorem dksX0_feeding_2 : cX0_feeding.data.toList.drop 47 = dktX0_feeding_2 := dk_seg dksX0_feeding_1 23 rfl rfl
theorem dX0_feeding_0 : decode cX0_feeding 0 = .ok (.aload_n 0, 1) := dk_42 (dk_at dksX0_feeding_0 0 rfl rfl)
theorem dX0_feeding_1 : decode cX0_feeding 1 = .ok (.iload_n 1, 1) := dk_27 (dk_at dksX0_feeding_0 1 rfl rfl)
theorem dX0_feeding_2 : decode cX0_feeding 2 = .ok (.invokevirtual 210, 3) := dk_182 0 210 (dk_at dksX0_feeding_0 2 rfl rfl)
theorem dX0_feeding_5 : decode cX0_feeding 5 = .ok (.ifCond .ne 5, 3) := dk_154 0 5 (dk_at dksX0_feeding_0 5 rfl rfl)
theorem dX0_feeding_8 : decode cX0_feeding 8 = .ok (.iconst (-1), 1) := dk_2 (dk_at dksX0_feeding_0 8 rfl rfl)
theorem dX0_feeding_9 : decode cX0_feeding 9 = .ok (.ireturn, 1) := dk_172 (dk_at dksX0_feeding_0 9 rfl rfl)
theorem dX0_feeding_10 : decode cX0_feeding 10 = .ok (.iconst 0, 1) := dk_3 (dk_at dksX0_feeding_0 10 rfl rfl)
theorem dX0_feeding_11 : decode cX0_feeding 11 = .ok (.istore_n 2, 1) := dk_61 (dk_at dksX0_feeding_0 11 rfl rfl)
theorem dX0_feeding_12 : decode cX0_feeding 12 = .ok (.iconst 0, 1) := dk_3 (dk_at dksX0_feeding_0 12 rfl rfl)
theorem dX0_feeding_13 : decode cX0_feeding 13 = .ok (.istore_n 3, 1) := dk_62 (dk_at dksX0_feeding_0 13 rfl rfl)
theorem dX0_feeding_14 : decode cX0_feeding 14 = .ok (.iload_n 3, 1) := dk_29 (dk_at dksX0_feeding_0 14 rfl rfl)
theorem dX0_feeding_15 : decode cX0_feeding 15 = .ok (.aload_n 0, 1) := dk_42 (dk_at dksX0_feeding_0 15 rfl rfl)
theorem dX0_feeding_16 : decode cX0_feeding 16 = .ok (.invokevirtual 152, 3) := dk_182 0 152 (dk_at dksX0_feeding_0 16 rfl rfl)
theorem dX0_feeding_19 : decode cX0_feeding 19 = .ok (.if_icmp .ge 39, 3) := dk_162 0 39 (dk_at dksX0_feeding_0 19 rfl rfl)
theorem dX0_feeding_22 : decode cX0_feeding 22 = .ok (.iload_n 2, 1) := dk_28 (dk_at dksX0_feeding_0 22 rfl rfl)
theorem dX0_feeding_23 : decode cX0_feeding 23 = .ok (.iconst 0, 1) := dk_3 (dk_at dksX0_feeding_0 23 rfl rfl)
theorem dX0_feeding_24 : decode cX0_feeding 24 = .ok (.aload_n 0, 1) := dk_42 (dk_at dksX0_feeding_1 0 rfl rfl)
theorem dX0_feeding_25 : decode cX0_feeding 25 = .ok (.getfield 55, 3) := dk_180 0 55 (dk_at dksX0_feeding_1 1 rfl rfl)
theorem dX0_feeding_28 : decode cX0_feeding 28 = .ok (.getfield 238, 3) := dk_180 0 238 (dk_at dksX0_feeding_1 4 rfl rfl)
theorem dX0_feeding_31 : decode cX0_feeding 31 = .ok (.iload_n 3, 1) := dk_29 (dk_at dksX0_feeding_1 7 rfl rfl)
theorem dX0_feeding_32 : decode cX0_feeding 32 = .ok (.aaload, 1) := dk_50 (dk_at dksX0_feeding_1 8 rfl rfl)
theorem dX0_feeding_33 : decode cX0_feeding 33 = .ok (.iload_n 1, 1) := dk_27 (dk_at dksX0_feeding_1 9 rfl rfl)
theorem dX0_feeding_34 : decode cX0_feeding 34 = .ok (.iaload, 1) := dk_46 (dk_at dksX0_feeding_1 10 rfl rfl)
theorem dX0_feeding_35 : decode cX0_feeding 35 = .ok (.aload_n 0, 1) := dk_42 (dk_at dksX0_feeding_1 11 rfl rfl)
theorem dX0_feeding_36 : decode cX0_feeding 36 = .ok (.getfield 55, 3) := dk_180 0 55 (dk_at dksX0_feeding_1 12 rfl rfl)
theorem dX0_feeding_39 : decode cX0_feeding 39 = .ok (.getfield 235, 3) := dk_180 0 235 (dk_at dksX0_feeding_1 15 rfl rfl)
theorem dX0_feeding_42 : decode cX0_feeding 42 = .ok (.iload_n 3, 1) := dk_29 (dk_at dksX0_feeding_1 18 rfl rfl)
theorem dX0_feeding_43 : decode cX0_feeding 43 = .ok (.aaload, 1) := dk_50 (dk_at dksX0_feeding_1 19 rfl rfl)
theorem dX0_feeding_44 : decode cX0_feeding 44 = .ok (.iload_n 1, 1) := dk_27 (dk_at dksX0_feeding_1 20 rfl rfl)
theorem dX0_feeding_45 : decode cX0_feeding 45 = .ok (.iaload, 1) := dk_46 (dk_at dksX0_feeding_1 21 rfl rfl)
theorem dX0_feeding_46 : decode cX0_feeding 46 = .ok (.isub, 1) := dk_100 (dk_at dksX0_feeding_1 22 rfl rfl)
theorem dX0_feeding_47 : decode cX0_feeding 47 = .ok (.invokestatic 7, 3) := dk_184 0 7 (dk_at dksX0_feeding_2 0 rfl rfl)
theorem dX0_feeding_50 : decode cX0_feeding 50 = .ok (.iadd, 1) := dk_96 (dk_at dksX0_feeding_2 3 rfl rfl)
theorem dX0_feeding_51 : decode cX0_feeding 51 = .ok (.istore_n 2, 1) := dk_61 (dk_at dksX0_feeding_2 4 rfl rfl)
theorem dX0_feeding_52 : decode cX0_feeding 52 = .ok (.iinc 3 1, 3) := dk_132 3 1 (dk_at dksX0_feeding_2 5 rfl rfl)
theorem dX0_feeding_55 : decode cX0_feeding 55 = .ok (.goto (-41), 3) := dk_167 255 215 (dk_at dksX0_feeding_2 8 rfl rfl)
theorem dX0_feeding_58 : decode cX0_feeding 58 = .ok (.iload_n 2, 1) := dk_28 (dk_at dksX0_feeding_2 11 rfl rfl)
theorem dX0_feeding_59 : decode cX0_feeding 59 = .ok (.ireturn, 1) := dk_172 (dk_at dksX0_feeding_2 12 rfl rfl)
abbrev cX0_held : ByteArray := prog_1_method_38_code
def yX0_held : MethodName := ⟨RX0, "held", "(I)I"⟩
def dkwX0_held_3 : List UInt8 := [21, 4, 61, 21, 5, 62, 132, 4, 1, 167, 255, 199, 28, 172]
abbrev dktX0_held_3 : List UInt8 := dkwX0_held_3 ++ []
def dkwX0_held_2 : List UInt8 := [182, 0, 163, 192, 0, 190, 180, 0, 192, 50, 27, 46, 54, 5, 21, 5, 29, 161, 0, 6, 167, 0, 9]
abbrev dktX0_held_2 : List UInt8 := dkwX0_held_2 ++ dktX0_held_3
def dkwX0_held_1 : List UInt8 := [182, 0, 152, 162, 0, 54, 42, 180, 0, 44, 180, 1, 23, 42, 180, 0, 44, 180, 0, 139, 21, 4]
abbrev dktX0_held_1 : List UInt8 := dkwX0_held_1 ++ dktX0_held_2
def dkwX0_held_0 : List UInt8 := [42, 27, 182, 0, 159, 154, 0, 5, 2, 172, 16, 254, 61, 19, 1, 26, 62, 3, 54, 4, 21, 4, 42]
abbrev dktX0_held_0 : List UInt8 := dkwX0_held_0 ++ dktX0_held_1
theorem dksX0_held_0 : cX0_held.data.toList.drop 0 = dktX0_held_0 := by decide +kernel
theorem dksX0_held_1 : cX0_held.data.toList.drop 23 = dktX0_held_1 := dk_seg dksX0_held_0 23 rfl rfl
theorem dksX0_held_2 : cX0_held.data.toList.drop 45 = dktX0_held_2 := dk_seg dksX0_held_1 22 rfl rfl
theorem dksX0_held_3 : cX0_held.data.toList.drop 68 = dktX0_held_3 := dk_seg dksX0_held_2 23 rfl rfl
theorem dX0_held_0 : decode cX0_held 0 = .ok (.aload_n 0, 1) := dk_42 (dk_at dksX0_held_0 0 rfl rfl)
theorem dX0_held_1 : decode cX0_held 1 = .ok (.iload_n 1, 1) := dk_27 (dk_at dksX0_held_0 1 rfl rfl)
theorem dX0_held_2 : decode cX0_held 2 = .ok (.invokevirtual 159, 3) := dk_182 0 159 (dk_at dksX0_held_0 2 rfl rfl)
theorem dX0_held_5 : decode cX0_held 5 = .ok (.ifCond .ne 5, 3) := dk_154 0 5 (dk_at dksX0_held_0 5 rfl rfl)
theorem dX0_held_8 : decode cX0_held 8 = .ok (.iconst (-1), 1) := dk_2 (dk_at dksX0_held_0 8 rfl rfl)
theorem dX0_held_9 : decode cX0_held 9 = .ok (.ireturn, 1) := dk_172 (dk_at dksX0_held_0 9 rfl rfl)
theorem dX0_held_10 : decode cX0_held 10 = .ok (.bipush (-2), 2) := dk_16 254 (dk_at dksX0_held_0 10 rfl rfl)
theorem dX0_held_12 : decode cX0_held 12 = .ok (.istore_n 2, 1) := dk_61 (dk_at dksX0_held_0 12 rfl rfl)
theorem dX0_held_13 : decode cX0_held 13 = .ok (.ldc_w 282, 3) := dk_19 1 26 (dk_at dksX0_held_0 13 rfl rfl)
theorem dX0_held_16 : decode cX0_held 16 = .ok (.istore_n 3, 1) := dk_62 (dk_at dksX0_held_0 16 rfl rfl)
theorem dX0_held_17 : decode cX0_held 17 = .ok (.iconst 0, 1) := dk_3 (dk_at dksX0_held_0 17 rfl rfl)
theorem dX0_held_18 : decode cX0_held 18 = .ok (.istore 4, 2) := dk_54 4 (dk_at dksX0_held_0 18 rfl rfl)
theorem dX0_held_20 : decode cX0_held 20 = .ok (.iload 4, 2) := dk_21 4 (dk_at dksX0_held_0 20 rfl rfl)
theorem dX0_held_22 : decode cX0_held 22 = .ok (.aload_n 0, 1) := dk_42 (dk_at dksX0_held_0 22 rfl rfl)
theorem dX0_held_23 : decode cX0_held 23 = .ok (.invokevirtual 152, 3) := dk_182 0 152 (dk_at dksX0_held_1 0 rfl rfl)
theorem dX0_held_26 : decode cX0_held 26 = .ok (.if_icmp .ge 54, 3) := dk_162 0 54 (dk_at dksX0_held_1 3 rfl rfl)
theorem dX0_held_29 : decode cX0_held 29 = .ok (.aload_n 0, 1) := dk_42 (dk_at dksX0_held_1 6 rfl rfl)
theorem dX0_held_30 : decode cX0_held 30 = .ok (.getfield 44, 3) := dk_180 0 44 (dk_at dksX0_held_1 7 rfl rfl)
theorem dX0_held_33 : decode cX0_held 33 = .ok (.getfield 279, 3) := dk_180 1 23 (dk_at dksX0_held_1 10 rfl rfl)
theorem dX0_held_36 : decode cX0_held 36 = .ok (.aload_n 0, 1) := dk_42 (dk_at dksX0_held_1 13 rfl rfl)
theorem dX0_held_37 : decode cX0_held 37 = .ok (.getfield 44, 3) := dk_180 0 44 (dk_at dksX0_held_1 14 rfl rfl)
theorem dX0_held_40 : decode cX0_held 40 = .ok (.getfield 139, 3) := dk_180 0 139 (dk_at dksX0_held_1 17 rfl rfl)
theorem dX0_held_43 : decode cX0_held 43 = .ok (.iload 4, 2) := dk_21 4 (dk_at dksX0_held_1 20 rfl rfl)
theorem dX0_held_45 : decode cX0_held 45 = .ok (.invokevirtual 163, 3) := dk_182 0 163 (dk_at dksX0_held_2 0 rfl rfl)
theorem dX0_held_48 : decode cX0_held 48 = .ok (.checkcast 190, 3) := dk_192 0 190 (dk_at dksX0_held_2 3 rfl rfl)
theorem dX0_held_51 : decode cX0_held 51 = .ok (.getfield 192, 3) := dk_180 0 192 (dk_at dksX0_held_2 6 rfl rfl)
theorem dX0_held_54 : decode cX0_held 54 = .ok (.aaload, 1) := dk_50 (dk_at dksX0_held_2 9 rfl rfl)
theorem dX0_held_55 : decode cX0_held 55 = .ok (.iload_n 1, 1) := dk_27 (dk_at dksX0_held_2 10 rfl rfl)
theorem dX0_held_56 : decode cX0_held 56 = .ok (.iaload, 1) := dk_46 (dk_at dksX0_held_2 11 rfl rfl)
theorem dX0_held_57 : decode cX0_held 57 = .ok (.istore 5, 2) := dk_54 5 (dk_at dksX0_held_2 12 rfl rfl)
theorem dX0_held_59 : decode cX0_held 59 = .ok (.iload 5, 2) := dk_21 5 (dk_at dksX0_held_2 14 rfl rfl)
theorem dX0_held_61 : decode cX0_held 61 = .ok (.iload_n 3, 1) := dk_29 (dk_at dksX0_held_2 16 rfl rfl)
theorem dX0_held_62 : decode cX0_held 62 = .ok (.if_icmp .lt 6, 3) := dk_161 0 6 (dk_at dksX0_held_2 17 rfl rfl)
theorem dX0_held_65 : decode cX0_held 65 = .ok (.goto 9, 3) := dk_167 0 9 (dk_at dksX0_held_2 20 rfl rfl)
theorem dX0_held_68 : decode cX0_held 68 = .ok (.iload 4, 2) := dk_21 4 (dk_at dksX0_held_3 0 rfl rfl)
theorem dX0_held_70 : decode cX0_held 70 = .ok (.istore_n 2, 1) := dk_61 (dk_at dksX0_held_3 2 rfl rfl)
theorem dX0_held_71 : decode cX0_held 71 = .ok (.iload 5, 2) := dk_21 5 (dk_at dksX0_held_3 3 rfl rfl)
theorem dX0_held_73 : decode cX0_held 73 = .ok (.istore_n 3, 1) := dk_62 (dk_at dksX0_held_3 5 rfl rfl)
theorem dX0_held_74 : decode cX0_held 74 = .ok (.iinc 4 1, 3) := dk_132 4 1 (dk_at dksX0_held_3 6 rfl rfl)
theorem dX0_held_77 : decode cX0_held 77 = .ok (.goto (-57), 3) := dk_167 255 199 (dk_at dksX0_held_3 9 rfl rfl)
theorem dX0_held_80 : decode cX0_held 80 = .ok (.iload_n 2, 1) := dk_28 (dk_at dksX0_held_3 12 rfl rfl)
theorem dX0_held_81 : decode cX0_held 81 = .ok (.ireturn, 1) := dk_172 (dk_at dksX0_held_3 13 rfl rfl)
abbrev cX0_grudge : ByteArray := prog_1_method_39_code
def yX0_grudge : MethodName := ⟨RX0, "grudge", "(II)I"⟩
def dkwX0_grudge_6 : List UInt8 := [132, 3, 1, 167, 255, 147, 16, 254, 172]
abbrev dktX0_grudge_6 : List UInt8 := dkwX0_grudge_6 ++ []
def dkwX0_grudge_5 : List UInt8 := [27, 50, 28, 3, 42, 180, 0, 59, 180, 0, 238, 27, 50, 28, 46, 21, 4, 100, 184, 0, 7, 79]
abbrev dktX0_grudge_5 : List UInt8 := dkwX0_grudge_5 ++ dktX0_grudge_6
def dkwX0_grudge_4 : List UInt8 := [180, 0, 59, 180, 0, 235, 27, 50, 28, 46, 21, 4, 100, 184, 0, 7, 79, 42, 180, 0, 59, 180, 0, 238]
abbrev dktX0_grudge_4 : List UInt8 := dkwX0_grudge_4 ++ dktX0_grudge_5
def dkwX0_grudge_3 : List UInt8 := [180, 0, 44, 27, 28, 182, 0, 248, 54, 4, 42, 180, 0, 59, 180, 0, 235, 27, 50, 28, 3, 42]
abbrev dktX0_grudge_3 : List UInt8 := dkwX0_grudge_3 ++ dktX0_grudge_4
def dkwX0_grudge_2 : List UInt8 := [46, 42, 180, 0, 59, 180, 0, 235, 27, 50, 28, 46, 163, 0, 5, 29, 172, 42, 180, 0, 59, 42]
abbrev dktX0_grudge_2 : List UInt8 := dkwX0_grudge_2 ++ dktX0_grudge_3
def dkwX0_grudge_1 : List UInt8 := [180, 0, 55, 182, 0, 254, 3, 62, 29, 16, 99, 163, 0, 109, 42, 180, 0, 59, 180, 0, 238, 27, 50, 28]
abbrev dktX0_grudge_1 : List UInt8 := dkwX0_grudge_1 ++ dktX0_grudge_2
def dkwX0_grudge_0 : List UInt8 := [42, 27, 182, 0, 187, 153, 0, 11, 42, 28, 182, 0, 210, 154, 0, 5, 2, 172, 42, 180, 0, 59, 42]
abbrev dktX0_grudge_0 : List UInt8 := dkwX0_grudge_0 ++ dktX0_grudge_1
theorem dksX0_grudge_0 : cX0_grudge.data.toList.drop 0 = dktX0_grudge_0 := by decide +kernel
theorem dksX0_grudge_1 : cX0_grudge.data.toList.drop 23 = dktX0_grudge_1 := dk_seg dksX0_grudge_0 23 rfl rfl
theorem dksX0_grudge_2 : cX0_grudge.data.toList.drop 47 = dktX0_grudge_2 := dk_seg dksX0_grudge_1 24 rfl rfl
theorem dksX0_grudge_3 : cX0_grudge.data.toList.drop 69 = dktX0_grudge_3 := dk_seg dksX0_grudge_2 22 rfl rfl
theorem dksX0_grudge_4 : cX0_grudge.data.toList.drop 91 = dktX0_grudge_4 := dk_seg dksX0_grudge_3 22 rfl rfl
theorem dksX0_grudge_5 : cX0_grudge.data.toList.drop 115 = dktX0_grudge_5 := dk_seg dksX0_grudge_4 24 rfl rfl
theorem dksX0_grudge_6 : cX0_grudge.data.toList.drop 137 = dktX0_grudge_6 := dk_seg dksX0_grudge_5 22 rfl rfl
theorem dX0_grudge_0 : decode cX0_grudge 0 = .ok (.aload_n 0, 1) := dk_42 (dk_at dksX0_grudge_0 0 rfl rfl)
theorem dX0_grudge_1 : decode cX0_grudge 1 = .ok (.iload_n 1, 1) := dk_27 (dk_at dksX0_grudge_0 1 rfl rfl)
theorem dX0_grudge_2 : decode cX0_grudge 2 = .ok (.invokevirtual 187, 3) := dk_182 0 187 (dk_at dksX0_grudge_0 2 rfl rfl)
theorem dX0_grudge_5 : decode cX0_grudge 5 = .ok (.ifCond .eq 11, 3) := dk_153 0 11 (dk_at dksX0_grudge_0 5 rfl rfl)
theorem dX0_grudge_8 : decode cX0_grudge 8 = .ok (.aload_n 0, 1) := dk_42 (dk_at dksX0_grudge_0 8 rfl rfl)
theorem dX0_grudge_9 : decode cX0_grudge 9 = .ok (.iload_n 2, 1) := dk_28 (dk_at dksX0_grudge_0 9 rfl rfl)
theorem dX0_grudge_10 : decode cX0_grudge 10 = .ok (.invokevirtual 210, 3) := dk_182 0 210 (dk_at dksX0_grudge_0 10 rfl rfl)
theorem dX0_grudge_13 : decode cX0_grudge 13 = .ok (.ifCond .ne 5, 3) := dk_154 0 5 (dk_at dksX0_grudge_0 13 rfl rfl)
theorem dX0_grudge_16 : decode cX0_grudge 16 = .ok (.iconst (-1), 1) := dk_2 (dk_at dksX0_grudge_0 16 rfl rfl)
theorem dX0_grudge_17 : decode cX0_grudge 17 = .ok (.ireturn, 1) := dk_172 (dk_at dksX0_grudge_0 17 rfl rfl)
theorem dX0_grudge_18 : decode cX0_grudge 18 = .ok (.aload_n 0, 1) := dk_42 (dk_at dksX0_grudge_0 18 rfl rfl)
theorem dX0_grudge_19 : decode cX0_grudge 19 = .ok (.getfield 59, 3) := dk_180 0 59 (dk_at dksX0_grudge_0 19 rfl rfl)
theorem dX0_grudge_22 : decode cX0_grudge 22 = .ok (.aload_n 0, 1) := dk_42 (dk_at dksX0_grudge_0 22 rfl rfl)
theorem dX0_grudge_23 : decode cX0_grudge 23 = .ok (.getfield 55, 3) := dk_180 0 55 (dk_at dksX0_grudge_1 0 rfl rfl)
theorem dX0_grudge_26 : decode cX0_grudge 26 = .ok (.invokevirtual 254, 3) := dk_182 0 254 (dk_at dksX0_grudge_1 3 rfl rfl)
theorem dX0_grudge_29 : decode cX0_grudge 29 = .ok (.iconst 0, 1) := dk_3 (dk_at dksX0_grudge_1 6 rfl rfl)
theorem dX0_grudge_30 : decode cX0_grudge 30 = .ok (.istore_n 3, 1) := dk_62 (dk_at dksX0_grudge_1 7 rfl rfl)
theorem dX0_grudge_31 : decode cX0_grudge 31 = .ok (.iload_n 3, 1) := dk_29 (dk_at dksX0_grudge_1 8 rfl rfl)
theorem dX0_grudge_32 : decode cX0_grudge 32 = .ok (.bipush 99, 2) := dk_16 99 (dk_at dksX0_grudge_1 9 rfl rfl)
theorem dX0_grudge_34 : decode cX0_grudge 34 = .ok (.if_icmp .gt 109, 3) := dk_163 0 109 (dk_at dksX0_grudge_1 11 rfl rfl)
theorem dX0_grudge_37 : decode cX0_grudge 37 = .ok (.aload_n 0, 1) := dk_42 (dk_at dksX0_grudge_1 14 rfl rfl)
theorem dX0_grudge_38 : decode cX0_grudge 38 = .ok (.getfield 59, 3) := dk_180 0 59 (dk_at dksX0_grudge_1 15 rfl rfl)
theorem dX0_grudge_41 : decode cX0_grudge 41 = .ok (.getfield 238, 3) := dk_180 0 238 (dk_at dksX0_grudge_1 18 rfl rfl)
theorem dX0_grudge_44 : decode cX0_grudge 44 = .ok (.iload_n 1, 1) := dk_27 (dk_at dksX0_grudge_1 21 rfl rfl)
theorem dX0_grudge_45 : decode cX0_grudge 45 = .ok (.aaload, 1) := dk_50 (dk_at dksX0_grudge_1 22 rfl rfl)
theorem dX0_grudge_46 : decode cX0_grudge 46 = .ok (.iload_n 2, 1) := dk_28 (dk_at dksX0_grudge_1 23 rfl rfl)
theorem dX0_grudge_47 : decode cX0_grudge 47 = .ok (.iaload, 1) := dk_46 (dk_at dksX0_grudge_2 0 rfl rfl)
theorem dX0_grudge_48 : decode cX0_grudge 48 = .ok (.aload_n 0, 1) := dk_42 (dk_at dksX0_grudge_2 1 rfl rfl)
theorem dX0_grudge_49 : decode cX0_grudge 49 = .ok (.getfield 59, 3) := dk_180 0 59 (dk_at dksX0_grudge_2 2 rfl rfl)
theorem dX0_grudge_52 : decode cX0_grudge 52 = .ok (.getfield 235, 3) := dk_180 0 235 (dk_at dksX0_grudge_2 5 rfl rfl)
theorem dX0_grudge_55 : decode cX0_grudge 55 = .ok (.iload_n 1, 1) := dk_27 (dk_at dksX0_grudge_2 8 rfl rfl)
theorem dX0_grudge_56 : decode cX0_grudge 56 = .ok (.aaload, 1) := dk_50 (dk_at dksX0_grudge_2 9 rfl rfl)
theorem dX0_grudge_57 : decode cX0_grudge 57 = .ok (.iload_n 2, 1) := dk_28 (dk_at dksX0_grudge_2 10 rfl rfl)
theorem dX0_grudge_58 : decode cX0_grudge 58 = .ok (.iaload, 1) := dk_46 (dk_at dksX0_grudge_2 11 rfl rfl)
theorem dX0_grudge_59 : decode cX0_grudge 59 = .ok (.if_icmp .gt 5, 3) := dk_163 0 5 (dk_at dksX0_grudge_2 12 rfl rfl)
theorem dX0_grudge_62 : decode cX0_grudge 62 = .ok (.iload_n 3, 1) := dk_29 (dk_at dksX0_grudge_2 15 rfl rfl)
theorem dX0_grudge_63 : decode cX0_grudge 63 = .ok (.ireturn, 1) := dk_172 (dk_at dksX0_grudge_2 16 rfl rfl)
theorem dX0_grudge_64 : decode cX0_grudge 64 = .ok (.aload_n 0, 1) := dk_42 (dk_at dksX0_grudge_2 17 rfl rfl)
theorem dX0_grudge_65 : decode cX0_grudge 65 = .ok (.getfield 59, 3) := dk_180 0 59 (dk_at dksX0_grudge_2 18 rfl rfl)
theorem dX0_grudge_68 : decode cX0_grudge 68 = .ok (.aload_n 0, 1) := dk_42 (dk_at dksX0_grudge_2 21 rfl rfl)
theorem dX0_grudge_69 : decode cX0_grudge 69 = .ok (.getfield 44, 3) := dk_180 0 44 (dk_at dksX0_grudge_3 0 rfl rfl)
theorem dX0_grudge_72 : decode cX0_grudge 72 = .ok (.iload_n 1, 1) := dk_27 (dk_at dksX0_grudge_3 3 rfl rfl)
theorem dX0_grudge_73 : decode cX0_grudge 73 = .ok (.iload_n 2, 1) := dk_28 (dk_at dksX0_grudge_3 4 rfl rfl)
theorem dX0_grudge_74 : decode cX0_grudge 74 = .ok (.invokevirtual 248, 3) := dk_182 0 248 (dk_at dksX0_grudge_3 5 rfl rfl)
theorem dX0_grudge_77 : decode cX0_grudge 77 = .ok (.istore 4, 2) := dk_54 4 (dk_at dksX0_grudge_3 8 rfl rfl)
theorem dX0_grudge_79 : decode cX0_grudge 79 = .ok (.aload_n 0, 1) := dk_42 (dk_at dksX0_grudge_3 10 rfl rfl)
theorem dX0_grudge_80 : decode cX0_grudge 80 = .ok (.getfield 59, 3) := dk_180 0 59 (dk_at dksX0_grudge_3 11 rfl rfl)
theorem dX0_grudge_83 : decode cX0_grudge 83 = .ok (.getfield 235, 3) := dk_180 0 235 (dk_at dksX0_grudge_3 14 rfl rfl)
theorem dX0_grudge_86 : decode cX0_grudge 86 = .ok (.iload_n 1, 1) := dk_27 (dk_at dksX0_grudge_3 17 rfl rfl)
theorem dX0_grudge_87 : decode cX0_grudge 87 = .ok (.aaload, 1) := dk_50 (dk_at dksX0_grudge_3 18 rfl rfl)
theorem dX0_grudge_88 : decode cX0_grudge 88 = .ok (.iload_n 2, 1) := dk_28 (dk_at dksX0_grudge_3 19 rfl rfl)
theorem dX0_grudge_89 : decode cX0_grudge 89 = .ok (.iconst 0, 1) := dk_3 (dk_at dksX0_grudge_3 20 rfl rfl)
theorem dX0_grudge_90 : decode cX0_grudge 90 = .ok (.aload_n 0, 1) := dk_42 (dk_at dksX0_grudge_3 21 rfl rfl)
theorem dX0_grudge_91 : decode cX0_grudge 91 = .ok (.getfield 59, 3) := dk_180 0 59 (dk_at dksX0_grudge_4 0 rfl rfl)
theorem dX0_grudge_94 : decode cX0_grudge 94 = .ok (.getfield 235, 3) := dk_180 0 235 (dk_at dksX0_grudge_4 3 rfl rfl)
theorem dX0_grudge_97 : decode cX0_grudge 97 = .ok (.iload_n 1, 1) := dk_27 (dk_at dksX0_grudge_4 6 rfl rfl)
theorem dX0_grudge_98 : decode cX0_grudge 98 = .ok (.aaload, 1) := dk_50 (dk_at dksX0_grudge_4 7 rfl rfl)
theorem dX0_grudge_99 : decode cX0_grudge 99 = .ok (.iload_n 2, 1) := dk_28 (dk_at dksX0_grudge_4 8 rfl rfl)
theorem dX0_grudge_100 : decode cX0_grudge 100 = .ok (.iaload, 1) := dk_46 (dk_at dksX0_grudge_4 9 rfl rfl)
theorem dX0_grudge_101 : decode cX0_grudge 101 = .ok (.iload 4, 2) := dk_21 4 (dk_at dksX0_grudge_4 10 rfl rfl)
theorem dX0_grudge_103 : decode cX0_grudge 103 = .ok (.isub, 1) := dk_100 (dk_at dksX0_grudge_4 12 rfl rfl)
theorem dX0_grudge_104 : decode cX0_grudge 104 = .ok (.invokestatic 7, 3) := dk_184 0 7 (dk_at dksX0_grudge_4 13 rfl rfl)
theorem dX0_grudge_107 : decode cX0_grudge 107 = .ok (.iastore, 1) := dk_79 (dk_at dksX0_grudge_4 16 rfl rfl)
theorem dX0_grudge_108 : decode cX0_grudge 108 = .ok (.aload_n 0, 1) := dk_42 (dk_at dksX0_grudge_4 17 rfl rfl)
theorem dX0_grudge_109 : decode cX0_grudge 109 = .ok (.getfield 59, 3) := dk_180 0 59 (dk_at dksX0_grudge_4 18 rfl rfl)
theorem dX0_grudge_112 : decode cX0_grudge 112 = .ok (.getfield 238, 3) := dk_180 0 238 (dk_at dksX0_grudge_4 21 rfl rfl)
theorem dX0_grudge_115 : decode cX0_grudge 115 = .ok (.iload_n 1, 1) := dk_27 (dk_at dksX0_grudge_5 0 rfl rfl)
theorem dX0_grudge_116 : decode cX0_grudge 116 = .ok (.aaload, 1) := dk_50 (dk_at dksX0_grudge_5 1 rfl rfl)
theorem dX0_grudge_117 : decode cX0_grudge 117 = .ok (.iload_n 2, 1) := dk_28 (dk_at dksX0_grudge_5 2 rfl rfl)
theorem dX0_grudge_118 : decode cX0_grudge 118 = .ok (.iconst 0, 1) := dk_3 (dk_at dksX0_grudge_5 3 rfl rfl)
theorem dX0_grudge_119 : decode cX0_grudge 119 = .ok (.aload_n 0, 1) := dk_42 (dk_at dksX0_grudge_5 4 rfl rfl)
theorem dX0_grudge_120 : decode cX0_grudge 120 = .ok (.getfield 59, 3) := dk_180 0 59 (dk_at dksX0_grudge_5 5 rfl rfl)
theorem dX0_grudge_123 : decode cX0_grudge 123 = .ok (.getfield 238, 3) := dk_180 0 238 (dk_at dksX0_grudge_5 8 rfl rfl)
theorem dX0_grudge_126 : decode cX0_grudge 126 = .ok (.iload_n 1, 1) := dk_27 (dk_at dksX0_grudge_5 11 rfl rfl)
theorem dX0_grudge_127 : decode cX0_grudge 127 = .ok (.aaload, 1) := dk_50 (dk_at dksX0_grudge_5 12 rfl rfl)
theorem dX0_grudge_128 : decode cX0_grudge 128 = .ok (.iload_n 2, 1) := dk_28 (dk_at dksX0_grudge_5 13 rfl rfl)
theorem dX0_grudge_129 : decode cX0_grudge 129 = .ok (.iaload, 1) := dk_46 (dk_at dksX0_grudge_5 14 rfl rfl)
theorem dX0_grudge_130 : decode cX0_grudge 130 = .ok (.iload 4, 2) := dk_21 4 (dk_at dksX0_grudge_5 15 rfl rfl)
theorem dX0_grudge_132 : decode cX0_grudge 132 = .ok (.isub, 1) := dk_100 (dk_at dksX0_grudge_5 17 rfl rfl)
theorem dX0_grudge_133 : decode cX0_grudge 133 = .ok (.invokestatic 7, 3) := dk_184 0 7 (dk_at dksX0_grudge_5 18 rfl rfl)
theorem dX0_grudge_136 : decode cX0_grudge 136 = .ok (.iastore, 1) := dk_79 (dk_at dksX0_grudge_5 21 rfl rfl)
theorem dX0_grudge_137 : decode cX0_grudge 137 = .ok (.iinc 3 1, 3) := dk_132 3 1 (dk_at dksX0_grudge_6 0 rfl rfl)
theorem dX0_grudge_140 : decode cX0_grudge 140 = .ok (.goto (-109), 3) := dk_167 255 147 (dk_at dksX0_grudge_6 3 rfl rfl)
theorem dX0_grudge_143 : decode cX0_grudge 143 = .ok (.bipush (-2), 2) := dk_16 254 (dk_at dksX0_grudge_6 6 rfl rfl)
theorem dX0_grudge_145 : decode cX0_grudge 145 = .ok (.ireturn, 1) := dk_172 (dk_at dksX0_grudge_6 8 rfl rfl)
abbrev cX0_share : ByteArray := prog_1_method_41_code
def yX0_share : MethodName := ⟨RX0, "share", "(I)I"⟩
def dkwX0_share_3 : List UInt8 := [182, 1, 52, 104, 28, 108, 172]
abbrev dktX0_share_3 : List UInt8 := dkwX0_share_3 ++ []
def dkwX0_share_2 : List UInt8 := [167, 0, 28, 42, 180, 0, 55, 180, 0, 201, 184, 1, 55, 42, 180, 0, 55, 42, 180, 0, 44, 27]
abbrev dktX0_share_2 : List UInt8 := dkwX0_share_2 ++ dktX0_share_3
def dkwX0_share_1 : List UInt8 := [180, 0, 55, 42, 180, 0, 44, 29, 182, 1, 52, 96, 61, 132, 3, 1, 167, 255, 230, 28, 154, 0, 7, 3]
abbrev dktX0_share_1 : List UInt8 := dkwX0_share_1 ++ dktX0_share_2
def dkwX0_share_0 : List UInt8 := [42, 27, 182, 0, 187, 154, 0, 5, 2, 172, 3, 61, 3, 62, 29, 42, 182, 0, 152, 162, 0, 24, 28, 42]
abbrev dktX0_share_0 : List UInt8 := dkwX0_share_0 ++ dktX0_share_1
theorem dksX0_share_0 : cX0_share.data.toList.drop 0 = dktX0_share_0 := by decide +kernel
theorem dksX0_share_1 : cX0_share.data.toList.drop 24 = dktX0_share_1 := dk_seg dksX0_share_0 24 rfl rfl
theorem dksX0_share_2 : cX0_share.data.toList.drop 48 = dktX0_share_2 := dk_seg dksX0_share_1 24 rfl rfl
theorem dksX0_share_3 : cX0_share.data.toList.drop 70 = dktX0_share_3 := dk_seg dksX0_share_2 22 rfl rfl
theorem dX0_share_0 : decode cX0_share 0 = .ok (.aload_n 0, 1) := dk_42 (dk_at dksX0_share_0 0 rfl rfl)
theorem dX0_share_1 : decode cX0_share 1 = .ok (.iload_n 1, 1) := dk_27 (dk_at dksX0_share_0 1 rfl rfl)
theorem dX0_share_2 : decode cX0_share 2 = .ok (.invokevirtual 187, 3) := dk_182 0 187 (dk_at dksX0_share_0 2 rfl rfl)
theorem dX0_share_5 : decode cX0_share 5 = .ok (.ifCond .ne 5, 3) := dk_154 0 5 (dk_at dksX0_share_0 5 rfl rfl)
theorem dX0_share_8 : decode cX0_share 8 = .ok (.iconst (-1), 1) := dk_2 (dk_at dksX0_share_0 8 rfl rfl)
theorem dX0_share_9 : decode cX0_share 9 = .ok (.ireturn, 1) := dk_172 (dk_at dksX0_share_0 9 rfl rfl)
theorem dX0_share_10 : decode cX0_share 10 = .ok (.iconst 0, 1) := dk_3 (dk_at dksX0_share_0 10 rfl rfl)
theorem dX0_share_11 : decode cX0_share 11 = .ok (.istore_n 2, 1) := dk_61 (dk_at dksX0_share_0 11 rfl rfl)
theorem dX0_share_12 : decode cX0_share 12 = .ok (.iconst 0, 1) := dk_3 (dk_at dksX0_share_0 12 rfl rfl)
theorem dX0_share_13 : decode cX0_share 13 = .ok (.istore_n 3, 1) := dk_62 (dk_at dksX0_share_0 13 rfl rfl)
theorem dX0_share_14 : decode cX0_share 14 = .ok (.iload_n 3, 1) := dk_29 (dk_at dksX0_share_0 14 rfl rfl)
theorem dX0_share_15 : decode cX0_share 15 = .ok (.aload_n 0, 1) := dk_42 (dk_at dksX0_share_0 15 rfl rfl)
theorem dX0_share_16 : decode cX0_share 16 = .ok (.invokevirtual 152, 3) := dk_182 0 152 (dk_at dksX0_share_0 16 rfl rfl)
theorem dX0_share_19 : decode cX0_share 19 = .ok (.if_icmp .ge 24, 3) := dk_162 0 24 (dk_at dksX0_share_0 19 rfl rfl)
theorem dX0_share_22 : decode cX0_share 22 = .ok (.iload_n 2, 1) := dk_28 (dk_at dksX0_share_0 22 rfl rfl)
theorem dX0_share_23 : decode cX0_share 23 = .ok (.aload_n 0, 1) := dk_42 (dk_at dksX0_share_0 23 rfl rfl)
theorem dX0_share_24 : decode cX0_share 24 = .ok (.getfield 55, 3) := dk_180 0 55 (dk_at dksX0_share_1 0 rfl rfl)
theorem dX0_share_27 : decode cX0_share 27 = .ok (.aload_n 0, 1) := dk_42 (dk_at dksX0_share_1 3 rfl rfl)
theorem dX0_share_28 : decode cX0_share 28 = .ok (.getfield 44, 3) := dk_180 0 44 (dk_at dksX0_share_1 4 rfl rfl)
theorem dX0_share_31 : decode cX0_share 31 = .ok (.iload_n 3, 1) := dk_29 (dk_at dksX0_share_1 7 rfl rfl)
theorem dX0_share_32 : decode cX0_share 32 = .ok (.invokevirtual 308, 3) := dk_182 1 52 (dk_at dksX0_share_1 8 rfl rfl)
theorem dX0_share_35 : decode cX0_share 35 = .ok (.iadd, 1) := dk_96 (dk_at dksX0_share_1 11 rfl rfl)
theorem dX0_share_36 : decode cX0_share 36 = .ok (.istore_n 2, 1) := dk_61 (dk_at dksX0_share_1 12 rfl rfl)
theorem dX0_share_37 : decode cX0_share 37 = .ok (.iinc 3 1, 3) := dk_132 3 1 (dk_at dksX0_share_1 13 rfl rfl)
theorem dX0_share_40 : decode cX0_share 40 = .ok (.goto (-26), 3) := dk_167 255 230 (dk_at dksX0_share_1 16 rfl rfl)
theorem dX0_share_43 : decode cX0_share 43 = .ok (.iload_n 2, 1) := dk_28 (dk_at dksX0_share_1 19 rfl rfl)
theorem dX0_share_44 : decode cX0_share 44 = .ok (.ifCond .ne 7, 3) := dk_154 0 7 (dk_at dksX0_share_1 20 rfl rfl)
theorem dX0_share_47 : decode cX0_share 47 = .ok (.iconst 0, 1) := dk_3 (dk_at dksX0_share_1 23 rfl rfl)
theorem dX0_share_48 : decode cX0_share 48 = .ok (.goto 28, 3) := dk_167 0 28 (dk_at dksX0_share_2 0 rfl rfl)
theorem dX0_share_51 : decode cX0_share 51 = .ok (.aload_n 0, 1) := dk_42 (dk_at dksX0_share_2 3 rfl rfl)
theorem dX0_share_52 : decode cX0_share 52 = .ok (.getfield 55, 3) := dk_180 0 55 (dk_at dksX0_share_2 4 rfl rfl)
theorem dX0_share_55 : decode cX0_share 55 = .ok (.getfield 201, 3) := dk_180 0 201 (dk_at dksX0_share_2 7 rfl rfl)
theorem dX0_share_58 : decode cX0_share 58 = .ok (.invokestatic 311, 3) := dk_184 1 55 (dk_at dksX0_share_2 10 rfl rfl)
theorem dX0_share_61 : decode cX0_share 61 = .ok (.aload_n 0, 1) := dk_42 (dk_at dksX0_share_2 13 rfl rfl)
theorem dX0_share_62 : decode cX0_share 62 = .ok (.getfield 55, 3) := dk_180 0 55 (dk_at dksX0_share_2 14 rfl rfl)
theorem dX0_share_65 : decode cX0_share 65 = .ok (.aload_n 0, 1) := dk_42 (dk_at dksX0_share_2 17 rfl rfl)
theorem dX0_share_66 : decode cX0_share 66 = .ok (.getfield 44, 3) := dk_180 0 44 (dk_at dksX0_share_2 18 rfl rfl)
theorem dX0_share_69 : decode cX0_share 69 = .ok (.iload_n 1, 1) := dk_27 (dk_at dksX0_share_2 21 rfl rfl)
theorem dX0_share_70 : decode cX0_share 70 = .ok (.invokevirtual 308, 3) := dk_182 1 52 (dk_at dksX0_share_3 0 rfl rfl)
theorem dX0_share_73 : decode cX0_share 73 = .ok (.imul, 1) := dk_104 (dk_at dksX0_share_3 3 rfl rfl)
theorem dX0_share_74 : decode cX0_share 74 = .ok (.iload_n 2, 1) := dk_28 (dk_at dksX0_share_3 4 rfl rfl)
theorem dX0_share_75 : decode cX0_share 75 = .ok (.idiv, 1) := dk_108 (dk_at dksX0_share_3 5 rfl rfl)
theorem dX0_share_76 : decode cX0_share 76 = .ok (.ireturn, 1) := dk_172 (dk_at dksX0_share_3 6 rfl rfl)
abbrev cX0_sum : ByteArray := prog_1_method_40_code
def yX0_sum : MethodName := ⟨RX0, "sum", "([I)I"⟩
def dkwX0_sum_0 : List UInt8 := [3, 60, 3, 61, 28, 42, 190, 162, 0, 15, 27, 42, 28, 46, 96, 60, 132, 2, 1, 167, 255, 241, 27, 172]
abbrev dktX0_sum_0 : List UInt8 := dkwX0_sum_0 ++ []
theorem dksX0_sum_0 : cX0_sum.data.toList.drop 0 = dktX0_sum_0 := by decide +kernel
theorem dX0_sum_0 : decode cX0_sum 0 = .ok (.iconst 0, 1) := dk_3 (dk_at dksX0_sum_0 0 rfl rfl)
theorem dX0_sum_1 : decode cX0_sum 1 = .ok (.istore_n 1, 1) := dk_60 (dk_at dksX0_sum_0 1 rfl rfl)
theorem dX0_sum_2 : decode cX0_sum 2 = .ok (.iconst 0, 1) := dk_3 (dk_at dksX0_sum_0 2 rfl rfl)
theorem dX0_sum_3 : decode cX0_sum 3 = .ok (.istore_n 2, 1) := dk_61 (dk_at dksX0_sum_0 3 rfl rfl)
theorem dX0_sum_4 : decode cX0_sum 4 = .ok (.iload_n 2, 1) := dk_28 (dk_at dksX0_sum_0 4 rfl rfl)
theorem dX0_sum_5 : decode cX0_sum 5 = .ok (.aload_n 0, 1) := dk_42 (dk_at dksX0_sum_0 5 rfl rfl)
theorem dX0_sum_6 : decode cX0_sum 6 = .ok (.arraylength, 1) := dk_190 (dk_at dksX0_sum_0 6 rfl rfl)
theorem dX0_sum_7 : decode cX0_sum 7 = .ok (.if_icmp .ge 15, 3) := dk_162 0 15 (dk_at dksX0_sum_0 7 rfl rfl)
theorem dX0_sum_10 : decode cX0_sum 10 = .ok (.iload_n 1, 1) := dk_27 (dk_at dksX0_sum_0 10 rfl rfl)
theorem dX0_sum_11 : decode cX0_sum 11 = .ok (.aload_n 0, 1) := dk_42 (dk_at dksX0_sum_0 11 rfl rfl)
theorem dX0_sum_12 : decode cX0_sum 12 = .ok (.iload_n 2, 1) := dk_28 (dk_at dksX0_sum_0 12 rfl rfl)
theorem dX0_sum_13 : decode cX0_sum 13 = .ok (.iaload, 1) := dk_46 (dk_at dksX0_sum_0 13 rfl rfl)
theorem dX0_sum_14 : decode cX0_sum 14 = .ok (.iadd, 1) := dk_96 (dk_at dksX0_sum_0 14 rfl rfl)
theorem dX0_sum_15 : decode cX0_sum 15 = .ok (.istore_n 1, 1) := dk_60 (dk_at dksX0_sum_0 15 rfl rfl)
theorem dX0_sum_16 : decode cX0_sum 16 = .ok (.iinc 2 1, 3) := dk_132 2 1 (dk_at dksX0_sum_0 16 rfl rfl)
theorem dX0_sum_19 : decode cX0_sum 19 = .ok (.goto (-15), 3) := dk_167 255 241 (dk_at dksX0_sum_0 19 rfl rfl)
theorem dX0_sum_22 : decode cX0_sum 22 = .ok (.iload_n 1, 1) := dk_27 (dk_at dksX0_sum_0 22 rfl rfl)
theorem dX0_sum_23 : decode cX0_sum 23 = .ok (.ireturn, 1) := dk_172 (dk_at dksX0_sum_0 23 rfl rfl)
abbrev cX0_safe : ByteArray := prog_1_method_45_code
def yX0_safe : MethodName := ⟨RX0, "safe", "(I)I"⟩
def dkwX0_safe_0 : List UInt8 := [42, 27, 182, 0, 210, 153, 0, 11, 42, 27, 182, 1, 78, 167, 0, 4, 2, 172]
abbrev dktX0_safe_0 : List UInt8 := dkwX0_safe_0 ++ []
theorem dksX0_safe_0 : cX0_safe.data.toList.drop 0 = dktX0_safe_0 := by decide +kernel
theorem dX0_safe_0 : decode cX0_safe 0 = .ok (.aload_n 0, 1) := dk_42 (dk_at dksX0_safe_0 0 rfl rfl)
theorem dX0_safe_1 : decode cX0_safe 1 = .ok (.iload_n 1, 1) := dk_27 (dk_at dksX0_safe_0 1 rfl rfl)
theorem dX0_safe_2 : decode cX0_safe 2 = .ok (.invokevirtual 210, 3) := dk_182 0 210 (dk_at dksX0_safe_0 2 rfl rfl)
theorem dX0_safe_5 : decode cX0_safe 5 = .ok (.ifCond .eq 11, 3) := dk_153 0 11 (dk_at dksX0_safe_0 5 rfl rfl)
theorem dX0_safe_8 : decode cX0_safe 8 = .ok (.aload_n 0, 1) := dk_42 (dk_at dksX0_safe_0 8 rfl rfl)
theorem dX0_safe_9 : decode cX0_safe 9 = .ok (.iload_n 1, 1) := dk_27 (dk_at dksX0_safe_0 9 rfl rfl)
theorem dX0_safe_10 : decode cX0_safe 10 = .ok (.invokevirtual 334, 3) := dk_182 1 78 (dk_at dksX0_safe_0 10 rfl rfl)
theorem dX0_safe_13 : decode cX0_safe 13 = .ok (.goto 4, 3) := dk_167 0 4 (dk_at dksX0_safe_0 13 rfl rfl)
theorem dX0_safe_16 : decode cX0_safe 16 = .ok (.iconst (-1), 1) := dk_2 (dk_at dksX0_safe_0 16 rfl rfl)
theorem dX0_safe_17 : decode cX0_safe 17 = .ok (.ireturn, 1) := dk_172 (dk_at dksX0_safe_0 17 rfl rfl)
abbrev cX0_safeFor : ByteArray := prog_1_method_44_code
def yX0_safeFor : MethodName := ⟨RX0, "safeFor", "(I)I"⟩
def dkwX0_safeFor_2 : List UInt8 := [132, 3, 1, 167, 255, 209, 28, 172]
abbrev dktX0_safeFor_2 : List UInt8 := dkwX0_safeFor_2 ++ []
def dkwX0_safeFor_1 : List UInt8 := [29, 79, 28, 42, 182, 1, 75, 27, 122, 4, 126, 4, 160, 0, 7, 3, 167, 0, 6, 4, 29, 120, 128, 61]
abbrev dktX0_safeFor_1 : List UInt8 := dkwX0_safeFor_1 ++ dktX0_safeFor_2
def dkwX0_safeFor_0 : List UInt8 := [3, 61, 3, 62, 29, 42, 182, 0, 145, 162, 0, 45, 42, 182, 1, 72, 42, 180, 0, 59, 180, 0, 175, 27]
abbrev dktX0_safeFor_0 : List UInt8 := dkwX0_safeFor_0 ++ dktX0_safeFor_1
theorem dksX0_safeFor_0 : cX0_safeFor.data.toList.drop 0 = dktX0_safeFor_0 := by decide +kernel
theorem dksX0_safeFor_1 : cX0_safeFor.data.toList.drop 24 = dktX0_safeFor_1 := dk_seg dksX0_safeFor_0 24 rfl rfl
theorem dksX0_safeFor_2 : cX0_safeFor.data.toList.drop 48 = dktX0_safeFor_2 := dk_seg dksX0_safeFor_1 24 rfl rfl
theorem dX0_safeFor_0 : decode cX0_safeFor 0 = .ok (.iconst 0, 1) := dk_3 (dk_at dksX0_safeFor_0 0 rfl rfl)
theorem dX0_safeFor_1 : decode cX0_safeFor 1 = .ok (.istore_n 2, 1) := dk_61 (dk_at dksX0_safeFor_0 1 rfl rfl)
theorem dX0_safeFor_2 : decode cX0_safeFor 2 = .ok (.iconst 0, 1) := dk_3 (dk_at dksX0_safeFor_0 2 rfl rfl)
theorem dX0_safeFor_3 : decode cX0_safeFor 3 = .ok (.istore_n 3, 1) := dk_62 (dk_at dksX0_safeFor_0 3 rfl rfl)
theorem dX0_safeFor_4 : decode cX0_safeFor 4 = .ok (.iload_n 3, 1) := dk_29 (dk_at dksX0_safeFor_0 4 rfl rfl)
theorem dX0_safeFor_5 : decode cX0_safeFor 5 = .ok (.aload_n 0, 1) := dk_42 (dk_at dksX0_safeFor_0 5 rfl rfl)
theorem dX0_safeFor_6 : decode cX0_safeFor 6 = .ok (.invokevirtual 145, 3) := dk_182 0 145 (dk_at dksX0_safeFor_0 6 rfl rfl)
theorem dX0_safeFor_9 : decode cX0_safeFor 9 = .ok (.if_icmp .ge 45, 3) := dk_162 0 45 (dk_at dksX0_safeFor_0 9 rfl rfl)
theorem dX0_safeFor_12 : decode cX0_safeFor 12 = .ok (.aload_n 0, 1) := dk_42 (dk_at dksX0_safeFor_0 12 rfl rfl)
theorem dX0_safeFor_13 : decode cX0_safeFor 13 = .ok (.invokevirtual 328, 3) := dk_182 1 72 (dk_at dksX0_safeFor_0 13 rfl rfl)
theorem dX0_safeFor_16 : decode cX0_safeFor 16 = .ok (.aload_n 0, 1) := dk_42 (dk_at dksX0_safeFor_0 16 rfl rfl)
theorem dX0_safeFor_17 : decode cX0_safeFor 17 = .ok (.getfield 59, 3) := dk_180 0 59 (dk_at dksX0_safeFor_0 17 rfl rfl)
theorem dX0_safeFor_20 : decode cX0_safeFor 20 = .ok (.getfield 175, 3) := dk_180 0 175 (dk_at dksX0_safeFor_0 20 rfl rfl)
theorem dX0_safeFor_23 : decode cX0_safeFor 23 = .ok (.iload_n 1, 1) := dk_27 (dk_at dksX0_safeFor_0 23 rfl rfl)
theorem dX0_safeFor_24 : decode cX0_safeFor 24 = .ok (.iload_n 3, 1) := dk_29 (dk_at dksX0_safeFor_1 0 rfl rfl)
theorem dX0_safeFor_25 : decode cX0_safeFor 25 = .ok (.iastore, 1) := dk_79 (dk_at dksX0_safeFor_1 1 rfl rfl)
theorem dX0_safeFor_26 : decode cX0_safeFor 26 = .ok (.iload_n 2, 1) := dk_28 (dk_at dksX0_safeFor_1 2 rfl rfl)
theorem dX0_safeFor_27 : decode cX0_safeFor 27 = .ok (.aload_n 0, 1) := dk_42 (dk_at dksX0_safeFor_1 3 rfl rfl)
theorem dX0_safeFor_28 : decode cX0_safeFor 28 = .ok (.invokevirtual 331, 3) := dk_182 1 75 (dk_at dksX0_safeFor_1 4 rfl rfl)
theorem dX0_safeFor_31 : decode cX0_safeFor 31 = .ok (.iload_n 1, 1) := dk_27 (dk_at dksX0_safeFor_1 7 rfl rfl)
theorem dX0_safeFor_32 : decode cX0_safeFor 32 = .ok (.ishr, 1) := dk_122 (dk_at dksX0_safeFor_1 8 rfl rfl)
theorem dX0_safeFor_33 : decode cX0_safeFor 33 = .ok (.iconst 1, 1) := dk_4 (dk_at dksX0_safeFor_1 9 rfl rfl)
theorem dX0_safeFor_34 : decode cX0_safeFor 34 = .ok (.iand, 1) := dk_126 (dk_at dksX0_safeFor_1 10 rfl rfl)
theorem dX0_safeFor_35 : decode cX0_safeFor 35 = .ok (.iconst 1, 1) := dk_4 (dk_at dksX0_safeFor_1 11 rfl rfl)
theorem dX0_safeFor_36 : decode cX0_safeFor 36 = .ok (.if_icmp .ne 7, 3) := dk_160 0 7 (dk_at dksX0_safeFor_1 12 rfl rfl)
theorem dX0_safeFor_39 : decode cX0_safeFor 39 = .ok (.iconst 0, 1) := dk_3 (dk_at dksX0_safeFor_1 15 rfl rfl)
theorem dX0_safeFor_40 : decode cX0_safeFor 40 = .ok (.goto 6, 3) := dk_167 0 6 (dk_at dksX0_safeFor_1 16 rfl rfl)
theorem dX0_safeFor_43 : decode cX0_safeFor 43 = .ok (.iconst 1, 1) := dk_4 (dk_at dksX0_safeFor_1 19 rfl rfl)
theorem dX0_safeFor_44 : decode cX0_safeFor 44 = .ok (.iload_n 3, 1) := dk_29 (dk_at dksX0_safeFor_1 20 rfl rfl)
theorem dX0_safeFor_45 : decode cX0_safeFor 45 = .ok (.ishl, 1) := dk_120 (dk_at dksX0_safeFor_1 21 rfl rfl)
theorem dX0_safeFor_46 : decode cX0_safeFor 46 = .ok (.ior, 1) := dk_128 (dk_at dksX0_safeFor_1 22 rfl rfl)
theorem dX0_safeFor_47 : decode cX0_safeFor 47 = .ok (.istore_n 2, 1) := dk_61 (dk_at dksX0_safeFor_1 23 rfl rfl)
theorem dX0_safeFor_48 : decode cX0_safeFor 48 = .ok (.iinc 3 1, 3) := dk_132 3 1 (dk_at dksX0_safeFor_2 0 rfl rfl)
theorem dX0_safeFor_51 : decode cX0_safeFor 51 = .ok (.goto (-47), 3) := dk_167 255 209 (dk_at dksX0_safeFor_2 3 rfl rfl)
theorem dX0_safeFor_54 : decode cX0_safeFor 54 = .ok (.iload_n 2, 1) := dk_28 (dk_at dksX0_safeFor_2 6 rfl rfl)
theorem dX0_safeFor_55 : decode cX0_safeFor 55 = .ok (.ireturn, 1) := dk_172 (dk_at dksX0_safeFor_2 7 rfl rfl)
abbrev cX0_nextHour : ByteArray := prog_1_method_42_code
def yX0_nextHour : MethodName := ⟨RX0, "nextHour", "()V"⟩
def dkwX0_nextHour_2 : List UInt8 := [180, 0, 59, 180, 0, 221, 27, 16, 254, 79, 132, 1, 1, 167, 255, 237, 177]
abbrev dktX0_nextHour_2 : List UInt8 := dkwX0_nextHour_2 ++ []
def dkwX0_nextHour_1 : List UInt8 := [181, 1, 20, 42, 180, 0, 59, 42, 180, 0, 44, 182, 1, 59, 3, 60, 27, 7, 162, 0, 20, 42]
abbrev dktX0_nextHour_1 : List UInt8 := dkwX0_nextHour_1 ++ dktX0_nextHour_2
def dkwX0_nextHour_0 : List UInt8 := [42, 180, 0, 59, 42, 180, 0, 55, 182, 0, 254, 42, 180, 0, 59, 89, 180, 1, 20, 42, 182, 1, 34, 96]
abbrev dktX0_nextHour_0 : List UInt8 := dkwX0_nextHour_0 ++ dktX0_nextHour_1
theorem dksX0_nextHour_0 : cX0_nextHour.data.toList.drop 0 = dktX0_nextHour_0 := by decide +kernel
theorem dksX0_nextHour_1 : cX0_nextHour.data.toList.drop 24 = dktX0_nextHour_1 := dk_seg dksX0_nextHour_0 24 rfl rfl
theorem dksX0_nextHour_2 : cX0_nextHour.data.toList.drop 46 = dktX0_nextHour_2 := dk_seg dksX0_nextHour_1 22 rfl rfl
theorem dX0_nextHour_0 : decode cX0_nextHour 0 = .ok (.aload_n 0, 1) := dk_42 (dk_at dksX0_nextHour_0 0 rfl rfl)
theorem dX0_nextHour_1 : decode cX0_nextHour 1 = .ok (.getfield 59, 3) := dk_180 0 59 (dk_at dksX0_nextHour_0 1 rfl rfl)
theorem dX0_nextHour_4 : decode cX0_nextHour 4 = .ok (.aload_n 0, 1) := dk_42 (dk_at dksX0_nextHour_0 4 rfl rfl)
theorem dX0_nextHour_5 : decode cX0_nextHour 5 = .ok (.getfield 55, 3) := dk_180 0 55 (dk_at dksX0_nextHour_0 5 rfl rfl)
theorem dX0_nextHour_8 : decode cX0_nextHour 8 = .ok (.invokevirtual 254, 3) := dk_182 0 254 (dk_at dksX0_nextHour_0 8 rfl rfl)
theorem dX0_nextHour_11 : decode cX0_nextHour 11 = .ok (.aload_n 0, 1) := dk_42 (dk_at dksX0_nextHour_0 11 rfl rfl)
theorem dX0_nextHour_12 : decode cX0_nextHour 12 = .ok (.getfield 59, 3) := dk_180 0 59 (dk_at dksX0_nextHour_0 12 rfl rfl)
theorem dX0_nextHour_15 : decode cX0_nextHour 15 = .ok (.dup, 1) := dk_89 (dk_at dksX0_nextHour_0 15 rfl rfl)
theorem dX0_nextHour_16 : decode cX0_nextHour 16 = .ok (.getfield 276, 3) := dk_180 1 20 (dk_at dksX0_nextHour_0 16 rfl rfl)
theorem dX0_nextHour_19 : decode cX0_nextHour 19 = .ok (.aload_n 0, 1) := dk_42 (dk_at dksX0_nextHour_0 19 rfl rfl)
theorem dX0_nextHour_20 : decode cX0_nextHour 20 = .ok (.invokevirtual 290, 3) := dk_182 1 34 (dk_at dksX0_nextHour_0 20 rfl rfl)
theorem dX0_nextHour_23 : decode cX0_nextHour 23 = .ok (.iadd, 1) := dk_96 (dk_at dksX0_nextHour_0 23 rfl rfl)
theorem dX0_nextHour_24 : decode cX0_nextHour 24 = .ok (.putfield 276, 3) := dk_181 1 20 (dk_at dksX0_nextHour_1 0 rfl rfl)
theorem dX0_nextHour_27 : decode cX0_nextHour 27 = .ok (.aload_n 0, 1) := dk_42 (dk_at dksX0_nextHour_1 3 rfl rfl)
theorem dX0_nextHour_28 : decode cX0_nextHour 28 = .ok (.getfield 59, 3) := dk_180 0 59 (dk_at dksX0_nextHour_1 4 rfl rfl)
theorem dX0_nextHour_31 : decode cX0_nextHour 31 = .ok (.aload_n 0, 1) := dk_42 (dk_at dksX0_nextHour_1 7 rfl rfl)
theorem dX0_nextHour_32 : decode cX0_nextHour 32 = .ok (.getfield 44, 3) := dk_180 0 44 (dk_at dksX0_nextHour_1 8 rfl rfl)
theorem dX0_nextHour_35 : decode cX0_nextHour 35 = .ok (.invokevirtual 315, 3) := dk_182 1 59 (dk_at dksX0_nextHour_1 11 rfl rfl)
theorem dX0_nextHour_38 : decode cX0_nextHour 38 = .ok (.iconst 0, 1) := dk_3 (dk_at dksX0_nextHour_1 14 rfl rfl)
theorem dX0_nextHour_39 : decode cX0_nextHour 39 = .ok (.istore_n 1, 1) := dk_60 (dk_at dksX0_nextHour_1 15 rfl rfl)
theorem dX0_nextHour_40 : decode cX0_nextHour 40 = .ok (.iload_n 1, 1) := dk_27 (dk_at dksX0_nextHour_1 16 rfl rfl)
theorem dX0_nextHour_41 : decode cX0_nextHour 41 = .ok (.iconst 4, 1) := dk_7 (dk_at dksX0_nextHour_1 17 rfl rfl)
theorem dX0_nextHour_42 : decode cX0_nextHour 42 = .ok (.if_icmp .ge 20, 3) := dk_162 0 20 (dk_at dksX0_nextHour_1 18 rfl rfl)
theorem dX0_nextHour_45 : decode cX0_nextHour 45 = .ok (.aload_n 0, 1) := dk_42 (dk_at dksX0_nextHour_1 21 rfl rfl)
theorem dX0_nextHour_46 : decode cX0_nextHour 46 = .ok (.getfield 59, 3) := dk_180 0 59 (dk_at dksX0_nextHour_2 0 rfl rfl)
theorem dX0_nextHour_49 : decode cX0_nextHour 49 = .ok (.getfield 221, 3) := dk_180 0 221 (dk_at dksX0_nextHour_2 3 rfl rfl)
theorem dX0_nextHour_52 : decode cX0_nextHour 52 = .ok (.iload_n 1, 1) := dk_27 (dk_at dksX0_nextHour_2 6 rfl rfl)
theorem dX0_nextHour_53 : decode cX0_nextHour 53 = .ok (.bipush (-2), 2) := dk_16 254 (dk_at dksX0_nextHour_2 7 rfl rfl)
theorem dX0_nextHour_55 : decode cX0_nextHour 55 = .ok (.iastore, 1) := dk_79 (dk_at dksX0_nextHour_2 9 rfl rfl)
theorem dX0_nextHour_56 : decode cX0_nextHour 56 = .ok (.iinc 1 1, 3) := dk_132 1 1 (dk_at dksX0_nextHour_2 10 rfl rfl)
theorem dX0_nextHour_59 : decode cX0_nextHour 59 = .ok (.goto (-19), 3) := dk_167 255 237 (dk_at dksX0_nextHour_2 13 rfl rfl)
theorem dX0_nextHour_62 : decode cX0_nextHour 62 = .ok (.return_, 1) := dk_177 (dk_at dksX0_nextHour_2 16 rfl rfl)
abbrev cX0_fetchedIn : ByteArray := prog_1_method_43_code
def yX0_fetchedIn : MethodName := ⟨RX0, "fetchedIn", "()I"⟩
def dkwX0_fetchedIn_3 : List UInt8 := [180, 1, 69, 172]
abbrev dktX0_fetchedIn_3 : List UInt8 := dkwX0_fetchedIn_3 ++ []
def dkwX0_fetchedIn_2 : List UInt8 := [42, 180, 0, 59, 89, 180, 1, 20, 4, 96, 181, 1, 20, 132, 1, 1, 167, 255, 201, 42, 180, 0, 59]
abbrev dktX0_fetchedIn_2 : List UInt8 := dkwX0_fetchedIn_2 ++ dktX0_fetchedIn_3
def dkwX0_fetchedIn_1 : List UInt8 := [182, 0, 152, 162, 0, 21, 42, 180, 0, 59, 42, 180, 0, 44, 28, 182, 1, 65, 132, 2, 1, 167, 255, 233]
abbrev dktX0_fetchedIn_1 : List UInt8 := dkwX0_fetchedIn_1 ++ dktX0_fetchedIn_2
def dkwX0_fetchedIn_0 : List UInt8 := [42, 180, 0, 44, 180, 1, 27, 60, 27, 42, 180, 0, 44, 180, 1, 62, 162, 0, 50, 3, 61, 28, 42]
abbrev dktX0_fetchedIn_0 : List UInt8 := dkwX0_fetchedIn_0 ++ dktX0_fetchedIn_1
theorem dksX0_fetchedIn_0 : cX0_fetchedIn.data.toList.drop 0 = dktX0_fetchedIn_0 := by decide +kernel
theorem dksX0_fetchedIn_1 : cX0_fetchedIn.data.toList.drop 23 = dktX0_fetchedIn_1 := dk_seg dksX0_fetchedIn_0 23 rfl rfl
theorem dksX0_fetchedIn_2 : cX0_fetchedIn.data.toList.drop 47 = dktX0_fetchedIn_2 := dk_seg dksX0_fetchedIn_1 24 rfl rfl
theorem dksX0_fetchedIn_3 : cX0_fetchedIn.data.toList.drop 70 = dktX0_fetchedIn_3 := dk_seg dksX0_fetchedIn_2 23 rfl rfl
theorem dX0_fetchedIn_0 : decode cX0_fetchedIn 0 = .ok (.aload_n 0, 1) := dk_42 (dk_at dksX0_fetchedIn_0 0 rfl rfl)
theorem dX0_fetchedIn_1 : decode cX0_fetchedIn 1 = .ok (.getfield 44, 3) := dk_180 0 44 (dk_at dksX0_fetchedIn_0 1 rfl rfl)
theorem dX0_fetchedIn_4 : decode cX0_fetchedIn 4 = .ok (.getfield 283, 3) := dk_180 1 27 (dk_at dksX0_fetchedIn_0 4 rfl rfl)
theorem dX0_fetchedIn_7 : decode cX0_fetchedIn 7 = .ok (.istore_n 1, 1) := dk_60 (dk_at dksX0_fetchedIn_0 7 rfl rfl)
theorem dX0_fetchedIn_8 : decode cX0_fetchedIn 8 = .ok (.iload_n 1, 1) := dk_27 (dk_at dksX0_fetchedIn_0 8 rfl rfl)
theorem dX0_fetchedIn_9 : decode cX0_fetchedIn 9 = .ok (.aload_n 0, 1) := dk_42 (dk_at dksX0_fetchedIn_0 9 rfl rfl)
theorem dX0_fetchedIn_10 : decode cX0_fetchedIn 10 = .ok (.getfield 44, 3) := dk_180 0 44 (dk_at dksX0_fetchedIn_0 10 rfl rfl)
theorem dX0_fetchedIn_13 : decode cX0_fetchedIn 13 = .ok (.getfield 318, 3) := dk_180 1 62 (dk_at dksX0_fetchedIn_0 13 rfl rfl)
theorem dX0_fetchedIn_16 : decode cX0_fetchedIn 16 = .ok (.if_icmp .ge 50, 3) := dk_162 0 50 (dk_at dksX0_fetchedIn_0 16 rfl rfl)
theorem dX0_fetchedIn_19 : decode cX0_fetchedIn 19 = .ok (.iconst 0, 1) := dk_3 (dk_at dksX0_fetchedIn_0 19 rfl rfl)
theorem dX0_fetchedIn_20 : decode cX0_fetchedIn 20 = .ok (.istore_n 2, 1) := dk_61 (dk_at dksX0_fetchedIn_0 20 rfl rfl)
theorem dX0_fetchedIn_21 : decode cX0_fetchedIn 21 = .ok (.iload_n 2, 1) := dk_28 (dk_at dksX0_fetchedIn_0 21 rfl rfl)
theorem dX0_fetchedIn_22 : decode cX0_fetchedIn 22 = .ok (.aload_n 0, 1) := dk_42 (dk_at dksX0_fetchedIn_0 22 rfl rfl)
theorem dX0_fetchedIn_23 : decode cX0_fetchedIn 23 = .ok (.invokevirtual 152, 3) := dk_182 0 152 (dk_at dksX0_fetchedIn_1 0 rfl rfl)
theorem dX0_fetchedIn_26 : decode cX0_fetchedIn 26 = .ok (.if_icmp .ge 21, 3) := dk_162 0 21 (dk_at dksX0_fetchedIn_1 3 rfl rfl)
theorem dX0_fetchedIn_29 : decode cX0_fetchedIn 29 = .ok (.aload_n 0, 1) := dk_42 (dk_at dksX0_fetchedIn_1 6 rfl rfl)
theorem dX0_fetchedIn_30 : decode cX0_fetchedIn 30 = .ok (.getfield 59, 3) := dk_180 0 59 (dk_at dksX0_fetchedIn_1 7 rfl rfl)
theorem dX0_fetchedIn_33 : decode cX0_fetchedIn 33 = .ok (.aload_n 0, 1) := dk_42 (dk_at dksX0_fetchedIn_1 10 rfl rfl)
theorem dX0_fetchedIn_34 : decode cX0_fetchedIn 34 = .ok (.getfield 44, 3) := dk_180 0 44 (dk_at dksX0_fetchedIn_1 11 rfl rfl)
theorem dX0_fetchedIn_37 : decode cX0_fetchedIn 37 = .ok (.iload_n 2, 1) := dk_28 (dk_at dksX0_fetchedIn_1 14 rfl rfl)
theorem dX0_fetchedIn_38 : decode cX0_fetchedIn 38 = .ok (.invokevirtual 321, 3) := dk_182 1 65 (dk_at dksX0_fetchedIn_1 15 rfl rfl)
theorem dX0_fetchedIn_41 : decode cX0_fetchedIn 41 = .ok (.iinc 2 1, 3) := dk_132 2 1 (dk_at dksX0_fetchedIn_1 18 rfl rfl)
theorem dX0_fetchedIn_44 : decode cX0_fetchedIn 44 = .ok (.goto (-23), 3) := dk_167 255 233 (dk_at dksX0_fetchedIn_1 21 rfl rfl)
theorem dX0_fetchedIn_47 : decode cX0_fetchedIn 47 = .ok (.aload_n 0, 1) := dk_42 (dk_at dksX0_fetchedIn_2 0 rfl rfl)
theorem dX0_fetchedIn_48 : decode cX0_fetchedIn 48 = .ok (.getfield 59, 3) := dk_180 0 59 (dk_at dksX0_fetchedIn_2 1 rfl rfl)
theorem dX0_fetchedIn_51 : decode cX0_fetchedIn 51 = .ok (.dup, 1) := dk_89 (dk_at dksX0_fetchedIn_2 4 rfl rfl)
theorem dX0_fetchedIn_52 : decode cX0_fetchedIn 52 = .ok (.getfield 276, 3) := dk_180 1 20 (dk_at dksX0_fetchedIn_2 5 rfl rfl)
theorem dX0_fetchedIn_55 : decode cX0_fetchedIn 55 = .ok (.iconst 1, 1) := dk_4 (dk_at dksX0_fetchedIn_2 8 rfl rfl)
theorem dX0_fetchedIn_56 : decode cX0_fetchedIn 56 = .ok (.iadd, 1) := dk_96 (dk_at dksX0_fetchedIn_2 9 rfl rfl)
theorem dX0_fetchedIn_57 : decode cX0_fetchedIn 57 = .ok (.putfield 276, 3) := dk_181 1 20 (dk_at dksX0_fetchedIn_2 10 rfl rfl)
theorem dX0_fetchedIn_60 : decode cX0_fetchedIn 60 = .ok (.iinc 1 1, 3) := dk_132 1 1 (dk_at dksX0_fetchedIn_2 13 rfl rfl)
theorem dX0_fetchedIn_63 : decode cX0_fetchedIn 63 = .ok (.goto (-55), 3) := dk_167 255 201 (dk_at dksX0_fetchedIn_2 16 rfl rfl)
theorem dX0_fetchedIn_66 : decode cX0_fetchedIn 66 = .ok (.aload_n 0, 1) := dk_42 (dk_at dksX0_fetchedIn_2 19 rfl rfl)
theorem dX0_fetchedIn_67 : decode cX0_fetchedIn 67 = .ok (.getfield 59, 3) := dk_180 0 59 (dk_at dksX0_fetchedIn_2 20 rfl rfl)
theorem dX0_fetchedIn_70 : decode cX0_fetchedIn 70 = .ok (.getfield 325, 3) := dk_180 1 69 (dk_at dksX0_fetchedIn_3 0 rfl rfl)
theorem dX0_fetchedIn_73 : decode cX0_fetchedIn 73 = .ok (.ireturn, 1) := dk_172 (dk_at dksX0_fetchedIn_3 3 rfl rfl)
abbrev cX0_refuge : ByteArray := prog_1_method_46_code
def yX0_refuge : MethodName := ⟨RX0, "refuge", "(II)I"⟩
def dkwX0_refuge_5 : List UInt8 := [21, 4, 167, 0, 5, 21, 5, 172]
abbrev dktX0_refuge_5 : List UInt8 := dkwX0_refuge_5 ++ []
def dkwX0_refuge_4 : List UInt8 := [21, 6, 54, 4, 21, 7, 54, 5, 132, 6, 1, 167, 255, 188, 21, 4, 155, 0, 7, 28, 154, 0, 8]
abbrev dktX0_refuge_4 : List UInt8 := dkwX0_refuge_4 ++ dktX0_refuge_5
def dkwX0_refuge_3 : List UInt8 := [46, 50, 21, 6, 46, 167, 0, 6, 19, 1, 26, 54, 7, 21, 7, 21, 5, 161, 0, 6, 167, 0, 11]
abbrev dktX0_refuge_3 : List UInt8 := dkwX0_refuge_3 ++ dktX0_refuge_4
def dkwX0_refuge_2 : List UInt8 := [21, 6, 122, 4, 126, 4, 160, 0, 26, 42, 180, 0, 44, 180, 1, 23, 42, 180, 0, 55, 180, 0, 175, 27]
abbrev dktX0_refuge_2 : List UInt8 := dkwX0_refuge_2 ++ dktX0_refuge_3
def dkwX0_refuge_1 : List UInt8 := [62, 16, 254, 54, 4, 19, 1, 26, 54, 5, 3, 54, 6, 21, 6, 42, 182, 0, 145, 162, 0, 65, 29]
abbrev dktX0_refuge_1 : List UInt8 := dkwX0_refuge_1 ++ dktX0_refuge_2
def dkwX0_refuge_0 : List UInt8 := [42, 27, 182, 0, 210, 153, 0, 12, 28, 3, 4, 184, 0, 148, 154, 0, 5, 2, 172, 42, 27, 182, 1, 78]
abbrev dktX0_refuge_0 : List UInt8 := dkwX0_refuge_0 ++ dktX0_refuge_1
theorem dksX0_refuge_0 : cX0_refuge.data.toList.drop 0 = dktX0_refuge_0 := by decide +kernel
theorem dksX0_refuge_1 : cX0_refuge.data.toList.drop 24 = dktX0_refuge_1 := dk_seg dksX0_refuge_0 24 rfl rfl
theorem dksX0_refuge_2 : cX0_refuge.data.toList.drop 47 = dktX0_refuge_2 := dk_seg dksX0_refuge_1 23 rfl rfl
theorem dksX0_refuge_3 : cX0_refuge.data.toList.drop 71 = dktX0_refuge_3 := dk_seg dksX0_refuge_2 24 rfl rfl
theorem dksX0_refuge_4 : cX0_refuge.data.toList.drop 94 = dktX0_refuge_4 := dk_seg dksX0_refuge_3 23 rfl rfl
theorem dksX0_refuge_5 : cX0_refuge.data.toList.drop 117 = dktX0_refuge_5 := dk_seg dksX0_refuge_4 23 rfl rfl
theorem dX0_refuge_0 : decode cX0_refuge 0 = .ok (.aload_n 0, 1) := dk_42 (dk_at dksX0_refuge_0 0 rfl rfl)
theorem dX0_refuge_1 : decode cX0_refuge 1 = .ok (.iload_n 1, 1) := dk_27 (dk_at dksX0_refuge_0 1 rfl rfl)
theorem dX0_refuge_2 : decode cX0_refuge 2 = .ok (.invokevirtual 210, 3) := dk_182 0 210 (dk_at dksX0_refuge_0 2 rfl rfl)
theorem dX0_refuge_5 : decode cX0_refuge 5 = .ok (.ifCond .eq 12, 3) := dk_153 0 12 (dk_at dksX0_refuge_0 5 rfl rfl)
theorem dX0_refuge_8 : decode cX0_refuge 8 = .ok (.iload_n 2, 1) := dk_28 (dk_at dksX0_refuge_0 8 rfl rfl)
theorem dX0_refuge_9 : decode cX0_refuge 9 = .ok (.iconst 0, 1) := dk_3 (dk_at dksX0_refuge_0 9 rfl rfl)
theorem dX0_refuge_10 : decode cX0_refuge 10 = .ok (.iconst 1, 1) := dk_4 (dk_at dksX0_refuge_0 10 rfl rfl)
theorem dX0_refuge_11 : decode cX0_refuge 11 = .ok (.invokestatic 148, 3) := dk_184 0 148 (dk_at dksX0_refuge_0 11 rfl rfl)
theorem dX0_refuge_14 : decode cX0_refuge 14 = .ok (.ifCond .ne 5, 3) := dk_154 0 5 (dk_at dksX0_refuge_0 14 rfl rfl)
theorem dX0_refuge_17 : decode cX0_refuge 17 = .ok (.iconst (-1), 1) := dk_2 (dk_at dksX0_refuge_0 17 rfl rfl)
theorem dX0_refuge_18 : decode cX0_refuge 18 = .ok (.ireturn, 1) := dk_172 (dk_at dksX0_refuge_0 18 rfl rfl)
theorem dX0_refuge_19 : decode cX0_refuge 19 = .ok (.aload_n 0, 1) := dk_42 (dk_at dksX0_refuge_0 19 rfl rfl)
theorem dX0_refuge_20 : decode cX0_refuge 20 = .ok (.iload_n 1, 1) := dk_27 (dk_at dksX0_refuge_0 20 rfl rfl)
theorem dX0_refuge_21 : decode cX0_refuge 21 = .ok (.invokevirtual 334, 3) := dk_182 1 78 (dk_at dksX0_refuge_0 21 rfl rfl)
theorem dX0_refuge_24 : decode cX0_refuge 24 = .ok (.istore_n 3, 1) := dk_62 (dk_at dksX0_refuge_1 0 rfl rfl)
theorem dX0_refuge_25 : decode cX0_refuge 25 = .ok (.bipush (-2), 2) := dk_16 254 (dk_at dksX0_refuge_1 1 rfl rfl)
theorem dX0_refuge_27 : decode cX0_refuge 27 = .ok (.istore 4, 2) := dk_54 4 (dk_at dksX0_refuge_1 3 rfl rfl)
theorem dX0_refuge_29 : decode cX0_refuge 29 = .ok (.ldc_w 282, 3) := dk_19 1 26 (dk_at dksX0_refuge_1 5 rfl rfl)
theorem dX0_refuge_32 : decode cX0_refuge 32 = .ok (.istore 5, 2) := dk_54 5 (dk_at dksX0_refuge_1 8 rfl rfl)
theorem dX0_refuge_34 : decode cX0_refuge 34 = .ok (.iconst 0, 1) := dk_3 (dk_at dksX0_refuge_1 10 rfl rfl)
theorem dX0_refuge_35 : decode cX0_refuge 35 = .ok (.istore 6, 2) := dk_54 6 (dk_at dksX0_refuge_1 11 rfl rfl)
theorem dX0_refuge_37 : decode cX0_refuge 37 = .ok (.iload 6, 2) := dk_21 6 (dk_at dksX0_refuge_1 13 rfl rfl)
theorem dX0_refuge_39 : decode cX0_refuge 39 = .ok (.aload_n 0, 1) := dk_42 (dk_at dksX0_refuge_1 15 rfl rfl)
theorem dX0_refuge_40 : decode cX0_refuge 40 = .ok (.invokevirtual 145, 3) := dk_182 0 145 (dk_at dksX0_refuge_1 16 rfl rfl)
theorem dX0_refuge_43 : decode cX0_refuge 43 = .ok (.if_icmp .ge 65, 3) := dk_162 0 65 (dk_at dksX0_refuge_1 19 rfl rfl)
theorem dX0_refuge_46 : decode cX0_refuge 46 = .ok (.iload_n 3, 1) := dk_29 (dk_at dksX0_refuge_1 22 rfl rfl)
theorem dX0_refuge_47 : decode cX0_refuge 47 = .ok (.iload 6, 2) := dk_21 6 (dk_at dksX0_refuge_2 0 rfl rfl)
theorem dX0_refuge_49 : decode cX0_refuge 49 = .ok (.ishr, 1) := dk_122 (dk_at dksX0_refuge_2 2 rfl rfl)
theorem dX0_refuge_50 : decode cX0_refuge 50 = .ok (.iconst 1, 1) := dk_4 (dk_at dksX0_refuge_2 3 rfl rfl)
theorem dX0_refuge_51 : decode cX0_refuge 51 = .ok (.iand, 1) := dk_126 (dk_at dksX0_refuge_2 4 rfl rfl)
theorem dX0_refuge_52 : decode cX0_refuge 52 = .ok (.iconst 1, 1) := dk_4 (dk_at dksX0_refuge_2 5 rfl rfl)
theorem dX0_refuge_53 : decode cX0_refuge 53 = .ok (.if_icmp .ne 26, 3) := dk_160 0 26 (dk_at dksX0_refuge_2 6 rfl rfl)
theorem dX0_refuge_56 : decode cX0_refuge 56 = .ok (.aload_n 0, 1) := dk_42 (dk_at dksX0_refuge_2 9 rfl rfl)
theorem dX0_refuge_57 : decode cX0_refuge 57 = .ok (.getfield 44, 3) := dk_180 0 44 (dk_at dksX0_refuge_2 10 rfl rfl)
theorem dX0_refuge_60 : decode cX0_refuge 60 = .ok (.getfield 279, 3) := dk_180 1 23 (dk_at dksX0_refuge_2 13 rfl rfl)
theorem dX0_refuge_63 : decode cX0_refuge 63 = .ok (.aload_n 0, 1) := dk_42 (dk_at dksX0_refuge_2 16 rfl rfl)
theorem dX0_refuge_64 : decode cX0_refuge 64 = .ok (.getfield 55, 3) := dk_180 0 55 (dk_at dksX0_refuge_2 17 rfl rfl)
theorem dX0_refuge_67 : decode cX0_refuge 67 = .ok (.getfield 175, 3) := dk_180 0 175 (dk_at dksX0_refuge_2 20 rfl rfl)
theorem dX0_refuge_70 : decode cX0_refuge 70 = .ok (.iload_n 1, 1) := dk_27 (dk_at dksX0_refuge_2 23 rfl rfl)
theorem dX0_refuge_71 : decode cX0_refuge 71 = .ok (.iaload, 1) := dk_46 (dk_at dksX0_refuge_3 0 rfl rfl)
theorem dX0_refuge_72 : decode cX0_refuge 72 = .ok (.aaload, 1) := dk_50 (dk_at dksX0_refuge_3 1 rfl rfl)
theorem dX0_refuge_73 : decode cX0_refuge 73 = .ok (.iload 6, 2) := dk_21 6 (dk_at dksX0_refuge_3 2 rfl rfl)
theorem dX0_refuge_75 : decode cX0_refuge 75 = .ok (.iaload, 1) := dk_46 (dk_at dksX0_refuge_3 4 rfl rfl)
theorem dX0_refuge_76 : decode cX0_refuge 76 = .ok (.goto 6, 3) := dk_167 0 6 (dk_at dksX0_refuge_3 5 rfl rfl)
theorem dX0_refuge_79 : decode cX0_refuge 79 = .ok (.ldc_w 282, 3) := dk_19 1 26 (dk_at dksX0_refuge_3 8 rfl rfl)
theorem dX0_refuge_82 : decode cX0_refuge 82 = .ok (.istore 7, 2) := dk_54 7 (dk_at dksX0_refuge_3 11 rfl rfl)
theorem dX0_refuge_84 : decode cX0_refuge 84 = .ok (.iload 7, 2) := dk_21 7 (dk_at dksX0_refuge_3 13 rfl rfl)
theorem dX0_refuge_86 : decode cX0_refuge 86 = .ok (.iload 5, 2) := dk_21 5 (dk_at dksX0_refuge_3 15 rfl rfl)
theorem dX0_refuge_88 : decode cX0_refuge 88 = .ok (.if_icmp .lt 6, 3) := dk_161 0 6 (dk_at dksX0_refuge_3 17 rfl rfl)
theorem dX0_refuge_91 : decode cX0_refuge 91 = .ok (.goto 11, 3) := dk_167 0 11 (dk_at dksX0_refuge_3 20 rfl rfl)
theorem dX0_refuge_94 : decode cX0_refuge 94 = .ok (.iload 6, 2) := dk_21 6 (dk_at dksX0_refuge_4 0 rfl rfl)
theorem dX0_refuge_96 : decode cX0_refuge 96 = .ok (.istore 4, 2) := dk_54 4 (dk_at dksX0_refuge_4 2 rfl rfl)
theorem dX0_refuge_98 : decode cX0_refuge 98 = .ok (.iload 7, 2) := dk_21 7 (dk_at dksX0_refuge_4 4 rfl rfl)
theorem dX0_refuge_100 : decode cX0_refuge 100 = .ok (.istore 5, 2) := dk_54 5 (dk_at dksX0_refuge_4 6 rfl rfl)
theorem dX0_refuge_102 : decode cX0_refuge 102 = .ok (.iinc 6 1, 3) := dk_132 6 1 (dk_at dksX0_refuge_4 8 rfl rfl)
theorem dX0_refuge_105 : decode cX0_refuge 105 = .ok (.goto (-68), 3) := dk_167 255 188 (dk_at dksX0_refuge_4 11 rfl rfl)
theorem dX0_refuge_108 : decode cX0_refuge 108 = .ok (.iload 4, 2) := dk_21 4 (dk_at dksX0_refuge_4 14 rfl rfl)
theorem dX0_refuge_110 : decode cX0_refuge 110 = .ok (.ifCond .lt 7, 3) := dk_155 0 7 (dk_at dksX0_refuge_4 16 rfl rfl)
theorem dX0_refuge_113 : decode cX0_refuge 113 = .ok (.iload_n 2, 1) := dk_28 (dk_at dksX0_refuge_4 19 rfl rfl)
theorem dX0_refuge_114 : decode cX0_refuge 114 = .ok (.ifCond .ne 8, 3) := dk_154 0 8 (dk_at dksX0_refuge_4 20 rfl rfl)
theorem dX0_refuge_117 : decode cX0_refuge 117 = .ok (.iload 4, 2) := dk_21 4 (dk_at dksX0_refuge_5 0 rfl rfl)
theorem dX0_refuge_119 : decode cX0_refuge 119 = .ok (.goto 5, 3) := dk_167 0 5 (dk_at dksX0_refuge_5 2 rfl rfl)
theorem dX0_refuge_122 : decode cX0_refuge 122 = .ok (.iload 5, 2) := dk_21 5 (dk_at dksX0_refuge_5 5 rfl rfl)
theorem dX0_refuge_124 : decode cX0_refuge 124 = .ok (.ireturn, 1) := dk_172 (dk_at dksX0_refuge_5 7 rfl rfl)
abbrev cX0_loses : ByteArray := prog_1_method_47_code
def yX0_loses : MethodName := ⟨RX0, "loses", "(I)I"⟩
def dkwX0_loses_1 : List UInt8 := [180, 0, 218, 27, 46, 42, 180, 0, 59, 180, 0, 218, 27, 46, 100, 172]
abbrev dktX0_loses_1 : List UInt8 := dkwX0_loses_1 ++ []
def dkwX0_loses_0 : List UInt8 := [42, 27, 182, 0, 210, 154, 0, 5, 2, 172, 42, 182, 1, 72, 42, 182, 1, 75, 61, 42, 180, 0, 55]
abbrev dktX0_loses_0 : List UInt8 := dkwX0_loses_0 ++ dktX0_loses_1
theorem dksX0_loses_0 : cX0_loses.data.toList.drop 0 = dktX0_loses_0 := by decide +kernel
theorem dksX0_loses_1 : cX0_loses.data.toList.drop 23 = dktX0_loses_1 := dk_seg dksX0_loses_0 23 rfl rfl
theorem dX0_loses_0 : decode cX0_loses 0 = .ok (.aload_n 0, 1) := dk_42 (dk_at dksX0_loses_0 0 rfl rfl)
theorem dX0_loses_1 : decode cX0_loses 1 = .ok (.iload_n 1, 1) := dk_27 (dk_at dksX0_loses_0 1 rfl rfl)
theorem dX0_loses_2 : decode cX0_loses 2 = .ok (.invokevirtual 210, 3) := dk_182 0 210 (dk_at dksX0_loses_0 2 rfl rfl)
theorem dX0_loses_5 : decode cX0_loses 5 = .ok (.ifCond .ne 5, 3) := dk_154 0 5 (dk_at dksX0_loses_0 5 rfl rfl)
theorem dX0_loses_8 : decode cX0_loses 8 = .ok (.iconst (-1), 1) := dk_2 (dk_at dksX0_loses_0 8 rfl rfl)
theorem dX0_loses_9 : decode cX0_loses 9 = .ok (.ireturn, 1) := dk_172 (dk_at dksX0_loses_0 9 rfl rfl)
theorem dX0_loses_10 : decode cX0_loses 10 = .ok (.aload_n 0, 1) := dk_42 (dk_at dksX0_loses_0 10 rfl rfl)
theorem dX0_loses_11 : decode cX0_loses 11 = .ok (.invokevirtual 328, 3) := dk_182 1 72 (dk_at dksX0_loses_0 11 rfl rfl)
theorem dX0_loses_14 : decode cX0_loses 14 = .ok (.aload_n 0, 1) := dk_42 (dk_at dksX0_loses_0 14 rfl rfl)
theorem dX0_loses_15 : decode cX0_loses 15 = .ok (.invokevirtual 331, 3) := dk_182 1 75 (dk_at dksX0_loses_0 15 rfl rfl)
theorem dX0_loses_18 : decode cX0_loses 18 = .ok (.istore_n 2, 1) := dk_61 (dk_at dksX0_loses_0 18 rfl rfl)
theorem dX0_loses_19 : decode cX0_loses 19 = .ok (.aload_n 0, 1) := dk_42 (dk_at dksX0_loses_0 19 rfl rfl)
theorem dX0_loses_20 : decode cX0_loses 20 = .ok (.getfield 55, 3) := dk_180 0 55 (dk_at dksX0_loses_0 20 rfl rfl)
theorem dX0_loses_23 : decode cX0_loses 23 = .ok (.getfield 218, 3) := dk_180 0 218 (dk_at dksX0_loses_1 0 rfl rfl)
theorem dX0_loses_26 : decode cX0_loses 26 = .ok (.iload_n 1, 1) := dk_27 (dk_at dksX0_loses_1 3 rfl rfl)
theorem dX0_loses_27 : decode cX0_loses 27 = .ok (.iaload, 1) := dk_46 (dk_at dksX0_loses_1 4 rfl rfl)
theorem dX0_loses_28 : decode cX0_loses 28 = .ok (.aload_n 0, 1) := dk_42 (dk_at dksX0_loses_1 5 rfl rfl)
theorem dX0_loses_29 : decode cX0_loses 29 = .ok (.getfield 59, 3) := dk_180 0 59 (dk_at dksX0_loses_1 6 rfl rfl)
theorem dX0_loses_32 : decode cX0_loses 32 = .ok (.getfield 218, 3) := dk_180 0 218 (dk_at dksX0_loses_1 9 rfl rfl)
theorem dX0_loses_35 : decode cX0_loses 35 = .ok (.iload_n 1, 1) := dk_27 (dk_at dksX0_loses_1 12 rfl rfl)
theorem dX0_loses_36 : decode cX0_loses 36 = .ok (.iaload, 1) := dk_46 (dk_at dksX0_loses_1 13 rfl rfl)
theorem dX0_loses_37 : decode cX0_loses 37 = .ok (.isub, 1) := dk_100 (dk_at dksX0_loses_1 14 rfl rfl)
theorem dX0_loses_38 : decode cX0_loses 38 = .ok (.ireturn, 1) := dk_172 (dk_at dksX0_loses_1 15 rfl rfl)
abbrev cX0_fetched : ByteArray := prog_1_method_48_code
def yX0_fetched : MethodName := ⟨RX0, "fetched", "()I"⟩
def dkwX0_fetched_0 : List UInt8 := [42, 182, 1, 72, 42, 182, 1, 75, 172]
abbrev dktX0_fetched_0 : List UInt8 := dkwX0_fetched_0 ++ []
theorem dksX0_fetched_0 : cX0_fetched.data.toList.drop 0 = dktX0_fetched_0 := by decide +kernel
theorem dX0_fetched_0 : decode cX0_fetched 0 = .ok (.aload_n 0, 1) := dk_42 (dk_at dksX0_fetched_0 0 rfl rfl)
theorem dX0_fetched_1 : decode cX0_fetched 1 = .ok (.invokevirtual 328, 3) := dk_182 1 72 (dk_at dksX0_fetched_0 1 rfl rfl)
theorem dX0_fetched_4 : decode cX0_fetched 4 = .ok (.aload_n 0, 1) := dk_42 (dk_at dksX0_fetched_0 4 rfl rfl)
theorem dX0_fetched_5 : decode cX0_fetched 5 = .ok (.invokevirtual 331, 3) := dk_182 1 75 (dk_at dksX0_fetched_0 5 rfl rfl)
theorem dX0_fetched_8 : decode cX0_fetched 8 = .ok (.ireturn, 1) := dk_172 (dk_at dksX0_fetched_0 8 rfl rfl)
abbrev cX0_then : ByteArray := prog_1_method_49_code
def yX0_then : MethodName := ⟨RX0, "then", "(III)I"⟩
def dkwX0_then_4 : List UInt8 := [27, 182, 0, 224, 153, 0, 7, 4, 167, 0, 4, 3, 172, 42, 42, 180, 0, 59, 27, 182, 0, 227, 172]
abbrev dktX0_then_4 : List UInt8 := dkwX0_then_4 ++ []
def dkwX0_then_3 : List UInt8 := [42, 180, 0, 59, 180, 0, 175, 27, 46, 172, 42, 180, 0, 59, 180, 0, 218, 27, 46, 172, 42, 180, 0, 59]
abbrev dktX0_then_3 : List UInt8 := dkwX0_then_3 ++ dktX0_then_4
def dkwX0_then_2 : List UInt8 := [170, 0, 0, 0, 62, 0, 0, 0, 0, 0, 0, 0, 2, 0, 0, 0, 25, 0, 0, 0, 35, 0, 0, 0, 45]
abbrev dktX0_then_2 : List UInt8 := dkwX0_then_2 ++ dktX0_then_3
def dkwX0_then_1 : List UInt8 := [2, 172, 42, 180, 0, 59, 42, 180, 0, 55, 182, 0, 254, 42, 42, 180, 0, 59, 28, 182, 1, 16, 29]
abbrev dktX0_then_1 : List UInt8 := dkwX0_then_1 ++ dktX0_then_2
def dkwX0_then_0 : List UInt8 := [42, 27, 182, 0, 210, 153, 0, 19, 28, 184, 1, 13, 153, 0, 12, 29, 3, 6, 184, 0, 148, 154, 0, 5]
abbrev dktX0_then_0 : List UInt8 := dkwX0_then_0 ++ dktX0_then_1
theorem dksX0_then_0 : cX0_then.data.toList.drop 0 = dktX0_then_0 := by decide +kernel
theorem dksX0_then_1 : cX0_then.data.toList.drop 24 = dktX0_then_1 := dk_seg dksX0_then_0 24 rfl rfl
theorem dksX0_then_2 : cX0_then.data.toList.drop 47 = dktX0_then_2 := dk_seg dksX0_then_1 23 rfl rfl
theorem dksX0_then_3 : cX0_then.data.toList.drop 72 = dktX0_then_3 := dk_seg dksX0_then_2 25 rfl rfl
theorem dksX0_then_4 : cX0_then.data.toList.drop 96 = dktX0_then_4 := dk_seg dksX0_then_3 24 rfl rfl
theorem dX0_then_0 : decode cX0_then 0 = .ok (.aload_n 0, 1) := dk_42 (dk_at dksX0_then_0 0 rfl rfl)
theorem dX0_then_1 : decode cX0_then 1 = .ok (.iload_n 1, 1) := dk_27 (dk_at dksX0_then_0 1 rfl rfl)
theorem dX0_then_2 : decode cX0_then 2 = .ok (.invokevirtual 210, 3) := dk_182 0 210 (dk_at dksX0_then_0 2 rfl rfl)
theorem dX0_then_5 : decode cX0_then 5 = .ok (.ifCond .eq 19, 3) := dk_153 0 19 (dk_at dksX0_then_0 5 rfl rfl)
theorem dX0_then_8 : decode cX0_then 8 = .ok (.iload_n 2, 1) := dk_28 (dk_at dksX0_then_0 8 rfl rfl)
theorem dX0_then_9 : decode cX0_then 9 = .ok (.invokestatic 269, 3) := dk_184 1 13 (dk_at dksX0_then_0 9 rfl rfl)
theorem dX0_then_12 : decode cX0_then 12 = .ok (.ifCond .eq 12, 3) := dk_153 0 12 (dk_at dksX0_then_0 12 rfl rfl)
theorem dX0_then_15 : decode cX0_then 15 = .ok (.iload_n 3, 1) := dk_29 (dk_at dksX0_then_0 15 rfl rfl)
theorem dX0_then_16 : decode cX0_then 16 = .ok (.iconst 0, 1) := dk_3 (dk_at dksX0_then_0 16 rfl rfl)
theorem dX0_then_17 : decode cX0_then 17 = .ok (.iconst 3, 1) := dk_6 (dk_at dksX0_then_0 17 rfl rfl)
theorem dX0_then_18 : decode cX0_then 18 = .ok (.invokestatic 148, 3) := dk_184 0 148 (dk_at dksX0_then_0 18 rfl rfl)
theorem dX0_then_21 : decode cX0_then 21 = .ok (.ifCond .ne 5, 3) := dk_154 0 5 (dk_at dksX0_then_0 21 rfl rfl)
theorem dX0_then_24 : decode cX0_then 24 = .ok (.iconst (-1), 1) := dk_2 (dk_at dksX0_then_1 0 rfl rfl)
theorem dX0_then_25 : decode cX0_then 25 = .ok (.ireturn, 1) := dk_172 (dk_at dksX0_then_1 1 rfl rfl)
theorem dX0_then_26 : decode cX0_then 26 = .ok (.aload_n 0, 1) := dk_42 (dk_at dksX0_then_1 2 rfl rfl)
theorem dX0_then_27 : decode cX0_then 27 = .ok (.getfield 59, 3) := dk_180 0 59 (dk_at dksX0_then_1 3 rfl rfl)
theorem dX0_then_30 : decode cX0_then 30 = .ok (.aload_n 0, 1) := dk_42 (dk_at dksX0_then_1 6 rfl rfl)
theorem dX0_then_31 : decode cX0_then 31 = .ok (.getfield 55, 3) := dk_180 0 55 (dk_at dksX0_then_1 7 rfl rfl)
theorem dX0_then_34 : decode cX0_then 34 = .ok (.invokevirtual 254, 3) := dk_182 0 254 (dk_at dksX0_then_1 10 rfl rfl)
theorem dX0_then_37 : decode cX0_then 37 = .ok (.aload_n 0, 1) := dk_42 (dk_at dksX0_then_1 13 rfl rfl)
theorem dX0_then_38 : decode cX0_then 38 = .ok (.aload_n 0, 1) := dk_42 (dk_at dksX0_then_1 14 rfl rfl)
theorem dX0_then_39 : decode cX0_then 39 = .ok (.getfield 59, 3) := dk_180 0 59 (dk_at dksX0_then_1 15 rfl rfl)
theorem dX0_then_42 : decode cX0_then 42 = .ok (.iload_n 2, 1) := dk_28 (dk_at dksX0_then_1 18 rfl rfl)
theorem dX0_then_43 : decode cX0_then 43 = .ok (.invokevirtual 272, 3) := dk_182 1 16 (dk_at dksX0_then_1 19 rfl rfl)
theorem dX0_then_46 : decode cX0_then 46 = .ok (.iload_n 3, 1) := dk_29 (dk_at dksX0_then_1 22 rfl rfl)
theorem dX0_then_47 : decode cX0_then 47 = .ok (.tableswitch 62 0 2 #[25, 35, 45], 25) := by decide +kernel
theorem dX0_then_72 : decode cX0_then 72 = .ok (.aload_n 0, 1) := dk_42 (dk_at dksX0_then_3 0 rfl rfl)
theorem dX0_then_73 : decode cX0_then 73 = .ok (.getfield 59, 3) := dk_180 0 59 (dk_at dksX0_then_3 1 rfl rfl)
theorem dX0_then_76 : decode cX0_then 76 = .ok (.getfield 175, 3) := dk_180 0 175 (dk_at dksX0_then_3 4 rfl rfl)
theorem dX0_then_79 : decode cX0_then 79 = .ok (.iload_n 1, 1) := dk_27 (dk_at dksX0_then_3 7 rfl rfl)
theorem dX0_then_80 : decode cX0_then 80 = .ok (.iaload, 1) := dk_46 (dk_at dksX0_then_3 8 rfl rfl)
theorem dX0_then_81 : decode cX0_then 81 = .ok (.ireturn, 1) := dk_172 (dk_at dksX0_then_3 9 rfl rfl)
theorem dX0_then_82 : decode cX0_then 82 = .ok (.aload_n 0, 1) := dk_42 (dk_at dksX0_then_3 10 rfl rfl)
theorem dX0_then_83 : decode cX0_then 83 = .ok (.getfield 59, 3) := dk_180 0 59 (dk_at dksX0_then_3 11 rfl rfl)
theorem dX0_then_86 : decode cX0_then 86 = .ok (.getfield 218, 3) := dk_180 0 218 (dk_at dksX0_then_3 14 rfl rfl)
theorem dX0_then_89 : decode cX0_then 89 = .ok (.iload_n 1, 1) := dk_27 (dk_at dksX0_then_3 17 rfl rfl)
theorem dX0_then_90 : decode cX0_then 90 = .ok (.iaload, 1) := dk_46 (dk_at dksX0_then_3 18 rfl rfl)
theorem dX0_then_91 : decode cX0_then 91 = .ok (.ireturn, 1) := dk_172 (dk_at dksX0_then_3 19 rfl rfl)
theorem dX0_then_92 : decode cX0_then 92 = .ok (.aload_n 0, 1) := dk_42 (dk_at dksX0_then_3 20 rfl rfl)
theorem dX0_then_93 : decode cX0_then 93 = .ok (.getfield 59, 3) := dk_180 0 59 (dk_at dksX0_then_3 21 rfl rfl)
theorem dX0_then_96 : decode cX0_then 96 = .ok (.iload_n 1, 1) := dk_27 (dk_at dksX0_then_4 0 rfl rfl)
theorem dX0_then_97 : decode cX0_then 97 = .ok (.invokevirtual 224, 3) := dk_182 0 224 (dk_at dksX0_then_4 1 rfl rfl)
theorem dX0_then_100 : decode cX0_then 100 = .ok (.ifCond .eq 7, 3) := dk_153 0 7 (dk_at dksX0_then_4 4 rfl rfl)
theorem dX0_then_103 : decode cX0_then 103 = .ok (.iconst 1, 1) := dk_4 (dk_at dksX0_then_4 7 rfl rfl)
theorem dX0_then_104 : decode cX0_then 104 = .ok (.goto 4, 3) := dk_167 0 4 (dk_at dksX0_then_4 8 rfl rfl)
theorem dX0_then_107 : decode cX0_then 107 = .ok (.iconst 0, 1) := dk_3 (dk_at dksX0_then_4 11 rfl rfl)
theorem dX0_then_108 : decode cX0_then 108 = .ok (.ireturn, 1) := dk_172 (dk_at dksX0_then_4 12 rfl rfl)
theorem dX0_then_109 : decode cX0_then 109 = .ok (.aload_n 0, 1) := dk_42 (dk_at dksX0_then_4 13 rfl rfl)
theorem dX0_then_110 : decode cX0_then 110 = .ok (.aload_n 0, 1) := dk_42 (dk_at dksX0_then_4 14 rfl rfl)
theorem dX0_then_111 : decode cX0_then 111 = .ok (.getfield 59, 3) := dk_180 0 59 (dk_at dksX0_then_4 15 rfl rfl)
theorem dX0_then_114 : decode cX0_then 114 = .ok (.iload_n 1, 1) := dk_27 (dk_at dksX0_then_4 18 rfl rfl)
theorem dX0_then_115 : decode cX0_then 115 = .ok (.invokevirtual 227, 3) := dk_182 0 227 (dk_at dksX0_then_4 19 rfl rfl)
theorem dX0_then_118 : decode cX0_then 118 = .ok (.ireturn, 1) := dk_172 (dk_at dksX0_then_4 22 rfl rfl)
abbrev cX0_dogIn : ByteArray := prog_1_method_50_code
def yX0_dogIn : MethodName := ⟨RX0, "dogIn", "(II)I"⟩
def dkwX0_dogIn_2 : List UInt8 := [172]
abbrev dktX0_dogIn_2 : List UInt8 := dkwX0_dogIn_2 ++ []
def dkwX0_dogIn_1 : List UInt8 := [180, 0, 55, 182, 0, 254, 42, 42, 180, 0, 59, 28, 182, 1, 16, 42, 180, 0, 59, 180, 0, 172, 27, 46]
abbrev dktX0_dogIn_1 : List UInt8 := dkwX0_dogIn_1 ++ dktX0_dogIn_2
def dkwX0_dogIn_0 : List UInt8 := [42, 27, 182, 0, 187, 153, 0, 10, 28, 184, 1, 13, 154, 0, 5, 2, 172, 42, 180, 0, 59, 42]
abbrev dktX0_dogIn_0 : List UInt8 := dkwX0_dogIn_0 ++ dktX0_dogIn_1
theorem dksX0_dogIn_0 : cX0_dogIn.data.toList.drop 0 = dktX0_dogIn_0 := by decide +kernel
theorem dksX0_dogIn_1 : cX0_dogIn.data.toList.drop 22 = dktX0_dogIn_1 := dk_seg dksX0_dogIn_0 22 rfl rfl
theorem dksX0_dogIn_2 : cX0_dogIn.data.toList.drop 46 = dktX0_dogIn_2 := dk_seg dksX0_dogIn_1 24 rfl rfl
theorem dX0_dogIn_0 : decode cX0_dogIn 0 = .ok (.aload_n 0, 1) := dk_42 (dk_at dksX0_dogIn_0 0 rfl rfl)
theorem dX0_dogIn_1 : decode cX0_dogIn 1 = .ok (.iload_n 1, 1) := dk_27 (dk_at dksX0_dogIn_0 1 rfl rfl)
theorem dX0_dogIn_2 : decode cX0_dogIn 2 = .ok (.invokevirtual 187, 3) := dk_182 0 187 (dk_at dksX0_dogIn_0 2 rfl rfl)
theorem dX0_dogIn_5 : decode cX0_dogIn 5 = .ok (.ifCond .eq 10, 3) := dk_153 0 10 (dk_at dksX0_dogIn_0 5 rfl rfl)
theorem dX0_dogIn_8 : decode cX0_dogIn 8 = .ok (.iload_n 2, 1) := dk_28 (dk_at dksX0_dogIn_0 8 rfl rfl)
theorem dX0_dogIn_9 : decode cX0_dogIn 9 = .ok (.invokestatic 269, 3) := dk_184 1 13 (dk_at dksX0_dogIn_0 9 rfl rfl)
theorem dX0_dogIn_12 : decode cX0_dogIn 12 = .ok (.ifCond .ne 5, 3) := dk_154 0 5 (dk_at dksX0_dogIn_0 12 rfl rfl)
theorem dX0_dogIn_15 : decode cX0_dogIn 15 = .ok (.iconst (-1), 1) := dk_2 (dk_at dksX0_dogIn_0 15 rfl rfl)
theorem dX0_dogIn_16 : decode cX0_dogIn 16 = .ok (.ireturn, 1) := dk_172 (dk_at dksX0_dogIn_0 16 rfl rfl)
theorem dX0_dogIn_17 : decode cX0_dogIn 17 = .ok (.aload_n 0, 1) := dk_42 (dk_at dksX0_dogIn_0 17 rfl rfl)
theorem dX0_dogIn_18 : decode cX0_dogIn 18 = .ok (.getfield 59, 3) := dk_180 0 59 (dk_at dksX0_dogIn_0 18 rfl rfl)
theorem dX0_dogIn_21 : decode cX0_dogIn 21 = .ok (.aload_n 0, 1) := dk_42 (dk_at dksX0_dogIn_0 21 rfl rfl)
theorem dX0_dogIn_22 : decode cX0_dogIn 22 = .ok (.getfield 55, 3) := dk_180 0 55 (dk_at dksX0_dogIn_1 0 rfl rfl)
theorem dX0_dogIn_25 : decode cX0_dogIn 25 = .ok (.invokevirtual 254, 3) := dk_182 0 254 (dk_at dksX0_dogIn_1 3 rfl rfl)
theorem dX0_dogIn_28 : decode cX0_dogIn 28 = .ok (.aload_n 0, 1) := dk_42 (dk_at dksX0_dogIn_1 6 rfl rfl)
theorem dX0_dogIn_29 : decode cX0_dogIn 29 = .ok (.aload_n 0, 1) := dk_42 (dk_at dksX0_dogIn_1 7 rfl rfl)
theorem dX0_dogIn_30 : decode cX0_dogIn 30 = .ok (.getfield 59, 3) := dk_180 0 59 (dk_at dksX0_dogIn_1 8 rfl rfl)
theorem dX0_dogIn_33 : decode cX0_dogIn 33 = .ok (.iload_n 2, 1) := dk_28 (dk_at dksX0_dogIn_1 11 rfl rfl)
theorem dX0_dogIn_34 : decode cX0_dogIn 34 = .ok (.invokevirtual 272, 3) := dk_182 1 16 (dk_at dksX0_dogIn_1 12 rfl rfl)
theorem dX0_dogIn_37 : decode cX0_dogIn 37 = .ok (.aload_n 0, 1) := dk_42 (dk_at dksX0_dogIn_1 15 rfl rfl)
theorem dX0_dogIn_38 : decode cX0_dogIn 38 = .ok (.getfield 59, 3) := dk_180 0 59 (dk_at dksX0_dogIn_1 16 rfl rfl)
theorem dX0_dogIn_41 : decode cX0_dogIn 41 = .ok (.getfield 172, 3) := dk_180 0 172 (dk_at dksX0_dogIn_1 19 rfl rfl)
theorem dX0_dogIn_44 : decode cX0_dogIn 44 = .ok (.iload_n 1, 1) := dk_27 (dk_at dksX0_dogIn_1 22 rfl rfl)
theorem dX0_dogIn_45 : decode cX0_dogIn 45 = .ok (.iaload, 1) := dk_46 (dk_at dksX0_dogIn_1 23 rfl rfl)
theorem dX0_dogIn_46 : decode cX0_dogIn 46 = .ok (.ireturn, 1) := dk_172 (dk_at dksX0_dogIn_2 0 rfl rfl)
abbrev cX0_first : ByteArray := prog_1_method_51_code
def yX0_first : MethodName := ⟨RX0, "first", "(I)I"⟩
def dkwX0_first_4 : List UInt8 := [167, 0, 4, 28, 172, 132, 3, 1, 167, 255, 203, 132, 2, 1, 167, 255, 173, 16, 254, 172]
abbrev dktX0_first_4 : List UInt8 := dkwX0_first_4 ++ []
def dkwX0_first_3 : List UInt8 := [180, 0, 231, 29, 46, 42, 180, 0, 55, 180, 0, 231, 29, 46, 164, 0, 13, 27, 154, 0, 7, 29]
abbrev dktX0_first_3 : List UInt8 := dkwX0_first_3 ++ dktX0_first_4
def dkwX0_first_2 : List UInt8 := [29, 42, 182, 0, 154, 162, 0, 51, 42, 180, 0, 55, 29, 182, 0, 224, 154, 0, 34, 42, 180, 0, 59]
abbrev dktX0_first_2 : List UInt8 := dkwX0_first_2 ++ dktX0_first_3
def dkwX0_first_1 : List UInt8 := [28, 17, 5, 160, 163, 0, 82, 42, 180, 0, 59, 42, 180, 0, 44, 42, 180, 0, 77, 182, 1, 9, 3, 62]
abbrev dktX0_first_1 : List UInt8 := dkwX0_first_1 ++ dktX0_first_2
def dkwX0_first_0 : List UInt8 := [27, 3, 4, 184, 0, 148, 154, 0, 5, 2, 172, 42, 180, 0, 59, 42, 180, 0, 55, 182, 0, 254, 4, 61]
abbrev dktX0_first_0 : List UInt8 := dkwX0_first_0 ++ dktX0_first_1
theorem dksX0_first_0 : cX0_first.data.toList.drop 0 = dktX0_first_0 := by decide +kernel
theorem dksX0_first_1 : cX0_first.data.toList.drop 24 = dktX0_first_1 := dk_seg dksX0_first_0 24 rfl rfl
theorem dksX0_first_2 : cX0_first.data.toList.drop 48 = dktX0_first_2 := dk_seg dksX0_first_1 24 rfl rfl
theorem dksX0_first_3 : cX0_first.data.toList.drop 71 = dktX0_first_3 := dk_seg dksX0_first_2 23 rfl rfl
theorem dksX0_first_4 : cX0_first.data.toList.drop 93 = dktX0_first_4 := dk_seg dksX0_first_3 22 rfl rfl
theorem dX0_first_0 : decode cX0_first 0 = .ok (.iload_n 1, 1) := dk_27 (dk_at dksX0_first_0 0 rfl rfl)
theorem dX0_first_1 : decode cX0_first 1 = .ok (.iconst 0, 1) := dk_3 (dk_at dksX0_first_0 1 rfl rfl)
theorem dX0_first_2 : decode cX0_first 2 = .ok (.iconst 1, 1) := dk_4 (dk_at dksX0_first_0 2 rfl rfl)
theorem dX0_first_3 : decode cX0_first 3 = .ok (.invokestatic 148, 3) := dk_184 0 148 (dk_at dksX0_first_0 3 rfl rfl)
theorem dX0_first_6 : decode cX0_first 6 = .ok (.ifCond .ne 5, 3) := dk_154 0 5 (dk_at dksX0_first_0 6 rfl rfl)
theorem dX0_first_9 : decode cX0_first 9 = .ok (.iconst (-1), 1) := dk_2 (dk_at dksX0_first_0 9 rfl rfl)
theorem dX0_first_10 : decode cX0_first 10 = .ok (.ireturn, 1) := dk_172 (dk_at dksX0_first_0 10 rfl rfl)
theorem dX0_first_11 : decode cX0_first 11 = .ok (.aload_n 0, 1) := dk_42 (dk_at dksX0_first_0 11 rfl rfl)
theorem dX0_first_12 : decode cX0_first 12 = .ok (.getfield 59, 3) := dk_180 0 59 (dk_at dksX0_first_0 12 rfl rfl)
theorem dX0_first_15 : decode cX0_first 15 = .ok (.aload_n 0, 1) := dk_42 (dk_at dksX0_first_0 15 rfl rfl)
theorem dX0_first_16 : decode cX0_first 16 = .ok (.getfield 55, 3) := dk_180 0 55 (dk_at dksX0_first_0 16 rfl rfl)
theorem dX0_first_19 : decode cX0_first 19 = .ok (.invokevirtual 254, 3) := dk_182 0 254 (dk_at dksX0_first_0 19 rfl rfl)
theorem dX0_first_22 : decode cX0_first 22 = .ok (.iconst 1, 1) := dk_4 (dk_at dksX0_first_0 22 rfl rfl)
theorem dX0_first_23 : decode cX0_first 23 = .ok (.istore_n 2, 1) := dk_61 (dk_at dksX0_first_0 23 rfl rfl)
theorem dX0_first_24 : decode cX0_first 24 = .ok (.iload_n 2, 1) := dk_28 (dk_at dksX0_first_1 0 rfl rfl)
theorem dX0_first_25 : decode cX0_first 25 = .ok (.sipush 1440, 3) := dk_17 5 160 (dk_at dksX0_first_1 1 rfl rfl)
theorem dX0_first_28 : decode cX0_first 28 = .ok (.if_icmp .gt 82, 3) := dk_163 0 82 (dk_at dksX0_first_1 4 rfl rfl)
theorem dX0_first_31 : decode cX0_first 31 = .ok (.aload_n 0, 1) := dk_42 (dk_at dksX0_first_1 7 rfl rfl)
theorem dX0_first_32 : decode cX0_first 32 = .ok (.getfield 59, 3) := dk_180 0 59 (dk_at dksX0_first_1 8 rfl rfl)
theorem dX0_first_35 : decode cX0_first 35 = .ok (.aload_n 0, 1) := dk_42 (dk_at dksX0_first_1 11 rfl rfl)
theorem dX0_first_36 : decode cX0_first 36 = .ok (.getfield 44, 3) := dk_180 0 44 (dk_at dksX0_first_1 12 rfl rfl)
theorem dX0_first_39 : decode cX0_first 39 = .ok (.aload_n 0, 1) := dk_42 (dk_at dksX0_first_1 15 rfl rfl)
theorem dX0_first_40 : decode cX0_first 40 = .ok (.getfield 77, 3) := dk_180 0 77 (dk_at dksX0_first_1 16 rfl rfl)
theorem dX0_first_43 : decode cX0_first 43 = .ok (.invokevirtual 265, 3) := dk_182 1 9 (dk_at dksX0_first_1 19 rfl rfl)
theorem dX0_first_46 : decode cX0_first 46 = .ok (.iconst 0, 1) := dk_3 (dk_at dksX0_first_1 22 rfl rfl)
theorem dX0_first_47 : decode cX0_first 47 = .ok (.istore_n 3, 1) := dk_62 (dk_at dksX0_first_1 23 rfl rfl)
theorem dX0_first_48 : decode cX0_first 48 = .ok (.iload_n 3, 1) := dk_29 (dk_at dksX0_first_2 0 rfl rfl)
theorem dX0_first_49 : decode cX0_first 49 = .ok (.aload_n 0, 1) := dk_42 (dk_at dksX0_first_2 1 rfl rfl)
theorem dX0_first_50 : decode cX0_first 50 = .ok (.invokevirtual 154, 3) := dk_182 0 154 (dk_at dksX0_first_2 2 rfl rfl)
theorem dX0_first_53 : decode cX0_first 53 = .ok (.if_icmp .ge 51, 3) := dk_162 0 51 (dk_at dksX0_first_2 5 rfl rfl)
theorem dX0_first_56 : decode cX0_first 56 = .ok (.aload_n 0, 1) := dk_42 (dk_at dksX0_first_2 8 rfl rfl)
theorem dX0_first_57 : decode cX0_first 57 = .ok (.getfield 55, 3) := dk_180 0 55 (dk_at dksX0_first_2 9 rfl rfl)
theorem dX0_first_60 : decode cX0_first 60 = .ok (.iload_n 3, 1) := dk_29 (dk_at dksX0_first_2 12 rfl rfl)
theorem dX0_first_61 : decode cX0_first 61 = .ok (.invokevirtual 224, 3) := dk_182 0 224 (dk_at dksX0_first_2 13 rfl rfl)
theorem dX0_first_64 : decode cX0_first 64 = .ok (.ifCond .ne 34, 3) := dk_154 0 34 (dk_at dksX0_first_2 16 rfl rfl)
theorem dX0_first_67 : decode cX0_first 67 = .ok (.aload_n 0, 1) := dk_42 (dk_at dksX0_first_2 19 rfl rfl)
theorem dX0_first_68 : decode cX0_first 68 = .ok (.getfield 59, 3) := dk_180 0 59 (dk_at dksX0_first_2 20 rfl rfl)
theorem dX0_first_71 : decode cX0_first 71 = .ok (.getfield 231, 3) := dk_180 0 231 (dk_at dksX0_first_3 0 rfl rfl)
theorem dX0_first_74 : decode cX0_first 74 = .ok (.iload_n 3, 1) := dk_29 (dk_at dksX0_first_3 3 rfl rfl)
theorem dX0_first_75 : decode cX0_first 75 = .ok (.iaload, 1) := dk_46 (dk_at dksX0_first_3 4 rfl rfl)
theorem dX0_first_76 : decode cX0_first 76 = .ok (.aload_n 0, 1) := dk_42 (dk_at dksX0_first_3 5 rfl rfl)
theorem dX0_first_77 : decode cX0_first 77 = .ok (.getfield 55, 3) := dk_180 0 55 (dk_at dksX0_first_3 6 rfl rfl)
theorem dX0_first_80 : decode cX0_first 80 = .ok (.getfield 231, 3) := dk_180 0 231 (dk_at dksX0_first_3 9 rfl rfl)
theorem dX0_first_83 : decode cX0_first 83 = .ok (.iload_n 3, 1) := dk_29 (dk_at dksX0_first_3 12 rfl rfl)
theorem dX0_first_84 : decode cX0_first 84 = .ok (.iaload, 1) := dk_46 (dk_at dksX0_first_3 13 rfl rfl)
theorem dX0_first_85 : decode cX0_first 85 = .ok (.if_icmp .le 13, 3) := dk_164 0 13 (dk_at dksX0_first_3 14 rfl rfl)
theorem dX0_first_88 : decode cX0_first 88 = .ok (.iload_n 1, 1) := dk_27 (dk_at dksX0_first_3 17 rfl rfl)
theorem dX0_first_89 : decode cX0_first 89 = .ok (.ifCond .ne 7, 3) := dk_154 0 7 (dk_at dksX0_first_3 18 rfl rfl)
theorem dX0_first_92 : decode cX0_first 92 = .ok (.iload_n 3, 1) := dk_29 (dk_at dksX0_first_3 21 rfl rfl)
theorem dX0_first_93 : decode cX0_first 93 = .ok (.goto 4, 3) := dk_167 0 4 (dk_at dksX0_first_4 0 rfl rfl)
theorem dX0_first_96 : decode cX0_first 96 = .ok (.iload_n 2, 1) := dk_28 (dk_at dksX0_first_4 3 rfl rfl)
theorem dX0_first_97 : decode cX0_first 97 = .ok (.ireturn, 1) := dk_172 (dk_at dksX0_first_4 4 rfl rfl)
theorem dX0_first_98 : decode cX0_first 98 = .ok (.iinc 3 1, 3) := dk_132 3 1 (dk_at dksX0_first_4 5 rfl rfl)
theorem dX0_first_101 : decode cX0_first 101 = .ok (.goto (-53), 3) := dk_167 255 203 (dk_at dksX0_first_4 8 rfl rfl)
theorem dX0_first_104 : decode cX0_first 104 = .ok (.iinc 2 1, 3) := dk_132 2 1 (dk_at dksX0_first_4 11 rfl rfl)
theorem dX0_first_107 : decode cX0_first 107 = .ok (.goto (-83), 3) := dk_167 255 173 (dk_at dksX0_first_4 14 rfl rfl)
theorem dX0_first_110 : decode cX0_first 110 = .ok (.bipush (-2), 2) := dk_16 254 (dk_at dksX0_first_4 17 rfl rfl)
theorem dX0_first_112 : decode cX0_first 112 = .ok (.ireturn, 1) := dk_172 (dk_at dksX0_first_4 19 rfl rfl)
abbrev cX0_tell : ByteArray := prog_1_method_52_code
def yX0_tell : MethodName := ⟨RX0, "tell", "(IZ)I"⟩
def dkwX0_tell_2 : List UInt8 := [181, 0, 122, 42, 180, 0, 122, 4, 100, 172]
abbrev dktX0_tell_2 : List UInt8 := dkwX0_tell_2 ++ []
def dkwX0_tell_1 : List UInt8 := [180, 0, 122, 27, 79, 42, 180, 0, 94, 42, 180, 0, 122, 28, 84, 42, 89, 180, 0, 122, 4, 96]
abbrev dktX0_tell_1 : List UInt8 := dkwX0_tell_1 ++ dktX0_tell_2
def dkwX0_tell_0 : List UInt8 := [42, 27, 182, 0, 210, 153, 0, 12, 42, 180, 0, 122, 16, 20, 160, 0, 5, 2, 172, 42, 180, 0, 90, 42]
abbrev dktX0_tell_0 : List UInt8 := dkwX0_tell_0 ++ dktX0_tell_1
theorem dksX0_tell_0 : cX0_tell.data.toList.drop 0 = dktX0_tell_0 := by decide +kernel
theorem dksX0_tell_1 : cX0_tell.data.toList.drop 24 = dktX0_tell_1 := dk_seg dksX0_tell_0 24 rfl rfl
theorem dksX0_tell_2 : cX0_tell.data.toList.drop 46 = dktX0_tell_2 := dk_seg dksX0_tell_1 22 rfl rfl
theorem dX0_tell_0 : decode cX0_tell 0 = .ok (.aload_n 0, 1) := dk_42 (dk_at dksX0_tell_0 0 rfl rfl)
theorem dX0_tell_1 : decode cX0_tell 1 = .ok (.iload_n 1, 1) := dk_27 (dk_at dksX0_tell_0 1 rfl rfl)
theorem dX0_tell_2 : decode cX0_tell 2 = .ok (.invokevirtual 210, 3) := dk_182 0 210 (dk_at dksX0_tell_0 2 rfl rfl)
theorem dX0_tell_5 : decode cX0_tell 5 = .ok (.ifCond .eq 12, 3) := dk_153 0 12 (dk_at dksX0_tell_0 5 rfl rfl)
theorem dX0_tell_8 : decode cX0_tell 8 = .ok (.aload_n 0, 1) := dk_42 (dk_at dksX0_tell_0 8 rfl rfl)
theorem dX0_tell_9 : decode cX0_tell 9 = .ok (.getfield 122, 3) := dk_180 0 122 (dk_at dksX0_tell_0 9 rfl rfl)
theorem dX0_tell_12 : decode cX0_tell 12 = .ok (.bipush 20, 2) := dk_16 20 (dk_at dksX0_tell_0 12 rfl rfl)
theorem dX0_tell_14 : decode cX0_tell 14 = .ok (.if_icmp .ne 5, 3) := dk_160 0 5 (dk_at dksX0_tell_0 14 rfl rfl)
theorem dX0_tell_17 : decode cX0_tell 17 = .ok (.iconst (-1), 1) := dk_2 (dk_at dksX0_tell_0 17 rfl rfl)
theorem dX0_tell_18 : decode cX0_tell 18 = .ok (.ireturn, 1) := dk_172 (dk_at dksX0_tell_0 18 rfl rfl)
theorem dX0_tell_19 : decode cX0_tell 19 = .ok (.aload_n 0, 1) := dk_42 (dk_at dksX0_tell_0 19 rfl rfl)
theorem dX0_tell_20 : decode cX0_tell 20 = .ok (.getfield 90, 3) := dk_180 0 90 (dk_at dksX0_tell_0 20 rfl rfl)
theorem dX0_tell_23 : decode cX0_tell 23 = .ok (.aload_n 0, 1) := dk_42 (dk_at dksX0_tell_0 23 rfl rfl)
theorem dX0_tell_24 : decode cX0_tell 24 = .ok (.getfield 122, 3) := dk_180 0 122 (dk_at dksX0_tell_1 0 rfl rfl)
theorem dX0_tell_27 : decode cX0_tell 27 = .ok (.iload_n 1, 1) := dk_27 (dk_at dksX0_tell_1 3 rfl rfl)
theorem dX0_tell_28 : decode cX0_tell 28 = .ok (.iastore, 1) := dk_79 (dk_at dksX0_tell_1 4 rfl rfl)
theorem dX0_tell_29 : decode cX0_tell 29 = .ok (.aload_n 0, 1) := dk_42 (dk_at dksX0_tell_1 5 rfl rfl)
theorem dX0_tell_30 : decode cX0_tell 30 = .ok (.getfield 94, 3) := dk_180 0 94 (dk_at dksX0_tell_1 6 rfl rfl)
theorem dX0_tell_33 : decode cX0_tell 33 = .ok (.aload_n 0, 1) := dk_42 (dk_at dksX0_tell_1 9 rfl rfl)
theorem dX0_tell_34 : decode cX0_tell 34 = .ok (.getfield 122, 3) := dk_180 0 122 (dk_at dksX0_tell_1 10 rfl rfl)
theorem dX0_tell_37 : decode cX0_tell 37 = .ok (.iload_n 2, 1) := dk_28 (dk_at dksX0_tell_1 13 rfl rfl)
theorem dX0_tell_38 : decode cX0_tell 38 = .ok (.bastore, 1) := dk_84 (dk_at dksX0_tell_1 14 rfl rfl)
theorem dX0_tell_39 : decode cX0_tell 39 = .ok (.aload_n 0, 1) := dk_42 (dk_at dksX0_tell_1 15 rfl rfl)
theorem dX0_tell_40 : decode cX0_tell 40 = .ok (.dup, 1) := dk_89 (dk_at dksX0_tell_1 16 rfl rfl)
theorem dX0_tell_41 : decode cX0_tell 41 = .ok (.getfield 122, 3) := dk_180 0 122 (dk_at dksX0_tell_1 17 rfl rfl)
theorem dX0_tell_44 : decode cX0_tell 44 = .ok (.iconst 1, 1) := dk_4 (dk_at dksX0_tell_1 20 rfl rfl)
theorem dX0_tell_45 : decode cX0_tell 45 = .ok (.iadd, 1) := dk_96 (dk_at dksX0_tell_1 21 rfl rfl)
theorem dX0_tell_46 : decode cX0_tell 46 = .ok (.putfield 122, 3) := dk_181 0 122 (dk_at dksX0_tell_2 0 rfl rfl)
theorem dX0_tell_49 : decode cX0_tell 49 = .ok (.aload_n 0, 1) := dk_42 (dk_at dksX0_tell_2 3 rfl rfl)
theorem dX0_tell_50 : decode cX0_tell 50 = .ok (.getfield 122, 3) := dk_180 0 122 (dk_at dksX0_tell_2 4 rfl rfl)
theorem dX0_tell_53 : decode cX0_tell 53 = .ok (.iconst 1, 1) := dk_4 (dk_at dksX0_tell_2 7 rfl rfl)
theorem dX0_tell_54 : decode cX0_tell 54 = .ok (.isub, 1) := dk_100 (dk_at dksX0_tell_2 8 rfl rfl)
theorem dX0_tell_55 : decode cX0_tell 55 = .ok (.ireturn, 1) := dk_172 (dk_at dksX0_tell_2 9 rfl rfl)
abbrev cX0_forget : ByteArray := prog_1_method_53_code
def yX0_forget : MethodName := ⟨RX0, "forget", "()I"⟩
def dkwX0_forget_0 : List UInt8 := [42, 180, 0, 122, 60, 42, 3, 181, 0, 122, 27, 172]
abbrev dktX0_forget_0 : List UInt8 := dkwX0_forget_0 ++ []
theorem dksX0_forget_0 : cX0_forget.data.toList.drop 0 = dktX0_forget_0 := by decide +kernel
theorem dX0_forget_0 : decode cX0_forget 0 = .ok (.aload_n 0, 1) := dk_42 (dk_at dksX0_forget_0 0 rfl rfl)
theorem dX0_forget_1 : decode cX0_forget 1 = .ok (.getfield 122, 3) := dk_180 0 122 (dk_at dksX0_forget_0 1 rfl rfl)
theorem dX0_forget_4 : decode cX0_forget 4 = .ok (.istore_n 1, 1) := dk_60 (dk_at dksX0_forget_0 4 rfl rfl)
theorem dX0_forget_5 : decode cX0_forget 5 = .ok (.aload_n 0, 1) := dk_42 (dk_at dksX0_forget_0 5 rfl rfl)
theorem dX0_forget_6 : decode cX0_forget 6 = .ok (.iconst 0, 1) := dk_3 (dk_at dksX0_forget_0 6 rfl rfl)
theorem dX0_forget_7 : decode cX0_forget 7 = .ok (.putfield 122, 3) := dk_181 0 122 (dk_at dksX0_forget_0 7 rfl rfl)
theorem dX0_forget_10 : decode cX0_forget 10 = .ok (.iload_n 1, 1) := dk_27 (dk_at dksX0_forget_0 10 rfl rfl)
theorem dX0_forget_11 : decode cX0_forget 11 = .ok (.ireturn, 1) := dk_172 (dk_at dksX0_forget_0 11 rfl rfl)
abbrev cX0_kicks : ByteArray := prog_1_method_56_code
def yX0_kicks : MethodName := ⟨RX0, "kicks", "(I)I"⟩
def dkwX0_kicks_1 : List UInt8 := [172]
abbrev dktX0_kicks_1 : List UInt8 := dkwX0_kicks_1 ++ []
def dkwX0_kicks_0 : List UInt8 := [27, 3, 42, 180, 0, 122, 184, 0, 148, 153, 0, 14, 42, 27, 182, 1, 84, 184, 1, 87, 167, 0, 4, 2]
abbrev dktX0_kicks_0 : List UInt8 := dkwX0_kicks_0 ++ dktX0_kicks_1
theorem dksX0_kicks_0 : cX0_kicks.data.toList.drop 0 = dktX0_kicks_0 := by decide +kernel
theorem dksX0_kicks_1 : cX0_kicks.data.toList.drop 24 = dktX0_kicks_1 := dk_seg dksX0_kicks_0 24 rfl rfl
theorem dX0_kicks_0 : decode cX0_kicks 0 = .ok (.iload_n 1, 1) := dk_27 (dk_at dksX0_kicks_0 0 rfl rfl)
theorem dX0_kicks_1 : decode cX0_kicks 1 = .ok (.iconst 0, 1) := dk_3 (dk_at dksX0_kicks_0 1 rfl rfl)
theorem dX0_kicks_2 : decode cX0_kicks 2 = .ok (.aload_n 0, 1) := dk_42 (dk_at dksX0_kicks_0 2 rfl rfl)
theorem dX0_kicks_3 : decode cX0_kicks 3 = .ok (.getfield 122, 3) := dk_180 0 122 (dk_at dksX0_kicks_0 3 rfl rfl)
theorem dX0_kicks_6 : decode cX0_kicks 6 = .ok (.invokestatic 148, 3) := dk_184 0 148 (dk_at dksX0_kicks_0 6 rfl rfl)
theorem dX0_kicks_9 : decode cX0_kicks 9 = .ok (.ifCond .eq 14, 3) := dk_153 0 14 (dk_at dksX0_kicks_0 9 rfl rfl)
theorem dX0_kicks_12 : decode cX0_kicks 12 = .ok (.aload_n 0, 1) := dk_42 (dk_at dksX0_kicks_0 12 rfl rfl)
theorem dX0_kicks_13 : decode cX0_kicks 13 = .ok (.iload_n 1, 1) := dk_27 (dk_at dksX0_kicks_0 13 rfl rfl)
theorem dX0_kicks_14 : decode cX0_kicks 14 = .ok (.invokevirtual 340, 3) := dk_182 1 84 (dk_at dksX0_kicks_0 14 rfl rfl)
theorem dX0_kicks_17 : decode cX0_kicks 17 = .ok (.invokestatic 343, 3) := dk_184 1 87 (dk_at dksX0_kicks_0 17 rfl rfl)
theorem dX0_kicks_20 : decode cX0_kicks 20 = .ok (.goto 4, 3) := dk_167 0 4 (dk_at dksX0_kicks_0 20 rfl rfl)
theorem dX0_kicks_23 : decode cX0_kicks 23 = .ok (.iconst (-1), 1) := dk_2 (dk_at dksX0_kicks_0 23 rfl rfl)
theorem dX0_kicks_24 : decode cX0_kicks 24 = .ok (.ireturn, 1) := dk_172 (dk_at dksX0_kicks_1 0 rfl rfl)
abbrev cX0_kicksBy : ByteArray := prog_1_method_55_code
def yX0_kicksBy : MethodName := ⟨RX0, "kicksBy", "(I)I"⟩
def dkwX0_kicksBy_5 : List UInt8 := [167, 255, 146, 28, 172]
abbrev dktX0_kicksBy_5 : List UInt8 := dkwX0_kicksBy_5 ++ []
def dkwX0_kicksBy_4 : List UInt8 := [153, 0, 10, 4, 21, 5, 120, 167, 0, 4, 3, 128, 61, 132, 4, 1, 167, 255, 163, 132, 3, 1]
abbrev dktX0_kicksBy_4 : List UInt8 := dkwX0_kicksBy_4 ++ dktX0_kicksBy_5
def dkwX0_kicksBy_3 : List UInt8 := [180, 0, 97, 21, 5, 42, 182, 1, 75, 79, 28, 42, 27, 42, 180, 0, 97, 21, 5, 46, 182, 1, 81]
abbrev dktX0_kicksBy_3 : List UInt8 := dkwX0_kicksBy_3 ++ dktX0_kicksBy_4
def dkwX0_kicksBy_2 : List UInt8 := [180, 0, 238, 29, 50, 21, 4, 46, 4, 96, 184, 0, 1, 79, 29, 7, 104, 21, 4, 96, 54, 5, 42]
abbrev dktX0_kicksBy_2 : List UInt8 := dkwX0_kicksBy_2 ++ dktX0_kicksBy_3
def dkwX0_kicksBy_1 : List UInt8 := [42, 182, 1, 72, 42, 180, 0, 59, 180, 0, 238, 29, 50, 21, 4, 17, 3, 231, 42, 180, 0, 59]
abbrev dktX0_kicksBy_1 : List UInt8 := dkwX0_kicksBy_1 ++ dktX0_kicksBy_2
def dkwX0_kicksBy_0 : List UInt8 := [3, 61, 3, 62, 29, 42, 182, 0, 152, 162, 0, 108, 3, 54, 4, 21, 4, 42, 182, 0, 154, 162, 0, 90]
abbrev dktX0_kicksBy_0 : List UInt8 := dkwX0_kicksBy_0 ++ dktX0_kicksBy_1
theorem dksX0_kicksBy_0 : cX0_kicksBy.data.toList.drop 0 = dktX0_kicksBy_0 := by decide +kernel
theorem dksX0_kicksBy_1 : cX0_kicksBy.data.toList.drop 24 = dktX0_kicksBy_1 := dk_seg dksX0_kicksBy_0 24 rfl rfl
theorem dksX0_kicksBy_2 : cX0_kicksBy.data.toList.drop 46 = dktX0_kicksBy_2 := dk_seg dksX0_kicksBy_1 22 rfl rfl
theorem dksX0_kicksBy_3 : cX0_kicksBy.data.toList.drop 69 = dktX0_kicksBy_3 := dk_seg dksX0_kicksBy_2 23 rfl rfl
theorem dksX0_kicksBy_4 : cX0_kicksBy.data.toList.drop 92 = dktX0_kicksBy_4 := dk_seg dksX0_kicksBy_3 23 rfl rfl
theorem dksX0_kicksBy_5 : cX0_kicksBy.data.toList.drop 114 = dktX0_kicksBy_5 := dk_seg dksX0_kicksBy_4 22 rfl rfl
theorem dX0_kicksBy_0 : decode cX0_kicksBy 0 = .ok (.iconst 0, 1) := dk_3 (dk_at dksX0_kicksBy_0 0 rfl rfl)
theorem dX0_kicksBy_1 : decode cX0_kicksBy 1 = .ok (.istore_n 2, 1) := dk_61 (dk_at dksX0_kicksBy_0 1 rfl rfl)
theorem dX0_kicksBy_2 : decode cX0_kicksBy 2 = .ok (.iconst 0, 1) := dk_3 (dk_at dksX0_kicksBy_0 2 rfl rfl)
theorem dX0_kicksBy_3 : decode cX0_kicksBy 3 = .ok (.istore_n 3, 1) := dk_62 (dk_at dksX0_kicksBy_0 3 rfl rfl)
theorem dX0_kicksBy_4 : decode cX0_kicksBy 4 = .ok (.iload_n 3, 1) := dk_29 (dk_at dksX0_kicksBy_0 4 rfl rfl)
theorem dX0_kicksBy_5 : decode cX0_kicksBy 5 = .ok (.aload_n 0, 1) := dk_42 (dk_at dksX0_kicksBy_0 5 rfl rfl)
theorem dX0_kicksBy_6 : decode cX0_kicksBy 6 = .ok (.invokevirtual 152, 3) := dk_182 0 152 (dk_at dksX0_kicksBy_0 6 rfl rfl)
theorem dX0_kicksBy_9 : decode cX0_kicksBy 9 = .ok (.if_icmp .ge 108, 3) := dk_162 0 108 (dk_at dksX0_kicksBy_0 9 rfl rfl)
theorem dX0_kicksBy_12 : decode cX0_kicksBy 12 = .ok (.iconst 0, 1) := dk_3 (dk_at dksX0_kicksBy_0 12 rfl rfl)
theorem dX0_kicksBy_13 : decode cX0_kicksBy 13 = .ok (.istore 4, 2) := dk_54 4 (dk_at dksX0_kicksBy_0 13 rfl rfl)
theorem dX0_kicksBy_15 : decode cX0_kicksBy 15 = .ok (.iload 4, 2) := dk_21 4 (dk_at dksX0_kicksBy_0 15 rfl rfl)
theorem dX0_kicksBy_17 : decode cX0_kicksBy 17 = .ok (.aload_n 0, 1) := dk_42 (dk_at dksX0_kicksBy_0 17 rfl rfl)
theorem dX0_kicksBy_18 : decode cX0_kicksBy 18 = .ok (.invokevirtual 154, 3) := dk_182 0 154 (dk_at dksX0_kicksBy_0 18 rfl rfl)
theorem dX0_kicksBy_21 : decode cX0_kicksBy 21 = .ok (.if_icmp .ge 90, 3) := dk_162 0 90 (dk_at dksX0_kicksBy_0 21 rfl rfl)
theorem dX0_kicksBy_24 : decode cX0_kicksBy 24 = .ok (.aload_n 0, 1) := dk_42 (dk_at dksX0_kicksBy_1 0 rfl rfl)
theorem dX0_kicksBy_25 : decode cX0_kicksBy 25 = .ok (.invokevirtual 328, 3) := dk_182 1 72 (dk_at dksX0_kicksBy_1 1 rfl rfl)
theorem dX0_kicksBy_28 : decode cX0_kicksBy 28 = .ok (.aload_n 0, 1) := dk_42 (dk_at dksX0_kicksBy_1 4 rfl rfl)
theorem dX0_kicksBy_29 : decode cX0_kicksBy 29 = .ok (.getfield 59, 3) := dk_180 0 59 (dk_at dksX0_kicksBy_1 5 rfl rfl)
theorem dX0_kicksBy_32 : decode cX0_kicksBy 32 = .ok (.getfield 238, 3) := dk_180 0 238 (dk_at dksX0_kicksBy_1 8 rfl rfl)
theorem dX0_kicksBy_35 : decode cX0_kicksBy 35 = .ok (.iload_n 3, 1) := dk_29 (dk_at dksX0_kicksBy_1 11 rfl rfl)
theorem dX0_kicksBy_36 : decode cX0_kicksBy 36 = .ok (.aaload, 1) := dk_50 (dk_at dksX0_kicksBy_1 12 rfl rfl)
theorem dX0_kicksBy_37 : decode cX0_kicksBy 37 = .ok (.iload 4, 2) := dk_21 4 (dk_at dksX0_kicksBy_1 13 rfl rfl)
theorem dX0_kicksBy_39 : decode cX0_kicksBy 39 = .ok (.sipush 999, 3) := dk_17 3 231 (dk_at dksX0_kicksBy_1 15 rfl rfl)
theorem dX0_kicksBy_42 : decode cX0_kicksBy 42 = .ok (.aload_n 0, 1) := dk_42 (dk_at dksX0_kicksBy_1 18 rfl rfl)
theorem dX0_kicksBy_43 : decode cX0_kicksBy 43 = .ok (.getfield 59, 3) := dk_180 0 59 (dk_at dksX0_kicksBy_1 19 rfl rfl)
theorem dX0_kicksBy_46 : decode cX0_kicksBy 46 = .ok (.getfield 238, 3) := dk_180 0 238 (dk_at dksX0_kicksBy_2 0 rfl rfl)
theorem dX0_kicksBy_49 : decode cX0_kicksBy 49 = .ok (.iload_n 3, 1) := dk_29 (dk_at dksX0_kicksBy_2 3 rfl rfl)
theorem dX0_kicksBy_50 : decode cX0_kicksBy 50 = .ok (.aaload, 1) := dk_50 (dk_at dksX0_kicksBy_2 4 rfl rfl)
theorem dX0_kicksBy_51 : decode cX0_kicksBy 51 = .ok (.iload 4, 2) := dk_21 4 (dk_at dksX0_kicksBy_2 5 rfl rfl)
theorem dX0_kicksBy_53 : decode cX0_kicksBy 53 = .ok (.iaload, 1) := dk_46 (dk_at dksX0_kicksBy_2 7 rfl rfl)
theorem dX0_kicksBy_54 : decode cX0_kicksBy 54 = .ok (.iconst 1, 1) := dk_4 (dk_at dksX0_kicksBy_2 8 rfl rfl)
theorem dX0_kicksBy_55 : decode cX0_kicksBy 55 = .ok (.iadd, 1) := dk_96 (dk_at dksX0_kicksBy_2 9 rfl rfl)
theorem dX0_kicksBy_56 : decode cX0_kicksBy 56 = .ok (.invokestatic 1, 3) := dk_184 0 1 (dk_at dksX0_kicksBy_2 10 rfl rfl)
theorem dX0_kicksBy_59 : decode cX0_kicksBy 59 = .ok (.iastore, 1) := dk_79 (dk_at dksX0_kicksBy_2 13 rfl rfl)
theorem dX0_kicksBy_60 : decode cX0_kicksBy 60 = .ok (.iload_n 3, 1) := dk_29 (dk_at dksX0_kicksBy_2 14 rfl rfl)
theorem dX0_kicksBy_61 : decode cX0_kicksBy 61 = .ok (.iconst 4, 1) := dk_7 (dk_at dksX0_kicksBy_2 15 rfl rfl)
theorem dX0_kicksBy_62 : decode cX0_kicksBy 62 = .ok (.imul, 1) := dk_104 (dk_at dksX0_kicksBy_2 16 rfl rfl)
theorem dX0_kicksBy_63 : decode cX0_kicksBy 63 = .ok (.iload 4, 2) := dk_21 4 (dk_at dksX0_kicksBy_2 17 rfl rfl)
theorem dX0_kicksBy_65 : decode cX0_kicksBy 65 = .ok (.iadd, 1) := dk_96 (dk_at dksX0_kicksBy_2 19 rfl rfl)
theorem dX0_kicksBy_66 : decode cX0_kicksBy 66 = .ok (.istore 5, 2) := dk_54 5 (dk_at dksX0_kicksBy_2 20 rfl rfl)
theorem dX0_kicksBy_68 : decode cX0_kicksBy 68 = .ok (.aload_n 0, 1) := dk_42 (dk_at dksX0_kicksBy_2 22 rfl rfl)
theorem dX0_kicksBy_69 : decode cX0_kicksBy 69 = .ok (.getfield 97, 3) := dk_180 0 97 (dk_at dksX0_kicksBy_3 0 rfl rfl)
theorem dX0_kicksBy_72 : decode cX0_kicksBy 72 = .ok (.iload 5, 2) := dk_21 5 (dk_at dksX0_kicksBy_3 3 rfl rfl)
theorem dX0_kicksBy_74 : decode cX0_kicksBy 74 = .ok (.aload_n 0, 1) := dk_42 (dk_at dksX0_kicksBy_3 5 rfl rfl)
theorem dX0_kicksBy_75 : decode cX0_kicksBy 75 = .ok (.invokevirtual 331, 3) := dk_182 1 75 (dk_at dksX0_kicksBy_3 6 rfl rfl)
theorem dX0_kicksBy_78 : decode cX0_kicksBy 78 = .ok (.iastore, 1) := dk_79 (dk_at dksX0_kicksBy_3 9 rfl rfl)
theorem dX0_kicksBy_79 : decode cX0_kicksBy 79 = .ok (.iload_n 2, 1) := dk_28 (dk_at dksX0_kicksBy_3 10 rfl rfl)
theorem dX0_kicksBy_80 : decode cX0_kicksBy 80 = .ok (.aload_n 0, 1) := dk_42 (dk_at dksX0_kicksBy_3 11 rfl rfl)
theorem dX0_kicksBy_81 : decode cX0_kicksBy 81 = .ok (.iload_n 1, 1) := dk_27 (dk_at dksX0_kicksBy_3 12 rfl rfl)
theorem dX0_kicksBy_82 : decode cX0_kicksBy 82 = .ok (.aload_n 0, 1) := dk_42 (dk_at dksX0_kicksBy_3 13 rfl rfl)
theorem dX0_kicksBy_83 : decode cX0_kicksBy 83 = .ok (.getfield 97, 3) := dk_180 0 97 (dk_at dksX0_kicksBy_3 14 rfl rfl)
theorem dX0_kicksBy_86 : decode cX0_kicksBy 86 = .ok (.iload 5, 2) := dk_21 5 (dk_at dksX0_kicksBy_3 17 rfl rfl)
theorem dX0_kicksBy_88 : decode cX0_kicksBy 88 = .ok (.iaload, 1) := dk_46 (dk_at dksX0_kicksBy_3 19 rfl rfl)
theorem dX0_kicksBy_89 : decode cX0_kicksBy 89 = .ok (.invokevirtual 337, 3) := dk_182 1 81 (dk_at dksX0_kicksBy_3 20 rfl rfl)
theorem dX0_kicksBy_92 : decode cX0_kicksBy 92 = .ok (.ifCond .eq 10, 3) := dk_153 0 10 (dk_at dksX0_kicksBy_4 0 rfl rfl)
theorem dX0_kicksBy_95 : decode cX0_kicksBy 95 = .ok (.iconst 1, 1) := dk_4 (dk_at dksX0_kicksBy_4 3 rfl rfl)
theorem dX0_kicksBy_96 : decode cX0_kicksBy 96 = .ok (.iload 5, 2) := dk_21 5 (dk_at dksX0_kicksBy_4 4 rfl rfl)
theorem dX0_kicksBy_98 : decode cX0_kicksBy 98 = .ok (.ishl, 1) := dk_120 (dk_at dksX0_kicksBy_4 6 rfl rfl)
theorem dX0_kicksBy_99 : decode cX0_kicksBy 99 = .ok (.goto 4, 3) := dk_167 0 4 (dk_at dksX0_kicksBy_4 7 rfl rfl)
theorem dX0_kicksBy_102 : decode cX0_kicksBy 102 = .ok (.iconst 0, 1) := dk_3 (dk_at dksX0_kicksBy_4 10 rfl rfl)
theorem dX0_kicksBy_103 : decode cX0_kicksBy 103 = .ok (.ior, 1) := dk_128 (dk_at dksX0_kicksBy_4 11 rfl rfl)
theorem dX0_kicksBy_104 : decode cX0_kicksBy 104 = .ok (.istore_n 2, 1) := dk_61 (dk_at dksX0_kicksBy_4 12 rfl rfl)
theorem dX0_kicksBy_105 : decode cX0_kicksBy 105 = .ok (.iinc 4 1, 3) := dk_132 4 1 (dk_at dksX0_kicksBy_4 13 rfl rfl)
theorem dX0_kicksBy_108 : decode cX0_kicksBy 108 = .ok (.goto (-93), 3) := dk_167 255 163 (dk_at dksX0_kicksBy_4 16 rfl rfl)
theorem dX0_kicksBy_111 : decode cX0_kicksBy 111 = .ok (.iinc 3 1, 3) := dk_132 3 1 (dk_at dksX0_kicksBy_4 19 rfl rfl)
theorem dX0_kicksBy_114 : decode cX0_kicksBy 114 = .ok (.goto (-110), 3) := dk_167 255 146 (dk_at dksX0_kicksBy_5 0 rfl rfl)
theorem dX0_kicksBy_117 : decode cX0_kicksBy 117 = .ok (.iload_n 2, 1) := dk_28 (dk_at dksX0_kicksBy_5 3 rfl rfl)
theorem dX0_kicksBy_118 : decode cX0_kicksBy 118 = .ok (.ireturn, 1) := dk_172 (dk_at dksX0_kicksBy_5 4 rfl rfl)
abbrev cX0_isSo : ByteArray := prog_1_method_54_code
def yX0_isSo : MethodName := ⟨RX0, "isSo", "(II)Z"⟩
def dkwX0_isSo_1 : List UInt8 := [167, 0, 4, 3, 42, 180, 0, 94, 29, 51, 159, 0, 5, 3, 172, 132, 3, 1, 167, 255, 218, 4, 172]
abbrev dktX0_isSo_1 : List UInt8 := dkwX0_isSo_1 ++ []
def dkwX0_isSo_0 : List UInt8 := [3, 62, 29, 27, 162, 0, 39, 28, 42, 180, 0, 90, 29, 46, 122, 4, 126, 4, 160, 0, 7, 4]
abbrev dktX0_isSo_0 : List UInt8 := dkwX0_isSo_0 ++ dktX0_isSo_1
theorem dksX0_isSo_0 : cX0_isSo.data.toList.drop 0 = dktX0_isSo_0 := by decide +kernel
theorem dksX0_isSo_1 : cX0_isSo.data.toList.drop 22 = dktX0_isSo_1 := dk_seg dksX0_isSo_0 22 rfl rfl
theorem dX0_isSo_0 : decode cX0_isSo 0 = .ok (.iconst 0, 1) := dk_3 (dk_at dksX0_isSo_0 0 rfl rfl)
theorem dX0_isSo_1 : decode cX0_isSo 1 = .ok (.istore_n 3, 1) := dk_62 (dk_at dksX0_isSo_0 1 rfl rfl)
theorem dX0_isSo_2 : decode cX0_isSo 2 = .ok (.iload_n 3, 1) := dk_29 (dk_at dksX0_isSo_0 2 rfl rfl)
theorem dX0_isSo_3 : decode cX0_isSo 3 = .ok (.iload_n 1, 1) := dk_27 (dk_at dksX0_isSo_0 3 rfl rfl)
theorem dX0_isSo_4 : decode cX0_isSo 4 = .ok (.if_icmp .ge 39, 3) := dk_162 0 39 (dk_at dksX0_isSo_0 4 rfl rfl)
theorem dX0_isSo_7 : decode cX0_isSo 7 = .ok (.iload_n 2, 1) := dk_28 (dk_at dksX0_isSo_0 7 rfl rfl)
theorem dX0_isSo_8 : decode cX0_isSo 8 = .ok (.aload_n 0, 1) := dk_42 (dk_at dksX0_isSo_0 8 rfl rfl)
theorem dX0_isSo_9 : decode cX0_isSo 9 = .ok (.getfield 90, 3) := dk_180 0 90 (dk_at dksX0_isSo_0 9 rfl rfl)
theorem dX0_isSo_12 : decode cX0_isSo 12 = .ok (.iload_n 3, 1) := dk_29 (dk_at dksX0_isSo_0 12 rfl rfl)
theorem dX0_isSo_13 : decode cX0_isSo 13 = .ok (.iaload, 1) := dk_46 (dk_at dksX0_isSo_0 13 rfl rfl)
theorem dX0_isSo_14 : decode cX0_isSo 14 = .ok (.ishr, 1) := dk_122 (dk_at dksX0_isSo_0 14 rfl rfl)
theorem dX0_isSo_15 : decode cX0_isSo 15 = .ok (.iconst 1, 1) := dk_4 (dk_at dksX0_isSo_0 15 rfl rfl)
theorem dX0_isSo_16 : decode cX0_isSo 16 = .ok (.iand, 1) := dk_126 (dk_at dksX0_isSo_0 16 rfl rfl)
theorem dX0_isSo_17 : decode cX0_isSo 17 = .ok (.iconst 1, 1) := dk_4 (dk_at dksX0_isSo_0 17 rfl rfl)
theorem dX0_isSo_18 : decode cX0_isSo 18 = .ok (.if_icmp .ne 7, 3) := dk_160 0 7 (dk_at dksX0_isSo_0 18 rfl rfl)
theorem dX0_isSo_21 : decode cX0_isSo 21 = .ok (.iconst 1, 1) := dk_4 (dk_at dksX0_isSo_0 21 rfl rfl)
theorem dX0_isSo_22 : decode cX0_isSo 22 = .ok (.goto 4, 3) := dk_167 0 4 (dk_at dksX0_isSo_1 0 rfl rfl)
theorem dX0_isSo_25 : decode cX0_isSo 25 = .ok (.iconst 0, 1) := dk_3 (dk_at dksX0_isSo_1 3 rfl rfl)
theorem dX0_isSo_26 : decode cX0_isSo 26 = .ok (.aload_n 0, 1) := dk_42 (dk_at dksX0_isSo_1 4 rfl rfl)
theorem dX0_isSo_27 : decode cX0_isSo 27 = .ok (.getfield 94, 3) := dk_180 0 94 (dk_at dksX0_isSo_1 5 rfl rfl)
theorem dX0_isSo_30 : decode cX0_isSo 30 = .ok (.iload_n 3, 1) := dk_29 (dk_at dksX0_isSo_1 8 rfl rfl)
theorem dX0_isSo_31 : decode cX0_isSo 31 = .ok (.baload, 1) := dk_51 (dk_at dksX0_isSo_1 9 rfl rfl)
theorem dX0_isSo_32 : decode cX0_isSo 32 = .ok (.if_icmp .eq 5, 3) := dk_159 0 5 (dk_at dksX0_isSo_1 10 rfl rfl)
theorem dX0_isSo_35 : decode cX0_isSo 35 = .ok (.iconst 0, 1) := dk_3 (dk_at dksX0_isSo_1 13 rfl rfl)
theorem dX0_isSo_36 : decode cX0_isSo 36 = .ok (.ireturn, 1) := dk_172 (dk_at dksX0_isSo_1 14 rfl rfl)
theorem dX0_isSo_37 : decode cX0_isSo 37 = .ok (.iinc 3 1, 3) := dk_132 3 1 (dk_at dksX0_isSo_1 15 rfl rfl)
theorem dX0_isSo_40 : decode cX0_isSo 40 = .ok (.goto (-38), 3) := dk_167 255 218 (dk_at dksX0_isSo_1 18 rfl rfl)
theorem dX0_isSo_43 : decode cX0_isSo 43 = .ok (.iconst 1, 1) := dk_4 (dk_at dksX0_isSo_1 21 rfl rfl)
theorem dX0_isSo_44 : decode cX0_isSo 44 = .ok (.ireturn, 1) := dk_172 (dk_at dksX0_isSo_1 22 rfl rfl)
abbrev cX0_sure : ByteArray := prog_1_method_57_code
def yX0_sure : MethodName := ⟨RX0, "sure", "(I)I"⟩
def dkwX0_sure_1 : List UInt8 := [4, 159, 0, 6, 16, 254, 172, 28, 184, 1, 92, 62, 16, 10, 29, 7, 108, 104, 29, 7, 112, 96, 172]
abbrev dktX0_sure_1 : List UInt8 := dkwX0_sure_1 ++ []
def dkwX0_sure_0 : List UInt8 := [27, 3, 42, 180, 0, 122, 184, 0, 148, 154, 0, 5, 2, 172, 42, 27, 182, 1, 84, 61, 28, 184, 1, 87]
abbrev dktX0_sure_0 : List UInt8 := dkwX0_sure_0 ++ dktX0_sure_1
theorem dksX0_sure_0 : cX0_sure.data.toList.drop 0 = dktX0_sure_0 := by decide +kernel
theorem dksX0_sure_1 : cX0_sure.data.toList.drop 24 = dktX0_sure_1 := dk_seg dksX0_sure_0 24 rfl rfl
theorem dX0_sure_0 : decode cX0_sure 0 = .ok (.iload_n 1, 1) := dk_27 (dk_at dksX0_sure_0 0 rfl rfl)
theorem dX0_sure_1 : decode cX0_sure 1 = .ok (.iconst 0, 1) := dk_3 (dk_at dksX0_sure_0 1 rfl rfl)
theorem dX0_sure_2 : decode cX0_sure 2 = .ok (.aload_n 0, 1) := dk_42 (dk_at dksX0_sure_0 2 rfl rfl)
theorem dX0_sure_3 : decode cX0_sure 3 = .ok (.getfield 122, 3) := dk_180 0 122 (dk_at dksX0_sure_0 3 rfl rfl)
theorem dX0_sure_6 : decode cX0_sure 6 = .ok (.invokestatic 148, 3) := dk_184 0 148 (dk_at dksX0_sure_0 6 rfl rfl)
theorem dX0_sure_9 : decode cX0_sure 9 = .ok (.ifCond .ne 5, 3) := dk_154 0 5 (dk_at dksX0_sure_0 9 rfl rfl)
theorem dX0_sure_12 : decode cX0_sure 12 = .ok (.iconst (-1), 1) := dk_2 (dk_at dksX0_sure_0 12 rfl rfl)
theorem dX0_sure_13 : decode cX0_sure 13 = .ok (.ireturn, 1) := dk_172 (dk_at dksX0_sure_0 13 rfl rfl)
theorem dX0_sure_14 : decode cX0_sure 14 = .ok (.aload_n 0, 1) := dk_42 (dk_at dksX0_sure_0 14 rfl rfl)
theorem dX0_sure_15 : decode cX0_sure 15 = .ok (.iload_n 1, 1) := dk_27 (dk_at dksX0_sure_0 15 rfl rfl)
theorem dX0_sure_16 : decode cX0_sure 16 = .ok (.invokevirtual 340, 3) := dk_182 1 84 (dk_at dksX0_sure_0 16 rfl rfl)
theorem dX0_sure_19 : decode cX0_sure 19 = .ok (.istore_n 2, 1) := dk_61 (dk_at dksX0_sure_0 19 rfl rfl)
theorem dX0_sure_20 : decode cX0_sure 20 = .ok (.iload_n 2, 1) := dk_28 (dk_at dksX0_sure_0 20 rfl rfl)
theorem dX0_sure_21 : decode cX0_sure 21 = .ok (.invokestatic 343, 3) := dk_184 1 87 (dk_at dksX0_sure_0 21 rfl rfl)
theorem dX0_sure_24 : decode cX0_sure 24 = .ok (.iconst 1, 1) := dk_4 (dk_at dksX0_sure_1 0 rfl rfl)
theorem dX0_sure_25 : decode cX0_sure 25 = .ok (.if_icmp .eq 6, 3) := dk_159 0 6 (dk_at dksX0_sure_1 1 rfl rfl)
theorem dX0_sure_28 : decode cX0_sure 28 = .ok (.bipush (-2), 2) := dk_16 254 (dk_at dksX0_sure_1 4 rfl rfl)
theorem dX0_sure_30 : decode cX0_sure 30 = .ok (.ireturn, 1) := dk_172 (dk_at dksX0_sure_1 6 rfl rfl)
theorem dX0_sure_31 : decode cX0_sure 31 = .ok (.iload_n 2, 1) := dk_28 (dk_at dksX0_sure_1 7 rfl rfl)
theorem dX0_sure_32 : decode cX0_sure 32 = .ok (.invokestatic 348, 3) := dk_184 1 92 (dk_at dksX0_sure_1 8 rfl rfl)
theorem dX0_sure_35 : decode cX0_sure 35 = .ok (.istore_n 3, 1) := dk_62 (dk_at dksX0_sure_1 11 rfl rfl)
theorem dX0_sure_36 : decode cX0_sure 36 = .ok (.bipush 10, 2) := dk_16 10 (dk_at dksX0_sure_1 12 rfl rfl)
theorem dX0_sure_38 : decode cX0_sure 38 = .ok (.iload_n 3, 1) := dk_29 (dk_at dksX0_sure_1 14 rfl rfl)
theorem dX0_sure_39 : decode cX0_sure 39 = .ok (.iconst 4, 1) := dk_7 (dk_at dksX0_sure_1 15 rfl rfl)
theorem dX0_sure_40 : decode cX0_sure 40 = .ok (.idiv, 1) := dk_108 (dk_at dksX0_sure_1 16 rfl rfl)
theorem dX0_sure_41 : decode cX0_sure 41 = .ok (.imul, 1) := dk_104 (dk_at dksX0_sure_1 17 rfl rfl)
theorem dX0_sure_42 : decode cX0_sure 42 = .ok (.iload_n 3, 1) := dk_29 (dk_at dksX0_sure_1 18 rfl rfl)
theorem dX0_sure_43 : decode cX0_sure 43 = .ok (.iconst 4, 1) := dk_7 (dk_at dksX0_sure_1 19 rfl rfl)
theorem dX0_sure_44 : decode cX0_sure 44 = .ok (.irem, 1) := dk_112 (dk_at dksX0_sure_1 20 rfl rfl)
theorem dX0_sure_45 : decode cX0_sure 45 = .ok (.iadd, 1) := dk_96 (dk_at dksX0_sure_1 21 rfl rfl)
theorem dX0_sure_46 : decode cX0_sure 46 = .ok (.ireturn, 1) := dk_172 (dk_at dksX0_sure_1 22 rfl rfl)
abbrev cX0_ask : ByteArray := prog_1_method_58_code
def yX0_ask : MethodName := ⟨RX0, "ask", "(I)I"⟩
def dkwX0_ask_5 : List UInt8 := [21, 5, 62, 21, 7, 54, 4, 132, 5, 1, 167, 255, 159, 29, 172]
abbrev dktX0_ask_5 : List UInt8 := dkwX0_ask_5 ++ []
def dkwX0_ask_4 : List UInt8 := [21, 6, 28, 184, 1, 87, 21, 6, 100, 184, 0, 7, 54, 7, 21, 7, 21, 4, 161, 0, 6, 167, 0, 10]
abbrev dktX0_ask_4 : List UInt8 := dkwX0_ask_4 ++ dktX0_ask_5
def dkwX0_ask_3 : List UInt8 := [180, 0, 97, 21, 7, 46, 21, 5, 122, 4, 126, 167, 0, 4, 3, 96, 54, 6, 132, 7, 1, 167, 255, 215]
abbrev dktX0_ask_3 : List UInt8 := dkwX0_ask_3 ++ dktX0_ask_4
def dkwX0_ask_2 : List UInt8 := [3, 54, 7, 21, 7, 16, 20, 162, 0, 40, 21, 6, 28, 21, 7, 122, 4, 126, 4, 160, 0, 18, 42]
abbrev dktX0_ask_2 : List UInt8 := dkwX0_ask_2 ++ dktX0_ask_3
def dkwX0_ask_1 : List UInt8 := [19, 1, 26, 54, 4, 3, 54, 5, 21, 5, 42, 182, 0, 154, 162, 0, 94, 28, 153, 0, 90, 3, 54, 6]
abbrev dktX0_ask_1 : List UInt8 := dkwX0_ask_1 ++ dktX0_ask_2
def dkwX0_ask_0 : List UInt8 := [27, 3, 42, 180, 0, 122, 184, 0, 148, 154, 0, 5, 2, 172, 42, 27, 182, 1, 84, 61, 16, 254, 62]
abbrev dktX0_ask_0 : List UInt8 := dkwX0_ask_0 ++ dktX0_ask_1
theorem dksX0_ask_0 : cX0_ask.data.toList.drop 0 = dktX0_ask_0 := by decide +kernel
theorem dksX0_ask_1 : cX0_ask.data.toList.drop 23 = dktX0_ask_1 := dk_seg dksX0_ask_0 23 rfl rfl
theorem dksX0_ask_2 : cX0_ask.data.toList.drop 47 = dktX0_ask_2 := dk_seg dksX0_ask_1 24 rfl rfl
theorem dksX0_ask_3 : cX0_ask.data.toList.drop 70 = dktX0_ask_3 := dk_seg dksX0_ask_2 23 rfl rfl
theorem dksX0_ask_4 : cX0_ask.data.toList.drop 94 = dktX0_ask_4 := dk_seg dksX0_ask_3 24 rfl rfl
theorem dksX0_ask_5 : cX0_ask.data.toList.drop 118 = dktX0_ask_5 := dk_seg dksX0_ask_4 24 rfl rfl
theorem dX0_ask_0 : decode cX0_ask 0 = .ok (.iload_n 1, 1) := dk_27 (dk_at dksX0_ask_0 0 rfl rfl)
theorem dX0_ask_1 : decode cX0_ask 1 = .ok (.iconst 0, 1) := dk_3 (dk_at dksX0_ask_0 1 rfl rfl)
theorem dX0_ask_2 : decode cX0_ask 2 = .ok (.aload_n 0, 1) := dk_42 (dk_at dksX0_ask_0 2 rfl rfl)
theorem dX0_ask_3 : decode cX0_ask 3 = .ok (.getfield 122, 3) := dk_180 0 122 (dk_at dksX0_ask_0 3 rfl rfl)
theorem dX0_ask_6 : decode cX0_ask 6 = .ok (.invokestatic 148, 3) := dk_184 0 148 (dk_at dksX0_ask_0 6 rfl rfl)
theorem dX0_ask_9 : decode cX0_ask 9 = .ok (.ifCond .ne 5, 3) := dk_154 0 5 (dk_at dksX0_ask_0 9 rfl rfl)
theorem dX0_ask_12 : decode cX0_ask 12 = .ok (.iconst (-1), 1) := dk_2 (dk_at dksX0_ask_0 12 rfl rfl)
theorem dX0_ask_13 : decode cX0_ask 13 = .ok (.ireturn, 1) := dk_172 (dk_at dksX0_ask_0 13 rfl rfl)
theorem dX0_ask_14 : decode cX0_ask 14 = .ok (.aload_n 0, 1) := dk_42 (dk_at dksX0_ask_0 14 rfl rfl)
theorem dX0_ask_15 : decode cX0_ask 15 = .ok (.iload_n 1, 1) := dk_27 (dk_at dksX0_ask_0 15 rfl rfl)
theorem dX0_ask_16 : decode cX0_ask 16 = .ok (.invokevirtual 340, 3) := dk_182 1 84 (dk_at dksX0_ask_0 16 rfl rfl)
theorem dX0_ask_19 : decode cX0_ask 19 = .ok (.istore_n 2, 1) := dk_61 (dk_at dksX0_ask_0 19 rfl rfl)
theorem dX0_ask_20 : decode cX0_ask 20 = .ok (.bipush (-2), 2) := dk_16 254 (dk_at dksX0_ask_0 20 rfl rfl)
theorem dX0_ask_22 : decode cX0_ask 22 = .ok (.istore_n 3, 1) := dk_62 (dk_at dksX0_ask_0 22 rfl rfl)
theorem dX0_ask_23 : decode cX0_ask 23 = .ok (.ldc_w 282, 3) := dk_19 1 26 (dk_at dksX0_ask_1 0 rfl rfl)
theorem dX0_ask_26 : decode cX0_ask 26 = .ok (.istore 4, 2) := dk_54 4 (dk_at dksX0_ask_1 3 rfl rfl)
theorem dX0_ask_28 : decode cX0_ask 28 = .ok (.iconst 0, 1) := dk_3 (dk_at dksX0_ask_1 5 rfl rfl)
theorem dX0_ask_29 : decode cX0_ask 29 = .ok (.istore 5, 2) := dk_54 5 (dk_at dksX0_ask_1 6 rfl rfl)
theorem dX0_ask_31 : decode cX0_ask 31 = .ok (.iload 5, 2) := dk_21 5 (dk_at dksX0_ask_1 8 rfl rfl)
theorem dX0_ask_33 : decode cX0_ask 33 = .ok (.aload_n 0, 1) := dk_42 (dk_at dksX0_ask_1 10 rfl rfl)
theorem dX0_ask_34 : decode cX0_ask 34 = .ok (.invokevirtual 154, 3) := dk_182 0 154 (dk_at dksX0_ask_1 11 rfl rfl)
theorem dX0_ask_37 : decode cX0_ask 37 = .ok (.if_icmp .ge 94, 3) := dk_162 0 94 (dk_at dksX0_ask_1 14 rfl rfl)
theorem dX0_ask_40 : decode cX0_ask 40 = .ok (.iload_n 2, 1) := dk_28 (dk_at dksX0_ask_1 17 rfl rfl)
theorem dX0_ask_41 : decode cX0_ask 41 = .ok (.ifCond .eq 90, 3) := dk_153 0 90 (dk_at dksX0_ask_1 18 rfl rfl)
theorem dX0_ask_44 : decode cX0_ask 44 = .ok (.iconst 0, 1) := dk_3 (dk_at dksX0_ask_1 21 rfl rfl)
theorem dX0_ask_45 : decode cX0_ask 45 = .ok (.istore 6, 2) := dk_54 6 (dk_at dksX0_ask_1 22 rfl rfl)
theorem dX0_ask_47 : decode cX0_ask 47 = .ok (.iconst 0, 1) := dk_3 (dk_at dksX0_ask_2 0 rfl rfl)
theorem dX0_ask_48 : decode cX0_ask 48 = .ok (.istore 7, 2) := dk_54 7 (dk_at dksX0_ask_2 1 rfl rfl)
theorem dX0_ask_50 : decode cX0_ask 50 = .ok (.iload 7, 2) := dk_21 7 (dk_at dksX0_ask_2 3 rfl rfl)
theorem dX0_ask_52 : decode cX0_ask 52 = .ok (.bipush 20, 2) := dk_16 20 (dk_at dksX0_ask_2 5 rfl rfl)
theorem dX0_ask_54 : decode cX0_ask 54 = .ok (.if_icmp .ge 40, 3) := dk_162 0 40 (dk_at dksX0_ask_2 7 rfl rfl)
theorem dX0_ask_57 : decode cX0_ask 57 = .ok (.iload 6, 2) := dk_21 6 (dk_at dksX0_ask_2 10 rfl rfl)
theorem dX0_ask_59 : decode cX0_ask 59 = .ok (.iload_n 2, 1) := dk_28 (dk_at dksX0_ask_2 12 rfl rfl)
theorem dX0_ask_60 : decode cX0_ask 60 = .ok (.iload 7, 2) := dk_21 7 (dk_at dksX0_ask_2 13 rfl rfl)
theorem dX0_ask_62 : decode cX0_ask 62 = .ok (.ishr, 1) := dk_122 (dk_at dksX0_ask_2 15 rfl rfl)
theorem dX0_ask_63 : decode cX0_ask 63 = .ok (.iconst 1, 1) := dk_4 (dk_at dksX0_ask_2 16 rfl rfl)
theorem dX0_ask_64 : decode cX0_ask 64 = .ok (.iand, 1) := dk_126 (dk_at dksX0_ask_2 17 rfl rfl)
theorem dX0_ask_65 : decode cX0_ask 65 = .ok (.iconst 1, 1) := dk_4 (dk_at dksX0_ask_2 18 rfl rfl)
theorem dX0_ask_66 : decode cX0_ask 66 = .ok (.if_icmp .ne 18, 3) := dk_160 0 18 (dk_at dksX0_ask_2 19 rfl rfl)
theorem dX0_ask_69 : decode cX0_ask 69 = .ok (.aload_n 0, 1) := dk_42 (dk_at dksX0_ask_2 22 rfl rfl)
theorem dX0_ask_70 : decode cX0_ask 70 = .ok (.getfield 97, 3) := dk_180 0 97 (dk_at dksX0_ask_3 0 rfl rfl)
theorem dX0_ask_73 : decode cX0_ask 73 = .ok (.iload 7, 2) := dk_21 7 (dk_at dksX0_ask_3 3 rfl rfl)
theorem dX0_ask_75 : decode cX0_ask 75 = .ok (.iaload, 1) := dk_46 (dk_at dksX0_ask_3 5 rfl rfl)
theorem dX0_ask_76 : decode cX0_ask 76 = .ok (.iload 5, 2) := dk_21 5 (dk_at dksX0_ask_3 6 rfl rfl)
theorem dX0_ask_78 : decode cX0_ask 78 = .ok (.ishr, 1) := dk_122 (dk_at dksX0_ask_3 8 rfl rfl)
theorem dX0_ask_79 : decode cX0_ask 79 = .ok (.iconst 1, 1) := dk_4 (dk_at dksX0_ask_3 9 rfl rfl)
theorem dX0_ask_80 : decode cX0_ask 80 = .ok (.iand, 1) := dk_126 (dk_at dksX0_ask_3 10 rfl rfl)
theorem dX0_ask_81 : decode cX0_ask 81 = .ok (.goto 4, 3) := dk_167 0 4 (dk_at dksX0_ask_3 11 rfl rfl)
theorem dX0_ask_84 : decode cX0_ask 84 = .ok (.iconst 0, 1) := dk_3 (dk_at dksX0_ask_3 14 rfl rfl)
theorem dX0_ask_85 : decode cX0_ask 85 = .ok (.iadd, 1) := dk_96 (dk_at dksX0_ask_3 15 rfl rfl)
theorem dX0_ask_86 : decode cX0_ask 86 = .ok (.istore 6, 2) := dk_54 6 (dk_at dksX0_ask_3 16 rfl rfl)
theorem dX0_ask_88 : decode cX0_ask 88 = .ok (.iinc 7 1, 3) := dk_132 7 1 (dk_at dksX0_ask_3 18 rfl rfl)
theorem dX0_ask_91 : decode cX0_ask 91 = .ok (.goto (-41), 3) := dk_167 255 215 (dk_at dksX0_ask_3 21 rfl rfl)
theorem dX0_ask_94 : decode cX0_ask 94 = .ok (.iload 6, 2) := dk_21 6 (dk_at dksX0_ask_4 0 rfl rfl)
theorem dX0_ask_96 : decode cX0_ask 96 = .ok (.iload_n 2, 1) := dk_28 (dk_at dksX0_ask_4 2 rfl rfl)
theorem dX0_ask_97 : decode cX0_ask 97 = .ok (.invokestatic 343, 3) := dk_184 1 87 (dk_at dksX0_ask_4 3 rfl rfl)
theorem dX0_ask_100 : decode cX0_ask 100 = .ok (.iload 6, 2) := dk_21 6 (dk_at dksX0_ask_4 6 rfl rfl)
theorem dX0_ask_102 : decode cX0_ask 102 = .ok (.isub, 1) := dk_100 (dk_at dksX0_ask_4 8 rfl rfl)
theorem dX0_ask_103 : decode cX0_ask 103 = .ok (.invokestatic 7, 3) := dk_184 0 7 (dk_at dksX0_ask_4 9 rfl rfl)
theorem dX0_ask_106 : decode cX0_ask 106 = .ok (.istore 7, 2) := dk_54 7 (dk_at dksX0_ask_4 12 rfl rfl)
theorem dX0_ask_108 : decode cX0_ask 108 = .ok (.iload 7, 2) := dk_21 7 (dk_at dksX0_ask_4 14 rfl rfl)
theorem dX0_ask_110 : decode cX0_ask 110 = .ok (.iload 4, 2) := dk_21 4 (dk_at dksX0_ask_4 16 rfl rfl)
theorem dX0_ask_112 : decode cX0_ask 112 = .ok (.if_icmp .lt 6, 3) := dk_161 0 6 (dk_at dksX0_ask_4 18 rfl rfl)
theorem dX0_ask_115 : decode cX0_ask 115 = .ok (.goto 10, 3) := dk_167 0 10 (dk_at dksX0_ask_4 21 rfl rfl)
theorem dX0_ask_118 : decode cX0_ask 118 = .ok (.iload 5, 2) := dk_21 5 (dk_at dksX0_ask_5 0 rfl rfl)
theorem dX0_ask_120 : decode cX0_ask 120 = .ok (.istore_n 3, 1) := dk_62 (dk_at dksX0_ask_5 2 rfl rfl)
theorem dX0_ask_121 : decode cX0_ask 121 = .ok (.iload 7, 2) := dk_21 7 (dk_at dksX0_ask_5 3 rfl rfl)
theorem dX0_ask_123 : decode cX0_ask 123 = .ok (.istore 4, 2) := dk_54 4 (dk_at dksX0_ask_5 5 rfl rfl)
theorem dX0_ask_125 : decode cX0_ask 125 = .ok (.iinc 5 1, 3) := dk_132 5 1 (dk_at dksX0_ask_5 7 rfl rfl)
theorem dX0_ask_128 : decode cX0_ask 128 = .ok (.goto (-97), 3) := dk_167 255 159 (dk_at dksX0_ask_5 10 rfl rfl)
theorem dX0_ask_131 : decode cX0_ask 131 = .ok (.iload_n 3, 1) := dk_29 (dk_at dksX0_ask_5 13 rfl rfl)
theorem dX0_ask_132 : decode cX0_ask 132 = .ok (.ireturn, 1) := dk_172 (dk_at dksX0_ask_5 14 rfl rfl)
abbrev cX0_hold : ByteArray := prog_1_method_59_code
def yX0_hold : MethodName := ⟨RX0, "hold", "(I)Z"⟩
def dkwX0_hold_1 : List UInt8 := [42, 180, 0, 81, 27, 4, 84, 4, 172]
abbrev dktX0_hold_1 : List UInt8 := dkwX0_hold_1 ++ []
def dkwX0_hold_0 : List UInt8 := [27, 3, 5, 184, 0, 148, 154, 0, 5, 3, 172, 42, 180, 0, 66, 27, 50, 42, 180, 0, 55, 182, 0, 254]
abbrev dktX0_hold_0 : List UInt8 := dkwX0_hold_0 ++ dktX0_hold_1
theorem dksX0_hold_0 : cX0_hold.data.toList.drop 0 = dktX0_hold_0 := by decide +kernel
theorem dksX0_hold_1 : cX0_hold.data.toList.drop 24 = dktX0_hold_1 := dk_seg dksX0_hold_0 24 rfl rfl
theorem dX0_hold_0 : decode cX0_hold 0 = .ok (.iload_n 1, 1) := dk_27 (dk_at dksX0_hold_0 0 rfl rfl)
theorem dX0_hold_1 : decode cX0_hold 1 = .ok (.iconst 0, 1) := dk_3 (dk_at dksX0_hold_0 1 rfl rfl)
theorem dX0_hold_2 : decode cX0_hold 2 = .ok (.iconst 2, 1) := dk_5 (dk_at dksX0_hold_0 2 rfl rfl)
theorem dX0_hold_3 : decode cX0_hold 3 = .ok (.invokestatic 148, 3) := dk_184 0 148 (dk_at dksX0_hold_0 3 rfl rfl)
theorem dX0_hold_6 : decode cX0_hold 6 = .ok (.ifCond .ne 5, 3) := dk_154 0 5 (dk_at dksX0_hold_0 6 rfl rfl)
theorem dX0_hold_9 : decode cX0_hold 9 = .ok (.iconst 0, 1) := dk_3 (dk_at dksX0_hold_0 9 rfl rfl)
theorem dX0_hold_10 : decode cX0_hold 10 = .ok (.ireturn, 1) := dk_172 (dk_at dksX0_hold_0 10 rfl rfl)
theorem dX0_hold_11 : decode cX0_hold 11 = .ok (.aload_n 0, 1) := dk_42 (dk_at dksX0_hold_0 11 rfl rfl)
theorem dX0_hold_12 : decode cX0_hold 12 = .ok (.getfield 66, 3) := dk_180 0 66 (dk_at dksX0_hold_0 12 rfl rfl)
theorem dX0_hold_15 : decode cX0_hold 15 = .ok (.iload_n 1, 1) := dk_27 (dk_at dksX0_hold_0 15 rfl rfl)
theorem dX0_hold_16 : decode cX0_hold 16 = .ok (.aaload, 1) := dk_50 (dk_at dksX0_hold_0 16 rfl rfl)
theorem dX0_hold_17 : decode cX0_hold 17 = .ok (.aload_n 0, 1) := dk_42 (dk_at dksX0_hold_0 17 rfl rfl)
theorem dX0_hold_18 : decode cX0_hold 18 = .ok (.getfield 55, 3) := dk_180 0 55 (dk_at dksX0_hold_0 18 rfl rfl)
theorem dX0_hold_21 : decode cX0_hold 21 = .ok (.invokevirtual 254, 3) := dk_182 0 254 (dk_at dksX0_hold_0 21 rfl rfl)
theorem dX0_hold_24 : decode cX0_hold 24 = .ok (.aload_n 0, 1) := dk_42 (dk_at dksX0_hold_1 0 rfl rfl)
theorem dX0_hold_25 : decode cX0_hold 25 = .ok (.getfield 81, 3) := dk_180 0 81 (dk_at dksX0_hold_1 1 rfl rfl)
theorem dX0_hold_28 : decode cX0_hold 28 = .ok (.iload_n 1, 1) := dk_27 (dk_at dksX0_hold_1 4 rfl rfl)
theorem dX0_hold_29 : decode cX0_hold 29 = .ok (.iconst 1, 1) := dk_4 (dk_at dksX0_hold_1 5 rfl rfl)
theorem dX0_hold_30 : decode cX0_hold 30 = .ok (.bastore, 1) := dk_84 (dk_at dksX0_hold_1 6 rfl rfl)
theorem dX0_hold_31 : decode cX0_hold 31 = .ok (.iconst 1, 1) := dk_4 (dk_at dksX0_hold_1 7 rfl rfl)
theorem dX0_hold_32 : decode cX0_hold 32 = .ok (.ireturn, 1) := dk_172 (dk_at dksX0_hold_1 8 rfl rfl)
abbrev cX0_restore : ByteArray := prog_1_method_60_code
def yX0_restore : MethodName := ⟨RX0, "restore", "(I)Z"⟩
def dkwX0_restore_1 : List UInt8 := [42, 180, 0, 66, 27, 50, 182, 0, 254, 42, 3, 181, 0, 119, 4, 172]
abbrev dktX0_restore_1 : List UInt8 := dkwX0_restore_1 ++ []
def dkwX0_restore_0 : List UInt8 := [27, 3, 5, 184, 0, 148, 153, 0, 12, 42, 180, 0, 81, 27, 51, 154, 0, 5, 3, 172, 42, 180, 0, 55]
abbrev dktX0_restore_0 : List UInt8 := dkwX0_restore_0 ++ dktX0_restore_1
theorem dksX0_restore_0 : cX0_restore.data.toList.drop 0 = dktX0_restore_0 := by decide +kernel
theorem dksX0_restore_1 : cX0_restore.data.toList.drop 24 = dktX0_restore_1 := dk_seg dksX0_restore_0 24 rfl rfl
theorem dX0_restore_0 : decode cX0_restore 0 = .ok (.iload_n 1, 1) := dk_27 (dk_at dksX0_restore_0 0 rfl rfl)
theorem dX0_restore_1 : decode cX0_restore 1 = .ok (.iconst 0, 1) := dk_3 (dk_at dksX0_restore_0 1 rfl rfl)
theorem dX0_restore_2 : decode cX0_restore 2 = .ok (.iconst 2, 1) := dk_5 (dk_at dksX0_restore_0 2 rfl rfl)
theorem dX0_restore_3 : decode cX0_restore 3 = .ok (.invokestatic 148, 3) := dk_184 0 148 (dk_at dksX0_restore_0 3 rfl rfl)
theorem dX0_restore_6 : decode cX0_restore 6 = .ok (.ifCond .eq 12, 3) := dk_153 0 12 (dk_at dksX0_restore_0 6 rfl rfl)
theorem dX0_restore_9 : decode cX0_restore 9 = .ok (.aload_n 0, 1) := dk_42 (dk_at dksX0_restore_0 9 rfl rfl)
theorem dX0_restore_10 : decode cX0_restore 10 = .ok (.getfield 81, 3) := dk_180 0 81 (dk_at dksX0_restore_0 10 rfl rfl)
theorem dX0_restore_13 : decode cX0_restore 13 = .ok (.iload_n 1, 1) := dk_27 (dk_at dksX0_restore_0 13 rfl rfl)
theorem dX0_restore_14 : decode cX0_restore 14 = .ok (.baload, 1) := dk_51 (dk_at dksX0_restore_0 14 rfl rfl)
theorem dX0_restore_15 : decode cX0_restore 15 = .ok (.ifCond .ne 5, 3) := dk_154 0 5 (dk_at dksX0_restore_0 15 rfl rfl)
theorem dX0_restore_18 : decode cX0_restore 18 = .ok (.iconst 0, 1) := dk_3 (dk_at dksX0_restore_0 18 rfl rfl)
theorem dX0_restore_19 : decode cX0_restore 19 = .ok (.ireturn, 1) := dk_172 (dk_at dksX0_restore_0 19 rfl rfl)
theorem dX0_restore_20 : decode cX0_restore 20 = .ok (.aload_n 0, 1) := dk_42 (dk_at dksX0_restore_0 20 rfl rfl)
theorem dX0_restore_21 : decode cX0_restore 21 = .ok (.getfield 55, 3) := dk_180 0 55 (dk_at dksX0_restore_0 21 rfl rfl)
theorem dX0_restore_24 : decode cX0_restore 24 = .ok (.aload_n 0, 1) := dk_42 (dk_at dksX0_restore_1 0 rfl rfl)
theorem dX0_restore_25 : decode cX0_restore 25 = .ok (.getfield 66, 3) := dk_180 0 66 (dk_at dksX0_restore_1 1 rfl rfl)
theorem dX0_restore_28 : decode cX0_restore 28 = .ok (.iload_n 1, 1) := dk_27 (dk_at dksX0_restore_1 4 rfl rfl)
theorem dX0_restore_29 : decode cX0_restore 29 = .ok (.aaload, 1) := dk_50 (dk_at dksX0_restore_1 5 rfl rfl)
theorem dX0_restore_30 : decode cX0_restore 30 = .ok (.invokevirtual 254, 3) := dk_182 0 254 (dk_at dksX0_restore_1 6 rfl rfl)
theorem dX0_restore_33 : decode cX0_restore 33 = .ok (.aload_n 0, 1) := dk_42 (dk_at dksX0_restore_1 9 rfl rfl)
theorem dX0_restore_34 : decode cX0_restore 34 = .ok (.iconst 0, 1) := dk_3 (dk_at dksX0_restore_1 10 rfl rfl)
theorem dX0_restore_35 : decode cX0_restore 35 = .ok (.putfield 119, 3) := dk_181 0 119 (dk_at dksX0_restore_1 11 rfl rfl)
theorem dX0_restore_38 : decode cX0_restore 38 = .ok (.iconst 1, 1) := dk_4 (dk_at dksX0_restore_1 14 rfl rfl)
theorem dX0_restore_39 : decode cX0_restore 39 = .ok (.ireturn, 1) := dk_172 (dk_at dksX0_restore_1 15 rfl rfl)
abbrev cX0_count : ByteArray := prog_1_method_61_code
def yX0_count : MethodName := ⟨RX0, "count", "(I)I"⟩
def dkwX0_count_11 : List UInt8 := [180, 0, 55, 180, 0, 238, 29, 50, 184, 1, 55, 96, 61, 132, 3, 1, 167, 255, 230, 28, 172, 2, 172]
abbrev dktX0_count_11 : List UInt8 := dkwX0_count_11 ++ []
def dkwX0_count_10 : List UInt8 := [180, 0, 55, 180, 0, 204, 184, 1, 55, 172, 3, 62, 29, 42, 182, 0, 152, 162, 0, 24, 28, 42]
abbrev dktX0_count_10 : List UInt8 := dkwX0_count_10 ++ dktX0_count_11
def dkwX0_count_9 : List UInt8 := [172, 42, 180, 0, 55, 180, 0, 231, 184, 1, 55, 172, 42, 180, 0, 55, 180, 0, 218, 184, 1, 55, 172, 42]
abbrev dktX0_count_9 : List UInt8 := dkwX0_count_9 ++ dktX0_count_10
def dkwX0_count_8 : List UInt8 := [153, 0, 7, 4, 167, 0, 4, 3, 96, 42, 180, 0, 81, 5, 51, 153, 0, 7, 4, 167, 0, 4, 3, 96]
abbrev dktX0_count_8 : List UInt8 := dkwX0_count_8 ++ dktX0_count_9
def dkwX0_count_7 : List UInt8 := [180, 0, 122, 172, 42, 180, 0, 81, 3, 51, 153, 0, 7, 4, 167, 0, 4, 3, 42, 180, 0, 81, 4, 51]
abbrev dktX0_count_7 : List UInt8 := dkwX0_count_7 ++ dktX0_count_8
def dkwX0_count_6 : List UInt8 := [180, 0, 55, 180, 0, 201, 184, 1, 55, 172, 42, 180, 0, 28, 180, 0, 104, 172, 42, 180, 0, 119, 172, 42]
abbrev dktX0_count_6 : List UInt8 := dkwX0_count_6 ++ dktX0_count_7
def dkwX0_count_5 : List UInt8 := [180, 0, 55, 180, 1, 20, 172, 42, 180, 0, 55, 180, 1, 69, 172, 42, 180, 0, 55, 180, 0, 156, 172, 42]
abbrev dktX0_count_5 : List UInt8 := dkwX0_count_5 ++ dktX0_count_6
def dkwX0_count_4 : List UInt8 := [180, 0, 55, 42, 180, 0, 44, 182, 1, 30, 182, 1, 45, 153, 0, 7, 4, 167, 0, 4, 3, 172, 42]
abbrev dktX0_count_4 : List UInt8 := dkwX0_count_4 ++ dktX0_count_5
def dkwX0_count_3 : List UInt8 := [180, 0, 44, 180, 0, 178, 172, 42, 180, 0, 55, 42, 180, 0, 44, 182, 1, 30, 172, 42, 180, 0, 44, 42]
abbrev dktX0_count_3 : List UInt8 := dkwX0_count_3 ++ dktX0_count_4
def dkwX0_count_2 : List UInt8 := [42, 182, 0, 145, 172, 42, 180, 0, 44, 180, 1, 95, 172, 42, 182, 0, 152, 172, 42, 182, 0, 154, 172, 42]
abbrev dktX0_count_2 : List UInt8 := dkwX0_count_2 ++ dktX0_count_3
def dkwX0_count_1 : List UInt8 := [170, 0, 0, 1, 67, 0, 0, 0, 0, 0, 0, 0, 18, 0, 0, 0, 89, 0, 0, 0, 94, 0, 0, 0, 102, 0, 0, 0, 107, 0, 0, 0, 112, 0, 0, 0, 120, 0, 0, 0, 132, 0, 0, 0, 159, 0, 0, 0, 167, 0, 0, 0, 175, 0, 0, 0, 183, 0, 0, 0, 194, 0, 0, 0, 202, 0, 0, 0, 207, 0, 0, 0, 212, 0, 0, 1, 1, 0, 0, 1, 12, 0, 0, 1, 23, 0, 0, 1, 34]
abbrev dktX0_count_1 : List UInt8 := dkwX0_count_1 ++ dktX0_count_2
def dkwX0_count_0 : List UInt8 := [3, 61, 27]
abbrev dktX0_count_0 : List UInt8 := dkwX0_count_0 ++ dktX0_count_1
theorem dksX0_count_0 : cX0_count.data.toList.drop 0 = dktX0_count_0 := by decide +kernel
theorem dksX0_count_1 : cX0_count.data.toList.drop 3 = dktX0_count_1 := dk_seg dksX0_count_0 3 rfl rfl
theorem dksX0_count_2 : cX0_count.data.toList.drop 92 = dktX0_count_2 := dk_seg dksX0_count_1 89 rfl rfl
theorem dksX0_count_3 : cX0_count.data.toList.drop 116 = dktX0_count_3 := dk_seg dksX0_count_2 24 rfl rfl
theorem dksX0_count_4 : cX0_count.data.toList.drop 140 = dktX0_count_4 := dk_seg dksX0_count_3 24 rfl rfl
theorem dksX0_count_5 : cX0_count.data.toList.drop 163 = dktX0_count_5 := dk_seg dksX0_count_4 23 rfl rfl
theorem dksX0_count_6 : cX0_count.data.toList.drop 187 = dktX0_count_6 := dk_seg dksX0_count_5 24 rfl rfl
theorem dksX0_count_7 : cX0_count.data.toList.drop 211 = dktX0_count_7 := dk_seg dksX0_count_6 24 rfl rfl
theorem dksX0_count_8 : cX0_count.data.toList.drop 235 = dktX0_count_8 := dk_seg dksX0_count_7 24 rfl rfl
theorem dksX0_count_9 : cX0_count.data.toList.drop 259 = dktX0_count_9 := dk_seg dksX0_count_8 24 rfl rfl
theorem dksX0_count_10 : cX0_count.data.toList.drop 283 = dktX0_count_10 := dk_seg dksX0_count_9 24 rfl rfl
theorem dksX0_count_11 : cX0_count.data.toList.drop 305 = dktX0_count_11 := dk_seg dksX0_count_10 22 rfl rfl
theorem dX0_count_0 : decode cX0_count 0 = .ok (.iconst 0, 1) := dk_3 (dk_at dksX0_count_0 0 rfl rfl)
theorem dX0_count_1 : decode cX0_count 1 = .ok (.istore_n 2, 1) := dk_61 (dk_at dksX0_count_0 1 rfl rfl)
theorem dX0_count_2 : decode cX0_count 2 = .ok (.iload_n 1, 1) := dk_27 (dk_at dksX0_count_0 2 rfl rfl)
theorem dX0_count_3 : decode cX0_count 3 = .ok (.tableswitch 323 0 18 #[89, 94, 102, 107, 112, 120, 132, 159, 167, 175, 183, 194, 202, 207, 212, 257, 268, 279, 290], 89) := by decide +kernel
theorem dX0_count_92 : decode cX0_count 92 = .ok (.aload_n 0, 1) := dk_42 (dk_at dksX0_count_2 0 rfl rfl)
theorem dX0_count_93 : decode cX0_count 93 = .ok (.invokevirtual 145, 3) := dk_182 0 145 (dk_at dksX0_count_2 1 rfl rfl)
theorem dX0_count_96 : decode cX0_count 96 = .ok (.ireturn, 1) := dk_172 (dk_at dksX0_count_2 4 rfl rfl)
theorem dX0_count_97 : decode cX0_count 97 = .ok (.aload_n 0, 1) := dk_42 (dk_at dksX0_count_2 5 rfl rfl)
theorem dX0_count_98 : decode cX0_count 98 = .ok (.getfield 44, 3) := dk_180 0 44 (dk_at dksX0_count_2 6 rfl rfl)
theorem dX0_count_101 : decode cX0_count 101 = .ok (.getfield 351, 3) := dk_180 1 95 (dk_at dksX0_count_2 9 rfl rfl)
theorem dX0_count_104 : decode cX0_count 104 = .ok (.ireturn, 1) := dk_172 (dk_at dksX0_count_2 12 rfl rfl)
theorem dX0_count_105 : decode cX0_count 105 = .ok (.aload_n 0, 1) := dk_42 (dk_at dksX0_count_2 13 rfl rfl)
theorem dX0_count_106 : decode cX0_count 106 = .ok (.invokevirtual 152, 3) := dk_182 0 152 (dk_at dksX0_count_2 14 rfl rfl)
theorem dX0_count_109 : decode cX0_count 109 = .ok (.ireturn, 1) := dk_172 (dk_at dksX0_count_2 17 rfl rfl)
theorem dX0_count_110 : decode cX0_count 110 = .ok (.aload_n 0, 1) := dk_42 (dk_at dksX0_count_2 18 rfl rfl)
theorem dX0_count_111 : decode cX0_count 111 = .ok (.invokevirtual 154, 3) := dk_182 0 154 (dk_at dksX0_count_2 19 rfl rfl)
theorem dX0_count_114 : decode cX0_count 114 = .ok (.ireturn, 1) := dk_172 (dk_at dksX0_count_2 22 rfl rfl)
theorem dX0_count_115 : decode cX0_count 115 = .ok (.aload_n 0, 1) := dk_42 (dk_at dksX0_count_2 23 rfl rfl)
theorem dX0_count_116 : decode cX0_count 116 = .ok (.getfield 44, 3) := dk_180 0 44 (dk_at dksX0_count_3 0 rfl rfl)
theorem dX0_count_119 : decode cX0_count 119 = .ok (.getfield 178, 3) := dk_180 0 178 (dk_at dksX0_count_3 3 rfl rfl)
theorem dX0_count_122 : decode cX0_count 122 = .ok (.ireturn, 1) := dk_172 (dk_at dksX0_count_3 6 rfl rfl)
theorem dX0_count_123 : decode cX0_count 123 = .ok (.aload_n 0, 1) := dk_42 (dk_at dksX0_count_3 7 rfl rfl)
theorem dX0_count_124 : decode cX0_count 124 = .ok (.getfield 55, 3) := dk_180 0 55 (dk_at dksX0_count_3 8 rfl rfl)
theorem dX0_count_127 : decode cX0_count 127 = .ok (.aload_n 0, 1) := dk_42 (dk_at dksX0_count_3 11 rfl rfl)
theorem dX0_count_128 : decode cX0_count 128 = .ok (.getfield 44, 3) := dk_180 0 44 (dk_at dksX0_count_3 12 rfl rfl)
theorem dX0_count_131 : decode cX0_count 131 = .ok (.invokevirtual 286, 3) := dk_182 1 30 (dk_at dksX0_count_3 15 rfl rfl)
theorem dX0_count_134 : decode cX0_count 134 = .ok (.ireturn, 1) := dk_172 (dk_at dksX0_count_3 18 rfl rfl)
theorem dX0_count_135 : decode cX0_count 135 = .ok (.aload_n 0, 1) := dk_42 (dk_at dksX0_count_3 19 rfl rfl)
theorem dX0_count_136 : decode cX0_count 136 = .ok (.getfield 44, 3) := dk_180 0 44 (dk_at dksX0_count_3 20 rfl rfl)
theorem dX0_count_139 : decode cX0_count 139 = .ok (.aload_n 0, 1) := dk_42 (dk_at dksX0_count_3 23 rfl rfl)
theorem dX0_count_140 : decode cX0_count 140 = .ok (.getfield 55, 3) := dk_180 0 55 (dk_at dksX0_count_4 0 rfl rfl)
theorem dX0_count_143 : decode cX0_count 143 = .ok (.aload_n 0, 1) := dk_42 (dk_at dksX0_count_4 3 rfl rfl)
theorem dX0_count_144 : decode cX0_count 144 = .ok (.getfield 44, 3) := dk_180 0 44 (dk_at dksX0_count_4 4 rfl rfl)
theorem dX0_count_147 : decode cX0_count 147 = .ok (.invokevirtual 286, 3) := dk_182 1 30 (dk_at dksX0_count_4 7 rfl rfl)
theorem dX0_count_150 : decode cX0_count 150 = .ok (.invokevirtual 301, 3) := dk_182 1 45 (dk_at dksX0_count_4 10 rfl rfl)
theorem dX0_count_153 : decode cX0_count 153 = .ok (.ifCond .eq 7, 3) := dk_153 0 7 (dk_at dksX0_count_4 13 rfl rfl)
theorem dX0_count_156 : decode cX0_count 156 = .ok (.iconst 1, 1) := dk_4 (dk_at dksX0_count_4 16 rfl rfl)
theorem dX0_count_157 : decode cX0_count 157 = .ok (.goto 4, 3) := dk_167 0 4 (dk_at dksX0_count_4 17 rfl rfl)
theorem dX0_count_160 : decode cX0_count 160 = .ok (.iconst 0, 1) := dk_3 (dk_at dksX0_count_4 20 rfl rfl)
theorem dX0_count_161 : decode cX0_count 161 = .ok (.ireturn, 1) := dk_172 (dk_at dksX0_count_4 21 rfl rfl)
theorem dX0_count_162 : decode cX0_count 162 = .ok (.aload_n 0, 1) := dk_42 (dk_at dksX0_count_4 22 rfl rfl)
theorem dX0_count_163 : decode cX0_count 163 = .ok (.getfield 55, 3) := dk_180 0 55 (dk_at dksX0_count_5 0 rfl rfl)
theorem dX0_count_166 : decode cX0_count 166 = .ok (.getfield 276, 3) := dk_180 1 20 (dk_at dksX0_count_5 3 rfl rfl)
theorem dX0_count_169 : decode cX0_count 169 = .ok (.ireturn, 1) := dk_172 (dk_at dksX0_count_5 6 rfl rfl)
theorem dX0_count_170 : decode cX0_count 170 = .ok (.aload_n 0, 1) := dk_42 (dk_at dksX0_count_5 7 rfl rfl)
theorem dX0_count_171 : decode cX0_count 171 = .ok (.getfield 55, 3) := dk_180 0 55 (dk_at dksX0_count_5 8 rfl rfl)
theorem dX0_count_174 : decode cX0_count 174 = .ok (.getfield 325, 3) := dk_180 1 69 (dk_at dksX0_count_5 11 rfl rfl)
theorem dX0_count_177 : decode cX0_count 177 = .ok (.ireturn, 1) := dk_172 (dk_at dksX0_count_5 14 rfl rfl)
theorem dX0_count_178 : decode cX0_count 178 = .ok (.aload_n 0, 1) := dk_42 (dk_at dksX0_count_5 15 rfl rfl)
theorem dX0_count_179 : decode cX0_count 179 = .ok (.getfield 55, 3) := dk_180 0 55 (dk_at dksX0_count_5 16 rfl rfl)
theorem dX0_count_182 : decode cX0_count 182 = .ok (.getfield 156, 3) := dk_180 0 156 (dk_at dksX0_count_5 19 rfl rfl)
theorem dX0_count_185 : decode cX0_count 185 = .ok (.ireturn, 1) := dk_172 (dk_at dksX0_count_5 22 rfl rfl)
theorem dX0_count_186 : decode cX0_count 186 = .ok (.aload_n 0, 1) := dk_42 (dk_at dksX0_count_5 23 rfl rfl)
theorem dX0_count_187 : decode cX0_count 187 = .ok (.getfield 55, 3) := dk_180 0 55 (dk_at dksX0_count_6 0 rfl rfl)
theorem dX0_count_190 : decode cX0_count 190 = .ok (.getfield 201, 3) := dk_180 0 201 (dk_at dksX0_count_6 3 rfl rfl)
theorem dX0_count_193 : decode cX0_count 193 = .ok (.invokestatic 311, 3) := dk_184 1 55 (dk_at dksX0_count_6 6 rfl rfl)
theorem dX0_count_196 : decode cX0_count 196 = .ok (.ireturn, 1) := dk_172 (dk_at dksX0_count_6 9 rfl rfl)
theorem dX0_count_197 : decode cX0_count 197 = .ok (.aload_n 0, 1) := dk_42 (dk_at dksX0_count_6 10 rfl rfl)
theorem dX0_count_198 : decode cX0_count 198 = .ok (.getfield 28, 3) := dk_180 0 28 (dk_at dksX0_count_6 11 rfl rfl)
theorem dX0_count_201 : decode cX0_count 201 = .ok (.getfield 104, 3) := dk_180 0 104 (dk_at dksX0_count_6 14 rfl rfl)
theorem dX0_count_204 : decode cX0_count 204 = .ok (.ireturn, 1) := dk_172 (dk_at dksX0_count_6 17 rfl rfl)
theorem dX0_count_205 : decode cX0_count 205 = .ok (.aload_n 0, 1) := dk_42 (dk_at dksX0_count_6 18 rfl rfl)
theorem dX0_count_206 : decode cX0_count 206 = .ok (.getfield 119, 3) := dk_180 0 119 (dk_at dksX0_count_6 19 rfl rfl)
theorem dX0_count_209 : decode cX0_count 209 = .ok (.ireturn, 1) := dk_172 (dk_at dksX0_count_6 22 rfl rfl)
theorem dX0_count_210 : decode cX0_count 210 = .ok (.aload_n 0, 1) := dk_42 (dk_at dksX0_count_6 23 rfl rfl)
theorem dX0_count_211 : decode cX0_count 211 = .ok (.getfield 122, 3) := dk_180 0 122 (dk_at dksX0_count_7 0 rfl rfl)
theorem dX0_count_214 : decode cX0_count 214 = .ok (.ireturn, 1) := dk_172 (dk_at dksX0_count_7 3 rfl rfl)
theorem dX0_count_215 : decode cX0_count 215 = .ok (.aload_n 0, 1) := dk_42 (dk_at dksX0_count_7 4 rfl rfl)
theorem dX0_count_216 : decode cX0_count 216 = .ok (.getfield 81, 3) := dk_180 0 81 (dk_at dksX0_count_7 5 rfl rfl)
theorem dX0_count_219 : decode cX0_count 219 = .ok (.iconst 0, 1) := dk_3 (dk_at dksX0_count_7 8 rfl rfl)
theorem dX0_count_220 : decode cX0_count 220 = .ok (.baload, 1) := dk_51 (dk_at dksX0_count_7 9 rfl rfl)
theorem dX0_count_221 : decode cX0_count 221 = .ok (.ifCond .eq 7, 3) := dk_153 0 7 (dk_at dksX0_count_7 10 rfl rfl)
theorem dX0_count_224 : decode cX0_count 224 = .ok (.iconst 1, 1) := dk_4 (dk_at dksX0_count_7 13 rfl rfl)
theorem dX0_count_225 : decode cX0_count 225 = .ok (.goto 4, 3) := dk_167 0 4 (dk_at dksX0_count_7 14 rfl rfl)
theorem dX0_count_228 : decode cX0_count 228 = .ok (.iconst 0, 1) := dk_3 (dk_at dksX0_count_7 17 rfl rfl)
theorem dX0_count_229 : decode cX0_count 229 = .ok (.aload_n 0, 1) := dk_42 (dk_at dksX0_count_7 18 rfl rfl)
theorem dX0_count_230 : decode cX0_count 230 = .ok (.getfield 81, 3) := dk_180 0 81 (dk_at dksX0_count_7 19 rfl rfl)
theorem dX0_count_233 : decode cX0_count 233 = .ok (.iconst 1, 1) := dk_4 (dk_at dksX0_count_7 22 rfl rfl)
theorem dX0_count_234 : decode cX0_count 234 = .ok (.baload, 1) := dk_51 (dk_at dksX0_count_7 23 rfl rfl)
theorem dX0_count_235 : decode cX0_count 235 = .ok (.ifCond .eq 7, 3) := dk_153 0 7 (dk_at dksX0_count_8 0 rfl rfl)
theorem dX0_count_238 : decode cX0_count 238 = .ok (.iconst 1, 1) := dk_4 (dk_at dksX0_count_8 3 rfl rfl)
theorem dX0_count_239 : decode cX0_count 239 = .ok (.goto 4, 3) := dk_167 0 4 (dk_at dksX0_count_8 4 rfl rfl)
theorem dX0_count_242 : decode cX0_count 242 = .ok (.iconst 0, 1) := dk_3 (dk_at dksX0_count_8 7 rfl rfl)
theorem dX0_count_243 : decode cX0_count 243 = .ok (.iadd, 1) := dk_96 (dk_at dksX0_count_8 8 rfl rfl)
theorem dX0_count_244 : decode cX0_count 244 = .ok (.aload_n 0, 1) := dk_42 (dk_at dksX0_count_8 9 rfl rfl)
theorem dX0_count_245 : decode cX0_count 245 = .ok (.getfield 81, 3) := dk_180 0 81 (dk_at dksX0_count_8 10 rfl rfl)
theorem dX0_count_248 : decode cX0_count 248 = .ok (.iconst 2, 1) := dk_5 (dk_at dksX0_count_8 13 rfl rfl)
theorem dX0_count_249 : decode cX0_count 249 = .ok (.baload, 1) := dk_51 (dk_at dksX0_count_8 14 rfl rfl)
theorem dX0_count_250 : decode cX0_count 250 = .ok (.ifCond .eq 7, 3) := dk_153 0 7 (dk_at dksX0_count_8 15 rfl rfl)
theorem dX0_count_253 : decode cX0_count 253 = .ok (.iconst 1, 1) := dk_4 (dk_at dksX0_count_8 18 rfl rfl)
theorem dX0_count_254 : decode cX0_count 254 = .ok (.goto 4, 3) := dk_167 0 4 (dk_at dksX0_count_8 19 rfl rfl)
theorem dX0_count_257 : decode cX0_count 257 = .ok (.iconst 0, 1) := dk_3 (dk_at dksX0_count_8 22 rfl rfl)
theorem dX0_count_258 : decode cX0_count 258 = .ok (.iadd, 1) := dk_96 (dk_at dksX0_count_8 23 rfl rfl)
theorem dX0_count_259 : decode cX0_count 259 = .ok (.ireturn, 1) := dk_172 (dk_at dksX0_count_9 0 rfl rfl)
theorem dX0_count_260 : decode cX0_count 260 = .ok (.aload_n 0, 1) := dk_42 (dk_at dksX0_count_9 1 rfl rfl)
theorem dX0_count_261 : decode cX0_count 261 = .ok (.getfield 55, 3) := dk_180 0 55 (dk_at dksX0_count_9 2 rfl rfl)
theorem dX0_count_264 : decode cX0_count 264 = .ok (.getfield 231, 3) := dk_180 0 231 (dk_at dksX0_count_9 5 rfl rfl)
theorem dX0_count_267 : decode cX0_count 267 = .ok (.invokestatic 311, 3) := dk_184 1 55 (dk_at dksX0_count_9 8 rfl rfl)
theorem dX0_count_270 : decode cX0_count 270 = .ok (.ireturn, 1) := dk_172 (dk_at dksX0_count_9 11 rfl rfl)
theorem dX0_count_271 : decode cX0_count 271 = .ok (.aload_n 0, 1) := dk_42 (dk_at dksX0_count_9 12 rfl rfl)
theorem dX0_count_272 : decode cX0_count 272 = .ok (.getfield 55, 3) := dk_180 0 55 (dk_at dksX0_count_9 13 rfl rfl)
theorem dX0_count_275 : decode cX0_count 275 = .ok (.getfield 218, 3) := dk_180 0 218 (dk_at dksX0_count_9 16 rfl rfl)
theorem dX0_count_278 : decode cX0_count 278 = .ok (.invokestatic 311, 3) := dk_184 1 55 (dk_at dksX0_count_9 19 rfl rfl)
theorem dX0_count_281 : decode cX0_count 281 = .ok (.ireturn, 1) := dk_172 (dk_at dksX0_count_9 22 rfl rfl)
theorem dX0_count_282 : decode cX0_count 282 = .ok (.aload_n 0, 1) := dk_42 (dk_at dksX0_count_9 23 rfl rfl)
theorem dX0_count_283 : decode cX0_count 283 = .ok (.getfield 55, 3) := dk_180 0 55 (dk_at dksX0_count_10 0 rfl rfl)
theorem dX0_count_286 : decode cX0_count 286 = .ok (.getfield 204, 3) := dk_180 0 204 (dk_at dksX0_count_10 3 rfl rfl)
theorem dX0_count_289 : decode cX0_count 289 = .ok (.invokestatic 311, 3) := dk_184 1 55 (dk_at dksX0_count_10 6 rfl rfl)
theorem dX0_count_292 : decode cX0_count 292 = .ok (.ireturn, 1) := dk_172 (dk_at dksX0_count_10 9 rfl rfl)
theorem dX0_count_293 : decode cX0_count 293 = .ok (.iconst 0, 1) := dk_3 (dk_at dksX0_count_10 10 rfl rfl)
theorem dX0_count_294 : decode cX0_count 294 = .ok (.istore_n 3, 1) := dk_62 (dk_at dksX0_count_10 11 rfl rfl)
theorem dX0_count_295 : decode cX0_count 295 = .ok (.iload_n 3, 1) := dk_29 (dk_at dksX0_count_10 12 rfl rfl)
theorem dX0_count_296 : decode cX0_count 296 = .ok (.aload_n 0, 1) := dk_42 (dk_at dksX0_count_10 13 rfl rfl)
theorem dX0_count_297 : decode cX0_count 297 = .ok (.invokevirtual 152, 3) := dk_182 0 152 (dk_at dksX0_count_10 14 rfl rfl)
theorem dX0_count_300 : decode cX0_count 300 = .ok (.if_icmp .ge 24, 3) := dk_162 0 24 (dk_at dksX0_count_10 17 rfl rfl)
theorem dX0_count_303 : decode cX0_count 303 = .ok (.iload_n 2, 1) := dk_28 (dk_at dksX0_count_10 20 rfl rfl)
theorem dX0_count_304 : decode cX0_count 304 = .ok (.aload_n 0, 1) := dk_42 (dk_at dksX0_count_10 21 rfl rfl)
theorem dX0_count_305 : decode cX0_count 305 = .ok (.getfield 55, 3) := dk_180 0 55 (dk_at dksX0_count_11 0 rfl rfl)
theorem dX0_count_308 : decode cX0_count 308 = .ok (.getfield 238, 3) := dk_180 0 238 (dk_at dksX0_count_11 3 rfl rfl)
theorem dX0_count_311 : decode cX0_count 311 = .ok (.iload_n 3, 1) := dk_29 (dk_at dksX0_count_11 6 rfl rfl)
theorem dX0_count_312 : decode cX0_count 312 = .ok (.aaload, 1) := dk_50 (dk_at dksX0_count_11 7 rfl rfl)
theorem dX0_count_313 : decode cX0_count 313 = .ok (.invokestatic 311, 3) := dk_184 1 55 (dk_at dksX0_count_11 8 rfl rfl)
theorem dX0_count_316 : decode cX0_count 316 = .ok (.iadd, 1) := dk_96 (dk_at dksX0_count_11 11 rfl rfl)
theorem dX0_count_317 : decode cX0_count 317 = .ok (.istore_n 2, 1) := dk_61 (dk_at dksX0_count_11 12 rfl rfl)
theorem dX0_count_318 : decode cX0_count 318 = .ok (.iinc 3 1, 3) := dk_132 3 1 (dk_at dksX0_count_11 13 rfl rfl)
theorem dX0_count_321 : decode cX0_count 321 = .ok (.goto (-26), 3) := dk_167 255 230 (dk_at dksX0_count_11 16 rfl rfl)
theorem dX0_count_324 : decode cX0_count 324 = .ok (.iload_n 2, 1) := dk_28 (dk_at dksX0_count_11 19 rfl rfl)
theorem dX0_count_325 : decode cX0_count 325 = .ok (.ireturn, 1) := dk_172 (dk_at dksX0_count_11 20 rfl rfl)
theorem dX0_count_326 : decode cX0_count 326 = .ok (.iconst (-1), 1) := dk_2 (dk_at dksX0_count_11 21 rfl rfl)
theorem dX0_count_327 : decode cX0_count 327 = .ok (.ireturn, 1) := dk_172 (dk_at dksX0_count_11 22 rfl rfl)
theorem q121 : (Jvm.Cond.initialized "DogsHour") ∈ lw_all := lw_g (lw_at lw_m1 1 rfl) rfl
theorem q160 : (Jvm.Cond.instantiable "DogsHour" (18 : Nat)) ∈ lw_all := lw_g (lw_at lw_m1 40 rfl) rfl
theorem q162 : (Jvm.Cond.instanceMethod ({ cls := "DogsHour", name := "<init>", desc := "()V" } : Jvm.MethodName)) ∈ lw_all := lw_g (lw_at lw_m1 42 rfl) rfl
theorem q163 : (Jvm.Cond.code ({ cls := "DogsHour", name := "<init>", desc := "()V" } : Jvm.MethodName) prog_1_method_2_code (2 : Nat) (Option.none : Option Jvm.ClassFile.FieldType)) ∈ lw_all := lw_g (lw_at lw_m1 43 rfl) rfl
theorem q164 : (Jvm.Cond.methodLink "DogsHour" (10 : Nat) ({ cls := "java/lang/Object", name := "<init>", desc := "()V" } : Jvm.MethodName)) ∈ lw_all := lw_g (lw_at lw_m1 44 rfl) rfl
theorem q167 : (Jvm.Cond.classLink "DogsHour" (16 : Nat) "DogsHour$Fault") ∈ lw_all := lw_g (lw_at lw_m1 47 rfl) rfl
theorem q206 : (Jvm.Cond.methodLink "DogsHour" (18 : Nat) ({ cls := "DogsHour$Fault", name := "<init>", desc := "()V" } : Jvm.MethodName)) ∈ lw_all := lw_g (lw_at lw_m1 86 rfl) rfl
theorem q220 : (Jvm.Cond.fieldLink "DogsHour" (125 : Nat) "DogsHour$Fault" "number" "I") ∈ lw_all := lw_g (lw_at lw_m1 100 rfl) rfl
theorem q222 : (Jvm.Cond.fieldLink "DogsHour" (128 : Nat) "DogsHour$Fault" "place" "I") ∈ lw_all := lw_g (lw_at lw_m1 102 rfl) rfl
theorem q241 : (Jvm.Cond.classLink "DogsHour" (25 : Nat) "DogsHour$Tokens") ∈ lw_all := lw_g (lw_at lw_m1 121 rfl) rfl
theorem q243 : (Jvm.Cond.methodLinkNest "DogsHour" (27 : Nat) ({ cls := "DogsHour$Tokens", name := "<init>", desc := "()V" } : Jvm.MethodName) "DogsHour") ∈ lw_tbl := lw_at lw_m1 123 rfl
theorem q274 : (Jvm.Cond.fieldLink "DogsHour" (111 : Nat) "DogsHour$Tokens" "tape" "[B") ∈ lw_all := lw_g (lw_at lw_m1 154 rfl) rfl
theorem q276 : (Jvm.Cond.fieldLink "DogsHour" (104 : Nat) "DogsHour$Tokens" "taped" "I") ∈ lw_all := lw_g (lw_at lw_m1 156 rfl) rfl
theorem q303 : (Jvm.Cond.classLink "DogsHour" (32 : Nat) "DogsHour$Parser") ∈ lw_all := lw_g (lw_at lw_m1 183 rfl) rfl
theorem q305 : (Jvm.Cond.methodLink "DogsHour" (34 : Nat) ({ cls := "DogsHour$Parser", name := "<init>", desc := "(LDogsHour$Tokens;LDogsHour$Fault;)V" } : Jvm.MethodName)) ∈ lw_all := lw_g (lw_at lw_m1 185 rfl) rfl
theorem q331 : (Jvm.Cond.classLink "DogsHour" (41 : Nat) "DogsHour$Text") ∈ lw_all := lw_g (lw_at lw_m1 211 rfl) rfl
theorem q333 : (Jvm.Cond.methodLinkNest "DogsHour" (43 : Nat) ({ cls := "DogsHour$Text", name := "<init>", desc := "()V" } : Jvm.MethodName) "DogsHour") ∈ lw_tbl := lw_at lw_m1 213 rfl
theorem q368 : (Jvm.Cond.fieldLink "DogsHour" (129 : Nat) "DogsHour$Text" "spots" "Ljava/util/ArrayList;") ∈ lw_all := lw_g (lw_at lw_m2 8 rfl) rfl
theorem q373 : (Jvm.Cond.fieldLink "DogsHour" (139 : Nat) "DogsHour$Text" "dogs" "Ljava/util/ArrayList;") ∈ lw_all := lw_g (lw_at lw_m2 13 rfl) rfl
theorem q377 : (Jvm.Cond.fieldLink "DogsHour" (142 : Nat) "DogsHour$Text" "people" "Ljava/util/ArrayList;") ∈ lw_all := lw_g (lw_at lw_m2 17 rfl) rfl
theorem q381 : (Jvm.Cond.fieldLink "DogsHour" (207 : Nat) "DogsHour$Text" "errandOf" "[I") ∈ lw_all := lw_g (lw_at lw_m2 21 rfl) rfl
theorem q385 : (Jvm.Cond.fieldLink "DogsHour" (181 : Nat) "DogsHour$Text" "errandAt" "[I") ∈ lw_all := lw_g (lw_at lw_m2 25 rfl) rfl
theorem q392 : (Jvm.Cond.fieldLink "DogsHour" (279 : Nat) "DogsHour$Text" "far" "[[I") ∈ lw_all := lw_g (lw_at lw_m2 32 rfl) rfl
theorem q394 : (Jvm.Cond.fieldLink "DogsHour" (351 : Nat) "DogsHour$Text" "paths" "I") ∈ lw_all := lw_g (lw_at lw_m2 34 rfl) rfl
theorem q396 : (Jvm.Cond.fieldLink "DogsHour" (178 : Nat) "DogsHour$Text" "errands" "I") ∈ lw_all := lw_g (lw_at lw_m2 36 rfl) rfl
theorem q400 : (Jvm.Cond.fieldLink "DogsHour" (283 : Nat) "DogsHour$Text" "from" "I") ∈ lw_all := lw_g (lw_at lw_m2 40 rfl) rfl
theorem q403 : (Jvm.Cond.fieldLink "DogsHour" (318 : Nat) "DogsHour$Text" "till" "I") ∈ lw_all := lw_g (lw_at lw_m2 43 rfl) rfl
theorem q432 : (Jvm.Cond.classLink "DogsHour" (52 : Nat) "DogsHour$Town") ∈ lw_all := lw_g (lw_at lw_m2 72 rfl) rfl
theorem q434 : (Jvm.Cond.methodLinkNest "DogsHour" (54 : Nat) ({ cls := "DogsHour$Town", name := "<init>", desc := "()V" } : Jvm.MethodName) "DogsHour") ∈ lw_tbl := lw_at lw_m2 74 rfl
theorem q456 : (Jvm.Cond.fieldLink "DogsHour" (172 : Nat) "DogsHour$Town" "dogAt" "[I") ∈ lw_all := lw_g (lw_at lw_m2 96 rfl) rfl
theorem q458 : (Jvm.Cond.fieldLink "DogsHour" (201 : Nat) "DogsHour$Town" "taken" "[I") ∈ lw_all := lw_g (lw_at lw_m2 98 rfl) rfl
theorem q460 : (Jvm.Cond.fieldLink "DogsHour" (204 : Nat) "DogsHour$Town" "took" "[I") ∈ lw_all := lw_g (lw_at lw_m2 100 rfl) rfl
theorem q462 : (Jvm.Cond.fieldLink "DogsHour" (175 : Nat) "DogsHour$Town" "at" "[I") ∈ lw_all := lw_g (lw_at lw_m2 102 rfl) rfl
theorem q464 : (Jvm.Cond.fieldLink "DogsHour" (221 : Nat) "DogsHour$Town" "goal" "[I") ∈ lw_all := lw_g (lw_at lw_m2 104 rfl) rfl
theorem q466 : (Jvm.Cond.fieldLink "DogsHour" (218 : Nat) "DogsHour$Town" "pocket" "[I") ∈ lw_all := lw_g (lw_at lw_m2 106 rfl) rfl
theorem q468 : (Jvm.Cond.fieldLink "DogsHour" (231 : Nat) "DogsHour$Town" "often" "[I") ∈ lw_all := lw_g (lw_at lw_m2 108 rfl) rfl
theorem q470 : (Jvm.Cond.fieldLink "DogsHour" (235 : Nat) "DogsHour$Town" "fed" "[[I") ∈ lw_all := lw_g (lw_at lw_m2 110 rfl) rfl
theorem q472 : (Jvm.Cond.fieldLink "DogsHour" (238 : Nat) "DogsHour$Town" "kicked" "[[I") ∈ lw_all := lw_g (lw_at lw_m2 112 rfl) rfl
theorem q474 : (Jvm.Cond.fieldLink "DogsHour" (325 : Nat) "DogsHour$Town" "fetched" "I") ∈ lw_all := lw_g (lw_at lw_m2 114 rfl) rfl
theorem q476 : (Jvm.Cond.fieldLink "DogsHour" (156 : Nat) "DogsHour$Town" "done" "I") ∈ lw_all := lw_g (lw_at lw_m2 116 rfl) rfl
theorem q478 : (Jvm.Cond.fieldLink "DogsHour" (276 : Nat) "DogsHour$Town" "time" "I") ∈ lw_all := lw_g (lw_at lw_m2 118 rfl) rfl
theorem q511 : (Jvm.Cond.classLink "DogsHour" (69 : Nat) "DogsHour$Time") ∈ lw_all := lw_g (lw_at lw_m2 151 rfl) rfl
theorem q513 : (Jvm.Cond.classLink "DogsHour" (71 : Nat) "DogsHour$Peace") ∈ lw_all := lw_g (lw_at lw_m2 153 rfl) rfl
theorem q515 : (Jvm.Cond.methodLinkNest "DogsHour" (73 : Nat) ({ cls := "DogsHour$Peace", name := "<init>", desc := "()V" } : Jvm.MethodName) "DogsHour") ∈ lw_tbl := lw_at lw_m2 155 rfl
theorem q523 : (Jvm.Cond.classLink "DogsHour" (74 : Nat) "DogsHour$Hunt") ∈ lw_all := lw_g (lw_at lw_m2 163 rfl) rfl
theorem q525 : (Jvm.Cond.methodLinkNest "DogsHour" (76 : Nat) ({ cls := "DogsHour$Hunt", name := "<init>", desc := "()V" } : Jvm.MethodName) "DogsHour") ∈ lw_tbl := lw_at lw_m2 165 rfl
theorem q530 : (Jvm.Cond.classLink "DogsHour" (85 : Nat) "[[I") ∈ lw_all := lw_g (lw_at lw_m2 170 rfl) rfl
theorem q531 : (Jvm.Cond.methodLink "DogsHour" (100 : Nat) ({ cls := "DogsHour$Town", name := "begins", desc := "(LDogsHour$Text;)V" } : Jvm.MethodName)) ∈ lw_all := lw_g (lw_at lw_m2 171 rfl) rfl
theorem q555 : (Jvm.Cond.fieldLink "DogsHour" (19 : Nat) "DogsHour" "fault" "LDogsHour$Fault;") ∈ lw_all := lw_g (lw_at lw_m2 195 rfl) rfl
theorem q556 : (Jvm.Cond.fieldLink "DogsHour" (28 : Nat) "DogsHour" "tokens" "LDogsHour$Tokens;") ∈ lw_all := lw_g (lw_at lw_m2 196 rfl) rfl
theorem q557 : (Jvm.Cond.fieldLink "DogsHour" (37 : Nat) "DogsHour" "parser" "LDogsHour$Parser;") ∈ lw_all := lw_g (lw_at lw_m2 197 rfl) rfl
theorem q558 : (Jvm.Cond.fieldLink "DogsHour" (44 : Nat) "DogsHour" "text" "LDogsHour$Text;") ∈ lw_all := lw_g (lw_at lw_m2 198 rfl) rfl
theorem q559 : (Jvm.Cond.fieldLink "DogsHour" (48 : Nat) "DogsHour" "place" "I") ∈ lw_all := lw_g (lw_at lw_m2 199 rfl) rfl
theorem q560 : (Jvm.Cond.fieldLink "DogsHour" (119 : Nat) "DogsHour" "undos" "I") ∈ lw_all := lw_g (lw_at lw_m2 200 rfl) rfl
theorem q561 : (Jvm.Cond.fieldLink "DogsHour" (251 : Nat) "DogsHour" "undoAt" "I") ∈ lw_all := lw_g (lw_at lw_m2 201 rfl) rfl
theorem q562 : (Jvm.Cond.fieldLink "DogsHour" (55 : Nat) "DogsHour" "town" "LDogsHour$Town;") ∈ lw_all := lw_g (lw_at lw_m2 202 rfl) rfl
theorem q563 : (Jvm.Cond.fieldLink "DogsHour" (59 : Nat) "DogsHour" "trial" "LDogsHour$Town;") ∈ lw_all := lw_g (lw_at lw_m2 203 rfl) rfl
theorem q564 : (Jvm.Cond.fieldLink "DogsHour" (62 : Nat) "DogsHour" "past" "[LDogsHour$Town;") ∈ lw_all := lw_g (lw_at lw_m2 204 rfl) rfl
theorem q565 : (Jvm.Cond.fieldLink "DogsHour" (66 : Nat) "DogsHour" "slots" "[LDogsHour$Town;") ∈ lw_all := lw_g (lw_at lw_m2 205 rfl) rfl
theorem q566 : (Jvm.Cond.fieldLink "DogsHour" (77 : Nat) "DogsHour" "times" "[LDogsHour$Time;") ∈ lw_all := lw_g (lw_at lw_m2 206 rfl) rfl
theorem q567 : (Jvm.Cond.fieldLink "DogsHour" (81 : Nat) "DogsHour" "held" "[Z") ∈ lw_all := lw_g (lw_at lw_m2 207 rfl) rfl
theorem q568 : (Jvm.Cond.fieldLink "DogsHour" (87 : Nat) "DogsHour" "steps" "[[I") ∈ lw_all := lw_g (lw_at lw_m2 208 rfl) rfl
theorem q569 : (Jvm.Cond.fieldLink "DogsHour" (122 : Nat) "DogsHour" "tolds" "I") ∈ lw_all := lw_g (lw_at lw_m2 209 rfl) rfl
theorem q570 : (Jvm.Cond.fieldLink "DogsHour" (90 : Nat) "DogsHour" "toldPerson" "[I") ∈ lw_all := lw_g (lw_at lw_m2 210 rfl) rfl
theorem q571 : (Jvm.Cond.fieldLink "DogsHour" (94 : Nat) "DogsHour" "toldWas" "[Z") ∈ lw_all := lw_g (lw_at lw_m2 211 rfl) rfl
theorem q572 : (Jvm.Cond.fieldLink "DogsHour" (97 : Nat) "DogsHour" "fetchedBy" "[I") ∈ lw_all := lw_g (lw_at lw_m2 212 rfl) rfl
theorem q573 : (Jvm.Cond.laysFinal "DogsHour" "DogsHour" "fault" "LDogsHour$Fault;") ∈ lw_all := lw_g (lw_at lw_m2 213 rfl) rfl
theorem q574 : (Jvm.Cond.soleField "DogsHour" "fault") ∈ lw_all := lw_g (lw_at lw_m2 214 rfl) rfl
theorem q575 : (Jvm.Cond.laysFinal "DogsHour" "DogsHour" "tokens" "LDogsHour$Tokens;") ∈ lw_all := lw_g (lw_at lw_m2 215 rfl) rfl
theorem q576 : (Jvm.Cond.soleField "DogsHour" "tokens") ∈ lw_all := lw_g (lw_at lw_m2 216 rfl) rfl
theorem q577 : (Jvm.Cond.laysFinal "DogsHour" "DogsHour" "parser" "LDogsHour$Parser;") ∈ lw_all := lw_g (lw_at lw_m2 217 rfl) rfl
theorem q578 : (Jvm.Cond.soleField "DogsHour" "parser") ∈ lw_all := lw_g (lw_at lw_m2 218 rfl) rfl
theorem q579 : (Jvm.Cond.lays "DogsHour" "DogsHour" "text" "LDogsHour$Text;") ∈ lw_all := lw_g (lw_at lw_m2 219 rfl) rfl
theorem q580 : (Jvm.Cond.soleField "DogsHour" "text") ∈ lw_all := lw_g (lw_at lw_m2 220 rfl) rfl
theorem q581 : (Jvm.Cond.lays "DogsHour" "DogsHour" "place" "I") ∈ lw_all := lw_g (lw_at lw_m2 221 rfl) rfl
theorem q582 : (Jvm.Cond.soleField "DogsHour" "place") ∈ lw_all := lw_g (lw_at lw_m2 222 rfl) rfl
theorem q583 : (Jvm.Cond.lays "DogsHour" "DogsHour" "undos" "I") ∈ lw_all := lw_g (lw_at lw_m2 223 rfl) rfl
theorem q584 : (Jvm.Cond.soleField "DogsHour" "undos") ∈ lw_all := lw_g (lw_at lw_m2 224 rfl) rfl
theorem q585 : (Jvm.Cond.lays "DogsHour" "DogsHour" "undoAt" "I") ∈ lw_all := lw_g (lw_at lw_m2 225 rfl) rfl
theorem q586 : (Jvm.Cond.soleField "DogsHour" "undoAt") ∈ lw_all := lw_g (lw_at lw_m2 226 rfl) rfl
theorem q587 : (Jvm.Cond.laysFinal "DogsHour" "DogsHour" "town" "LDogsHour$Town;") ∈ lw_all := lw_g (lw_at lw_m2 227 rfl) rfl
theorem q588 : (Jvm.Cond.soleField "DogsHour" "town") ∈ lw_all := lw_g (lw_at lw_m2 228 rfl) rfl
theorem q589 : (Jvm.Cond.laysFinal "DogsHour" "DogsHour" "trial" "LDogsHour$Town;") ∈ lw_all := lw_g (lw_at lw_m2 229 rfl) rfl
theorem q590 : (Jvm.Cond.soleField "DogsHour" "trial") ∈ lw_all := lw_g (lw_at lw_m2 230 rfl) rfl
theorem q591 : (Jvm.Cond.laysFinal "DogsHour" "DogsHour" "past" "[LDogsHour$Town;") ∈ lw_all := lw_g (lw_at lw_m2 231 rfl) rfl
theorem q592 : (Jvm.Cond.soleField "DogsHour" "past") ∈ lw_all := lw_g (lw_at lw_m2 232 rfl) rfl
theorem q593 : (Jvm.Cond.laysFinal "DogsHour" "DogsHour" "slots" "[LDogsHour$Town;") ∈ lw_all := lw_g (lw_at lw_m2 233 rfl) rfl
theorem q594 : (Jvm.Cond.soleField "DogsHour" "slots") ∈ lw_all := lw_g (lw_at lw_m2 234 rfl) rfl
theorem q595 : (Jvm.Cond.laysFinal "DogsHour" "DogsHour" "times" "[LDogsHour$Time;") ∈ lw_all := lw_g (lw_at lw_m2 235 rfl) rfl
theorem q596 : (Jvm.Cond.soleField "DogsHour" "times") ∈ lw_all := lw_g (lw_at lw_m2 236 rfl) rfl
theorem q597 : (Jvm.Cond.laysFinal "DogsHour" "DogsHour" "held" "[Z") ∈ lw_all := lw_g (lw_at lw_m2 237 rfl) rfl
theorem q598 : (Jvm.Cond.soleField "DogsHour" "held") ∈ lw_all := lw_g (lw_at lw_m2 238 rfl) rfl
theorem q599 : (Jvm.Cond.laysFinal "DogsHour" "DogsHour" "steps" "[[I") ∈ lw_all := lw_g (lw_at lw_m2 239 rfl) rfl
theorem q600 : (Jvm.Cond.soleField "DogsHour" "steps") ∈ lw_all := lw_g (lw_at lw_m3 0 rfl) rfl
theorem q601 : (Jvm.Cond.lays "DogsHour" "DogsHour" "tolds" "I") ∈ lw_all := lw_g (lw_at lw_m3 1 rfl) rfl
theorem q602 : (Jvm.Cond.soleField "DogsHour" "tolds") ∈ lw_all := lw_g (lw_at lw_m3 2 rfl) rfl
theorem q603 : (Jvm.Cond.laysFinal "DogsHour" "DogsHour" "toldPerson" "[I") ∈ lw_all := lw_g (lw_at lw_m3 3 rfl) rfl
theorem q604 : (Jvm.Cond.soleField "DogsHour" "toldPerson") ∈ lw_all := lw_g (lw_at lw_m3 4 rfl) rfl
theorem q605 : (Jvm.Cond.laysFinal "DogsHour" "DogsHour" "toldWas" "[Z") ∈ lw_all := lw_g (lw_at lw_m3 5 rfl) rfl
theorem q606 : (Jvm.Cond.soleField "DogsHour" "toldWas") ∈ lw_all := lw_g (lw_at lw_m3 6 rfl) rfl
theorem q607 : (Jvm.Cond.laysFinal "DogsHour" "DogsHour" "fetchedBy" "[I") ∈ lw_all := lw_g (lw_at lw_m3 7 rfl) rfl
theorem q608 : (Jvm.Cond.soleField "DogsHour" "fetchedBy") ∈ lw_all := lw_g (lw_at lw_m3 8 rfl) rfl
theorem q609 : (Jvm.Cond.superclass "DogsHour" "java/lang/Object") ∈ lw_all := lw_g (lw_at lw_m3 9 rfl) rfl
theorem q612 : (Jvm.Cond.instanceMethod ({ cls := "DogsHour", name := "feed", desc := "(IIIII)I" } : Jvm.MethodName)) ∈ lw_all := lw_g (lw_at lw_m3 12 rfl) rfl
theorem q613 : (Jvm.Cond.selects "DogsHour" ({ cls := "DogsHour", name := "feed", desc := "(IIIII)I" } : Jvm.MethodName) ({ cls := "DogsHour", name := "feed", desc := "(IIIII)I" } : Jvm.MethodName)) ∈ lw_all := lw_g (lw_at lw_m3 13 rfl) rfl
theorem q614 : (Jvm.Cond.code ({ cls := "DogsHour", name := "feed", desc := "(IIIII)I" } : Jvm.MethodName) prog_1_method_3_code (6 : Nat) (Option.some Jvm.ClassFile.FieldType.int)) ∈ lw_all := lw_g (lw_at lw_m3 14 rfl) rfl
theorem q615 : (Jvm.Cond.methodLink "DogsHour" (107 : Nat) ({ cls := "DogsHour", name := "typed", desc := "(I)V" } : Jvm.MethodName)) ∈ lw_all := lw_g (lw_at lw_m3 15 rfl) rfl
theorem q616 : (Jvm.Cond.privateMethod ({ cls := "DogsHour", name := "typed", desc := "(I)V" } : Jvm.MethodName)) ∈ lw_tbl := lw_at lw_m3 16 rfl
theorem q617 : (Jvm.Cond.instanceMethod ({ cls := "DogsHour", name := "typed", desc := "(I)V" } : Jvm.MethodName)) ∈ lw_all := lw_g (lw_at lw_m3 17 rfl) rfl
theorem q618 : (Jvm.Cond.code ({ cls := "DogsHour", name := "typed", desc := "(I)V" } : Jvm.MethodName) prog_1_method_4_code (3 : Nat) (Option.none : Option Jvm.ClassFile.FieldType)) ∈ lw_all := lw_g (lw_at lw_m3 18 rfl) rfl
theorem q620 : (Jvm.Cond.instanceMethod ({ cls := "DogsHour", name := "back", desc := "(I)I" } : Jvm.MethodName)) ∈ lw_all := lw_g (lw_at lw_m3 20 rfl) rfl
theorem q621 : (Jvm.Cond.selects "DogsHour" ({ cls := "DogsHour", name := "back", desc := "(I)I" } : Jvm.MethodName) ({ cls := "DogsHour", name := "back", desc := "(I)I" } : Jvm.MethodName)) ∈ lw_all := lw_g (lw_at lw_m3 21 rfl) rfl
theorem q622 : (Jvm.Cond.code ({ cls := "DogsHour", name := "back", desc := "(I)I" } : Jvm.MethodName) prog_1_method_5_code (2 : Nat) (Option.some Jvm.ClassFile.FieldType.int)) ∈ lw_all := lw_g (lw_at lw_m3 22 rfl) rfl
theorem q624 : (Jvm.Cond.instanceMethod ({ cls := "DogsHour", name := "read", desc := "()I" } : Jvm.MethodName)) ∈ lw_all := lw_g (lw_at lw_m3 24 rfl) rfl
theorem q625 : (Jvm.Cond.selects "DogsHour" ({ cls := "DogsHour", name := "read", desc := "()I" } : Jvm.MethodName) ({ cls := "DogsHour", name := "read", desc := "()I" } : Jvm.MethodName)) ∈ lw_all := lw_g (lw_at lw_m3 25 rfl) rfl
theorem q626 : (Jvm.Cond.codeWith ({ cls := "DogsHour", name := "read", desc := "()I" } : Jvm.MethodName) prog_1_method_6_code (3 : Nat) (Option.some Jvm.ClassFile.FieldType.int) [((7 : Nat), (59 : Nat), (62 : Nat), (16 : Nat))]) ∈ lw_all := lw_g (lw_at lw_m3 26 rfl) rfl
theorem q627 : (Jvm.Cond.methodLink "DogsHour" (115 : Nat) ({ cls := "DogsHour$Parser", name := "read", desc := "()LDogsHour$Text;" } : Jvm.MethodName)) ∈ lw_all := lw_g (lw_at lw_m3 27 rfl) rfl
theorem q1042 : (Jvm.Cond.fieldLink "DogsHour" (169 : Nat) "DogsHour$Spot" "next" "I") ∈ lw_all := lw_g (lw_at lw_m4 202 rfl) rfl
theorem q1074 : (Jvm.Cond.selects "DogsHour" ({ cls := "java/lang/Object", name := "getClass", desc := "()Ljava/lang/Class;" } : Jvm.MethodName) ({ cls := "java/lang/Object", name := "getClass", desc := "()Ljava/lang/Class;" } : Jvm.MethodName)) ∈ lw_all := lw_g (lw_at lw_m4 234 rfl) rfl
theorem q1126 : (Jvm.Cond.fieldLink "DogsHour" (192 : Nat) "DogsHour$Dog" "kennel" "I") ∈ lw_all := lw_g (lw_at lw_m5 46 rfl) rfl
theorem q1129 : (Jvm.Cond.fieldLink "DogsHour" (195 : Nat) "DogsHour$Dog" "bite" "I") ∈ lw_all := lw_g (lw_at lw_m5 49 rfl) rfl
theorem q1132 : (Jvm.Cond.fieldLink "DogsHour" (198 : Nat) "DogsHour$Dog" "hunger" "I") ∈ lw_all := lw_g (lw_at lw_m5 52 rfl) rfl
theorem q1153 : (Jvm.Cond.fieldLink "DogsHour" (215 : Nat) "DogsHour$Person" "home" "I") ∈ lw_all := lw_g (lw_at lw_m5 73 rfl) rfl
theorem q1178 : (Jvm.Cond.instanceMethod ({ cls := "DogsHour", name := "place", desc := "()I" } : Jvm.MethodName)) ∈ lw_all := lw_g (lw_at lw_m5 98 rfl) rfl
theorem q1179 : (Jvm.Cond.selects "DogsHour" ({ cls := "DogsHour", name := "place", desc := "()I" } : Jvm.MethodName) ({ cls := "DogsHour", name := "place", desc := "()I" } : Jvm.MethodName)) ∈ lw_all := lw_g (lw_at lw_m5 99 rfl) rfl
theorem q1180 : (Jvm.Cond.code ({ cls := "DogsHour", name := "place", desc := "()I" } : Jvm.MethodName) prog_1_method_7_code (1 : Nat) (Option.some Jvm.ClassFile.FieldType.int)) ∈ lw_all := lw_g (lw_at lw_m5 100 rfl) rfl
theorem q1182 : (Jvm.Cond.instanceMethod ({ cls := "DogsHour", name := "spot", desc := "(II)I" } : Jvm.MethodName)) ∈ lw_all := lw_g (lw_at lw_m5 102 rfl) rfl
theorem q1183 : (Jvm.Cond.selects "DogsHour" ({ cls := "DogsHour", name := "spot", desc := "(II)I" } : Jvm.MethodName) ({ cls := "DogsHour", name := "spot", desc := "(II)I" } : Jvm.MethodName)) ∈ lw_all := lw_g (lw_at lw_m5 103 rfl) rfl
theorem q1184 : (Jvm.Cond.code ({ cls := "DogsHour", name := "spot", desc := "(II)I" } : Jvm.MethodName) prog_1_method_17_code (5 : Nat) (Option.some Jvm.ClassFile.FieldType.int)) ∈ lw_all := lw_g (lw_at lw_m5 104 rfl) rfl
theorem q1185 : (Jvm.Cond.methodLink "DogsHour" (159 : Nat) ({ cls := "DogsHour", name := "isPlace", desc := "(I)Z" } : Jvm.MethodName)) ∈ lw_all := lw_g (lw_at lw_m5 105 rfl) rfl
theorem q1186 : (Jvm.Cond.privateMethod ({ cls := "DogsHour", name := "isPlace", desc := "(I)Z" } : Jvm.MethodName)) ∈ lw_tbl := lw_at lw_m5 106 rfl
theorem q1187 : (Jvm.Cond.instanceMethod ({ cls := "DogsHour", name := "isPlace", desc := "(I)Z" } : Jvm.MethodName)) ∈ lw_all := lw_g (lw_at lw_m5 107 rfl) rfl
theorem q1188 : (Jvm.Cond.code ({ cls := "DogsHour", name := "isPlace", desc := "(I)Z" } : Jvm.MethodName) prog_1_method_12_code (2 : Nat) (Option.some Jvm.ClassFile.FieldType.boolean)) ∈ lw_all := lw_g (lw_at lw_m5 108 rfl) rfl
theorem q1189 : (Jvm.Cond.methodLink "DogsHour" (145 : Nat) ({ cls := "DogsHour", name := "places", desc := "()I" } : Jvm.MethodName)) ∈ lw_all := lw_g (lw_at lw_m5 109 rfl) rfl
theorem q1190 : (Jvm.Cond.privateMethod ({ cls := "DogsHour", name := "places", desc := "()I" } : Jvm.MethodName)) ∈ lw_tbl := lw_at lw_m5 110 rfl
theorem q1191 : (Jvm.Cond.instanceMethod ({ cls := "DogsHour", name := "places", desc := "()I" } : Jvm.MethodName)) ∈ lw_all := lw_g (lw_at lw_m5 111 rfl) rfl
theorem q1192 : (Jvm.Cond.code ({ cls := "DogsHour", name := "places", desc := "()I" } : Jvm.MethodName) prog_1_method_9_code (1 : Nat) (Option.some Jvm.ClassFile.FieldType.int)) ∈ lw_all := lw_g (lw_at lw_m5 112 rfl) rfl
theorem q1193 : (Jvm.Cond.methodLink "DogsHour" (133 : Nat) ({ cls := "java/util/ArrayList", name := "size", desc := "()I" } : Jvm.MethodName)) ∈ lw_all := lw_g (lw_at lw_m5 113 rfl) rfl
theorem q1194 : (Jvm.Cond.methodLink "DogsHour" (148 : Nat) ({ cls := "DogsHour", name := "isIn", desc := "(III)Z" } : Jvm.MethodName)) ∈ lw_all := lw_g (lw_at lw_m5 114 rfl) rfl
theorem q1195 : (Jvm.Cond.static ({ cls := "DogsHour", name := "isIn", desc := "(III)Z" } : Jvm.MethodName)) ∈ lw_all := lw_g (lw_at lw_m5 115 rfl) rfl
theorem q1196 : (Jvm.Cond.code ({ cls := "DogsHour", name := "isIn", desc := "(III)Z" } : Jvm.MethodName) prog_1_method_8_code (3 : Nat) (Option.some Jvm.ClassFile.FieldType.boolean)) ∈ lw_all := lw_g (lw_at lw_m5 116 rfl) rfl
theorem q1197 : (Jvm.Cond.methodLink "DogsHour" (163 : Nat) ({ cls := "java/util/ArrayList", name := "get", desc := "(I)Ljava/lang/Object;" } : Jvm.MethodName)) ∈ lw_all := lw_g (lw_at lw_m5 117 rfl) rfl
theorem q1198 : (Jvm.Cond.classLink "DogsHour" (167 : Nat) "DogsHour$Spot") ∈ lw_all := lw_g (lw_at lw_m5 118 rfl) rfl
theorem q1199 : (Jvm.Cond.methodLink "DogsHour" (152 : Nat) ({ cls := "DogsHour", name := "dogs", desc := "()I" } : Jvm.MethodName)) ∈ lw_all := lw_g (lw_at lw_m5 119 rfl) rfl
theorem q1200 : (Jvm.Cond.privateMethod ({ cls := "DogsHour", name := "dogs", desc := "()I" } : Jvm.MethodName)) ∈ lw_tbl := lw_at lw_m5 120 rfl
theorem q1201 : (Jvm.Cond.instanceMethod ({ cls := "DogsHour", name := "dogs", desc := "()I" } : Jvm.MethodName)) ∈ lw_all := lw_g (lw_at lw_m5 121 rfl) rfl
theorem q1202 : (Jvm.Cond.code ({ cls := "DogsHour", name := "dogs", desc := "()I" } : Jvm.MethodName) prog_1_method_10_code (1 : Nat) (Option.some Jvm.ClassFile.FieldType.int)) ∈ lw_all := lw_g (lw_at lw_m5 122 rfl) rfl
theorem q1203 : (Jvm.Cond.methodLink "DogsHour" (154 : Nat) ({ cls := "DogsHour", name := "people", desc := "()I" } : Jvm.MethodName)) ∈ lw_all := lw_g (lw_at lw_m5 123 rfl) rfl
theorem q1204 : (Jvm.Cond.privateMethod ({ cls := "DogsHour", name := "people", desc := "()I" } : Jvm.MethodName)) ∈ lw_tbl := lw_at lw_m5 124 rfl
theorem q1205 : (Jvm.Cond.instanceMethod ({ cls := "DogsHour", name := "people", desc := "()I" } : Jvm.MethodName)) ∈ lw_all := lw_g (lw_at lw_m5 125 rfl) rfl
theorem q1206 : (Jvm.Cond.code ({ cls := "DogsHour", name := "people", desc := "()I" } : Jvm.MethodName) prog_1_method_11_code (1 : Nat) (Option.some Jvm.ClassFile.FieldType.int)) ∈ lw_all := lw_g (lw_at lw_m5 126 rfl) rfl
theorem q1207 : (Jvm.Cond.methodLink "DogsHour" (184 : Nat) ({ cls := "DogsHour", name := "isDone", desc := "(I)Z" } : Jvm.MethodName)) ∈ lw_all := lw_g (lw_at lw_m5 127 rfl) rfl
theorem q1208 : (Jvm.Cond.privateMethod ({ cls := "DogsHour", name := "isDone", desc := "(I)Z" } : Jvm.MethodName)) ∈ lw_tbl := lw_at lw_m5 128 rfl
theorem q1209 : (Jvm.Cond.instanceMethod ({ cls := "DogsHour", name := "isDone", desc := "(I)Z" } : Jvm.MethodName)) ∈ lw_all := lw_g (lw_at lw_m5 129 rfl) rfl
theorem q1210 : (Jvm.Cond.code ({ cls := "DogsHour", name := "isDone", desc := "(I)Z" } : Jvm.MethodName) prog_1_method_16_code (2 : Nat) (Option.some Jvm.ClassFile.FieldType.boolean)) ∈ lw_all := lw_g (lw_at lw_m5 130 rfl) rfl
theorem q1212 : (Jvm.Cond.instanceMethod ({ cls := "DogsHour", name := "dog", desc := "(II)I" } : Jvm.MethodName)) ∈ lw_all := lw_g (lw_at lw_m5 132 rfl) rfl
theorem q1213 : (Jvm.Cond.selects "DogsHour" ({ cls := "DogsHour", name := "dog", desc := "(II)I" } : Jvm.MethodName) ({ cls := "DogsHour", name := "dog", desc := "(II)I" } : Jvm.MethodName)) ∈ lw_all := lw_g (lw_at lw_m5 133 rfl) rfl
theorem q1214 : (Jvm.Cond.code ({ cls := "DogsHour", name := "dog", desc := "(II)I" } : Jvm.MethodName) prog_1_method_18_code (4 : Nat) (Option.some Jvm.ClassFile.FieldType.int)) ∈ lw_all := lw_g (lw_at lw_m5 134 rfl) rfl
theorem q1215 : (Jvm.Cond.methodLink "DogsHour" (187 : Nat) ({ cls := "DogsHour", name := "isDog", desc := "(I)Z" } : Jvm.MethodName)) ∈ lw_all := lw_g (lw_at lw_m5 135 rfl) rfl
theorem q1216 : (Jvm.Cond.privateMethod ({ cls := "DogsHour", name := "isDog", desc := "(I)Z" } : Jvm.MethodName)) ∈ lw_tbl := lw_at lw_m5 136 rfl
theorem q1217 : (Jvm.Cond.instanceMethod ({ cls := "DogsHour", name := "isDog", desc := "(I)Z" } : Jvm.MethodName)) ∈ lw_all := lw_g (lw_at lw_m5 137 rfl) rfl
theorem q1218 : (Jvm.Cond.code ({ cls := "DogsHour", name := "isDog", desc := "(I)Z" } : Jvm.MethodName) prog_1_method_13_code (2 : Nat) (Option.some Jvm.ClassFile.FieldType.boolean)) ∈ lw_all := lw_g (lw_at lw_m5 138 rfl) rfl
theorem q1219 : (Jvm.Cond.classLink "DogsHour" (190 : Nat) "DogsHour$Dog") ∈ lw_all := lw_g (lw_at lw_m5 139 rfl) rfl
theorem q1221 : (Jvm.Cond.instanceMethod ({ cls := "DogsHour", name := "person", desc := "(II)I" } : Jvm.MethodName)) ∈ lw_all := lw_g (lw_at lw_m5 141 rfl) rfl
theorem q1222 : (Jvm.Cond.selects "DogsHour" ({ cls := "DogsHour", name := "person", desc := "(II)I" } : Jvm.MethodName) ({ cls := "DogsHour", name := "person", desc := "(II)I" } : Jvm.MethodName)) ∈ lw_all := lw_g (lw_at lw_m5 142 rfl) rfl
theorem q1223 : (Jvm.Cond.code ({ cls := "DogsHour", name := "person", desc := "(II)I" } : Jvm.MethodName) prog_1_method_20_code (3 : Nat) (Option.some Jvm.ClassFile.FieldType.int)) ∈ lw_all := lw_g (lw_at lw_m5 143 rfl) rfl
theorem q1224 : (Jvm.Cond.methodLink "DogsHour" (210 : Nat) ({ cls := "DogsHour", name := "isPerson", desc := "(I)Z" } : Jvm.MethodName)) ∈ lw_all := lw_g (lw_at lw_m5 144 rfl) rfl
theorem q1225 : (Jvm.Cond.privateMethod ({ cls := "DogsHour", name := "isPerson", desc := "(I)Z" } : Jvm.MethodName)) ∈ lw_tbl := lw_at lw_m5 145 rfl
theorem q1226 : (Jvm.Cond.instanceMethod ({ cls := "DogsHour", name := "isPerson", desc := "(I)Z" } : Jvm.MethodName)) ∈ lw_all := lw_g (lw_at lw_m5 146 rfl) rfl
theorem q1227 : (Jvm.Cond.code ({ cls := "DogsHour", name := "isPerson", desc := "(I)Z" } : Jvm.MethodName) prog_1_method_14_code (2 : Nat) (Option.some Jvm.ClassFile.FieldType.boolean)) ∈ lw_all := lw_g (lw_at lw_m5 147 rfl) rfl
theorem q1228 : (Jvm.Cond.classLink "DogsHour" (213 : Nat) "DogsHour$Person") ∈ lw_all := lw_g (lw_at lw_m5 148 rfl) rfl
theorem q1229 : (Jvm.Cond.methodLink "DogsHour" (224 : Nat) ({ cls := "DogsHour$Town", name := "isFetched", desc := "(I)Z" } : Jvm.MethodName)) ∈ lw_all := lw_g (lw_at lw_m5 149 rfl) rfl
theorem q1233 : (Jvm.Cond.methodLink "DogsHour" (227 : Nat) ({ cls := "DogsHour", name := "leftOf", desc := "(LDogsHour$Town;I)I" } : Jvm.MethodName)) ∈ lw_all := lw_g (lw_at lw_m5 153 rfl) rfl
theorem q1234 : (Jvm.Cond.privateMethod ({ cls := "DogsHour", name := "leftOf", desc := "(LDogsHour$Town;I)I" } : Jvm.MethodName)) ∈ lw_tbl := lw_at lw_m5 154 rfl
theorem q1235 : (Jvm.Cond.instanceMethod ({ cls := "DogsHour", name := "leftOf", desc := "(LDogsHour$Town;I)I" } : Jvm.MethodName)) ∈ lw_all := lw_g (lw_at lw_m5 155 rfl) rfl
theorem q1236 : (Jvm.Cond.code ({ cls := "DogsHour", name := "leftOf", desc := "(LDogsHour$Town;I)I" } : Jvm.MethodName) prog_1_method_19_code (5 : Nat) (Option.some Jvm.ClassFile.FieldType.int)) ∈ lw_all := lw_g (lw_at lw_m5 156 rfl) rfl
theorem q1238 : (Jvm.Cond.instanceMethod ({ cls := "DogsHour", name := "mind", desc := "(III)I" } : Jvm.MethodName)) ∈ lw_all := lw_g (lw_at lw_m5 158 rfl) rfl
theorem q1239 : (Jvm.Cond.selects "DogsHour" ({ cls := "DogsHour", name := "mind", desc := "(III)I" } : Jvm.MethodName) ({ cls := "DogsHour", name := "mind", desc := "(III)I" } : Jvm.MethodName)) ∈ lw_all := lw_g (lw_at lw_m5 159 rfl) rfl
theorem q1240 : (Jvm.Cond.code ({ cls := "DogsHour", name := "mind", desc := "(III)I" } : Jvm.MethodName) prog_1_method_21_code (4 : Nat) (Option.some Jvm.ClassFile.FieldType.int)) ∈ lw_all := lw_g (lw_at lw_m5 160 rfl) rfl
theorem q1241 : (Jvm.Cond.constant "DogsHour" (234 : Nat) (-100000 : Int32)) ∈ lw_all := lw_g (lw_at lw_m5 161 rfl) rfl
theorem q1242 : (Jvm.Cond.methodLink "DogsHour" (241 : Nat) ({ cls := "DogsHour$Town", name := "wants", desc := "(LDogsHour$Text;II)I" } : Jvm.MethodName)) ∈ lw_all := lw_g (lw_at lw_m5 162 rfl) rfl
theorem q1272 : (Jvm.Cond.methodLink "DogsHour" (245 : Nat) ({ cls := "DogsHour$Town", name := "takesOf", desc := "(LDogsHour$Text;II)I" } : Jvm.MethodName)) ∈ lw_all := lw_g (lw_at lw_m5 192 rfl) rfl
theorem q1277 : (Jvm.Cond.static ({ cls := "DogsHour", name := "within", desc := "(III)I" } : Jvm.MethodName)) ∈ lw_all := lw_g (lw_at lw_m5 197 rfl) rfl
theorem q1278 : (Jvm.Cond.code ({ cls := "DogsHour", name := "within", desc := "(III)I" } : Jvm.MethodName) prog_1_method_1_code (3 : Nat) (Option.some Jvm.ClassFile.FieldType.int)) ∈ lw_all := lw_g (lw_at lw_m5 198 rfl) rfl
theorem q1279 : (Jvm.Cond.methodLink "DogsHour" (1 : Nat) ({ cls := "java/lang/Math", name := "min", desc := "(II)I" } : Jvm.MethodName)) ∈ lw_all := lw_g (lw_at lw_m5 199 rfl) rfl
theorem q1280 : (Jvm.Cond.methodLink "DogsHour" (7 : Nat) ({ cls := "java/lang/Math", name := "max", desc := "(II)I" } : Jvm.MethodName)) ∈ lw_all := lw_g (lw_at lw_m5 200 rfl) rfl
theorem q1281 : (Jvm.Cond.methodLink "DogsHour" (248 : Nat) ({ cls := "DogsHour$Town", name := "fades", desc := "(LDogsHour$Text;II)I" } : Jvm.MethodName)) ∈ lw_all := lw_g (lw_at lw_m5 201 rfl) rfl
theorem q1286 : (Jvm.Cond.instanceMethod ({ cls := "DogsHour", name := "go", desc := "(II)Z" } : Jvm.MethodName)) ∈ lw_all := lw_g (lw_at lw_m5 206 rfl) rfl
theorem q1287 : (Jvm.Cond.selects "DogsHour" ({ cls := "DogsHour", name := "go", desc := "(II)Z" } : Jvm.MethodName) ({ cls := "DogsHour", name := "go", desc := "(II)Z" } : Jvm.MethodName)) ∈ lw_all := lw_g (lw_at lw_m5 207 rfl) rfl
theorem q1288 : (Jvm.Cond.code ({ cls := "DogsHour", name := "go", desc := "(II)Z" } : Jvm.MethodName) prog_1_method_23_code (4 : Nat) (Option.some Jvm.ClassFile.FieldType.boolean)) ∈ lw_all := lw_g (lw_at lw_m5 208 rfl) rfl
theorem q1289 : (Jvm.Cond.methodLink "DogsHour" (258 : Nat) ({ cls := "DogsHour", name := "keeps", desc := "()V" } : Jvm.MethodName)) ∈ lw_all := lw_g (lw_at lw_m5 209 rfl) rfl
theorem q1290 : (Jvm.Cond.privateMethod ({ cls := "DogsHour", name := "keeps", desc := "()V" } : Jvm.MethodName)) ∈ lw_tbl := lw_at lw_m5 210 rfl
theorem q1291 : (Jvm.Cond.instanceMethod ({ cls := "DogsHour", name := "keeps", desc := "()V" } : Jvm.MethodName)) ∈ lw_all := lw_g (lw_at lw_m5 211 rfl) rfl
theorem q1292 : (Jvm.Cond.code ({ cls := "DogsHour", name := "keeps", desc := "()V" } : Jvm.MethodName) prog_1_method_22_code (1 : Nat) (Option.none : Option Jvm.ClassFile.FieldType)) ∈ lw_all := lw_g (lw_at lw_m5 212 rfl) rfl
theorem q1293 : (Jvm.Cond.methodLink "DogsHour" (254 : Nat) ({ cls := "DogsHour$Town", name := "takes", desc := "(LDogsHour$Town;)V" } : Jvm.MethodName)) ∈ lw_all := lw_g (lw_at lw_m5 213 rfl) rfl
theorem q1302 : (Jvm.Cond.instanceMethod ({ cls := "DogsHour", name := "give", desc := "(III)I" } : Jvm.MethodName)) ∈ lw_all := lw_g (lw_at lw_m5 222 rfl) rfl
theorem q1303 : (Jvm.Cond.selects "DogsHour" ({ cls := "DogsHour", name := "give", desc := "(III)I" } : Jvm.MethodName) ({ cls := "DogsHour", name := "give", desc := "(III)I" } : Jvm.MethodName)) ∈ lw_all := lw_g (lw_at lw_m5 223 rfl) rfl
theorem q1304 : (Jvm.Cond.code ({ cls := "DogsHour", name := "give", desc := "(III)I" } : Jvm.MethodName) prog_1_method_25_code (4 : Nat) (Option.some Jvm.ClassFile.FieldType.int)) ∈ lw_all := lw_g (lw_at lw_m5 224 rfl) rfl
theorem q1305 : (Jvm.Cond.methodLink "DogsHour" (261 : Nat) ({ cls := "DogsHour", name := "areTogether", desc := "(II)Z" } : Jvm.MethodName)) ∈ lw_all := lw_g (lw_at lw_m5 225 rfl) rfl
theorem q1306 : (Jvm.Cond.privateMethod ({ cls := "DogsHour", name := "areTogether", desc := "(II)Z" } : Jvm.MethodName)) ∈ lw_tbl := lw_at lw_m5 226 rfl
theorem q1307 : (Jvm.Cond.instanceMethod ({ cls := "DogsHour", name := "areTogether", desc := "(II)Z" } : Jvm.MethodName)) ∈ lw_all := lw_g (lw_at lw_m5 227 rfl) rfl
theorem q1308 : (Jvm.Cond.code ({ cls := "DogsHour", name := "areTogether", desc := "(II)Z" } : Jvm.MethodName) prog_1_method_24_code (3 : Nat) (Option.some Jvm.ClassFile.FieldType.boolean)) ∈ lw_all := lw_g (lw_at lw_m5 228 rfl) rfl
theorem q1310 : (Jvm.Cond.instanceMethod ({ cls := "DogsHour", name := "kick", desc := "(II)I" } : Jvm.MethodName)) ∈ lw_all := lw_g (lw_at lw_m5 230 rfl) rfl
theorem q1311 : (Jvm.Cond.selects "DogsHour" ({ cls := "DogsHour", name := "kick", desc := "(II)I" } : Jvm.MethodName) ({ cls := "DogsHour", name := "kick", desc := "(II)I" } : Jvm.MethodName)) ∈ lw_all := lw_g (lw_at lw_m5 231 rfl) rfl
theorem q1312 : (Jvm.Cond.code ({ cls := "DogsHour", name := "kick", desc := "(II)I" } : Jvm.MethodName) prog_1_method_26_code (3 : Nat) (Option.some Jvm.ClassFile.FieldType.int)) ∈ lw_all := lw_g (lw_at lw_m5 232 rfl) rfl
theorem q1314 : (Jvm.Cond.instanceMethod ({ cls := "DogsHour", name := "minutes", desc := "(I)I" } : Jvm.MethodName)) ∈ lw_all := lw_g (lw_at lw_m5 234 rfl) rfl
theorem q1315 : (Jvm.Cond.selects "DogsHour" ({ cls := "DogsHour", name := "minutes", desc := "(I)I" } : Jvm.MethodName) ({ cls := "DogsHour", name := "minutes", desc := "(I)I" } : Jvm.MethodName)) ∈ lw_all := lw_g (lw_at lw_m5 235 rfl) rfl
theorem q1316 : (Jvm.Cond.code ({ cls := "DogsHour", name := "minutes", desc := "(I)I" } : Jvm.MethodName) prog_1_method_28_code (2 : Nat) (Option.some Jvm.ClassFile.FieldType.int)) ∈ lw_all := lw_g (lw_at lw_m5 236 rfl) rfl
theorem q1317 : (Jvm.Cond.methodLink "DogsHour" (269 : Nat) ({ cls := "DogsHour", name := "isAhead", desc := "(I)Z" } : Jvm.MethodName)) ∈ lw_all := lw_g (lw_at lw_m5 237 rfl) rfl
theorem q1318 : (Jvm.Cond.static ({ cls := "DogsHour", name := "isAhead", desc := "(I)Z" } : Jvm.MethodName)) ∈ lw_all := lw_g (lw_at lw_m5 238 rfl) rfl
theorem q1319 : (Jvm.Cond.code ({ cls := "DogsHour", name := "isAhead", desc := "(I)Z" } : Jvm.MethodName) prog_1_method_15_code (1 : Nat) (Option.some Jvm.ClassFile.FieldType.boolean)) ∈ lw_all := lw_g (lw_at lw_m5 239 rfl) rfl
theorem q1320 : (Jvm.Cond.methodLink "DogsHour" (272 : Nat) ({ cls := "DogsHour", name := "runs", desc := "(LDogsHour$Town;I)V" } : Jvm.MethodName)) ∈ lw_all := lw_g (lw_at lw_m6 0 rfl) rfl
theorem q1321 : (Jvm.Cond.privateMethod ({ cls := "DogsHour", name := "runs", desc := "(LDogsHour$Town;I)V" } : Jvm.MethodName)) ∈ lw_tbl := lw_at lw_m6 1 rfl
theorem q1322 : (Jvm.Cond.instanceMethod ({ cls := "DogsHour", name := "runs", desc := "(LDogsHour$Town;I)V" } : Jvm.MethodName)) ∈ lw_all := lw_g (lw_at lw_m6 2 rfl) rfl
theorem q1323 : (Jvm.Cond.code ({ cls := "DogsHour", name := "runs", desc := "(LDogsHour$Town;I)V" } : Jvm.MethodName) prog_1_method_27_code (4 : Nat) (Option.none : Option Jvm.ClassFile.FieldType)) ∈ lw_all := lw_g (lw_at lw_m6 3 rfl) rfl
theorem q1324 : (Jvm.Cond.methodLink "DogsHour" (265 : Nat) ({ cls := "DogsHour$Town", name := "goesBy", desc := "(LDogsHour$Text;[LDogsHour$Time;)V" } : Jvm.MethodName)) ∈ lw_all := lw_g (lw_at lw_m6 4 rfl) rfl
theorem q1373 : (Jvm.Cond.instanceMethod ({ cls := "DogsHour", name := "undo", desc := "()Z" } : Jvm.MethodName)) ∈ lw_all := lw_g (lw_at lw_m6 53 rfl) rfl
theorem q1374 : (Jvm.Cond.selects "DogsHour" ({ cls := "DogsHour", name := "undo", desc := "()Z" } : Jvm.MethodName) ({ cls := "DogsHour", name := "undo", desc := "()Z" } : Jvm.MethodName)) ∈ lw_all := lw_g (lw_at lw_m6 54 rfl) rfl
theorem q1375 : (Jvm.Cond.code ({ cls := "DogsHour", name := "undo", desc := "()Z" } : Jvm.MethodName) prog_1_method_29_code (1 : Nat) (Option.some Jvm.ClassFile.FieldType.boolean)) ∈ lw_all := lw_g (lw_at lw_m6 55 rfl) rfl
theorem q1377 : (Jvm.Cond.instanceMethod ({ cls := "DogsHour", name := "far", desc := "(II)I" } : Jvm.MethodName)) ∈ lw_all := lw_g (lw_at lw_m6 57 rfl) rfl
theorem q1378 : (Jvm.Cond.selects "DogsHour" ({ cls := "DogsHour", name := "far", desc := "(II)I" } : Jvm.MethodName) ({ cls := "DogsHour", name := "far", desc := "(II)I" } : Jvm.MethodName)) ∈ lw_all := lw_g (lw_at lw_m6 58 rfl) rfl
theorem q1379 : (Jvm.Cond.code ({ cls := "DogsHour", name := "far", desc := "(II)I" } : Jvm.MethodName) prog_1_method_30_code (3 : Nat) (Option.some Jvm.ClassFile.FieldType.int)) ∈ lw_all := lw_g (lw_at lw_m6 59 rfl) rfl
theorem q1380 : (Jvm.Cond.constant "DogsHour" (282 : Nat) (1000000 : Int32)) ∈ lw_all := lw_g (lw_at lw_m6 60 rfl) rfl
theorem q1382 : (Jvm.Cond.instanceMethod ({ cls := "DogsHour", name := "till", desc := "()I" } : Jvm.MethodName)) ∈ lw_all := lw_g (lw_at lw_m6 62 rfl) rfl
theorem q1383 : (Jvm.Cond.selects "DogsHour" ({ cls := "DogsHour", name := "till", desc := "()I" } : Jvm.MethodName) ({ cls := "DogsHour", name := "till", desc := "()I" } : Jvm.MethodName)) ∈ lw_all := lw_g (lw_at lw_m6 63 rfl) rfl
theorem q1384 : (Jvm.Cond.code ({ cls := "DogsHour", name := "till", desc := "()I" } : Jvm.MethodName) prog_1_method_32_code (1 : Nat) (Option.some Jvm.ClassFile.FieldType.int)) ∈ lw_all := lw_g (lw_at lw_m6 64 rfl) rfl
theorem q1385 : (Jvm.Cond.methodLink "DogsHour" (290 : Nat) ({ cls := "DogsHour", name := "tillHour", desc := "()I" } : Jvm.MethodName)) ∈ lw_all := lw_g (lw_at lw_m6 65 rfl) rfl
theorem q1386 : (Jvm.Cond.privateMethod ({ cls := "DogsHour", name := "tillHour", desc := "()I" } : Jvm.MethodName)) ∈ lw_tbl := lw_at lw_m6 66 rfl
theorem q1387 : (Jvm.Cond.instanceMethod ({ cls := "DogsHour", name := "tillHour", desc := "()I" } : Jvm.MethodName)) ∈ lw_all := lw_g (lw_at lw_m6 67 rfl) rfl
theorem q1388 : (Jvm.Cond.code ({ cls := "DogsHour", name := "tillHour", desc := "()I" } : Jvm.MethodName) prog_1_method_31_code (2 : Nat) (Option.some Jvm.ClassFile.FieldType.int)) ∈ lw_all := lw_g (lw_at lw_m6 68 rfl) rfl
theorem q1389 : (Jvm.Cond.methodLink "DogsHour" (286 : Nat) ({ cls := "DogsHour$Town", name := "minute", desc := "(LDogsHour$Text;)I" } : Jvm.MethodName)) ∈ lw_all := lw_g (lw_at lw_m6 69 rfl) rfl
theorem q1391 : (Jvm.Cond.instanceMethod ({ cls := "DogsHour", name := "round", desc := "(II)I" } : Jvm.MethodName)) ∈ lw_all := lw_g (lw_at lw_m6 71 rfl) rfl
theorem q1392 : (Jvm.Cond.selects "DogsHour" ({ cls := "DogsHour", name := "round", desc := "(II)I" } : Jvm.MethodName) ({ cls := "DogsHour", name := "round", desc := "(II)I" } : Jvm.MethodName)) ∈ lw_all := lw_g (lw_at lw_m6 72 rfl) rfl
theorem q1393 : (Jvm.Cond.code ({ cls := "DogsHour", name := "round", desc := "(II)I" } : Jvm.MethodName) prog_1_method_35_code (4 : Nat) (Option.some Jvm.ClassFile.FieldType.int)) ∈ lw_all := lw_g (lw_at lw_m6 73 rfl) rfl
theorem q1394 : (Jvm.Cond.methodLink "DogsHour" (293 : Nat) ({ cls := "DogsHour", name := "errandsLeft", desc := "(I)I" } : Jvm.MethodName)) ∈ lw_all := lw_g (lw_at lw_m6 74 rfl) rfl
theorem q1395 : (Jvm.Cond.privateMethod ({ cls := "DogsHour", name := "errandsLeft", desc := "(I)I" } : Jvm.MethodName)) ∈ lw_tbl := lw_at lw_m6 75 rfl
theorem q1396 : (Jvm.Cond.instanceMethod ({ cls := "DogsHour", name := "errandsLeft", desc := "(I)I" } : Jvm.MethodName)) ∈ lw_all := lw_g (lw_at lw_m6 76 rfl) rfl
theorem q1397 : (Jvm.Cond.code ({ cls := "DogsHour", name := "errandsLeft", desc := "(I)I" } : Jvm.MethodName) prog_1_method_34_code (4 : Nat) (Option.some Jvm.ClassFile.FieldType.int)) ∈ lw_all := lw_g (lw_at lw_m6 77 rfl) rfl
theorem q1398 : (Jvm.Cond.methodLink "DogsHour" (297 : Nat) ({ cls := "DogsHour", name := "roundOf", desc := "(III)I" } : Jvm.MethodName)) ∈ lw_all := lw_g (lw_at lw_m6 78 rfl) rfl
theorem q1399 : (Jvm.Cond.privateMethod ({ cls := "DogsHour", name := "roundOf", desc := "(III)I" } : Jvm.MethodName)) ∈ lw_tbl := lw_at lw_m6 79 rfl
theorem q1400 : (Jvm.Cond.instanceMethod ({ cls := "DogsHour", name := "roundOf", desc := "(III)I" } : Jvm.MethodName)) ∈ lw_all := lw_g (lw_at lw_m6 80 rfl) rfl
theorem q1401 : (Jvm.Cond.code ({ cls := "DogsHour", name := "roundOf", desc := "(III)I" } : Jvm.MethodName) prog_1_method_33_code (8 : Nat) (Option.some Jvm.ClassFile.FieldType.int)) ∈ lw_all := lw_g (lw_at lw_m6 81 rfl) rfl
theorem q1402 : (Jvm.Cond.methodLink "DogsHour" (301 : Nat) ({ cls := "DogsHour$Text", name := "isHour", desc := "(I)Z" } : Jvm.MethodName)) ∈ lw_all := lw_g (lw_at lw_m6 82 rfl) rfl
theorem q1404 : (Jvm.Cond.instanceMethod ({ cls := "DogsHour", name := "minds", desc := "(I)I" } : Jvm.MethodName)) ∈ lw_all := lw_g (lw_at lw_m6 84 rfl) rfl
theorem q1405 : (Jvm.Cond.selects "DogsHour" ({ cls := "DogsHour", name := "minds", desc := "(I)I" } : Jvm.MethodName) ({ cls := "DogsHour", name := "minds", desc := "(I)I" } : Jvm.MethodName)) ∈ lw_all := lw_g (lw_at lw_m6 85 rfl) rfl
theorem q1406 : (Jvm.Cond.code ({ cls := "DogsHour", name := "minds", desc := "(I)I" } : Jvm.MethodName) prog_1_method_36_code (2 : Nat) (Option.some Jvm.ClassFile.FieldType.int)) ∈ lw_all := lw_g (lw_at lw_m6 86 rfl) rfl
theorem q1407 : (Jvm.Cond.methodLink "DogsHour" (304 : Nat) ({ cls := "DogsHour$Town", name := "minds", desc := "(LDogsHour$Text;I)I" } : Jvm.MethodName)) ∈ lw_all := lw_g (lw_at lw_m6 87 rfl) rfl
theorem q1409 : (Jvm.Cond.instanceMethod ({ cls := "DogsHour", name := "feeding", desc := "(I)I" } : Jvm.MethodName)) ∈ lw_all := lw_g (lw_at lw_m6 89 rfl) rfl
theorem q1410 : (Jvm.Cond.selects "DogsHour" ({ cls := "DogsHour", name := "feeding", desc := "(I)I" } : Jvm.MethodName) ({ cls := "DogsHour", name := "feeding", desc := "(I)I" } : Jvm.MethodName)) ∈ lw_all := lw_g (lw_at lw_m6 90 rfl) rfl
theorem q1411 : (Jvm.Cond.code ({ cls := "DogsHour", name := "feeding", desc := "(I)I" } : Jvm.MethodName) prog_1_method_37_code (4 : Nat) (Option.some Jvm.ClassFile.FieldType.int)) ∈ lw_all := lw_g (lw_at lw_m6 91 rfl) rfl
theorem q1413 : (Jvm.Cond.instanceMethod ({ cls := "DogsHour", name := "held", desc := "(I)I" } : Jvm.MethodName)) ∈ lw_all := lw_g (lw_at lw_m6 93 rfl) rfl
theorem q1414 : (Jvm.Cond.selects "DogsHour" ({ cls := "DogsHour", name := "held", desc := "(I)I" } : Jvm.MethodName) ({ cls := "DogsHour", name := "held", desc := "(I)I" } : Jvm.MethodName)) ∈ lw_all := lw_g (lw_at lw_m6 94 rfl) rfl
theorem q1415 : (Jvm.Cond.code ({ cls := "DogsHour", name := "held", desc := "(I)I" } : Jvm.MethodName) prog_1_method_38_code (6 : Nat) (Option.some Jvm.ClassFile.FieldType.int)) ∈ lw_all := lw_g (lw_at lw_m6 95 rfl) rfl
theorem q1417 : (Jvm.Cond.instanceMethod ({ cls := "DogsHour", name := "grudge", desc := "(II)I" } : Jvm.MethodName)) ∈ lw_all := lw_g (lw_at lw_m6 97 rfl) rfl
theorem q1418 : (Jvm.Cond.selects "DogsHour" ({ cls := "DogsHour", name := "grudge", desc := "(II)I" } : Jvm.MethodName) ({ cls := "DogsHour", name := "grudge", desc := "(II)I" } : Jvm.MethodName)) ∈ lw_all := lw_g (lw_at lw_m6 98 rfl) rfl
theorem q1419 : (Jvm.Cond.code ({ cls := "DogsHour", name := "grudge", desc := "(II)I" } : Jvm.MethodName) prog_1_method_39_code (5 : Nat) (Option.some Jvm.ClassFile.FieldType.int)) ∈ lw_all := lw_g (lw_at lw_m6 99 rfl) rfl
theorem q1421 : (Jvm.Cond.instanceMethod ({ cls := "DogsHour", name := "share", desc := "(I)I" } : Jvm.MethodName)) ∈ lw_all := lw_g (lw_at lw_m6 101 rfl) rfl
theorem q1422 : (Jvm.Cond.selects "DogsHour" ({ cls := "DogsHour", name := "share", desc := "(I)I" } : Jvm.MethodName) ({ cls := "DogsHour", name := "share", desc := "(I)I" } : Jvm.MethodName)) ∈ lw_all := lw_g (lw_at lw_m6 102 rfl) rfl
theorem q1423 : (Jvm.Cond.code ({ cls := "DogsHour", name := "share", desc := "(I)I" } : Jvm.MethodName) prog_1_method_41_code (4 : Nat) (Option.some Jvm.ClassFile.FieldType.int)) ∈ lw_all := lw_g (lw_at lw_m6 103 rfl) rfl
theorem q1424 : (Jvm.Cond.methodLink "DogsHour" (308 : Nat) ({ cls := "DogsHour$Town", name := "dues", desc := "(LDogsHour$Text;I)I" } : Jvm.MethodName)) ∈ lw_all := lw_g (lw_at lw_m6 104 rfl) rfl
theorem q1428 : (Jvm.Cond.methodLink "DogsHour" (311 : Nat) ({ cls := "DogsHour", name := "sum", desc := "([I)I" } : Jvm.MethodName)) ∈ lw_all := lw_g (lw_at lw_m6 108 rfl) rfl
theorem q1429 : (Jvm.Cond.static ({ cls := "DogsHour", name := "sum", desc := "([I)I" } : Jvm.MethodName)) ∈ lw_all := lw_g (lw_at lw_m6 109 rfl) rfl
theorem q1430 : (Jvm.Cond.code ({ cls := "DogsHour", name := "sum", desc := "([I)I" } : Jvm.MethodName) prog_1_method_40_code (3 : Nat) (Option.some Jvm.ClassFile.FieldType.int)) ∈ lw_all := lw_g (lw_at lw_m6 110 rfl) rfl
theorem q1432 : (Jvm.Cond.instanceMethod ({ cls := "DogsHour", name := "safe", desc := "(I)I" } : Jvm.MethodName)) ∈ lw_all := lw_g (lw_at lw_m6 112 rfl) rfl
theorem q1433 : (Jvm.Cond.selects "DogsHour" ({ cls := "DogsHour", name := "safe", desc := "(I)I" } : Jvm.MethodName) ({ cls := "DogsHour", name := "safe", desc := "(I)I" } : Jvm.MethodName)) ∈ lw_all := lw_g (lw_at lw_m6 113 rfl) rfl
theorem q1434 : (Jvm.Cond.code ({ cls := "DogsHour", name := "safe", desc := "(I)I" } : Jvm.MethodName) prog_1_method_45_code (2 : Nat) (Option.some Jvm.ClassFile.FieldType.int)) ∈ lw_all := lw_g (lw_at lw_m6 114 rfl) rfl
theorem q1435 : (Jvm.Cond.methodLink "DogsHour" (334 : Nat) ({ cls := "DogsHour", name := "safeFor", desc := "(I)I" } : Jvm.MethodName)) ∈ lw_all := lw_g (lw_at lw_m6 115 rfl) rfl
theorem q1436 : (Jvm.Cond.privateMethod ({ cls := "DogsHour", name := "safeFor", desc := "(I)I" } : Jvm.MethodName)) ∈ lw_tbl := lw_at lw_m6 116 rfl
theorem q1437 : (Jvm.Cond.instanceMethod ({ cls := "DogsHour", name := "safeFor", desc := "(I)I" } : Jvm.MethodName)) ∈ lw_all := lw_g (lw_at lw_m6 117 rfl) rfl
theorem q1438 : (Jvm.Cond.code ({ cls := "DogsHour", name := "safeFor", desc := "(I)I" } : Jvm.MethodName) prog_1_method_44_code (4 : Nat) (Option.some Jvm.ClassFile.FieldType.int)) ∈ lw_all := lw_g (lw_at lw_m6 118 rfl) rfl
theorem q1439 : (Jvm.Cond.methodLink "DogsHour" (328 : Nat) ({ cls := "DogsHour", name := "nextHour", desc := "()V" } : Jvm.MethodName)) ∈ lw_all := lw_g (lw_at lw_m6 119 rfl) rfl
theorem q1440 : (Jvm.Cond.privateMethod ({ cls := "DogsHour", name := "nextHour", desc := "()V" } : Jvm.MethodName)) ∈ lw_tbl := lw_at lw_m6 120 rfl
theorem q1441 : (Jvm.Cond.instanceMethod ({ cls := "DogsHour", name := "nextHour", desc := "()V" } : Jvm.MethodName)) ∈ lw_all := lw_g (lw_at lw_m6 121 rfl) rfl
theorem q1442 : (Jvm.Cond.code ({ cls := "DogsHour", name := "nextHour", desc := "()V" } : Jvm.MethodName) prog_1_method_42_code (2 : Nat) (Option.none : Option Jvm.ClassFile.FieldType)) ∈ lw_all := lw_g (lw_at lw_m6 122 rfl) rfl
theorem q1443 : (Jvm.Cond.methodLink "DogsHour" (315 : Nat) ({ cls := "DogsHour$Town", name := "rests", desc := "(LDogsHour$Text;)V" } : Jvm.MethodName)) ∈ lw_all := lw_g (lw_at lw_m6 123 rfl) rfl
theorem q1444 : (Jvm.Cond.methodLink "DogsHour" (331 : Nat) ({ cls := "DogsHour", name := "fetchedIn", desc := "()I" } : Jvm.MethodName)) ∈ lw_all := lw_g (lw_at lw_m6 124 rfl) rfl
theorem q1445 : (Jvm.Cond.privateMethod ({ cls := "DogsHour", name := "fetchedIn", desc := "()I" } : Jvm.MethodName)) ∈ lw_tbl := lw_at lw_m6 125 rfl
theorem q1446 : (Jvm.Cond.instanceMethod ({ cls := "DogsHour", name := "fetchedIn", desc := "()I" } : Jvm.MethodName)) ∈ lw_all := lw_g (lw_at lw_m6 126 rfl) rfl
theorem q1447 : (Jvm.Cond.code ({ cls := "DogsHour", name := "fetchedIn", desc := "()I" } : Jvm.MethodName) prog_1_method_43_code (3 : Nat) (Option.some Jvm.ClassFile.FieldType.int)) ∈ lw_all := lw_g (lw_at lw_m6 127 rfl) rfl
theorem q1448 : (Jvm.Cond.methodLink "DogsHour" (321 : Nat) ({ cls := "DogsHour$Town", name := "hunts", desc := "(LDogsHour$Text;I)V" } : Jvm.MethodName)) ∈ lw_all := lw_g (lw_at lw_m6 128 rfl) rfl
theorem q1450 : (Jvm.Cond.instanceMethod ({ cls := "DogsHour", name := "refuge", desc := "(II)I" } : Jvm.MethodName)) ∈ lw_all := lw_g (lw_at lw_m6 130 rfl) rfl
theorem q1451 : (Jvm.Cond.selects "DogsHour" ({ cls := "DogsHour", name := "refuge", desc := "(II)I" } : Jvm.MethodName) ({ cls := "DogsHour", name := "refuge", desc := "(II)I" } : Jvm.MethodName)) ∈ lw_all := lw_g (lw_at lw_m6 131 rfl) rfl
theorem q1452 : (Jvm.Cond.code ({ cls := "DogsHour", name := "refuge", desc := "(II)I" } : Jvm.MethodName) prog_1_method_46_code (8 : Nat) (Option.some Jvm.ClassFile.FieldType.int)) ∈ lw_all := lw_g (lw_at lw_m6 132 rfl) rfl
theorem q1454 : (Jvm.Cond.instanceMethod ({ cls := "DogsHour", name := "loses", desc := "(I)I" } : Jvm.MethodName)) ∈ lw_all := lw_g (lw_at lw_m6 134 rfl) rfl
theorem q1455 : (Jvm.Cond.selects "DogsHour" ({ cls := "DogsHour", name := "loses", desc := "(I)I" } : Jvm.MethodName) ({ cls := "DogsHour", name := "loses", desc := "(I)I" } : Jvm.MethodName)) ∈ lw_all := lw_g (lw_at lw_m6 135 rfl) rfl
theorem q1456 : (Jvm.Cond.code ({ cls := "DogsHour", name := "loses", desc := "(I)I" } : Jvm.MethodName) prog_1_method_47_code (3 : Nat) (Option.some Jvm.ClassFile.FieldType.int)) ∈ lw_all := lw_g (lw_at lw_m6 136 rfl) rfl
theorem q1458 : (Jvm.Cond.instanceMethod ({ cls := "DogsHour", name := "fetched", desc := "()I" } : Jvm.MethodName)) ∈ lw_all := lw_g (lw_at lw_m6 138 rfl) rfl
theorem q1459 : (Jvm.Cond.selects "DogsHour" ({ cls := "DogsHour", name := "fetched", desc := "()I" } : Jvm.MethodName) ({ cls := "DogsHour", name := "fetched", desc := "()I" } : Jvm.MethodName)) ∈ lw_all := lw_g (lw_at lw_m6 139 rfl) rfl
theorem q1460 : (Jvm.Cond.code ({ cls := "DogsHour", name := "fetched", desc := "()I" } : Jvm.MethodName) prog_1_method_48_code (1 : Nat) (Option.some Jvm.ClassFile.FieldType.int)) ∈ lw_all := lw_g (lw_at lw_m6 140 rfl) rfl
theorem q1462 : (Jvm.Cond.instanceMethod ({ cls := "DogsHour", name := "then", desc := "(III)I" } : Jvm.MethodName)) ∈ lw_all := lw_g (lw_at lw_m6 142 rfl) rfl
theorem q1463 : (Jvm.Cond.selects "DogsHour" ({ cls := "DogsHour", name := "then", desc := "(III)I" } : Jvm.MethodName) ({ cls := "DogsHour", name := "then", desc := "(III)I" } : Jvm.MethodName)) ∈ lw_all := lw_g (lw_at lw_m6 143 rfl) rfl
theorem q1464 : (Jvm.Cond.code ({ cls := "DogsHour", name := "then", desc := "(III)I" } : Jvm.MethodName) prog_1_method_49_code (4 : Nat) (Option.some Jvm.ClassFile.FieldType.int)) ∈ lw_all := lw_g (lw_at lw_m6 144 rfl) rfl
theorem q1466 : (Jvm.Cond.instanceMethod ({ cls := "DogsHour", name := "dogIn", desc := "(II)I" } : Jvm.MethodName)) ∈ lw_all := lw_g (lw_at lw_m6 146 rfl) rfl
theorem q1467 : (Jvm.Cond.selects "DogsHour" ({ cls := "DogsHour", name := "dogIn", desc := "(II)I" } : Jvm.MethodName) ({ cls := "DogsHour", name := "dogIn", desc := "(II)I" } : Jvm.MethodName)) ∈ lw_all := lw_g (lw_at lw_m6 147 rfl) rfl
theorem q1468 : (Jvm.Cond.code ({ cls := "DogsHour", name := "dogIn", desc := "(II)I" } : Jvm.MethodName) prog_1_method_50_code (3 : Nat) (Option.some Jvm.ClassFile.FieldType.int)) ∈ lw_all := lw_g (lw_at lw_m6 148 rfl) rfl
theorem q1470 : (Jvm.Cond.instanceMethod ({ cls := "DogsHour", name := "first", desc := "(I)I" } : Jvm.MethodName)) ∈ lw_all := lw_g (lw_at lw_m6 150 rfl) rfl
theorem q1471 : (Jvm.Cond.selects "DogsHour" ({ cls := "DogsHour", name := "first", desc := "(I)I" } : Jvm.MethodName) ({ cls := "DogsHour", name := "first", desc := "(I)I" } : Jvm.MethodName)) ∈ lw_all := lw_g (lw_at lw_m6 151 rfl) rfl
theorem q1472 : (Jvm.Cond.code ({ cls := "DogsHour", name := "first", desc := "(I)I" } : Jvm.MethodName) prog_1_method_51_code (4 : Nat) (Option.some Jvm.ClassFile.FieldType.int)) ∈ lw_all := lw_g (lw_at lw_m6 152 rfl) rfl
theorem q1474 : (Jvm.Cond.instanceMethod ({ cls := "DogsHour", name := "tell", desc := "(IZ)I" } : Jvm.MethodName)) ∈ lw_all := lw_g (lw_at lw_m6 154 rfl) rfl
theorem q1475 : (Jvm.Cond.selects "DogsHour" ({ cls := "DogsHour", name := "tell", desc := "(IZ)I" } : Jvm.MethodName) ({ cls := "DogsHour", name := "tell", desc := "(IZ)I" } : Jvm.MethodName)) ∈ lw_all := lw_g (lw_at lw_m6 155 rfl) rfl
theorem q1476 : (Jvm.Cond.code ({ cls := "DogsHour", name := "tell", desc := "(IZ)I" } : Jvm.MethodName) prog_1_method_52_code (3 : Nat) (Option.some Jvm.ClassFile.FieldType.int)) ∈ lw_all := lw_g (lw_at lw_m6 156 rfl) rfl
theorem q1478 : (Jvm.Cond.instanceMethod ({ cls := "DogsHour", name := "forget", desc := "()I" } : Jvm.MethodName)) ∈ lw_all := lw_g (lw_at lw_m6 158 rfl) rfl
theorem q1479 : (Jvm.Cond.selects "DogsHour" ({ cls := "DogsHour", name := "forget", desc := "()I" } : Jvm.MethodName) ({ cls := "DogsHour", name := "forget", desc := "()I" } : Jvm.MethodName)) ∈ lw_all := lw_g (lw_at lw_m6 159 rfl) rfl
theorem q1480 : (Jvm.Cond.code ({ cls := "DogsHour", name := "forget", desc := "()I" } : Jvm.MethodName) prog_1_method_53_code (2 : Nat) (Option.some Jvm.ClassFile.FieldType.int)) ∈ lw_all := lw_g (lw_at lw_m6 160 rfl) rfl
theorem q1482 : (Jvm.Cond.instanceMethod ({ cls := "DogsHour", name := "kicks", desc := "(I)I" } : Jvm.MethodName)) ∈ lw_all := lw_g (lw_at lw_m6 162 rfl) rfl
theorem q1483 : (Jvm.Cond.selects "DogsHour" ({ cls := "DogsHour", name := "kicks", desc := "(I)I" } : Jvm.MethodName) ({ cls := "DogsHour", name := "kicks", desc := "(I)I" } : Jvm.MethodName)) ∈ lw_all := lw_g (lw_at lw_m6 163 rfl) rfl
theorem q1484 : (Jvm.Cond.code ({ cls := "DogsHour", name := "kicks", desc := "(I)I" } : Jvm.MethodName) prog_1_method_56_code (2 : Nat) (Option.some Jvm.ClassFile.FieldType.int)) ∈ lw_all := lw_g (lw_at lw_m6 164 rfl) rfl
theorem q1485 : (Jvm.Cond.methodLink "DogsHour" (340 : Nat) ({ cls := "DogsHour", name := "kicksBy", desc := "(I)I" } : Jvm.MethodName)) ∈ lw_all := lw_g (lw_at lw_m6 165 rfl) rfl
theorem q1486 : (Jvm.Cond.privateMethod ({ cls := "DogsHour", name := "kicksBy", desc := "(I)I" } : Jvm.MethodName)) ∈ lw_tbl := lw_at lw_m6 166 rfl
theorem q1487 : (Jvm.Cond.instanceMethod ({ cls := "DogsHour", name := "kicksBy", desc := "(I)I" } : Jvm.MethodName)) ∈ lw_all := lw_g (lw_at lw_m6 167 rfl) rfl
theorem q1488 : (Jvm.Cond.code ({ cls := "DogsHour", name := "kicksBy", desc := "(I)I" } : Jvm.MethodName) prog_1_method_55_code (6 : Nat) (Option.some Jvm.ClassFile.FieldType.int)) ∈ lw_all := lw_g (lw_at lw_m6 168 rfl) rfl
theorem q1489 : (Jvm.Cond.methodLink "DogsHour" (337 : Nat) ({ cls := "DogsHour", name := "isSo", desc := "(II)Z" } : Jvm.MethodName)) ∈ lw_all := lw_g (lw_at lw_m6 169 rfl) rfl
theorem q1490 : (Jvm.Cond.privateMethod ({ cls := "DogsHour", name := "isSo", desc := "(II)Z" } : Jvm.MethodName)) ∈ lw_tbl := lw_at lw_m6 170 rfl
theorem q1491 : (Jvm.Cond.instanceMethod ({ cls := "DogsHour", name := "isSo", desc := "(II)Z" } : Jvm.MethodName)) ∈ lw_all := lw_g (lw_at lw_m6 171 rfl) rfl
theorem q1492 : (Jvm.Cond.code ({ cls := "DogsHour", name := "isSo", desc := "(II)Z" } : Jvm.MethodName) prog_1_method_54_code (4 : Nat) (Option.some Jvm.ClassFile.FieldType.boolean)) ∈ lw_all := lw_g (lw_at lw_m6 172 rfl) rfl
theorem q1493 : (Jvm.Cond.methodLink "DogsHour" (343 : Nat) ({ cls := "java/lang/Integer", name := "bitCount", desc := "(I)I" } : Jvm.MethodName)) ∈ lw_all := lw_g (lw_at lw_m6 173 rfl) rfl
theorem q1500 : (Jvm.Cond.instanceMethod ({ cls := "DogsHour", name := "sure", desc := "(I)I" } : Jvm.MethodName)) ∈ lw_all := lw_g (lw_at lw_m6 180 rfl) rfl
theorem q1501 : (Jvm.Cond.selects "DogsHour" ({ cls := "DogsHour", name := "sure", desc := "(I)I" } : Jvm.MethodName) ({ cls := "DogsHour", name := "sure", desc := "(I)I" } : Jvm.MethodName)) ∈ lw_all := lw_g (lw_at lw_m6 181 rfl) rfl
theorem q1502 : (Jvm.Cond.code ({ cls := "DogsHour", name := "sure", desc := "(I)I" } : Jvm.MethodName) prog_1_method_57_code (4 : Nat) (Option.some Jvm.ClassFile.FieldType.int)) ∈ lw_all := lw_g (lw_at lw_m6 182 rfl) rfl
theorem q1503 : (Jvm.Cond.methodLink "DogsHour" (348 : Nat) ({ cls := "java/lang/Integer", name := "numberOfTrailingZeros", desc := "(I)I" } : Jvm.MethodName)) ∈ lw_all := lw_g (lw_at lw_m6 183 rfl) rfl
theorem q1508 : (Jvm.Cond.instanceMethod ({ cls := "DogsHour", name := "ask", desc := "(I)I" } : Jvm.MethodName)) ∈ lw_all := lw_g (lw_at lw_m6 188 rfl) rfl
theorem q1509 : (Jvm.Cond.selects "DogsHour" ({ cls := "DogsHour", name := "ask", desc := "(I)I" } : Jvm.MethodName) ({ cls := "DogsHour", name := "ask", desc := "(I)I" } : Jvm.MethodName)) ∈ lw_all := lw_g (lw_at lw_m6 189 rfl) rfl
theorem q1510 : (Jvm.Cond.code ({ cls := "DogsHour", name := "ask", desc := "(I)I" } : Jvm.MethodName) prog_1_method_58_code (8 : Nat) (Option.some Jvm.ClassFile.FieldType.int)) ∈ lw_all := lw_g (lw_at lw_m6 190 rfl) rfl
theorem q1512 : (Jvm.Cond.instanceMethod ({ cls := "DogsHour", name := "hold", desc := "(I)Z" } : Jvm.MethodName)) ∈ lw_all := lw_g (lw_at lw_m6 192 rfl) rfl
theorem q1513 : (Jvm.Cond.selects "DogsHour" ({ cls := "DogsHour", name := "hold", desc := "(I)Z" } : Jvm.MethodName) ({ cls := "DogsHour", name := "hold", desc := "(I)Z" } : Jvm.MethodName)) ∈ lw_all := lw_g (lw_at lw_m6 193 rfl) rfl
theorem q1514 : (Jvm.Cond.code ({ cls := "DogsHour", name := "hold", desc := "(I)Z" } : Jvm.MethodName) prog_1_method_59_code (2 : Nat) (Option.some Jvm.ClassFile.FieldType.boolean)) ∈ lw_all := lw_g (lw_at lw_m6 194 rfl) rfl
theorem q1516 : (Jvm.Cond.instanceMethod ({ cls := "DogsHour", name := "restore", desc := "(I)Z" } : Jvm.MethodName)) ∈ lw_all := lw_g (lw_at lw_m6 196 rfl) rfl
theorem q1517 : (Jvm.Cond.selects "DogsHour" ({ cls := "DogsHour", name := "restore", desc := "(I)Z" } : Jvm.MethodName) ({ cls := "DogsHour", name := "restore", desc := "(I)Z" } : Jvm.MethodName)) ∈ lw_all := lw_g (lw_at lw_m6 197 rfl) rfl
theorem q1518 : (Jvm.Cond.code ({ cls := "DogsHour", name := "restore", desc := "(I)Z" } : Jvm.MethodName) prog_1_method_60_code (2 : Nat) (Option.some Jvm.ClassFile.FieldType.boolean)) ∈ lw_all := lw_g (lw_at lw_m6 198 rfl) rfl
theorem q1520 : (Jvm.Cond.instanceMethod ({ cls := "DogsHour", name := "count", desc := "(I)I" } : Jvm.MethodName)) ∈ lw_all := lw_g (lw_at lw_m6 200 rfl) rfl
theorem q1521 : (Jvm.Cond.selects "DogsHour" ({ cls := "DogsHour", name := "count", desc := "(I)I" } : Jvm.MethodName) ({ cls := "DogsHour", name := "count", desc := "(I)I" } : Jvm.MethodName)) ∈ lw_all := lw_g (lw_at lw_m6 201 rfl) rfl
theorem q1522 : (Jvm.Cond.code ({ cls := "DogsHour", name := "count", desc := "(I)I" } : Jvm.MethodName) prog_1_method_61_code (4 : Nat) (Option.some Jvm.ClassFile.FieldType.int)) ∈ lw_all := lw_g (lw_at lw_m6 202 rfl) rfl
theorem q2176 : (Jvm.Cond.castable "DogsHour" "java/lang/Object") ∈ lw_tbl := lw_at lw_m9 136 rfl
theorem in_X0 : ∀ w ∈ wsX00, w ∈ lw_all := lw_in wsX00 [573, 575, 577, 579, 581, 583, 585, 587, 589, 591, 593, 595, 597, 599, 601, 603, 605, 607] (by decide +kernel) (by decide +kernel)
