/-! DogsHourModel -/
set_option maxRecDepth 100000
def RX10 : String := "DogsHourModel"
def TX10 : u_T := fun k => match k with
  | 0 => ("DogsHourModel", "thrown", "I", false)
  | 1 => ("DogsHourModel", "tape", "[B", true)
  | 2 => ("DogsHourModel", "taped", "I", false)
  | 3 => ("DogsHourModel", "text", "[B", true)
  | 4 => ("DogsHourModel", "size", "I", false)
  | 5 => ("DogsHourModel", "tKind", "[I", true)
  | 6 => ("DogsHourModel", "tPlace", "[I", true)
  | 7 => ("DogsHourModel", "tValue", "[I", true)
  | 8 => ("DogsHourModel", "tName", "[J", true)
  | 9 => ("DogsHourModel", "keys", "[J", true)
  | 10 => ("DogsHourModel", "tokens", "I", false)
  | 11 => ("DogsHourModel", "t", "I", false)
  | 12 => ("DogsHourModel", "open", "I", false)
  | 13 => ("DogsHourModel", "fault", "I", false)
  | 14 => ("DogsHourModel", "faultPlace", "I", false)
  | 15 => ("DogsHourModel", "worst", "I", false)
  | 16 => ("DogsHourModel", "worstPlace", "I", false)
  | 17 => ("DogsHourModel", "place", "I", false)
  | 18 => ("DogsHourModel", "live", "I", false)
  | 19 => ("DogsHourModel", "side", "I", false)
  | 20 => ("DogsHourModel", "names", "I", false)
  | 21 => ("DogsHourModel", "nameOf", "[J", true)
  | 22 => ("DogsHourModel", "nameAt", "[I", true)
  | 23 => ("DogsHourModel", "places", "[I", true)
  | 24 => ("DogsHourModel", "nextTo", "[I", true)
  | 25 => ("DogsHourModel", "paths", "[I", true)
  | 26 => ("DogsHourModel", "dogs", "[I", true)
  | 27 => ("DogsHourModel", "kennelOf", "[I", true)
  | 28 => ("DogsHourModel", "biteOf", "[I", true)
  | 29 => ("DogsHourModel", "hungerOf", "[I", true)
  | 30 => ("DogsHourModel", "people", "[I", true)
  | 31 => ("DogsHourModel", "homeOf", "[I", true)
  | 32 => ("DogsHourModel", "pocketTold", "[I", true)
  | 33 => ("DogsHourModel", "errands", "[I", true)
  | 34 => ("DogsHourModel", "whoGoes", "[I", true)
  | 35 => ("DogsHourModel", "whereTo", "[I", true)
  | 36 => ("DogsHourModel", "hourFrom", "[I", true)
  | 37 => ("DogsHourModel", "hourTill", "[I", true)
  | 38 => ("DogsHourModel", "startsAt", "[I", true)
  | 39 => ("DogsHourModel", "lawFirst", "[I", true)
  | 40 => ("DogsHourModel", "lawLast", "[I", true)
  | 41 => ("DogsHourModel", "branches", "I", false)
  | 42 => ("DogsHourModel", "hasTest", "[Z", true)
  | 43 => ("DogsHourModel", "testFrom", "[I", true)
  | 44 => ("DogsHourModel", "testMid", "[I", true)
  | 45 => ("DogsHourModel", "testTo", "[I", true)
  | 46 => ("DogsHourModel", "termTo", "[I", true)
  | 47 => ("DogsHourModel", "codes", "I", false)
  | 48 => ("DogsHourModel", "code", "[I", true)
  | 49 => ("DogsHourModel", "codeInt", "[I", true)
  | 50 => ("DogsHourModel", "waits", "[I", true)
  | 51 => ("DogsHourModel", "waiting", "I", false)
  | 52 => ("DogsHourModel", "variables", "[I", true)
  | 53 => ("DogsHourModel", "pile", "[I", true)
  | 54 => ("DogsHourModel", "isBroken", "Z", false)
  | 55 => ("DogsHourModel", "steps", "[I", true)
  | 56 => ("DogsHourModel", "now", "[I", true)
  | 57 => ("DogsHourModel", "row", "[I", true)
  | 58 => ("DogsHourModel", "undos", "I", false)
  | 59 => ("DogsHourModel", "history", "[I", true)
  | 60 => ("DogsHourModel", "roundBy", "[I", true)
  | 61 => ("DogsHourModel", "tolds", "I", false)
  | 62 => ("DogsHourModel", "toldWho", "[I", true)
  | 63 => ("DogsHourModel", "toldWas", "[Z", true)
  | 64 => ("DogsHourModel", "fetchedBy", "[I", true)
  | 65 => ("DogsHourModel", "isHeld", "[Z", true)
  | _ => ("DogsHourModel", "heldRows", "[I", true)
def tyX10 : Nat → FieldType := fun k => match k with
  | 0 => .int
  | 1 => .array .byte
  | 2 => .int
  | 3 => .array .byte
  | 4 => .int
  | 5 => .array .int
  | 6 => .array .int
  | 7 => .array .int
  | 8 => .array .long
  | 9 => .array .long
  | 10 => .int
  | 11 => .int
  | 12 => .int
  | 13 => .int
  | 14 => .int
  | 15 => .int
  | 16 => .int
  | 17 => .int
  | 18 => .int
  | 19 => .int
  | 20 => .int
  | 21 => .array .long
  | 22 => .array .int
  | 23 => .array .int
  | 24 => .array .int
  | 25 => .array .int
  | 26 => .array .int
  | 27 => .array .int
  | 28 => .array .int
  | 29 => .array .int
  | 30 => .array .int
  | 31 => .array .int
  | 32 => .array .int
  | 33 => .array .int
  | 34 => .array .int
  | 35 => .array .int
  | 36 => .array .int
  | 37 => .array .int
  | 38 => .array .int
  | 39 => .array .int
  | 40 => .array .int
  | 41 => .int
  | 42 => .array .boolean
  | 43 => .array .int
  | 44 => .array .int
  | 45 => .array .int
  | 46 => .array .int
  | 47 => .int
  | 48 => .array .int
  | 49 => .array .int
  | 50 => .array .int
  | 51 => .int
  | 52 => .array .int
  | 53 => .array .int
  | 54 => .boolean
  | 55 => .array .int
  | 56 => .array .int
  | 57 => .array .int
  | 58 => .int
  | 59 => .array .int
  | 60 => .array .int
  | 61 => .int
  | 62 => .array .int
  | 63 => .array .boolean
  | 64 => .array .int
  | 65 => .array .boolean
  | _ => .array .int
abbrev wsX100 : List Cond := u_ws RX10 TX10 67
set_option maxRecDepth 100000 in
theorem nmX10 : ∀ a, a < 67 → ∀ b, b < 67 → a ≠ b → (TX10 a).2.1 ≠ (TX10 b).2.1 := by decide +kernel
set_option maxRecDepth 100000 in
theorem tyX10_ok : ∀ k, k < 67 → parseFieldDescriptor (TX10 k).2.2.1 = some (tyX10 k) := by decide +kernel
abbrev cX10_init : ByteArray := prog_21_method_2_code
def yX10_init : MethodName := ⟨RX10, "<init>", "()V"⟩
def dkwX10_init_38 : List UInt8 := [184, 0, 165, 80, 42, 182, 0, 169, 42, 182, 0, 172, 177]
abbrev dktX10_init_38 : List UInt8 := dkwX10_init_38 ++ []
def dkwX10_init_37 : List UInt8 := [184, 0, 165, 80, 42, 180, 0, 34, 16, 22, 16, 116, 16, 97, 16, 107, 16, 101, 16, 110, 3, 3]
abbrev dktX10_init_37 : List UInt8 := dkwX10_init_37 ++ dktX10_init_38
def dkwX10_init_36 : List UInt8 := [184, 0, 165, 80, 42, 180, 0, 34, 16, 21, 16, 119, 16, 104, 16, 105, 16, 99, 16, 104, 3, 3]
abbrev dktX10_init_36 : List UInt8 := dkwX10_init_36 ++ dktX10_init_37
def dkwX10_init_35 : List UInt8 := [3, 184, 0, 165, 80, 42, 180, 0, 34, 16, 20, 16, 109, 16, 105, 16, 110, 16, 117, 16, 116, 16, 101, 3]
abbrev dktX10_init_35 : List UInt8 := dkwX10_init_35 ++ dktX10_init_36
def dkwX10_init_34 : List UInt8 := [3, 3, 184, 0, 165, 80, 42, 180, 0, 34, 16, 19, 16, 104, 16, 117, 16, 110, 16, 103, 16, 101, 16, 114]
abbrev dktX10_init_34 : List UInt8 := dkwX10_init_34 ++ dktX10_init_35
def dkwX10_init_33 : List UInt8 := [16, 101, 16, 116, 3, 184, 0, 165, 80, 42, 180, 0, 34, 16, 18, 16, 98, 16, 105, 16, 116, 16, 101, 3]
abbrev dktX10_init_33 : List UInt8 := dkwX10_init_33 ++ dktX10_init_34
def dkwX10_init_32 : List UInt8 := [16, 114, 3, 3, 3, 3, 184, 0, 165, 80, 42, 180, 0, 34, 16, 17, 16, 112, 16, 111, 16, 99, 16, 107]
abbrev dktX10_init_32 : List UInt8 := dkwX10_init_32 ++ dktX10_init_33
def dkwX10_init_31 : List UInt8 := [16, 99, 16, 107, 16, 101, 16, 100, 3, 184, 0, 165, 80, 42, 180, 0, 34, 16, 16, 16, 102, 16, 97]
abbrev dktX10_init_31 : List UInt8 := dkwX10_init_31 ++ dktX10_init_32
def dkwX10_init_30 : List UInt8 := [16, 102, 16, 101, 16, 100, 3, 3, 3, 3, 184, 0, 165, 80, 42, 180, 0, 34, 16, 15, 16, 107, 16, 105]
abbrev dktX10_init_30 : List UInt8 := dkwX10_init_30 ++ dktX10_init_31
def dkwX10_init_29 : List UInt8 := [16, 13, 16, 101, 16, 108, 16, 115, 16, 101, 3, 3, 3, 184, 0, 165, 80, 42, 180, 0, 34, 16, 14]
abbrev dktX10_init_29 : List UInt8 := dkwX10_init_29 ++ dktX10_init_30
def dkwX10_init_28 : List UInt8 := [180, 0, 34, 16, 12, 16, 116, 16, 104, 16, 101, 16, 110, 3, 3, 3, 184, 0, 165, 80, 42, 180, 0, 34]
abbrev dktX10_init_28 : List UInt8 := dkwX10_init_28 ++ dktX10_init_29
def dkwX10_init_27 : List UInt8 := [184, 0, 165, 80, 42, 180, 0, 34, 16, 11, 16, 105, 16, 102, 3, 3, 3, 3, 3, 184, 0, 165, 80, 42]
abbrev dktX10_init_27 : List UInt8 := dkwX10_init_27 ++ dktX10_init_28
def dkwX10_init_26 : List UInt8 := [184, 0, 165, 80, 42, 180, 0, 34, 16, 10, 16, 98, 16, 101, 16, 103, 16, 105, 16, 110, 16, 115, 3]
abbrev dktX10_init_26 : List UInt8 := dkwX10_init_26 ++ dktX10_init_27
def dkwX10_init_25 : List UInt8 := [3, 3, 3, 184, 0, 165, 80, 42, 180, 0, 34, 16, 9, 16, 104, 16, 111, 16, 117, 16, 114, 3, 3, 3]
abbrev dktX10_init_25 : List UInt8 := dkwX10_init_25 ++ dktX10_init_26
def dkwX10_init_24 : List UInt8 := [16, 101, 16, 115, 3, 3, 184, 0, 165, 80, 42, 180, 0, 34, 16, 8, 16, 100, 16, 117, 16, 101, 16, 115]
abbrev dktX10_init_24 : List UInt8 := dkwX10_init_24 ++ dktX10_init_25
def dkwX10_init_23 : List UInt8 := [16, 107, 16, 101, 16, 115, 3, 3, 184, 0, 165, 80, 42, 180, 0, 34, 16, 7, 16, 102, 16, 97, 16, 100]
abbrev dktX10_init_23 : List UInt8 := dkwX10_init_23 ++ dktX10_init_24
def dkwX10_init_22 : List UInt8 := [16, 97, 16, 110, 16, 116, 16, 115, 3, 3, 184, 0, 165, 80, 42, 180, 0, 34, 16, 6, 16, 116, 16, 97]
abbrev dktX10_init_22 : List UInt8 := dkwX10_init_22 ++ dktX10_init_23
def dkwX10_init_21 : List UInt8 := [16, 101, 16, 114, 16, 114, 16, 97, 16, 110, 16, 100, 3, 184, 0, 165, 80, 42, 180, 0, 34, 8, 16, 119]
abbrev dktX10_init_21 : List UInt8 := dkwX10_init_21 ++ dktX10_init_22
def dkwX10_init_20 : List UInt8 := [6, 16, 112, 16, 101, 16, 114, 16, 115, 16, 111, 16, 110, 3, 184, 0, 165, 80, 42, 180, 0, 34, 7]
abbrev dktX10_init_20 : List UInt8 := dkwX10_init_20 ++ dktX10_init_21
def dkwX10_init_19 : List UInt8 := [80, 42, 180, 0, 34, 5, 16, 100, 16, 111, 16, 103, 3, 3, 3, 3, 184, 0, 165, 80, 42, 180, 0, 34]
abbrev dktX10_init_19 : List UInt8 := dkwX10_init_19 ++ dktX10_init_20
def dkwX10_init_18 : List UInt8 := [3, 184, 0, 165, 80, 42, 180, 0, 34, 4, 16, 112, 16, 97, 16, 116, 16, 104, 3, 3, 3, 184, 0, 165]
abbrev dktX10_init_18 : List UInt8 := dkwX10_init_18 ++ dktX10_init_19
def dkwX10_init_17 : List UInt8 := [181, 0, 158, 42, 3, 182, 0, 161, 42, 180, 0, 34, 3, 16, 112, 16, 108, 16, 97, 16, 99, 16, 101, 3]
abbrev dktX10_init_17 : List UInt8 := dkwX10_init_17 ++ dktX10_init_18
def dkwX10_init_16 : List UInt8 := [181, 0, 149, 42, 7, 188, 10, 181, 0, 152, 42, 6, 188, 4, 181, 0, 155, 42, 17, 0, 231, 188, 10]
abbrev dktX10_init_16 : List UInt8 := dkwX10_init_16 ++ dktX10_init_17
def dkwX10_init_15 : List UInt8 := [42, 17, 3, 128, 188, 10, 181, 0, 143, 42, 16, 20, 188, 10, 181, 0, 146, 42, 16, 20, 188, 4]
abbrev dktX10_init_15 : List UInt8 := dkwX10_init_15 ++ dktX10_init_16
def dkwX10_init_14 : List UInt8 := [16, 77, 188, 10, 181, 0, 134, 42, 16, 77, 188, 10, 181, 0, 137, 42, 17, 12, 8, 188, 10, 181, 0, 140]
abbrev dktX10_init_14 : List UInt8 := dkwX10_init_14 ++ dktX10_init_15
def dkwX10_init_13 : List UInt8 := [188, 10, 181, 0, 125, 42, 17, 1, 144, 188, 10, 181, 0, 128, 42, 16, 49, 188, 10, 181, 0, 131, 42]
abbrev dktX10_init_13 : List UInt8 := dkwX10_init_13 ++ dktX10_init_14
def dkwX10_init_12 : List UInt8 := [181, 0, 116, 42, 17, 3, 72, 188, 10, 181, 0, 119, 42, 16, 64, 188, 10, 181, 0, 122, 42, 16, 9]
abbrev dktX10_init_12 : List UInt8 := dkwX10_init_12 ++ dktX10_init_13
def dkwX10_init_11 : List UInt8 := [17, 1, 4, 188, 10, 181, 0, 110, 42, 17, 1, 4, 188, 10, 181, 0, 113, 42, 17, 3, 72, 188, 10]
abbrev dktX10_init_11 : List UInt8 := dkwX10_init_11 ++ dktX10_init_12
def dkwX10_init_10 : List UInt8 := [181, 0, 100, 42, 17, 1, 4, 188, 10, 181, 0, 104, 42, 17, 1, 4, 188, 10, 181, 0, 107, 42]
abbrev dktX10_init_10 : List UInt8 := dkwX10_init_10 ++ dktX10_init_11
def dkwX10_init_9 : List UInt8 := [42, 16, 8, 188, 10, 181, 0, 94, 42, 16, 8, 188, 10, 181, 0, 97, 42, 17, 1, 4, 188, 4]
abbrev dktX10_init_9 : List UInt8 := dkwX10_init_9 ++ dktX10_init_10
def dkwX10_init_8 : List UInt8 := [181, 0, 82, 42, 5, 188, 10, 181, 0, 85, 42, 5, 188, 10, 181, 0, 88, 42, 5, 188, 10, 181, 0, 91]
abbrev dktX10_init_8 : List UInt8 := dkwX10_init_8 ++ dktX10_init_9
def dkwX10_init_7 : List UInt8 := [181, 0, 73, 42, 5, 188, 10, 181, 0, 76, 42, 16, 16, 188, 10, 181, 0, 79, 42, 16, 16, 188, 10]
abbrev dktX10_init_7 : List UInt8 := dkwX10_init_7 ++ dktX10_init_8
def dkwX10_init_6 : List UInt8 := [181, 0, 64, 42, 5, 188, 10, 181, 0, 67, 42, 16, 8, 188, 10, 181, 0, 70, 42, 16, 8, 188, 10]
abbrev dktX10_init_6 : List UInt8 := dkwX10_init_6 ++ dktX10_init_7
def dkwX10_init_5 : List UInt8 := [181, 0, 55, 42, 16, 10, 188, 10, 181, 0, 58, 42, 16, 10, 188, 10, 181, 0, 61, 42, 16, 10, 188, 10]
abbrev dktX10_init_5 : List UInt8 := dkwX10_init_5 ++ dktX10_init_6
def dkwX10_init_4 : List UInt8 := [181, 0, 46, 42, 16, 14, 188, 10, 181, 0, 49, 42, 5, 188, 10, 181, 0, 52, 42, 5, 188, 10]
abbrev dktX10_init_4 : List UInt8 := dkwX10_init_4 ++ dktX10_init_5
def dkwX10_init_3 : List UInt8 := [181, 0, 37, 42, 16, 16, 188, 11, 181, 0, 40, 42, 16, 16, 188, 10, 181, 0, 43, 42, 5, 188, 10]
abbrev dktX10_init_3 : List UInt8 := dkwX10_init_3 ++ dktX10_init_4
def dkwX10_init_2 : List UInt8 := [181, 0, 27, 42, 17, 1, 147, 188, 11, 181, 0, 30, 42, 16, 23, 188, 11, 181, 0, 34, 42, 2]
abbrev dktX10_init_2 : List UInt8 := dkwX10_init_2 ++ dktX10_init_3
def dkwX10_init_1 : List UInt8 := [17, 1, 147, 188, 10, 181, 0, 20, 42, 17, 1, 147, 188, 10, 181, 0, 24, 42, 17, 1, 147, 188, 10]
abbrev dktX10_init_1 : List UInt8 := dkwX10_init_1 ++ dktX10_init_2
def dkwX10_init_0 : List UInt8 := [42, 183, 0, 7, 42, 17, 7, 208, 188, 8, 181, 0, 13, 42, 17, 7, 208, 188, 8, 181, 0, 17, 42]
abbrev dktX10_init_0 : List UInt8 := dkwX10_init_0 ++ dktX10_init_1
theorem dksX10_init_0 : cX10_init.data.toList.drop 0 = dktX10_init_0 := by decide +kernel
theorem dksX10_init_1 : cX10_init.data.toList.drop 23 = dktX10_init_1 := dk_seg dksX10_init_0 23 rfl rfl
theorem dksX10_init_2 : cX10_init.data.toList.drop 46 = dktX10_init_2 := dk_seg dksX10_init_1 23 rfl rfl
theorem dksX10_init_3 : cX10_init.data.toList.drop 68 = dktX10_init_3 := dk_seg dksX10_init_2 22 rfl rfl
theorem dksX10_init_4 : cX10_init.data.toList.drop 91 = dktX10_init_4 := dk_seg dksX10_init_3 23 rfl rfl
theorem dksX10_init_5 : cX10_init.data.toList.drop 113 = dktX10_init_5 := dk_seg dksX10_init_4 22 rfl rfl
theorem dksX10_init_6 : cX10_init.data.toList.drop 137 = dktX10_init_6 := dk_seg dksX10_init_5 24 rfl rfl
theorem dksX10_init_7 : cX10_init.data.toList.drop 160 = dktX10_init_7 := dk_seg dksX10_init_6 23 rfl rfl
theorem dksX10_init_8 : cX10_init.data.toList.drop 183 = dktX10_init_8 := dk_seg dksX10_init_7 23 rfl rfl
theorem dksX10_init_9 : cX10_init.data.toList.drop 207 = dktX10_init_9 := dk_seg dksX10_init_8 24 rfl rfl
theorem dksX10_init_10 : cX10_init.data.toList.drop 229 = dktX10_init_10 := dk_seg dksX10_init_9 22 rfl rfl
theorem dksX10_init_11 : cX10_init.data.toList.drop 251 = dktX10_init_11 := dk_seg dksX10_init_10 22 rfl rfl
theorem dksX10_init_12 : cX10_init.data.toList.drop 274 = dktX10_init_12 := dk_seg dksX10_init_11 23 rfl rfl
theorem dksX10_init_13 : cX10_init.data.toList.drop 297 = dktX10_init_13 := dk_seg dksX10_init_12 23 rfl rfl
theorem dksX10_init_14 : cX10_init.data.toList.drop 320 = dktX10_init_14 := dk_seg dksX10_init_13 23 rfl rfl
theorem dksX10_init_15 : cX10_init.data.toList.drop 344 = dktX10_init_15 := dk_seg dksX10_init_14 24 rfl rfl
theorem dksX10_init_16 : cX10_init.data.toList.drop 366 = dktX10_init_16 := dk_seg dksX10_init_15 22 rfl rfl
theorem dksX10_init_17 : cX10_init.data.toList.drop 389 = dktX10_init_17 := dk_seg dksX10_init_16 23 rfl rfl
theorem dksX10_init_18 : cX10_init.data.toList.drop 413 = dktX10_init_18 := dk_seg dksX10_init_17 24 rfl rfl
theorem dksX10_init_19 : cX10_init.data.toList.drop 437 = dktX10_init_19 := dk_seg dksX10_init_18 24 rfl rfl
theorem dksX10_init_20 : cX10_init.data.toList.drop 461 = dktX10_init_20 := dk_seg dksX10_init_19 24 rfl rfl
theorem dksX10_init_21 : cX10_init.data.toList.drop 484 = dktX10_init_21 := dk_seg dksX10_init_20 23 rfl rfl
theorem dksX10_init_22 : cX10_init.data.toList.drop 508 = dktX10_init_22 := dk_seg dksX10_init_21 24 rfl rfl
theorem dksX10_init_23 : cX10_init.data.toList.drop 532 = dktX10_init_23 := dk_seg dksX10_init_22 24 rfl rfl
theorem dksX10_init_24 : cX10_init.data.toList.drop 556 = dktX10_init_24 := dk_seg dksX10_init_23 24 rfl rfl
theorem dksX10_init_25 : cX10_init.data.toList.drop 580 = dktX10_init_25 := dk_seg dksX10_init_24 24 rfl rfl
theorem dksX10_init_26 : cX10_init.data.toList.drop 604 = dktX10_init_26 := dk_seg dksX10_init_25 24 rfl rfl
theorem dksX10_init_27 : cX10_init.data.toList.drop 627 = dktX10_init_27 := dk_seg dksX10_init_26 23 rfl rfl
theorem dksX10_init_28 : cX10_init.data.toList.drop 651 = dktX10_init_28 := dk_seg dksX10_init_27 24 rfl rfl
theorem dksX10_init_29 : cX10_init.data.toList.drop 675 = dktX10_init_29 := dk_seg dksX10_init_28 24 rfl rfl
theorem dksX10_init_30 : cX10_init.data.toList.drop 698 = dktX10_init_30 := dk_seg dksX10_init_29 23 rfl rfl
theorem dksX10_init_31 : cX10_init.data.toList.drop 722 = dktX10_init_31 := dk_seg dksX10_init_30 24 rfl rfl
theorem dksX10_init_32 : cX10_init.data.toList.drop 745 = dktX10_init_32 := dk_seg dksX10_init_31 23 rfl rfl
theorem dksX10_init_33 : cX10_init.data.toList.drop 769 = dktX10_init_33 := dk_seg dksX10_init_32 24 rfl rfl
theorem dksX10_init_34 : cX10_init.data.toList.drop 793 = dktX10_init_34 := dk_seg dksX10_init_33 24 rfl rfl
theorem dksX10_init_35 : cX10_init.data.toList.drop 817 = dktX10_init_35 := dk_seg dksX10_init_34 24 rfl rfl
theorem dksX10_init_36 : cX10_init.data.toList.drop 841 = dktX10_init_36 := dk_seg dksX10_init_35 24 rfl rfl
theorem dksX10_init_37 : cX10_init.data.toList.drop 863 = dktX10_init_37 := dk_seg dksX10_init_36 22 rfl rfl
theorem dksX10_init_38 : cX10_init.data.toList.drop 885 = dktX10_init_38 := dk_seg dksX10_init_37 22 rfl rfl
theorem dX10_init_0 : decode cX10_init 0 = .ok (.aload_n 0, 1) := dk_42 (dk_at dksX10_init_0 0 rfl rfl)
theorem dX10_init_1 : decode cX10_init 1 = .ok (.invokespecial 7, 3) := dk_183 0 7 (dk_at dksX10_init_0 1 rfl rfl)
theorem dX10_init_4 : decode cX10_init 4 = .ok (.aload_n 0, 1) := dk_42 (dk_at dksX10_init_0 4 rfl rfl)
theorem dX10_init_5 : decode cX10_init 5 = .ok (.sipush 2000, 3) := dk_17 7 208 (dk_at dksX10_init_0 5 rfl rfl)
theorem dX10_init_8 : decode cX10_init 8 = .ok (.newarray .byte, 2) := dk_188_8 (dk_at dksX10_init_0 8 rfl rfl)
theorem dX10_init_10 : decode cX10_init 10 = .ok (.putfield 13, 3) := dk_181 0 13 (dk_at dksX10_init_0 10 rfl rfl)
theorem dX10_init_13 : decode cX10_init 13 = .ok (.aload_n 0, 1) := dk_42 (dk_at dksX10_init_0 13 rfl rfl)
theorem dX10_init_14 : decode cX10_init 14 = .ok (.sipush 2000, 3) := dk_17 7 208 (dk_at dksX10_init_0 14 rfl rfl)
theorem dX10_init_17 : decode cX10_init 17 = .ok (.newarray .byte, 2) := dk_188_8 (dk_at dksX10_init_0 17 rfl rfl)
theorem dX10_init_19 : decode cX10_init 19 = .ok (.putfield 17, 3) := dk_181 0 17 (dk_at dksX10_init_0 19 rfl rfl)
theorem dX10_init_22 : decode cX10_init 22 = .ok (.aload_n 0, 1) := dk_42 (dk_at dksX10_init_0 22 rfl rfl)
theorem dX10_init_23 : decode cX10_init 23 = .ok (.sipush 403, 3) := dk_17 1 147 (dk_at dksX10_init_1 0 rfl rfl)
theorem dX10_init_26 : decode cX10_init 26 = .ok (.newarray .int, 2) := dk_188_10 (dk_at dksX10_init_1 3 rfl rfl)
theorem dX10_init_28 : decode cX10_init 28 = .ok (.putfield 20, 3) := dk_181 0 20 (dk_at dksX10_init_1 5 rfl rfl)
theorem dX10_init_31 : decode cX10_init 31 = .ok (.aload_n 0, 1) := dk_42 (dk_at dksX10_init_1 8 rfl rfl)
theorem dX10_init_32 : decode cX10_init 32 = .ok (.sipush 403, 3) := dk_17 1 147 (dk_at dksX10_init_1 9 rfl rfl)
theorem dX10_init_35 : decode cX10_init 35 = .ok (.newarray .int, 2) := dk_188_10 (dk_at dksX10_init_1 12 rfl rfl)
theorem dX10_init_37 : decode cX10_init 37 = .ok (.putfield 24, 3) := dk_181 0 24 (dk_at dksX10_init_1 14 rfl rfl)
theorem dX10_init_40 : decode cX10_init 40 = .ok (.aload_n 0, 1) := dk_42 (dk_at dksX10_init_1 17 rfl rfl)
theorem dX10_init_41 : decode cX10_init 41 = .ok (.sipush 403, 3) := dk_17 1 147 (dk_at dksX10_init_1 18 rfl rfl)
theorem dX10_init_44 : decode cX10_init 44 = .ok (.newarray .int, 2) := dk_188_10 (dk_at dksX10_init_1 21 rfl rfl)
theorem dX10_init_46 : decode cX10_init 46 = .ok (.putfield 27, 3) := dk_181 0 27 (dk_at dksX10_init_2 0 rfl rfl)
theorem dX10_init_49 : decode cX10_init 49 = .ok (.aload_n 0, 1) := dk_42 (dk_at dksX10_init_2 3 rfl rfl)
theorem dX10_init_50 : decode cX10_init 50 = .ok (.sipush 403, 3) := dk_17 1 147 (dk_at dksX10_init_2 4 rfl rfl)
theorem dX10_init_53 : decode cX10_init 53 = .ok (.newarray .long, 2) := dk_188_11 (dk_at dksX10_init_2 7 rfl rfl)
theorem dX10_init_55 : decode cX10_init 55 = .ok (.putfield 30, 3) := dk_181 0 30 (dk_at dksX10_init_2 9 rfl rfl)
theorem dX10_init_58 : decode cX10_init 58 = .ok (.aload_n 0, 1) := dk_42 (dk_at dksX10_init_2 12 rfl rfl)
theorem dX10_init_59 : decode cX10_init 59 = .ok (.bipush 23, 2) := dk_16 23 (dk_at dksX10_init_2 13 rfl rfl)
theorem dX10_init_61 : decode cX10_init 61 = .ok (.newarray .long, 2) := dk_188_11 (dk_at dksX10_init_2 15 rfl rfl)
theorem dX10_init_63 : decode cX10_init 63 = .ok (.putfield 34, 3) := dk_181 0 34 (dk_at dksX10_init_2 17 rfl rfl)
theorem dX10_init_66 : decode cX10_init 66 = .ok (.aload_n 0, 1) := dk_42 (dk_at dksX10_init_2 20 rfl rfl)
theorem dX10_init_67 : decode cX10_init 67 = .ok (.iconst (-1), 1) := dk_2 (dk_at dksX10_init_2 21 rfl rfl)
theorem dX10_init_68 : decode cX10_init 68 = .ok (.putfield 37, 3) := dk_181 0 37 (dk_at dksX10_init_3 0 rfl rfl)
theorem dX10_init_71 : decode cX10_init 71 = .ok (.aload_n 0, 1) := dk_42 (dk_at dksX10_init_3 3 rfl rfl)
theorem dX10_init_72 : decode cX10_init 72 = .ok (.bipush 16, 2) := dk_16 16 (dk_at dksX10_init_3 4 rfl rfl)
theorem dX10_init_74 : decode cX10_init 74 = .ok (.newarray .long, 2) := dk_188_11 (dk_at dksX10_init_3 6 rfl rfl)
theorem dX10_init_76 : decode cX10_init 76 = .ok (.putfield 40, 3) := dk_181 0 40 (dk_at dksX10_init_3 8 rfl rfl)
theorem dX10_init_79 : decode cX10_init 79 = .ok (.aload_n 0, 1) := dk_42 (dk_at dksX10_init_3 11 rfl rfl)
theorem dX10_init_80 : decode cX10_init 80 = .ok (.bipush 16, 2) := dk_16 16 (dk_at dksX10_init_3 12 rfl rfl)
theorem dX10_init_82 : decode cX10_init 82 = .ok (.newarray .int, 2) := dk_188_10 (dk_at dksX10_init_3 14 rfl rfl)
theorem dX10_init_84 : decode cX10_init 84 = .ok (.putfield 43, 3) := dk_181 0 43 (dk_at dksX10_init_3 16 rfl rfl)
theorem dX10_init_87 : decode cX10_init 87 = .ok (.aload_n 0, 1) := dk_42 (dk_at dksX10_init_3 19 rfl rfl)
theorem dX10_init_88 : decode cX10_init 88 = .ok (.iconst 2, 1) := dk_5 (dk_at dksX10_init_3 20 rfl rfl)
theorem dX10_init_89 : decode cX10_init 89 = .ok (.newarray .int, 2) := dk_188_10 (dk_at dksX10_init_3 21 rfl rfl)
theorem dX10_init_91 : decode cX10_init 91 = .ok (.putfield 46, 3) := dk_181 0 46 (dk_at dksX10_init_4 0 rfl rfl)
theorem dX10_init_94 : decode cX10_init 94 = .ok (.aload_n 0, 1) := dk_42 (dk_at dksX10_init_4 3 rfl rfl)
theorem dX10_init_95 : decode cX10_init 95 = .ok (.bipush 14, 2) := dk_16 14 (dk_at dksX10_init_4 4 rfl rfl)
theorem dX10_init_97 : decode cX10_init 97 = .ok (.newarray .int, 2) := dk_188_10 (dk_at dksX10_init_4 6 rfl rfl)
theorem dX10_init_99 : decode cX10_init 99 = .ok (.putfield 49, 3) := dk_181 0 49 (dk_at dksX10_init_4 8 rfl rfl)
theorem dX10_init_102 : decode cX10_init 102 = .ok (.aload_n 0, 1) := dk_42 (dk_at dksX10_init_4 11 rfl rfl)
theorem dX10_init_103 : decode cX10_init 103 = .ok (.iconst 2, 1) := dk_5 (dk_at dksX10_init_4 12 rfl rfl)
theorem dX10_init_104 : decode cX10_init 104 = .ok (.newarray .int, 2) := dk_188_10 (dk_at dksX10_init_4 13 rfl rfl)
theorem dX10_init_106 : decode cX10_init 106 = .ok (.putfield 52, 3) := dk_181 0 52 (dk_at dksX10_init_4 15 rfl rfl)
theorem dX10_init_109 : decode cX10_init 109 = .ok (.aload_n 0, 1) := dk_42 (dk_at dksX10_init_4 18 rfl rfl)
theorem dX10_init_110 : decode cX10_init 110 = .ok (.iconst 2, 1) := dk_5 (dk_at dksX10_init_4 19 rfl rfl)
theorem dX10_init_111 : decode cX10_init 111 = .ok (.newarray .int, 2) := dk_188_10 (dk_at dksX10_init_4 20 rfl rfl)
theorem dX10_init_113 : decode cX10_init 113 = .ok (.putfield 55, 3) := dk_181 0 55 (dk_at dksX10_init_5 0 rfl rfl)
theorem dX10_init_116 : decode cX10_init 116 = .ok (.aload_n 0, 1) := dk_42 (dk_at dksX10_init_5 3 rfl rfl)
theorem dX10_init_117 : decode cX10_init 117 = .ok (.bipush 10, 2) := dk_16 10 (dk_at dksX10_init_5 4 rfl rfl)
theorem dX10_init_119 : decode cX10_init 119 = .ok (.newarray .int, 2) := dk_188_10 (dk_at dksX10_init_5 6 rfl rfl)
theorem dX10_init_121 : decode cX10_init 121 = .ok (.putfield 58, 3) := dk_181 0 58 (dk_at dksX10_init_5 8 rfl rfl)
theorem dX10_init_124 : decode cX10_init 124 = .ok (.aload_n 0, 1) := dk_42 (dk_at dksX10_init_5 11 rfl rfl)
theorem dX10_init_125 : decode cX10_init 125 = .ok (.bipush 10, 2) := dk_16 10 (dk_at dksX10_init_5 12 rfl rfl)
theorem dX10_init_127 : decode cX10_init 127 = .ok (.newarray .int, 2) := dk_188_10 (dk_at dksX10_init_5 14 rfl rfl)
theorem dX10_init_129 : decode cX10_init 129 = .ok (.putfield 61, 3) := dk_181 0 61 (dk_at dksX10_init_5 16 rfl rfl)
theorem dX10_init_132 : decode cX10_init 132 = .ok (.aload_n 0, 1) := dk_42 (dk_at dksX10_init_5 19 rfl rfl)
theorem dX10_init_133 : decode cX10_init 133 = .ok (.bipush 10, 2) := dk_16 10 (dk_at dksX10_init_5 20 rfl rfl)
theorem dX10_init_135 : decode cX10_init 135 = .ok (.newarray .int, 2) := dk_188_10 (dk_at dksX10_init_5 22 rfl rfl)
theorem dX10_init_137 : decode cX10_init 137 = .ok (.putfield 64, 3) := dk_181 0 64 (dk_at dksX10_init_6 0 rfl rfl)
theorem dX10_init_140 : decode cX10_init 140 = .ok (.aload_n 0, 1) := dk_42 (dk_at dksX10_init_6 3 rfl rfl)
theorem dX10_init_141 : decode cX10_init 141 = .ok (.iconst 2, 1) := dk_5 (dk_at dksX10_init_6 4 rfl rfl)
theorem dX10_init_142 : decode cX10_init 142 = .ok (.newarray .int, 2) := dk_188_10 (dk_at dksX10_init_6 5 rfl rfl)
theorem dX10_init_144 : decode cX10_init 144 = .ok (.putfield 67, 3) := dk_181 0 67 (dk_at dksX10_init_6 7 rfl rfl)
theorem dX10_init_147 : decode cX10_init 147 = .ok (.aload_n 0, 1) := dk_42 (dk_at dksX10_init_6 10 rfl rfl)
theorem dX10_init_148 : decode cX10_init 148 = .ok (.bipush 8, 2) := dk_16 8 (dk_at dksX10_init_6 11 rfl rfl)
theorem dX10_init_150 : decode cX10_init 150 = .ok (.newarray .int, 2) := dk_188_10 (dk_at dksX10_init_6 13 rfl rfl)
theorem dX10_init_152 : decode cX10_init 152 = .ok (.putfield 70, 3) := dk_181 0 70 (dk_at dksX10_init_6 15 rfl rfl)
theorem dX10_init_155 : decode cX10_init 155 = .ok (.aload_n 0, 1) := dk_42 (dk_at dksX10_init_6 18 rfl rfl)
theorem dX10_init_156 : decode cX10_init 156 = .ok (.bipush 8, 2) := dk_16 8 (dk_at dksX10_init_6 19 rfl rfl)
theorem dX10_init_158 : decode cX10_init 158 = .ok (.newarray .int, 2) := dk_188_10 (dk_at dksX10_init_6 21 rfl rfl)
theorem dX10_init_160 : decode cX10_init 160 = .ok (.putfield 73, 3) := dk_181 0 73 (dk_at dksX10_init_7 0 rfl rfl)
theorem dX10_init_163 : decode cX10_init 163 = .ok (.aload_n 0, 1) := dk_42 (dk_at dksX10_init_7 3 rfl rfl)
theorem dX10_init_164 : decode cX10_init 164 = .ok (.iconst 2, 1) := dk_5 (dk_at dksX10_init_7 4 rfl rfl)
theorem dX10_init_165 : decode cX10_init 165 = .ok (.newarray .int, 2) := dk_188_10 (dk_at dksX10_init_7 5 rfl rfl)
theorem dX10_init_167 : decode cX10_init 167 = .ok (.putfield 76, 3) := dk_181 0 76 (dk_at dksX10_init_7 7 rfl rfl)
theorem dX10_init_170 : decode cX10_init 170 = .ok (.aload_n 0, 1) := dk_42 (dk_at dksX10_init_7 10 rfl rfl)
theorem dX10_init_171 : decode cX10_init 171 = .ok (.bipush 16, 2) := dk_16 16 (dk_at dksX10_init_7 11 rfl rfl)
theorem dX10_init_173 : decode cX10_init 173 = .ok (.newarray .int, 2) := dk_188_10 (dk_at dksX10_init_7 13 rfl rfl)
theorem dX10_init_175 : decode cX10_init 175 = .ok (.putfield 79, 3) := dk_181 0 79 (dk_at dksX10_init_7 15 rfl rfl)
theorem dX10_init_178 : decode cX10_init 178 = .ok (.aload_n 0, 1) := dk_42 (dk_at dksX10_init_7 18 rfl rfl)
theorem dX10_init_179 : decode cX10_init 179 = .ok (.bipush 16, 2) := dk_16 16 (dk_at dksX10_init_7 19 rfl rfl)
theorem dX10_init_181 : decode cX10_init 181 = .ok (.newarray .int, 2) := dk_188_10 (dk_at dksX10_init_7 21 rfl rfl)
theorem dX10_init_183 : decode cX10_init 183 = .ok (.putfield 82, 3) := dk_181 0 82 (dk_at dksX10_init_8 0 rfl rfl)
theorem dX10_init_186 : decode cX10_init 186 = .ok (.aload_n 0, 1) := dk_42 (dk_at dksX10_init_8 3 rfl rfl)
theorem dX10_init_187 : decode cX10_init 187 = .ok (.iconst 2, 1) := dk_5 (dk_at dksX10_init_8 4 rfl rfl)
theorem dX10_init_188 : decode cX10_init 188 = .ok (.newarray .int, 2) := dk_188_10 (dk_at dksX10_init_8 5 rfl rfl)
theorem dX10_init_190 : decode cX10_init 190 = .ok (.putfield 85, 3) := dk_181 0 85 (dk_at dksX10_init_8 7 rfl rfl)
theorem dX10_init_193 : decode cX10_init 193 = .ok (.aload_n 0, 1) := dk_42 (dk_at dksX10_init_8 10 rfl rfl)
theorem dX10_init_194 : decode cX10_init 194 = .ok (.iconst 2, 1) := dk_5 (dk_at dksX10_init_8 11 rfl rfl)
theorem dX10_init_195 : decode cX10_init 195 = .ok (.newarray .int, 2) := dk_188_10 (dk_at dksX10_init_8 12 rfl rfl)
theorem dX10_init_197 : decode cX10_init 197 = .ok (.putfield 88, 3) := dk_181 0 88 (dk_at dksX10_init_8 14 rfl rfl)
theorem dX10_init_200 : decode cX10_init 200 = .ok (.aload_n 0, 1) := dk_42 (dk_at dksX10_init_8 17 rfl rfl)
theorem dX10_init_201 : decode cX10_init 201 = .ok (.iconst 2, 1) := dk_5 (dk_at dksX10_init_8 18 rfl rfl)
theorem dX10_init_202 : decode cX10_init 202 = .ok (.newarray .int, 2) := dk_188_10 (dk_at dksX10_init_8 19 rfl rfl)
theorem dX10_init_204 : decode cX10_init 204 = .ok (.putfield 91, 3) := dk_181 0 91 (dk_at dksX10_init_8 21 rfl rfl)
theorem dX10_init_207 : decode cX10_init 207 = .ok (.aload_n 0, 1) := dk_42 (dk_at dksX10_init_9 0 rfl rfl)
theorem dX10_init_208 : decode cX10_init 208 = .ok (.bipush 8, 2) := dk_16 8 (dk_at dksX10_init_9 1 rfl rfl)
theorem dX10_init_210 : decode cX10_init 210 = .ok (.newarray .int, 2) := dk_188_10 (dk_at dksX10_init_9 3 rfl rfl)
theorem dX10_init_212 : decode cX10_init 212 = .ok (.putfield 94, 3) := dk_181 0 94 (dk_at dksX10_init_9 5 rfl rfl)
theorem dX10_init_215 : decode cX10_init 215 = .ok (.aload_n 0, 1) := dk_42 (dk_at dksX10_init_9 8 rfl rfl)
theorem dX10_init_216 : decode cX10_init 216 = .ok (.bipush 8, 2) := dk_16 8 (dk_at dksX10_init_9 9 rfl rfl)
theorem dX10_init_218 : decode cX10_init 218 = .ok (.newarray .int, 2) := dk_188_10 (dk_at dksX10_init_9 11 rfl rfl)
theorem dX10_init_220 : decode cX10_init 220 = .ok (.putfield 97, 3) := dk_181 0 97 (dk_at dksX10_init_9 13 rfl rfl)
theorem dX10_init_223 : decode cX10_init 223 = .ok (.aload_n 0, 1) := dk_42 (dk_at dksX10_init_9 16 rfl rfl)
theorem dX10_init_224 : decode cX10_init 224 = .ok (.sipush 260, 3) := dk_17 1 4 (dk_at dksX10_init_9 17 rfl rfl)
theorem dX10_init_227 : decode cX10_init 227 = .ok (.newarray .boolean, 2) := dk_188_4 (dk_at dksX10_init_9 20 rfl rfl)
theorem dX10_init_229 : decode cX10_init 229 = .ok (.putfield 100, 3) := dk_181 0 100 (dk_at dksX10_init_10 0 rfl rfl)
theorem dX10_init_232 : decode cX10_init 232 = .ok (.aload_n 0, 1) := dk_42 (dk_at dksX10_init_10 3 rfl rfl)
theorem dX10_init_233 : decode cX10_init 233 = .ok (.sipush 260, 3) := dk_17 1 4 (dk_at dksX10_init_10 4 rfl rfl)
theorem dX10_init_236 : decode cX10_init 236 = .ok (.newarray .int, 2) := dk_188_10 (dk_at dksX10_init_10 7 rfl rfl)
theorem dX10_init_238 : decode cX10_init 238 = .ok (.putfield 104, 3) := dk_181 0 104 (dk_at dksX10_init_10 9 rfl rfl)
theorem dX10_init_241 : decode cX10_init 241 = .ok (.aload_n 0, 1) := dk_42 (dk_at dksX10_init_10 12 rfl rfl)
theorem dX10_init_242 : decode cX10_init 242 = .ok (.sipush 260, 3) := dk_17 1 4 (dk_at dksX10_init_10 13 rfl rfl)
theorem dX10_init_245 : decode cX10_init 245 = .ok (.newarray .int, 2) := dk_188_10 (dk_at dksX10_init_10 16 rfl rfl)
theorem dX10_init_247 : decode cX10_init 247 = .ok (.putfield 107, 3) := dk_181 0 107 (dk_at dksX10_init_10 18 rfl rfl)
theorem dX10_init_250 : decode cX10_init 250 = .ok (.aload_n 0, 1) := dk_42 (dk_at dksX10_init_10 21 rfl rfl)
theorem dX10_init_251 : decode cX10_init 251 = .ok (.sipush 260, 3) := dk_17 1 4 (dk_at dksX10_init_11 0 rfl rfl)
theorem dX10_init_254 : decode cX10_init 254 = .ok (.newarray .int, 2) := dk_188_10 (dk_at dksX10_init_11 3 rfl rfl)
theorem dX10_init_256 : decode cX10_init 256 = .ok (.putfield 110, 3) := dk_181 0 110 (dk_at dksX10_init_11 5 rfl rfl)
theorem dX10_init_259 : decode cX10_init 259 = .ok (.aload_n 0, 1) := dk_42 (dk_at dksX10_init_11 8 rfl rfl)
theorem dX10_init_260 : decode cX10_init 260 = .ok (.sipush 260, 3) := dk_17 1 4 (dk_at dksX10_init_11 9 rfl rfl)
theorem dX10_init_263 : decode cX10_init 263 = .ok (.newarray .int, 2) := dk_188_10 (dk_at dksX10_init_11 12 rfl rfl)
theorem dX10_init_265 : decode cX10_init 265 = .ok (.putfield 113, 3) := dk_181 0 113 (dk_at dksX10_init_11 14 rfl rfl)
theorem dX10_init_268 : decode cX10_init 268 = .ok (.aload_n 0, 1) := dk_42 (dk_at dksX10_init_11 17 rfl rfl)
theorem dX10_init_269 : decode cX10_init 269 = .ok (.sipush 840, 3) := dk_17 3 72 (dk_at dksX10_init_11 18 rfl rfl)
theorem dX10_init_272 : decode cX10_init 272 = .ok (.newarray .int, 2) := dk_188_10 (dk_at dksX10_init_11 21 rfl rfl)
theorem dX10_init_274 : decode cX10_init 274 = .ok (.putfield 116, 3) := dk_181 0 116 (dk_at dksX10_init_12 0 rfl rfl)
theorem dX10_init_277 : decode cX10_init 277 = .ok (.aload_n 0, 1) := dk_42 (dk_at dksX10_init_12 3 rfl rfl)
theorem dX10_init_278 : decode cX10_init 278 = .ok (.sipush 840, 3) := dk_17 3 72 (dk_at dksX10_init_12 4 rfl rfl)
theorem dX10_init_281 : decode cX10_init 281 = .ok (.newarray .int, 2) := dk_188_10 (dk_at dksX10_init_12 7 rfl rfl)
theorem dX10_init_283 : decode cX10_init 283 = .ok (.putfield 119, 3) := dk_181 0 119 (dk_at dksX10_init_12 9 rfl rfl)
theorem dX10_init_286 : decode cX10_init 286 = .ok (.aload_n 0, 1) := dk_42 (dk_at dksX10_init_12 12 rfl rfl)
theorem dX10_init_287 : decode cX10_init 287 = .ok (.bipush 64, 2) := dk_16 64 (dk_at dksX10_init_12 13 rfl rfl)
theorem dX10_init_289 : decode cX10_init 289 = .ok (.newarray .int, 2) := dk_188_10 (dk_at dksX10_init_12 15 rfl rfl)
theorem dX10_init_291 : decode cX10_init 291 = .ok (.putfield 122, 3) := dk_181 0 122 (dk_at dksX10_init_12 17 rfl rfl)
theorem dX10_init_294 : decode cX10_init 294 = .ok (.aload_n 0, 1) := dk_42 (dk_at dksX10_init_12 20 rfl rfl)
theorem dX10_init_295 : decode cX10_init 295 = .ok (.bipush 9, 2) := dk_16 9 (dk_at dksX10_init_12 21 rfl rfl)
theorem dX10_init_297 : decode cX10_init 297 = .ok (.newarray .int, 2) := dk_188_10 (dk_at dksX10_init_13 0 rfl rfl)
theorem dX10_init_299 : decode cX10_init 299 = .ok (.putfield 125, 3) := dk_181 0 125 (dk_at dksX10_init_13 2 rfl rfl)
theorem dX10_init_302 : decode cX10_init 302 = .ok (.aload_n 0, 1) := dk_42 (dk_at dksX10_init_13 5 rfl rfl)
theorem dX10_init_303 : decode cX10_init 303 = .ok (.sipush 400, 3) := dk_17 1 144 (dk_at dksX10_init_13 6 rfl rfl)
theorem dX10_init_306 : decode cX10_init 306 = .ok (.newarray .int, 2) := dk_188_10 (dk_at dksX10_init_13 9 rfl rfl)
theorem dX10_init_308 : decode cX10_init 308 = .ok (.putfield 128, 3) := dk_181 0 128 (dk_at dksX10_init_13 11 rfl rfl)
theorem dX10_init_311 : decode cX10_init 311 = .ok (.aload_n 0, 1) := dk_42 (dk_at dksX10_init_13 14 rfl rfl)
theorem dX10_init_312 : decode cX10_init 312 = .ok (.bipush 49, 2) := dk_16 49 (dk_at dksX10_init_13 15 rfl rfl)
theorem dX10_init_314 : decode cX10_init 314 = .ok (.newarray .int, 2) := dk_188_10 (dk_at dksX10_init_13 17 rfl rfl)
theorem dX10_init_316 : decode cX10_init 316 = .ok (.putfield 131, 3) := dk_181 0 131 (dk_at dksX10_init_13 19 rfl rfl)
theorem dX10_init_319 : decode cX10_init 319 = .ok (.aload_n 0, 1) := dk_42 (dk_at dksX10_init_13 22 rfl rfl)
theorem dX10_init_320 : decode cX10_init 320 = .ok (.bipush 77, 2) := dk_16 77 (dk_at dksX10_init_14 0 rfl rfl)
theorem dX10_init_322 : decode cX10_init 322 = .ok (.newarray .int, 2) := dk_188_10 (dk_at dksX10_init_14 2 rfl rfl)
theorem dX10_init_324 : decode cX10_init 324 = .ok (.putfield 134, 3) := dk_181 0 134 (dk_at dksX10_init_14 4 rfl rfl)
theorem dX10_init_327 : decode cX10_init 327 = .ok (.aload_n 0, 1) := dk_42 (dk_at dksX10_init_14 7 rfl rfl)
theorem dX10_init_328 : decode cX10_init 328 = .ok (.bipush 77, 2) := dk_16 77 (dk_at dksX10_init_14 8 rfl rfl)
theorem dX10_init_330 : decode cX10_init 330 = .ok (.newarray .int, 2) := dk_188_10 (dk_at dksX10_init_14 10 rfl rfl)
theorem dX10_init_332 : decode cX10_init 332 = .ok (.putfield 137, 3) := dk_181 0 137 (dk_at dksX10_init_14 12 rfl rfl)
theorem dX10_init_335 : decode cX10_init 335 = .ok (.aload_n 0, 1) := dk_42 (dk_at dksX10_init_14 15 rfl rfl)
theorem dX10_init_336 : decode cX10_init 336 = .ok (.sipush 3080, 3) := dk_17 12 8 (dk_at dksX10_init_14 16 rfl rfl)
theorem dX10_init_339 : decode cX10_init 339 = .ok (.newarray .int, 2) := dk_188_10 (dk_at dksX10_init_14 19 rfl rfl)
theorem dX10_init_341 : decode cX10_init 341 = .ok (.putfield 140, 3) := dk_181 0 140 (dk_at dksX10_init_14 21 rfl rfl)
theorem dX10_init_344 : decode cX10_init 344 = .ok (.aload_n 0, 1) := dk_42 (dk_at dksX10_init_15 0 rfl rfl)
theorem dX10_init_345 : decode cX10_init 345 = .ok (.sipush 896, 3) := dk_17 3 128 (dk_at dksX10_init_15 1 rfl rfl)
theorem dX10_init_348 : decode cX10_init 348 = .ok (.newarray .int, 2) := dk_188_10 (dk_at dksX10_init_15 4 rfl rfl)
theorem dX10_init_350 : decode cX10_init 350 = .ok (.putfield 143, 3) := dk_181 0 143 (dk_at dksX10_init_15 6 rfl rfl)
theorem dX10_init_353 : decode cX10_init 353 = .ok (.aload_n 0, 1) := dk_42 (dk_at dksX10_init_15 9 rfl rfl)
theorem dX10_init_354 : decode cX10_init 354 = .ok (.bipush 20, 2) := dk_16 20 (dk_at dksX10_init_15 10 rfl rfl)
theorem dX10_init_356 : decode cX10_init 356 = .ok (.newarray .int, 2) := dk_188_10 (dk_at dksX10_init_15 12 rfl rfl)
theorem dX10_init_358 : decode cX10_init 358 = .ok (.putfield 146, 3) := dk_181 0 146 (dk_at dksX10_init_15 14 rfl rfl)
theorem dX10_init_361 : decode cX10_init 361 = .ok (.aload_n 0, 1) := dk_42 (dk_at dksX10_init_15 17 rfl rfl)
theorem dX10_init_362 : decode cX10_init 362 = .ok (.bipush 20, 2) := dk_16 20 (dk_at dksX10_init_15 18 rfl rfl)
theorem dX10_init_364 : decode cX10_init 364 = .ok (.newarray .boolean, 2) := dk_188_4 (dk_at dksX10_init_15 20 rfl rfl)
theorem dX10_init_366 : decode cX10_init 366 = .ok (.putfield 149, 3) := dk_181 0 149 (dk_at dksX10_init_16 0 rfl rfl)
theorem dX10_init_369 : decode cX10_init 369 = .ok (.aload_n 0, 1) := dk_42 (dk_at dksX10_init_16 3 rfl rfl)
theorem dX10_init_370 : decode cX10_init 370 = .ok (.iconst 4, 1) := dk_7 (dk_at dksX10_init_16 4 rfl rfl)
theorem dX10_init_371 : decode cX10_init 371 = .ok (.newarray .int, 2) := dk_188_10 (dk_at dksX10_init_16 5 rfl rfl)
theorem dX10_init_373 : decode cX10_init 373 = .ok (.putfield 152, 3) := dk_181 0 152 (dk_at dksX10_init_16 7 rfl rfl)
theorem dX10_init_376 : decode cX10_init 376 = .ok (.aload_n 0, 1) := dk_42 (dk_at dksX10_init_16 10 rfl rfl)
theorem dX10_init_377 : decode cX10_init 377 = .ok (.iconst 3, 1) := dk_6 (dk_at dksX10_init_16 11 rfl rfl)
theorem dX10_init_378 : decode cX10_init 378 = .ok (.newarray .boolean, 2) := dk_188_4 (dk_at dksX10_init_16 12 rfl rfl)
theorem dX10_init_380 : decode cX10_init 380 = .ok (.putfield 155, 3) := dk_181 0 155 (dk_at dksX10_init_16 14 rfl rfl)
theorem dX10_init_383 : decode cX10_init 383 = .ok (.aload_n 0, 1) := dk_42 (dk_at dksX10_init_16 17 rfl rfl)
theorem dX10_init_384 : decode cX10_init 384 = .ok (.sipush 231, 3) := dk_17 0 231 (dk_at dksX10_init_16 18 rfl rfl)
theorem dX10_init_387 : decode cX10_init 387 = .ok (.newarray .int, 2) := dk_188_10 (dk_at dksX10_init_16 21 rfl rfl)
theorem dX10_init_389 : decode cX10_init 389 = .ok (.putfield 158, 3) := dk_181 0 158 (dk_at dksX10_init_17 0 rfl rfl)
theorem dX10_init_392 : decode cX10_init 392 = .ok (.aload_n 0, 1) := dk_42 (dk_at dksX10_init_17 3 rfl rfl)
theorem dX10_init_393 : decode cX10_init 393 = .ok (.iconst 0, 1) := dk_3 (dk_at dksX10_init_17 4 rfl rfl)
theorem dX10_init_394 : decode cX10_init 394 = .ok (.invokevirtual 161, 3) := dk_182 0 161 (dk_at dksX10_init_17 5 rfl rfl)
theorem dX10_init_397 : decode cX10_init 397 = .ok (.aload_n 0, 1) := dk_42 (dk_at dksX10_init_17 8 rfl rfl)
theorem dX10_init_398 : decode cX10_init 398 = .ok (.getfield 34, 3) := dk_180 0 34 (dk_at dksX10_init_17 9 rfl rfl)
theorem dX10_init_401 : decode cX10_init 401 = .ok (.iconst 0, 1) := dk_3 (dk_at dksX10_init_17 12 rfl rfl)
theorem dX10_init_402 : decode cX10_init 402 = .ok (.bipush 112, 2) := dk_16 112 (dk_at dksX10_init_17 13 rfl rfl)
theorem dX10_init_404 : decode cX10_init 404 = .ok (.bipush 108, 2) := dk_16 108 (dk_at dksX10_init_17 15 rfl rfl)
theorem dX10_init_406 : decode cX10_init 406 = .ok (.bipush 97, 2) := dk_16 97 (dk_at dksX10_init_17 17 rfl rfl)
theorem dX10_init_408 : decode cX10_init 408 = .ok (.bipush 99, 2) := dk_16 99 (dk_at dksX10_init_17 19 rfl rfl)
theorem dX10_init_410 : decode cX10_init 410 = .ok (.bipush 101, 2) := dk_16 101 (dk_at dksX10_init_17 21 rfl rfl)
theorem dX10_init_412 : decode cX10_init 412 = .ok (.iconst 0, 1) := dk_3 (dk_at dksX10_init_17 23 rfl rfl)
theorem dX10_init_413 : decode cX10_init 413 = .ok (.iconst 0, 1) := dk_3 (dk_at dksX10_init_18 0 rfl rfl)
theorem dX10_init_414 : decode cX10_init 414 = .ok (.invokestatic 165, 3) := dk_184 0 165 (dk_at dksX10_init_18 1 rfl rfl)
theorem dX10_init_417 : decode cX10_init 417 = .ok (.lastore, 1) := dk_80 (dk_at dksX10_init_18 4 rfl rfl)
theorem dX10_init_418 : decode cX10_init 418 = .ok (.aload_n 0, 1) := dk_42 (dk_at dksX10_init_18 5 rfl rfl)
theorem dX10_init_419 : decode cX10_init 419 = .ok (.getfield 34, 3) := dk_180 0 34 (dk_at dksX10_init_18 6 rfl rfl)
theorem dX10_init_422 : decode cX10_init 422 = .ok (.iconst 1, 1) := dk_4 (dk_at dksX10_init_18 9 rfl rfl)
theorem dX10_init_423 : decode cX10_init 423 = .ok (.bipush 112, 2) := dk_16 112 (dk_at dksX10_init_18 10 rfl rfl)
theorem dX10_init_425 : decode cX10_init 425 = .ok (.bipush 97, 2) := dk_16 97 (dk_at dksX10_init_18 12 rfl rfl)
theorem dX10_init_427 : decode cX10_init 427 = .ok (.bipush 116, 2) := dk_16 116 (dk_at dksX10_init_18 14 rfl rfl)
theorem dX10_init_429 : decode cX10_init 429 = .ok (.bipush 104, 2) := dk_16 104 (dk_at dksX10_init_18 16 rfl rfl)
theorem dX10_init_431 : decode cX10_init 431 = .ok (.iconst 0, 1) := dk_3 (dk_at dksX10_init_18 18 rfl rfl)
theorem dX10_init_432 : decode cX10_init 432 = .ok (.iconst 0, 1) := dk_3 (dk_at dksX10_init_18 19 rfl rfl)
theorem dX10_init_433 : decode cX10_init 433 = .ok (.iconst 0, 1) := dk_3 (dk_at dksX10_init_18 20 rfl rfl)
theorem dX10_init_434 : decode cX10_init 434 = .ok (.invokestatic 165, 3) := dk_184 0 165 (dk_at dksX10_init_18 21 rfl rfl)
theorem dX10_init_437 : decode cX10_init 437 = .ok (.lastore, 1) := dk_80 (dk_at dksX10_init_19 0 rfl rfl)
theorem dX10_init_438 : decode cX10_init 438 = .ok (.aload_n 0, 1) := dk_42 (dk_at dksX10_init_19 1 rfl rfl)
theorem dX10_init_439 : decode cX10_init 439 = .ok (.getfield 34, 3) := dk_180 0 34 (dk_at dksX10_init_19 2 rfl rfl)
theorem dX10_init_442 : decode cX10_init 442 = .ok (.iconst 2, 1) := dk_5 (dk_at dksX10_init_19 5 rfl rfl)
theorem dX10_init_443 : decode cX10_init 443 = .ok (.bipush 100, 2) := dk_16 100 (dk_at dksX10_init_19 6 rfl rfl)
theorem dX10_init_445 : decode cX10_init 445 = .ok (.bipush 111, 2) := dk_16 111 (dk_at dksX10_init_19 8 rfl rfl)
theorem dX10_init_447 : decode cX10_init 447 = .ok (.bipush 103, 2) := dk_16 103 (dk_at dksX10_init_19 10 rfl rfl)
theorem dX10_init_449 : decode cX10_init 449 = .ok (.iconst 0, 1) := dk_3 (dk_at dksX10_init_19 12 rfl rfl)
theorem dX10_init_450 : decode cX10_init 450 = .ok (.iconst 0, 1) := dk_3 (dk_at dksX10_init_19 13 rfl rfl)
theorem dX10_init_451 : decode cX10_init 451 = .ok (.iconst 0, 1) := dk_3 (dk_at dksX10_init_19 14 rfl rfl)
theorem dX10_init_452 : decode cX10_init 452 = .ok (.iconst 0, 1) := dk_3 (dk_at dksX10_init_19 15 rfl rfl)
theorem dX10_init_453 : decode cX10_init 453 = .ok (.invokestatic 165, 3) := dk_184 0 165 (dk_at dksX10_init_19 16 rfl rfl)
theorem dX10_init_456 : decode cX10_init 456 = .ok (.lastore, 1) := dk_80 (dk_at dksX10_init_19 19 rfl rfl)
theorem dX10_init_457 : decode cX10_init 457 = .ok (.aload_n 0, 1) := dk_42 (dk_at dksX10_init_19 20 rfl rfl)
theorem dX10_init_458 : decode cX10_init 458 = .ok (.getfield 34, 3) := dk_180 0 34 (dk_at dksX10_init_19 21 rfl rfl)
theorem dX10_init_461 : decode cX10_init 461 = .ok (.iconst 3, 1) := dk_6 (dk_at dksX10_init_20 0 rfl rfl)
theorem dX10_init_462 : decode cX10_init 462 = .ok (.bipush 112, 2) := dk_16 112 (dk_at dksX10_init_20 1 rfl rfl)
theorem dX10_init_464 : decode cX10_init 464 = .ok (.bipush 101, 2) := dk_16 101 (dk_at dksX10_init_20 3 rfl rfl)
theorem dX10_init_466 : decode cX10_init 466 = .ok (.bipush 114, 2) := dk_16 114 (dk_at dksX10_init_20 5 rfl rfl)
theorem dX10_init_468 : decode cX10_init 468 = .ok (.bipush 115, 2) := dk_16 115 (dk_at dksX10_init_20 7 rfl rfl)
theorem dX10_init_470 : decode cX10_init 470 = .ok (.bipush 111, 2) := dk_16 111 (dk_at dksX10_init_20 9 rfl rfl)
theorem dX10_init_472 : decode cX10_init 472 = .ok (.bipush 110, 2) := dk_16 110 (dk_at dksX10_init_20 11 rfl rfl)
theorem dX10_init_474 : decode cX10_init 474 = .ok (.iconst 0, 1) := dk_3 (dk_at dksX10_init_20 13 rfl rfl)
theorem dX10_init_475 : decode cX10_init 475 = .ok (.invokestatic 165, 3) := dk_184 0 165 (dk_at dksX10_init_20 14 rfl rfl)
theorem dX10_init_478 : decode cX10_init 478 = .ok (.lastore, 1) := dk_80 (dk_at dksX10_init_20 17 rfl rfl)
theorem dX10_init_479 : decode cX10_init 479 = .ok (.aload_n 0, 1) := dk_42 (dk_at dksX10_init_20 18 rfl rfl)
theorem dX10_init_480 : decode cX10_init 480 = .ok (.getfield 34, 3) := dk_180 0 34 (dk_at dksX10_init_20 19 rfl rfl)
theorem dX10_init_483 : decode cX10_init 483 = .ok (.iconst 4, 1) := dk_7 (dk_at dksX10_init_20 22 rfl rfl)
theorem dX10_init_484 : decode cX10_init 484 = .ok (.bipush 101, 2) := dk_16 101 (dk_at dksX10_init_21 0 rfl rfl)
theorem dX10_init_486 : decode cX10_init 486 = .ok (.bipush 114, 2) := dk_16 114 (dk_at dksX10_init_21 2 rfl rfl)
theorem dX10_init_488 : decode cX10_init 488 = .ok (.bipush 114, 2) := dk_16 114 (dk_at dksX10_init_21 4 rfl rfl)
theorem dX10_init_490 : decode cX10_init 490 = .ok (.bipush 97, 2) := dk_16 97 (dk_at dksX10_init_21 6 rfl rfl)
theorem dX10_init_492 : decode cX10_init 492 = .ok (.bipush 110, 2) := dk_16 110 (dk_at dksX10_init_21 8 rfl rfl)
theorem dX10_init_494 : decode cX10_init 494 = .ok (.bipush 100, 2) := dk_16 100 (dk_at dksX10_init_21 10 rfl rfl)
theorem dX10_init_496 : decode cX10_init 496 = .ok (.iconst 0, 1) := dk_3 (dk_at dksX10_init_21 12 rfl rfl)
theorem dX10_init_497 : decode cX10_init 497 = .ok (.invokestatic 165, 3) := dk_184 0 165 (dk_at dksX10_init_21 13 rfl rfl)
theorem dX10_init_500 : decode cX10_init 500 = .ok (.lastore, 1) := dk_80 (dk_at dksX10_init_21 16 rfl rfl)
theorem dX10_init_501 : decode cX10_init 501 = .ok (.aload_n 0, 1) := dk_42 (dk_at dksX10_init_21 17 rfl rfl)
theorem dX10_init_502 : decode cX10_init 502 = .ok (.getfield 34, 3) := dk_180 0 34 (dk_at dksX10_init_21 18 rfl rfl)
theorem dX10_init_505 : decode cX10_init 505 = .ok (.iconst 5, 1) := dk_8 (dk_at dksX10_init_21 21 rfl rfl)
theorem dX10_init_506 : decode cX10_init 506 = .ok (.bipush 119, 2) := dk_16 119 (dk_at dksX10_init_21 22 rfl rfl)
theorem dX10_init_508 : decode cX10_init 508 = .ok (.bipush 97, 2) := dk_16 97 (dk_at dksX10_init_22 0 rfl rfl)
theorem dX10_init_510 : decode cX10_init 510 = .ok (.bipush 110, 2) := dk_16 110 (dk_at dksX10_init_22 2 rfl rfl)
theorem dX10_init_512 : decode cX10_init 512 = .ok (.bipush 116, 2) := dk_16 116 (dk_at dksX10_init_22 4 rfl rfl)
theorem dX10_init_514 : decode cX10_init 514 = .ok (.bipush 115, 2) := dk_16 115 (dk_at dksX10_init_22 6 rfl rfl)
theorem dX10_init_516 : decode cX10_init 516 = .ok (.iconst 0, 1) := dk_3 (dk_at dksX10_init_22 8 rfl rfl)
theorem dX10_init_517 : decode cX10_init 517 = .ok (.iconst 0, 1) := dk_3 (dk_at dksX10_init_22 9 rfl rfl)
theorem dX10_init_518 : decode cX10_init 518 = .ok (.invokestatic 165, 3) := dk_184 0 165 (dk_at dksX10_init_22 10 rfl rfl)
theorem dX10_init_521 : decode cX10_init 521 = .ok (.lastore, 1) := dk_80 (dk_at dksX10_init_22 13 rfl rfl)
theorem dX10_init_522 : decode cX10_init 522 = .ok (.aload_n 0, 1) := dk_42 (dk_at dksX10_init_22 14 rfl rfl)
theorem dX10_init_523 : decode cX10_init 523 = .ok (.getfield 34, 3) := dk_180 0 34 (dk_at dksX10_init_22 15 rfl rfl)
theorem dX10_init_526 : decode cX10_init 526 = .ok (.bipush 6, 2) := dk_16 6 (dk_at dksX10_init_22 18 rfl rfl)
theorem dX10_init_528 : decode cX10_init 528 = .ok (.bipush 116, 2) := dk_16 116 (dk_at dksX10_init_22 20 rfl rfl)
theorem dX10_init_530 : decode cX10_init 530 = .ok (.bipush 97, 2) := dk_16 97 (dk_at dksX10_init_22 22 rfl rfl)
theorem dX10_init_532 : decode cX10_init 532 = .ok (.bipush 107, 2) := dk_16 107 (dk_at dksX10_init_23 0 rfl rfl)
theorem dX10_init_534 : decode cX10_init 534 = .ok (.bipush 101, 2) := dk_16 101 (dk_at dksX10_init_23 2 rfl rfl)
theorem dX10_init_536 : decode cX10_init 536 = .ok (.bipush 115, 2) := dk_16 115 (dk_at dksX10_init_23 4 rfl rfl)
theorem dX10_init_538 : decode cX10_init 538 = .ok (.iconst 0, 1) := dk_3 (dk_at dksX10_init_23 6 rfl rfl)
theorem dX10_init_539 : decode cX10_init 539 = .ok (.iconst 0, 1) := dk_3 (dk_at dksX10_init_23 7 rfl rfl)
theorem dX10_init_540 : decode cX10_init 540 = .ok (.invokestatic 165, 3) := dk_184 0 165 (dk_at dksX10_init_23 8 rfl rfl)
theorem dX10_init_543 : decode cX10_init 543 = .ok (.lastore, 1) := dk_80 (dk_at dksX10_init_23 11 rfl rfl)
theorem dX10_init_544 : decode cX10_init 544 = .ok (.aload_n 0, 1) := dk_42 (dk_at dksX10_init_23 12 rfl rfl)
theorem dX10_init_545 : decode cX10_init 545 = .ok (.getfield 34, 3) := dk_180 0 34 (dk_at dksX10_init_23 13 rfl rfl)
theorem dX10_init_548 : decode cX10_init 548 = .ok (.bipush 7, 2) := dk_16 7 (dk_at dksX10_init_23 16 rfl rfl)
theorem dX10_init_550 : decode cX10_init 550 = .ok (.bipush 102, 2) := dk_16 102 (dk_at dksX10_init_23 18 rfl rfl)
theorem dX10_init_552 : decode cX10_init 552 = .ok (.bipush 97, 2) := dk_16 97 (dk_at dksX10_init_23 20 rfl rfl)
theorem dX10_init_554 : decode cX10_init 554 = .ok (.bipush 100, 2) := dk_16 100 (dk_at dksX10_init_23 22 rfl rfl)
theorem dX10_init_556 : decode cX10_init 556 = .ok (.bipush 101, 2) := dk_16 101 (dk_at dksX10_init_24 0 rfl rfl)
theorem dX10_init_558 : decode cX10_init 558 = .ok (.bipush 115, 2) := dk_16 115 (dk_at dksX10_init_24 2 rfl rfl)
theorem dX10_init_560 : decode cX10_init 560 = .ok (.iconst 0, 1) := dk_3 (dk_at dksX10_init_24 4 rfl rfl)
theorem dX10_init_561 : decode cX10_init 561 = .ok (.iconst 0, 1) := dk_3 (dk_at dksX10_init_24 5 rfl rfl)
theorem dX10_init_562 : decode cX10_init 562 = .ok (.invokestatic 165, 3) := dk_184 0 165 (dk_at dksX10_init_24 6 rfl rfl)
theorem dX10_init_565 : decode cX10_init 565 = .ok (.lastore, 1) := dk_80 (dk_at dksX10_init_24 9 rfl rfl)
theorem dX10_init_566 : decode cX10_init 566 = .ok (.aload_n 0, 1) := dk_42 (dk_at dksX10_init_24 10 rfl rfl)
theorem dX10_init_567 : decode cX10_init 567 = .ok (.getfield 34, 3) := dk_180 0 34 (dk_at dksX10_init_24 11 rfl rfl)
theorem dX10_init_570 : decode cX10_init 570 = .ok (.bipush 8, 2) := dk_16 8 (dk_at dksX10_init_24 14 rfl rfl)
theorem dX10_init_572 : decode cX10_init 572 = .ok (.bipush 100, 2) := dk_16 100 (dk_at dksX10_init_24 16 rfl rfl)
theorem dX10_init_574 : decode cX10_init 574 = .ok (.bipush 117, 2) := dk_16 117 (dk_at dksX10_init_24 18 rfl rfl)
theorem dX10_init_576 : decode cX10_init 576 = .ok (.bipush 101, 2) := dk_16 101 (dk_at dksX10_init_24 20 rfl rfl)
theorem dX10_init_578 : decode cX10_init 578 = .ok (.bipush 115, 2) := dk_16 115 (dk_at dksX10_init_24 22 rfl rfl)
theorem dX10_init_580 : decode cX10_init 580 = .ok (.iconst 0, 1) := dk_3 (dk_at dksX10_init_25 0 rfl rfl)
theorem dX10_init_581 : decode cX10_init 581 = .ok (.iconst 0, 1) := dk_3 (dk_at dksX10_init_25 1 rfl rfl)
theorem dX10_init_582 : decode cX10_init 582 = .ok (.iconst 0, 1) := dk_3 (dk_at dksX10_init_25 2 rfl rfl)
theorem dX10_init_583 : decode cX10_init 583 = .ok (.invokestatic 165, 3) := dk_184 0 165 (dk_at dksX10_init_25 3 rfl rfl)
theorem dX10_init_586 : decode cX10_init 586 = .ok (.lastore, 1) := dk_80 (dk_at dksX10_init_25 6 rfl rfl)
theorem dX10_init_587 : decode cX10_init 587 = .ok (.aload_n 0, 1) := dk_42 (dk_at dksX10_init_25 7 rfl rfl)
theorem dX10_init_588 : decode cX10_init 588 = .ok (.getfield 34, 3) := dk_180 0 34 (dk_at dksX10_init_25 8 rfl rfl)
theorem dX10_init_591 : decode cX10_init 591 = .ok (.bipush 9, 2) := dk_16 9 (dk_at dksX10_init_25 11 rfl rfl)
theorem dX10_init_593 : decode cX10_init 593 = .ok (.bipush 104, 2) := dk_16 104 (dk_at dksX10_init_25 13 rfl rfl)
theorem dX10_init_595 : decode cX10_init 595 = .ok (.bipush 111, 2) := dk_16 111 (dk_at dksX10_init_25 15 rfl rfl)
theorem dX10_init_597 : decode cX10_init 597 = .ok (.bipush 117, 2) := dk_16 117 (dk_at dksX10_init_25 17 rfl rfl)
theorem dX10_init_599 : decode cX10_init 599 = .ok (.bipush 114, 2) := dk_16 114 (dk_at dksX10_init_25 19 rfl rfl)
theorem dX10_init_601 : decode cX10_init 601 = .ok (.iconst 0, 1) := dk_3 (dk_at dksX10_init_25 21 rfl rfl)
theorem dX10_init_602 : decode cX10_init 602 = .ok (.iconst 0, 1) := dk_3 (dk_at dksX10_init_25 22 rfl rfl)
theorem dX10_init_603 : decode cX10_init 603 = .ok (.iconst 0, 1) := dk_3 (dk_at dksX10_init_25 23 rfl rfl)
theorem dX10_init_604 : decode cX10_init 604 = .ok (.invokestatic 165, 3) := dk_184 0 165 (dk_at dksX10_init_26 0 rfl rfl)
theorem dX10_init_607 : decode cX10_init 607 = .ok (.lastore, 1) := dk_80 (dk_at dksX10_init_26 3 rfl rfl)
theorem dX10_init_608 : decode cX10_init 608 = .ok (.aload_n 0, 1) := dk_42 (dk_at dksX10_init_26 4 rfl rfl)
theorem dX10_init_609 : decode cX10_init 609 = .ok (.getfield 34, 3) := dk_180 0 34 (dk_at dksX10_init_26 5 rfl rfl)
theorem dX10_init_612 : decode cX10_init 612 = .ok (.bipush 10, 2) := dk_16 10 (dk_at dksX10_init_26 8 rfl rfl)
theorem dX10_init_614 : decode cX10_init 614 = .ok (.bipush 98, 2) := dk_16 98 (dk_at dksX10_init_26 10 rfl rfl)
theorem dX10_init_616 : decode cX10_init 616 = .ok (.bipush 101, 2) := dk_16 101 (dk_at dksX10_init_26 12 rfl rfl)
theorem dX10_init_618 : decode cX10_init 618 = .ok (.bipush 103, 2) := dk_16 103 (dk_at dksX10_init_26 14 rfl rfl)
theorem dX10_init_620 : decode cX10_init 620 = .ok (.bipush 105, 2) := dk_16 105 (dk_at dksX10_init_26 16 rfl rfl)
theorem dX10_init_622 : decode cX10_init 622 = .ok (.bipush 110, 2) := dk_16 110 (dk_at dksX10_init_26 18 rfl rfl)
theorem dX10_init_624 : decode cX10_init 624 = .ok (.bipush 115, 2) := dk_16 115 (dk_at dksX10_init_26 20 rfl rfl)
theorem dX10_init_626 : decode cX10_init 626 = .ok (.iconst 0, 1) := dk_3 (dk_at dksX10_init_26 22 rfl rfl)
theorem dX10_init_627 : decode cX10_init 627 = .ok (.invokestatic 165, 3) := dk_184 0 165 (dk_at dksX10_init_27 0 rfl rfl)
theorem dX10_init_630 : decode cX10_init 630 = .ok (.lastore, 1) := dk_80 (dk_at dksX10_init_27 3 rfl rfl)
theorem dX10_init_631 : decode cX10_init 631 = .ok (.aload_n 0, 1) := dk_42 (dk_at dksX10_init_27 4 rfl rfl)
theorem dX10_init_632 : decode cX10_init 632 = .ok (.getfield 34, 3) := dk_180 0 34 (dk_at dksX10_init_27 5 rfl rfl)
theorem dX10_init_635 : decode cX10_init 635 = .ok (.bipush 11, 2) := dk_16 11 (dk_at dksX10_init_27 8 rfl rfl)
theorem dX10_init_637 : decode cX10_init 637 = .ok (.bipush 105, 2) := dk_16 105 (dk_at dksX10_init_27 10 rfl rfl)
theorem dX10_init_639 : decode cX10_init 639 = .ok (.bipush 102, 2) := dk_16 102 (dk_at dksX10_init_27 12 rfl rfl)
theorem dX10_init_641 : decode cX10_init 641 = .ok (.iconst 0, 1) := dk_3 (dk_at dksX10_init_27 14 rfl rfl)
theorem dX10_init_642 : decode cX10_init 642 = .ok (.iconst 0, 1) := dk_3 (dk_at dksX10_init_27 15 rfl rfl)
theorem dX10_init_643 : decode cX10_init 643 = .ok (.iconst 0, 1) := dk_3 (dk_at dksX10_init_27 16 rfl rfl)
theorem dX10_init_644 : decode cX10_init 644 = .ok (.iconst 0, 1) := dk_3 (dk_at dksX10_init_27 17 rfl rfl)
theorem dX10_init_645 : decode cX10_init 645 = .ok (.iconst 0, 1) := dk_3 (dk_at dksX10_init_27 18 rfl rfl)
theorem dX10_init_646 : decode cX10_init 646 = .ok (.invokestatic 165, 3) := dk_184 0 165 (dk_at dksX10_init_27 19 rfl rfl)
theorem dX10_init_649 : decode cX10_init 649 = .ok (.lastore, 1) := dk_80 (dk_at dksX10_init_27 22 rfl rfl)
theorem dX10_init_650 : decode cX10_init 650 = .ok (.aload_n 0, 1) := dk_42 (dk_at dksX10_init_27 23 rfl rfl)
theorem dX10_init_651 : decode cX10_init 651 = .ok (.getfield 34, 3) := dk_180 0 34 (dk_at dksX10_init_28 0 rfl rfl)
theorem dX10_init_654 : decode cX10_init 654 = .ok (.bipush 12, 2) := dk_16 12 (dk_at dksX10_init_28 3 rfl rfl)
theorem dX10_init_656 : decode cX10_init 656 = .ok (.bipush 116, 2) := dk_16 116 (dk_at dksX10_init_28 5 rfl rfl)
theorem dX10_init_658 : decode cX10_init 658 = .ok (.bipush 104, 2) := dk_16 104 (dk_at dksX10_init_28 7 rfl rfl)
theorem dX10_init_660 : decode cX10_init 660 = .ok (.bipush 101, 2) := dk_16 101 (dk_at dksX10_init_28 9 rfl rfl)
theorem dX10_init_662 : decode cX10_init 662 = .ok (.bipush 110, 2) := dk_16 110 (dk_at dksX10_init_28 11 rfl rfl)
theorem dX10_init_664 : decode cX10_init 664 = .ok (.iconst 0, 1) := dk_3 (dk_at dksX10_init_28 13 rfl rfl)
theorem dX10_init_665 : decode cX10_init 665 = .ok (.iconst 0, 1) := dk_3 (dk_at dksX10_init_28 14 rfl rfl)
theorem dX10_init_666 : decode cX10_init 666 = .ok (.iconst 0, 1) := dk_3 (dk_at dksX10_init_28 15 rfl rfl)
theorem dX10_init_667 : decode cX10_init 667 = .ok (.invokestatic 165, 3) := dk_184 0 165 (dk_at dksX10_init_28 16 rfl rfl)
theorem dX10_init_670 : decode cX10_init 670 = .ok (.lastore, 1) := dk_80 (dk_at dksX10_init_28 19 rfl rfl)
theorem dX10_init_671 : decode cX10_init 671 = .ok (.aload_n 0, 1) := dk_42 (dk_at dksX10_init_28 20 rfl rfl)
theorem dX10_init_672 : decode cX10_init 672 = .ok (.getfield 34, 3) := dk_180 0 34 (dk_at dksX10_init_28 21 rfl rfl)
theorem dX10_init_675 : decode cX10_init 675 = .ok (.bipush 13, 2) := dk_16 13 (dk_at dksX10_init_29 0 rfl rfl)
theorem dX10_init_677 : decode cX10_init 677 = .ok (.bipush 101, 2) := dk_16 101 (dk_at dksX10_init_29 2 rfl rfl)
theorem dX10_init_679 : decode cX10_init 679 = .ok (.bipush 108, 2) := dk_16 108 (dk_at dksX10_init_29 4 rfl rfl)
theorem dX10_init_681 : decode cX10_init 681 = .ok (.bipush 115, 2) := dk_16 115 (dk_at dksX10_init_29 6 rfl rfl)
theorem dX10_init_683 : decode cX10_init 683 = .ok (.bipush 101, 2) := dk_16 101 (dk_at dksX10_init_29 8 rfl rfl)
theorem dX10_init_685 : decode cX10_init 685 = .ok (.iconst 0, 1) := dk_3 (dk_at dksX10_init_29 10 rfl rfl)
theorem dX10_init_686 : decode cX10_init 686 = .ok (.iconst 0, 1) := dk_3 (dk_at dksX10_init_29 11 rfl rfl)
theorem dX10_init_687 : decode cX10_init 687 = .ok (.iconst 0, 1) := dk_3 (dk_at dksX10_init_29 12 rfl rfl)
theorem dX10_init_688 : decode cX10_init 688 = .ok (.invokestatic 165, 3) := dk_184 0 165 (dk_at dksX10_init_29 13 rfl rfl)
theorem dX10_init_691 : decode cX10_init 691 = .ok (.lastore, 1) := dk_80 (dk_at dksX10_init_29 16 rfl rfl)
theorem dX10_init_692 : decode cX10_init 692 = .ok (.aload_n 0, 1) := dk_42 (dk_at dksX10_init_29 17 rfl rfl)
theorem dX10_init_693 : decode cX10_init 693 = .ok (.getfield 34, 3) := dk_180 0 34 (dk_at dksX10_init_29 18 rfl rfl)
theorem dX10_init_696 : decode cX10_init 696 = .ok (.bipush 14, 2) := dk_16 14 (dk_at dksX10_init_29 21 rfl rfl)
theorem dX10_init_698 : decode cX10_init 698 = .ok (.bipush 102, 2) := dk_16 102 (dk_at dksX10_init_30 0 rfl rfl)
theorem dX10_init_700 : decode cX10_init 700 = .ok (.bipush 101, 2) := dk_16 101 (dk_at dksX10_init_30 2 rfl rfl)
theorem dX10_init_702 : decode cX10_init 702 = .ok (.bipush 100, 2) := dk_16 100 (dk_at dksX10_init_30 4 rfl rfl)
theorem dX10_init_704 : decode cX10_init 704 = .ok (.iconst 0, 1) := dk_3 (dk_at dksX10_init_30 6 rfl rfl)
theorem dX10_init_705 : decode cX10_init 705 = .ok (.iconst 0, 1) := dk_3 (dk_at dksX10_init_30 7 rfl rfl)
theorem dX10_init_706 : decode cX10_init 706 = .ok (.iconst 0, 1) := dk_3 (dk_at dksX10_init_30 8 rfl rfl)
theorem dX10_init_707 : decode cX10_init 707 = .ok (.iconst 0, 1) := dk_3 (dk_at dksX10_init_30 9 rfl rfl)
theorem dX10_init_708 : decode cX10_init 708 = .ok (.invokestatic 165, 3) := dk_184 0 165 (dk_at dksX10_init_30 10 rfl rfl)
theorem dX10_init_711 : decode cX10_init 711 = .ok (.lastore, 1) := dk_80 (dk_at dksX10_init_30 13 rfl rfl)
theorem dX10_init_712 : decode cX10_init 712 = .ok (.aload_n 0, 1) := dk_42 (dk_at dksX10_init_30 14 rfl rfl)
theorem dX10_init_713 : decode cX10_init 713 = .ok (.getfield 34, 3) := dk_180 0 34 (dk_at dksX10_init_30 15 rfl rfl)
theorem dX10_init_716 : decode cX10_init 716 = .ok (.bipush 15, 2) := dk_16 15 (dk_at dksX10_init_30 18 rfl rfl)
theorem dX10_init_718 : decode cX10_init 718 = .ok (.bipush 107, 2) := dk_16 107 (dk_at dksX10_init_30 20 rfl rfl)
theorem dX10_init_720 : decode cX10_init 720 = .ok (.bipush 105, 2) := dk_16 105 (dk_at dksX10_init_30 22 rfl rfl)
theorem dX10_init_722 : decode cX10_init 722 = .ok (.bipush 99, 2) := dk_16 99 (dk_at dksX10_init_31 0 rfl rfl)
theorem dX10_init_724 : decode cX10_init 724 = .ok (.bipush 107, 2) := dk_16 107 (dk_at dksX10_init_31 2 rfl rfl)
theorem dX10_init_726 : decode cX10_init 726 = .ok (.bipush 101, 2) := dk_16 101 (dk_at dksX10_init_31 4 rfl rfl)
theorem dX10_init_728 : decode cX10_init 728 = .ok (.bipush 100, 2) := dk_16 100 (dk_at dksX10_init_31 6 rfl rfl)
theorem dX10_init_730 : decode cX10_init 730 = .ok (.iconst 0, 1) := dk_3 (dk_at dksX10_init_31 8 rfl rfl)
theorem dX10_init_731 : decode cX10_init 731 = .ok (.invokestatic 165, 3) := dk_184 0 165 (dk_at dksX10_init_31 9 rfl rfl)
theorem dX10_init_734 : decode cX10_init 734 = .ok (.lastore, 1) := dk_80 (dk_at dksX10_init_31 12 rfl rfl)
theorem dX10_init_735 : decode cX10_init 735 = .ok (.aload_n 0, 1) := dk_42 (dk_at dksX10_init_31 13 rfl rfl)
theorem dX10_init_736 : decode cX10_init 736 = .ok (.getfield 34, 3) := dk_180 0 34 (dk_at dksX10_init_31 14 rfl rfl)
theorem dX10_init_739 : decode cX10_init 739 = .ok (.bipush 16, 2) := dk_16 16 (dk_at dksX10_init_31 17 rfl rfl)
theorem dX10_init_741 : decode cX10_init 741 = .ok (.bipush 102, 2) := dk_16 102 (dk_at dksX10_init_31 19 rfl rfl)
theorem dX10_init_743 : decode cX10_init 743 = .ok (.bipush 97, 2) := dk_16 97 (dk_at dksX10_init_31 21 rfl rfl)
theorem dX10_init_745 : decode cX10_init 745 = .ok (.bipush 114, 2) := dk_16 114 (dk_at dksX10_init_32 0 rfl rfl)
theorem dX10_init_747 : decode cX10_init 747 = .ok (.iconst 0, 1) := dk_3 (dk_at dksX10_init_32 2 rfl rfl)
theorem dX10_init_748 : decode cX10_init 748 = .ok (.iconst 0, 1) := dk_3 (dk_at dksX10_init_32 3 rfl rfl)
theorem dX10_init_749 : decode cX10_init 749 = .ok (.iconst 0, 1) := dk_3 (dk_at dksX10_init_32 4 rfl rfl)
theorem dX10_init_750 : decode cX10_init 750 = .ok (.iconst 0, 1) := dk_3 (dk_at dksX10_init_32 5 rfl rfl)
theorem dX10_init_751 : decode cX10_init 751 = .ok (.invokestatic 165, 3) := dk_184 0 165 (dk_at dksX10_init_32 6 rfl rfl)
theorem dX10_init_754 : decode cX10_init 754 = .ok (.lastore, 1) := dk_80 (dk_at dksX10_init_32 9 rfl rfl)
theorem dX10_init_755 : decode cX10_init 755 = .ok (.aload_n 0, 1) := dk_42 (dk_at dksX10_init_32 10 rfl rfl)
theorem dX10_init_756 : decode cX10_init 756 = .ok (.getfield 34, 3) := dk_180 0 34 (dk_at dksX10_init_32 11 rfl rfl)
theorem dX10_init_759 : decode cX10_init 759 = .ok (.bipush 17, 2) := dk_16 17 (dk_at dksX10_init_32 14 rfl rfl)
theorem dX10_init_761 : decode cX10_init 761 = .ok (.bipush 112, 2) := dk_16 112 (dk_at dksX10_init_32 16 rfl rfl)
theorem dX10_init_763 : decode cX10_init 763 = .ok (.bipush 111, 2) := dk_16 111 (dk_at dksX10_init_32 18 rfl rfl)
theorem dX10_init_765 : decode cX10_init 765 = .ok (.bipush 99, 2) := dk_16 99 (dk_at dksX10_init_32 20 rfl rfl)
theorem dX10_init_767 : decode cX10_init 767 = .ok (.bipush 107, 2) := dk_16 107 (dk_at dksX10_init_32 22 rfl rfl)
theorem dX10_init_769 : decode cX10_init 769 = .ok (.bipush 101, 2) := dk_16 101 (dk_at dksX10_init_33 0 rfl rfl)
theorem dX10_init_771 : decode cX10_init 771 = .ok (.bipush 116, 2) := dk_16 116 (dk_at dksX10_init_33 2 rfl rfl)
theorem dX10_init_773 : decode cX10_init 773 = .ok (.iconst 0, 1) := dk_3 (dk_at dksX10_init_33 4 rfl rfl)
theorem dX10_init_774 : decode cX10_init 774 = .ok (.invokestatic 165, 3) := dk_184 0 165 (dk_at dksX10_init_33 5 rfl rfl)
theorem dX10_init_777 : decode cX10_init 777 = .ok (.lastore, 1) := dk_80 (dk_at dksX10_init_33 8 rfl rfl)
theorem dX10_init_778 : decode cX10_init 778 = .ok (.aload_n 0, 1) := dk_42 (dk_at dksX10_init_33 9 rfl rfl)
theorem dX10_init_779 : decode cX10_init 779 = .ok (.getfield 34, 3) := dk_180 0 34 (dk_at dksX10_init_33 10 rfl rfl)
theorem dX10_init_782 : decode cX10_init 782 = .ok (.bipush 18, 2) := dk_16 18 (dk_at dksX10_init_33 13 rfl rfl)
theorem dX10_init_784 : decode cX10_init 784 = .ok (.bipush 98, 2) := dk_16 98 (dk_at dksX10_init_33 15 rfl rfl)
theorem dX10_init_786 : decode cX10_init 786 = .ok (.bipush 105, 2) := dk_16 105 (dk_at dksX10_init_33 17 rfl rfl)
theorem dX10_init_788 : decode cX10_init 788 = .ok (.bipush 116, 2) := dk_16 116 (dk_at dksX10_init_33 19 rfl rfl)
theorem dX10_init_790 : decode cX10_init 790 = .ok (.bipush 101, 2) := dk_16 101 (dk_at dksX10_init_33 21 rfl rfl)
theorem dX10_init_792 : decode cX10_init 792 = .ok (.iconst 0, 1) := dk_3 (dk_at dksX10_init_33 23 rfl rfl)
theorem dX10_init_793 : decode cX10_init 793 = .ok (.iconst 0, 1) := dk_3 (dk_at dksX10_init_34 0 rfl rfl)
theorem dX10_init_794 : decode cX10_init 794 = .ok (.iconst 0, 1) := dk_3 (dk_at dksX10_init_34 1 rfl rfl)
theorem dX10_init_795 : decode cX10_init 795 = .ok (.invokestatic 165, 3) := dk_184 0 165 (dk_at dksX10_init_34 2 rfl rfl)
theorem dX10_init_798 : decode cX10_init 798 = .ok (.lastore, 1) := dk_80 (dk_at dksX10_init_34 5 rfl rfl)
theorem dX10_init_799 : decode cX10_init 799 = .ok (.aload_n 0, 1) := dk_42 (dk_at dksX10_init_34 6 rfl rfl)
theorem dX10_init_800 : decode cX10_init 800 = .ok (.getfield 34, 3) := dk_180 0 34 (dk_at dksX10_init_34 7 rfl rfl)
theorem dX10_init_803 : decode cX10_init 803 = .ok (.bipush 19, 2) := dk_16 19 (dk_at dksX10_init_34 10 rfl rfl)
theorem dX10_init_805 : decode cX10_init 805 = .ok (.bipush 104, 2) := dk_16 104 (dk_at dksX10_init_34 12 rfl rfl)
theorem dX10_init_807 : decode cX10_init 807 = .ok (.bipush 117, 2) := dk_16 117 (dk_at dksX10_init_34 14 rfl rfl)
theorem dX10_init_809 : decode cX10_init 809 = .ok (.bipush 110, 2) := dk_16 110 (dk_at dksX10_init_34 16 rfl rfl)
theorem dX10_init_811 : decode cX10_init 811 = .ok (.bipush 103, 2) := dk_16 103 (dk_at dksX10_init_34 18 rfl rfl)
theorem dX10_init_813 : decode cX10_init 813 = .ok (.bipush 101, 2) := dk_16 101 (dk_at dksX10_init_34 20 rfl rfl)
theorem dX10_init_815 : decode cX10_init 815 = .ok (.bipush 114, 2) := dk_16 114 (dk_at dksX10_init_34 22 rfl rfl)
theorem dX10_init_817 : decode cX10_init 817 = .ok (.iconst 0, 1) := dk_3 (dk_at dksX10_init_35 0 rfl rfl)
theorem dX10_init_818 : decode cX10_init 818 = .ok (.invokestatic 165, 3) := dk_184 0 165 (dk_at dksX10_init_35 1 rfl rfl)
theorem dX10_init_821 : decode cX10_init 821 = .ok (.lastore, 1) := dk_80 (dk_at dksX10_init_35 4 rfl rfl)
theorem dX10_init_822 : decode cX10_init 822 = .ok (.aload_n 0, 1) := dk_42 (dk_at dksX10_init_35 5 rfl rfl)
theorem dX10_init_823 : decode cX10_init 823 = .ok (.getfield 34, 3) := dk_180 0 34 (dk_at dksX10_init_35 6 rfl rfl)
theorem dX10_init_826 : decode cX10_init 826 = .ok (.bipush 20, 2) := dk_16 20 (dk_at dksX10_init_35 9 rfl rfl)
theorem dX10_init_828 : decode cX10_init 828 = .ok (.bipush 109, 2) := dk_16 109 (dk_at dksX10_init_35 11 rfl rfl)
theorem dX10_init_830 : decode cX10_init 830 = .ok (.bipush 105, 2) := dk_16 105 (dk_at dksX10_init_35 13 rfl rfl)
theorem dX10_init_832 : decode cX10_init 832 = .ok (.bipush 110, 2) := dk_16 110 (dk_at dksX10_init_35 15 rfl rfl)
theorem dX10_init_834 : decode cX10_init 834 = .ok (.bipush 117, 2) := dk_16 117 (dk_at dksX10_init_35 17 rfl rfl)
theorem dX10_init_836 : decode cX10_init 836 = .ok (.bipush 116, 2) := dk_16 116 (dk_at dksX10_init_35 19 rfl rfl)
theorem dX10_init_838 : decode cX10_init 838 = .ok (.bipush 101, 2) := dk_16 101 (dk_at dksX10_init_35 21 rfl rfl)
theorem dX10_init_840 : decode cX10_init 840 = .ok (.iconst 0, 1) := dk_3 (dk_at dksX10_init_35 23 rfl rfl)
theorem dX10_init_841 : decode cX10_init 841 = .ok (.invokestatic 165, 3) := dk_184 0 165 (dk_at dksX10_init_36 0 rfl rfl)
theorem dX10_init_844 : decode cX10_init 844 = .ok (.lastore, 1) := dk_80 (dk_at dksX10_init_36 3 rfl rfl)
theorem dX10_init_845 : decode cX10_init 845 = .ok (.aload_n 0, 1) := dk_42 (dk_at dksX10_init_36 4 rfl rfl)
theorem dX10_init_846 : decode cX10_init 846 = .ok (.getfield 34, 3) := dk_180 0 34 (dk_at dksX10_init_36 5 rfl rfl)
theorem dX10_init_849 : decode cX10_init 849 = .ok (.bipush 21, 2) := dk_16 21 (dk_at dksX10_init_36 8 rfl rfl)
theorem dX10_init_851 : decode cX10_init 851 = .ok (.bipush 119, 2) := dk_16 119 (dk_at dksX10_init_36 10 rfl rfl)
theorem dX10_init_853 : decode cX10_init 853 = .ok (.bipush 104, 2) := dk_16 104 (dk_at dksX10_init_36 12 rfl rfl)
theorem dX10_init_855 : decode cX10_init 855 = .ok (.bipush 105, 2) := dk_16 105 (dk_at dksX10_init_36 14 rfl rfl)
theorem dX10_init_857 : decode cX10_init 857 = .ok (.bipush 99, 2) := dk_16 99 (dk_at dksX10_init_36 16 rfl rfl)
theorem dX10_init_859 : decode cX10_init 859 = .ok (.bipush 104, 2) := dk_16 104 (dk_at dksX10_init_36 18 rfl rfl)
theorem dX10_init_861 : decode cX10_init 861 = .ok (.iconst 0, 1) := dk_3 (dk_at dksX10_init_36 20 rfl rfl)
theorem dX10_init_862 : decode cX10_init 862 = .ok (.iconst 0, 1) := dk_3 (dk_at dksX10_init_36 21 rfl rfl)
theorem dX10_init_863 : decode cX10_init 863 = .ok (.invokestatic 165, 3) := dk_184 0 165 (dk_at dksX10_init_37 0 rfl rfl)
theorem dX10_init_866 : decode cX10_init 866 = .ok (.lastore, 1) := dk_80 (dk_at dksX10_init_37 3 rfl rfl)
theorem dX10_init_867 : decode cX10_init 867 = .ok (.aload_n 0, 1) := dk_42 (dk_at dksX10_init_37 4 rfl rfl)
theorem dX10_init_868 : decode cX10_init 868 = .ok (.getfield 34, 3) := dk_180 0 34 (dk_at dksX10_init_37 5 rfl rfl)
theorem dX10_init_871 : decode cX10_init 871 = .ok (.bipush 22, 2) := dk_16 22 (dk_at dksX10_init_37 8 rfl rfl)
theorem dX10_init_873 : decode cX10_init 873 = .ok (.bipush 116, 2) := dk_16 116 (dk_at dksX10_init_37 10 rfl rfl)
theorem dX10_init_875 : decode cX10_init 875 = .ok (.bipush 97, 2) := dk_16 97 (dk_at dksX10_init_37 12 rfl rfl)
theorem dX10_init_877 : decode cX10_init 877 = .ok (.bipush 107, 2) := dk_16 107 (dk_at dksX10_init_37 14 rfl rfl)
theorem dX10_init_879 : decode cX10_init 879 = .ok (.bipush 101, 2) := dk_16 101 (dk_at dksX10_init_37 16 rfl rfl)
theorem dX10_init_881 : decode cX10_init 881 = .ok (.bipush 110, 2) := dk_16 110 (dk_at dksX10_init_37 18 rfl rfl)
theorem dX10_init_883 : decode cX10_init 883 = .ok (.iconst 0, 1) := dk_3 (dk_at dksX10_init_37 20 rfl rfl)
theorem dX10_init_884 : decode cX10_init 884 = .ok (.iconst 0, 1) := dk_3 (dk_at dksX10_init_37 21 rfl rfl)
theorem dX10_init_885 : decode cX10_init 885 = .ok (.invokestatic 165, 3) := dk_184 0 165 (dk_at dksX10_init_38 0 rfl rfl)
theorem dX10_init_888 : decode cX10_init 888 = .ok (.lastore, 1) := dk_80 (dk_at dksX10_init_38 3 rfl rfl)
theorem dX10_init_889 : decode cX10_init 889 = .ok (.aload_n 0, 1) := dk_42 (dk_at dksX10_init_38 4 rfl rfl)
theorem dX10_init_890 : decode cX10_init 890 = .ok (.invokevirtual 169, 3) := dk_182 0 169 (dk_at dksX10_init_38 5 rfl rfl)
theorem dX10_init_893 : decode cX10_init 893 = .ok (.aload_n 0, 1) := dk_42 (dk_at dksX10_init_38 8 rfl rfl)
theorem dX10_init_894 : decode cX10_init 894 = .ok (.invokevirtual 172, 3) := dk_182 0 172 (dk_at dksX10_init_38 9 rfl rfl)
theorem dX10_init_897 : decode cX10_init 897 = .ok (.return_, 1) := dk_177 (dk_at dksX10_init_38 12 rfl rfl)
abbrev cX10_plain : ByteArray := prog_21_method_19_code
def yX10_plain : MethodName := ⟨RX10, "plain", "(I)V"⟩
def dkwX10_plain_5 : List UInt8 := [132, 2, 1, 167, 255, 226, 177]
abbrev dktX10_plain_5 : List UInt8 := dkwX10_plain_5 ++ []
def dkwX10_plain_4 : List UInt8 := [42, 180, 0, 94, 7, 27, 104, 28, 96, 3, 79, 42, 180, 0, 97, 7, 27, 104, 28, 96, 3, 79]
abbrev dktX10_plain_4 : List UInt8 := dkwX10_plain_4 ++ dktX10_plain_5
def dkwX10_plain_3 : List UInt8 := [180, 0, 49, 16, 7, 27, 104, 28, 96, 3, 79, 132, 2, 1, 167, 255, 235, 3, 61, 28, 7, 162, 0, 31]
abbrev dktX10_plain_3 : List UInt8 := dkwX10_plain_3 ++ dktX10_plain_4
def dkwX10_plain_2 : List UInt8 := [180, 0, 88, 27, 16, 120, 79, 42, 180, 0, 91, 27, 3, 79, 3, 61, 28, 16, 7, 162, 0, 21, 42]
abbrev dktX10_plain_2 : List UInt8 := dkwX10_plain_2 ++ dktX10_plain_3
def dkwX10_plain_1 : List UInt8 := [180, 0, 67, 27, 3, 79, 42, 180, 0, 76, 27, 3, 79, 42, 180, 0, 85, 27, 16, 60, 79, 42]
abbrev dktX10_plain_1 : List UInt8 := dkwX10_plain_1 ++ dktX10_plain_2
def dkwX10_plain_0 : List UInt8 := [42, 180, 0, 46, 27, 3, 79, 42, 180, 0, 52, 27, 3, 79, 42, 180, 0, 55, 27, 3, 79, 42]
abbrev dktX10_plain_0 : List UInt8 := dkwX10_plain_0 ++ dktX10_plain_1
theorem dksX10_plain_0 : cX10_plain.data.toList.drop 0 = dktX10_plain_0 := by decide +kernel
theorem dksX10_plain_1 : cX10_plain.data.toList.drop 22 = dktX10_plain_1 := dk_seg dksX10_plain_0 22 rfl rfl
theorem dksX10_plain_2 : cX10_plain.data.toList.drop 44 = dktX10_plain_2 := dk_seg dksX10_plain_1 22 rfl rfl
theorem dksX10_plain_3 : cX10_plain.data.toList.drop 67 = dktX10_plain_3 := dk_seg dksX10_plain_2 23 rfl rfl
theorem dksX10_plain_4 : cX10_plain.data.toList.drop 91 = dktX10_plain_4 := dk_seg dksX10_plain_3 24 rfl rfl
theorem dksX10_plain_5 : cX10_plain.data.toList.drop 113 = dktX10_plain_5 := dk_seg dksX10_plain_4 22 rfl rfl
theorem dX10_plain_0 : decode cX10_plain 0 = .ok (.aload_n 0, 1) := dk_42 (dk_at dksX10_plain_0 0 rfl rfl)
theorem dX10_plain_1 : decode cX10_plain 1 = .ok (.getfield 46, 3) := dk_180 0 46 (dk_at dksX10_plain_0 1 rfl rfl)
theorem dX10_plain_4 : decode cX10_plain 4 = .ok (.iload_n 1, 1) := dk_27 (dk_at dksX10_plain_0 4 rfl rfl)
theorem dX10_plain_5 : decode cX10_plain 5 = .ok (.iconst 0, 1) := dk_3 (dk_at dksX10_plain_0 5 rfl rfl)
theorem dX10_plain_6 : decode cX10_plain 6 = .ok (.iastore, 1) := dk_79 (dk_at dksX10_plain_0 6 rfl rfl)
theorem dX10_plain_7 : decode cX10_plain 7 = .ok (.aload_n 0, 1) := dk_42 (dk_at dksX10_plain_0 7 rfl rfl)
theorem dX10_plain_8 : decode cX10_plain 8 = .ok (.getfield 52, 3) := dk_180 0 52 (dk_at dksX10_plain_0 8 rfl rfl)
theorem dX10_plain_11 : decode cX10_plain 11 = .ok (.iload_n 1, 1) := dk_27 (dk_at dksX10_plain_0 11 rfl rfl)
theorem dX10_plain_12 : decode cX10_plain 12 = .ok (.iconst 0, 1) := dk_3 (dk_at dksX10_plain_0 12 rfl rfl)
theorem dX10_plain_13 : decode cX10_plain 13 = .ok (.iastore, 1) := dk_79 (dk_at dksX10_plain_0 13 rfl rfl)
theorem dX10_plain_14 : decode cX10_plain 14 = .ok (.aload_n 0, 1) := dk_42 (dk_at dksX10_plain_0 14 rfl rfl)
theorem dX10_plain_15 : decode cX10_plain 15 = .ok (.getfield 55, 3) := dk_180 0 55 (dk_at dksX10_plain_0 15 rfl rfl)
theorem dX10_plain_18 : decode cX10_plain 18 = .ok (.iload_n 1, 1) := dk_27 (dk_at dksX10_plain_0 18 rfl rfl)
theorem dX10_plain_19 : decode cX10_plain 19 = .ok (.iconst 0, 1) := dk_3 (dk_at dksX10_plain_0 19 rfl rfl)
theorem dX10_plain_20 : decode cX10_plain 20 = .ok (.iastore, 1) := dk_79 (dk_at dksX10_plain_0 20 rfl rfl)
theorem dX10_plain_21 : decode cX10_plain 21 = .ok (.aload_n 0, 1) := dk_42 (dk_at dksX10_plain_0 21 rfl rfl)
theorem dX10_plain_22 : decode cX10_plain 22 = .ok (.getfield 67, 3) := dk_180 0 67 (dk_at dksX10_plain_1 0 rfl rfl)
theorem dX10_plain_25 : decode cX10_plain 25 = .ok (.iload_n 1, 1) := dk_27 (dk_at dksX10_plain_1 3 rfl rfl)
theorem dX10_plain_26 : decode cX10_plain 26 = .ok (.iconst 0, 1) := dk_3 (dk_at dksX10_plain_1 4 rfl rfl)
theorem dX10_plain_27 : decode cX10_plain 27 = .ok (.iastore, 1) := dk_79 (dk_at dksX10_plain_1 5 rfl rfl)
theorem dX10_plain_28 : decode cX10_plain 28 = .ok (.aload_n 0, 1) := dk_42 (dk_at dksX10_plain_1 6 rfl rfl)
theorem dX10_plain_29 : decode cX10_plain 29 = .ok (.getfield 76, 3) := dk_180 0 76 (dk_at dksX10_plain_1 7 rfl rfl)
theorem dX10_plain_32 : decode cX10_plain 32 = .ok (.iload_n 1, 1) := dk_27 (dk_at dksX10_plain_1 10 rfl rfl)
theorem dX10_plain_33 : decode cX10_plain 33 = .ok (.iconst 0, 1) := dk_3 (dk_at dksX10_plain_1 11 rfl rfl)
theorem dX10_plain_34 : decode cX10_plain 34 = .ok (.iastore, 1) := dk_79 (dk_at dksX10_plain_1 12 rfl rfl)
theorem dX10_plain_35 : decode cX10_plain 35 = .ok (.aload_n 0, 1) := dk_42 (dk_at dksX10_plain_1 13 rfl rfl)
theorem dX10_plain_36 : decode cX10_plain 36 = .ok (.getfield 85, 3) := dk_180 0 85 (dk_at dksX10_plain_1 14 rfl rfl)
theorem dX10_plain_39 : decode cX10_plain 39 = .ok (.iload_n 1, 1) := dk_27 (dk_at dksX10_plain_1 17 rfl rfl)
theorem dX10_plain_40 : decode cX10_plain 40 = .ok (.bipush 60, 2) := dk_16 60 (dk_at dksX10_plain_1 18 rfl rfl)
theorem dX10_plain_42 : decode cX10_plain 42 = .ok (.iastore, 1) := dk_79 (dk_at dksX10_plain_1 20 rfl rfl)
theorem dX10_plain_43 : decode cX10_plain 43 = .ok (.aload_n 0, 1) := dk_42 (dk_at dksX10_plain_1 21 rfl rfl)
theorem dX10_plain_44 : decode cX10_plain 44 = .ok (.getfield 88, 3) := dk_180 0 88 (dk_at dksX10_plain_2 0 rfl rfl)
theorem dX10_plain_47 : decode cX10_plain 47 = .ok (.iload_n 1, 1) := dk_27 (dk_at dksX10_plain_2 3 rfl rfl)
theorem dX10_plain_48 : decode cX10_plain 48 = .ok (.bipush 120, 2) := dk_16 120 (dk_at dksX10_plain_2 4 rfl rfl)
theorem dX10_plain_50 : decode cX10_plain 50 = .ok (.iastore, 1) := dk_79 (dk_at dksX10_plain_2 6 rfl rfl)
theorem dX10_plain_51 : decode cX10_plain 51 = .ok (.aload_n 0, 1) := dk_42 (dk_at dksX10_plain_2 7 rfl rfl)
theorem dX10_plain_52 : decode cX10_plain 52 = .ok (.getfield 91, 3) := dk_180 0 91 (dk_at dksX10_plain_2 8 rfl rfl)
theorem dX10_plain_55 : decode cX10_plain 55 = .ok (.iload_n 1, 1) := dk_27 (dk_at dksX10_plain_2 11 rfl rfl)
theorem dX10_plain_56 : decode cX10_plain 56 = .ok (.iconst 0, 1) := dk_3 (dk_at dksX10_plain_2 12 rfl rfl)
theorem dX10_plain_57 : decode cX10_plain 57 = .ok (.iastore, 1) := dk_79 (dk_at dksX10_plain_2 13 rfl rfl)
theorem dX10_plain_58 : decode cX10_plain 58 = .ok (.iconst 0, 1) := dk_3 (dk_at dksX10_plain_2 14 rfl rfl)
theorem dX10_plain_59 : decode cX10_plain 59 = .ok (.istore_n 2, 1) := dk_61 (dk_at dksX10_plain_2 15 rfl rfl)
theorem dX10_plain_60 : decode cX10_plain 60 = .ok (.iload_n 2, 1) := dk_28 (dk_at dksX10_plain_2 16 rfl rfl)
theorem dX10_plain_61 : decode cX10_plain 61 = .ok (.bipush 7, 2) := dk_16 7 (dk_at dksX10_plain_2 17 rfl rfl)
theorem dX10_plain_63 : decode cX10_plain 63 = .ok (.if_icmp .ge 21, 3) := dk_162 0 21 (dk_at dksX10_plain_2 19 rfl rfl)
theorem dX10_plain_66 : decode cX10_plain 66 = .ok (.aload_n 0, 1) := dk_42 (dk_at dksX10_plain_2 22 rfl rfl)
theorem dX10_plain_67 : decode cX10_plain 67 = .ok (.getfield 49, 3) := dk_180 0 49 (dk_at dksX10_plain_3 0 rfl rfl)
theorem dX10_plain_70 : decode cX10_plain 70 = .ok (.bipush 7, 2) := dk_16 7 (dk_at dksX10_plain_3 3 rfl rfl)
theorem dX10_plain_72 : decode cX10_plain 72 = .ok (.iload_n 1, 1) := dk_27 (dk_at dksX10_plain_3 5 rfl rfl)
theorem dX10_plain_73 : decode cX10_plain 73 = .ok (.imul, 1) := dk_104 (dk_at dksX10_plain_3 6 rfl rfl)
theorem dX10_plain_74 : decode cX10_plain 74 = .ok (.iload_n 2, 1) := dk_28 (dk_at dksX10_plain_3 7 rfl rfl)
theorem dX10_plain_75 : decode cX10_plain 75 = .ok (.iadd, 1) := dk_96 (dk_at dksX10_plain_3 8 rfl rfl)
theorem dX10_plain_76 : decode cX10_plain 76 = .ok (.iconst 0, 1) := dk_3 (dk_at dksX10_plain_3 9 rfl rfl)
theorem dX10_plain_77 : decode cX10_plain 77 = .ok (.iastore, 1) := dk_79 (dk_at dksX10_plain_3 10 rfl rfl)
theorem dX10_plain_78 : decode cX10_plain 78 = .ok (.iinc 2 1, 3) := dk_132 2 1 (dk_at dksX10_plain_3 11 rfl rfl)
theorem dX10_plain_81 : decode cX10_plain 81 = .ok (.goto (-21), 3) := dk_167 255 235 (dk_at dksX10_plain_3 14 rfl rfl)
theorem dX10_plain_84 : decode cX10_plain 84 = .ok (.iconst 0, 1) := dk_3 (dk_at dksX10_plain_3 17 rfl rfl)
theorem dX10_plain_85 : decode cX10_plain 85 = .ok (.istore_n 2, 1) := dk_61 (dk_at dksX10_plain_3 18 rfl rfl)
theorem dX10_plain_86 : decode cX10_plain 86 = .ok (.iload_n 2, 1) := dk_28 (dk_at dksX10_plain_3 19 rfl rfl)
theorem dX10_plain_87 : decode cX10_plain 87 = .ok (.iconst 4, 1) := dk_7 (dk_at dksX10_plain_3 20 rfl rfl)
theorem dX10_plain_88 : decode cX10_plain 88 = .ok (.if_icmp .ge 31, 3) := dk_162 0 31 (dk_at dksX10_plain_3 21 rfl rfl)
theorem dX10_plain_91 : decode cX10_plain 91 = .ok (.aload_n 0, 1) := dk_42 (dk_at dksX10_plain_4 0 rfl rfl)
theorem dX10_plain_92 : decode cX10_plain 92 = .ok (.getfield 94, 3) := dk_180 0 94 (dk_at dksX10_plain_4 1 rfl rfl)
theorem dX10_plain_95 : decode cX10_plain 95 = .ok (.iconst 4, 1) := dk_7 (dk_at dksX10_plain_4 4 rfl rfl)
theorem dX10_plain_96 : decode cX10_plain 96 = .ok (.iload_n 1, 1) := dk_27 (dk_at dksX10_plain_4 5 rfl rfl)
theorem dX10_plain_97 : decode cX10_plain 97 = .ok (.imul, 1) := dk_104 (dk_at dksX10_plain_4 6 rfl rfl)
theorem dX10_plain_98 : decode cX10_plain 98 = .ok (.iload_n 2, 1) := dk_28 (dk_at dksX10_plain_4 7 rfl rfl)
theorem dX10_plain_99 : decode cX10_plain 99 = .ok (.iadd, 1) := dk_96 (dk_at dksX10_plain_4 8 rfl rfl)
theorem dX10_plain_100 : decode cX10_plain 100 = .ok (.iconst 0, 1) := dk_3 (dk_at dksX10_plain_4 9 rfl rfl)
theorem dX10_plain_101 : decode cX10_plain 101 = .ok (.iastore, 1) := dk_79 (dk_at dksX10_plain_4 10 rfl rfl)
theorem dX10_plain_102 : decode cX10_plain 102 = .ok (.aload_n 0, 1) := dk_42 (dk_at dksX10_plain_4 11 rfl rfl)
theorem dX10_plain_103 : decode cX10_plain 103 = .ok (.getfield 97, 3) := dk_180 0 97 (dk_at dksX10_plain_4 12 rfl rfl)
theorem dX10_plain_106 : decode cX10_plain 106 = .ok (.iconst 4, 1) := dk_7 (dk_at dksX10_plain_4 15 rfl rfl)
theorem dX10_plain_107 : decode cX10_plain 107 = .ok (.iload_n 1, 1) := dk_27 (dk_at dksX10_plain_4 16 rfl rfl)
theorem dX10_plain_108 : decode cX10_plain 108 = .ok (.imul, 1) := dk_104 (dk_at dksX10_plain_4 17 rfl rfl)
theorem dX10_plain_109 : decode cX10_plain 109 = .ok (.iload_n 2, 1) := dk_28 (dk_at dksX10_plain_4 18 rfl rfl)
theorem dX10_plain_110 : decode cX10_plain 110 = .ok (.iadd, 1) := dk_96 (dk_at dksX10_plain_4 19 rfl rfl)
theorem dX10_plain_111 : decode cX10_plain 111 = .ok (.iconst 0, 1) := dk_3 (dk_at dksX10_plain_4 20 rfl rfl)
theorem dX10_plain_112 : decode cX10_plain 112 = .ok (.iastore, 1) := dk_79 (dk_at dksX10_plain_4 21 rfl rfl)
theorem dX10_plain_113 : decode cX10_plain 113 = .ok (.iinc 2 1, 3) := dk_132 2 1 (dk_at dksX10_plain_5 0 rfl rfl)
theorem dX10_plain_116 : decode cX10_plain 116 = .ok (.goto (-30), 3) := dk_167 255 226 (dk_at dksX10_plain_5 3 rfl rfl)
theorem dX10_plain_119 : decode cX10_plain 119 = .ok (.return_, 1) := dk_177 (dk_at dksX10_plain_5 6 rfl rfl)
abbrev cX10_word : ByteArray := prog_21_method_10_code
def yX10_word : MethodName := ⟨RX10, "word", "(IIIIIII)J"⟩
def dkwX10_word_1 : List UInt8 := [184, 0, 186, 21, 6, 184, 0, 186, 173]
abbrev dktX10_word_1 : List UInt8 := dkwX10_word_1 ++ []
def dkwX10_word_0 : List UInt8 := [9, 26, 184, 0, 186, 27, 184, 0, 186, 28, 184, 0, 186, 29, 184, 0, 186, 21, 4, 184, 0, 186, 21, 5]
abbrev dktX10_word_0 : List UInt8 := dkwX10_word_0 ++ dktX10_word_1
theorem dksX10_word_0 : cX10_word.data.toList.drop 0 = dktX10_word_0 := by decide +kernel
theorem dksX10_word_1 : cX10_word.data.toList.drop 24 = dktX10_word_1 := dk_seg dksX10_word_0 24 rfl rfl
theorem dX10_word_0 : decode cX10_word 0 = .ok (.lconst 0, 1) := dk_9 (dk_at dksX10_word_0 0 rfl rfl)
theorem dX10_word_1 : decode cX10_word 1 = .ok (.iload_n 0, 1) := dk_26 (dk_at dksX10_word_0 1 rfl rfl)
theorem dX10_word_2 : decode cX10_word 2 = .ok (.invokestatic 186, 3) := dk_184 0 186 (dk_at dksX10_word_0 2 rfl rfl)
theorem dX10_word_5 : decode cX10_word 5 = .ok (.iload_n 1, 1) := dk_27 (dk_at dksX10_word_0 5 rfl rfl)
theorem dX10_word_6 : decode cX10_word 6 = .ok (.invokestatic 186, 3) := dk_184 0 186 (dk_at dksX10_word_0 6 rfl rfl)
theorem dX10_word_9 : decode cX10_word 9 = .ok (.iload_n 2, 1) := dk_28 (dk_at dksX10_word_0 9 rfl rfl)
theorem dX10_word_10 : decode cX10_word 10 = .ok (.invokestatic 186, 3) := dk_184 0 186 (dk_at dksX10_word_0 10 rfl rfl)
theorem dX10_word_13 : decode cX10_word 13 = .ok (.iload_n 3, 1) := dk_29 (dk_at dksX10_word_0 13 rfl rfl)
theorem dX10_word_14 : decode cX10_word 14 = .ok (.invokestatic 186, 3) := dk_184 0 186 (dk_at dksX10_word_0 14 rfl rfl)
theorem dX10_word_17 : decode cX10_word 17 = .ok (.iload 4, 2) := dk_21 4 (dk_at dksX10_word_0 17 rfl rfl)
theorem dX10_word_19 : decode cX10_word 19 = .ok (.invokestatic 186, 3) := dk_184 0 186 (dk_at dksX10_word_0 19 rfl rfl)
theorem dX10_word_22 : decode cX10_word 22 = .ok (.iload 5, 2) := dk_21 5 (dk_at dksX10_word_0 22 rfl rfl)
theorem dX10_word_24 : decode cX10_word 24 = .ok (.invokestatic 186, 3) := dk_184 0 186 (dk_at dksX10_word_1 0 rfl rfl)
theorem dX10_word_27 : decode cX10_word 27 = .ok (.iload 6, 2) := dk_21 6 (dk_at dksX10_word_1 3 rfl rfl)
theorem dX10_word_29 : decode cX10_word 29 = .ok (.invokestatic 186, 3) := dk_184 0 186 (dk_at dksX10_word_1 5 rfl rfl)
theorem dX10_word_32 : decode cX10_word 32 = .ok (.lreturn, 1) := dk_173 (dk_at dksX10_word_1 8 rfl rfl)
abbrev cX10_appends : ByteArray := prog_21_method_9_code
def yX10_appends : MethodName := ⟨RX10, "appends", "(JI)J"⟩
def dkwX10_appends_0 : List UInt8 := [28, 154, 0, 7, 30, 167, 0, 16, 20, 0, 184, 30, 105, 28, 16, 97, 100, 4, 96, 133, 97, 173]
abbrev dktX10_appends_0 : List UInt8 := dkwX10_appends_0 ++ []
theorem dksX10_appends_0 : cX10_appends.data.toList.drop 0 = dktX10_appends_0 := by decide +kernel
theorem dX10_appends_0 : decode cX10_appends 0 = .ok (.iload_n 2, 1) := dk_28 (dk_at dksX10_appends_0 0 rfl rfl)
theorem dX10_appends_1 : decode cX10_appends 1 = .ok (.ifCond .ne 7, 3) := dk_154 0 7 (dk_at dksX10_appends_0 1 rfl rfl)
theorem dX10_appends_4 : decode cX10_appends 4 = .ok (.lload_n 0, 1) := dk_30 (dk_at dksX10_appends_0 4 rfl rfl)
theorem dX10_appends_5 : decode cX10_appends 5 = .ok (.goto 16, 3) := dk_167 0 16 (dk_at dksX10_appends_0 5 rfl rfl)
theorem dX10_appends_8 : decode cX10_appends 8 = .ok (.ldc2_w 184, 3) := dk_20 0 184 (dk_at dksX10_appends_0 8 rfl rfl)
theorem dX10_appends_11 : decode cX10_appends 11 = .ok (.lload_n 0, 1) := dk_30 (dk_at dksX10_appends_0 11 rfl rfl)
theorem dX10_appends_12 : decode cX10_appends 12 = .ok (.lmul, 1) := dk_105 (dk_at dksX10_appends_0 12 rfl rfl)
theorem dX10_appends_13 : decode cX10_appends 13 = .ok (.iload_n 2, 1) := dk_28 (dk_at dksX10_appends_0 13 rfl rfl)
theorem dX10_appends_14 : decode cX10_appends 14 = .ok (.bipush 97, 2) := dk_16 97 (dk_at dksX10_appends_0 14 rfl rfl)
theorem dX10_appends_16 : decode cX10_appends 16 = .ok (.isub, 1) := dk_100 (dk_at dksX10_appends_0 16 rfl rfl)
theorem dX10_appends_17 : decode cX10_appends 17 = .ok (.iconst 1, 1) := dk_4 (dk_at dksX10_appends_0 17 rfl rfl)
theorem dX10_appends_18 : decode cX10_appends 18 = .ok (.iadd, 1) := dk_96 (dk_at dksX10_appends_0 18 rfl rfl)
theorem dX10_appends_19 : decode cX10_appends 19 = .ok (.i2l, 1) := dk_133 (dk_at dksX10_appends_0 19 rfl rfl)
theorem dX10_appends_20 : decode cX10_appends 20 = .ok (.ladd, 1) := dk_97 (dk_at dksX10_appends_0 20 rfl rfl)
theorem dX10_appends_21 : decode cX10_appends 21 = .ok (.lreturn, 1) := dk_173 (dk_at dksX10_appends_0 21 rfl rfl)
abbrev cX10_begins : ByteArray := prog_21_method_47_code
def yX10_begins : MethodName := ⟨RX10, "begins", "()V"⟩
def dkwX10_begins_6 : List UInt8 := [96, 46, 79, 132, 1, 1, 167, 255, 196, 177]
abbrev dktX10_begins_6 : List UInt8 := dkwX10_begins_6 ++ []
def dkwX10_begins_5 : List UInt8 := [104, 27, 96, 46, 79, 42, 180, 0, 137, 16, 23, 27, 96, 42, 180, 0, 73, 7, 42, 180, 0, 242, 104, 27]
abbrev dktX10_begins_5 : List UInt8 := dkwX10_begins_5 ++ dktX10_begins_6
def dkwX10_begins_4 : List UInt8 := [180, 0, 242, 46, 162, 0, 53, 42, 180, 0, 137, 16, 15, 27, 96, 42, 180, 0, 70, 7, 42, 180, 0, 242]
abbrev dktX10_begins_4 : List UInt8 := dkwX10_begins_4 ++ dktX10_begins_5
def dkwX10_begins_3 : List UInt8 := [180, 0, 137, 16, 19, 27, 96, 16, 254, 79, 132, 1, 1, 167, 255, 237, 3, 60, 27, 42, 180, 0, 67, 42]
abbrev dktX10_begins_3 : List UInt8 := dkwX10_begins_3 ++ dktX10_begins_4
def dkwX10_begins_2 : List UInt8 := [180, 0, 242, 104, 27, 96, 46, 79, 132, 1, 1, 167, 255, 221, 3, 60, 27, 7, 162, 0, 20, 42]
abbrev dktX10_begins_2 : List UInt8 := dkwX10_begins_2 ++ dktX10_begins_3
def dkwX10_begins_1 : List UInt8 := [42, 180, 0, 55, 42, 180, 0, 242, 46, 162, 0, 28, 42, 180, 0, 137, 27, 42, 180, 0, 58, 8, 42]
abbrev dktX10_begins_1 : List UInt8 := dkwX10_begins_1 ++ dktX10_begins_2
def dkwX10_begins_0 : List UInt8 := [3, 60, 27, 16, 77, 162, 0, 16, 42, 180, 0, 137, 27, 3, 79, 132, 1, 1, 167, 255, 240, 3, 60, 27]
abbrev dktX10_begins_0 : List UInt8 := dkwX10_begins_0 ++ dktX10_begins_1
theorem dksX10_begins_0 : cX10_begins.data.toList.drop 0 = dktX10_begins_0 := by decide +kernel
theorem dksX10_begins_1 : cX10_begins.data.toList.drop 24 = dktX10_begins_1 := dk_seg dksX10_begins_0 24 rfl rfl
theorem dksX10_begins_2 : cX10_begins.data.toList.drop 47 = dktX10_begins_2 := dk_seg dksX10_begins_1 23 rfl rfl
theorem dksX10_begins_3 : cX10_begins.data.toList.drop 69 = dktX10_begins_3 := dk_seg dksX10_begins_2 22 rfl rfl
theorem dksX10_begins_4 : cX10_begins.data.toList.drop 93 = dktX10_begins_4 := dk_seg dksX10_begins_3 24 rfl rfl
theorem dksX10_begins_5 : cX10_begins.data.toList.drop 117 = dktX10_begins_5 := dk_seg dksX10_begins_4 24 rfl rfl
theorem dksX10_begins_6 : cX10_begins.data.toList.drop 141 = dktX10_begins_6 := dk_seg dksX10_begins_5 24 rfl rfl
theorem dX10_begins_0 : decode cX10_begins 0 = .ok (.iconst 0, 1) := dk_3 (dk_at dksX10_begins_0 0 rfl rfl)
theorem dX10_begins_1 : decode cX10_begins 1 = .ok (.istore_n 1, 1) := dk_60 (dk_at dksX10_begins_0 1 rfl rfl)
theorem dX10_begins_2 : decode cX10_begins 2 = .ok (.iload_n 1, 1) := dk_27 (dk_at dksX10_begins_0 2 rfl rfl)
theorem dX10_begins_3 : decode cX10_begins 3 = .ok (.bipush 77, 2) := dk_16 77 (dk_at dksX10_begins_0 3 rfl rfl)
theorem dX10_begins_5 : decode cX10_begins 5 = .ok (.if_icmp .ge 16, 3) := dk_162 0 16 (dk_at dksX10_begins_0 5 rfl rfl)
theorem dX10_begins_8 : decode cX10_begins 8 = .ok (.aload_n 0, 1) := dk_42 (dk_at dksX10_begins_0 8 rfl rfl)
theorem dX10_begins_9 : decode cX10_begins 9 = .ok (.getfield 137, 3) := dk_180 0 137 (dk_at dksX10_begins_0 9 rfl rfl)
theorem dX10_begins_12 : decode cX10_begins 12 = .ok (.iload_n 1, 1) := dk_27 (dk_at dksX10_begins_0 12 rfl rfl)
theorem dX10_begins_13 : decode cX10_begins 13 = .ok (.iconst 0, 1) := dk_3 (dk_at dksX10_begins_0 13 rfl rfl)
theorem dX10_begins_14 : decode cX10_begins 14 = .ok (.iastore, 1) := dk_79 (dk_at dksX10_begins_0 14 rfl rfl)
theorem dX10_begins_15 : decode cX10_begins 15 = .ok (.iinc 1 1, 3) := dk_132 1 1 (dk_at dksX10_begins_0 15 rfl rfl)
theorem dX10_begins_18 : decode cX10_begins 18 = .ok (.goto (-16), 3) := dk_167 255 240 (dk_at dksX10_begins_0 18 rfl rfl)
theorem dX10_begins_21 : decode cX10_begins 21 = .ok (.iconst 0, 1) := dk_3 (dk_at dksX10_begins_0 21 rfl rfl)
theorem dX10_begins_22 : decode cX10_begins 22 = .ok (.istore_n 1, 1) := dk_60 (dk_at dksX10_begins_0 22 rfl rfl)
theorem dX10_begins_23 : decode cX10_begins 23 = .ok (.iload_n 1, 1) := dk_27 (dk_at dksX10_begins_0 23 rfl rfl)
theorem dX10_begins_24 : decode cX10_begins 24 = .ok (.aload_n 0, 1) := dk_42 (dk_at dksX10_begins_1 0 rfl rfl)
theorem dX10_begins_25 : decode cX10_begins 25 = .ok (.getfield 55, 3) := dk_180 0 55 (dk_at dksX10_begins_1 1 rfl rfl)
theorem dX10_begins_28 : decode cX10_begins 28 = .ok (.aload_n 0, 1) := dk_42 (dk_at dksX10_begins_1 4 rfl rfl)
theorem dX10_begins_29 : decode cX10_begins 29 = .ok (.getfield 242, 3) := dk_180 0 242 (dk_at dksX10_begins_1 5 rfl rfl)
theorem dX10_begins_32 : decode cX10_begins 32 = .ok (.iaload, 1) := dk_46 (dk_at dksX10_begins_1 8 rfl rfl)
theorem dX10_begins_33 : decode cX10_begins 33 = .ok (.if_icmp .ge 28, 3) := dk_162 0 28 (dk_at dksX10_begins_1 9 rfl rfl)
theorem dX10_begins_36 : decode cX10_begins 36 = .ok (.aload_n 0, 1) := dk_42 (dk_at dksX10_begins_1 12 rfl rfl)
theorem dX10_begins_37 : decode cX10_begins 37 = .ok (.getfield 137, 3) := dk_180 0 137 (dk_at dksX10_begins_1 13 rfl rfl)
theorem dX10_begins_40 : decode cX10_begins 40 = .ok (.iload_n 1, 1) := dk_27 (dk_at dksX10_begins_1 16 rfl rfl)
theorem dX10_begins_41 : decode cX10_begins 41 = .ok (.aload_n 0, 1) := dk_42 (dk_at dksX10_begins_1 17 rfl rfl)
theorem dX10_begins_42 : decode cX10_begins 42 = .ok (.getfield 58, 3) := dk_180 0 58 (dk_at dksX10_begins_1 18 rfl rfl)
theorem dX10_begins_45 : decode cX10_begins 45 = .ok (.iconst 5, 1) := dk_8 (dk_at dksX10_begins_1 21 rfl rfl)
theorem dX10_begins_46 : decode cX10_begins 46 = .ok (.aload_n 0, 1) := dk_42 (dk_at dksX10_begins_1 22 rfl rfl)
theorem dX10_begins_47 : decode cX10_begins 47 = .ok (.getfield 242, 3) := dk_180 0 242 (dk_at dksX10_begins_2 0 rfl rfl)
theorem dX10_begins_50 : decode cX10_begins 50 = .ok (.imul, 1) := dk_104 (dk_at dksX10_begins_2 3 rfl rfl)
theorem dX10_begins_51 : decode cX10_begins 51 = .ok (.iload_n 1, 1) := dk_27 (dk_at dksX10_begins_2 4 rfl rfl)
theorem dX10_begins_52 : decode cX10_begins 52 = .ok (.iadd, 1) := dk_96 (dk_at dksX10_begins_2 5 rfl rfl)
theorem dX10_begins_53 : decode cX10_begins 53 = .ok (.iaload, 1) := dk_46 (dk_at dksX10_begins_2 6 rfl rfl)
theorem dX10_begins_54 : decode cX10_begins 54 = .ok (.iastore, 1) := dk_79 (dk_at dksX10_begins_2 7 rfl rfl)
theorem dX10_begins_55 : decode cX10_begins 55 = .ok (.iinc 1 1, 3) := dk_132 1 1 (dk_at dksX10_begins_2 8 rfl rfl)
theorem dX10_begins_58 : decode cX10_begins 58 = .ok (.goto (-35), 3) := dk_167 255 221 (dk_at dksX10_begins_2 11 rfl rfl)
theorem dX10_begins_61 : decode cX10_begins 61 = .ok (.iconst 0, 1) := dk_3 (dk_at dksX10_begins_2 14 rfl rfl)
theorem dX10_begins_62 : decode cX10_begins 62 = .ok (.istore_n 1, 1) := dk_60 (dk_at dksX10_begins_2 15 rfl rfl)
theorem dX10_begins_63 : decode cX10_begins 63 = .ok (.iload_n 1, 1) := dk_27 (dk_at dksX10_begins_2 16 rfl rfl)
theorem dX10_begins_64 : decode cX10_begins 64 = .ok (.iconst 4, 1) := dk_7 (dk_at dksX10_begins_2 17 rfl rfl)
theorem dX10_begins_65 : decode cX10_begins 65 = .ok (.if_icmp .ge 20, 3) := dk_162 0 20 (dk_at dksX10_begins_2 18 rfl rfl)
theorem dX10_begins_68 : decode cX10_begins 68 = .ok (.aload_n 0, 1) := dk_42 (dk_at dksX10_begins_2 21 rfl rfl)
theorem dX10_begins_69 : decode cX10_begins 69 = .ok (.getfield 137, 3) := dk_180 0 137 (dk_at dksX10_begins_3 0 rfl rfl)
theorem dX10_begins_72 : decode cX10_begins 72 = .ok (.bipush 19, 2) := dk_16 19 (dk_at dksX10_begins_3 3 rfl rfl)
theorem dX10_begins_74 : decode cX10_begins 74 = .ok (.iload_n 1, 1) := dk_27 (dk_at dksX10_begins_3 5 rfl rfl)
theorem dX10_begins_75 : decode cX10_begins 75 = .ok (.iadd, 1) := dk_96 (dk_at dksX10_begins_3 6 rfl rfl)
theorem dX10_begins_76 : decode cX10_begins 76 = .ok (.bipush (-2), 2) := dk_16 254 (dk_at dksX10_begins_3 7 rfl rfl)
theorem dX10_begins_78 : decode cX10_begins 78 = .ok (.iastore, 1) := dk_79 (dk_at dksX10_begins_3 9 rfl rfl)
theorem dX10_begins_79 : decode cX10_begins 79 = .ok (.iinc 1 1, 3) := dk_132 1 1 (dk_at dksX10_begins_3 10 rfl rfl)
theorem dX10_begins_82 : decode cX10_begins 82 = .ok (.goto (-19), 3) := dk_167 255 237 (dk_at dksX10_begins_3 13 rfl rfl)
theorem dX10_begins_85 : decode cX10_begins 85 = .ok (.iconst 0, 1) := dk_3 (dk_at dksX10_begins_3 16 rfl rfl)
theorem dX10_begins_86 : decode cX10_begins 86 = .ok (.istore_n 1, 1) := dk_60 (dk_at dksX10_begins_3 17 rfl rfl)
theorem dX10_begins_87 : decode cX10_begins 87 = .ok (.iload_n 1, 1) := dk_27 (dk_at dksX10_begins_3 18 rfl rfl)
theorem dX10_begins_88 : decode cX10_begins 88 = .ok (.aload_n 0, 1) := dk_42 (dk_at dksX10_begins_3 19 rfl rfl)
theorem dX10_begins_89 : decode cX10_begins 89 = .ok (.getfield 67, 3) := dk_180 0 67 (dk_at dksX10_begins_3 20 rfl rfl)
theorem dX10_begins_92 : decode cX10_begins 92 = .ok (.aload_n 0, 1) := dk_42 (dk_at dksX10_begins_3 23 rfl rfl)
theorem dX10_begins_93 : decode cX10_begins 93 = .ok (.getfield 242, 3) := dk_180 0 242 (dk_at dksX10_begins_4 0 rfl rfl)
theorem dX10_begins_96 : decode cX10_begins 96 = .ok (.iaload, 1) := dk_46 (dk_at dksX10_begins_4 3 rfl rfl)
theorem dX10_begins_97 : decode cX10_begins 97 = .ok (.if_icmp .ge 53, 3) := dk_162 0 53 (dk_at dksX10_begins_4 4 rfl rfl)
theorem dX10_begins_100 : decode cX10_begins 100 = .ok (.aload_n 0, 1) := dk_42 (dk_at dksX10_begins_4 7 rfl rfl)
theorem dX10_begins_101 : decode cX10_begins 101 = .ok (.getfield 137, 3) := dk_180 0 137 (dk_at dksX10_begins_4 8 rfl rfl)
theorem dX10_begins_104 : decode cX10_begins 104 = .ok (.bipush 15, 2) := dk_16 15 (dk_at dksX10_begins_4 11 rfl rfl)
theorem dX10_begins_106 : decode cX10_begins 106 = .ok (.iload_n 1, 1) := dk_27 (dk_at dksX10_begins_4 13 rfl rfl)
theorem dX10_begins_107 : decode cX10_begins 107 = .ok (.iadd, 1) := dk_96 (dk_at dksX10_begins_4 14 rfl rfl)
theorem dX10_begins_108 : decode cX10_begins 108 = .ok (.aload_n 0, 1) := dk_42 (dk_at dksX10_begins_4 15 rfl rfl)
theorem dX10_begins_109 : decode cX10_begins 109 = .ok (.getfield 70, 3) := dk_180 0 70 (dk_at dksX10_begins_4 16 rfl rfl)
theorem dX10_begins_112 : decode cX10_begins 112 = .ok (.iconst 4, 1) := dk_7 (dk_at dksX10_begins_4 19 rfl rfl)
theorem dX10_begins_113 : decode cX10_begins 113 = .ok (.aload_n 0, 1) := dk_42 (dk_at dksX10_begins_4 20 rfl rfl)
theorem dX10_begins_114 : decode cX10_begins 114 = .ok (.getfield 242, 3) := dk_180 0 242 (dk_at dksX10_begins_4 21 rfl rfl)
theorem dX10_begins_117 : decode cX10_begins 117 = .ok (.imul, 1) := dk_104 (dk_at dksX10_begins_5 0 rfl rfl)
theorem dX10_begins_118 : decode cX10_begins 118 = .ok (.iload_n 1, 1) := dk_27 (dk_at dksX10_begins_5 1 rfl rfl)
theorem dX10_begins_119 : decode cX10_begins 119 = .ok (.iadd, 1) := dk_96 (dk_at dksX10_begins_5 2 rfl rfl)
theorem dX10_begins_120 : decode cX10_begins 120 = .ok (.iaload, 1) := dk_46 (dk_at dksX10_begins_5 3 rfl rfl)
theorem dX10_begins_121 : decode cX10_begins 121 = .ok (.iastore, 1) := dk_79 (dk_at dksX10_begins_5 4 rfl rfl)
theorem dX10_begins_122 : decode cX10_begins 122 = .ok (.aload_n 0, 1) := dk_42 (dk_at dksX10_begins_5 5 rfl rfl)
theorem dX10_begins_123 : decode cX10_begins 123 = .ok (.getfield 137, 3) := dk_180 0 137 (dk_at dksX10_begins_5 6 rfl rfl)
theorem dX10_begins_126 : decode cX10_begins 126 = .ok (.bipush 23, 2) := dk_16 23 (dk_at dksX10_begins_5 9 rfl rfl)
theorem dX10_begins_128 : decode cX10_begins 128 = .ok (.iload_n 1, 1) := dk_27 (dk_at dksX10_begins_5 11 rfl rfl)
theorem dX10_begins_129 : decode cX10_begins 129 = .ok (.iadd, 1) := dk_96 (dk_at dksX10_begins_5 12 rfl rfl)
theorem dX10_begins_130 : decode cX10_begins 130 = .ok (.aload_n 0, 1) := dk_42 (dk_at dksX10_begins_5 13 rfl rfl)
theorem dX10_begins_131 : decode cX10_begins 131 = .ok (.getfield 73, 3) := dk_180 0 73 (dk_at dksX10_begins_5 14 rfl rfl)
theorem dX10_begins_134 : decode cX10_begins 134 = .ok (.iconst 4, 1) := dk_7 (dk_at dksX10_begins_5 17 rfl rfl)
theorem dX10_begins_135 : decode cX10_begins 135 = .ok (.aload_n 0, 1) := dk_42 (dk_at dksX10_begins_5 18 rfl rfl)
theorem dX10_begins_136 : decode cX10_begins 136 = .ok (.getfield 242, 3) := dk_180 0 242 (dk_at dksX10_begins_5 19 rfl rfl)
theorem dX10_begins_139 : decode cX10_begins 139 = .ok (.imul, 1) := dk_104 (dk_at dksX10_begins_5 22 rfl rfl)
theorem dX10_begins_140 : decode cX10_begins 140 = .ok (.iload_n 1, 1) := dk_27 (dk_at dksX10_begins_5 23 rfl rfl)
theorem dX10_begins_141 : decode cX10_begins 141 = .ok (.iadd, 1) := dk_96 (dk_at dksX10_begins_6 0 rfl rfl)
theorem dX10_begins_142 : decode cX10_begins 142 = .ok (.iaload, 1) := dk_46 (dk_at dksX10_begins_6 1 rfl rfl)
theorem dX10_begins_143 : decode cX10_begins 143 = .ok (.iastore, 1) := dk_79 (dk_at dksX10_begins_6 2 rfl rfl)
theorem dX10_begins_144 : decode cX10_begins 144 = .ok (.iinc 1 1, 3) := dk_132 1 1 (dk_at dksX10_begins_6 3 rfl rfl)
theorem dX10_begins_147 : decode cX10_begins 147 = .ok (.goto (-60), 3) := dk_167 255 196 (dk_at dksX10_begins_6 6 rfl rfl)
theorem dX10_begins_150 : decode cX10_begins 150 = .ok (.return_, 1) := dk_177 (dk_at dksX10_begins_6 9 rfl rfl)
abbrev cX10_keepsRow : ByteArray := prog_21_method_48_code
def yX10_keepsRow : MethodName := ⟨RX10, "keepsRow", "()V"⟩
def dkwX10_keepsRow_1 : List UInt8 := [167, 255, 235, 177]
abbrev dktX10_keepsRow_1 : List UInt8 := dkwX10_keepsRow_1 ++ []
def dkwX10_keepsRow_0 : List UInt8 := [3, 60, 27, 16, 77, 162, 0, 21, 42, 180, 0, 134, 27, 42, 180, 0, 137, 27, 46, 79, 132, 1, 1]
abbrev dktX10_keepsRow_0 : List UInt8 := dkwX10_keepsRow_0 ++ dktX10_keepsRow_1
theorem dksX10_keepsRow_0 : cX10_keepsRow.data.toList.drop 0 = dktX10_keepsRow_0 := by decide +kernel
theorem dksX10_keepsRow_1 : cX10_keepsRow.data.toList.drop 23 = dktX10_keepsRow_1 := dk_seg dksX10_keepsRow_0 23 rfl rfl
theorem dX10_keepsRow_0 : decode cX10_keepsRow 0 = .ok (.iconst 0, 1) := dk_3 (dk_at dksX10_keepsRow_0 0 rfl rfl)
theorem dX10_keepsRow_1 : decode cX10_keepsRow 1 = .ok (.istore_n 1, 1) := dk_60 (dk_at dksX10_keepsRow_0 1 rfl rfl)
theorem dX10_keepsRow_2 : decode cX10_keepsRow 2 = .ok (.iload_n 1, 1) := dk_27 (dk_at dksX10_keepsRow_0 2 rfl rfl)
theorem dX10_keepsRow_3 : decode cX10_keepsRow 3 = .ok (.bipush 77, 2) := dk_16 77 (dk_at dksX10_keepsRow_0 3 rfl rfl)
theorem dX10_keepsRow_5 : decode cX10_keepsRow 5 = .ok (.if_icmp .ge 21, 3) := dk_162 0 21 (dk_at dksX10_keepsRow_0 5 rfl rfl)
theorem dX10_keepsRow_8 : decode cX10_keepsRow 8 = .ok (.aload_n 0, 1) := dk_42 (dk_at dksX10_keepsRow_0 8 rfl rfl)
theorem dX10_keepsRow_9 : decode cX10_keepsRow 9 = .ok (.getfield 134, 3) := dk_180 0 134 (dk_at dksX10_keepsRow_0 9 rfl rfl)
theorem dX10_keepsRow_12 : decode cX10_keepsRow 12 = .ok (.iload_n 1, 1) := dk_27 (dk_at dksX10_keepsRow_0 12 rfl rfl)
theorem dX10_keepsRow_13 : decode cX10_keepsRow 13 = .ok (.aload_n 0, 1) := dk_42 (dk_at dksX10_keepsRow_0 13 rfl rfl)
theorem dX10_keepsRow_14 : decode cX10_keepsRow 14 = .ok (.getfield 137, 3) := dk_180 0 137 (dk_at dksX10_keepsRow_0 14 rfl rfl)
theorem dX10_keepsRow_17 : decode cX10_keepsRow 17 = .ok (.iload_n 1, 1) := dk_27 (dk_at dksX10_keepsRow_0 17 rfl rfl)
theorem dX10_keepsRow_18 : decode cX10_keepsRow 18 = .ok (.iaload, 1) := dk_46 (dk_at dksX10_keepsRow_0 18 rfl rfl)
theorem dX10_keepsRow_19 : decode cX10_keepsRow 19 = .ok (.iastore, 1) := dk_79 (dk_at dksX10_keepsRow_0 19 rfl rfl)
theorem dX10_keepsRow_20 : decode cX10_keepsRow 20 = .ok (.iinc 1 1, 3) := dk_132 1 1 (dk_at dksX10_keepsRow_0 20 rfl rfl)
theorem dX10_keepsRow_23 : decode cX10_keepsRow 23 = .ok (.goto (-21), 3) := dk_167 255 235 (dk_at dksX10_keepsRow_1 0 rfl rfl)
theorem dX10_keepsRow_26 : decode cX10_keepsRow 26 = .ok (.return_, 1) := dk_177 (dk_at dksX10_keepsRow_1 3 rfl rfl)
abbrev cX10_feed : ByteArray := prog_21_method_3_code
def yX10_feed : MethodName := ⟨RX10, "feed", "(IIIII)I"⟩
def dkwX10_feed_2 : List UInt8 := [172]
abbrev dktX10_feed_2 : List UInt8 := dkwX10_feed_2 ++ []
def dkwX10_feed_1 : List UInt8 := [182, 0, 178, 42, 29, 182, 0, 178, 42, 21, 4, 182, 0, 178, 42, 21, 5, 182, 0, 178, 42, 180, 0, 175]
abbrev dktX10_feed_1 : List UInt8 := dkwX10_feed_1 ++ dktX10_feed_2
def dkwX10_feed_0 : List UInt8 := [42, 180, 0, 175, 16, 20, 96, 17, 7, 208, 164, 0, 5, 2, 172, 42, 27, 182, 0, 178, 42, 28]
abbrev dktX10_feed_0 : List UInt8 := dkwX10_feed_0 ++ dktX10_feed_1
theorem dksX10_feed_0 : cX10_feed.data.toList.drop 0 = dktX10_feed_0 := by decide +kernel
theorem dksX10_feed_1 : cX10_feed.data.toList.drop 22 = dktX10_feed_1 := dk_seg dksX10_feed_0 22 rfl rfl
theorem dksX10_feed_2 : cX10_feed.data.toList.drop 46 = dktX10_feed_2 := dk_seg dksX10_feed_1 24 rfl rfl
theorem dX10_feed_0 : decode cX10_feed 0 = .ok (.aload_n 0, 1) := dk_42 (dk_at dksX10_feed_0 0 rfl rfl)
theorem dX10_feed_1 : decode cX10_feed 1 = .ok (.getfield 175, 3) := dk_180 0 175 (dk_at dksX10_feed_0 1 rfl rfl)
theorem dX10_feed_4 : decode cX10_feed 4 = .ok (.bipush 20, 2) := dk_16 20 (dk_at dksX10_feed_0 4 rfl rfl)
theorem dX10_feed_6 : decode cX10_feed 6 = .ok (.iadd, 1) := dk_96 (dk_at dksX10_feed_0 6 rfl rfl)
theorem dX10_feed_7 : decode cX10_feed 7 = .ok (.sipush 2000, 3) := dk_17 7 208 (dk_at dksX10_feed_0 7 rfl rfl)
theorem dX10_feed_10 : decode cX10_feed 10 = .ok (.if_icmp .le 5, 3) := dk_164 0 5 (dk_at dksX10_feed_0 10 rfl rfl)
theorem dX10_feed_13 : decode cX10_feed 13 = .ok (.iconst (-1), 1) := dk_2 (dk_at dksX10_feed_0 13 rfl rfl)
theorem dX10_feed_14 : decode cX10_feed 14 = .ok (.ireturn, 1) := dk_172 (dk_at dksX10_feed_0 14 rfl rfl)
theorem dX10_feed_15 : decode cX10_feed 15 = .ok (.aload_n 0, 1) := dk_42 (dk_at dksX10_feed_0 15 rfl rfl)
theorem dX10_feed_16 : decode cX10_feed 16 = .ok (.iload_n 1, 1) := dk_27 (dk_at dksX10_feed_0 16 rfl rfl)
theorem dX10_feed_17 : decode cX10_feed 17 = .ok (.invokevirtual 178, 3) := dk_182 0 178 (dk_at dksX10_feed_0 17 rfl rfl)
theorem dX10_feed_20 : decode cX10_feed 20 = .ok (.aload_n 0, 1) := dk_42 (dk_at dksX10_feed_0 20 rfl rfl)
theorem dX10_feed_21 : decode cX10_feed 21 = .ok (.iload_n 2, 1) := dk_28 (dk_at dksX10_feed_0 21 rfl rfl)
theorem dX10_feed_22 : decode cX10_feed 22 = .ok (.invokevirtual 178, 3) := dk_182 0 178 (dk_at dksX10_feed_1 0 rfl rfl)
theorem dX10_feed_25 : decode cX10_feed 25 = .ok (.aload_n 0, 1) := dk_42 (dk_at dksX10_feed_1 3 rfl rfl)
theorem dX10_feed_26 : decode cX10_feed 26 = .ok (.iload_n 3, 1) := dk_29 (dk_at dksX10_feed_1 4 rfl rfl)
theorem dX10_feed_27 : decode cX10_feed 27 = .ok (.invokevirtual 178, 3) := dk_182 0 178 (dk_at dksX10_feed_1 5 rfl rfl)
theorem dX10_feed_30 : decode cX10_feed 30 = .ok (.aload_n 0, 1) := dk_42 (dk_at dksX10_feed_1 8 rfl rfl)
theorem dX10_feed_31 : decode cX10_feed 31 = .ok (.iload 4, 2) := dk_21 4 (dk_at dksX10_feed_1 9 rfl rfl)
theorem dX10_feed_33 : decode cX10_feed 33 = .ok (.invokevirtual 178, 3) := dk_182 0 178 (dk_at dksX10_feed_1 11 rfl rfl)
theorem dX10_feed_36 : decode cX10_feed 36 = .ok (.aload_n 0, 1) := dk_42 (dk_at dksX10_feed_1 14 rfl rfl)
theorem dX10_feed_37 : decode cX10_feed 37 = .ok (.iload 5, 2) := dk_21 5 (dk_at dksX10_feed_1 15 rfl rfl)
theorem dX10_feed_39 : decode cX10_feed 39 = .ok (.invokevirtual 178, 3) := dk_182 0 178 (dk_at dksX10_feed_1 17 rfl rfl)
theorem dX10_feed_42 : decode cX10_feed 42 = .ok (.aload_n 0, 1) := dk_42 (dk_at dksX10_feed_1 20 rfl rfl)
theorem dX10_feed_43 : decode cX10_feed 43 = .ok (.getfield 175, 3) := dk_180 0 175 (dk_at dksX10_feed_1 21 rfl rfl)
theorem dX10_feed_46 : decode cX10_feed 46 = .ok (.ireturn, 1) := dk_172 (dk_at dksX10_feed_2 0 rfl rfl)
abbrev cX10_put : ByteArray := prog_21_method_4_code
def yX10_put : MethodName := ⟨RX10, "put", "(I)V"⟩
def dkwX10_put_1 : List UInt8 := [180, 0, 175, 4, 96, 181, 0, 175, 132, 2, 248, 167, 255, 226, 177]
abbrev dktX10_put_1 : List UInt8 := dkwX10_put_1 ++ []
def dkwX10_put_0 : List UInt8 := [16, 24, 61, 28, 155, 0, 32, 42, 180, 0, 13, 42, 180, 0, 175, 27, 28, 122, 145, 84, 42, 89]
abbrev dktX10_put_0 : List UInt8 := dkwX10_put_0 ++ dktX10_put_1
theorem dksX10_put_0 : cX10_put.data.toList.drop 0 = dktX10_put_0 := by decide +kernel
theorem dksX10_put_1 : cX10_put.data.toList.drop 22 = dktX10_put_1 := dk_seg dksX10_put_0 22 rfl rfl
theorem dX10_put_0 : decode cX10_put 0 = .ok (.bipush 24, 2) := dk_16 24 (dk_at dksX10_put_0 0 rfl rfl)
theorem dX10_put_2 : decode cX10_put 2 = .ok (.istore_n 2, 1) := dk_61 (dk_at dksX10_put_0 2 rfl rfl)
theorem dX10_put_3 : decode cX10_put 3 = .ok (.iload_n 2, 1) := dk_28 (dk_at dksX10_put_0 3 rfl rfl)
theorem dX10_put_4 : decode cX10_put 4 = .ok (.ifCond .lt 32, 3) := dk_155 0 32 (dk_at dksX10_put_0 4 rfl rfl)
theorem dX10_put_7 : decode cX10_put 7 = .ok (.aload_n 0, 1) := dk_42 (dk_at dksX10_put_0 7 rfl rfl)
theorem dX10_put_8 : decode cX10_put 8 = .ok (.getfield 13, 3) := dk_180 0 13 (dk_at dksX10_put_0 8 rfl rfl)
theorem dX10_put_11 : decode cX10_put 11 = .ok (.aload_n 0, 1) := dk_42 (dk_at dksX10_put_0 11 rfl rfl)
theorem dX10_put_12 : decode cX10_put 12 = .ok (.getfield 175, 3) := dk_180 0 175 (dk_at dksX10_put_0 12 rfl rfl)
theorem dX10_put_15 : decode cX10_put 15 = .ok (.iload_n 1, 1) := dk_27 (dk_at dksX10_put_0 15 rfl rfl)
theorem dX10_put_16 : decode cX10_put 16 = .ok (.iload_n 2, 1) := dk_28 (dk_at dksX10_put_0 16 rfl rfl)
theorem dX10_put_17 : decode cX10_put 17 = .ok (.ishr, 1) := dk_122 (dk_at dksX10_put_0 17 rfl rfl)
theorem dX10_put_18 : decode cX10_put 18 = .ok (.i2b, 1) := dk_145 (dk_at dksX10_put_0 18 rfl rfl)
theorem dX10_put_19 : decode cX10_put 19 = .ok (.bastore, 1) := dk_84 (dk_at dksX10_put_0 19 rfl rfl)
theorem dX10_put_20 : decode cX10_put 20 = .ok (.aload_n 0, 1) := dk_42 (dk_at dksX10_put_0 20 rfl rfl)
theorem dX10_put_21 : decode cX10_put 21 = .ok (.dup, 1) := dk_89 (dk_at dksX10_put_0 21 rfl rfl)
theorem dX10_put_22 : decode cX10_put 22 = .ok (.getfield 175, 3) := dk_180 0 175 (dk_at dksX10_put_1 0 rfl rfl)
theorem dX10_put_25 : decode cX10_put 25 = .ok (.iconst 1, 1) := dk_4 (dk_at dksX10_put_1 3 rfl rfl)
theorem dX10_put_26 : decode cX10_put 26 = .ok (.iadd, 1) := dk_96 (dk_at dksX10_put_1 4 rfl rfl)
theorem dX10_put_27 : decode cX10_put 27 = .ok (.putfield 175, 3) := dk_181 0 175 (dk_at dksX10_put_1 5 rfl rfl)
theorem dX10_put_30 : decode cX10_put 30 = .ok (.iinc 2 (-8), 3) := dk_132 2 248 (dk_at dksX10_put_1 8 rfl rfl)
theorem dX10_put_33 : decode cX10_put 33 = .ok (.goto (-30), 3) := dk_167 255 226 (dk_at dksX10_put_1 11 rfl rfl)
theorem dX10_put_36 : decode cX10_put 36 = .ok (.return_, 1) := dk_177 (dk_at dksX10_put_1 14 rfl rfl)
abbrev cX10_back : ByteArray := prog_21_method_5_code
def yX10_back : MethodName := ⟨RX10, "back", "(I)I"⟩
def dkwX10_back_1 : List UInt8 := [42, 180, 0, 175, 172]
abbrev dktX10_back_1 : List UInt8 := dkwX10_back_1 ++ []
def dkwX10_back_0 : List UInt8 := [27, 155, 0, 11, 27, 42, 180, 0, 175, 164, 0, 5, 2, 172, 42, 89, 180, 0, 175, 27, 100, 181, 0, 175]
abbrev dktX10_back_0 : List UInt8 := dkwX10_back_0 ++ dktX10_back_1
theorem dksX10_back_0 : cX10_back.data.toList.drop 0 = dktX10_back_0 := by decide +kernel
theorem dksX10_back_1 : cX10_back.data.toList.drop 24 = dktX10_back_1 := dk_seg dksX10_back_0 24 rfl rfl
theorem dX10_back_0 : decode cX10_back 0 = .ok (.iload_n 1, 1) := dk_27 (dk_at dksX10_back_0 0 rfl rfl)
theorem dX10_back_1 : decode cX10_back 1 = .ok (.ifCond .lt 11, 3) := dk_155 0 11 (dk_at dksX10_back_0 1 rfl rfl)
theorem dX10_back_4 : decode cX10_back 4 = .ok (.iload_n 1, 1) := dk_27 (dk_at dksX10_back_0 4 rfl rfl)
theorem dX10_back_5 : decode cX10_back 5 = .ok (.aload_n 0, 1) := dk_42 (dk_at dksX10_back_0 5 rfl rfl)
theorem dX10_back_6 : decode cX10_back 6 = .ok (.getfield 175, 3) := dk_180 0 175 (dk_at dksX10_back_0 6 rfl rfl)
theorem dX10_back_9 : decode cX10_back 9 = .ok (.if_icmp .le 5, 3) := dk_164 0 5 (dk_at dksX10_back_0 9 rfl rfl)
theorem dX10_back_12 : decode cX10_back 12 = .ok (.iconst (-1), 1) := dk_2 (dk_at dksX10_back_0 12 rfl rfl)
theorem dX10_back_13 : decode cX10_back 13 = .ok (.ireturn, 1) := dk_172 (dk_at dksX10_back_0 13 rfl rfl)
theorem dX10_back_14 : decode cX10_back 14 = .ok (.aload_n 0, 1) := dk_42 (dk_at dksX10_back_0 14 rfl rfl)
theorem dX10_back_15 : decode cX10_back 15 = .ok (.dup, 1) := dk_89 (dk_at dksX10_back_0 15 rfl rfl)
theorem dX10_back_16 : decode cX10_back 16 = .ok (.getfield 175, 3) := dk_180 0 175 (dk_at dksX10_back_0 16 rfl rfl)
theorem dX10_back_19 : decode cX10_back 19 = .ok (.iload_n 1, 1) := dk_27 (dk_at dksX10_back_0 19 rfl rfl)
theorem dX10_back_20 : decode cX10_back 20 = .ok (.isub, 1) := dk_100 (dk_at dksX10_back_0 20 rfl rfl)
theorem dX10_back_21 : decode cX10_back 21 = .ok (.putfield 175, 3) := dk_181 0 175 (dk_at dksX10_back_0 21 rfl rfl)
theorem dX10_back_24 : decode cX10_back 24 = .ok (.aload_n 0, 1) := dk_42 (dk_at dksX10_back_1 0 rfl rfl)
theorem dX10_back_25 : decode cX10_back 25 = .ok (.getfield 175, 3) := dk_180 0 175 (dk_at dksX10_back_1 1 rfl rfl)
theorem dX10_back_28 : decode cX10_back 28 = .ok (.ireturn, 1) := dk_172 (dk_at dksX10_back_1 4 rfl rfl)
abbrev cX10_read : ByteArray := prog_21_method_20_code
def yX10_read : MethodName := ⟨RX10, "read", "()I"⟩
def dkwX10_read_10 : List UInt8 := [132, 1, 1, 167, 255, 241, 3, 172]
abbrev dktX10_read_10 : List UInt8 := dkwX10_read_10 ++ []
def dkwX10_read_9 : List UInt8 := [42, 3, 181, 1, 7, 42, 3, 181, 1, 10, 3, 60, 27, 6, 162, 0, 16, 42, 180, 0, 155, 27, 3, 84]
abbrev dktX10_read_9 : List UInt8 := dkwX10_read_9 ++ dktX10_read_10
def dkwX10_read_8 : List UInt8 := [180, 0, 221, 172, 42, 42, 180, 0, 245, 181, 0, 242, 42, 182, 1, 4, 42, 182, 0, 169, 42, 182, 0, 172]
abbrev dktX10_read_8 : List UInt8 := dkwX10_read_8 ++ dktX10_read_9
def dkwX10_read_7 : List UInt8 := [2, 181, 0, 37, 42, 180, 0, 212, 158, 0, 8, 42, 180, 0, 212, 172, 42, 180, 0, 221, 158, 0, 8, 42]
abbrev dktX10_read_7 : List UInt8 := dkwX10_read_7 ++ dktX10_read_8
def dkwX10_read_6 : List UInt8 := [158, 0, 10, 42, 180, 0, 218, 167, 0, 18, 42, 180, 0, 221, 158, 0, 10, 42, 180, 0, 224, 167, 0, 4]
abbrev dktX10_read_6 : List UInt8 := dkwX10_read_6 ++ dktX10_read_7
def dkwX10_read_5 : List UInt8 := [154, 0, 18, 42, 3, 182, 0, 230, 154, 0, 10, 42, 182, 1, 1, 167, 255, 237, 42, 42, 180, 0, 212]
abbrev dktX10_read_5 : List UInt8 := dkwX10_read_5 ++ dktX10_read_6
def dkwX10_read_4 : List UInt8 := [180, 0, 245, 104, 181, 0, 251, 42, 17, 1, 164, 42, 180, 0, 245, 104, 181, 0, 254, 42, 180, 0, 212]
abbrev dktX10_read_4 : List UInt8 := dkwX10_read_4 ++ dktX10_read_5
def dkwX10_read_3 : List UInt8 := [100, 181, 0, 245, 42, 3, 181, 0, 248, 42, 42, 180, 0, 245, 182, 0, 161, 42, 17, 0, 130, 42]
abbrev dktX10_read_3 : List UInt8 := dkwX10_read_3 ++ dktX10_read_4
def dkwX10_read_2 : List UInt8 := [181, 0, 215, 42, 3, 181, 0, 239, 42, 3, 181, 0, 212, 42, 3, 181, 0, 221, 42, 4, 42, 180, 0, 242]
abbrev dktX10_read_2 : List UInt8 := dkwX10_read_2 ++ dktX10_read_3
def dkwX10_read_1 : List UInt8 := [180, 0, 13, 27, 51, 84, 132, 1, 1, 167, 255, 233, 42, 3, 181, 0, 175, 42, 182, 0, 236, 42, 3]
abbrev dktX10_read_1 : List UInt8 := dkwX10_read_1 ++ dktX10_read_2
def dkwX10_read_0 : List UInt8 := [42, 42, 180, 0, 175, 181, 0, 181, 3, 60, 27, 42, 180, 0, 181, 162, 0, 21, 42, 180, 0, 17, 27, 42]
abbrev dktX10_read_0 : List UInt8 := dkwX10_read_0 ++ dktX10_read_1
theorem dksX10_read_0 : cX10_read.data.toList.drop 0 = dktX10_read_0 := by decide +kernel
theorem dksX10_read_1 : cX10_read.data.toList.drop 24 = dktX10_read_1 := dk_seg dksX10_read_0 24 rfl rfl
theorem dksX10_read_2 : cX10_read.data.toList.drop 47 = dktX10_read_2 := dk_seg dksX10_read_1 23 rfl rfl
theorem dksX10_read_3 : cX10_read.data.toList.drop 71 = dktX10_read_3 := dk_seg dksX10_read_2 24 rfl rfl
theorem dksX10_read_4 : cX10_read.data.toList.drop 93 = dktX10_read_4 := dk_seg dksX10_read_3 22 rfl rfl
theorem dksX10_read_5 : cX10_read.data.toList.drop 116 = dktX10_read_5 := dk_seg dksX10_read_4 23 rfl rfl
theorem dksX10_read_6 : cX10_read.data.toList.drop 139 = dktX10_read_6 := dk_seg dksX10_read_5 23 rfl rfl
theorem dksX10_read_7 : cX10_read.data.toList.drop 163 = dktX10_read_7 := dk_seg dksX10_read_6 24 rfl rfl
theorem dksX10_read_8 : cX10_read.data.toList.drop 187 = dktX10_read_8 := dk_seg dksX10_read_7 24 rfl rfl
theorem dksX10_read_9 : cX10_read.data.toList.drop 211 = dktX10_read_9 := dk_seg dksX10_read_8 24 rfl rfl
theorem dksX10_read_10 : cX10_read.data.toList.drop 235 = dktX10_read_10 := dk_seg dksX10_read_9 24 rfl rfl
theorem dX10_read_0 : decode cX10_read 0 = .ok (.aload_n 0, 1) := dk_42 (dk_at dksX10_read_0 0 rfl rfl)
theorem dX10_read_1 : decode cX10_read 1 = .ok (.aload_n 0, 1) := dk_42 (dk_at dksX10_read_0 1 rfl rfl)
theorem dX10_read_2 : decode cX10_read 2 = .ok (.getfield 175, 3) := dk_180 0 175 (dk_at dksX10_read_0 2 rfl rfl)
theorem dX10_read_5 : decode cX10_read 5 = .ok (.putfield 181, 3) := dk_181 0 181 (dk_at dksX10_read_0 5 rfl rfl)
theorem dX10_read_8 : decode cX10_read 8 = .ok (.iconst 0, 1) := dk_3 (dk_at dksX10_read_0 8 rfl rfl)
theorem dX10_read_9 : decode cX10_read 9 = .ok (.istore_n 1, 1) := dk_60 (dk_at dksX10_read_0 9 rfl rfl)
theorem dX10_read_10 : decode cX10_read 10 = .ok (.iload_n 1, 1) := dk_27 (dk_at dksX10_read_0 10 rfl rfl)
theorem dX10_read_11 : decode cX10_read 11 = .ok (.aload_n 0, 1) := dk_42 (dk_at dksX10_read_0 11 rfl rfl)
theorem dX10_read_12 : decode cX10_read 12 = .ok (.getfield 181, 3) := dk_180 0 181 (dk_at dksX10_read_0 12 rfl rfl)
theorem dX10_read_15 : decode cX10_read 15 = .ok (.if_icmp .ge 21, 3) := dk_162 0 21 (dk_at dksX10_read_0 15 rfl rfl)
theorem dX10_read_18 : decode cX10_read 18 = .ok (.aload_n 0, 1) := dk_42 (dk_at dksX10_read_0 18 rfl rfl)
theorem dX10_read_19 : decode cX10_read 19 = .ok (.getfield 17, 3) := dk_180 0 17 (dk_at dksX10_read_0 19 rfl rfl)
theorem dX10_read_22 : decode cX10_read 22 = .ok (.iload_n 1, 1) := dk_27 (dk_at dksX10_read_0 22 rfl rfl)
theorem dX10_read_23 : decode cX10_read 23 = .ok (.aload_n 0, 1) := dk_42 (dk_at dksX10_read_0 23 rfl rfl)
theorem dX10_read_24 : decode cX10_read 24 = .ok (.getfield 13, 3) := dk_180 0 13 (dk_at dksX10_read_1 0 rfl rfl)
theorem dX10_read_27 : decode cX10_read 27 = .ok (.iload_n 1, 1) := dk_27 (dk_at dksX10_read_1 3 rfl rfl)
theorem dX10_read_28 : decode cX10_read 28 = .ok (.baload, 1) := dk_51 (dk_at dksX10_read_1 4 rfl rfl)
theorem dX10_read_29 : decode cX10_read 29 = .ok (.bastore, 1) := dk_84 (dk_at dksX10_read_1 5 rfl rfl)
theorem dX10_read_30 : decode cX10_read 30 = .ok (.iinc 1 1, 3) := dk_132 1 1 (dk_at dksX10_read_1 6 rfl rfl)
theorem dX10_read_33 : decode cX10_read 33 = .ok (.goto (-23), 3) := dk_167 255 233 (dk_at dksX10_read_1 9 rfl rfl)
theorem dX10_read_36 : decode cX10_read 36 = .ok (.aload_n 0, 1) := dk_42 (dk_at dksX10_read_1 12 rfl rfl)
theorem dX10_read_37 : decode cX10_read 37 = .ok (.iconst 0, 1) := dk_3 (dk_at dksX10_read_1 13 rfl rfl)
theorem dX10_read_38 : decode cX10_read 38 = .ok (.putfield 175, 3) := dk_181 0 175 (dk_at dksX10_read_1 14 rfl rfl)
theorem dX10_read_41 : decode cX10_read 41 = .ok (.aload_n 0, 1) := dk_42 (dk_at dksX10_read_1 17 rfl rfl)
theorem dX10_read_42 : decode cX10_read 42 = .ok (.invokevirtual 236, 3) := dk_182 0 236 (dk_at dksX10_read_1 18 rfl rfl)
theorem dX10_read_45 : decode cX10_read 45 = .ok (.aload_n 0, 1) := dk_42 (dk_at dksX10_read_1 21 rfl rfl)
theorem dX10_read_46 : decode cX10_read 46 = .ok (.iconst 0, 1) := dk_3 (dk_at dksX10_read_1 22 rfl rfl)
theorem dX10_read_47 : decode cX10_read 47 = .ok (.putfield 215, 3) := dk_181 0 215 (dk_at dksX10_read_2 0 rfl rfl)
theorem dX10_read_50 : decode cX10_read 50 = .ok (.aload_n 0, 1) := dk_42 (dk_at dksX10_read_2 3 rfl rfl)
theorem dX10_read_51 : decode cX10_read 51 = .ok (.iconst 0, 1) := dk_3 (dk_at dksX10_read_2 4 rfl rfl)
theorem dX10_read_52 : decode cX10_read 52 = .ok (.putfield 239, 3) := dk_181 0 239 (dk_at dksX10_read_2 5 rfl rfl)
theorem dX10_read_55 : decode cX10_read 55 = .ok (.aload_n 0, 1) := dk_42 (dk_at dksX10_read_2 8 rfl rfl)
theorem dX10_read_56 : decode cX10_read 56 = .ok (.iconst 0, 1) := dk_3 (dk_at dksX10_read_2 9 rfl rfl)
theorem dX10_read_57 : decode cX10_read 57 = .ok (.putfield 212, 3) := dk_181 0 212 (dk_at dksX10_read_2 10 rfl rfl)
theorem dX10_read_60 : decode cX10_read 60 = .ok (.aload_n 0, 1) := dk_42 (dk_at dksX10_read_2 13 rfl rfl)
theorem dX10_read_61 : decode cX10_read 61 = .ok (.iconst 0, 1) := dk_3 (dk_at dksX10_read_2 14 rfl rfl)
theorem dX10_read_62 : decode cX10_read 62 = .ok (.putfield 221, 3) := dk_181 0 221 (dk_at dksX10_read_2 15 rfl rfl)
theorem dX10_read_65 : decode cX10_read 65 = .ok (.aload_n 0, 1) := dk_42 (dk_at dksX10_read_2 18 rfl rfl)
theorem dX10_read_66 : decode cX10_read 66 = .ok (.iconst 1, 1) := dk_4 (dk_at dksX10_read_2 19 rfl rfl)
theorem dX10_read_67 : decode cX10_read 67 = .ok (.aload_n 0, 1) := dk_42 (dk_at dksX10_read_2 20 rfl rfl)
theorem dX10_read_68 : decode cX10_read 68 = .ok (.getfield 242, 3) := dk_180 0 242 (dk_at dksX10_read_2 21 rfl rfl)
theorem dX10_read_71 : decode cX10_read 71 = .ok (.isub, 1) := dk_100 (dk_at dksX10_read_3 0 rfl rfl)
theorem dX10_read_72 : decode cX10_read 72 = .ok (.putfield 245, 3) := dk_181 0 245 (dk_at dksX10_read_3 1 rfl rfl)
theorem dX10_read_75 : decode cX10_read 75 = .ok (.aload_n 0, 1) := dk_42 (dk_at dksX10_read_3 4 rfl rfl)
theorem dX10_read_76 : decode cX10_read 76 = .ok (.iconst 0, 1) := dk_3 (dk_at dksX10_read_3 5 rfl rfl)
theorem dX10_read_77 : decode cX10_read 77 = .ok (.putfield 248, 3) := dk_181 0 248 (dk_at dksX10_read_3 6 rfl rfl)
theorem dX10_read_80 : decode cX10_read 80 = .ok (.aload_n 0, 1) := dk_42 (dk_at dksX10_read_3 9 rfl rfl)
theorem dX10_read_81 : decode cX10_read 81 = .ok (.aload_n 0, 1) := dk_42 (dk_at dksX10_read_3 10 rfl rfl)
theorem dX10_read_82 : decode cX10_read 82 = .ok (.getfield 245, 3) := dk_180 0 245 (dk_at dksX10_read_3 11 rfl rfl)
theorem dX10_read_85 : decode cX10_read 85 = .ok (.invokevirtual 161, 3) := dk_182 0 161 (dk_at dksX10_read_3 14 rfl rfl)
theorem dX10_read_88 : decode cX10_read 88 = .ok (.aload_n 0, 1) := dk_42 (dk_at dksX10_read_3 17 rfl rfl)
theorem dX10_read_89 : decode cX10_read 89 = .ok (.sipush 130, 3) := dk_17 0 130 (dk_at dksX10_read_3 18 rfl rfl)
theorem dX10_read_92 : decode cX10_read 92 = .ok (.aload_n 0, 1) := dk_42 (dk_at dksX10_read_3 21 rfl rfl)
theorem dX10_read_93 : decode cX10_read 93 = .ok (.getfield 245, 3) := dk_180 0 245 (dk_at dksX10_read_4 0 rfl rfl)
theorem dX10_read_96 : decode cX10_read 96 = .ok (.imul, 1) := dk_104 (dk_at dksX10_read_4 3 rfl rfl)
theorem dX10_read_97 : decode cX10_read 97 = .ok (.putfield 251, 3) := dk_181 0 251 (dk_at dksX10_read_4 4 rfl rfl)
theorem dX10_read_100 : decode cX10_read 100 = .ok (.aload_n 0, 1) := dk_42 (dk_at dksX10_read_4 7 rfl rfl)
theorem dX10_read_101 : decode cX10_read 101 = .ok (.sipush 420, 3) := dk_17 1 164 (dk_at dksX10_read_4 8 rfl rfl)
theorem dX10_read_104 : decode cX10_read 104 = .ok (.aload_n 0, 1) := dk_42 (dk_at dksX10_read_4 11 rfl rfl)
theorem dX10_read_105 : decode cX10_read 105 = .ok (.getfield 245, 3) := dk_180 0 245 (dk_at dksX10_read_4 12 rfl rfl)
theorem dX10_read_108 : decode cX10_read 108 = .ok (.imul, 1) := dk_104 (dk_at dksX10_read_4 15 rfl rfl)
theorem dX10_read_109 : decode cX10_read 109 = .ok (.putfield 254, 3) := dk_181 0 254 (dk_at dksX10_read_4 16 rfl rfl)
theorem dX10_read_112 : decode cX10_read 112 = .ok (.aload_n 0, 1) := dk_42 (dk_at dksX10_read_4 19 rfl rfl)
theorem dX10_read_113 : decode cX10_read 113 = .ok (.getfield 212, 3) := dk_180 0 212 (dk_at dksX10_read_4 20 rfl rfl)
theorem dX10_read_116 : decode cX10_read 116 = .ok (.ifCond .ne 18, 3) := dk_154 0 18 (dk_at dksX10_read_5 0 rfl rfl)
theorem dX10_read_119 : decode cX10_read 119 = .ok (.aload_n 0, 1) := dk_42 (dk_at dksX10_read_5 3 rfl rfl)
theorem dX10_read_120 : decode cX10_read 120 = .ok (.iconst 0, 1) := dk_3 (dk_at dksX10_read_5 4 rfl rfl)
theorem dX10_read_121 : decode cX10_read 121 = .ok (.invokevirtual 230, 3) := dk_182 0 230 (dk_at dksX10_read_5 5 rfl rfl)
theorem dX10_read_124 : decode cX10_read 124 = .ok (.ifCond .ne 10, 3) := dk_154 0 10 (dk_at dksX10_read_5 8 rfl rfl)
theorem dX10_read_127 : decode cX10_read 127 = .ok (.aload_n 0, 1) := dk_42 (dk_at dksX10_read_5 11 rfl rfl)
theorem dX10_read_128 : decode cX10_read 128 = .ok (.invokevirtual 257, 3) := dk_182 1 1 (dk_at dksX10_read_5 12 rfl rfl)
theorem dX10_read_131 : decode cX10_read 131 = .ok (.goto (-19), 3) := dk_167 255 237 (dk_at dksX10_read_5 15 rfl rfl)
theorem dX10_read_134 : decode cX10_read 134 = .ok (.aload_n 0, 1) := dk_42 (dk_at dksX10_read_5 18 rfl rfl)
theorem dX10_read_135 : decode cX10_read 135 = .ok (.aload_n 0, 1) := dk_42 (dk_at dksX10_read_5 19 rfl rfl)
theorem dX10_read_136 : decode cX10_read 136 = .ok (.getfield 212, 3) := dk_180 0 212 (dk_at dksX10_read_5 20 rfl rfl)
theorem dX10_read_139 : decode cX10_read 139 = .ok (.ifCond .le 10, 3) := dk_158 0 10 (dk_at dksX10_read_6 0 rfl rfl)
theorem dX10_read_142 : decode cX10_read 142 = .ok (.aload_n 0, 1) := dk_42 (dk_at dksX10_read_6 3 rfl rfl)
theorem dX10_read_143 : decode cX10_read 143 = .ok (.getfield 218, 3) := dk_180 0 218 (dk_at dksX10_read_6 4 rfl rfl)
theorem dX10_read_146 : decode cX10_read 146 = .ok (.goto 18, 3) := dk_167 0 18 (dk_at dksX10_read_6 7 rfl rfl)
theorem dX10_read_149 : decode cX10_read 149 = .ok (.aload_n 0, 1) := dk_42 (dk_at dksX10_read_6 10 rfl rfl)
theorem dX10_read_150 : decode cX10_read 150 = .ok (.getfield 221, 3) := dk_180 0 221 (dk_at dksX10_read_6 11 rfl rfl)
theorem dX10_read_153 : decode cX10_read 153 = .ok (.ifCond .le 10, 3) := dk_158 0 10 (dk_at dksX10_read_6 14 rfl rfl)
theorem dX10_read_156 : decode cX10_read 156 = .ok (.aload_n 0, 1) := dk_42 (dk_at dksX10_read_6 17 rfl rfl)
theorem dX10_read_157 : decode cX10_read 157 = .ok (.getfield 224, 3) := dk_180 0 224 (dk_at dksX10_read_6 18 rfl rfl)
theorem dX10_read_160 : decode cX10_read 160 = .ok (.goto 4, 3) := dk_167 0 4 (dk_at dksX10_read_6 21 rfl rfl)
theorem dX10_read_163 : decode cX10_read 163 = .ok (.iconst (-1), 1) := dk_2 (dk_at dksX10_read_7 0 rfl rfl)
theorem dX10_read_164 : decode cX10_read 164 = .ok (.putfield 37, 3) := dk_181 0 37 (dk_at dksX10_read_7 1 rfl rfl)
theorem dX10_read_167 : decode cX10_read 167 = .ok (.aload_n 0, 1) := dk_42 (dk_at dksX10_read_7 4 rfl rfl)
theorem dX10_read_168 : decode cX10_read 168 = .ok (.getfield 212, 3) := dk_180 0 212 (dk_at dksX10_read_7 5 rfl rfl)
theorem dX10_read_171 : decode cX10_read 171 = .ok (.ifCond .le 8, 3) := dk_158 0 8 (dk_at dksX10_read_7 8 rfl rfl)
theorem dX10_read_174 : decode cX10_read 174 = .ok (.aload_n 0, 1) := dk_42 (dk_at dksX10_read_7 11 rfl rfl)
theorem dX10_read_175 : decode cX10_read 175 = .ok (.getfield 212, 3) := dk_180 0 212 (dk_at dksX10_read_7 12 rfl rfl)
theorem dX10_read_178 : decode cX10_read 178 = .ok (.ireturn, 1) := dk_172 (dk_at dksX10_read_7 15 rfl rfl)
theorem dX10_read_179 : decode cX10_read 179 = .ok (.aload_n 0, 1) := dk_42 (dk_at dksX10_read_7 16 rfl rfl)
theorem dX10_read_180 : decode cX10_read 180 = .ok (.getfield 221, 3) := dk_180 0 221 (dk_at dksX10_read_7 17 rfl rfl)
theorem dX10_read_183 : decode cX10_read 183 = .ok (.ifCond .le 8, 3) := dk_158 0 8 (dk_at dksX10_read_7 20 rfl rfl)
theorem dX10_read_186 : decode cX10_read 186 = .ok (.aload_n 0, 1) := dk_42 (dk_at dksX10_read_7 23 rfl rfl)
theorem dX10_read_187 : decode cX10_read 187 = .ok (.getfield 221, 3) := dk_180 0 221 (dk_at dksX10_read_8 0 rfl rfl)
theorem dX10_read_190 : decode cX10_read 190 = .ok (.ireturn, 1) := dk_172 (dk_at dksX10_read_8 3 rfl rfl)
theorem dX10_read_191 : decode cX10_read 191 = .ok (.aload_n 0, 1) := dk_42 (dk_at dksX10_read_8 4 rfl rfl)
theorem dX10_read_192 : decode cX10_read 192 = .ok (.aload_n 0, 1) := dk_42 (dk_at dksX10_read_8 5 rfl rfl)
theorem dX10_read_193 : decode cX10_read 193 = .ok (.getfield 245, 3) := dk_180 0 245 (dk_at dksX10_read_8 6 rfl rfl)
theorem dX10_read_196 : decode cX10_read 196 = .ok (.putfield 242, 3) := dk_181 0 242 (dk_at dksX10_read_8 9 rfl rfl)
theorem dX10_read_199 : decode cX10_read 199 = .ok (.aload_n 0, 1) := dk_42 (dk_at dksX10_read_8 12 rfl rfl)
theorem dX10_read_200 : decode cX10_read 200 = .ok (.invokevirtual 260, 3) := dk_182 1 4 (dk_at dksX10_read_8 13 rfl rfl)
theorem dX10_read_203 : decode cX10_read 203 = .ok (.aload_n 0, 1) := dk_42 (dk_at dksX10_read_8 16 rfl rfl)
theorem dX10_read_204 : decode cX10_read 204 = .ok (.invokevirtual 169, 3) := dk_182 0 169 (dk_at dksX10_read_8 17 rfl rfl)
theorem dX10_read_207 : decode cX10_read 207 = .ok (.aload_n 0, 1) := dk_42 (dk_at dksX10_read_8 20 rfl rfl)
theorem dX10_read_208 : decode cX10_read 208 = .ok (.invokevirtual 172, 3) := dk_182 0 172 (dk_at dksX10_read_8 21 rfl rfl)
theorem dX10_read_211 : decode cX10_read 211 = .ok (.aload_n 0, 1) := dk_42 (dk_at dksX10_read_9 0 rfl rfl)
theorem dX10_read_212 : decode cX10_read 212 = .ok (.iconst 0, 1) := dk_3 (dk_at dksX10_read_9 1 rfl rfl)
theorem dX10_read_213 : decode cX10_read 213 = .ok (.putfield 263, 3) := dk_181 1 7 (dk_at dksX10_read_9 2 rfl rfl)
theorem dX10_read_216 : decode cX10_read 216 = .ok (.aload_n 0, 1) := dk_42 (dk_at dksX10_read_9 5 rfl rfl)
theorem dX10_read_217 : decode cX10_read 217 = .ok (.iconst 0, 1) := dk_3 (dk_at dksX10_read_9 6 rfl rfl)
theorem dX10_read_218 : decode cX10_read 218 = .ok (.putfield 266, 3) := dk_181 1 10 (dk_at dksX10_read_9 7 rfl rfl)
theorem dX10_read_221 : decode cX10_read 221 = .ok (.iconst 0, 1) := dk_3 (dk_at dksX10_read_9 10 rfl rfl)
theorem dX10_read_222 : decode cX10_read 222 = .ok (.istore_n 1, 1) := dk_60 (dk_at dksX10_read_9 11 rfl rfl)
theorem dX10_read_223 : decode cX10_read 223 = .ok (.iload_n 1, 1) := dk_27 (dk_at dksX10_read_9 12 rfl rfl)
theorem dX10_read_224 : decode cX10_read 224 = .ok (.iconst 3, 1) := dk_6 (dk_at dksX10_read_9 13 rfl rfl)
theorem dX10_read_225 : decode cX10_read 225 = .ok (.if_icmp .ge 16, 3) := dk_162 0 16 (dk_at dksX10_read_9 14 rfl rfl)
theorem dX10_read_228 : decode cX10_read 228 = .ok (.aload_n 0, 1) := dk_42 (dk_at dksX10_read_9 17 rfl rfl)
theorem dX10_read_229 : decode cX10_read 229 = .ok (.getfield 155, 3) := dk_180 0 155 (dk_at dksX10_read_9 18 rfl rfl)
theorem dX10_read_232 : decode cX10_read 232 = .ok (.iload_n 1, 1) := dk_27 (dk_at dksX10_read_9 21 rfl rfl)
theorem dX10_read_233 : decode cX10_read 233 = .ok (.iconst 0, 1) := dk_3 (dk_at dksX10_read_9 22 rfl rfl)
theorem dX10_read_234 : decode cX10_read 234 = .ok (.bastore, 1) := dk_84 (dk_at dksX10_read_9 23 rfl rfl)
theorem dX10_read_235 : decode cX10_read 235 = .ok (.iinc 1 1, 3) := dk_132 1 1 (dk_at dksX10_read_10 0 rfl rfl)
theorem dX10_read_238 : decode cX10_read 238 = .ok (.goto (-15), 3) := dk_167 255 241 (dk_at dksX10_read_10 3 rfl rfl)
theorem dX10_read_241 : decode cX10_read 241 = .ok (.iconst 0, 1) := dk_3 (dk_at dksX10_read_10 6 rfl rfl)
theorem dX10_read_242 : decode cX10_read 242 = .ok (.ireturn, 1) := dk_172 (dk_at dksX10_read_10 7 rfl rfl)
abbrev cX10_cut : ByteArray := prog_21_method_12_code
def yX10_cut : MethodName := ⟨RX10, "cut", "()V"⟩
def dkwX10_cut_12 : List UInt8 := [4, 96, 182, 0, 193, 182, 0, 208, 96, 60, 167, 254, 228, 177]
abbrev dktX10_cut_12 : List UInt8 := dkwX10_cut_12 ++ []
def dkwX10_cut_11 : List UInt8 := [167, 0, 4, 5, 27, 21, 4, 9, 182, 0, 197, 27, 29, 96, 60, 167, 0, 19, 27, 42, 27, 28, 42, 27]
abbrev dktX10_cut_11 : List UInt8 := dkwX10_cut_11 ++ dktX10_cut_12
def dkwX10_cut_10 : List UInt8 := [96, 182, 0, 193, 96, 16, 48, 100, 54, 4, 132, 3, 1, 167, 255, 217, 42, 29, 7, 164, 0, 7, 6]
abbrev dktX10_cut_10 : List UInt8 := dkwX10_cut_10 ++ dktX10_cut_11
def dkwX10_cut_9 : List UInt8 := [29, 96, 182, 0, 193, 184, 0, 205, 153, 0, 32, 29, 7, 162, 0, 21, 16, 10, 21, 4, 104, 42, 27, 29]
abbrev dktX10_cut_9 : List UInt8 := dkwX10_cut_9 ++ dktX10_cut_10
def dkwX10_cut_8 : List UInt8 := [182, 0, 197, 27, 29, 96, 60, 167, 0, 98, 28, 184, 0, 205, 153, 0, 75, 3, 62, 3, 54, 4, 42, 27]
abbrev dktX10_cut_8 : List UInt8 := dkwX10_cut_8 ++ dktX10_cut_9
def dkwX10_cut_7 : List UInt8 := [154, 0, 10, 16, 20, 21, 7, 96, 54, 6, 132, 7, 1, 167, 255, 226, 42, 21, 6, 27, 3, 22, 4]
abbrev dktX10_cut_7 : List UInt8 := dkwX10_cut_7 ++ dktX10_cut_8
def dkwX10_cut_6 : List UInt8 := [163, 0, 39, 3, 54, 7, 21, 7, 16, 23, 162, 0, 29, 42, 180, 0, 34, 21, 7, 47, 22, 4, 148]
abbrev dktX10_cut_6 : List UInt8 := dkwX10_cut_6 ++ dktX10_cut_7
def dkwX10_cut_5 : List UInt8 := [55, 4, 132, 3, 1, 167, 255, 220, 29, 16, 8, 164, 0, 7, 6, 167, 0, 4, 4, 54, 6, 29, 16, 8]
abbrev dktX10_cut_5 : List UInt8 := dkwX10_cut_5 ++ dktX10_cut_6
def dkwX10_cut_4 : List UInt8 := [184, 0, 201, 153, 0, 29, 29, 16, 8, 162, 0, 17, 22, 4, 42, 27, 29, 96, 182, 0, 193, 184, 0, 186]
abbrev dktX10_cut_4 : List UInt8 := dkwX10_cut_4 ++ dktX10_cut_5
def dkwX10_cut_3 : List UInt8 := [167, 0, 221, 28, 184, 0, 201, 153, 0, 119, 3, 62, 9, 55, 4, 42, 27, 29, 96, 182, 0, 193]
abbrev dktX10_cut_3 : List UInt8 := dkwX10_cut_3 ++ dktX10_cut_4
def dkwX10_cut_2 : List UInt8 := [159, 0, 21, 28, 16, 10, 159, 0, 15, 28, 16, 13, 159, 0, 9, 28, 16, 32, 160, 0, 9, 132, 1, 1]
abbrev dktX10_cut_2 : List UInt8 := dkwX10_cut_2 ++ dktX10_cut_3
def dkwX10_cut_1 : List UInt8 := [42, 180, 0, 181, 161, 0, 15, 42, 3, 42, 180, 0, 181, 3, 9, 182, 0, 197, 177, 28, 16, 9]
abbrev dktX10_cut_1 : List UInt8 := dkwX10_cut_1 ++ dktX10_cut_2
def dkwX10_cut_0 : List UInt8 := [42, 3, 181, 0, 190, 3, 60, 42, 180, 0, 190, 17, 1, 144, 163, 1, 24, 42, 27, 182, 0, 193, 61, 27]
abbrev dktX10_cut_0 : List UInt8 := dkwX10_cut_0 ++ dktX10_cut_1
theorem dksX10_cut_0 : cX10_cut.data.toList.drop 0 = dktX10_cut_0 := by decide +kernel
theorem dksX10_cut_1 : cX10_cut.data.toList.drop 24 = dktX10_cut_1 := dk_seg dksX10_cut_0 24 rfl rfl
theorem dksX10_cut_2 : cX10_cut.data.toList.drop 46 = dktX10_cut_2 := dk_seg dksX10_cut_1 22 rfl rfl
theorem dksX10_cut_3 : cX10_cut.data.toList.drop 70 = dktX10_cut_3 := dk_seg dksX10_cut_2 24 rfl rfl
theorem dksX10_cut_4 : cX10_cut.data.toList.drop 92 = dktX10_cut_4 := dk_seg dksX10_cut_3 22 rfl rfl
theorem dksX10_cut_5 : cX10_cut.data.toList.drop 116 = dktX10_cut_5 := dk_seg dksX10_cut_4 24 rfl rfl
theorem dksX10_cut_6 : cX10_cut.data.toList.drop 140 = dktX10_cut_6 := dk_seg dksX10_cut_5 24 rfl rfl
theorem dksX10_cut_7 : cX10_cut.data.toList.drop 163 = dktX10_cut_7 := dk_seg dksX10_cut_6 23 rfl rfl
theorem dksX10_cut_8 : cX10_cut.data.toList.drop 186 = dktX10_cut_8 := dk_seg dksX10_cut_7 23 rfl rfl
theorem dksX10_cut_9 : cX10_cut.data.toList.drop 210 = dktX10_cut_9 := dk_seg dksX10_cut_8 24 rfl rfl
theorem dksX10_cut_10 : cX10_cut.data.toList.drop 234 = dktX10_cut_10 := dk_seg dksX10_cut_9 24 rfl rfl
theorem dksX10_cut_11 : cX10_cut.data.toList.drop 257 = dktX10_cut_11 := dk_seg dksX10_cut_10 23 rfl rfl
theorem dksX10_cut_12 : cX10_cut.data.toList.drop 281 = dktX10_cut_12 := dk_seg dksX10_cut_11 24 rfl rfl
theorem dX10_cut_0 : decode cX10_cut 0 = .ok (.aload_n 0, 1) := dk_42 (dk_at dksX10_cut_0 0 rfl rfl)
theorem dX10_cut_1 : decode cX10_cut 1 = .ok (.iconst 0, 1) := dk_3 (dk_at dksX10_cut_0 1 rfl rfl)
theorem dX10_cut_2 : decode cX10_cut 2 = .ok (.putfield 190, 3) := dk_181 0 190 (dk_at dksX10_cut_0 2 rfl rfl)
theorem dX10_cut_5 : decode cX10_cut 5 = .ok (.iconst 0, 1) := dk_3 (dk_at dksX10_cut_0 5 rfl rfl)
theorem dX10_cut_6 : decode cX10_cut 6 = .ok (.istore_n 1, 1) := dk_60 (dk_at dksX10_cut_0 6 rfl rfl)
theorem dX10_cut_7 : decode cX10_cut 7 = .ok (.aload_n 0, 1) := dk_42 (dk_at dksX10_cut_0 7 rfl rfl)
theorem dX10_cut_8 : decode cX10_cut 8 = .ok (.getfield 190, 3) := dk_180 0 190 (dk_at dksX10_cut_0 8 rfl rfl)
theorem dX10_cut_11 : decode cX10_cut 11 = .ok (.sipush 400, 3) := dk_17 1 144 (dk_at dksX10_cut_0 11 rfl rfl)
theorem dX10_cut_14 : decode cX10_cut 14 = .ok (.if_icmp .gt 280, 3) := dk_163 1 24 (dk_at dksX10_cut_0 14 rfl rfl)
theorem dX10_cut_17 : decode cX10_cut 17 = .ok (.aload_n 0, 1) := dk_42 (dk_at dksX10_cut_0 17 rfl rfl)
theorem dX10_cut_18 : decode cX10_cut 18 = .ok (.iload_n 1, 1) := dk_27 (dk_at dksX10_cut_0 18 rfl rfl)
theorem dX10_cut_19 : decode cX10_cut 19 = .ok (.invokevirtual 193, 3) := dk_182 0 193 (dk_at dksX10_cut_0 19 rfl rfl)
theorem dX10_cut_22 : decode cX10_cut 22 = .ok (.istore_n 2, 1) := dk_61 (dk_at dksX10_cut_0 22 rfl rfl)
theorem dX10_cut_23 : decode cX10_cut 23 = .ok (.iload_n 1, 1) := dk_27 (dk_at dksX10_cut_0 23 rfl rfl)
theorem dX10_cut_24 : decode cX10_cut 24 = .ok (.aload_n 0, 1) := dk_42 (dk_at dksX10_cut_1 0 rfl rfl)
theorem dX10_cut_25 : decode cX10_cut 25 = .ok (.getfield 181, 3) := dk_180 0 181 (dk_at dksX10_cut_1 1 rfl rfl)
theorem dX10_cut_28 : decode cX10_cut 28 = .ok (.if_icmp .lt 15, 3) := dk_161 0 15 (dk_at dksX10_cut_1 4 rfl rfl)
theorem dX10_cut_31 : decode cX10_cut 31 = .ok (.aload_n 0, 1) := dk_42 (dk_at dksX10_cut_1 7 rfl rfl)
theorem dX10_cut_32 : decode cX10_cut 32 = .ok (.iconst 0, 1) := dk_3 (dk_at dksX10_cut_1 8 rfl rfl)
theorem dX10_cut_33 : decode cX10_cut 33 = .ok (.aload_n 0, 1) := dk_42 (dk_at dksX10_cut_1 9 rfl rfl)
theorem dX10_cut_34 : decode cX10_cut 34 = .ok (.getfield 181, 3) := dk_180 0 181 (dk_at dksX10_cut_1 10 rfl rfl)
theorem dX10_cut_37 : decode cX10_cut 37 = .ok (.iconst 0, 1) := dk_3 (dk_at dksX10_cut_1 13 rfl rfl)
theorem dX10_cut_38 : decode cX10_cut 38 = .ok (.lconst 0, 1) := dk_9 (dk_at dksX10_cut_1 14 rfl rfl)
theorem dX10_cut_39 : decode cX10_cut 39 = .ok (.invokevirtual 197, 3) := dk_182 0 197 (dk_at dksX10_cut_1 15 rfl rfl)
theorem dX10_cut_42 : decode cX10_cut 42 = .ok (.return_, 1) := dk_177 (dk_at dksX10_cut_1 18 rfl rfl)
theorem dX10_cut_43 : decode cX10_cut 43 = .ok (.iload_n 2, 1) := dk_28 (dk_at dksX10_cut_1 19 rfl rfl)
theorem dX10_cut_44 : decode cX10_cut 44 = .ok (.bipush 9, 2) := dk_16 9 (dk_at dksX10_cut_1 20 rfl rfl)
theorem dX10_cut_46 : decode cX10_cut 46 = .ok (.if_icmp .eq 21, 3) := dk_159 0 21 (dk_at dksX10_cut_2 0 rfl rfl)
theorem dX10_cut_49 : decode cX10_cut 49 = .ok (.iload_n 2, 1) := dk_28 (dk_at dksX10_cut_2 3 rfl rfl)
theorem dX10_cut_50 : decode cX10_cut 50 = .ok (.bipush 10, 2) := dk_16 10 (dk_at dksX10_cut_2 4 rfl rfl)
theorem dX10_cut_52 : decode cX10_cut 52 = .ok (.if_icmp .eq 15, 3) := dk_159 0 15 (dk_at dksX10_cut_2 6 rfl rfl)
theorem dX10_cut_55 : decode cX10_cut 55 = .ok (.iload_n 2, 1) := dk_28 (dk_at dksX10_cut_2 9 rfl rfl)
theorem dX10_cut_56 : decode cX10_cut 56 = .ok (.bipush 13, 2) := dk_16 13 (dk_at dksX10_cut_2 10 rfl rfl)
theorem dX10_cut_58 : decode cX10_cut 58 = .ok (.if_icmp .eq 9, 3) := dk_159 0 9 (dk_at dksX10_cut_2 12 rfl rfl)
theorem dX10_cut_61 : decode cX10_cut 61 = .ok (.iload_n 2, 1) := dk_28 (dk_at dksX10_cut_2 15 rfl rfl)
theorem dX10_cut_62 : decode cX10_cut 62 = .ok (.bipush 32, 2) := dk_16 32 (dk_at dksX10_cut_2 16 rfl rfl)
theorem dX10_cut_64 : decode cX10_cut 64 = .ok (.if_icmp .ne 9, 3) := dk_160 0 9 (dk_at dksX10_cut_2 18 rfl rfl)
theorem dX10_cut_67 : decode cX10_cut 67 = .ok (.iinc 1 1, 3) := dk_132 1 1 (dk_at dksX10_cut_2 21 rfl rfl)
theorem dX10_cut_70 : decode cX10_cut 70 = .ok (.goto 221, 3) := dk_167 0 221 (dk_at dksX10_cut_3 0 rfl rfl)
theorem dX10_cut_73 : decode cX10_cut 73 = .ok (.iload_n 2, 1) := dk_28 (dk_at dksX10_cut_3 3 rfl rfl)
theorem dX10_cut_74 : decode cX10_cut 74 = .ok (.invokestatic 201, 3) := dk_184 0 201 (dk_at dksX10_cut_3 4 rfl rfl)
theorem dX10_cut_77 : decode cX10_cut 77 = .ok (.ifCond .eq 119, 3) := dk_153 0 119 (dk_at dksX10_cut_3 7 rfl rfl)
theorem dX10_cut_80 : decode cX10_cut 80 = .ok (.iconst 0, 1) := dk_3 (dk_at dksX10_cut_3 10 rfl rfl)
theorem dX10_cut_81 : decode cX10_cut 81 = .ok (.istore_n 3, 1) := dk_62 (dk_at dksX10_cut_3 11 rfl rfl)
theorem dX10_cut_82 : decode cX10_cut 82 = .ok (.lconst 0, 1) := dk_9 (dk_at dksX10_cut_3 12 rfl rfl)
theorem dX10_cut_83 : decode cX10_cut 83 = .ok (.lstore 4, 2) := dk_55 4 (dk_at dksX10_cut_3 13 rfl rfl)
theorem dX10_cut_85 : decode cX10_cut 85 = .ok (.aload_n 0, 1) := dk_42 (dk_at dksX10_cut_3 15 rfl rfl)
theorem dX10_cut_86 : decode cX10_cut 86 = .ok (.iload_n 1, 1) := dk_27 (dk_at dksX10_cut_3 16 rfl rfl)
theorem dX10_cut_87 : decode cX10_cut 87 = .ok (.iload_n 3, 1) := dk_29 (dk_at dksX10_cut_3 17 rfl rfl)
theorem dX10_cut_88 : decode cX10_cut 88 = .ok (.iadd, 1) := dk_96 (dk_at dksX10_cut_3 18 rfl rfl)
theorem dX10_cut_89 : decode cX10_cut 89 = .ok (.invokevirtual 193, 3) := dk_182 0 193 (dk_at dksX10_cut_3 19 rfl rfl)
theorem dX10_cut_92 : decode cX10_cut 92 = .ok (.invokestatic 201, 3) := dk_184 0 201 (dk_at dksX10_cut_4 0 rfl rfl)
theorem dX10_cut_95 : decode cX10_cut 95 = .ok (.ifCond .eq 29, 3) := dk_153 0 29 (dk_at dksX10_cut_4 3 rfl rfl)
theorem dX10_cut_98 : decode cX10_cut 98 = .ok (.iload_n 3, 1) := dk_29 (dk_at dksX10_cut_4 6 rfl rfl)
theorem dX10_cut_99 : decode cX10_cut 99 = .ok (.bipush 8, 2) := dk_16 8 (dk_at dksX10_cut_4 7 rfl rfl)
theorem dX10_cut_101 : decode cX10_cut 101 = .ok (.if_icmp .ge 17, 3) := dk_162 0 17 (dk_at dksX10_cut_4 9 rfl rfl)
theorem dX10_cut_104 : decode cX10_cut 104 = .ok (.lload 4, 2) := dk_22 4 (dk_at dksX10_cut_4 12 rfl rfl)
theorem dX10_cut_106 : decode cX10_cut 106 = .ok (.aload_n 0, 1) := dk_42 (dk_at dksX10_cut_4 14 rfl rfl)
theorem dX10_cut_107 : decode cX10_cut 107 = .ok (.iload_n 1, 1) := dk_27 (dk_at dksX10_cut_4 15 rfl rfl)
theorem dX10_cut_108 : decode cX10_cut 108 = .ok (.iload_n 3, 1) := dk_29 (dk_at dksX10_cut_4 16 rfl rfl)
theorem dX10_cut_109 : decode cX10_cut 109 = .ok (.iadd, 1) := dk_96 (dk_at dksX10_cut_4 17 rfl rfl)
theorem dX10_cut_110 : decode cX10_cut 110 = .ok (.invokevirtual 193, 3) := dk_182 0 193 (dk_at dksX10_cut_4 18 rfl rfl)
theorem dX10_cut_113 : decode cX10_cut 113 = .ok (.invokestatic 186, 3) := dk_184 0 186 (dk_at dksX10_cut_4 21 rfl rfl)
theorem dX10_cut_116 : decode cX10_cut 116 = .ok (.lstore 4, 2) := dk_55 4 (dk_at dksX10_cut_5 0 rfl rfl)
theorem dX10_cut_118 : decode cX10_cut 118 = .ok (.iinc 3 1, 3) := dk_132 3 1 (dk_at dksX10_cut_5 2 rfl rfl)
theorem dX10_cut_121 : decode cX10_cut 121 = .ok (.goto (-36), 3) := dk_167 255 220 (dk_at dksX10_cut_5 5 rfl rfl)
theorem dX10_cut_124 : decode cX10_cut 124 = .ok (.iload_n 3, 1) := dk_29 (dk_at dksX10_cut_5 8 rfl rfl)
theorem dX10_cut_125 : decode cX10_cut 125 = .ok (.bipush 8, 2) := dk_16 8 (dk_at dksX10_cut_5 9 rfl rfl)
theorem dX10_cut_127 : decode cX10_cut 127 = .ok (.if_icmp .le 7, 3) := dk_164 0 7 (dk_at dksX10_cut_5 11 rfl rfl)
theorem dX10_cut_130 : decode cX10_cut 130 = .ok (.iconst 3, 1) := dk_6 (dk_at dksX10_cut_5 14 rfl rfl)
theorem dX10_cut_131 : decode cX10_cut 131 = .ok (.goto 4, 3) := dk_167 0 4 (dk_at dksX10_cut_5 15 rfl rfl)
theorem dX10_cut_134 : decode cX10_cut 134 = .ok (.iconst 1, 1) := dk_4 (dk_at dksX10_cut_5 18 rfl rfl)
theorem dX10_cut_135 : decode cX10_cut 135 = .ok (.istore 6, 2) := dk_54 6 (dk_at dksX10_cut_5 19 rfl rfl)
theorem dX10_cut_137 : decode cX10_cut 137 = .ok (.iload_n 3, 1) := dk_29 (dk_at dksX10_cut_5 21 rfl rfl)
theorem dX10_cut_138 : decode cX10_cut 138 = .ok (.bipush 8, 2) := dk_16 8 (dk_at dksX10_cut_5 22 rfl rfl)
theorem dX10_cut_140 : decode cX10_cut 140 = .ok (.if_icmp .gt 39, 3) := dk_163 0 39 (dk_at dksX10_cut_6 0 rfl rfl)
theorem dX10_cut_143 : decode cX10_cut 143 = .ok (.iconst 0, 1) := dk_3 (dk_at dksX10_cut_6 3 rfl rfl)
theorem dX10_cut_144 : decode cX10_cut 144 = .ok (.istore 7, 2) := dk_54 7 (dk_at dksX10_cut_6 4 rfl rfl)
theorem dX10_cut_146 : decode cX10_cut 146 = .ok (.iload 7, 2) := dk_21 7 (dk_at dksX10_cut_6 6 rfl rfl)
theorem dX10_cut_148 : decode cX10_cut 148 = .ok (.bipush 23, 2) := dk_16 23 (dk_at dksX10_cut_6 8 rfl rfl)
theorem dX10_cut_150 : decode cX10_cut 150 = .ok (.if_icmp .ge 29, 3) := dk_162 0 29 (dk_at dksX10_cut_6 10 rfl rfl)
theorem dX10_cut_153 : decode cX10_cut 153 = .ok (.aload_n 0, 1) := dk_42 (dk_at dksX10_cut_6 13 rfl rfl)
theorem dX10_cut_154 : decode cX10_cut 154 = .ok (.getfield 34, 3) := dk_180 0 34 (dk_at dksX10_cut_6 14 rfl rfl)
theorem dX10_cut_157 : decode cX10_cut 157 = .ok (.iload 7, 2) := dk_21 7 (dk_at dksX10_cut_6 17 rfl rfl)
theorem dX10_cut_159 : decode cX10_cut 159 = .ok (.laload, 1) := dk_47 (dk_at dksX10_cut_6 19 rfl rfl)
theorem dX10_cut_160 : decode cX10_cut 160 = .ok (.lload 4, 2) := dk_22 4 (dk_at dksX10_cut_6 20 rfl rfl)
theorem dX10_cut_162 : decode cX10_cut 162 = .ok (.lcmp, 1) := dk_148 (dk_at dksX10_cut_6 22 rfl rfl)
theorem dX10_cut_163 : decode cX10_cut 163 = .ok (.ifCond .ne 10, 3) := dk_154 0 10 (dk_at dksX10_cut_7 0 rfl rfl)
theorem dX10_cut_166 : decode cX10_cut 166 = .ok (.bipush 20, 2) := dk_16 20 (dk_at dksX10_cut_7 3 rfl rfl)
theorem dX10_cut_168 : decode cX10_cut 168 = .ok (.iload 7, 2) := dk_21 7 (dk_at dksX10_cut_7 5 rfl rfl)
theorem dX10_cut_170 : decode cX10_cut 170 = .ok (.iadd, 1) := dk_96 (dk_at dksX10_cut_7 7 rfl rfl)
theorem dX10_cut_171 : decode cX10_cut 171 = .ok (.istore 6, 2) := dk_54 6 (dk_at dksX10_cut_7 8 rfl rfl)
theorem dX10_cut_173 : decode cX10_cut 173 = .ok (.iinc 7 1, 3) := dk_132 7 1 (dk_at dksX10_cut_7 10 rfl rfl)
theorem dX10_cut_176 : decode cX10_cut 176 = .ok (.goto (-30), 3) := dk_167 255 226 (dk_at dksX10_cut_7 13 rfl rfl)
theorem dX10_cut_179 : decode cX10_cut 179 = .ok (.aload_n 0, 1) := dk_42 (dk_at dksX10_cut_7 16 rfl rfl)
theorem dX10_cut_180 : decode cX10_cut 180 = .ok (.iload 6, 2) := dk_21 6 (dk_at dksX10_cut_7 17 rfl rfl)
theorem dX10_cut_182 : decode cX10_cut 182 = .ok (.iload_n 1, 1) := dk_27 (dk_at dksX10_cut_7 19 rfl rfl)
theorem dX10_cut_183 : decode cX10_cut 183 = .ok (.iconst 0, 1) := dk_3 (dk_at dksX10_cut_7 20 rfl rfl)
theorem dX10_cut_184 : decode cX10_cut 184 = .ok (.lload 4, 2) := dk_22 4 (dk_at dksX10_cut_7 21 rfl rfl)
theorem dX10_cut_186 : decode cX10_cut 186 = .ok (.invokevirtual 197, 3) := dk_182 0 197 (dk_at dksX10_cut_8 0 rfl rfl)
theorem dX10_cut_189 : decode cX10_cut 189 = .ok (.iload_n 1, 1) := dk_27 (dk_at dksX10_cut_8 3 rfl rfl)
theorem dX10_cut_190 : decode cX10_cut 190 = .ok (.iload_n 3, 1) := dk_29 (dk_at dksX10_cut_8 4 rfl rfl)
theorem dX10_cut_191 : decode cX10_cut 191 = .ok (.iadd, 1) := dk_96 (dk_at dksX10_cut_8 5 rfl rfl)
theorem dX10_cut_192 : decode cX10_cut 192 = .ok (.istore_n 1, 1) := dk_60 (dk_at dksX10_cut_8 6 rfl rfl)
theorem dX10_cut_193 : decode cX10_cut 193 = .ok (.goto 98, 3) := dk_167 0 98 (dk_at dksX10_cut_8 7 rfl rfl)
theorem dX10_cut_196 : decode cX10_cut 196 = .ok (.iload_n 2, 1) := dk_28 (dk_at dksX10_cut_8 10 rfl rfl)
theorem dX10_cut_197 : decode cX10_cut 197 = .ok (.invokestatic 205, 3) := dk_184 0 205 (dk_at dksX10_cut_8 11 rfl rfl)
theorem dX10_cut_200 : decode cX10_cut 200 = .ok (.ifCond .eq 75, 3) := dk_153 0 75 (dk_at dksX10_cut_8 14 rfl rfl)
theorem dX10_cut_203 : decode cX10_cut 203 = .ok (.iconst 0, 1) := dk_3 (dk_at dksX10_cut_8 17 rfl rfl)
theorem dX10_cut_204 : decode cX10_cut 204 = .ok (.istore_n 3, 1) := dk_62 (dk_at dksX10_cut_8 18 rfl rfl)
theorem dX10_cut_205 : decode cX10_cut 205 = .ok (.iconst 0, 1) := dk_3 (dk_at dksX10_cut_8 19 rfl rfl)
theorem dX10_cut_206 : decode cX10_cut 206 = .ok (.istore 4, 2) := dk_54 4 (dk_at dksX10_cut_8 20 rfl rfl)
theorem dX10_cut_208 : decode cX10_cut 208 = .ok (.aload_n 0, 1) := dk_42 (dk_at dksX10_cut_8 22 rfl rfl)
theorem dX10_cut_209 : decode cX10_cut 209 = .ok (.iload_n 1, 1) := dk_27 (dk_at dksX10_cut_8 23 rfl rfl)
theorem dX10_cut_210 : decode cX10_cut 210 = .ok (.iload_n 3, 1) := dk_29 (dk_at dksX10_cut_9 0 rfl rfl)
theorem dX10_cut_211 : decode cX10_cut 211 = .ok (.iadd, 1) := dk_96 (dk_at dksX10_cut_9 1 rfl rfl)
theorem dX10_cut_212 : decode cX10_cut 212 = .ok (.invokevirtual 193, 3) := dk_182 0 193 (dk_at dksX10_cut_9 2 rfl rfl)
theorem dX10_cut_215 : decode cX10_cut 215 = .ok (.invokestatic 205, 3) := dk_184 0 205 (dk_at dksX10_cut_9 5 rfl rfl)
theorem dX10_cut_218 : decode cX10_cut 218 = .ok (.ifCond .eq 32, 3) := dk_153 0 32 (dk_at dksX10_cut_9 8 rfl rfl)
theorem dX10_cut_221 : decode cX10_cut 221 = .ok (.iload_n 3, 1) := dk_29 (dk_at dksX10_cut_9 11 rfl rfl)
theorem dX10_cut_222 : decode cX10_cut 222 = .ok (.iconst 4, 1) := dk_7 (dk_at dksX10_cut_9 12 rfl rfl)
theorem dX10_cut_223 : decode cX10_cut 223 = .ok (.if_icmp .ge 21, 3) := dk_162 0 21 (dk_at dksX10_cut_9 13 rfl rfl)
theorem dX10_cut_226 : decode cX10_cut 226 = .ok (.bipush 10, 2) := dk_16 10 (dk_at dksX10_cut_9 16 rfl rfl)
theorem dX10_cut_228 : decode cX10_cut 228 = .ok (.iload 4, 2) := dk_21 4 (dk_at dksX10_cut_9 18 rfl rfl)
theorem dX10_cut_230 : decode cX10_cut 230 = .ok (.imul, 1) := dk_104 (dk_at dksX10_cut_9 20 rfl rfl)
theorem dX10_cut_231 : decode cX10_cut 231 = .ok (.aload_n 0, 1) := dk_42 (dk_at dksX10_cut_9 21 rfl rfl)
theorem dX10_cut_232 : decode cX10_cut 232 = .ok (.iload_n 1, 1) := dk_27 (dk_at dksX10_cut_9 22 rfl rfl)
theorem dX10_cut_233 : decode cX10_cut 233 = .ok (.iload_n 3, 1) := dk_29 (dk_at dksX10_cut_9 23 rfl rfl)
theorem dX10_cut_234 : decode cX10_cut 234 = .ok (.iadd, 1) := dk_96 (dk_at dksX10_cut_10 0 rfl rfl)
theorem dX10_cut_235 : decode cX10_cut 235 = .ok (.invokevirtual 193, 3) := dk_182 0 193 (dk_at dksX10_cut_10 1 rfl rfl)
theorem dX10_cut_238 : decode cX10_cut 238 = .ok (.iadd, 1) := dk_96 (dk_at dksX10_cut_10 4 rfl rfl)
theorem dX10_cut_239 : decode cX10_cut 239 = .ok (.bipush 48, 2) := dk_16 48 (dk_at dksX10_cut_10 5 rfl rfl)
theorem dX10_cut_241 : decode cX10_cut 241 = .ok (.isub, 1) := dk_100 (dk_at dksX10_cut_10 7 rfl rfl)
theorem dX10_cut_242 : decode cX10_cut 242 = .ok (.istore 4, 2) := dk_54 4 (dk_at dksX10_cut_10 8 rfl rfl)
theorem dX10_cut_244 : decode cX10_cut 244 = .ok (.iinc 3 1, 3) := dk_132 3 1 (dk_at dksX10_cut_10 10 rfl rfl)
theorem dX10_cut_247 : decode cX10_cut 247 = .ok (.goto (-39), 3) := dk_167 255 217 (dk_at dksX10_cut_10 13 rfl rfl)
theorem dX10_cut_250 : decode cX10_cut 250 = .ok (.aload_n 0, 1) := dk_42 (dk_at dksX10_cut_10 16 rfl rfl)
theorem dX10_cut_251 : decode cX10_cut 251 = .ok (.iload_n 3, 1) := dk_29 (dk_at dksX10_cut_10 17 rfl rfl)
theorem dX10_cut_252 : decode cX10_cut 252 = .ok (.iconst 4, 1) := dk_7 (dk_at dksX10_cut_10 18 rfl rfl)
theorem dX10_cut_253 : decode cX10_cut 253 = .ok (.if_icmp .le 7, 3) := dk_164 0 7 (dk_at dksX10_cut_10 19 rfl rfl)
theorem dX10_cut_256 : decode cX10_cut 256 = .ok (.iconst 3, 1) := dk_6 (dk_at dksX10_cut_10 22 rfl rfl)
theorem dX10_cut_257 : decode cX10_cut 257 = .ok (.goto 4, 3) := dk_167 0 4 (dk_at dksX10_cut_11 0 rfl rfl)
theorem dX10_cut_260 : decode cX10_cut 260 = .ok (.iconst 2, 1) := dk_5 (dk_at dksX10_cut_11 3 rfl rfl)
theorem dX10_cut_261 : decode cX10_cut 261 = .ok (.iload_n 1, 1) := dk_27 (dk_at dksX10_cut_11 4 rfl rfl)
theorem dX10_cut_262 : decode cX10_cut 262 = .ok (.iload 4, 2) := dk_21 4 (dk_at dksX10_cut_11 5 rfl rfl)
theorem dX10_cut_264 : decode cX10_cut 264 = .ok (.lconst 0, 1) := dk_9 (dk_at dksX10_cut_11 7 rfl rfl)
theorem dX10_cut_265 : decode cX10_cut 265 = .ok (.invokevirtual 197, 3) := dk_182 0 197 (dk_at dksX10_cut_11 8 rfl rfl)
theorem dX10_cut_268 : decode cX10_cut 268 = .ok (.iload_n 1, 1) := dk_27 (dk_at dksX10_cut_11 11 rfl rfl)
theorem dX10_cut_269 : decode cX10_cut 269 = .ok (.iload_n 3, 1) := dk_29 (dk_at dksX10_cut_11 12 rfl rfl)
theorem dX10_cut_270 : decode cX10_cut 270 = .ok (.iadd, 1) := dk_96 (dk_at dksX10_cut_11 13 rfl rfl)
theorem dX10_cut_271 : decode cX10_cut 271 = .ok (.istore_n 1, 1) := dk_60 (dk_at dksX10_cut_11 14 rfl rfl)
theorem dX10_cut_272 : decode cX10_cut 272 = .ok (.goto 19, 3) := dk_167 0 19 (dk_at dksX10_cut_11 15 rfl rfl)
theorem dX10_cut_275 : decode cX10_cut 275 = .ok (.iload_n 1, 1) := dk_27 (dk_at dksX10_cut_11 18 rfl rfl)
theorem dX10_cut_276 : decode cX10_cut 276 = .ok (.aload_n 0, 1) := dk_42 (dk_at dksX10_cut_11 19 rfl rfl)
theorem dX10_cut_277 : decode cX10_cut 277 = .ok (.iload_n 1, 1) := dk_27 (dk_at dksX10_cut_11 20 rfl rfl)
theorem dX10_cut_278 : decode cX10_cut 278 = .ok (.iload_n 2, 1) := dk_28 (dk_at dksX10_cut_11 21 rfl rfl)
theorem dX10_cut_279 : decode cX10_cut 279 = .ok (.aload_n 0, 1) := dk_42 (dk_at dksX10_cut_11 22 rfl rfl)
theorem dX10_cut_280 : decode cX10_cut 280 = .ok (.iload_n 1, 1) := dk_27 (dk_at dksX10_cut_11 23 rfl rfl)
theorem dX10_cut_281 : decode cX10_cut 281 = .ok (.iconst 1, 1) := dk_4 (dk_at dksX10_cut_12 0 rfl rfl)
theorem dX10_cut_282 : decode cX10_cut 282 = .ok (.iadd, 1) := dk_96 (dk_at dksX10_cut_12 1 rfl rfl)
theorem dX10_cut_283 : decode cX10_cut 283 = .ok (.invokevirtual 193, 3) := dk_182 0 193 (dk_at dksX10_cut_12 2 rfl rfl)
theorem dX10_cut_286 : decode cX10_cut 286 = .ok (.invokevirtual 208, 3) := dk_182 0 208 (dk_at dksX10_cut_12 5 rfl rfl)
theorem dX10_cut_289 : decode cX10_cut 289 = .ok (.iadd, 1) := dk_96 (dk_at dksX10_cut_12 8 rfl rfl)
theorem dX10_cut_290 : decode cX10_cut 290 = .ok (.istore_n 1, 1) := dk_60 (dk_at dksX10_cut_12 9 rfl rfl)
theorem dX10_cut_291 : decode cX10_cut 291 = .ok (.goto (-284), 3) := dk_167 254 228 (dk_at dksX10_cut_12 10 rfl rfl)
theorem dX10_cut_294 : decode cX10_cut 294 = .ok (.return_, 1) := dk_177 (dk_at dksX10_cut_12 13 rfl rfl)
abbrev cX10_byteAt : ByteArray := prog_21_method_6_code
def yX10_byteAt : MethodName := ⟨RX10, "byteAt", "(I)I"⟩
def dkwX10_byteAt_0 : List UInt8 := [27, 42, 180, 0, 181, 162, 0, 16, 42, 180, 0, 17, 27, 51, 17, 0, 255, 126, 167, 0, 4, 3, 172]
abbrev dktX10_byteAt_0 : List UInt8 := dkwX10_byteAt_0 ++ []
theorem dksX10_byteAt_0 : cX10_byteAt.data.toList.drop 0 = dktX10_byteAt_0 := by decide +kernel
theorem dX10_byteAt_0 : decode cX10_byteAt 0 = .ok (.iload_n 1, 1) := dk_27 (dk_at dksX10_byteAt_0 0 rfl rfl)
theorem dX10_byteAt_1 : decode cX10_byteAt 1 = .ok (.aload_n 0, 1) := dk_42 (dk_at dksX10_byteAt_0 1 rfl rfl)
theorem dX10_byteAt_2 : decode cX10_byteAt 2 = .ok (.getfield 181, 3) := dk_180 0 181 (dk_at dksX10_byteAt_0 2 rfl rfl)
theorem dX10_byteAt_5 : decode cX10_byteAt 5 = .ok (.if_icmp .ge 16, 3) := dk_162 0 16 (dk_at dksX10_byteAt_0 5 rfl rfl)
theorem dX10_byteAt_8 : decode cX10_byteAt 8 = .ok (.aload_n 0, 1) := dk_42 (dk_at dksX10_byteAt_0 8 rfl rfl)
theorem dX10_byteAt_9 : decode cX10_byteAt 9 = .ok (.getfield 17, 3) := dk_180 0 17 (dk_at dksX10_byteAt_0 9 rfl rfl)
theorem dX10_byteAt_12 : decode cX10_byteAt 12 = .ok (.iload_n 1, 1) := dk_27 (dk_at dksX10_byteAt_0 12 rfl rfl)
theorem dX10_byteAt_13 : decode cX10_byteAt 13 = .ok (.baload, 1) := dk_51 (dk_at dksX10_byteAt_0 13 rfl rfl)
theorem dX10_byteAt_14 : decode cX10_byteAt 14 = .ok (.sipush 255, 3) := dk_17 0 255 (dk_at dksX10_byteAt_0 14 rfl rfl)
theorem dX10_byteAt_17 : decode cX10_byteAt 17 = .ok (.iand, 1) := dk_126 (dk_at dksX10_byteAt_0 17 rfl rfl)
theorem dX10_byteAt_18 : decode cX10_byteAt 18 = .ok (.goto 4, 3) := dk_167 0 4 (dk_at dksX10_byteAt_0 18 rfl rfl)
theorem dX10_byteAt_21 : decode cX10_byteAt 21 = .ok (.iconst 0, 1) := dk_3 (dk_at dksX10_byteAt_0 21 rfl rfl)
theorem dX10_byteAt_22 : decode cX10_byteAt 22 = .ok (.ireturn, 1) := dk_172 (dk_at dksX10_byteAt_0 22 rfl rfl)
abbrev cX10_token : ByteArray := prog_21_method_11_code
def yX10_token : MethodName := ⟨RX10, "token", "(IIIJ)V"⟩
def dkwX10_token_2 : List UInt8 := [181, 0, 190, 177]
abbrev dktX10_token_2 : List UInt8 := dkwX10_token_2 ++ []
def dkwX10_token_1 : List UInt8 := [42, 180, 0, 190, 29, 79, 42, 180, 0, 30, 42, 180, 0, 190, 22, 4, 80, 42, 89, 180, 0, 190, 4, 96]
abbrev dktX10_token_1 : List UInt8 := dkwX10_token_1 ++ dktX10_token_2
def dkwX10_token_0 : List UInt8 := [42, 180, 0, 20, 42, 180, 0, 190, 27, 79, 42, 180, 0, 24, 42, 180, 0, 190, 28, 79, 42, 180, 0, 27]
abbrev dktX10_token_0 : List UInt8 := dkwX10_token_0 ++ dktX10_token_1
theorem dksX10_token_0 : cX10_token.data.toList.drop 0 = dktX10_token_0 := by decide +kernel
theorem dksX10_token_1 : cX10_token.data.toList.drop 24 = dktX10_token_1 := dk_seg dksX10_token_0 24 rfl rfl
theorem dksX10_token_2 : cX10_token.data.toList.drop 48 = dktX10_token_2 := dk_seg dksX10_token_1 24 rfl rfl
theorem dX10_token_0 : decode cX10_token 0 = .ok (.aload_n 0, 1) := dk_42 (dk_at dksX10_token_0 0 rfl rfl)
theorem dX10_token_1 : decode cX10_token 1 = .ok (.getfield 20, 3) := dk_180 0 20 (dk_at dksX10_token_0 1 rfl rfl)
theorem dX10_token_4 : decode cX10_token 4 = .ok (.aload_n 0, 1) := dk_42 (dk_at dksX10_token_0 4 rfl rfl)
theorem dX10_token_5 : decode cX10_token 5 = .ok (.getfield 190, 3) := dk_180 0 190 (dk_at dksX10_token_0 5 rfl rfl)
theorem dX10_token_8 : decode cX10_token 8 = .ok (.iload_n 1, 1) := dk_27 (dk_at dksX10_token_0 8 rfl rfl)
theorem dX10_token_9 : decode cX10_token 9 = .ok (.iastore, 1) := dk_79 (dk_at dksX10_token_0 9 rfl rfl)
theorem dX10_token_10 : decode cX10_token 10 = .ok (.aload_n 0, 1) := dk_42 (dk_at dksX10_token_0 10 rfl rfl)
theorem dX10_token_11 : decode cX10_token 11 = .ok (.getfield 24, 3) := dk_180 0 24 (dk_at dksX10_token_0 11 rfl rfl)
theorem dX10_token_14 : decode cX10_token 14 = .ok (.aload_n 0, 1) := dk_42 (dk_at dksX10_token_0 14 rfl rfl)
theorem dX10_token_15 : decode cX10_token 15 = .ok (.getfield 190, 3) := dk_180 0 190 (dk_at dksX10_token_0 15 rfl rfl)
theorem dX10_token_18 : decode cX10_token 18 = .ok (.iload_n 2, 1) := dk_28 (dk_at dksX10_token_0 18 rfl rfl)
theorem dX10_token_19 : decode cX10_token 19 = .ok (.iastore, 1) := dk_79 (dk_at dksX10_token_0 19 rfl rfl)
theorem dX10_token_20 : decode cX10_token 20 = .ok (.aload_n 0, 1) := dk_42 (dk_at dksX10_token_0 20 rfl rfl)
theorem dX10_token_21 : decode cX10_token 21 = .ok (.getfield 27, 3) := dk_180 0 27 (dk_at dksX10_token_0 21 rfl rfl)
theorem dX10_token_24 : decode cX10_token 24 = .ok (.aload_n 0, 1) := dk_42 (dk_at dksX10_token_1 0 rfl rfl)
theorem dX10_token_25 : decode cX10_token 25 = .ok (.getfield 190, 3) := dk_180 0 190 (dk_at dksX10_token_1 1 rfl rfl)
theorem dX10_token_28 : decode cX10_token 28 = .ok (.iload_n 3, 1) := dk_29 (dk_at dksX10_token_1 4 rfl rfl)
theorem dX10_token_29 : decode cX10_token 29 = .ok (.iastore, 1) := dk_79 (dk_at dksX10_token_1 5 rfl rfl)
theorem dX10_token_30 : decode cX10_token 30 = .ok (.aload_n 0, 1) := dk_42 (dk_at dksX10_token_1 6 rfl rfl)
theorem dX10_token_31 : decode cX10_token 31 = .ok (.getfield 30, 3) := dk_180 0 30 (dk_at dksX10_token_1 7 rfl rfl)
theorem dX10_token_34 : decode cX10_token 34 = .ok (.aload_n 0, 1) := dk_42 (dk_at dksX10_token_1 10 rfl rfl)
theorem dX10_token_35 : decode cX10_token 35 = .ok (.getfield 190, 3) := dk_180 0 190 (dk_at dksX10_token_1 11 rfl rfl)
theorem dX10_token_38 : decode cX10_token 38 = .ok (.lload 4, 2) := dk_22 4 (dk_at dksX10_token_1 14 rfl rfl)
theorem dX10_token_40 : decode cX10_token 40 = .ok (.lastore, 1) := dk_80 (dk_at dksX10_token_1 16 rfl rfl)
theorem dX10_token_41 : decode cX10_token 41 = .ok (.aload_n 0, 1) := dk_42 (dk_at dksX10_token_1 17 rfl rfl)
theorem dX10_token_42 : decode cX10_token 42 = .ok (.dup, 1) := dk_89 (dk_at dksX10_token_1 18 rfl rfl)
theorem dX10_token_43 : decode cX10_token 43 = .ok (.getfield 190, 3) := dk_180 0 190 (dk_at dksX10_token_1 19 rfl rfl)
theorem dX10_token_46 : decode cX10_token 46 = .ok (.iconst 1, 1) := dk_4 (dk_at dksX10_token_1 22 rfl rfl)
theorem dX10_token_47 : decode cX10_token 47 = .ok (.iadd, 1) := dk_96 (dk_at dksX10_token_1 23 rfl rfl)
theorem dX10_token_48 : decode cX10_token 48 = .ok (.putfield 190, 3) := dk_181 0 190 (dk_at dksX10_token_2 0 rfl rfl)
theorem dX10_token_51 : decode cX10_token 51 = .ok (.return_, 1) := dk_177 (dk_at dksX10_token_2 3 rfl rfl)
abbrev cX10_isLetter : ByteArray := prog_21_method_8_code
def yX10_isLetter : MethodName := ⟨RX10, "isLetter", "(I)Z"⟩
def dkwX10_isLetter_0 : List UInt8 := [26, 16, 97, 161, 0, 13, 26, 16, 122, 163, 0, 7, 4, 167, 0, 4, 3, 172]
abbrev dktX10_isLetter_0 : List UInt8 := dkwX10_isLetter_0 ++ []
theorem dksX10_isLetter_0 : cX10_isLetter.data.toList.drop 0 = dktX10_isLetter_0 := by decide +kernel
theorem dX10_isLetter_0 : decode cX10_isLetter 0 = .ok (.iload_n 0, 1) := dk_26 (dk_at dksX10_isLetter_0 0 rfl rfl)
theorem dX10_isLetter_1 : decode cX10_isLetter 1 = .ok (.bipush 97, 2) := dk_16 97 (dk_at dksX10_isLetter_0 1 rfl rfl)
theorem dX10_isLetter_3 : decode cX10_isLetter 3 = .ok (.if_icmp .lt 13, 3) := dk_161 0 13 (dk_at dksX10_isLetter_0 3 rfl rfl)
theorem dX10_isLetter_6 : decode cX10_isLetter 6 = .ok (.iload_n 0, 1) := dk_26 (dk_at dksX10_isLetter_0 6 rfl rfl)
theorem dX10_isLetter_7 : decode cX10_isLetter 7 = .ok (.bipush 122, 2) := dk_16 122 (dk_at dksX10_isLetter_0 7 rfl rfl)
theorem dX10_isLetter_9 : decode cX10_isLetter 9 = .ok (.if_icmp .gt 7, 3) := dk_163 0 7 (dk_at dksX10_isLetter_0 9 rfl rfl)
theorem dX10_isLetter_12 : decode cX10_isLetter 12 = .ok (.iconst 1, 1) := dk_4 (dk_at dksX10_isLetter_0 12 rfl rfl)
theorem dX10_isLetter_13 : decode cX10_isLetter 13 = .ok (.goto 4, 3) := dk_167 0 4 (dk_at dksX10_isLetter_0 13 rfl rfl)
theorem dX10_isLetter_16 : decode cX10_isLetter 16 = .ok (.iconst 0, 1) := dk_3 (dk_at dksX10_isLetter_0 16 rfl rfl)
theorem dX10_isLetter_17 : decode cX10_isLetter 17 = .ok (.ireturn, 1) := dk_172 (dk_at dksX10_isLetter_0 17 rfl rfl)
abbrev cX10_isDigit : ByteArray := prog_21_method_7_code
def yX10_isDigit : MethodName := ⟨RX10, "isDigit", "(I)Z"⟩
def dkwX10_isDigit_0 : List UInt8 := [26, 16, 48, 161, 0, 13, 26, 16, 57, 163, 0, 7, 4, 167, 0, 4, 3, 172]
abbrev dktX10_isDigit_0 : List UInt8 := dkwX10_isDigit_0 ++ []
theorem dksX10_isDigit_0 : cX10_isDigit.data.toList.drop 0 = dktX10_isDigit_0 := by decide +kernel
theorem dX10_isDigit_0 : decode cX10_isDigit 0 = .ok (.iload_n 0, 1) := dk_26 (dk_at dksX10_isDigit_0 0 rfl rfl)
theorem dX10_isDigit_1 : decode cX10_isDigit 1 = .ok (.bipush 48, 2) := dk_16 48 (dk_at dksX10_isDigit_0 1 rfl rfl)
theorem dX10_isDigit_3 : decode cX10_isDigit 3 = .ok (.if_icmp .lt 13, 3) := dk_161 0 13 (dk_at dksX10_isDigit_0 3 rfl rfl)
theorem dX10_isDigit_6 : decode cX10_isDigit 6 = .ok (.iload_n 0, 1) := dk_26 (dk_at dksX10_isDigit_0 6 rfl rfl)
theorem dX10_isDigit_7 : decode cX10_isDigit 7 = .ok (.bipush 57, 2) := dk_16 57 (dk_at dksX10_isDigit_0 7 rfl rfl)
theorem dX10_isDigit_9 : decode cX10_isDigit 9 = .ok (.if_icmp .gt 7, 3) := dk_163 0 7 (dk_at dksX10_isDigit_0 9 rfl rfl)
theorem dX10_isDigit_12 : decode cX10_isDigit 12 = .ok (.iconst 1, 1) := dk_4 (dk_at dksX10_isDigit_0 12 rfl rfl)
theorem dX10_isDigit_13 : decode cX10_isDigit 13 = .ok (.goto 4, 3) := dk_167 0 4 (dk_at dksX10_isDigit_0 13 rfl rfl)
theorem dX10_isDigit_16 : decode cX10_isDigit 16 = .ok (.iconst 0, 1) := dk_3 (dk_at dksX10_isDigit_0 16 rfl rfl)
theorem dX10_isDigit_17 : decode cX10_isDigit 17 = .ok (.ireturn, 1) := dk_172 (dk_at dksX10_isDigit_0 17 rfl rfl)
abbrev cX10_sign : ByteArray := prog_21_method_13_code
def yX10_sign : MethodName := ⟨RX10, "sign", "(III)I"⟩
def dkwX10_sign_4 : List UInt8 := [16, 13, 54, 4, 42, 21, 4, 27, 3, 9, 182, 0, 197, 4, 172]
abbrev dktX10_sign_4 : List UInt8 := dkwX10_sign_4 ++ []
def dkwX10_sign_3 : List UInt8 := [160, 0, 7, 16, 10, 54, 4, 28, 16, 47, 160, 0, 7, 16, 15, 54, 4, 28, 16, 60, 160, 0, 7]
abbrev dktX10_sign_3 : List UInt8 := dkwX10_sign_3 ++ dktX10_sign_4
def dkwX10_sign_2 : List UInt8 := [16, 43, 160, 0, 7, 16, 8, 54, 4, 28, 16, 45, 160, 0, 7, 16, 9, 54, 4, 28, 16, 42]
abbrev dktX10_sign_2 : List UInt8 := dkwX10_sign_2 ++ dktX10_sign_3
def dkwX10_sign_1 : List UInt8 := [160, 0, 8, 16, 6, 167, 0, 15, 28, 16, 41, 160, 0, 8, 16, 7, 167, 0, 4, 6, 54, 4, 28]
abbrev dktX10_sign_1 : List UInt8 := dkwX10_sign_1 ++ dktX10_sign_2
def dkwX10_sign_0 : List UInt8 := [28, 16, 59, 160, 0, 7, 7, 167, 0, 36, 28, 16, 61, 160, 0, 7, 8, 167, 0, 26, 28, 16, 40]
abbrev dktX10_sign_0 : List UInt8 := dkwX10_sign_0 ++ dktX10_sign_1
theorem dksX10_sign_0 : cX10_sign.data.toList.drop 0 = dktX10_sign_0 := by decide +kernel
theorem dksX10_sign_1 : cX10_sign.data.toList.drop 23 = dktX10_sign_1 := dk_seg dksX10_sign_0 23 rfl rfl
theorem dksX10_sign_2 : cX10_sign.data.toList.drop 46 = dktX10_sign_2 := dk_seg dksX10_sign_1 23 rfl rfl
theorem dksX10_sign_3 : cX10_sign.data.toList.drop 68 = dktX10_sign_3 := dk_seg dksX10_sign_2 22 rfl rfl
theorem dksX10_sign_4 : cX10_sign.data.toList.drop 91 = dktX10_sign_4 := dk_seg dksX10_sign_3 23 rfl rfl
theorem dX10_sign_0 : decode cX10_sign 0 = .ok (.iload_n 2, 1) := dk_28 (dk_at dksX10_sign_0 0 rfl rfl)
theorem dX10_sign_1 : decode cX10_sign 1 = .ok (.bipush 59, 2) := dk_16 59 (dk_at dksX10_sign_0 1 rfl rfl)
theorem dX10_sign_3 : decode cX10_sign 3 = .ok (.if_icmp .ne 7, 3) := dk_160 0 7 (dk_at dksX10_sign_0 3 rfl rfl)
theorem dX10_sign_6 : decode cX10_sign 6 = .ok (.iconst 4, 1) := dk_7 (dk_at dksX10_sign_0 6 rfl rfl)
theorem dX10_sign_7 : decode cX10_sign 7 = .ok (.goto 36, 3) := dk_167 0 36 (dk_at dksX10_sign_0 7 rfl rfl)
theorem dX10_sign_10 : decode cX10_sign 10 = .ok (.iload_n 2, 1) := dk_28 (dk_at dksX10_sign_0 10 rfl rfl)
theorem dX10_sign_11 : decode cX10_sign 11 = .ok (.bipush 61, 2) := dk_16 61 (dk_at dksX10_sign_0 11 rfl rfl)
theorem dX10_sign_13 : decode cX10_sign 13 = .ok (.if_icmp .ne 7, 3) := dk_160 0 7 (dk_at dksX10_sign_0 13 rfl rfl)
theorem dX10_sign_16 : decode cX10_sign 16 = .ok (.iconst 5, 1) := dk_8 (dk_at dksX10_sign_0 16 rfl rfl)
theorem dX10_sign_17 : decode cX10_sign 17 = .ok (.goto 26, 3) := dk_167 0 26 (dk_at dksX10_sign_0 17 rfl rfl)
theorem dX10_sign_20 : decode cX10_sign 20 = .ok (.iload_n 2, 1) := dk_28 (dk_at dksX10_sign_0 20 rfl rfl)
theorem dX10_sign_21 : decode cX10_sign 21 = .ok (.bipush 40, 2) := dk_16 40 (dk_at dksX10_sign_0 21 rfl rfl)
theorem dX10_sign_23 : decode cX10_sign 23 = .ok (.if_icmp .ne 8, 3) := dk_160 0 8 (dk_at dksX10_sign_1 0 rfl rfl)
theorem dX10_sign_26 : decode cX10_sign 26 = .ok (.bipush 6, 2) := dk_16 6 (dk_at dksX10_sign_1 3 rfl rfl)
theorem dX10_sign_28 : decode cX10_sign 28 = .ok (.goto 15, 3) := dk_167 0 15 (dk_at dksX10_sign_1 5 rfl rfl)
theorem dX10_sign_31 : decode cX10_sign 31 = .ok (.iload_n 2, 1) := dk_28 (dk_at dksX10_sign_1 8 rfl rfl)
theorem dX10_sign_32 : decode cX10_sign 32 = .ok (.bipush 41, 2) := dk_16 41 (dk_at dksX10_sign_1 9 rfl rfl)
theorem dX10_sign_34 : decode cX10_sign 34 = .ok (.if_icmp .ne 8, 3) := dk_160 0 8 (dk_at dksX10_sign_1 11 rfl rfl)
theorem dX10_sign_37 : decode cX10_sign 37 = .ok (.bipush 7, 2) := dk_16 7 (dk_at dksX10_sign_1 14 rfl rfl)
theorem dX10_sign_39 : decode cX10_sign 39 = .ok (.goto 4, 3) := dk_167 0 4 (dk_at dksX10_sign_1 16 rfl rfl)
theorem dX10_sign_42 : decode cX10_sign 42 = .ok (.iconst 3, 1) := dk_6 (dk_at dksX10_sign_1 19 rfl rfl)
theorem dX10_sign_43 : decode cX10_sign 43 = .ok (.istore 4, 2) := dk_54 4 (dk_at dksX10_sign_1 20 rfl rfl)
theorem dX10_sign_45 : decode cX10_sign 45 = .ok (.iload_n 2, 1) := dk_28 (dk_at dksX10_sign_1 22 rfl rfl)
theorem dX10_sign_46 : decode cX10_sign 46 = .ok (.bipush 43, 2) := dk_16 43 (dk_at dksX10_sign_2 0 rfl rfl)
theorem dX10_sign_48 : decode cX10_sign 48 = .ok (.if_icmp .ne 7, 3) := dk_160 0 7 (dk_at dksX10_sign_2 2 rfl rfl)
theorem dX10_sign_51 : decode cX10_sign 51 = .ok (.bipush 8, 2) := dk_16 8 (dk_at dksX10_sign_2 5 rfl rfl)
theorem dX10_sign_53 : decode cX10_sign 53 = .ok (.istore 4, 2) := dk_54 4 (dk_at dksX10_sign_2 7 rfl rfl)
theorem dX10_sign_55 : decode cX10_sign 55 = .ok (.iload_n 2, 1) := dk_28 (dk_at dksX10_sign_2 9 rfl rfl)
theorem dX10_sign_56 : decode cX10_sign 56 = .ok (.bipush 45, 2) := dk_16 45 (dk_at dksX10_sign_2 10 rfl rfl)
theorem dX10_sign_58 : decode cX10_sign 58 = .ok (.if_icmp .ne 7, 3) := dk_160 0 7 (dk_at dksX10_sign_2 12 rfl rfl)
theorem dX10_sign_61 : decode cX10_sign 61 = .ok (.bipush 9, 2) := dk_16 9 (dk_at dksX10_sign_2 15 rfl rfl)
theorem dX10_sign_63 : decode cX10_sign 63 = .ok (.istore 4, 2) := dk_54 4 (dk_at dksX10_sign_2 17 rfl rfl)
theorem dX10_sign_65 : decode cX10_sign 65 = .ok (.iload_n 2, 1) := dk_28 (dk_at dksX10_sign_2 19 rfl rfl)
theorem dX10_sign_66 : decode cX10_sign 66 = .ok (.bipush 42, 2) := dk_16 42 (dk_at dksX10_sign_2 20 rfl rfl)
theorem dX10_sign_68 : decode cX10_sign 68 = .ok (.if_icmp .ne 7, 3) := dk_160 0 7 (dk_at dksX10_sign_3 0 rfl rfl)
theorem dX10_sign_71 : decode cX10_sign 71 = .ok (.bipush 10, 2) := dk_16 10 (dk_at dksX10_sign_3 3 rfl rfl)
theorem dX10_sign_73 : decode cX10_sign 73 = .ok (.istore 4, 2) := dk_54 4 (dk_at dksX10_sign_3 5 rfl rfl)
theorem dX10_sign_75 : decode cX10_sign 75 = .ok (.iload_n 2, 1) := dk_28 (dk_at dksX10_sign_3 7 rfl rfl)
theorem dX10_sign_76 : decode cX10_sign 76 = .ok (.bipush 47, 2) := dk_16 47 (dk_at dksX10_sign_3 8 rfl rfl)
theorem dX10_sign_78 : decode cX10_sign 78 = .ok (.if_icmp .ne 7, 3) := dk_160 0 7 (dk_at dksX10_sign_3 10 rfl rfl)
theorem dX10_sign_81 : decode cX10_sign 81 = .ok (.bipush 15, 2) := dk_16 15 (dk_at dksX10_sign_3 13 rfl rfl)
theorem dX10_sign_83 : decode cX10_sign 83 = .ok (.istore 4, 2) := dk_54 4 (dk_at dksX10_sign_3 15 rfl rfl)
theorem dX10_sign_85 : decode cX10_sign 85 = .ok (.iload_n 2, 1) := dk_28 (dk_at dksX10_sign_3 17 rfl rfl)
theorem dX10_sign_86 : decode cX10_sign 86 = .ok (.bipush 60, 2) := dk_16 60 (dk_at dksX10_sign_3 18 rfl rfl)
theorem dX10_sign_88 : decode cX10_sign 88 = .ok (.if_icmp .ne 7, 3) := dk_160 0 7 (dk_at dksX10_sign_3 20 rfl rfl)
theorem dX10_sign_91 : decode cX10_sign 91 = .ok (.bipush 13, 2) := dk_16 13 (dk_at dksX10_sign_4 0 rfl rfl)
theorem dX10_sign_93 : decode cX10_sign 93 = .ok (.istore 4, 2) := dk_54 4 (dk_at dksX10_sign_4 2 rfl rfl)
theorem dX10_sign_95 : decode cX10_sign 95 = .ok (.aload_n 0, 1) := dk_42 (dk_at dksX10_sign_4 4 rfl rfl)
theorem dX10_sign_96 : decode cX10_sign 96 = .ok (.iload 4, 2) := dk_21 4 (dk_at dksX10_sign_4 5 rfl rfl)
theorem dX10_sign_98 : decode cX10_sign 98 = .ok (.iload_n 1, 1) := dk_27 (dk_at dksX10_sign_4 7 rfl rfl)
theorem dX10_sign_99 : decode cX10_sign 99 = .ok (.iconst 0, 1) := dk_3 (dk_at dksX10_sign_4 8 rfl rfl)
theorem dX10_sign_100 : decode cX10_sign 100 = .ok (.lconst 0, 1) := dk_9 (dk_at dksX10_sign_4 9 rfl rfl)
theorem dX10_sign_101 : decode cX10_sign 101 = .ok (.invokevirtual 197, 3) := dk_182 0 197 (dk_at dksX10_sign_4 10 rfl rfl)
theorem dX10_sign_104 : decode cX10_sign 104 = .ok (.iconst 1, 1) := dk_4 (dk_at dksX10_sign_4 13 rfl rfl)
theorem dX10_sign_105 : decode cX10_sign 105 = .ok (.ireturn, 1) := dk_172 (dk_at dksX10_sign_4 14 rfl rfl)
abbrev cX10_is : ByteArray := prog_21_method_14_code
def yX10_is : MethodName := ⟨RX10, "is", "(I)Z"⟩
def dkwX10_is_1 : List UInt8 := [3, 172]
abbrev dktX10_is_1 : List UInt8 := dkwX10_is_1 ++ []
def dkwX10_is_0 : List UInt8 := [42, 180, 0, 212, 154, 0, 20, 42, 180, 0, 20, 42, 180, 0, 215, 46, 27, 160, 0, 7, 4, 167, 0, 4]
abbrev dktX10_is_0 : List UInt8 := dkwX10_is_0 ++ dktX10_is_1
theorem dksX10_is_0 : cX10_is.data.toList.drop 0 = dktX10_is_0 := by decide +kernel
theorem dksX10_is_1 : cX10_is.data.toList.drop 24 = dktX10_is_1 := dk_seg dksX10_is_0 24 rfl rfl
theorem dX10_is_0 : decode cX10_is 0 = .ok (.aload_n 0, 1) := dk_42 (dk_at dksX10_is_0 0 rfl rfl)
theorem dX10_is_1 : decode cX10_is 1 = .ok (.getfield 212, 3) := dk_180 0 212 (dk_at dksX10_is_0 1 rfl rfl)
theorem dX10_is_4 : decode cX10_is 4 = .ok (.ifCond .ne 20, 3) := dk_154 0 20 (dk_at dksX10_is_0 4 rfl rfl)
theorem dX10_is_7 : decode cX10_is 7 = .ok (.aload_n 0, 1) := dk_42 (dk_at dksX10_is_0 7 rfl rfl)
theorem dX10_is_8 : decode cX10_is 8 = .ok (.getfield 20, 3) := dk_180 0 20 (dk_at dksX10_is_0 8 rfl rfl)
theorem dX10_is_11 : decode cX10_is 11 = .ok (.aload_n 0, 1) := dk_42 (dk_at dksX10_is_0 11 rfl rfl)
theorem dX10_is_12 : decode cX10_is 12 = .ok (.getfield 215, 3) := dk_180 0 215 (dk_at dksX10_is_0 12 rfl rfl)
theorem dX10_is_15 : decode cX10_is 15 = .ok (.iaload, 1) := dk_46 (dk_at dksX10_is_0 15 rfl rfl)
theorem dX10_is_16 : decode cX10_is 16 = .ok (.iload_n 1, 1) := dk_27 (dk_at dksX10_is_0 16 rfl rfl)
theorem dX10_is_17 : decode cX10_is 17 = .ok (.if_icmp .ne 7, 3) := dk_160 0 7 (dk_at dksX10_is_0 17 rfl rfl)
theorem dX10_is_20 : decode cX10_is 20 = .ok (.iconst 1, 1) := dk_4 (dk_at dksX10_is_0 20 rfl rfl)
theorem dX10_is_21 : decode cX10_is 21 = .ok (.goto 4, 3) := dk_167 0 4 (dk_at dksX10_is_0 21 rfl rfl)
theorem dX10_is_24 : decode cX10_is 24 = .ok (.iconst 0, 1) := dk_3 (dk_at dksX10_is_1 0 rfl rfl)
theorem dX10_is_25 : decode cX10_is 25 = .ok (.ireturn, 1) := dk_172 (dk_at dksX10_is_1 1 rfl rfl)
abbrev cX10_tellOne : ByteArray := prog_21_method_23_code
def yX10_tellOne : MethodName := ⟨RX10, "tellOne", "()V"⟩
def dkwX10_tellOne_16 : List UInt8 := [42, 180, 0, 212, 158, 0, 4, 177, 42, 182, 0, 233, 42, 27, 182, 1, 46, 177]
abbrev dktX10_tellOne_16 : List UInt8 := dkwX10_tellOne_16 ++ []
def dkwX10_tellOne_15 : List UInt8 := [60, 27, 155, 0, 17, 42, 180, 0, 20, 42, 180, 0, 215, 46, 16, 28, 164, 0, 8, 42, 4, 182, 0, 227]
abbrev dktX10_tellOne_15 : List UInt8 := dkwX10_tellOne_15 ++ dktX10_tellOne_16
def dkwX10_tellOne_14 : List UInt8 := [182, 1, 36, 79, 42, 7, 182, 1, 43, 167, 0, 56, 42, 180, 0, 20, 42, 180, 0, 215, 46, 16, 25, 100]
abbrev dktX10_tellOne_14 : List UInt8 := dkwX10_tellOne_14 ++ dktX10_tellOne_15
def dkwX10_tellOne_13 : List UInt8 := [182, 1, 43, 167, 0, 85, 42, 182, 0, 233, 42, 180, 0, 91, 42, 180, 0, 245, 42, 3, 17, 5, 159]
abbrev dktX10_tellOne_13 : List UInt8 := dkwX10_tellOne_13 ++ dktX10_tellOne_14
def dkwX10_tellOne_12 : List UInt8 := [180, 0, 245, 46, 42, 180, 0, 85, 42, 180, 0, 245, 46, 163, 0, 9, 42, 8, 27, 182, 1, 40, 42, 7]
abbrev dktX10_tellOne_12 : List UInt8 := dkwX10_tellOne_12 ++ dktX10_tellOne_13
def dkwX10_tellOne_11 : List UInt8 := [180, 0, 245, 42, 4, 17, 5, 160, 182, 1, 36, 79, 42, 180, 0, 212, 154, 0, 30, 42, 180, 0, 88, 42]
abbrev dktX10_tellOne_11 : List UInt8 := dkwX10_tellOne_11 ++ dktX10_tellOne_12
def dkwX10_tellOne_10 : List UInt8 := [180, 0, 245, 42, 3, 17, 5, 159, 182, 1, 36, 79, 42, 180, 0, 215, 60, 42, 180, 0, 88, 42]
abbrev dktX10_tellOne_10 : List UInt8 := dkwX10_tellOne_10 ++ dktX10_tellOne_11
def dkwX10_tellOne_9 : List UInt8 := [180, 0, 212, 154, 0, 177, 42, 182, 1, 33, 167, 0, 170, 42, 182, 0, 233, 42, 180, 0, 85, 42]
abbrev dktX10_tellOne_9 : List UInt8 := dkwX10_tellOne_9 ++ dktX10_tellOne_10
def dkwX10_tellOne_8 : List UInt8 := [42, 182, 1, 30, 167, 0, 199, 42, 42, 180, 0, 76, 42, 180, 0, 245, 46, 16, 8, 182, 1, 13, 42]
abbrev dktX10_tellOne_8 : List UInt8 := dkwX10_tellOne_8 ++ dktX10_tellOne_9
def dkwX10_tellOne_7 : List UInt8 := [167, 0, 227, 42, 42, 180, 0, 67, 42, 180, 0, 245, 46, 7, 182, 1, 13, 42, 180, 0, 212, 154, 0, 206]
abbrev dktX10_tellOne_7 : List UInt8 := dkwX10_tellOne_7 ++ dktX10_tellOne_8
def dkwX10_tellOne_6 : List UInt8 := [180, 0, 55, 42, 180, 0, 245, 46, 8, 182, 1, 13, 42, 180, 0, 212, 154, 0, 234, 42, 182, 1, 27]
abbrev dktX10_tellOne_6 : List UInt8 := dkwX10_tellOne_6 ++ dktX10_tellOne_7
def dkwX10_tellOne_5 : List UInt8 := [46, 16, 12, 182, 1, 13, 42, 180, 0, 212, 154, 1, 6, 42, 182, 1, 24, 167, 0, 255, 42, 42]
abbrev dktX10_tellOne_5 : List UInt8 := dkwX10_tellOne_5 ++ dktX10_tellOne_6
def dkwX10_tellOne_4 : List UInt8 := [180, 0, 46, 42, 180, 0, 245, 92, 46, 4, 96, 79, 167, 1, 28, 42, 42, 180, 0, 52, 42, 180, 0, 245]
abbrev dktX10_tellOne_4 : List UInt8 := dkwX10_tellOne_4 ++ dktX10_tellOne_5
def dkwX10_tellOne_3 : List UInt8 := [42, 182, 1, 17, 42, 180, 0, 46, 42, 180, 0, 245, 46, 182, 1, 21, 42, 180, 0, 212, 154, 1, 44, 42]
abbrev dktX10_tellOne_3 : List UInt8 := dkwX10_tellOne_3 ++ dktX10_tellOne_4
def dkwX10_tellOne_2 : List UInt8 := [42, 42, 180, 0, 46, 42, 180, 0, 245, 46, 16, 7, 182, 1, 13, 42, 180, 0, 212, 158, 0, 4, 177, 42]
abbrev dktX10_tellOne_2 : List UInt8 := dkwX10_tellOne_2 ++ dktX10_tellOne_3
def dkwX10_tellOne_1 : List UInt8 := [170, 0, 0, 0, 0, 1, 94, 0, 0, 0, 20, 0, 0, 0, 30, 0, 0, 0, 59, 0, 0, 0, 122, 0, 0, 0, 151, 0, 0, 0, 179, 0, 0, 0, 207, 0, 0, 1, 94, 0, 0, 1, 94, 0, 0, 1, 94, 0, 0, 1, 94, 0, 0, 0, 236, 0, 0, 1, 65]
abbrev dktX10_tellOne_1 : List UInt8 := dkwX10_tellOne_1 ++ dktX10_tellOne_2
def dkwX10_tellOne_0 : List UInt8 := [42, 180, 0, 20, 42, 180, 0, 215, 46]
abbrev dktX10_tellOne_0 : List UInt8 := dkwX10_tellOne_0 ++ dktX10_tellOne_1
theorem dksX10_tellOne_0 : cX10_tellOne.data.toList.drop 0 = dktX10_tellOne_0 := by decide +kernel
theorem dksX10_tellOne_1 : cX10_tellOne.data.toList.drop 9 = dktX10_tellOne_1 := dk_seg dksX10_tellOne_0 9 rfl rfl
theorem dksX10_tellOne_2 : cX10_tellOne.data.toList.drop 68 = dktX10_tellOne_2 := dk_seg dksX10_tellOne_1 59 rfl rfl
theorem dksX10_tellOne_3 : cX10_tellOne.data.toList.drop 92 = dktX10_tellOne_3 := dk_seg dksX10_tellOne_2 24 rfl rfl
theorem dksX10_tellOne_4 : cX10_tellOne.data.toList.drop 116 = dktX10_tellOne_4 := dk_seg dksX10_tellOne_3 24 rfl rfl
theorem dksX10_tellOne_5 : cX10_tellOne.data.toList.drop 140 = dktX10_tellOne_5 := dk_seg dksX10_tellOne_4 24 rfl rfl
theorem dksX10_tellOne_6 : cX10_tellOne.data.toList.drop 162 = dktX10_tellOne_6 := dk_seg dksX10_tellOne_5 22 rfl rfl
theorem dksX10_tellOne_7 : cX10_tellOne.data.toList.drop 185 = dktX10_tellOne_7 := dk_seg dksX10_tellOne_6 23 rfl rfl
theorem dksX10_tellOne_8 : cX10_tellOne.data.toList.drop 209 = dktX10_tellOne_8 := dk_seg dksX10_tellOne_7 24 rfl rfl
theorem dksX10_tellOne_9 : cX10_tellOne.data.toList.drop 232 = dktX10_tellOne_9 := dk_seg dksX10_tellOne_8 23 rfl rfl
theorem dksX10_tellOne_10 : cX10_tellOne.data.toList.drop 254 = dktX10_tellOne_10 := dk_seg dksX10_tellOne_9 22 rfl rfl
theorem dksX10_tellOne_11 : cX10_tellOne.data.toList.drop 276 = dktX10_tellOne_11 := dk_seg dksX10_tellOne_10 22 rfl rfl
theorem dksX10_tellOne_12 : cX10_tellOne.data.toList.drop 300 = dktX10_tellOne_12 := dk_seg dksX10_tellOne_11 24 rfl rfl
theorem dksX10_tellOne_13 : cX10_tellOne.data.toList.drop 324 = dktX10_tellOne_13 := dk_seg dksX10_tellOne_12 24 rfl rfl
theorem dksX10_tellOne_14 : cX10_tellOne.data.toList.drop 347 = dktX10_tellOne_14 := dk_seg dksX10_tellOne_13 23 rfl rfl
theorem dksX10_tellOne_15 : cX10_tellOne.data.toList.drop 371 = dktX10_tellOne_15 := dk_seg dksX10_tellOne_14 24 rfl rfl
theorem dksX10_tellOne_16 : cX10_tellOne.data.toList.drop 395 = dktX10_tellOne_16 := dk_seg dksX10_tellOne_15 24 rfl rfl
theorem dX10_tellOne_0 : decode cX10_tellOne 0 = .ok (.aload_n 0, 1) := dk_42 (dk_at dksX10_tellOne_0 0 rfl rfl)
theorem dX10_tellOne_1 : decode cX10_tellOne 1 = .ok (.getfield 20, 3) := dk_180 0 20 (dk_at dksX10_tellOne_0 1 rfl rfl)
theorem dX10_tellOne_4 : decode cX10_tellOne 4 = .ok (.aload_n 0, 1) := dk_42 (dk_at dksX10_tellOne_0 4 rfl rfl)
theorem dX10_tellOne_5 : decode cX10_tellOne 5 = .ok (.getfield 215, 3) := dk_180 0 215 (dk_at dksX10_tellOne_0 5 rfl rfl)
theorem dX10_tellOne_8 : decode cX10_tellOne 8 = .ok (.iaload, 1) := dk_46 (dk_at dksX10_tellOne_0 8 rfl rfl)
theorem dX10_tellOne_9 : decode cX10_tellOne 9 = .ok (.tableswitch 350 20 30 #[59, 122, 151, 179, 207, 350, 350, 350, 350, 236, 321], 59) := by decide +kernel
theorem dX10_tellOne_68 : decode cX10_tellOne 68 = .ok (.aload_n 0, 1) := dk_42 (dk_at dksX10_tellOne_2 0 rfl rfl)
theorem dX10_tellOne_69 : decode cX10_tellOne 69 = .ok (.aload_n 0, 1) := dk_42 (dk_at dksX10_tellOne_2 1 rfl rfl)
theorem dX10_tellOne_70 : decode cX10_tellOne 70 = .ok (.getfield 46, 3) := dk_180 0 46 (dk_at dksX10_tellOne_2 2 rfl rfl)
theorem dX10_tellOne_73 : decode cX10_tellOne 73 = .ok (.aload_n 0, 1) := dk_42 (dk_at dksX10_tellOne_2 5 rfl rfl)
theorem dX10_tellOne_74 : decode cX10_tellOne 74 = .ok (.getfield 245, 3) := dk_180 0 245 (dk_at dksX10_tellOne_2 6 rfl rfl)
theorem dX10_tellOne_77 : decode cX10_tellOne 77 = .ok (.iaload, 1) := dk_46 (dk_at dksX10_tellOne_2 9 rfl rfl)
theorem dX10_tellOne_78 : decode cX10_tellOne 78 = .ok (.bipush 7, 2) := dk_16 7 (dk_at dksX10_tellOne_2 10 rfl rfl)
theorem dX10_tellOne_80 : decode cX10_tellOne 80 = .ok (.invokevirtual 269, 3) := dk_182 1 13 (dk_at dksX10_tellOne_2 12 rfl rfl)
theorem dX10_tellOne_83 : decode cX10_tellOne 83 = .ok (.aload_n 0, 1) := dk_42 (dk_at dksX10_tellOne_2 15 rfl rfl)
theorem dX10_tellOne_84 : decode cX10_tellOne 84 = .ok (.getfield 212, 3) := dk_180 0 212 (dk_at dksX10_tellOne_2 16 rfl rfl)
theorem dX10_tellOne_87 : decode cX10_tellOne 87 = .ok (.ifCond .le 4, 3) := dk_158 0 4 (dk_at dksX10_tellOne_2 19 rfl rfl)
theorem dX10_tellOne_90 : decode cX10_tellOne 90 = .ok (.return_, 1) := dk_177 (dk_at dksX10_tellOne_2 22 rfl rfl)
theorem dX10_tellOne_91 : decode cX10_tellOne 91 = .ok (.aload_n 0, 1) := dk_42 (dk_at dksX10_tellOne_2 23 rfl rfl)
theorem dX10_tellOne_92 : decode cX10_tellOne 92 = .ok (.aload_n 0, 1) := dk_42 (dk_at dksX10_tellOne_3 0 rfl rfl)
theorem dX10_tellOne_93 : decode cX10_tellOne 93 = .ok (.invokevirtual 273, 3) := dk_182 1 17 (dk_at dksX10_tellOne_3 1 rfl rfl)
theorem dX10_tellOne_96 : decode cX10_tellOne 96 = .ok (.aload_n 0, 1) := dk_42 (dk_at dksX10_tellOne_3 4 rfl rfl)
theorem dX10_tellOne_97 : decode cX10_tellOne 97 = .ok (.getfield 46, 3) := dk_180 0 46 (dk_at dksX10_tellOne_3 5 rfl rfl)
theorem dX10_tellOne_100 : decode cX10_tellOne 100 = .ok (.aload_n 0, 1) := dk_42 (dk_at dksX10_tellOne_3 8 rfl rfl)
theorem dX10_tellOne_101 : decode cX10_tellOne 101 = .ok (.getfield 245, 3) := dk_180 0 245 (dk_at dksX10_tellOne_3 9 rfl rfl)
theorem dX10_tellOne_104 : decode cX10_tellOne 104 = .ok (.iaload, 1) := dk_46 (dk_at dksX10_tellOne_3 12 rfl rfl)
theorem dX10_tellOne_105 : decode cX10_tellOne 105 = .ok (.invokevirtual 277, 3) := dk_182 1 21 (dk_at dksX10_tellOne_3 13 rfl rfl)
theorem dX10_tellOne_108 : decode cX10_tellOne 108 = .ok (.aload_n 0, 1) := dk_42 (dk_at dksX10_tellOne_3 16 rfl rfl)
theorem dX10_tellOne_109 : decode cX10_tellOne 109 = .ok (.getfield 212, 3) := dk_180 0 212 (dk_at dksX10_tellOne_3 17 rfl rfl)
theorem dX10_tellOne_112 : decode cX10_tellOne 112 = .ok (.ifCond .ne 300, 3) := dk_154 1 44 (dk_at dksX10_tellOne_3 20 rfl rfl)
theorem dX10_tellOne_115 : decode cX10_tellOne 115 = .ok (.aload_n 0, 1) := dk_42 (dk_at dksX10_tellOne_3 23 rfl rfl)
theorem dX10_tellOne_116 : decode cX10_tellOne 116 = .ok (.getfield 46, 3) := dk_180 0 46 (dk_at dksX10_tellOne_4 0 rfl rfl)
theorem dX10_tellOne_119 : decode cX10_tellOne 119 = .ok (.aload_n 0, 1) := dk_42 (dk_at dksX10_tellOne_4 3 rfl rfl)
theorem dX10_tellOne_120 : decode cX10_tellOne 120 = .ok (.getfield 245, 3) := dk_180 0 245 (dk_at dksX10_tellOne_4 4 rfl rfl)
theorem dX10_tellOne_123 : decode cX10_tellOne 123 = .ok (.dup2, 1) := dk_92 (dk_at dksX10_tellOne_4 7 rfl rfl)
theorem dX10_tellOne_124 : decode cX10_tellOne 124 = .ok (.iaload, 1) := dk_46 (dk_at dksX10_tellOne_4 8 rfl rfl)
theorem dX10_tellOne_125 : decode cX10_tellOne 125 = .ok (.iconst 1, 1) := dk_4 (dk_at dksX10_tellOne_4 9 rfl rfl)
theorem dX10_tellOne_126 : decode cX10_tellOne 126 = .ok (.iadd, 1) := dk_96 (dk_at dksX10_tellOne_4 10 rfl rfl)
theorem dX10_tellOne_127 : decode cX10_tellOne 127 = .ok (.iastore, 1) := dk_79 (dk_at dksX10_tellOne_4 11 rfl rfl)
theorem dX10_tellOne_128 : decode cX10_tellOne 128 = .ok (.goto 284, 3) := dk_167 1 28 (dk_at dksX10_tellOne_4 12 rfl rfl)
theorem dX10_tellOne_131 : decode cX10_tellOne 131 = .ok (.aload_n 0, 1) := dk_42 (dk_at dksX10_tellOne_4 15 rfl rfl)
theorem dX10_tellOne_132 : decode cX10_tellOne 132 = .ok (.aload_n 0, 1) := dk_42 (dk_at dksX10_tellOne_4 16 rfl rfl)
theorem dX10_tellOne_133 : decode cX10_tellOne 133 = .ok (.getfield 52, 3) := dk_180 0 52 (dk_at dksX10_tellOne_4 17 rfl rfl)
theorem dX10_tellOne_136 : decode cX10_tellOne 136 = .ok (.aload_n 0, 1) := dk_42 (dk_at dksX10_tellOne_4 20 rfl rfl)
theorem dX10_tellOne_137 : decode cX10_tellOne 137 = .ok (.getfield 245, 3) := dk_180 0 245 (dk_at dksX10_tellOne_4 21 rfl rfl)
theorem dX10_tellOne_140 : decode cX10_tellOne 140 = .ok (.iaload, 1) := dk_46 (dk_at dksX10_tellOne_5 0 rfl rfl)
theorem dX10_tellOne_141 : decode cX10_tellOne 141 = .ok (.bipush 12, 2) := dk_16 12 (dk_at dksX10_tellOne_5 1 rfl rfl)
theorem dX10_tellOne_143 : decode cX10_tellOne 143 = .ok (.invokevirtual 269, 3) := dk_182 1 13 (dk_at dksX10_tellOne_5 3 rfl rfl)
theorem dX10_tellOne_146 : decode cX10_tellOne 146 = .ok (.aload_n 0, 1) := dk_42 (dk_at dksX10_tellOne_5 6 rfl rfl)
theorem dX10_tellOne_147 : decode cX10_tellOne 147 = .ok (.getfield 212, 3) := dk_180 0 212 (dk_at dksX10_tellOne_5 7 rfl rfl)
theorem dX10_tellOne_150 : decode cX10_tellOne 150 = .ok (.ifCond .ne 262, 3) := dk_154 1 6 (dk_at dksX10_tellOne_5 10 rfl rfl)
theorem dX10_tellOne_153 : decode cX10_tellOne 153 = .ok (.aload_n 0, 1) := dk_42 (dk_at dksX10_tellOne_5 13 rfl rfl)
theorem dX10_tellOne_154 : decode cX10_tellOne 154 = .ok (.invokevirtual 280, 3) := dk_182 1 24 (dk_at dksX10_tellOne_5 14 rfl rfl)
theorem dX10_tellOne_157 : decode cX10_tellOne 157 = .ok (.goto 255, 3) := dk_167 0 255 (dk_at dksX10_tellOne_5 17 rfl rfl)
theorem dX10_tellOne_160 : decode cX10_tellOne 160 = .ok (.aload_n 0, 1) := dk_42 (dk_at dksX10_tellOne_5 20 rfl rfl)
theorem dX10_tellOne_161 : decode cX10_tellOne 161 = .ok (.aload_n 0, 1) := dk_42 (dk_at dksX10_tellOne_5 21 rfl rfl)
theorem dX10_tellOne_162 : decode cX10_tellOne 162 = .ok (.getfield 55, 3) := dk_180 0 55 (dk_at dksX10_tellOne_6 0 rfl rfl)
theorem dX10_tellOne_165 : decode cX10_tellOne 165 = .ok (.aload_n 0, 1) := dk_42 (dk_at dksX10_tellOne_6 3 rfl rfl)
theorem dX10_tellOne_166 : decode cX10_tellOne 166 = .ok (.getfield 245, 3) := dk_180 0 245 (dk_at dksX10_tellOne_6 4 rfl rfl)
theorem dX10_tellOne_169 : decode cX10_tellOne 169 = .ok (.iaload, 1) := dk_46 (dk_at dksX10_tellOne_6 7 rfl rfl)
theorem dX10_tellOne_170 : decode cX10_tellOne 170 = .ok (.iconst 5, 1) := dk_8 (dk_at dksX10_tellOne_6 8 rfl rfl)
theorem dX10_tellOne_171 : decode cX10_tellOne 171 = .ok (.invokevirtual 269, 3) := dk_182 1 13 (dk_at dksX10_tellOne_6 9 rfl rfl)
theorem dX10_tellOne_174 : decode cX10_tellOne 174 = .ok (.aload_n 0, 1) := dk_42 (dk_at dksX10_tellOne_6 12 rfl rfl)
theorem dX10_tellOne_175 : decode cX10_tellOne 175 = .ok (.getfield 212, 3) := dk_180 0 212 (dk_at dksX10_tellOne_6 13 rfl rfl)
theorem dX10_tellOne_178 : decode cX10_tellOne 178 = .ok (.ifCond .ne 234, 3) := dk_154 0 234 (dk_at dksX10_tellOne_6 16 rfl rfl)
theorem dX10_tellOne_181 : decode cX10_tellOne 181 = .ok (.aload_n 0, 1) := dk_42 (dk_at dksX10_tellOne_6 19 rfl rfl)
theorem dX10_tellOne_182 : decode cX10_tellOne 182 = .ok (.invokevirtual 283, 3) := dk_182 1 27 (dk_at dksX10_tellOne_6 20 rfl rfl)
theorem dX10_tellOne_185 : decode cX10_tellOne 185 = .ok (.goto 227, 3) := dk_167 0 227 (dk_at dksX10_tellOne_7 0 rfl rfl)
theorem dX10_tellOne_188 : decode cX10_tellOne 188 = .ok (.aload_n 0, 1) := dk_42 (dk_at dksX10_tellOne_7 3 rfl rfl)
theorem dX10_tellOne_189 : decode cX10_tellOne 189 = .ok (.aload_n 0, 1) := dk_42 (dk_at dksX10_tellOne_7 4 rfl rfl)
theorem dX10_tellOne_190 : decode cX10_tellOne 190 = .ok (.getfield 67, 3) := dk_180 0 67 (dk_at dksX10_tellOne_7 5 rfl rfl)
theorem dX10_tellOne_193 : decode cX10_tellOne 193 = .ok (.aload_n 0, 1) := dk_42 (dk_at dksX10_tellOne_7 8 rfl rfl)
theorem dX10_tellOne_194 : decode cX10_tellOne 194 = .ok (.getfield 245, 3) := dk_180 0 245 (dk_at dksX10_tellOne_7 9 rfl rfl)
theorem dX10_tellOne_197 : decode cX10_tellOne 197 = .ok (.iaload, 1) := dk_46 (dk_at dksX10_tellOne_7 12 rfl rfl)
theorem dX10_tellOne_198 : decode cX10_tellOne 198 = .ok (.iconst 4, 1) := dk_7 (dk_at dksX10_tellOne_7 13 rfl rfl)
theorem dX10_tellOne_199 : decode cX10_tellOne 199 = .ok (.invokevirtual 269, 3) := dk_182 1 13 (dk_at dksX10_tellOne_7 14 rfl rfl)
theorem dX10_tellOne_202 : decode cX10_tellOne 202 = .ok (.aload_n 0, 1) := dk_42 (dk_at dksX10_tellOne_7 17 rfl rfl)
theorem dX10_tellOne_203 : decode cX10_tellOne 203 = .ok (.getfield 212, 3) := dk_180 0 212 (dk_at dksX10_tellOne_7 18 rfl rfl)
theorem dX10_tellOne_206 : decode cX10_tellOne 206 = .ok (.ifCond .ne 206, 3) := dk_154 0 206 (dk_at dksX10_tellOne_7 21 rfl rfl)
theorem dX10_tellOne_209 : decode cX10_tellOne 209 = .ok (.aload_n 0, 1) := dk_42 (dk_at dksX10_tellOne_8 0 rfl rfl)
theorem dX10_tellOne_210 : decode cX10_tellOne 210 = .ok (.invokevirtual 286, 3) := dk_182 1 30 (dk_at dksX10_tellOne_8 1 rfl rfl)
theorem dX10_tellOne_213 : decode cX10_tellOne 213 = .ok (.goto 199, 3) := dk_167 0 199 (dk_at dksX10_tellOne_8 4 rfl rfl)
theorem dX10_tellOne_216 : decode cX10_tellOne 216 = .ok (.aload_n 0, 1) := dk_42 (dk_at dksX10_tellOne_8 7 rfl rfl)
theorem dX10_tellOne_217 : decode cX10_tellOne 217 = .ok (.aload_n 0, 1) := dk_42 (dk_at dksX10_tellOne_8 8 rfl rfl)
theorem dX10_tellOne_218 : decode cX10_tellOne 218 = .ok (.getfield 76, 3) := dk_180 0 76 (dk_at dksX10_tellOne_8 9 rfl rfl)
theorem dX10_tellOne_221 : decode cX10_tellOne 221 = .ok (.aload_n 0, 1) := dk_42 (dk_at dksX10_tellOne_8 12 rfl rfl)
theorem dX10_tellOne_222 : decode cX10_tellOne 222 = .ok (.getfield 245, 3) := dk_180 0 245 (dk_at dksX10_tellOne_8 13 rfl rfl)
theorem dX10_tellOne_225 : decode cX10_tellOne 225 = .ok (.iaload, 1) := dk_46 (dk_at dksX10_tellOne_8 16 rfl rfl)
theorem dX10_tellOne_226 : decode cX10_tellOne 226 = .ok (.bipush 8, 2) := dk_16 8 (dk_at dksX10_tellOne_8 17 rfl rfl)
theorem dX10_tellOne_228 : decode cX10_tellOne 228 = .ok (.invokevirtual 269, 3) := dk_182 1 13 (dk_at dksX10_tellOne_8 19 rfl rfl)
theorem dX10_tellOne_231 : decode cX10_tellOne 231 = .ok (.aload_n 0, 1) := dk_42 (dk_at dksX10_tellOne_8 22 rfl rfl)
theorem dX10_tellOne_232 : decode cX10_tellOne 232 = .ok (.getfield 212, 3) := dk_180 0 212 (dk_at dksX10_tellOne_9 0 rfl rfl)
theorem dX10_tellOne_235 : decode cX10_tellOne 235 = .ok (.ifCond .ne 177, 3) := dk_154 0 177 (dk_at dksX10_tellOne_9 3 rfl rfl)
theorem dX10_tellOne_238 : decode cX10_tellOne 238 = .ok (.aload_n 0, 1) := dk_42 (dk_at dksX10_tellOne_9 6 rfl rfl)
theorem dX10_tellOne_239 : decode cX10_tellOne 239 = .ok (.invokevirtual 289, 3) := dk_182 1 33 (dk_at dksX10_tellOne_9 7 rfl rfl)
theorem dX10_tellOne_242 : decode cX10_tellOne 242 = .ok (.goto 170, 3) := dk_167 0 170 (dk_at dksX10_tellOne_9 10 rfl rfl)
theorem dX10_tellOne_245 : decode cX10_tellOne 245 = .ok (.aload_n 0, 1) := dk_42 (dk_at dksX10_tellOne_9 13 rfl rfl)
theorem dX10_tellOne_246 : decode cX10_tellOne 246 = .ok (.invokevirtual 233, 3) := dk_182 0 233 (dk_at dksX10_tellOne_9 14 rfl rfl)
theorem dX10_tellOne_249 : decode cX10_tellOne 249 = .ok (.aload_n 0, 1) := dk_42 (dk_at dksX10_tellOne_9 17 rfl rfl)
theorem dX10_tellOne_250 : decode cX10_tellOne 250 = .ok (.getfield 85, 3) := dk_180 0 85 (dk_at dksX10_tellOne_9 18 rfl rfl)
theorem dX10_tellOne_253 : decode cX10_tellOne 253 = .ok (.aload_n 0, 1) := dk_42 (dk_at dksX10_tellOne_9 21 rfl rfl)
theorem dX10_tellOne_254 : decode cX10_tellOne 254 = .ok (.getfield 245, 3) := dk_180 0 245 (dk_at dksX10_tellOne_10 0 rfl rfl)
theorem dX10_tellOne_257 : decode cX10_tellOne 257 = .ok (.aload_n 0, 1) := dk_42 (dk_at dksX10_tellOne_10 3 rfl rfl)
theorem dX10_tellOne_258 : decode cX10_tellOne 258 = .ok (.iconst 0, 1) := dk_3 (dk_at dksX10_tellOne_10 4 rfl rfl)
theorem dX10_tellOne_259 : decode cX10_tellOne 259 = .ok (.sipush 1439, 3) := dk_17 5 159 (dk_at dksX10_tellOne_10 5 rfl rfl)
theorem dX10_tellOne_262 : decode cX10_tellOne 262 = .ok (.invokevirtual 292, 3) := dk_182 1 36 (dk_at dksX10_tellOne_10 8 rfl rfl)
theorem dX10_tellOne_265 : decode cX10_tellOne 265 = .ok (.iastore, 1) := dk_79 (dk_at dksX10_tellOne_10 11 rfl rfl)
theorem dX10_tellOne_266 : decode cX10_tellOne 266 = .ok (.aload_n 0, 1) := dk_42 (dk_at dksX10_tellOne_10 12 rfl rfl)
theorem dX10_tellOne_267 : decode cX10_tellOne 267 = .ok (.getfield 215, 3) := dk_180 0 215 (dk_at dksX10_tellOne_10 13 rfl rfl)
theorem dX10_tellOne_270 : decode cX10_tellOne 270 = .ok (.istore_n 1, 1) := dk_60 (dk_at dksX10_tellOne_10 16 rfl rfl)
theorem dX10_tellOne_271 : decode cX10_tellOne 271 = .ok (.aload_n 0, 1) := dk_42 (dk_at dksX10_tellOne_10 17 rfl rfl)
theorem dX10_tellOne_272 : decode cX10_tellOne 272 = .ok (.getfield 88, 3) := dk_180 0 88 (dk_at dksX10_tellOne_10 18 rfl rfl)
theorem dX10_tellOne_275 : decode cX10_tellOne 275 = .ok (.aload_n 0, 1) := dk_42 (dk_at dksX10_tellOne_10 21 rfl rfl)
theorem dX10_tellOne_276 : decode cX10_tellOne 276 = .ok (.getfield 245, 3) := dk_180 0 245 (dk_at dksX10_tellOne_11 0 rfl rfl)
theorem dX10_tellOne_279 : decode cX10_tellOne 279 = .ok (.aload_n 0, 1) := dk_42 (dk_at dksX10_tellOne_11 3 rfl rfl)
theorem dX10_tellOne_280 : decode cX10_tellOne 280 = .ok (.iconst 1, 1) := dk_4 (dk_at dksX10_tellOne_11 4 rfl rfl)
theorem dX10_tellOne_281 : decode cX10_tellOne 281 = .ok (.sipush 1440, 3) := dk_17 5 160 (dk_at dksX10_tellOne_11 5 rfl rfl)
theorem dX10_tellOne_284 : decode cX10_tellOne 284 = .ok (.invokevirtual 292, 3) := dk_182 1 36 (dk_at dksX10_tellOne_11 8 rfl rfl)
theorem dX10_tellOne_287 : decode cX10_tellOne 287 = .ok (.iastore, 1) := dk_79 (dk_at dksX10_tellOne_11 11 rfl rfl)
theorem dX10_tellOne_288 : decode cX10_tellOne 288 = .ok (.aload_n 0, 1) := dk_42 (dk_at dksX10_tellOne_11 12 rfl rfl)
theorem dX10_tellOne_289 : decode cX10_tellOne 289 = .ok (.getfield 212, 3) := dk_180 0 212 (dk_at dksX10_tellOne_11 13 rfl rfl)
theorem dX10_tellOne_292 : decode cX10_tellOne 292 = .ok (.ifCond .ne 30, 3) := dk_154 0 30 (dk_at dksX10_tellOne_11 16 rfl rfl)
theorem dX10_tellOne_295 : decode cX10_tellOne 295 = .ok (.aload_n 0, 1) := dk_42 (dk_at dksX10_tellOne_11 19 rfl rfl)
theorem dX10_tellOne_296 : decode cX10_tellOne 296 = .ok (.getfield 88, 3) := dk_180 0 88 (dk_at dksX10_tellOne_11 20 rfl rfl)
theorem dX10_tellOne_299 : decode cX10_tellOne 299 = .ok (.aload_n 0, 1) := dk_42 (dk_at dksX10_tellOne_11 23 rfl rfl)
theorem dX10_tellOne_300 : decode cX10_tellOne 300 = .ok (.getfield 245, 3) := dk_180 0 245 (dk_at dksX10_tellOne_12 0 rfl rfl)
theorem dX10_tellOne_303 : decode cX10_tellOne 303 = .ok (.iaload, 1) := dk_46 (dk_at dksX10_tellOne_12 3 rfl rfl)
theorem dX10_tellOne_304 : decode cX10_tellOne 304 = .ok (.aload_n 0, 1) := dk_42 (dk_at dksX10_tellOne_12 4 rfl rfl)
theorem dX10_tellOne_305 : decode cX10_tellOne 305 = .ok (.getfield 85, 3) := dk_180 0 85 (dk_at dksX10_tellOne_12 5 rfl rfl)
theorem dX10_tellOne_308 : decode cX10_tellOne 308 = .ok (.aload_n 0, 1) := dk_42 (dk_at dksX10_tellOne_12 8 rfl rfl)
theorem dX10_tellOne_309 : decode cX10_tellOne 309 = .ok (.getfield 245, 3) := dk_180 0 245 (dk_at dksX10_tellOne_12 9 rfl rfl)
theorem dX10_tellOne_312 : decode cX10_tellOne 312 = .ok (.iaload, 1) := dk_46 (dk_at dksX10_tellOne_12 12 rfl rfl)
theorem dX10_tellOne_313 : decode cX10_tellOne 313 = .ok (.if_icmp .gt 9, 3) := dk_163 0 9 (dk_at dksX10_tellOne_12 13 rfl rfl)
theorem dX10_tellOne_316 : decode cX10_tellOne 316 = .ok (.aload_n 0, 1) := dk_42 (dk_at dksX10_tellOne_12 16 rfl rfl)
theorem dX10_tellOne_317 : decode cX10_tellOne 317 = .ok (.iconst 5, 1) := dk_8 (dk_at dksX10_tellOne_12 17 rfl rfl)
theorem dX10_tellOne_318 : decode cX10_tellOne 318 = .ok (.iload_n 1, 1) := dk_27 (dk_at dksX10_tellOne_12 18 rfl rfl)
theorem dX10_tellOne_319 : decode cX10_tellOne 319 = .ok (.invokevirtual 296, 3) := dk_182 1 40 (dk_at dksX10_tellOne_12 19 rfl rfl)
theorem dX10_tellOne_322 : decode cX10_tellOne 322 = .ok (.aload_n 0, 1) := dk_42 (dk_at dksX10_tellOne_12 22 rfl rfl)
theorem dX10_tellOne_323 : decode cX10_tellOne 323 = .ok (.iconst 4, 1) := dk_7 (dk_at dksX10_tellOne_12 23 rfl rfl)
theorem dX10_tellOne_324 : decode cX10_tellOne 324 = .ok (.invokevirtual 299, 3) := dk_182 1 43 (dk_at dksX10_tellOne_13 0 rfl rfl)
theorem dX10_tellOne_327 : decode cX10_tellOne 327 = .ok (.goto 85, 3) := dk_167 0 85 (dk_at dksX10_tellOne_13 3 rfl rfl)
theorem dX10_tellOne_330 : decode cX10_tellOne 330 = .ok (.aload_n 0, 1) := dk_42 (dk_at dksX10_tellOne_13 6 rfl rfl)
theorem dX10_tellOne_331 : decode cX10_tellOne 331 = .ok (.invokevirtual 233, 3) := dk_182 0 233 (dk_at dksX10_tellOne_13 7 rfl rfl)
theorem dX10_tellOne_334 : decode cX10_tellOne 334 = .ok (.aload_n 0, 1) := dk_42 (dk_at dksX10_tellOne_13 10 rfl rfl)
theorem dX10_tellOne_335 : decode cX10_tellOne 335 = .ok (.getfield 91, 3) := dk_180 0 91 (dk_at dksX10_tellOne_13 11 rfl rfl)
theorem dX10_tellOne_338 : decode cX10_tellOne 338 = .ok (.aload_n 0, 1) := dk_42 (dk_at dksX10_tellOne_13 14 rfl rfl)
theorem dX10_tellOne_339 : decode cX10_tellOne 339 = .ok (.getfield 245, 3) := dk_180 0 245 (dk_at dksX10_tellOne_13 15 rfl rfl)
theorem dX10_tellOne_342 : decode cX10_tellOne 342 = .ok (.aload_n 0, 1) := dk_42 (dk_at dksX10_tellOne_13 18 rfl rfl)
theorem dX10_tellOne_343 : decode cX10_tellOne 343 = .ok (.iconst 0, 1) := dk_3 (dk_at dksX10_tellOne_13 19 rfl rfl)
theorem dX10_tellOne_344 : decode cX10_tellOne 344 = .ok (.sipush 1439, 3) := dk_17 5 159 (dk_at dksX10_tellOne_13 20 rfl rfl)
theorem dX10_tellOne_347 : decode cX10_tellOne 347 = .ok (.invokevirtual 292, 3) := dk_182 1 36 (dk_at dksX10_tellOne_14 0 rfl rfl)
theorem dX10_tellOne_350 : decode cX10_tellOne 350 = .ok (.iastore, 1) := dk_79 (dk_at dksX10_tellOne_14 3 rfl rfl)
theorem dX10_tellOne_351 : decode cX10_tellOne 351 = .ok (.aload_n 0, 1) := dk_42 (dk_at dksX10_tellOne_14 4 rfl rfl)
theorem dX10_tellOne_352 : decode cX10_tellOne 352 = .ok (.iconst 4, 1) := dk_7 (dk_at dksX10_tellOne_14 5 rfl rfl)
theorem dX10_tellOne_353 : decode cX10_tellOne 353 = .ok (.invokevirtual 299, 3) := dk_182 1 43 (dk_at dksX10_tellOne_14 6 rfl rfl)
theorem dX10_tellOne_356 : decode cX10_tellOne 356 = .ok (.goto 56, 3) := dk_167 0 56 (dk_at dksX10_tellOne_14 9 rfl rfl)
theorem dX10_tellOne_359 : decode cX10_tellOne 359 = .ok (.aload_n 0, 1) := dk_42 (dk_at dksX10_tellOne_14 12 rfl rfl)
theorem dX10_tellOne_360 : decode cX10_tellOne 360 = .ok (.getfield 20, 3) := dk_180 0 20 (dk_at dksX10_tellOne_14 13 rfl rfl)
theorem dX10_tellOne_363 : decode cX10_tellOne 363 = .ok (.aload_n 0, 1) := dk_42 (dk_at dksX10_tellOne_14 16 rfl rfl)
theorem dX10_tellOne_364 : decode cX10_tellOne 364 = .ok (.getfield 215, 3) := dk_180 0 215 (dk_at dksX10_tellOne_14 17 rfl rfl)
theorem dX10_tellOne_367 : decode cX10_tellOne 367 = .ok (.iaload, 1) := dk_46 (dk_at dksX10_tellOne_14 20 rfl rfl)
theorem dX10_tellOne_368 : decode cX10_tellOne 368 = .ok (.bipush 25, 2) := dk_16 25 (dk_at dksX10_tellOne_14 21 rfl rfl)
theorem dX10_tellOne_370 : decode cX10_tellOne 370 = .ok (.isub, 1) := dk_100 (dk_at dksX10_tellOne_14 23 rfl rfl)
theorem dX10_tellOne_371 : decode cX10_tellOne 371 = .ok (.istore_n 1, 1) := dk_60 (dk_at dksX10_tellOne_15 0 rfl rfl)
theorem dX10_tellOne_372 : decode cX10_tellOne 372 = .ok (.iload_n 1, 1) := dk_27 (dk_at dksX10_tellOne_15 1 rfl rfl)
theorem dX10_tellOne_373 : decode cX10_tellOne 373 = .ok (.ifCond .lt 17, 3) := dk_155 0 17 (dk_at dksX10_tellOne_15 2 rfl rfl)
theorem dX10_tellOne_376 : decode cX10_tellOne 376 = .ok (.aload_n 0, 1) := dk_42 (dk_at dksX10_tellOne_15 5 rfl rfl)
theorem dX10_tellOne_377 : decode cX10_tellOne 377 = .ok (.getfield 20, 3) := dk_180 0 20 (dk_at dksX10_tellOne_15 6 rfl rfl)
theorem dX10_tellOne_380 : decode cX10_tellOne 380 = .ok (.aload_n 0, 1) := dk_42 (dk_at dksX10_tellOne_15 9 rfl rfl)
theorem dX10_tellOne_381 : decode cX10_tellOne 381 = .ok (.getfield 215, 3) := dk_180 0 215 (dk_at dksX10_tellOne_15 10 rfl rfl)
theorem dX10_tellOne_384 : decode cX10_tellOne 384 = .ok (.iaload, 1) := dk_46 (dk_at dksX10_tellOne_15 13 rfl rfl)
theorem dX10_tellOne_385 : decode cX10_tellOne 385 = .ok (.bipush 28, 2) := dk_16 28 (dk_at dksX10_tellOne_15 14 rfl rfl)
theorem dX10_tellOne_387 : decode cX10_tellOne 387 = .ok (.if_icmp .le 8, 3) := dk_164 0 8 (dk_at dksX10_tellOne_15 16 rfl rfl)
theorem dX10_tellOne_390 : decode cX10_tellOne 390 = .ok (.aload_n 0, 1) := dk_42 (dk_at dksX10_tellOne_15 19 rfl rfl)
theorem dX10_tellOne_391 : decode cX10_tellOne 391 = .ok (.iconst 1, 1) := dk_4 (dk_at dksX10_tellOne_15 20 rfl rfl)
theorem dX10_tellOne_392 : decode cX10_tellOne 392 = .ok (.invokevirtual 227, 3) := dk_182 0 227 (dk_at dksX10_tellOne_15 21 rfl rfl)
theorem dX10_tellOne_395 : decode cX10_tellOne 395 = .ok (.aload_n 0, 1) := dk_42 (dk_at dksX10_tellOne_16 0 rfl rfl)
theorem dX10_tellOne_396 : decode cX10_tellOne 396 = .ok (.getfield 212, 3) := dk_180 0 212 (dk_at dksX10_tellOne_16 1 rfl rfl)
theorem dX10_tellOne_399 : decode cX10_tellOne 399 = .ok (.ifCond .le 4, 3) := dk_158 0 4 (dk_at dksX10_tellOne_16 4 rfl rfl)
theorem dX10_tellOne_402 : decode cX10_tellOne 402 = .ok (.return_, 1) := dk_177 (dk_at dksX10_tellOne_16 7 rfl rfl)
theorem dX10_tellOne_403 : decode cX10_tellOne 403 = .ok (.aload_n 0, 1) := dk_42 (dk_at dksX10_tellOne_16 8 rfl rfl)
theorem dX10_tellOne_404 : decode cX10_tellOne 404 = .ok (.invokevirtual 233, 3) := dk_182 0 233 (dk_at dksX10_tellOne_16 9 rfl rfl)
theorem dX10_tellOne_407 : decode cX10_tellOne 407 = .ok (.aload_n 0, 1) := dk_42 (dk_at dksX10_tellOne_16 12 rfl rfl)
theorem dX10_tellOne_408 : decode cX10_tellOne 408 = .ok (.iload_n 1, 1) := dk_27 (dk_at dksX10_tellOne_16 13 rfl rfl)
theorem dX10_tellOne_409 : decode cX10_tellOne 409 = .ok (.invokevirtual 302, 3) := dk_182 1 46 (dk_at dksX10_tellOne_16 14 rfl rfl)
theorem dX10_tellOne_412 : decode cX10_tellOne 412 = .ok (.return_, 1) := dk_177 (dk_at dksX10_tellOne_16 17 rfl rfl)
abbrev cX10_roomFor : ByteArray := prog_21_method_22_code
def yX10_roomFor : MethodName := ⟨RX10, "roomFor", "(II)V"⟩
def dkwX10_roomFor_0 : List UInt8 := [27, 28, 160, 0, 8, 42, 5, 182, 0, 227, 42, 180, 0, 212, 154, 0, 7, 42, 182, 0, 233, 177]
abbrev dktX10_roomFor_0 : List UInt8 := dkwX10_roomFor_0 ++ []
theorem dksX10_roomFor_0 : cX10_roomFor.data.toList.drop 0 = dktX10_roomFor_0 := by decide +kernel
theorem dX10_roomFor_0 : decode cX10_roomFor 0 = .ok (.iload_n 1, 1) := dk_27 (dk_at dksX10_roomFor_0 0 rfl rfl)
theorem dX10_roomFor_1 : decode cX10_roomFor 1 = .ok (.iload_n 2, 1) := dk_28 (dk_at dksX10_roomFor_0 1 rfl rfl)
theorem dX10_roomFor_2 : decode cX10_roomFor 2 = .ok (.if_icmp .ne 8, 3) := dk_160 0 8 (dk_at dksX10_roomFor_0 2 rfl rfl)
theorem dX10_roomFor_5 : decode cX10_roomFor 5 = .ok (.aload_n 0, 1) := dk_42 (dk_at dksX10_roomFor_0 5 rfl rfl)
theorem dX10_roomFor_6 : decode cX10_roomFor 6 = .ok (.iconst 2, 1) := dk_5 (dk_at dksX10_roomFor_0 6 rfl rfl)
theorem dX10_roomFor_7 : decode cX10_roomFor 7 = .ok (.invokevirtual 227, 3) := dk_182 0 227 (dk_at dksX10_roomFor_0 7 rfl rfl)
theorem dX10_roomFor_10 : decode cX10_roomFor 10 = .ok (.aload_n 0, 1) := dk_42 (dk_at dksX10_roomFor_0 10 rfl rfl)
theorem dX10_roomFor_11 : decode cX10_roomFor 11 = .ok (.getfield 212, 3) := dk_180 0 212 (dk_at dksX10_roomFor_0 11 rfl rfl)
theorem dX10_roomFor_14 : decode cX10_roomFor 14 = .ok (.ifCond .ne 7, 3) := dk_154 0 7 (dk_at dksX10_roomFor_0 14 rfl rfl)
theorem dX10_roomFor_17 : decode cX10_roomFor 17 = .ok (.aload_n 0, 1) := dk_42 (dk_at dksX10_roomFor_0 17 rfl rfl)
theorem dX10_roomFor_18 : decode cX10_roomFor 18 = .ok (.invokevirtual 233, 3) := dk_182 0 233 (dk_at dksX10_roomFor_0 18 rfl rfl)
theorem dX10_roomFor_21 : decode cX10_roomFor 21 = .ok (.return_, 1) := dk_177 (dk_at dksX10_roomFor_0 21 rfl rfl)
abbrev cX10_fail : ByteArray := prog_21_method_15_code
def yX10_fail : MethodName := ⟨RX10, "fail", "(I)V"⟩
def dkwX10_fail_1 : List UInt8 := [181, 0, 218, 177]
abbrev dktX10_fail_1 : List UInt8 := dkwX10_fail_1 ++ []
def dkwX10_fail_0 : List UInt8 := [42, 180, 0, 212, 158, 0, 4, 177, 42, 27, 181, 0, 212, 42, 42, 180, 0, 24, 42, 180, 0, 215, 46]
abbrev dktX10_fail_0 : List UInt8 := dkwX10_fail_0 ++ dktX10_fail_1
theorem dksX10_fail_0 : cX10_fail.data.toList.drop 0 = dktX10_fail_0 := by decide +kernel
theorem dksX10_fail_1 : cX10_fail.data.toList.drop 23 = dktX10_fail_1 := dk_seg dksX10_fail_0 23 rfl rfl
theorem dX10_fail_0 : decode cX10_fail 0 = .ok (.aload_n 0, 1) := dk_42 (dk_at dksX10_fail_0 0 rfl rfl)
theorem dX10_fail_1 : decode cX10_fail 1 = .ok (.getfield 212, 3) := dk_180 0 212 (dk_at dksX10_fail_0 1 rfl rfl)
theorem dX10_fail_4 : decode cX10_fail 4 = .ok (.ifCond .le 4, 3) := dk_158 0 4 (dk_at dksX10_fail_0 4 rfl rfl)
theorem dX10_fail_7 : decode cX10_fail 7 = .ok (.return_, 1) := dk_177 (dk_at dksX10_fail_0 7 rfl rfl)
theorem dX10_fail_8 : decode cX10_fail 8 = .ok (.aload_n 0, 1) := dk_42 (dk_at dksX10_fail_0 8 rfl rfl)
theorem dX10_fail_9 : decode cX10_fail 9 = .ok (.iload_n 1, 1) := dk_27 (dk_at dksX10_fail_0 9 rfl rfl)
theorem dX10_fail_10 : decode cX10_fail 10 = .ok (.putfield 212, 3) := dk_181 0 212 (dk_at dksX10_fail_0 10 rfl rfl)
theorem dX10_fail_13 : decode cX10_fail 13 = .ok (.aload_n 0, 1) := dk_42 (dk_at dksX10_fail_0 13 rfl rfl)
theorem dX10_fail_14 : decode cX10_fail 14 = .ok (.aload_n 0, 1) := dk_42 (dk_at dksX10_fail_0 14 rfl rfl)
theorem dX10_fail_15 : decode cX10_fail 15 = .ok (.getfield 24, 3) := dk_180 0 24 (dk_at dksX10_fail_0 15 rfl rfl)
theorem dX10_fail_18 : decode cX10_fail 18 = .ok (.aload_n 0, 1) := dk_42 (dk_at dksX10_fail_0 18 rfl rfl)
theorem dX10_fail_19 : decode cX10_fail 19 = .ok (.getfield 215, 3) := dk_180 0 215 (dk_at dksX10_fail_0 19 rfl rfl)
theorem dX10_fail_22 : decode cX10_fail 22 = .ok (.iaload, 1) := dk_46 (dk_at dksX10_fail_0 22 rfl rfl)
theorem dX10_fail_23 : decode cX10_fail 23 = .ok (.putfield 218, 3) := dk_181 0 218 (dk_at dksX10_fail_1 0 rfl rfl)
theorem dX10_fail_26 : decode cX10_fail 26 = .ok (.return_, 1) := dk_177 (dk_at dksX10_fail_1 3 rfl rfl)
abbrev cX10_goesOn : ByteArray := prog_21_method_17_code
def yX10_goesOn : MethodName := ⟨RX10, "goesOn", "()V"⟩
def dkwX10_goesOn_1 : List UInt8 := [96, 181, 0, 215, 177]
abbrev dktX10_goesOn_1 : List UInt8 := dkwX10_goesOn_1 ++ []
def dkwX10_goesOn_0 : List UInt8 := [42, 180, 0, 215, 17, 1, 144, 160, 0, 11, 42, 5, 182, 0, 227, 167, 0, 13, 42, 89, 180, 0, 215, 4]
abbrev dktX10_goesOn_0 : List UInt8 := dkwX10_goesOn_0 ++ dktX10_goesOn_1
theorem dksX10_goesOn_0 : cX10_goesOn.data.toList.drop 0 = dktX10_goesOn_0 := by decide +kernel
theorem dksX10_goesOn_1 : cX10_goesOn.data.toList.drop 24 = dktX10_goesOn_1 := dk_seg dksX10_goesOn_0 24 rfl rfl
theorem dX10_goesOn_0 : decode cX10_goesOn 0 = .ok (.aload_n 0, 1) := dk_42 (dk_at dksX10_goesOn_0 0 rfl rfl)
theorem dX10_goesOn_1 : decode cX10_goesOn 1 = .ok (.getfield 215, 3) := dk_180 0 215 (dk_at dksX10_goesOn_0 1 rfl rfl)
theorem dX10_goesOn_4 : decode cX10_goesOn 4 = .ok (.sipush 400, 3) := dk_17 1 144 (dk_at dksX10_goesOn_0 4 rfl rfl)
theorem dX10_goesOn_7 : decode cX10_goesOn 7 = .ok (.if_icmp .ne 11, 3) := dk_160 0 11 (dk_at dksX10_goesOn_0 7 rfl rfl)
theorem dX10_goesOn_10 : decode cX10_goesOn 10 = .ok (.aload_n 0, 1) := dk_42 (dk_at dksX10_goesOn_0 10 rfl rfl)
theorem dX10_goesOn_11 : decode cX10_goesOn 11 = .ok (.iconst 2, 1) := dk_5 (dk_at dksX10_goesOn_0 11 rfl rfl)
theorem dX10_goesOn_12 : decode cX10_goesOn 12 = .ok (.invokevirtual 227, 3) := dk_182 0 227 (dk_at dksX10_goesOn_0 12 rfl rfl)
theorem dX10_goesOn_15 : decode cX10_goesOn 15 = .ok (.goto 13, 3) := dk_167 0 13 (dk_at dksX10_goesOn_0 15 rfl rfl)
theorem dX10_goesOn_18 : decode cX10_goesOn 18 = .ok (.aload_n 0, 1) := dk_42 (dk_at dksX10_goesOn_0 18 rfl rfl)
theorem dX10_goesOn_19 : decode cX10_goesOn 19 = .ok (.dup, 1) := dk_89 (dk_at dksX10_goesOn_0 19 rfl rfl)
theorem dX10_goesOn_20 : decode cX10_goesOn 20 = .ok (.getfield 215, 3) := dk_180 0 215 (dk_at dksX10_goesOn_0 20 rfl rfl)
theorem dX10_goesOn_23 : decode cX10_goesOn 23 = .ok (.iconst 1, 1) := dk_4 (dk_at dksX10_goesOn_0 23 rfl rfl)
theorem dX10_goesOn_24 : decode cX10_goesOn 24 = .ok (.iadd, 1) := dk_96 (dk_at dksX10_goesOn_1 0 rfl rfl)
theorem dX10_goesOn_25 : decode cX10_goesOn 25 = .ok (.putfield 215, 3) := dk_181 0 215 (dk_at dksX10_goesOn_1 1 rfl rfl)
theorem dX10_goesOn_28 : decode cX10_goesOn 28 = .ok (.return_, 1) := dk_177 (dk_at dksX10_goesOn_1 4 rfl rfl)
abbrev cX10_named : ByteArray := prog_21_method_24_code
def yX10_named : MethodName := ⟨RX10, "named", "()I"⟩
def dkwX10_named_2 : List UInt8 := [182, 1, 40, 132, 2, 1, 167, 255, 216, 27, 172]
abbrev dktX10_named_2 : List UInt8 := dkwX10_named_2 ++ []
def dkwX10_named_1 : List UInt8 := [154, 0, 31, 42, 180, 0, 40, 28, 47, 42, 180, 0, 30, 27, 47, 148, 154, 0, 9, 42, 6, 27]
abbrev dktX10_named_1 : List UInt8 := dkwX10_named_1 ++ dktX10_named_2
def dkwX10_named_0 : List UInt8 := [42, 180, 0, 215, 60, 42, 4, 182, 1, 43, 3, 61, 28, 42, 180, 0, 248, 162, 0, 38, 42, 180, 0, 212]
abbrev dktX10_named_0 : List UInt8 := dkwX10_named_0 ++ dktX10_named_1
theorem dksX10_named_0 : cX10_named.data.toList.drop 0 = dktX10_named_0 := by decide +kernel
theorem dksX10_named_1 : cX10_named.data.toList.drop 24 = dktX10_named_1 := dk_seg dksX10_named_0 24 rfl rfl
theorem dksX10_named_2 : cX10_named.data.toList.drop 46 = dktX10_named_2 := dk_seg dksX10_named_1 22 rfl rfl
theorem dX10_named_0 : decode cX10_named 0 = .ok (.aload_n 0, 1) := dk_42 (dk_at dksX10_named_0 0 rfl rfl)
theorem dX10_named_1 : decode cX10_named 1 = .ok (.getfield 215, 3) := dk_180 0 215 (dk_at dksX10_named_0 1 rfl rfl)
theorem dX10_named_4 : decode cX10_named 4 = .ok (.istore_n 1, 1) := dk_60 (dk_at dksX10_named_0 4 rfl rfl)
theorem dX10_named_5 : decode cX10_named 5 = .ok (.aload_n 0, 1) := dk_42 (dk_at dksX10_named_0 5 rfl rfl)
theorem dX10_named_6 : decode cX10_named 6 = .ok (.iconst 1, 1) := dk_4 (dk_at dksX10_named_0 6 rfl rfl)
theorem dX10_named_7 : decode cX10_named 7 = .ok (.invokevirtual 299, 3) := dk_182 1 43 (dk_at dksX10_named_0 7 rfl rfl)
theorem dX10_named_10 : decode cX10_named 10 = .ok (.iconst 0, 1) := dk_3 (dk_at dksX10_named_0 10 rfl rfl)
theorem dX10_named_11 : decode cX10_named 11 = .ok (.istore_n 2, 1) := dk_61 (dk_at dksX10_named_0 11 rfl rfl)
theorem dX10_named_12 : decode cX10_named 12 = .ok (.iload_n 2, 1) := dk_28 (dk_at dksX10_named_0 12 rfl rfl)
theorem dX10_named_13 : decode cX10_named 13 = .ok (.aload_n 0, 1) := dk_42 (dk_at dksX10_named_0 13 rfl rfl)
theorem dX10_named_14 : decode cX10_named 14 = .ok (.getfield 248, 3) := dk_180 0 248 (dk_at dksX10_named_0 14 rfl rfl)
theorem dX10_named_17 : decode cX10_named 17 = .ok (.if_icmp .ge 38, 3) := dk_162 0 38 (dk_at dksX10_named_0 17 rfl rfl)
theorem dX10_named_20 : decode cX10_named 20 = .ok (.aload_n 0, 1) := dk_42 (dk_at dksX10_named_0 20 rfl rfl)
theorem dX10_named_21 : decode cX10_named 21 = .ok (.getfield 212, 3) := dk_180 0 212 (dk_at dksX10_named_0 21 rfl rfl)
theorem dX10_named_24 : decode cX10_named 24 = .ok (.ifCond .ne 31, 3) := dk_154 0 31 (dk_at dksX10_named_1 0 rfl rfl)
theorem dX10_named_27 : decode cX10_named 27 = .ok (.aload_n 0, 1) := dk_42 (dk_at dksX10_named_1 3 rfl rfl)
theorem dX10_named_28 : decode cX10_named 28 = .ok (.getfield 40, 3) := dk_180 0 40 (dk_at dksX10_named_1 4 rfl rfl)
theorem dX10_named_31 : decode cX10_named 31 = .ok (.iload_n 2, 1) := dk_28 (dk_at dksX10_named_1 7 rfl rfl)
theorem dX10_named_32 : decode cX10_named 32 = .ok (.laload, 1) := dk_47 (dk_at dksX10_named_1 8 rfl rfl)
theorem dX10_named_33 : decode cX10_named 33 = .ok (.aload_n 0, 1) := dk_42 (dk_at dksX10_named_1 9 rfl rfl)
theorem dX10_named_34 : decode cX10_named 34 = .ok (.getfield 30, 3) := dk_180 0 30 (dk_at dksX10_named_1 10 rfl rfl)
theorem dX10_named_37 : decode cX10_named 37 = .ok (.iload_n 1, 1) := dk_27 (dk_at dksX10_named_1 13 rfl rfl)
theorem dX10_named_38 : decode cX10_named 38 = .ok (.laload, 1) := dk_47 (dk_at dksX10_named_1 14 rfl rfl)
theorem dX10_named_39 : decode cX10_named 39 = .ok (.lcmp, 1) := dk_148 (dk_at dksX10_named_1 15 rfl rfl)
theorem dX10_named_40 : decode cX10_named 40 = .ok (.ifCond .ne 9, 3) := dk_154 0 9 (dk_at dksX10_named_1 16 rfl rfl)
theorem dX10_named_43 : decode cX10_named 43 = .ok (.aload_n 0, 1) := dk_42 (dk_at dksX10_named_1 19 rfl rfl)
theorem dX10_named_44 : decode cX10_named 44 = .ok (.iconst 3, 1) := dk_6 (dk_at dksX10_named_1 20 rfl rfl)
theorem dX10_named_45 : decode cX10_named 45 = .ok (.iload_n 1, 1) := dk_27 (dk_at dksX10_named_1 21 rfl rfl)
theorem dX10_named_46 : decode cX10_named 46 = .ok (.invokevirtual 296, 3) := dk_182 1 40 (dk_at dksX10_named_2 0 rfl rfl)
theorem dX10_named_49 : decode cX10_named 49 = .ok (.iinc 2 1, 3) := dk_132 2 1 (dk_at dksX10_named_2 3 rfl rfl)
theorem dX10_named_52 : decode cX10_named 52 = .ok (.goto (-40), 3) := dk_167 255 216 (dk_at dksX10_named_2 6 rfl rfl)
theorem dX10_named_55 : decode cX10_named 55 = .ok (.iload_n 1, 1) := dk_27 (dk_at dksX10_named_2 9 rfl rfl)
theorem dX10_named_56 : decode cX10_named 56 = .ok (.ireturn, 1) := dk_172 (dk_at dksX10_named_2 10 rfl rfl)
abbrev cX10_must : ByteArray := prog_21_method_18_code
def yX10_must : MethodName := ⟨RX10, "must", "(I)V"⟩
def dkwX10_must_0 : List UInt8 := [42, 27, 182, 0, 230, 153, 0, 10, 42, 182, 0, 233, 167, 0, 8, 42, 4, 182, 0, 227, 177]
abbrev dktX10_must_0 : List UInt8 := dkwX10_must_0 ++ []
theorem dksX10_must_0 : cX10_must.data.toList.drop 0 = dktX10_must_0 := by decide +kernel
theorem dX10_must_0 : decode cX10_must 0 = .ok (.aload_n 0, 1) := dk_42 (dk_at dksX10_must_0 0 rfl rfl)
theorem dX10_must_1 : decode cX10_must 1 = .ok (.iload_n 1, 1) := dk_27 (dk_at dksX10_must_0 1 rfl rfl)
theorem dX10_must_2 : decode cX10_must 2 = .ok (.invokevirtual 230, 3) := dk_182 0 230 (dk_at dksX10_must_0 2 rfl rfl)
theorem dX10_must_5 : decode cX10_must 5 = .ok (.ifCond .eq 10, 3) := dk_153 0 10 (dk_at dksX10_must_0 5 rfl rfl)
theorem dX10_must_8 : decode cX10_must 8 = .ok (.aload_n 0, 1) := dk_42 (dk_at dksX10_must_0 8 rfl rfl)
theorem dX10_must_9 : decode cX10_must 9 = .ok (.invokevirtual 233, 3) := dk_182 0 233 (dk_at dksX10_must_0 9 rfl rfl)
theorem dX10_must_12 : decode cX10_must 12 = .ok (.goto 8, 3) := dk_167 0 8 (dk_at dksX10_must_0 12 rfl rfl)
theorem dX10_must_15 : decode cX10_must 15 = .ok (.aload_n 0, 1) := dk_42 (dk_at dksX10_must_0 15 rfl rfl)
theorem dX10_must_16 : decode cX10_must 16 = .ok (.iconst 1, 1) := dk_4 (dk_at dksX10_must_0 16 rfl rfl)
theorem dX10_must_17 : decode cX10_must 17 = .ok (.invokevirtual 227, 3) := dk_182 0 227 (dk_at dksX10_must_0 17 rfl rfl)
theorem dX10_must_20 : decode cX10_must 20 = .ok (.return_, 1) := dk_177 (dk_at dksX10_must_0 20 rfl rfl)
abbrev cX10_wrong : ByteArray := prog_21_method_16_code
def yX10_wrong : MethodName := ⟨RX10, "wrong", "(II)V"⟩
def dkwX10_wrong_2 : List UInt8 := [27, 181, 0, 221, 42, 29, 181, 0, 224, 177]
abbrev dktX10_wrong_2 : List UInt8 := dkwX10_wrong_2 ++ []
def dkwX10_wrong_1 : List UInt8 := [180, 0, 224, 163, 0, 19, 29, 42, 180, 0, 224, 160, 0, 12, 27, 42, 180, 0, 221, 161, 0, 4, 177, 42]
abbrev dktX10_wrong_1 : List UInt8 := dkwX10_wrong_1 ++ dktX10_wrong_2
def dkwX10_wrong_0 : List UInt8 := [42, 180, 0, 24, 28, 46, 62, 42, 180, 0, 212, 157, 0, 34, 42, 180, 0, 221, 153, 0, 28, 29, 42]
abbrev dktX10_wrong_0 : List UInt8 := dkwX10_wrong_0 ++ dktX10_wrong_1
theorem dksX10_wrong_0 : cX10_wrong.data.toList.drop 0 = dktX10_wrong_0 := by decide +kernel
theorem dksX10_wrong_1 : cX10_wrong.data.toList.drop 23 = dktX10_wrong_1 := dk_seg dksX10_wrong_0 23 rfl rfl
theorem dksX10_wrong_2 : cX10_wrong.data.toList.drop 47 = dktX10_wrong_2 := dk_seg dksX10_wrong_1 24 rfl rfl
theorem dX10_wrong_0 : decode cX10_wrong 0 = .ok (.aload_n 0, 1) := dk_42 (dk_at dksX10_wrong_0 0 rfl rfl)
theorem dX10_wrong_1 : decode cX10_wrong 1 = .ok (.getfield 24, 3) := dk_180 0 24 (dk_at dksX10_wrong_0 1 rfl rfl)
theorem dX10_wrong_4 : decode cX10_wrong 4 = .ok (.iload_n 2, 1) := dk_28 (dk_at dksX10_wrong_0 4 rfl rfl)
theorem dX10_wrong_5 : decode cX10_wrong 5 = .ok (.iaload, 1) := dk_46 (dk_at dksX10_wrong_0 5 rfl rfl)
theorem dX10_wrong_6 : decode cX10_wrong 6 = .ok (.istore_n 3, 1) := dk_62 (dk_at dksX10_wrong_0 6 rfl rfl)
theorem dX10_wrong_7 : decode cX10_wrong 7 = .ok (.aload_n 0, 1) := dk_42 (dk_at dksX10_wrong_0 7 rfl rfl)
theorem dX10_wrong_8 : decode cX10_wrong 8 = .ok (.getfield 212, 3) := dk_180 0 212 (dk_at dksX10_wrong_0 8 rfl rfl)
theorem dX10_wrong_11 : decode cX10_wrong 11 = .ok (.ifCond .gt 34, 3) := dk_157 0 34 (dk_at dksX10_wrong_0 11 rfl rfl)
theorem dX10_wrong_14 : decode cX10_wrong 14 = .ok (.aload_n 0, 1) := dk_42 (dk_at dksX10_wrong_0 14 rfl rfl)
theorem dX10_wrong_15 : decode cX10_wrong 15 = .ok (.getfield 221, 3) := dk_180 0 221 (dk_at dksX10_wrong_0 15 rfl rfl)
theorem dX10_wrong_18 : decode cX10_wrong 18 = .ok (.ifCond .eq 28, 3) := dk_153 0 28 (dk_at dksX10_wrong_0 18 rfl rfl)
theorem dX10_wrong_21 : decode cX10_wrong 21 = .ok (.iload_n 3, 1) := dk_29 (dk_at dksX10_wrong_0 21 rfl rfl)
theorem dX10_wrong_22 : decode cX10_wrong 22 = .ok (.aload_n 0, 1) := dk_42 (dk_at dksX10_wrong_0 22 rfl rfl)
theorem dX10_wrong_23 : decode cX10_wrong 23 = .ok (.getfield 224, 3) := dk_180 0 224 (dk_at dksX10_wrong_1 0 rfl rfl)
theorem dX10_wrong_26 : decode cX10_wrong 26 = .ok (.if_icmp .gt 19, 3) := dk_163 0 19 (dk_at dksX10_wrong_1 3 rfl rfl)
theorem dX10_wrong_29 : decode cX10_wrong 29 = .ok (.iload_n 3, 1) := dk_29 (dk_at dksX10_wrong_1 6 rfl rfl)
theorem dX10_wrong_30 : decode cX10_wrong 30 = .ok (.aload_n 0, 1) := dk_42 (dk_at dksX10_wrong_1 7 rfl rfl)
theorem dX10_wrong_31 : decode cX10_wrong 31 = .ok (.getfield 224, 3) := dk_180 0 224 (dk_at dksX10_wrong_1 8 rfl rfl)
theorem dX10_wrong_34 : decode cX10_wrong 34 = .ok (.if_icmp .ne 12, 3) := dk_160 0 12 (dk_at dksX10_wrong_1 11 rfl rfl)
theorem dX10_wrong_37 : decode cX10_wrong 37 = .ok (.iload_n 1, 1) := dk_27 (dk_at dksX10_wrong_1 14 rfl rfl)
theorem dX10_wrong_38 : decode cX10_wrong 38 = .ok (.aload_n 0, 1) := dk_42 (dk_at dksX10_wrong_1 15 rfl rfl)
theorem dX10_wrong_39 : decode cX10_wrong 39 = .ok (.getfield 221, 3) := dk_180 0 221 (dk_at dksX10_wrong_1 16 rfl rfl)
theorem dX10_wrong_42 : decode cX10_wrong 42 = .ok (.if_icmp .lt 4, 3) := dk_161 0 4 (dk_at dksX10_wrong_1 19 rfl rfl)
theorem dX10_wrong_45 : decode cX10_wrong 45 = .ok (.return_, 1) := dk_177 (dk_at dksX10_wrong_1 22 rfl rfl)
theorem dX10_wrong_46 : decode cX10_wrong 46 = .ok (.aload_n 0, 1) := dk_42 (dk_at dksX10_wrong_1 23 rfl rfl)
theorem dX10_wrong_47 : decode cX10_wrong 47 = .ok (.iload_n 1, 1) := dk_27 (dk_at dksX10_wrong_2 0 rfl rfl)
theorem dX10_wrong_48 : decode cX10_wrong 48 = .ok (.putfield 221, 3) := dk_181 0 221 (dk_at dksX10_wrong_2 1 rfl rfl)
theorem dX10_wrong_51 : decode cX10_wrong 51 = .ok (.aload_n 0, 1) := dk_42 (dk_at dksX10_wrong_2 4 rfl rfl)
theorem dX10_wrong_52 : decode cX10_wrong 52 = .ok (.iload_n 3, 1) := dk_29 (dk_at dksX10_wrong_2 5 rfl rfl)
theorem dX10_wrong_53 : decode cX10_wrong 53 = .ok (.putfield 224, 3) := dk_181 0 224 (dk_at dksX10_wrong_2 6 rfl rfl)
theorem dX10_wrong_56 : decode cX10_wrong 56 = .ok (.return_, 1) := dk_177 (dk_at dksX10_wrong_2 9 rfl rfl)
abbrev cX10_ends : ByteArray := prog_21_method_25_code
def yX10_ends : MethodName := ⟨RX10, "ends", "(II)V"⟩
def dkwX10_ends_2 : List UInt8 := [181, 0, 248, 177]
abbrev dktX10_ends_2 : List UInt8 := dkwX10_ends_2 ++ []
def dkwX10_ends_1 : List UInt8 := [180, 0, 30, 27, 47, 80, 42, 180, 0, 43, 42, 180, 0, 248, 28, 79, 42, 89, 180, 0, 248, 4, 96]
abbrev dktX10_ends_1 : List UInt8 := dkwX10_ends_1 ++ dktX10_ends_2
def dkwX10_ends_0 : List UInt8 := [42, 7, 182, 1, 43, 42, 180, 0, 212, 158, 0, 4, 177, 42, 180, 0, 40, 42, 180, 0, 248, 42]
abbrev dktX10_ends_0 : List UInt8 := dkwX10_ends_0 ++ dktX10_ends_1
theorem dksX10_ends_0 : cX10_ends.data.toList.drop 0 = dktX10_ends_0 := by decide +kernel
theorem dksX10_ends_1 : cX10_ends.data.toList.drop 22 = dktX10_ends_1 := dk_seg dksX10_ends_0 22 rfl rfl
theorem dksX10_ends_2 : cX10_ends.data.toList.drop 45 = dktX10_ends_2 := dk_seg dksX10_ends_1 23 rfl rfl
theorem dX10_ends_0 : decode cX10_ends 0 = .ok (.aload_n 0, 1) := dk_42 (dk_at dksX10_ends_0 0 rfl rfl)
theorem dX10_ends_1 : decode cX10_ends 1 = .ok (.iconst 4, 1) := dk_7 (dk_at dksX10_ends_0 1 rfl rfl)
theorem dX10_ends_2 : decode cX10_ends 2 = .ok (.invokevirtual 299, 3) := dk_182 1 43 (dk_at dksX10_ends_0 2 rfl rfl)
theorem dX10_ends_5 : decode cX10_ends 5 = .ok (.aload_n 0, 1) := dk_42 (dk_at dksX10_ends_0 5 rfl rfl)
theorem dX10_ends_6 : decode cX10_ends 6 = .ok (.getfield 212, 3) := dk_180 0 212 (dk_at dksX10_ends_0 6 rfl rfl)
theorem dX10_ends_9 : decode cX10_ends 9 = .ok (.ifCond .le 4, 3) := dk_158 0 4 (dk_at dksX10_ends_0 9 rfl rfl)
theorem dX10_ends_12 : decode cX10_ends 12 = .ok (.return_, 1) := dk_177 (dk_at dksX10_ends_0 12 rfl rfl)
theorem dX10_ends_13 : decode cX10_ends 13 = .ok (.aload_n 0, 1) := dk_42 (dk_at dksX10_ends_0 13 rfl rfl)
theorem dX10_ends_14 : decode cX10_ends 14 = .ok (.getfield 40, 3) := dk_180 0 40 (dk_at dksX10_ends_0 14 rfl rfl)
theorem dX10_ends_17 : decode cX10_ends 17 = .ok (.aload_n 0, 1) := dk_42 (dk_at dksX10_ends_0 17 rfl rfl)
theorem dX10_ends_18 : decode cX10_ends 18 = .ok (.getfield 248, 3) := dk_180 0 248 (dk_at dksX10_ends_0 18 rfl rfl)
theorem dX10_ends_21 : decode cX10_ends 21 = .ok (.aload_n 0, 1) := dk_42 (dk_at dksX10_ends_0 21 rfl rfl)
theorem dX10_ends_22 : decode cX10_ends 22 = .ok (.getfield 30, 3) := dk_180 0 30 (dk_at dksX10_ends_1 0 rfl rfl)
theorem dX10_ends_25 : decode cX10_ends 25 = .ok (.iload_n 1, 1) := dk_27 (dk_at dksX10_ends_1 3 rfl rfl)
theorem dX10_ends_26 : decode cX10_ends 26 = .ok (.laload, 1) := dk_47 (dk_at dksX10_ends_1 4 rfl rfl)
theorem dX10_ends_27 : decode cX10_ends 27 = .ok (.lastore, 1) := dk_80 (dk_at dksX10_ends_1 5 rfl rfl)
theorem dX10_ends_28 : decode cX10_ends 28 = .ok (.aload_n 0, 1) := dk_42 (dk_at dksX10_ends_1 6 rfl rfl)
theorem dX10_ends_29 : decode cX10_ends 29 = .ok (.getfield 43, 3) := dk_180 0 43 (dk_at dksX10_ends_1 7 rfl rfl)
theorem dX10_ends_32 : decode cX10_ends 32 = .ok (.aload_n 0, 1) := dk_42 (dk_at dksX10_ends_1 10 rfl rfl)
theorem dX10_ends_33 : decode cX10_ends 33 = .ok (.getfield 248, 3) := dk_180 0 248 (dk_at dksX10_ends_1 11 rfl rfl)
theorem dX10_ends_36 : decode cX10_ends 36 = .ok (.iload_n 2, 1) := dk_28 (dk_at dksX10_ends_1 14 rfl rfl)
theorem dX10_ends_37 : decode cX10_ends 37 = .ok (.iastore, 1) := dk_79 (dk_at dksX10_ends_1 15 rfl rfl)
theorem dX10_ends_38 : decode cX10_ends 38 = .ok (.aload_n 0, 1) := dk_42 (dk_at dksX10_ends_1 16 rfl rfl)
theorem dX10_ends_39 : decode cX10_ends 39 = .ok (.dup, 1) := dk_89 (dk_at dksX10_ends_1 17 rfl rfl)
theorem dX10_ends_40 : decode cX10_ends 40 = .ok (.getfield 248, 3) := dk_180 0 248 (dk_at dksX10_ends_1 18 rfl rfl)
theorem dX10_ends_43 : decode cX10_ends 43 = .ok (.iconst 1, 1) := dk_4 (dk_at dksX10_ends_1 21 rfl rfl)
theorem dX10_ends_44 : decode cX10_ends 44 = .ok (.iadd, 1) := dk_96 (dk_at dksX10_ends_1 22 rfl rfl)
theorem dX10_ends_45 : decode cX10_ends 45 = .ok (.putfield 248, 3) := dk_181 0 248 (dk_at dksX10_ends_2 0 rfl rfl)
theorem dX10_ends_48 : decode cX10_ends 48 = .ok (.return_, 1) := dk_177 (dk_at dksX10_ends_2 3 rfl rfl)
abbrev cX10_tellPath : ByteArray := prog_21_method_29_code
def yX10_tellPath : MethodName := ⟨RX10, "tellPath", "()V"⟩
def dkwX10_tellPath_6 : List UInt8 := [46, 4, 27, 120, 128, 79, 177]
abbrev dktX10_tellPath_6 : List UInt8 := dkwX10_tellPath_6 ++ []
def dkwX10_tellPath_5 : List UInt8 := [104, 27, 96, 92, 46, 4, 29, 120, 128, 79, 42, 180, 0, 49, 16, 7, 42, 180, 0, 245, 104, 29, 96, 92]
abbrev dktX10_tellPath_5 : List UInt8 := dkwX10_tellPath_5 ++ dktX10_tellPath_6
def dkwX10_tellPath_4 : List UInt8 := [180, 0, 245, 92, 46, 4, 96, 79, 21, 4, 154, 0, 4, 177, 42, 180, 0, 49, 16, 7, 42, 180, 0, 245]
abbrev dktX10_tellPath_4 : List UInt8 := dkwX10_tellPath_4 ++ dktX10_tellPath_5
def dkwX10_tellPath_3 : List UInt8 := [28, 182, 1, 40, 42, 7, 182, 1, 43, 42, 180, 0, 212, 158, 0, 4, 177, 42, 180, 0, 52, 42]
abbrev dktX10_tellPath_3 : List UInt8 := dkwX10_tellPath_3 ++ dktX10_tellPath_4
def dkwX10_tellPath_2 : List UInt8 := [42, 180, 0, 49, 16, 7, 42, 180, 0, 245, 104, 27, 96, 46, 29, 122, 4, 126, 4, 160, 0, 9, 42, 6]
abbrev dktX10_tellPath_2 : List UInt8 := dkwX10_tellPath_2 ++ dktX10_tellPath_3
def dkwX10_tellPath_1 : List UInt8 := [155, 0, 11, 29, 155, 0, 7, 4, 167, 0, 4, 3, 54, 4, 21, 4, 153, 0, 36, 27, 29, 159, 0, 25]
abbrev dktX10_tellPath_1 : List UInt8 := dkwX10_tellPath_1 ++ dktX10_tellPath_2
def dkwX10_tellPath_0 : List UInt8 := [42, 182, 1, 52, 60, 42, 180, 0, 215, 61, 42, 182, 1, 52, 62, 42, 180, 0, 212, 154, 0, 15, 27]
abbrev dktX10_tellPath_0 : List UInt8 := dkwX10_tellPath_0 ++ dktX10_tellPath_1
theorem dksX10_tellPath_0 : cX10_tellPath.data.toList.drop 0 = dktX10_tellPath_0 := by decide +kernel
theorem dksX10_tellPath_1 : cX10_tellPath.data.toList.drop 23 = dktX10_tellPath_1 := dk_seg dksX10_tellPath_0 23 rfl rfl
theorem dksX10_tellPath_2 : cX10_tellPath.data.toList.drop 47 = dktX10_tellPath_2 := dk_seg dksX10_tellPath_1 24 rfl rfl
theorem dksX10_tellPath_3 : cX10_tellPath.data.toList.drop 71 = dktX10_tellPath_3 := dk_seg dksX10_tellPath_2 24 rfl rfl
theorem dksX10_tellPath_4 : cX10_tellPath.data.toList.drop 93 = dktX10_tellPath_4 := dk_seg dksX10_tellPath_3 22 rfl rfl
theorem dksX10_tellPath_5 : cX10_tellPath.data.toList.drop 117 = dktX10_tellPath_5 := dk_seg dksX10_tellPath_4 24 rfl rfl
theorem dksX10_tellPath_6 : cX10_tellPath.data.toList.drop 141 = dktX10_tellPath_6 := dk_seg dksX10_tellPath_5 24 rfl rfl
theorem dX10_tellPath_0 : decode cX10_tellPath 0 = .ok (.aload_n 0, 1) := dk_42 (dk_at dksX10_tellPath_0 0 rfl rfl)
theorem dX10_tellPath_1 : decode cX10_tellPath 1 = .ok (.invokevirtual 308, 3) := dk_182 1 52 (dk_at dksX10_tellPath_0 1 rfl rfl)
theorem dX10_tellPath_4 : decode cX10_tellPath 4 = .ok (.istore_n 1, 1) := dk_60 (dk_at dksX10_tellPath_0 4 rfl rfl)
theorem dX10_tellPath_5 : decode cX10_tellPath 5 = .ok (.aload_n 0, 1) := dk_42 (dk_at dksX10_tellPath_0 5 rfl rfl)
theorem dX10_tellPath_6 : decode cX10_tellPath 6 = .ok (.getfield 215, 3) := dk_180 0 215 (dk_at dksX10_tellPath_0 6 rfl rfl)
theorem dX10_tellPath_9 : decode cX10_tellPath 9 = .ok (.istore_n 2, 1) := dk_61 (dk_at dksX10_tellPath_0 9 rfl rfl)
theorem dX10_tellPath_10 : decode cX10_tellPath 10 = .ok (.aload_n 0, 1) := dk_42 (dk_at dksX10_tellPath_0 10 rfl rfl)
theorem dX10_tellPath_11 : decode cX10_tellPath 11 = .ok (.invokevirtual 308, 3) := dk_182 1 52 (dk_at dksX10_tellPath_0 11 rfl rfl)
theorem dX10_tellPath_14 : decode cX10_tellPath 14 = .ok (.istore_n 3, 1) := dk_62 (dk_at dksX10_tellPath_0 14 rfl rfl)
theorem dX10_tellPath_15 : decode cX10_tellPath 15 = .ok (.aload_n 0, 1) := dk_42 (dk_at dksX10_tellPath_0 15 rfl rfl)
theorem dX10_tellPath_16 : decode cX10_tellPath 16 = .ok (.getfield 212, 3) := dk_180 0 212 (dk_at dksX10_tellPath_0 16 rfl rfl)
theorem dX10_tellPath_19 : decode cX10_tellPath 19 = .ok (.ifCond .ne 15, 3) := dk_154 0 15 (dk_at dksX10_tellPath_0 19 rfl rfl)
theorem dX10_tellPath_22 : decode cX10_tellPath 22 = .ok (.iload_n 1, 1) := dk_27 (dk_at dksX10_tellPath_0 22 rfl rfl)
theorem dX10_tellPath_23 : decode cX10_tellPath 23 = .ok (.ifCond .lt 11, 3) := dk_155 0 11 (dk_at dksX10_tellPath_1 0 rfl rfl)
theorem dX10_tellPath_26 : decode cX10_tellPath 26 = .ok (.iload_n 3, 1) := dk_29 (dk_at dksX10_tellPath_1 3 rfl rfl)
theorem dX10_tellPath_27 : decode cX10_tellPath 27 = .ok (.ifCond .lt 7, 3) := dk_155 0 7 (dk_at dksX10_tellPath_1 4 rfl rfl)
theorem dX10_tellPath_30 : decode cX10_tellPath 30 = .ok (.iconst 1, 1) := dk_4 (dk_at dksX10_tellPath_1 7 rfl rfl)
theorem dX10_tellPath_31 : decode cX10_tellPath 31 = .ok (.goto 4, 3) := dk_167 0 4 (dk_at dksX10_tellPath_1 8 rfl rfl)
theorem dX10_tellPath_34 : decode cX10_tellPath 34 = .ok (.iconst 0, 1) := dk_3 (dk_at dksX10_tellPath_1 11 rfl rfl)
theorem dX10_tellPath_35 : decode cX10_tellPath 35 = .ok (.istore 4, 2) := dk_54 4 (dk_at dksX10_tellPath_1 12 rfl rfl)
theorem dX10_tellPath_37 : decode cX10_tellPath 37 = .ok (.iload 4, 2) := dk_21 4 (dk_at dksX10_tellPath_1 14 rfl rfl)
theorem dX10_tellPath_39 : decode cX10_tellPath 39 = .ok (.ifCond .eq 36, 3) := dk_153 0 36 (dk_at dksX10_tellPath_1 16 rfl rfl)
theorem dX10_tellPath_42 : decode cX10_tellPath 42 = .ok (.iload_n 1, 1) := dk_27 (dk_at dksX10_tellPath_1 19 rfl rfl)
theorem dX10_tellPath_43 : decode cX10_tellPath 43 = .ok (.iload_n 3, 1) := dk_29 (dk_at dksX10_tellPath_1 20 rfl rfl)
theorem dX10_tellPath_44 : decode cX10_tellPath 44 = .ok (.if_icmp .eq 25, 3) := dk_159 0 25 (dk_at dksX10_tellPath_1 21 rfl rfl)
theorem dX10_tellPath_47 : decode cX10_tellPath 47 = .ok (.aload_n 0, 1) := dk_42 (dk_at dksX10_tellPath_2 0 rfl rfl)
theorem dX10_tellPath_48 : decode cX10_tellPath 48 = .ok (.getfield 49, 3) := dk_180 0 49 (dk_at dksX10_tellPath_2 1 rfl rfl)
theorem dX10_tellPath_51 : decode cX10_tellPath 51 = .ok (.bipush 7, 2) := dk_16 7 (dk_at dksX10_tellPath_2 4 rfl rfl)
theorem dX10_tellPath_53 : decode cX10_tellPath 53 = .ok (.aload_n 0, 1) := dk_42 (dk_at dksX10_tellPath_2 6 rfl rfl)
theorem dX10_tellPath_54 : decode cX10_tellPath 54 = .ok (.getfield 245, 3) := dk_180 0 245 (dk_at dksX10_tellPath_2 7 rfl rfl)
theorem dX10_tellPath_57 : decode cX10_tellPath 57 = .ok (.imul, 1) := dk_104 (dk_at dksX10_tellPath_2 10 rfl rfl)
theorem dX10_tellPath_58 : decode cX10_tellPath 58 = .ok (.iload_n 1, 1) := dk_27 (dk_at dksX10_tellPath_2 11 rfl rfl)
theorem dX10_tellPath_59 : decode cX10_tellPath 59 = .ok (.iadd, 1) := dk_96 (dk_at dksX10_tellPath_2 12 rfl rfl)
theorem dX10_tellPath_60 : decode cX10_tellPath 60 = .ok (.iaload, 1) := dk_46 (dk_at dksX10_tellPath_2 13 rfl rfl)
theorem dX10_tellPath_61 : decode cX10_tellPath 61 = .ok (.iload_n 3, 1) := dk_29 (dk_at dksX10_tellPath_2 14 rfl rfl)
theorem dX10_tellPath_62 : decode cX10_tellPath 62 = .ok (.ishr, 1) := dk_122 (dk_at dksX10_tellPath_2 15 rfl rfl)
theorem dX10_tellPath_63 : decode cX10_tellPath 63 = .ok (.iconst 1, 1) := dk_4 (dk_at dksX10_tellPath_2 16 rfl rfl)
theorem dX10_tellPath_64 : decode cX10_tellPath 64 = .ok (.iand, 1) := dk_126 (dk_at dksX10_tellPath_2 17 rfl rfl)
theorem dX10_tellPath_65 : decode cX10_tellPath 65 = .ok (.iconst 1, 1) := dk_4 (dk_at dksX10_tellPath_2 18 rfl rfl)
theorem dX10_tellPath_66 : decode cX10_tellPath 66 = .ok (.if_icmp .ne 9, 3) := dk_160 0 9 (dk_at dksX10_tellPath_2 19 rfl rfl)
theorem dX10_tellPath_69 : decode cX10_tellPath 69 = .ok (.aload_n 0, 1) := dk_42 (dk_at dksX10_tellPath_2 22 rfl rfl)
theorem dX10_tellPath_70 : decode cX10_tellPath 70 = .ok (.iconst 3, 1) := dk_6 (dk_at dksX10_tellPath_2 23 rfl rfl)
theorem dX10_tellPath_71 : decode cX10_tellPath 71 = .ok (.iload_n 2, 1) := dk_28 (dk_at dksX10_tellPath_3 0 rfl rfl)
theorem dX10_tellPath_72 : decode cX10_tellPath 72 = .ok (.invokevirtual 296, 3) := dk_182 1 40 (dk_at dksX10_tellPath_3 1 rfl rfl)
theorem dX10_tellPath_75 : decode cX10_tellPath 75 = .ok (.aload_n 0, 1) := dk_42 (dk_at dksX10_tellPath_3 4 rfl rfl)
theorem dX10_tellPath_76 : decode cX10_tellPath 76 = .ok (.iconst 4, 1) := dk_7 (dk_at dksX10_tellPath_3 5 rfl rfl)
theorem dX10_tellPath_77 : decode cX10_tellPath 77 = .ok (.invokevirtual 299, 3) := dk_182 1 43 (dk_at dksX10_tellPath_3 6 rfl rfl)
theorem dX10_tellPath_80 : decode cX10_tellPath 80 = .ok (.aload_n 0, 1) := dk_42 (dk_at dksX10_tellPath_3 9 rfl rfl)
theorem dX10_tellPath_81 : decode cX10_tellPath 81 = .ok (.getfield 212, 3) := dk_180 0 212 (dk_at dksX10_tellPath_3 10 rfl rfl)
theorem dX10_tellPath_84 : decode cX10_tellPath 84 = .ok (.ifCond .le 4, 3) := dk_158 0 4 (dk_at dksX10_tellPath_3 13 rfl rfl)
theorem dX10_tellPath_87 : decode cX10_tellPath 87 = .ok (.return_, 1) := dk_177 (dk_at dksX10_tellPath_3 16 rfl rfl)
theorem dX10_tellPath_88 : decode cX10_tellPath 88 = .ok (.aload_n 0, 1) := dk_42 (dk_at dksX10_tellPath_3 17 rfl rfl)
theorem dX10_tellPath_89 : decode cX10_tellPath 89 = .ok (.getfield 52, 3) := dk_180 0 52 (dk_at dksX10_tellPath_3 18 rfl rfl)
theorem dX10_tellPath_92 : decode cX10_tellPath 92 = .ok (.aload_n 0, 1) := dk_42 (dk_at dksX10_tellPath_3 21 rfl rfl)
theorem dX10_tellPath_93 : decode cX10_tellPath 93 = .ok (.getfield 245, 3) := dk_180 0 245 (dk_at dksX10_tellPath_4 0 rfl rfl)
theorem dX10_tellPath_96 : decode cX10_tellPath 96 = .ok (.dup2, 1) := dk_92 (dk_at dksX10_tellPath_4 3 rfl rfl)
theorem dX10_tellPath_97 : decode cX10_tellPath 97 = .ok (.iaload, 1) := dk_46 (dk_at dksX10_tellPath_4 4 rfl rfl)
theorem dX10_tellPath_98 : decode cX10_tellPath 98 = .ok (.iconst 1, 1) := dk_4 (dk_at dksX10_tellPath_4 5 rfl rfl)
theorem dX10_tellPath_99 : decode cX10_tellPath 99 = .ok (.iadd, 1) := dk_96 (dk_at dksX10_tellPath_4 6 rfl rfl)
theorem dX10_tellPath_100 : decode cX10_tellPath 100 = .ok (.iastore, 1) := dk_79 (dk_at dksX10_tellPath_4 7 rfl rfl)
theorem dX10_tellPath_101 : decode cX10_tellPath 101 = .ok (.iload 4, 2) := dk_21 4 (dk_at dksX10_tellPath_4 8 rfl rfl)
theorem dX10_tellPath_103 : decode cX10_tellPath 103 = .ok (.ifCond .ne 4, 3) := dk_154 0 4 (dk_at dksX10_tellPath_4 10 rfl rfl)
theorem dX10_tellPath_106 : decode cX10_tellPath 106 = .ok (.return_, 1) := dk_177 (dk_at dksX10_tellPath_4 13 rfl rfl)
theorem dX10_tellPath_107 : decode cX10_tellPath 107 = .ok (.aload_n 0, 1) := dk_42 (dk_at dksX10_tellPath_4 14 rfl rfl)
theorem dX10_tellPath_108 : decode cX10_tellPath 108 = .ok (.getfield 49, 3) := dk_180 0 49 (dk_at dksX10_tellPath_4 15 rfl rfl)
theorem dX10_tellPath_111 : decode cX10_tellPath 111 = .ok (.bipush 7, 2) := dk_16 7 (dk_at dksX10_tellPath_4 18 rfl rfl)
theorem dX10_tellPath_113 : decode cX10_tellPath 113 = .ok (.aload_n 0, 1) := dk_42 (dk_at dksX10_tellPath_4 20 rfl rfl)
theorem dX10_tellPath_114 : decode cX10_tellPath 114 = .ok (.getfield 245, 3) := dk_180 0 245 (dk_at dksX10_tellPath_4 21 rfl rfl)
theorem dX10_tellPath_117 : decode cX10_tellPath 117 = .ok (.imul, 1) := dk_104 (dk_at dksX10_tellPath_5 0 rfl rfl)
theorem dX10_tellPath_118 : decode cX10_tellPath 118 = .ok (.iload_n 1, 1) := dk_27 (dk_at dksX10_tellPath_5 1 rfl rfl)
theorem dX10_tellPath_119 : decode cX10_tellPath 119 = .ok (.iadd, 1) := dk_96 (dk_at dksX10_tellPath_5 2 rfl rfl)
theorem dX10_tellPath_120 : decode cX10_tellPath 120 = .ok (.dup2, 1) := dk_92 (dk_at dksX10_tellPath_5 3 rfl rfl)
theorem dX10_tellPath_121 : decode cX10_tellPath 121 = .ok (.iaload, 1) := dk_46 (dk_at dksX10_tellPath_5 4 rfl rfl)
theorem dX10_tellPath_122 : decode cX10_tellPath 122 = .ok (.iconst 1, 1) := dk_4 (dk_at dksX10_tellPath_5 5 rfl rfl)
theorem dX10_tellPath_123 : decode cX10_tellPath 123 = .ok (.iload_n 3, 1) := dk_29 (dk_at dksX10_tellPath_5 6 rfl rfl)
theorem dX10_tellPath_124 : decode cX10_tellPath 124 = .ok (.ishl, 1) := dk_120 (dk_at dksX10_tellPath_5 7 rfl rfl)
theorem dX10_tellPath_125 : decode cX10_tellPath 125 = .ok (.ior, 1) := dk_128 (dk_at dksX10_tellPath_5 8 rfl rfl)
theorem dX10_tellPath_126 : decode cX10_tellPath 126 = .ok (.iastore, 1) := dk_79 (dk_at dksX10_tellPath_5 9 rfl rfl)
theorem dX10_tellPath_127 : decode cX10_tellPath 127 = .ok (.aload_n 0, 1) := dk_42 (dk_at dksX10_tellPath_5 10 rfl rfl)
theorem dX10_tellPath_128 : decode cX10_tellPath 128 = .ok (.getfield 49, 3) := dk_180 0 49 (dk_at dksX10_tellPath_5 11 rfl rfl)
theorem dX10_tellPath_131 : decode cX10_tellPath 131 = .ok (.bipush 7, 2) := dk_16 7 (dk_at dksX10_tellPath_5 14 rfl rfl)
theorem dX10_tellPath_133 : decode cX10_tellPath 133 = .ok (.aload_n 0, 1) := dk_42 (dk_at dksX10_tellPath_5 16 rfl rfl)
theorem dX10_tellPath_134 : decode cX10_tellPath 134 = .ok (.getfield 245, 3) := dk_180 0 245 (dk_at dksX10_tellPath_5 17 rfl rfl)
theorem dX10_tellPath_137 : decode cX10_tellPath 137 = .ok (.imul, 1) := dk_104 (dk_at dksX10_tellPath_5 20 rfl rfl)
theorem dX10_tellPath_138 : decode cX10_tellPath 138 = .ok (.iload_n 3, 1) := dk_29 (dk_at dksX10_tellPath_5 21 rfl rfl)
theorem dX10_tellPath_139 : decode cX10_tellPath 139 = .ok (.iadd, 1) := dk_96 (dk_at dksX10_tellPath_5 22 rfl rfl)
theorem dX10_tellPath_140 : decode cX10_tellPath 140 = .ok (.dup2, 1) := dk_92 (dk_at dksX10_tellPath_5 23 rfl rfl)
theorem dX10_tellPath_141 : decode cX10_tellPath 141 = .ok (.iaload, 1) := dk_46 (dk_at dksX10_tellPath_6 0 rfl rfl)
theorem dX10_tellPath_142 : decode cX10_tellPath 142 = .ok (.iconst 1, 1) := dk_4 (dk_at dksX10_tellPath_6 1 rfl rfl)
theorem dX10_tellPath_143 : decode cX10_tellPath 143 = .ok (.iload_n 1, 1) := dk_27 (dk_at dksX10_tellPath_6 2 rfl rfl)
theorem dX10_tellPath_144 : decode cX10_tellPath 144 = .ok (.ishl, 1) := dk_120 (dk_at dksX10_tellPath_6 3 rfl rfl)
theorem dX10_tellPath_145 : decode cX10_tellPath 145 = .ok (.ior, 1) := dk_128 (dk_at dksX10_tellPath_6 4 rfl rfl)
theorem dX10_tellPath_146 : decode cX10_tellPath 146 = .ok (.iastore, 1) := dk_79 (dk_at dksX10_tellPath_6 5 rfl rfl)
theorem dX10_tellPath_147 : decode cX10_tellPath 147 = .ok (.return_, 1) := dk_177 (dk_at dksX10_tellPath_6 6 rfl rfl)
abbrev cX10_knownPlace : ByteArray := prog_21_method_27_code
def yX10_knownPlace : MethodName := ⟨RX10, "knownPlace", "()I"⟩
def dkwX10_knownPlace_0 : List UInt8 := [42, 3, 16, 9, 182, 1, 49, 172]
abbrev dktX10_knownPlace_0 : List UInt8 := dkwX10_knownPlace_0 ++ []
theorem dksX10_knownPlace_0 : cX10_knownPlace.data.toList.drop 0 = dktX10_knownPlace_0 := by decide +kernel
theorem dX10_knownPlace_0 : decode cX10_knownPlace 0 = .ok (.aload_n 0, 1) := dk_42 (dk_at dksX10_knownPlace_0 0 rfl rfl)
theorem dX10_knownPlace_1 : decode cX10_knownPlace 1 = .ok (.iconst 0, 1) := dk_3 (dk_at dksX10_knownPlace_0 1 rfl rfl)
theorem dX10_knownPlace_2 : decode cX10_knownPlace 2 = .ok (.bipush 9, 2) := dk_16 9 (dk_at dksX10_knownPlace_0 2 rfl rfl)
theorem dX10_knownPlace_4 : decode cX10_knownPlace 4 = .ok (.invokevirtual 305, 3) := dk_182 1 49 (dk_at dksX10_knownPlace_0 4 rfl rfl)
theorem dX10_knownPlace_7 : decode cX10_knownPlace 7 = .ok (.ireturn, 1) := dk_172 (dk_at dksX10_knownPlace_0 7 rfl rfl)
abbrev cX10_known : ByteArray := prog_21_method_26_code
def yX10_known : MethodName := ⟨RX10, "known", "(II)I"⟩
def dkwX10_known_3 : List UInt8 := [180, 0, 43, 21, 4, 46, 27, 100, 172, 132, 4, 1, 167, 255, 195, 42, 7, 29, 182, 1, 40, 2, 172]
abbrev dktX10_known_3 : List UInt8 := dkwX10_known_3 ++ []
def dkwX10_known_2 : List UInt8 := [42, 180, 0, 43, 21, 4, 46, 27, 161, 0, 24, 42, 180, 0, 43, 21, 4, 46, 28, 163, 0, 13, 42]
abbrev dktX10_known_2 : List UInt8 := dkwX10_known_2 ++ dktX10_known_3
def dkwX10_known_1 : List UInt8 := [42, 180, 0, 248, 162, 0, 58, 42, 180, 0, 40, 21, 4, 47, 42, 180, 0, 30, 29, 47, 148, 154, 0, 35]
abbrev dktX10_known_1 : List UInt8 := dkwX10_known_1 ++ dktX10_known_2
def dkwX10_known_0 : List UInt8 := [42, 180, 0, 215, 62, 42, 4, 182, 1, 43, 42, 180, 0, 212, 158, 0, 5, 2, 172, 3, 54, 4, 21, 4]
abbrev dktX10_known_0 : List UInt8 := dkwX10_known_0 ++ dktX10_known_1
theorem dksX10_known_0 : cX10_known.data.toList.drop 0 = dktX10_known_0 := by decide +kernel
theorem dksX10_known_1 : cX10_known.data.toList.drop 24 = dktX10_known_1 := dk_seg dksX10_known_0 24 rfl rfl
theorem dksX10_known_2 : cX10_known.data.toList.drop 48 = dktX10_known_2 := dk_seg dksX10_known_1 24 rfl rfl
theorem dksX10_known_3 : cX10_known.data.toList.drop 71 = dktX10_known_3 := dk_seg dksX10_known_2 23 rfl rfl
theorem dX10_known_0 : decode cX10_known 0 = .ok (.aload_n 0, 1) := dk_42 (dk_at dksX10_known_0 0 rfl rfl)
theorem dX10_known_1 : decode cX10_known 1 = .ok (.getfield 215, 3) := dk_180 0 215 (dk_at dksX10_known_0 1 rfl rfl)
theorem dX10_known_4 : decode cX10_known 4 = .ok (.istore_n 3, 1) := dk_62 (dk_at dksX10_known_0 4 rfl rfl)
theorem dX10_known_5 : decode cX10_known 5 = .ok (.aload_n 0, 1) := dk_42 (dk_at dksX10_known_0 5 rfl rfl)
theorem dX10_known_6 : decode cX10_known 6 = .ok (.iconst 1, 1) := dk_4 (dk_at dksX10_known_0 6 rfl rfl)
theorem dX10_known_7 : decode cX10_known 7 = .ok (.invokevirtual 299, 3) := dk_182 1 43 (dk_at dksX10_known_0 7 rfl rfl)
theorem dX10_known_10 : decode cX10_known 10 = .ok (.aload_n 0, 1) := dk_42 (dk_at dksX10_known_0 10 rfl rfl)
theorem dX10_known_11 : decode cX10_known 11 = .ok (.getfield 212, 3) := dk_180 0 212 (dk_at dksX10_known_0 11 rfl rfl)
theorem dX10_known_14 : decode cX10_known 14 = .ok (.ifCond .le 5, 3) := dk_158 0 5 (dk_at dksX10_known_0 14 rfl rfl)
theorem dX10_known_17 : decode cX10_known 17 = .ok (.iconst (-1), 1) := dk_2 (dk_at dksX10_known_0 17 rfl rfl)
theorem dX10_known_18 : decode cX10_known 18 = .ok (.ireturn, 1) := dk_172 (dk_at dksX10_known_0 18 rfl rfl)
theorem dX10_known_19 : decode cX10_known 19 = .ok (.iconst 0, 1) := dk_3 (dk_at dksX10_known_0 19 rfl rfl)
theorem dX10_known_20 : decode cX10_known 20 = .ok (.istore 4, 2) := dk_54 4 (dk_at dksX10_known_0 20 rfl rfl)
theorem dX10_known_22 : decode cX10_known 22 = .ok (.iload 4, 2) := dk_21 4 (dk_at dksX10_known_0 22 rfl rfl)
theorem dX10_known_24 : decode cX10_known 24 = .ok (.aload_n 0, 1) := dk_42 (dk_at dksX10_known_1 0 rfl rfl)
theorem dX10_known_25 : decode cX10_known 25 = .ok (.getfield 248, 3) := dk_180 0 248 (dk_at dksX10_known_1 1 rfl rfl)
theorem dX10_known_28 : decode cX10_known 28 = .ok (.if_icmp .ge 58, 3) := dk_162 0 58 (dk_at dksX10_known_1 4 rfl rfl)
theorem dX10_known_31 : decode cX10_known 31 = .ok (.aload_n 0, 1) := dk_42 (dk_at dksX10_known_1 7 rfl rfl)
theorem dX10_known_32 : decode cX10_known 32 = .ok (.getfield 40, 3) := dk_180 0 40 (dk_at dksX10_known_1 8 rfl rfl)
theorem dX10_known_35 : decode cX10_known 35 = .ok (.iload 4, 2) := dk_21 4 (dk_at dksX10_known_1 11 rfl rfl)
theorem dX10_known_37 : decode cX10_known 37 = .ok (.laload, 1) := dk_47 (dk_at dksX10_known_1 13 rfl rfl)
theorem dX10_known_38 : decode cX10_known 38 = .ok (.aload_n 0, 1) := dk_42 (dk_at dksX10_known_1 14 rfl rfl)
theorem dX10_known_39 : decode cX10_known 39 = .ok (.getfield 30, 3) := dk_180 0 30 (dk_at dksX10_known_1 15 rfl rfl)
theorem dX10_known_42 : decode cX10_known 42 = .ok (.iload_n 3, 1) := dk_29 (dk_at dksX10_known_1 18 rfl rfl)
theorem dX10_known_43 : decode cX10_known 43 = .ok (.laload, 1) := dk_47 (dk_at dksX10_known_1 19 rfl rfl)
theorem dX10_known_44 : decode cX10_known 44 = .ok (.lcmp, 1) := dk_148 (dk_at dksX10_known_1 20 rfl rfl)
theorem dX10_known_45 : decode cX10_known 45 = .ok (.ifCond .ne 35, 3) := dk_154 0 35 (dk_at dksX10_known_1 21 rfl rfl)
theorem dX10_known_48 : decode cX10_known 48 = .ok (.aload_n 0, 1) := dk_42 (dk_at dksX10_known_2 0 rfl rfl)
theorem dX10_known_49 : decode cX10_known 49 = .ok (.getfield 43, 3) := dk_180 0 43 (dk_at dksX10_known_2 1 rfl rfl)
theorem dX10_known_52 : decode cX10_known 52 = .ok (.iload 4, 2) := dk_21 4 (dk_at dksX10_known_2 4 rfl rfl)
theorem dX10_known_54 : decode cX10_known 54 = .ok (.iaload, 1) := dk_46 (dk_at dksX10_known_2 6 rfl rfl)
theorem dX10_known_55 : decode cX10_known 55 = .ok (.iload_n 1, 1) := dk_27 (dk_at dksX10_known_2 7 rfl rfl)
theorem dX10_known_56 : decode cX10_known 56 = .ok (.if_icmp .lt 24, 3) := dk_161 0 24 (dk_at dksX10_known_2 8 rfl rfl)
theorem dX10_known_59 : decode cX10_known 59 = .ok (.aload_n 0, 1) := dk_42 (dk_at dksX10_known_2 11 rfl rfl)
theorem dX10_known_60 : decode cX10_known 60 = .ok (.getfield 43, 3) := dk_180 0 43 (dk_at dksX10_known_2 12 rfl rfl)
theorem dX10_known_63 : decode cX10_known 63 = .ok (.iload 4, 2) := dk_21 4 (dk_at dksX10_known_2 15 rfl rfl)
theorem dX10_known_65 : decode cX10_known 65 = .ok (.iaload, 1) := dk_46 (dk_at dksX10_known_2 17 rfl rfl)
theorem dX10_known_66 : decode cX10_known 66 = .ok (.iload_n 2, 1) := dk_28 (dk_at dksX10_known_2 18 rfl rfl)
theorem dX10_known_67 : decode cX10_known 67 = .ok (.if_icmp .gt 13, 3) := dk_163 0 13 (dk_at dksX10_known_2 19 rfl rfl)
theorem dX10_known_70 : decode cX10_known 70 = .ok (.aload_n 0, 1) := dk_42 (dk_at dksX10_known_2 22 rfl rfl)
theorem dX10_known_71 : decode cX10_known 71 = .ok (.getfield 43, 3) := dk_180 0 43 (dk_at dksX10_known_3 0 rfl rfl)
theorem dX10_known_74 : decode cX10_known 74 = .ok (.iload 4, 2) := dk_21 4 (dk_at dksX10_known_3 3 rfl rfl)
theorem dX10_known_76 : decode cX10_known 76 = .ok (.iaload, 1) := dk_46 (dk_at dksX10_known_3 5 rfl rfl)
theorem dX10_known_77 : decode cX10_known 77 = .ok (.iload_n 1, 1) := dk_27 (dk_at dksX10_known_3 6 rfl rfl)
theorem dX10_known_78 : decode cX10_known 78 = .ok (.isub, 1) := dk_100 (dk_at dksX10_known_3 7 rfl rfl)
theorem dX10_known_79 : decode cX10_known 79 = .ok (.ireturn, 1) := dk_172 (dk_at dksX10_known_3 8 rfl rfl)
theorem dX10_known_80 : decode cX10_known 80 = .ok (.iinc 4 1, 3) := dk_132 4 1 (dk_at dksX10_known_3 9 rfl rfl)
theorem dX10_known_83 : decode cX10_known 83 = .ok (.goto (-61), 3) := dk_167 255 195 (dk_at dksX10_known_3 12 rfl rfl)
theorem dX10_known_86 : decode cX10_known 86 = .ok (.aload_n 0, 1) := dk_42 (dk_at dksX10_known_3 15 rfl rfl)
theorem dX10_known_87 : decode cX10_known 87 = .ok (.iconst 4, 1) := dk_7 (dk_at dksX10_known_3 16 rfl rfl)
theorem dX10_known_88 : decode cX10_known 88 = .ok (.iload_n 3, 1) := dk_29 (dk_at dksX10_known_3 17 rfl rfl)
theorem dX10_known_89 : decode cX10_known 89 = .ok (.invokevirtual 296, 3) := dk_182 1 40 (dk_at dksX10_known_3 18 rfl rfl)
theorem dX10_known_92 : decode cX10_known 92 = .ok (.iconst (-1), 1) := dk_2 (dk_at dksX10_known_3 21 rfl rfl)
theorem dX10_known_93 : decode cX10_known 93 = .ok (.ireturn, 1) := dk_172 (dk_at dksX10_known_3 22 rfl rfl)
abbrev cX10_tellDog : ByteArray := prog_21_method_30_code
def yX10_tellDog : MethodName := ⟨RX10, "tellDog", "()V"⟩
def dkwX10_tellDog_3 : List UInt8 := [154, 0, 16, 42, 180, 0, 55, 42, 180, 0, 245, 92, 46, 4, 96, 79, 177]
abbrev dktX10_tellDog_3 : List UInt8 := dkwX10_tellDog_3 ++ []
def dkwX10_tellDog_2 : List UInt8 := [180, 0, 64, 27, 42, 3, 16, 9, 182, 1, 36, 79, 42, 28, 2, 182, 1, 21, 42, 180, 0, 212]
abbrev dktX10_tellDog_2 : List UInt8 := dkwX10_tellDog_2 ++ dktX10_tellDog_3
def dkwX10_tellDog_1 : List UInt8 := [180, 0, 58, 27, 42, 182, 1, 52, 79, 42, 180, 0, 61, 27, 42, 3, 16, 9, 182, 1, 36, 79, 42]
abbrev dktX10_tellDog_1 : List UInt8 := dkwX10_tellDog_1 ++ dktX10_tellDog_2
def dkwX10_tellDog_0 : List UInt8 := [8, 42, 180, 0, 245, 104, 42, 180, 0, 55, 42, 180, 0, 245, 46, 96, 60, 42, 182, 1, 17, 61, 42]
abbrev dktX10_tellDog_0 : List UInt8 := dkwX10_tellDog_0 ++ dktX10_tellDog_1
theorem dksX10_tellDog_0 : cX10_tellDog.data.toList.drop 0 = dktX10_tellDog_0 := by decide +kernel
theorem dksX10_tellDog_1 : cX10_tellDog.data.toList.drop 23 = dktX10_tellDog_1 := dk_seg dksX10_tellDog_0 23 rfl rfl
theorem dksX10_tellDog_2 : cX10_tellDog.data.toList.drop 46 = dktX10_tellDog_2 := dk_seg dksX10_tellDog_1 23 rfl rfl
theorem dksX10_tellDog_3 : cX10_tellDog.data.toList.drop 68 = dktX10_tellDog_3 := dk_seg dksX10_tellDog_2 22 rfl rfl
theorem dX10_tellDog_0 : decode cX10_tellDog 0 = .ok (.iconst 5, 1) := dk_8 (dk_at dksX10_tellDog_0 0 rfl rfl)
theorem dX10_tellDog_1 : decode cX10_tellDog 1 = .ok (.aload_n 0, 1) := dk_42 (dk_at dksX10_tellDog_0 1 rfl rfl)
theorem dX10_tellDog_2 : decode cX10_tellDog 2 = .ok (.getfield 245, 3) := dk_180 0 245 (dk_at dksX10_tellDog_0 2 rfl rfl)
theorem dX10_tellDog_5 : decode cX10_tellDog 5 = .ok (.imul, 1) := dk_104 (dk_at dksX10_tellDog_0 5 rfl rfl)
theorem dX10_tellDog_6 : decode cX10_tellDog 6 = .ok (.aload_n 0, 1) := dk_42 (dk_at dksX10_tellDog_0 6 rfl rfl)
theorem dX10_tellDog_7 : decode cX10_tellDog 7 = .ok (.getfield 55, 3) := dk_180 0 55 (dk_at dksX10_tellDog_0 7 rfl rfl)
theorem dX10_tellDog_10 : decode cX10_tellDog 10 = .ok (.aload_n 0, 1) := dk_42 (dk_at dksX10_tellDog_0 10 rfl rfl)
theorem dX10_tellDog_11 : decode cX10_tellDog 11 = .ok (.getfield 245, 3) := dk_180 0 245 (dk_at dksX10_tellDog_0 11 rfl rfl)
theorem dX10_tellDog_14 : decode cX10_tellDog 14 = .ok (.iaload, 1) := dk_46 (dk_at dksX10_tellDog_0 14 rfl rfl)
theorem dX10_tellDog_15 : decode cX10_tellDog 15 = .ok (.iadd, 1) := dk_96 (dk_at dksX10_tellDog_0 15 rfl rfl)
theorem dX10_tellDog_16 : decode cX10_tellDog 16 = .ok (.istore_n 1, 1) := dk_60 (dk_at dksX10_tellDog_0 16 rfl rfl)
theorem dX10_tellDog_17 : decode cX10_tellDog 17 = .ok (.aload_n 0, 1) := dk_42 (dk_at dksX10_tellDog_0 17 rfl rfl)
theorem dX10_tellDog_18 : decode cX10_tellDog 18 = .ok (.invokevirtual 273, 3) := dk_182 1 17 (dk_at dksX10_tellDog_0 18 rfl rfl)
theorem dX10_tellDog_21 : decode cX10_tellDog 21 = .ok (.istore_n 2, 1) := dk_61 (dk_at dksX10_tellDog_0 21 rfl rfl)
theorem dX10_tellDog_22 : decode cX10_tellDog 22 = .ok (.aload_n 0, 1) := dk_42 (dk_at dksX10_tellDog_0 22 rfl rfl)
theorem dX10_tellDog_23 : decode cX10_tellDog 23 = .ok (.getfield 58, 3) := dk_180 0 58 (dk_at dksX10_tellDog_1 0 rfl rfl)
theorem dX10_tellDog_26 : decode cX10_tellDog 26 = .ok (.iload_n 1, 1) := dk_27 (dk_at dksX10_tellDog_1 3 rfl rfl)
theorem dX10_tellDog_27 : decode cX10_tellDog 27 = .ok (.aload_n 0, 1) := dk_42 (dk_at dksX10_tellDog_1 4 rfl rfl)
theorem dX10_tellDog_28 : decode cX10_tellDog 28 = .ok (.invokevirtual 308, 3) := dk_182 1 52 (dk_at dksX10_tellDog_1 5 rfl rfl)
theorem dX10_tellDog_31 : decode cX10_tellDog 31 = .ok (.iastore, 1) := dk_79 (dk_at dksX10_tellDog_1 8 rfl rfl)
theorem dX10_tellDog_32 : decode cX10_tellDog 32 = .ok (.aload_n 0, 1) := dk_42 (dk_at dksX10_tellDog_1 9 rfl rfl)
theorem dX10_tellDog_33 : decode cX10_tellDog 33 = .ok (.getfield 61, 3) := dk_180 0 61 (dk_at dksX10_tellDog_1 10 rfl rfl)
theorem dX10_tellDog_36 : decode cX10_tellDog 36 = .ok (.iload_n 1, 1) := dk_27 (dk_at dksX10_tellDog_1 13 rfl rfl)
theorem dX10_tellDog_37 : decode cX10_tellDog 37 = .ok (.aload_n 0, 1) := dk_42 (dk_at dksX10_tellDog_1 14 rfl rfl)
theorem dX10_tellDog_38 : decode cX10_tellDog 38 = .ok (.iconst 0, 1) := dk_3 (dk_at dksX10_tellDog_1 15 rfl rfl)
theorem dX10_tellDog_39 : decode cX10_tellDog 39 = .ok (.bipush 9, 2) := dk_16 9 (dk_at dksX10_tellDog_1 16 rfl rfl)
theorem dX10_tellDog_41 : decode cX10_tellDog 41 = .ok (.invokevirtual 292, 3) := dk_182 1 36 (dk_at dksX10_tellDog_1 18 rfl rfl)
theorem dX10_tellDog_44 : decode cX10_tellDog 44 = .ok (.iastore, 1) := dk_79 (dk_at dksX10_tellDog_1 21 rfl rfl)
theorem dX10_tellDog_45 : decode cX10_tellDog 45 = .ok (.aload_n 0, 1) := dk_42 (dk_at dksX10_tellDog_1 22 rfl rfl)
theorem dX10_tellDog_46 : decode cX10_tellDog 46 = .ok (.getfield 64, 3) := dk_180 0 64 (dk_at dksX10_tellDog_2 0 rfl rfl)
theorem dX10_tellDog_49 : decode cX10_tellDog 49 = .ok (.iload_n 1, 1) := dk_27 (dk_at dksX10_tellDog_2 3 rfl rfl)
theorem dX10_tellDog_50 : decode cX10_tellDog 50 = .ok (.aload_n 0, 1) := dk_42 (dk_at dksX10_tellDog_2 4 rfl rfl)
theorem dX10_tellDog_51 : decode cX10_tellDog 51 = .ok (.iconst 0, 1) := dk_3 (dk_at dksX10_tellDog_2 5 rfl rfl)
theorem dX10_tellDog_52 : decode cX10_tellDog 52 = .ok (.bipush 9, 2) := dk_16 9 (dk_at dksX10_tellDog_2 6 rfl rfl)
theorem dX10_tellDog_54 : decode cX10_tellDog 54 = .ok (.invokevirtual 292, 3) := dk_182 1 36 (dk_at dksX10_tellDog_2 8 rfl rfl)
theorem dX10_tellDog_57 : decode cX10_tellDog 57 = .ok (.iastore, 1) := dk_79 (dk_at dksX10_tellDog_2 11 rfl rfl)
theorem dX10_tellDog_58 : decode cX10_tellDog 58 = .ok (.aload_n 0, 1) := dk_42 (dk_at dksX10_tellDog_2 12 rfl rfl)
theorem dX10_tellDog_59 : decode cX10_tellDog 59 = .ok (.iload_n 2, 1) := dk_28 (dk_at dksX10_tellDog_2 13 rfl rfl)
theorem dX10_tellDog_60 : decode cX10_tellDog 60 = .ok (.iconst (-1), 1) := dk_2 (dk_at dksX10_tellDog_2 14 rfl rfl)
theorem dX10_tellDog_61 : decode cX10_tellDog 61 = .ok (.invokevirtual 277, 3) := dk_182 1 21 (dk_at dksX10_tellDog_2 15 rfl rfl)
theorem dX10_tellDog_64 : decode cX10_tellDog 64 = .ok (.aload_n 0, 1) := dk_42 (dk_at dksX10_tellDog_2 18 rfl rfl)
theorem dX10_tellDog_65 : decode cX10_tellDog 65 = .ok (.getfield 212, 3) := dk_180 0 212 (dk_at dksX10_tellDog_2 19 rfl rfl)
theorem dX10_tellDog_68 : decode cX10_tellDog 68 = .ok (.ifCond .ne 16, 3) := dk_154 0 16 (dk_at dksX10_tellDog_3 0 rfl rfl)
theorem dX10_tellDog_71 : decode cX10_tellDog 71 = .ok (.aload_n 0, 1) := dk_42 (dk_at dksX10_tellDog_3 3 rfl rfl)
theorem dX10_tellDog_72 : decode cX10_tellDog 72 = .ok (.getfield 55, 3) := dk_180 0 55 (dk_at dksX10_tellDog_3 4 rfl rfl)
theorem dX10_tellDog_75 : decode cX10_tellDog 75 = .ok (.aload_n 0, 1) := dk_42 (dk_at dksX10_tellDog_3 7 rfl rfl)
theorem dX10_tellDog_76 : decode cX10_tellDog 76 = .ok (.getfield 245, 3) := dk_180 0 245 (dk_at dksX10_tellDog_3 8 rfl rfl)
theorem dX10_tellDog_79 : decode cX10_tellDog 79 = .ok (.dup2, 1) := dk_92 (dk_at dksX10_tellDog_3 11 rfl rfl)
theorem dX10_tellDog_80 : decode cX10_tellDog 80 = .ok (.iaload, 1) := dk_46 (dk_at dksX10_tellDog_3 12 rfl rfl)
theorem dX10_tellDog_81 : decode cX10_tellDog 81 = .ok (.iconst 1, 1) := dk_4 (dk_at dksX10_tellDog_3 13 rfl rfl)
theorem dX10_tellDog_82 : decode cX10_tellDog 82 = .ok (.iadd, 1) := dk_96 (dk_at dksX10_tellDog_3 14 rfl rfl)
theorem dX10_tellDog_83 : decode cX10_tellDog 83 = .ok (.iastore, 1) := dk_79 (dk_at dksX10_tellDog_3 15 rfl rfl)
theorem dX10_tellDog_84 : decode cX10_tellDog 84 = .ok (.return_, 1) := dk_177 (dk_at dksX10_tellDog_3 16 rfl rfl)
abbrev cX10_bounded : ByteArray := prog_21_method_28_code
def yX10_bounded : MethodName := ⟨RX10, "bounded", "(II)I"⟩
def dkwX10_bounded_2 : List UInt8 := [180, 0, 215, 182, 1, 40, 42, 182, 0, 233, 29, 172]
abbrev dktX10_bounded_2 : List UInt8 := dkwX10_bounded_2 ++ []
def dkwX10_bounded_1 : List UInt8 := [180, 0, 27, 42, 180, 0, 215, 46, 62, 29, 27, 161, 0, 8, 29, 28, 164, 0, 12, 42, 8, 42]
abbrev dktX10_bounded_1 : List UInt8 := dkwX10_bounded_1 ++ dktX10_bounded_2
def dkwX10_bounded_0 : List UInt8 := [42, 180, 0, 212, 157, 0, 11, 42, 5, 182, 0, 230, 154, 0, 10, 42, 4, 182, 0, 227, 27, 172, 42]
abbrev dktX10_bounded_0 : List UInt8 := dkwX10_bounded_0 ++ dktX10_bounded_1
theorem dksX10_bounded_0 : cX10_bounded.data.toList.drop 0 = dktX10_bounded_0 := by decide +kernel
theorem dksX10_bounded_1 : cX10_bounded.data.toList.drop 23 = dktX10_bounded_1 := dk_seg dksX10_bounded_0 23 rfl rfl
theorem dksX10_bounded_2 : cX10_bounded.data.toList.drop 45 = dktX10_bounded_2 := dk_seg dksX10_bounded_1 22 rfl rfl
theorem dX10_bounded_0 : decode cX10_bounded 0 = .ok (.aload_n 0, 1) := dk_42 (dk_at dksX10_bounded_0 0 rfl rfl)
theorem dX10_bounded_1 : decode cX10_bounded 1 = .ok (.getfield 212, 3) := dk_180 0 212 (dk_at dksX10_bounded_0 1 rfl rfl)
theorem dX10_bounded_4 : decode cX10_bounded 4 = .ok (.ifCond .gt 11, 3) := dk_157 0 11 (dk_at dksX10_bounded_0 4 rfl rfl)
theorem dX10_bounded_7 : decode cX10_bounded 7 = .ok (.aload_n 0, 1) := dk_42 (dk_at dksX10_bounded_0 7 rfl rfl)
theorem dX10_bounded_8 : decode cX10_bounded 8 = .ok (.iconst 2, 1) := dk_5 (dk_at dksX10_bounded_0 8 rfl rfl)
theorem dX10_bounded_9 : decode cX10_bounded 9 = .ok (.invokevirtual 230, 3) := dk_182 0 230 (dk_at dksX10_bounded_0 9 rfl rfl)
theorem dX10_bounded_12 : decode cX10_bounded 12 = .ok (.ifCond .ne 10, 3) := dk_154 0 10 (dk_at dksX10_bounded_0 12 rfl rfl)
theorem dX10_bounded_15 : decode cX10_bounded 15 = .ok (.aload_n 0, 1) := dk_42 (dk_at dksX10_bounded_0 15 rfl rfl)
theorem dX10_bounded_16 : decode cX10_bounded 16 = .ok (.iconst 1, 1) := dk_4 (dk_at dksX10_bounded_0 16 rfl rfl)
theorem dX10_bounded_17 : decode cX10_bounded 17 = .ok (.invokevirtual 227, 3) := dk_182 0 227 (dk_at dksX10_bounded_0 17 rfl rfl)
theorem dX10_bounded_20 : decode cX10_bounded 20 = .ok (.iload_n 1, 1) := dk_27 (dk_at dksX10_bounded_0 20 rfl rfl)
theorem dX10_bounded_21 : decode cX10_bounded 21 = .ok (.ireturn, 1) := dk_172 (dk_at dksX10_bounded_0 21 rfl rfl)
theorem dX10_bounded_22 : decode cX10_bounded 22 = .ok (.aload_n 0, 1) := dk_42 (dk_at dksX10_bounded_0 22 rfl rfl)
theorem dX10_bounded_23 : decode cX10_bounded 23 = .ok (.getfield 27, 3) := dk_180 0 27 (dk_at dksX10_bounded_1 0 rfl rfl)
theorem dX10_bounded_26 : decode cX10_bounded 26 = .ok (.aload_n 0, 1) := dk_42 (dk_at dksX10_bounded_1 3 rfl rfl)
theorem dX10_bounded_27 : decode cX10_bounded 27 = .ok (.getfield 215, 3) := dk_180 0 215 (dk_at dksX10_bounded_1 4 rfl rfl)
theorem dX10_bounded_30 : decode cX10_bounded 30 = .ok (.iaload, 1) := dk_46 (dk_at dksX10_bounded_1 7 rfl rfl)
theorem dX10_bounded_31 : decode cX10_bounded 31 = .ok (.istore_n 3, 1) := dk_62 (dk_at dksX10_bounded_1 8 rfl rfl)
theorem dX10_bounded_32 : decode cX10_bounded 32 = .ok (.iload_n 3, 1) := dk_29 (dk_at dksX10_bounded_1 9 rfl rfl)
theorem dX10_bounded_33 : decode cX10_bounded 33 = .ok (.iload_n 1, 1) := dk_27 (dk_at dksX10_bounded_1 10 rfl rfl)
theorem dX10_bounded_34 : decode cX10_bounded 34 = .ok (.if_icmp .lt 8, 3) := dk_161 0 8 (dk_at dksX10_bounded_1 11 rfl rfl)
theorem dX10_bounded_37 : decode cX10_bounded 37 = .ok (.iload_n 3, 1) := dk_29 (dk_at dksX10_bounded_1 14 rfl rfl)
theorem dX10_bounded_38 : decode cX10_bounded 38 = .ok (.iload_n 2, 1) := dk_28 (dk_at dksX10_bounded_1 15 rfl rfl)
theorem dX10_bounded_39 : decode cX10_bounded 39 = .ok (.if_icmp .le 12, 3) := dk_164 0 12 (dk_at dksX10_bounded_1 16 rfl rfl)
theorem dX10_bounded_42 : decode cX10_bounded 42 = .ok (.aload_n 0, 1) := dk_42 (dk_at dksX10_bounded_1 19 rfl rfl)
theorem dX10_bounded_43 : decode cX10_bounded 43 = .ok (.iconst 5, 1) := dk_8 (dk_at dksX10_bounded_1 20 rfl rfl)
theorem dX10_bounded_44 : decode cX10_bounded 44 = .ok (.aload_n 0, 1) := dk_42 (dk_at dksX10_bounded_1 21 rfl rfl)
theorem dX10_bounded_45 : decode cX10_bounded 45 = .ok (.getfield 215, 3) := dk_180 0 215 (dk_at dksX10_bounded_2 0 rfl rfl)
theorem dX10_bounded_48 : decode cX10_bounded 48 = .ok (.invokevirtual 296, 3) := dk_182 1 40 (dk_at dksX10_bounded_2 3 rfl rfl)
theorem dX10_bounded_51 : decode cX10_bounded 51 = .ok (.aload_n 0, 1) := dk_42 (dk_at dksX10_bounded_2 6 rfl rfl)
theorem dX10_bounded_52 : decode cX10_bounded 52 = .ok (.invokevirtual 233, 3) := dk_182 0 233 (dk_at dksX10_bounded_2 7 rfl rfl)
theorem dX10_bounded_55 : decode cX10_bounded 55 = .ok (.iload_n 3, 1) := dk_29 (dk_at dksX10_bounded_2 10 rfl rfl)
theorem dX10_bounded_56 : decode cX10_bounded 56 = .ok (.ireturn, 1) := dk_172 (dk_at dksX10_bounded_2 11 rfl rfl)
abbrev cX10_tellPerson : ByteArray := prog_21_method_31_code
def yX10_tellPerson : MethodName := ⟨RX10, "tellPerson", "()V"⟩
def dkwX10_tellPerson_3 : List UInt8 := [180, 0, 67, 42, 180, 0, 245, 92, 46, 4, 96, 79, 177]
abbrev dktX10_tellPerson_3 : List UInt8 := dkwX10_tellPerson_3 ++ []
def dkwX10_tellPerson_2 : List UInt8 := [16, 10, 42, 180, 0, 67, 42, 180, 0, 245, 46, 96, 182, 1, 21, 42, 180, 0, 212, 154, 0, 16, 42]
abbrev dktX10_tellPerson_2 : List UInt8 := dkwX10_tellPerson_2 ++ dktX10_tellPerson_3
def dkwX10_tellPerson_1 : List UInt8 := [180, 0, 70, 27, 42, 182, 1, 52, 79, 42, 180, 0, 73, 27, 42, 3, 16, 99, 182, 1, 36, 79, 42, 28]
abbrev dktX10_tellPerson_1 : List UInt8 := dkwX10_tellPerson_1 ++ dktX10_tellPerson_2
def dkwX10_tellPerson_0 : List UInt8 := [7, 42, 180, 0, 245, 104, 42, 180, 0, 67, 42, 180, 0, 245, 46, 96, 60, 42, 182, 1, 17, 61, 42]
abbrev dktX10_tellPerson_0 : List UInt8 := dkwX10_tellPerson_0 ++ dktX10_tellPerson_1
theorem dksX10_tellPerson_0 : cX10_tellPerson.data.toList.drop 0 = dktX10_tellPerson_0 := by decide +kernel
theorem dksX10_tellPerson_1 : cX10_tellPerson.data.toList.drop 23 = dktX10_tellPerson_1 := dk_seg dksX10_tellPerson_0 23 rfl rfl
theorem dksX10_tellPerson_2 : cX10_tellPerson.data.toList.drop 47 = dktX10_tellPerson_2 := dk_seg dksX10_tellPerson_1 24 rfl rfl
theorem dksX10_tellPerson_3 : cX10_tellPerson.data.toList.drop 70 = dktX10_tellPerson_3 := dk_seg dksX10_tellPerson_2 23 rfl rfl
theorem dX10_tellPerson_0 : decode cX10_tellPerson 0 = .ok (.iconst 4, 1) := dk_7 (dk_at dksX10_tellPerson_0 0 rfl rfl)
theorem dX10_tellPerson_1 : decode cX10_tellPerson 1 = .ok (.aload_n 0, 1) := dk_42 (dk_at dksX10_tellPerson_0 1 rfl rfl)
theorem dX10_tellPerson_2 : decode cX10_tellPerson 2 = .ok (.getfield 245, 3) := dk_180 0 245 (dk_at dksX10_tellPerson_0 2 rfl rfl)
theorem dX10_tellPerson_5 : decode cX10_tellPerson 5 = .ok (.imul, 1) := dk_104 (dk_at dksX10_tellPerson_0 5 rfl rfl)
theorem dX10_tellPerson_6 : decode cX10_tellPerson 6 = .ok (.aload_n 0, 1) := dk_42 (dk_at dksX10_tellPerson_0 6 rfl rfl)
theorem dX10_tellPerson_7 : decode cX10_tellPerson 7 = .ok (.getfield 67, 3) := dk_180 0 67 (dk_at dksX10_tellPerson_0 7 rfl rfl)
theorem dX10_tellPerson_10 : decode cX10_tellPerson 10 = .ok (.aload_n 0, 1) := dk_42 (dk_at dksX10_tellPerson_0 10 rfl rfl)
theorem dX10_tellPerson_11 : decode cX10_tellPerson 11 = .ok (.getfield 245, 3) := dk_180 0 245 (dk_at dksX10_tellPerson_0 11 rfl rfl)
theorem dX10_tellPerson_14 : decode cX10_tellPerson 14 = .ok (.iaload, 1) := dk_46 (dk_at dksX10_tellPerson_0 14 rfl rfl)
theorem dX10_tellPerson_15 : decode cX10_tellPerson 15 = .ok (.iadd, 1) := dk_96 (dk_at dksX10_tellPerson_0 15 rfl rfl)
theorem dX10_tellPerson_16 : decode cX10_tellPerson 16 = .ok (.istore_n 1, 1) := dk_60 (dk_at dksX10_tellPerson_0 16 rfl rfl)
theorem dX10_tellPerson_17 : decode cX10_tellPerson 17 = .ok (.aload_n 0, 1) := dk_42 (dk_at dksX10_tellPerson_0 17 rfl rfl)
theorem dX10_tellPerson_18 : decode cX10_tellPerson 18 = .ok (.invokevirtual 273, 3) := dk_182 1 17 (dk_at dksX10_tellPerson_0 18 rfl rfl)
theorem dX10_tellPerson_21 : decode cX10_tellPerson 21 = .ok (.istore_n 2, 1) := dk_61 (dk_at dksX10_tellPerson_0 21 rfl rfl)
theorem dX10_tellPerson_22 : decode cX10_tellPerson 22 = .ok (.aload_n 0, 1) := dk_42 (dk_at dksX10_tellPerson_0 22 rfl rfl)
theorem dX10_tellPerson_23 : decode cX10_tellPerson 23 = .ok (.getfield 70, 3) := dk_180 0 70 (dk_at dksX10_tellPerson_1 0 rfl rfl)
theorem dX10_tellPerson_26 : decode cX10_tellPerson 26 = .ok (.iload_n 1, 1) := dk_27 (dk_at dksX10_tellPerson_1 3 rfl rfl)
theorem dX10_tellPerson_27 : decode cX10_tellPerson 27 = .ok (.aload_n 0, 1) := dk_42 (dk_at dksX10_tellPerson_1 4 rfl rfl)
theorem dX10_tellPerson_28 : decode cX10_tellPerson 28 = .ok (.invokevirtual 308, 3) := dk_182 1 52 (dk_at dksX10_tellPerson_1 5 rfl rfl)
theorem dX10_tellPerson_31 : decode cX10_tellPerson 31 = .ok (.iastore, 1) := dk_79 (dk_at dksX10_tellPerson_1 8 rfl rfl)
theorem dX10_tellPerson_32 : decode cX10_tellPerson 32 = .ok (.aload_n 0, 1) := dk_42 (dk_at dksX10_tellPerson_1 9 rfl rfl)
theorem dX10_tellPerson_33 : decode cX10_tellPerson 33 = .ok (.getfield 73, 3) := dk_180 0 73 (dk_at dksX10_tellPerson_1 10 rfl rfl)
theorem dX10_tellPerson_36 : decode cX10_tellPerson 36 = .ok (.iload_n 1, 1) := dk_27 (dk_at dksX10_tellPerson_1 13 rfl rfl)
theorem dX10_tellPerson_37 : decode cX10_tellPerson 37 = .ok (.aload_n 0, 1) := dk_42 (dk_at dksX10_tellPerson_1 14 rfl rfl)
theorem dX10_tellPerson_38 : decode cX10_tellPerson 38 = .ok (.iconst 0, 1) := dk_3 (dk_at dksX10_tellPerson_1 15 rfl rfl)
theorem dX10_tellPerson_39 : decode cX10_tellPerson 39 = .ok (.bipush 99, 2) := dk_16 99 (dk_at dksX10_tellPerson_1 16 rfl rfl)
theorem dX10_tellPerson_41 : decode cX10_tellPerson 41 = .ok (.invokevirtual 292, 3) := dk_182 1 36 (dk_at dksX10_tellPerson_1 18 rfl rfl)
theorem dX10_tellPerson_44 : decode cX10_tellPerson 44 = .ok (.iastore, 1) := dk_79 (dk_at dksX10_tellPerson_1 21 rfl rfl)
theorem dX10_tellPerson_45 : decode cX10_tellPerson 45 = .ok (.aload_n 0, 1) := dk_42 (dk_at dksX10_tellPerson_1 22 rfl rfl)
theorem dX10_tellPerson_46 : decode cX10_tellPerson 46 = .ok (.iload_n 2, 1) := dk_28 (dk_at dksX10_tellPerson_1 23 rfl rfl)
theorem dX10_tellPerson_47 : decode cX10_tellPerson 47 = .ok (.bipush 10, 2) := dk_16 10 (dk_at dksX10_tellPerson_2 0 rfl rfl)
theorem dX10_tellPerson_49 : decode cX10_tellPerson 49 = .ok (.aload_n 0, 1) := dk_42 (dk_at dksX10_tellPerson_2 2 rfl rfl)
theorem dX10_tellPerson_50 : decode cX10_tellPerson 50 = .ok (.getfield 67, 3) := dk_180 0 67 (dk_at dksX10_tellPerson_2 3 rfl rfl)
theorem dX10_tellPerson_53 : decode cX10_tellPerson 53 = .ok (.aload_n 0, 1) := dk_42 (dk_at dksX10_tellPerson_2 6 rfl rfl)
theorem dX10_tellPerson_54 : decode cX10_tellPerson 54 = .ok (.getfield 245, 3) := dk_180 0 245 (dk_at dksX10_tellPerson_2 7 rfl rfl)
theorem dX10_tellPerson_57 : decode cX10_tellPerson 57 = .ok (.iaload, 1) := dk_46 (dk_at dksX10_tellPerson_2 10 rfl rfl)
theorem dX10_tellPerson_58 : decode cX10_tellPerson 58 = .ok (.iadd, 1) := dk_96 (dk_at dksX10_tellPerson_2 11 rfl rfl)
theorem dX10_tellPerson_59 : decode cX10_tellPerson 59 = .ok (.invokevirtual 277, 3) := dk_182 1 21 (dk_at dksX10_tellPerson_2 12 rfl rfl)
theorem dX10_tellPerson_62 : decode cX10_tellPerson 62 = .ok (.aload_n 0, 1) := dk_42 (dk_at dksX10_tellPerson_2 15 rfl rfl)
theorem dX10_tellPerson_63 : decode cX10_tellPerson 63 = .ok (.getfield 212, 3) := dk_180 0 212 (dk_at dksX10_tellPerson_2 16 rfl rfl)
theorem dX10_tellPerson_66 : decode cX10_tellPerson 66 = .ok (.ifCond .ne 16, 3) := dk_154 0 16 (dk_at dksX10_tellPerson_2 19 rfl rfl)
theorem dX10_tellPerson_69 : decode cX10_tellPerson 69 = .ok (.aload_n 0, 1) := dk_42 (dk_at dksX10_tellPerson_2 22 rfl rfl)
theorem dX10_tellPerson_70 : decode cX10_tellPerson 70 = .ok (.getfield 67, 3) := dk_180 0 67 (dk_at dksX10_tellPerson_3 0 rfl rfl)
theorem dX10_tellPerson_73 : decode cX10_tellPerson 73 = .ok (.aload_n 0, 1) := dk_42 (dk_at dksX10_tellPerson_3 3 rfl rfl)
theorem dX10_tellPerson_74 : decode cX10_tellPerson 74 = .ok (.getfield 245, 3) := dk_180 0 245 (dk_at dksX10_tellPerson_3 4 rfl rfl)
theorem dX10_tellPerson_77 : decode cX10_tellPerson 77 = .ok (.dup2, 1) := dk_92 (dk_at dksX10_tellPerson_3 7 rfl rfl)
theorem dX10_tellPerson_78 : decode cX10_tellPerson 78 = .ok (.iaload, 1) := dk_46 (dk_at dksX10_tellPerson_3 8 rfl rfl)
theorem dX10_tellPerson_79 : decode cX10_tellPerson 79 = .ok (.iconst 1, 1) := dk_4 (dk_at dksX10_tellPerson_3 9 rfl rfl)
theorem dX10_tellPerson_80 : decode cX10_tellPerson 80 = .ok (.iadd, 1) := dk_96 (dk_at dksX10_tellPerson_3 10 rfl rfl)
theorem dX10_tellPerson_81 : decode cX10_tellPerson 81 = .ok (.iastore, 1) := dk_79 (dk_at dksX10_tellPerson_3 11 rfl rfl)
theorem dX10_tellPerson_82 : decode cX10_tellPerson 82 = .ok (.return_, 1) := dk_177 (dk_at dksX10_tellPerson_3 12 rfl rfl)
abbrev cX10_tellErrand : ByteArray := prog_21_method_32_code
def yX10_tellErrand : MethodName := ⟨RX10, "tellErrand", "()V"⟩
def dkwX10_tellErrand_6 : List UInt8 := [4, 96, 79, 177]
abbrev dktX10_tellErrand_6 : List UInt8 := dkwX10_tellErrand_6 ++ []
def dkwX10_tellErrand_5 : List UInt8 := [180, 0, 82, 27, 21, 4, 79, 42, 180, 0, 212, 154, 0, 16, 42, 180, 0, 76, 42, 180, 0, 245, 92, 46]
abbrev dktX10_tellErrand_5 : List UInt8 := dkwX10_tellErrand_5 ++ dktX10_tellErrand_6
def dkwX10_tellErrand_4 : List UInt8 := [29, 182, 1, 40, 132, 5, 1, 167, 255, 202, 42, 7, 182, 1, 43, 42, 180, 0, 79, 27, 28, 79, 42]
abbrev dktX10_tellErrand_4 : List UInt8 := dkwX10_tellErrand_4 ++ dktX10_tellErrand_5
def dkwX10_tellErrand_3 : List UInt8 := [180, 0, 79, 21, 5, 46, 28, 160, 0, 21, 42, 180, 0, 82, 21, 5, 46, 21, 4, 160, 0, 9, 42, 6]
abbrev dktX10_tellErrand_3 : List UInt8 := dkwX10_tellErrand_3 ++ dktX10_tellErrand_4
def dkwX10_tellErrand_2 : List UInt8 := [21, 5, 27, 162, 0, 54, 42, 180, 0, 212, 154, 0, 47, 28, 155, 0, 37, 21, 4, 155, 0, 32, 42]
abbrev dktX10_tellErrand_2 : List UInt8 := dkwX10_tellErrand_2 ++ dktX10_tellErrand_3
def dkwX10_tellErrand_1 : List UInt8 := [182, 1, 49, 61, 42, 180, 0, 215, 62, 42, 182, 1, 52, 54, 4, 16, 8, 42, 180, 0, 245, 104, 54, 5]
abbrev dktX10_tellErrand_1 : List UInt8 := dkwX10_tellErrand_1 ++ dktX10_tellErrand_2
def dkwX10_tellErrand_0 : List UInt8 := [16, 8, 42, 180, 0, 245, 104, 42, 180, 0, 76, 42, 180, 0, 245, 46, 96, 60, 42, 16, 10, 16, 19]
abbrev dktX10_tellErrand_0 : List UInt8 := dkwX10_tellErrand_0 ++ dktX10_tellErrand_1
theorem dksX10_tellErrand_0 : cX10_tellErrand.data.toList.drop 0 = dktX10_tellErrand_0 := by decide +kernel
theorem dksX10_tellErrand_1 : cX10_tellErrand.data.toList.drop 23 = dktX10_tellErrand_1 := dk_seg dksX10_tellErrand_0 23 rfl rfl
theorem dksX10_tellErrand_2 : cX10_tellErrand.data.toList.drop 47 = dktX10_tellErrand_2 := dk_seg dksX10_tellErrand_1 24 rfl rfl
theorem dksX10_tellErrand_3 : cX10_tellErrand.data.toList.drop 70 = dktX10_tellErrand_3 := dk_seg dksX10_tellErrand_2 23 rfl rfl
theorem dksX10_tellErrand_4 : cX10_tellErrand.data.toList.drop 94 = dktX10_tellErrand_4 := dk_seg dksX10_tellErrand_3 24 rfl rfl
theorem dksX10_tellErrand_5 : cX10_tellErrand.data.toList.drop 117 = dktX10_tellErrand_5 := dk_seg dksX10_tellErrand_4 23 rfl rfl
theorem dksX10_tellErrand_6 : cX10_tellErrand.data.toList.drop 141 = dktX10_tellErrand_6 := dk_seg dksX10_tellErrand_5 24 rfl rfl
theorem dX10_tellErrand_0 : decode cX10_tellErrand 0 = .ok (.bipush 8, 2) := dk_16 8 (dk_at dksX10_tellErrand_0 0 rfl rfl)
theorem dX10_tellErrand_2 : decode cX10_tellErrand 2 = .ok (.aload_n 0, 1) := dk_42 (dk_at dksX10_tellErrand_0 2 rfl rfl)
theorem dX10_tellErrand_3 : decode cX10_tellErrand 3 = .ok (.getfield 245, 3) := dk_180 0 245 (dk_at dksX10_tellErrand_0 3 rfl rfl)
theorem dX10_tellErrand_6 : decode cX10_tellErrand 6 = .ok (.imul, 1) := dk_104 (dk_at dksX10_tellErrand_0 6 rfl rfl)
theorem dX10_tellErrand_7 : decode cX10_tellErrand 7 = .ok (.aload_n 0, 1) := dk_42 (dk_at dksX10_tellErrand_0 7 rfl rfl)
theorem dX10_tellErrand_8 : decode cX10_tellErrand 8 = .ok (.getfield 76, 3) := dk_180 0 76 (dk_at dksX10_tellErrand_0 8 rfl rfl)
theorem dX10_tellErrand_11 : decode cX10_tellErrand 11 = .ok (.aload_n 0, 1) := dk_42 (dk_at dksX10_tellErrand_0 11 rfl rfl)
theorem dX10_tellErrand_12 : decode cX10_tellErrand 12 = .ok (.getfield 245, 3) := dk_180 0 245 (dk_at dksX10_tellErrand_0 12 rfl rfl)
theorem dX10_tellErrand_15 : decode cX10_tellErrand 15 = .ok (.iaload, 1) := dk_46 (dk_at dksX10_tellErrand_0 15 rfl rfl)
theorem dX10_tellErrand_16 : decode cX10_tellErrand 16 = .ok (.iadd, 1) := dk_96 (dk_at dksX10_tellErrand_0 16 rfl rfl)
theorem dX10_tellErrand_17 : decode cX10_tellErrand 17 = .ok (.istore_n 1, 1) := dk_60 (dk_at dksX10_tellErrand_0 17 rfl rfl)
theorem dX10_tellErrand_18 : decode cX10_tellErrand 18 = .ok (.aload_n 0, 1) := dk_42 (dk_at dksX10_tellErrand_0 18 rfl rfl)
theorem dX10_tellErrand_19 : decode cX10_tellErrand 19 = .ok (.bipush 10, 2) := dk_16 10 (dk_at dksX10_tellErrand_0 19 rfl rfl)
theorem dX10_tellErrand_21 : decode cX10_tellErrand 21 = .ok (.bipush 19, 2) := dk_16 19 (dk_at dksX10_tellErrand_0 21 rfl rfl)
theorem dX10_tellErrand_23 : decode cX10_tellErrand 23 = .ok (.invokevirtual 305, 3) := dk_182 1 49 (dk_at dksX10_tellErrand_1 0 rfl rfl)
theorem dX10_tellErrand_26 : decode cX10_tellErrand 26 = .ok (.istore_n 2, 1) := dk_61 (dk_at dksX10_tellErrand_1 3 rfl rfl)
theorem dX10_tellErrand_27 : decode cX10_tellErrand 27 = .ok (.aload_n 0, 1) := dk_42 (dk_at dksX10_tellErrand_1 4 rfl rfl)
theorem dX10_tellErrand_28 : decode cX10_tellErrand 28 = .ok (.getfield 215, 3) := dk_180 0 215 (dk_at dksX10_tellErrand_1 5 rfl rfl)
theorem dX10_tellErrand_31 : decode cX10_tellErrand 31 = .ok (.istore_n 3, 1) := dk_62 (dk_at dksX10_tellErrand_1 8 rfl rfl)
theorem dX10_tellErrand_32 : decode cX10_tellErrand 32 = .ok (.aload_n 0, 1) := dk_42 (dk_at dksX10_tellErrand_1 9 rfl rfl)
theorem dX10_tellErrand_33 : decode cX10_tellErrand 33 = .ok (.invokevirtual 308, 3) := dk_182 1 52 (dk_at dksX10_tellErrand_1 10 rfl rfl)
theorem dX10_tellErrand_36 : decode cX10_tellErrand 36 = .ok (.istore 4, 2) := dk_54 4 (dk_at dksX10_tellErrand_1 13 rfl rfl)
theorem dX10_tellErrand_38 : decode cX10_tellErrand 38 = .ok (.bipush 8, 2) := dk_16 8 (dk_at dksX10_tellErrand_1 15 rfl rfl)
theorem dX10_tellErrand_40 : decode cX10_tellErrand 40 = .ok (.aload_n 0, 1) := dk_42 (dk_at dksX10_tellErrand_1 17 rfl rfl)
theorem dX10_tellErrand_41 : decode cX10_tellErrand 41 = .ok (.getfield 245, 3) := dk_180 0 245 (dk_at dksX10_tellErrand_1 18 rfl rfl)
theorem dX10_tellErrand_44 : decode cX10_tellErrand 44 = .ok (.imul, 1) := dk_104 (dk_at dksX10_tellErrand_1 21 rfl rfl)
theorem dX10_tellErrand_45 : decode cX10_tellErrand 45 = .ok (.istore 5, 2) := dk_54 5 (dk_at dksX10_tellErrand_1 22 rfl rfl)
theorem dX10_tellErrand_47 : decode cX10_tellErrand 47 = .ok (.iload 5, 2) := dk_21 5 (dk_at dksX10_tellErrand_2 0 rfl rfl)
theorem dX10_tellErrand_49 : decode cX10_tellErrand 49 = .ok (.iload_n 1, 1) := dk_27 (dk_at dksX10_tellErrand_2 2 rfl rfl)
theorem dX10_tellErrand_50 : decode cX10_tellErrand 50 = .ok (.if_icmp .ge 54, 3) := dk_162 0 54 (dk_at dksX10_tellErrand_2 3 rfl rfl)
theorem dX10_tellErrand_53 : decode cX10_tellErrand 53 = .ok (.aload_n 0, 1) := dk_42 (dk_at dksX10_tellErrand_2 6 rfl rfl)
theorem dX10_tellErrand_54 : decode cX10_tellErrand 54 = .ok (.getfield 212, 3) := dk_180 0 212 (dk_at dksX10_tellErrand_2 7 rfl rfl)
theorem dX10_tellErrand_57 : decode cX10_tellErrand 57 = .ok (.ifCond .ne 47, 3) := dk_154 0 47 (dk_at dksX10_tellErrand_2 10 rfl rfl)
theorem dX10_tellErrand_60 : decode cX10_tellErrand 60 = .ok (.iload_n 2, 1) := dk_28 (dk_at dksX10_tellErrand_2 13 rfl rfl)
theorem dX10_tellErrand_61 : decode cX10_tellErrand 61 = .ok (.ifCond .lt 37, 3) := dk_155 0 37 (dk_at dksX10_tellErrand_2 14 rfl rfl)
theorem dX10_tellErrand_64 : decode cX10_tellErrand 64 = .ok (.iload 4, 2) := dk_21 4 (dk_at dksX10_tellErrand_2 17 rfl rfl)
theorem dX10_tellErrand_66 : decode cX10_tellErrand 66 = .ok (.ifCond .lt 32, 3) := dk_155 0 32 (dk_at dksX10_tellErrand_2 19 rfl rfl)
theorem dX10_tellErrand_69 : decode cX10_tellErrand 69 = .ok (.aload_n 0, 1) := dk_42 (dk_at dksX10_tellErrand_2 22 rfl rfl)
theorem dX10_tellErrand_70 : decode cX10_tellErrand 70 = .ok (.getfield 79, 3) := dk_180 0 79 (dk_at dksX10_tellErrand_3 0 rfl rfl)
theorem dX10_tellErrand_73 : decode cX10_tellErrand 73 = .ok (.iload 5, 2) := dk_21 5 (dk_at dksX10_tellErrand_3 3 rfl rfl)
theorem dX10_tellErrand_75 : decode cX10_tellErrand 75 = .ok (.iaload, 1) := dk_46 (dk_at dksX10_tellErrand_3 5 rfl rfl)
theorem dX10_tellErrand_76 : decode cX10_tellErrand 76 = .ok (.iload_n 2, 1) := dk_28 (dk_at dksX10_tellErrand_3 6 rfl rfl)
theorem dX10_tellErrand_77 : decode cX10_tellErrand 77 = .ok (.if_icmp .ne 21, 3) := dk_160 0 21 (dk_at dksX10_tellErrand_3 7 rfl rfl)
theorem dX10_tellErrand_80 : decode cX10_tellErrand 80 = .ok (.aload_n 0, 1) := dk_42 (dk_at dksX10_tellErrand_3 10 rfl rfl)
theorem dX10_tellErrand_81 : decode cX10_tellErrand 81 = .ok (.getfield 82, 3) := dk_180 0 82 (dk_at dksX10_tellErrand_3 11 rfl rfl)
theorem dX10_tellErrand_84 : decode cX10_tellErrand 84 = .ok (.iload 5, 2) := dk_21 5 (dk_at dksX10_tellErrand_3 14 rfl rfl)
theorem dX10_tellErrand_86 : decode cX10_tellErrand 86 = .ok (.iaload, 1) := dk_46 (dk_at dksX10_tellErrand_3 16 rfl rfl)
theorem dX10_tellErrand_87 : decode cX10_tellErrand 87 = .ok (.iload 4, 2) := dk_21 4 (dk_at dksX10_tellErrand_3 17 rfl rfl)
theorem dX10_tellErrand_89 : decode cX10_tellErrand 89 = .ok (.if_icmp .ne 9, 3) := dk_160 0 9 (dk_at dksX10_tellErrand_3 19 rfl rfl)
theorem dX10_tellErrand_92 : decode cX10_tellErrand 92 = .ok (.aload_n 0, 1) := dk_42 (dk_at dksX10_tellErrand_3 22 rfl rfl)
theorem dX10_tellErrand_93 : decode cX10_tellErrand 93 = .ok (.iconst 3, 1) := dk_6 (dk_at dksX10_tellErrand_3 23 rfl rfl)
theorem dX10_tellErrand_94 : decode cX10_tellErrand 94 = .ok (.iload_n 3, 1) := dk_29 (dk_at dksX10_tellErrand_4 0 rfl rfl)
theorem dX10_tellErrand_95 : decode cX10_tellErrand 95 = .ok (.invokevirtual 296, 3) := dk_182 1 40 (dk_at dksX10_tellErrand_4 1 rfl rfl)
theorem dX10_tellErrand_98 : decode cX10_tellErrand 98 = .ok (.iinc 5 1, 3) := dk_132 5 1 (dk_at dksX10_tellErrand_4 4 rfl rfl)
theorem dX10_tellErrand_101 : decode cX10_tellErrand 101 = .ok (.goto (-54), 3) := dk_167 255 202 (dk_at dksX10_tellErrand_4 7 rfl rfl)
theorem dX10_tellErrand_104 : decode cX10_tellErrand 104 = .ok (.aload_n 0, 1) := dk_42 (dk_at dksX10_tellErrand_4 10 rfl rfl)
theorem dX10_tellErrand_105 : decode cX10_tellErrand 105 = .ok (.iconst 4, 1) := dk_7 (dk_at dksX10_tellErrand_4 11 rfl rfl)
theorem dX10_tellErrand_106 : decode cX10_tellErrand 106 = .ok (.invokevirtual 299, 3) := dk_182 1 43 (dk_at dksX10_tellErrand_4 12 rfl rfl)
theorem dX10_tellErrand_109 : decode cX10_tellErrand 109 = .ok (.aload_n 0, 1) := dk_42 (dk_at dksX10_tellErrand_4 15 rfl rfl)
theorem dX10_tellErrand_110 : decode cX10_tellErrand 110 = .ok (.getfield 79, 3) := dk_180 0 79 (dk_at dksX10_tellErrand_4 16 rfl rfl)
theorem dX10_tellErrand_113 : decode cX10_tellErrand 113 = .ok (.iload_n 1, 1) := dk_27 (dk_at dksX10_tellErrand_4 19 rfl rfl)
theorem dX10_tellErrand_114 : decode cX10_tellErrand 114 = .ok (.iload_n 2, 1) := dk_28 (dk_at dksX10_tellErrand_4 20 rfl rfl)
theorem dX10_tellErrand_115 : decode cX10_tellErrand 115 = .ok (.iastore, 1) := dk_79 (dk_at dksX10_tellErrand_4 21 rfl rfl)
theorem dX10_tellErrand_116 : decode cX10_tellErrand 116 = .ok (.aload_n 0, 1) := dk_42 (dk_at dksX10_tellErrand_4 22 rfl rfl)
theorem dX10_tellErrand_117 : decode cX10_tellErrand 117 = .ok (.getfield 82, 3) := dk_180 0 82 (dk_at dksX10_tellErrand_5 0 rfl rfl)
theorem dX10_tellErrand_120 : decode cX10_tellErrand 120 = .ok (.iload_n 1, 1) := dk_27 (dk_at dksX10_tellErrand_5 3 rfl rfl)
theorem dX10_tellErrand_121 : decode cX10_tellErrand 121 = .ok (.iload 4, 2) := dk_21 4 (dk_at dksX10_tellErrand_5 4 rfl rfl)
theorem dX10_tellErrand_123 : decode cX10_tellErrand 123 = .ok (.iastore, 1) := dk_79 (dk_at dksX10_tellErrand_5 6 rfl rfl)
theorem dX10_tellErrand_124 : decode cX10_tellErrand 124 = .ok (.aload_n 0, 1) := dk_42 (dk_at dksX10_tellErrand_5 7 rfl rfl)
theorem dX10_tellErrand_125 : decode cX10_tellErrand 125 = .ok (.getfield 212, 3) := dk_180 0 212 (dk_at dksX10_tellErrand_5 8 rfl rfl)
theorem dX10_tellErrand_128 : decode cX10_tellErrand 128 = .ok (.ifCond .ne 16, 3) := dk_154 0 16 (dk_at dksX10_tellErrand_5 11 rfl rfl)
theorem dX10_tellErrand_131 : decode cX10_tellErrand 131 = .ok (.aload_n 0, 1) := dk_42 (dk_at dksX10_tellErrand_5 14 rfl rfl)
theorem dX10_tellErrand_132 : decode cX10_tellErrand 132 = .ok (.getfield 76, 3) := dk_180 0 76 (dk_at dksX10_tellErrand_5 15 rfl rfl)
theorem dX10_tellErrand_135 : decode cX10_tellErrand 135 = .ok (.aload_n 0, 1) := dk_42 (dk_at dksX10_tellErrand_5 18 rfl rfl)
theorem dX10_tellErrand_136 : decode cX10_tellErrand 136 = .ok (.getfield 245, 3) := dk_180 0 245 (dk_at dksX10_tellErrand_5 19 rfl rfl)
theorem dX10_tellErrand_139 : decode cX10_tellErrand 139 = .ok (.dup2, 1) := dk_92 (dk_at dksX10_tellErrand_5 22 rfl rfl)
theorem dX10_tellErrand_140 : decode cX10_tellErrand 140 = .ok (.iaload, 1) := dk_46 (dk_at dksX10_tellErrand_5 23 rfl rfl)
theorem dX10_tellErrand_141 : decode cX10_tellErrand 141 = .ok (.iconst 1, 1) := dk_4 (dk_at dksX10_tellErrand_6 0 rfl rfl)
theorem dX10_tellErrand_142 : decode cX10_tellErrand 142 = .ok (.iadd, 1) := dk_96 (dk_at dksX10_tellErrand_6 1 rfl rfl)
theorem dX10_tellErrand_143 : decode cX10_tellErrand 143 = .ok (.iastore, 1) := dk_79 (dk_at dksX10_tellErrand_6 2 rfl rfl)
theorem dX10_tellErrand_144 : decode cX10_tellErrand 144 = .ok (.return_, 1) := dk_177 (dk_at dksX10_tellErrand_6 3 rfl rfl)
abbrev cX10_tellLaw : ByteArray := prog_21_method_33_code
def yX10_tellLaw : MethodName := ⟨RX10, "tellLaw", "(I)V"⟩
def dkwX10_tellLaw_8 : List UInt8 := [180, 0, 251, 79, 177]
abbrev dktX10_tellLaw_8 : List UInt8 := dkwX10_tellLaw_8 ++ []
def dkwX10_tellLaw_7 : List UInt8 := [42, 180, 0, 245, 104, 27, 96, 28, 79, 42, 180, 0, 97, 7, 42, 180, 0, 245, 104, 27, 96, 42]
abbrev dktX10_tellLaw_7 : List UInt8 := dkwX10_tellLaw_7 ++ dktX10_tellLaw_8
def dkwX10_tellLaw_6 : List UInt8 := [3, 84, 42, 182, 1, 58, 42, 7, 182, 1, 43, 42, 180, 0, 212, 158, 0, 4, 177, 42, 180, 0, 94, 7]
abbrev dktX10_tellLaw_6 : List UInt8 := dkwX10_tellLaw_6 ++ dktX10_tellLaw_7
def dkwX10_tellLaw_5 : List UInt8 := [182, 1, 43, 42, 182, 1, 58, 42, 16, 33, 182, 1, 43, 167, 255, 142, 42, 180, 0, 100, 42, 180, 0, 251]
abbrev dktX10_tellLaw_5 : List UInt8 := dkwX10_tellLaw_5 ++ dktX10_tellLaw_6
def dkwX10_tellLaw_4 : List UInt8 := [180, 0, 251, 42, 180, 0, 254, 79, 42, 180, 0, 212, 154, 0, 7, 42, 182, 1, 55, 42, 16, 32]
abbrev dktX10_tellLaw_4 : List UInt8 := dkwX10_tellLaw_4 ++ dktX10_tellLaw_5
def dkwX10_tellLaw_3 : List UInt8 := [180, 0, 251, 42, 180, 0, 254, 79, 42, 182, 1, 55, 42, 16, 13, 182, 1, 43, 42, 180, 0, 107, 42]
abbrev dktX10_tellLaw_3 : List UInt8 := dkwX10_tellLaw_3 ++ dktX10_tellLaw_4
def dkwX10_tellLaw_2 : List UInt8 := [132, 3, 1, 42, 182, 0, 233, 42, 180, 0, 100, 42, 180, 0, 251, 4, 84, 42, 180, 0, 104, 42]
abbrev dktX10_tellLaw_2 : List UInt8 := dkwX10_tellLaw_2 ++ dktX10_tellLaw_3
def dkwX10_tellLaw_1 : List UInt8 := [182, 0, 230, 153, 0, 104, 29, 7, 160, 0, 8, 42, 5, 182, 0, 227, 42, 180, 0, 212, 158, 0, 4, 177]
abbrev dktX10_tellLaw_1 : List UInt8 := dkwX10_tellLaw_1 ++ dktX10_tellLaw_2
def dkwX10_tellLaw_0 : List UInt8 := [42, 8, 182, 1, 43, 42, 180, 0, 251, 61, 3, 62, 42, 180, 0, 212, 154, 0, 113, 42, 16, 31]
abbrev dktX10_tellLaw_0 : List UInt8 := dkwX10_tellLaw_0 ++ dktX10_tellLaw_1
theorem dksX10_tellLaw_0 : cX10_tellLaw.data.toList.drop 0 = dktX10_tellLaw_0 := by decide +kernel
theorem dksX10_tellLaw_1 : cX10_tellLaw.data.toList.drop 22 = dktX10_tellLaw_1 := dk_seg dksX10_tellLaw_0 22 rfl rfl
theorem dksX10_tellLaw_2 : cX10_tellLaw.data.toList.drop 46 = dktX10_tellLaw_2 := dk_seg dksX10_tellLaw_1 24 rfl rfl
theorem dksX10_tellLaw_3 : cX10_tellLaw.data.toList.drop 68 = dktX10_tellLaw_3 := dk_seg dksX10_tellLaw_2 22 rfl rfl
theorem dksX10_tellLaw_4 : cX10_tellLaw.data.toList.drop 91 = dktX10_tellLaw_4 := dk_seg dksX10_tellLaw_3 23 rfl rfl
theorem dksX10_tellLaw_5 : cX10_tellLaw.data.toList.drop 113 = dktX10_tellLaw_5 := dk_seg dksX10_tellLaw_4 22 rfl rfl
theorem dksX10_tellLaw_6 : cX10_tellLaw.data.toList.drop 137 = dktX10_tellLaw_6 := dk_seg dksX10_tellLaw_5 24 rfl rfl
theorem dksX10_tellLaw_7 : cX10_tellLaw.data.toList.drop 161 = dktX10_tellLaw_7 := dk_seg dksX10_tellLaw_6 24 rfl rfl
theorem dksX10_tellLaw_8 : cX10_tellLaw.data.toList.drop 183 = dktX10_tellLaw_8 := dk_seg dksX10_tellLaw_7 22 rfl rfl
theorem dX10_tellLaw_0 : decode cX10_tellLaw 0 = .ok (.aload_n 0, 1) := dk_42 (dk_at dksX10_tellLaw_0 0 rfl rfl)
theorem dX10_tellLaw_1 : decode cX10_tellLaw 1 = .ok (.iconst 5, 1) := dk_8 (dk_at dksX10_tellLaw_0 1 rfl rfl)
theorem dX10_tellLaw_2 : decode cX10_tellLaw 2 = .ok (.invokevirtual 299, 3) := dk_182 1 43 (dk_at dksX10_tellLaw_0 2 rfl rfl)
theorem dX10_tellLaw_5 : decode cX10_tellLaw 5 = .ok (.aload_n 0, 1) := dk_42 (dk_at dksX10_tellLaw_0 5 rfl rfl)
theorem dX10_tellLaw_6 : decode cX10_tellLaw 6 = .ok (.getfield 251, 3) := dk_180 0 251 (dk_at dksX10_tellLaw_0 6 rfl rfl)
theorem dX10_tellLaw_9 : decode cX10_tellLaw 9 = .ok (.istore_n 2, 1) := dk_61 (dk_at dksX10_tellLaw_0 9 rfl rfl)
theorem dX10_tellLaw_10 : decode cX10_tellLaw 10 = .ok (.iconst 0, 1) := dk_3 (dk_at dksX10_tellLaw_0 10 rfl rfl)
theorem dX10_tellLaw_11 : decode cX10_tellLaw 11 = .ok (.istore_n 3, 1) := dk_62 (dk_at dksX10_tellLaw_0 11 rfl rfl)
theorem dX10_tellLaw_12 : decode cX10_tellLaw 12 = .ok (.aload_n 0, 1) := dk_42 (dk_at dksX10_tellLaw_0 12 rfl rfl)
theorem dX10_tellLaw_13 : decode cX10_tellLaw 13 = .ok (.getfield 212, 3) := dk_180 0 212 (dk_at dksX10_tellLaw_0 13 rfl rfl)
theorem dX10_tellLaw_16 : decode cX10_tellLaw 16 = .ok (.ifCond .ne 113, 3) := dk_154 0 113 (dk_at dksX10_tellLaw_0 16 rfl rfl)
theorem dX10_tellLaw_19 : decode cX10_tellLaw 19 = .ok (.aload_n 0, 1) := dk_42 (dk_at dksX10_tellLaw_0 19 rfl rfl)
theorem dX10_tellLaw_20 : decode cX10_tellLaw 20 = .ok (.bipush 31, 2) := dk_16 31 (dk_at dksX10_tellLaw_0 20 rfl rfl)
theorem dX10_tellLaw_22 : decode cX10_tellLaw 22 = .ok (.invokevirtual 230, 3) := dk_182 0 230 (dk_at dksX10_tellLaw_1 0 rfl rfl)
theorem dX10_tellLaw_25 : decode cX10_tellLaw 25 = .ok (.ifCond .eq 104, 3) := dk_153 0 104 (dk_at dksX10_tellLaw_1 3 rfl rfl)
theorem dX10_tellLaw_28 : decode cX10_tellLaw 28 = .ok (.iload_n 3, 1) := dk_29 (dk_at dksX10_tellLaw_1 6 rfl rfl)
theorem dX10_tellLaw_29 : decode cX10_tellLaw 29 = .ok (.iconst 4, 1) := dk_7 (dk_at dksX10_tellLaw_1 7 rfl rfl)
theorem dX10_tellLaw_30 : decode cX10_tellLaw 30 = .ok (.if_icmp .ne 8, 3) := dk_160 0 8 (dk_at dksX10_tellLaw_1 8 rfl rfl)
theorem dX10_tellLaw_33 : decode cX10_tellLaw 33 = .ok (.aload_n 0, 1) := dk_42 (dk_at dksX10_tellLaw_1 11 rfl rfl)
theorem dX10_tellLaw_34 : decode cX10_tellLaw 34 = .ok (.iconst 2, 1) := dk_5 (dk_at dksX10_tellLaw_1 12 rfl rfl)
theorem dX10_tellLaw_35 : decode cX10_tellLaw 35 = .ok (.invokevirtual 227, 3) := dk_182 0 227 (dk_at dksX10_tellLaw_1 13 rfl rfl)
theorem dX10_tellLaw_38 : decode cX10_tellLaw 38 = .ok (.aload_n 0, 1) := dk_42 (dk_at dksX10_tellLaw_1 16 rfl rfl)
theorem dX10_tellLaw_39 : decode cX10_tellLaw 39 = .ok (.getfield 212, 3) := dk_180 0 212 (dk_at dksX10_tellLaw_1 17 rfl rfl)
theorem dX10_tellLaw_42 : decode cX10_tellLaw 42 = .ok (.ifCond .le 4, 3) := dk_158 0 4 (dk_at dksX10_tellLaw_1 20 rfl rfl)
theorem dX10_tellLaw_45 : decode cX10_tellLaw 45 = .ok (.return_, 1) := dk_177 (dk_at dksX10_tellLaw_1 23 rfl rfl)
theorem dX10_tellLaw_46 : decode cX10_tellLaw 46 = .ok (.iinc 3 1, 3) := dk_132 3 1 (dk_at dksX10_tellLaw_2 0 rfl rfl)
theorem dX10_tellLaw_49 : decode cX10_tellLaw 49 = .ok (.aload_n 0, 1) := dk_42 (dk_at dksX10_tellLaw_2 3 rfl rfl)
theorem dX10_tellLaw_50 : decode cX10_tellLaw 50 = .ok (.invokevirtual 233, 3) := dk_182 0 233 (dk_at dksX10_tellLaw_2 4 rfl rfl)
theorem dX10_tellLaw_53 : decode cX10_tellLaw 53 = .ok (.aload_n 0, 1) := dk_42 (dk_at dksX10_tellLaw_2 7 rfl rfl)
theorem dX10_tellLaw_54 : decode cX10_tellLaw 54 = .ok (.getfield 100, 3) := dk_180 0 100 (dk_at dksX10_tellLaw_2 8 rfl rfl)
theorem dX10_tellLaw_57 : decode cX10_tellLaw 57 = .ok (.aload_n 0, 1) := dk_42 (dk_at dksX10_tellLaw_2 11 rfl rfl)
theorem dX10_tellLaw_58 : decode cX10_tellLaw 58 = .ok (.getfield 251, 3) := dk_180 0 251 (dk_at dksX10_tellLaw_2 12 rfl rfl)
theorem dX10_tellLaw_61 : decode cX10_tellLaw 61 = .ok (.iconst 1, 1) := dk_4 (dk_at dksX10_tellLaw_2 15 rfl rfl)
theorem dX10_tellLaw_62 : decode cX10_tellLaw 62 = .ok (.bastore, 1) := dk_84 (dk_at dksX10_tellLaw_2 16 rfl rfl)
theorem dX10_tellLaw_63 : decode cX10_tellLaw 63 = .ok (.aload_n 0, 1) := dk_42 (dk_at dksX10_tellLaw_2 17 rfl rfl)
theorem dX10_tellLaw_64 : decode cX10_tellLaw 64 = .ok (.getfield 104, 3) := dk_180 0 104 (dk_at dksX10_tellLaw_2 18 rfl rfl)
theorem dX10_tellLaw_67 : decode cX10_tellLaw 67 = .ok (.aload_n 0, 1) := dk_42 (dk_at dksX10_tellLaw_2 21 rfl rfl)
theorem dX10_tellLaw_68 : decode cX10_tellLaw 68 = .ok (.getfield 251, 3) := dk_180 0 251 (dk_at dksX10_tellLaw_3 0 rfl rfl)
theorem dX10_tellLaw_71 : decode cX10_tellLaw 71 = .ok (.aload_n 0, 1) := dk_42 (dk_at dksX10_tellLaw_3 3 rfl rfl)
theorem dX10_tellLaw_72 : decode cX10_tellLaw 72 = .ok (.getfield 254, 3) := dk_180 0 254 (dk_at dksX10_tellLaw_3 4 rfl rfl)
theorem dX10_tellLaw_75 : decode cX10_tellLaw 75 = .ok (.iastore, 1) := dk_79 (dk_at dksX10_tellLaw_3 7 rfl rfl)
theorem dX10_tellLaw_76 : decode cX10_tellLaw 76 = .ok (.aload_n 0, 1) := dk_42 (dk_at dksX10_tellLaw_3 8 rfl rfl)
theorem dX10_tellLaw_77 : decode cX10_tellLaw 77 = .ok (.invokevirtual 311, 3) := dk_182 1 55 (dk_at dksX10_tellLaw_3 9 rfl rfl)
theorem dX10_tellLaw_80 : decode cX10_tellLaw 80 = .ok (.aload_n 0, 1) := dk_42 (dk_at dksX10_tellLaw_3 12 rfl rfl)
theorem dX10_tellLaw_81 : decode cX10_tellLaw 81 = .ok (.bipush 13, 2) := dk_16 13 (dk_at dksX10_tellLaw_3 13 rfl rfl)
theorem dX10_tellLaw_83 : decode cX10_tellLaw 83 = .ok (.invokevirtual 299, 3) := dk_182 1 43 (dk_at dksX10_tellLaw_3 15 rfl rfl)
theorem dX10_tellLaw_86 : decode cX10_tellLaw 86 = .ok (.aload_n 0, 1) := dk_42 (dk_at dksX10_tellLaw_3 18 rfl rfl)
theorem dX10_tellLaw_87 : decode cX10_tellLaw 87 = .ok (.getfield 107, 3) := dk_180 0 107 (dk_at dksX10_tellLaw_3 19 rfl rfl)
theorem dX10_tellLaw_90 : decode cX10_tellLaw 90 = .ok (.aload_n 0, 1) := dk_42 (dk_at dksX10_tellLaw_3 22 rfl rfl)
theorem dX10_tellLaw_91 : decode cX10_tellLaw 91 = .ok (.getfield 251, 3) := dk_180 0 251 (dk_at dksX10_tellLaw_4 0 rfl rfl)
theorem dX10_tellLaw_94 : decode cX10_tellLaw 94 = .ok (.aload_n 0, 1) := dk_42 (dk_at dksX10_tellLaw_4 3 rfl rfl)
theorem dX10_tellLaw_95 : decode cX10_tellLaw 95 = .ok (.getfield 254, 3) := dk_180 0 254 (dk_at dksX10_tellLaw_4 4 rfl rfl)
theorem dX10_tellLaw_98 : decode cX10_tellLaw 98 = .ok (.iastore, 1) := dk_79 (dk_at dksX10_tellLaw_4 7 rfl rfl)
theorem dX10_tellLaw_99 : decode cX10_tellLaw 99 = .ok (.aload_n 0, 1) := dk_42 (dk_at dksX10_tellLaw_4 8 rfl rfl)
theorem dX10_tellLaw_100 : decode cX10_tellLaw 100 = .ok (.getfield 212, 3) := dk_180 0 212 (dk_at dksX10_tellLaw_4 9 rfl rfl)
theorem dX10_tellLaw_103 : decode cX10_tellLaw 103 = .ok (.ifCond .ne 7, 3) := dk_154 0 7 (dk_at dksX10_tellLaw_4 12 rfl rfl)
theorem dX10_tellLaw_106 : decode cX10_tellLaw 106 = .ok (.aload_n 0, 1) := dk_42 (dk_at dksX10_tellLaw_4 15 rfl rfl)
theorem dX10_tellLaw_107 : decode cX10_tellLaw 107 = .ok (.invokevirtual 311, 3) := dk_182 1 55 (dk_at dksX10_tellLaw_4 16 rfl rfl)
theorem dX10_tellLaw_110 : decode cX10_tellLaw 110 = .ok (.aload_n 0, 1) := dk_42 (dk_at dksX10_tellLaw_4 19 rfl rfl)
theorem dX10_tellLaw_111 : decode cX10_tellLaw 111 = .ok (.bipush 32, 2) := dk_16 32 (dk_at dksX10_tellLaw_4 20 rfl rfl)
theorem dX10_tellLaw_113 : decode cX10_tellLaw 113 = .ok (.invokevirtual 299, 3) := dk_182 1 43 (dk_at dksX10_tellLaw_5 0 rfl rfl)
theorem dX10_tellLaw_116 : decode cX10_tellLaw 116 = .ok (.aload_n 0, 1) := dk_42 (dk_at dksX10_tellLaw_5 3 rfl rfl)
theorem dX10_tellLaw_117 : decode cX10_tellLaw 117 = .ok (.invokevirtual 314, 3) := dk_182 1 58 (dk_at dksX10_tellLaw_5 4 rfl rfl)
theorem dX10_tellLaw_120 : decode cX10_tellLaw 120 = .ok (.aload_n 0, 1) := dk_42 (dk_at dksX10_tellLaw_5 7 rfl rfl)
theorem dX10_tellLaw_121 : decode cX10_tellLaw 121 = .ok (.bipush 33, 2) := dk_16 33 (dk_at dksX10_tellLaw_5 8 rfl rfl)
theorem dX10_tellLaw_123 : decode cX10_tellLaw 123 = .ok (.invokevirtual 299, 3) := dk_182 1 43 (dk_at dksX10_tellLaw_5 10 rfl rfl)
theorem dX10_tellLaw_126 : decode cX10_tellLaw 126 = .ok (.goto (-114), 3) := dk_167 255 142 (dk_at dksX10_tellLaw_5 13 rfl rfl)
theorem dX10_tellLaw_129 : decode cX10_tellLaw 129 = .ok (.aload_n 0, 1) := dk_42 (dk_at dksX10_tellLaw_5 16 rfl rfl)
theorem dX10_tellLaw_130 : decode cX10_tellLaw 130 = .ok (.getfield 100, 3) := dk_180 0 100 (dk_at dksX10_tellLaw_5 17 rfl rfl)
theorem dX10_tellLaw_133 : decode cX10_tellLaw 133 = .ok (.aload_n 0, 1) := dk_42 (dk_at dksX10_tellLaw_5 20 rfl rfl)
theorem dX10_tellLaw_134 : decode cX10_tellLaw 134 = .ok (.getfield 251, 3) := dk_180 0 251 (dk_at dksX10_tellLaw_5 21 rfl rfl)
theorem dX10_tellLaw_137 : decode cX10_tellLaw 137 = .ok (.iconst 0, 1) := dk_3 (dk_at dksX10_tellLaw_6 0 rfl rfl)
theorem dX10_tellLaw_138 : decode cX10_tellLaw 138 = .ok (.bastore, 1) := dk_84 (dk_at dksX10_tellLaw_6 1 rfl rfl)
theorem dX10_tellLaw_139 : decode cX10_tellLaw 139 = .ok (.aload_n 0, 1) := dk_42 (dk_at dksX10_tellLaw_6 2 rfl rfl)
theorem dX10_tellLaw_140 : decode cX10_tellLaw 140 = .ok (.invokevirtual 314, 3) := dk_182 1 58 (dk_at dksX10_tellLaw_6 3 rfl rfl)
theorem dX10_tellLaw_143 : decode cX10_tellLaw 143 = .ok (.aload_n 0, 1) := dk_42 (dk_at dksX10_tellLaw_6 6 rfl rfl)
theorem dX10_tellLaw_144 : decode cX10_tellLaw 144 = .ok (.iconst 4, 1) := dk_7 (dk_at dksX10_tellLaw_6 7 rfl rfl)
theorem dX10_tellLaw_145 : decode cX10_tellLaw 145 = .ok (.invokevirtual 299, 3) := dk_182 1 43 (dk_at dksX10_tellLaw_6 8 rfl rfl)
theorem dX10_tellLaw_148 : decode cX10_tellLaw 148 = .ok (.aload_n 0, 1) := dk_42 (dk_at dksX10_tellLaw_6 11 rfl rfl)
theorem dX10_tellLaw_149 : decode cX10_tellLaw 149 = .ok (.getfield 212, 3) := dk_180 0 212 (dk_at dksX10_tellLaw_6 12 rfl rfl)
theorem dX10_tellLaw_152 : decode cX10_tellLaw 152 = .ok (.ifCond .le 4, 3) := dk_158 0 4 (dk_at dksX10_tellLaw_6 15 rfl rfl)
theorem dX10_tellLaw_155 : decode cX10_tellLaw 155 = .ok (.return_, 1) := dk_177 (dk_at dksX10_tellLaw_6 18 rfl rfl)
theorem dX10_tellLaw_156 : decode cX10_tellLaw 156 = .ok (.aload_n 0, 1) := dk_42 (dk_at dksX10_tellLaw_6 19 rfl rfl)
theorem dX10_tellLaw_157 : decode cX10_tellLaw 157 = .ok (.getfield 94, 3) := dk_180 0 94 (dk_at dksX10_tellLaw_6 20 rfl rfl)
theorem dX10_tellLaw_160 : decode cX10_tellLaw 160 = .ok (.iconst 4, 1) := dk_7 (dk_at dksX10_tellLaw_6 23 rfl rfl)
theorem dX10_tellLaw_161 : decode cX10_tellLaw 161 = .ok (.aload_n 0, 1) := dk_42 (dk_at dksX10_tellLaw_7 0 rfl rfl)
theorem dX10_tellLaw_162 : decode cX10_tellLaw 162 = .ok (.getfield 245, 3) := dk_180 0 245 (dk_at dksX10_tellLaw_7 1 rfl rfl)
theorem dX10_tellLaw_165 : decode cX10_tellLaw 165 = .ok (.imul, 1) := dk_104 (dk_at dksX10_tellLaw_7 4 rfl rfl)
theorem dX10_tellLaw_166 : decode cX10_tellLaw 166 = .ok (.iload_n 1, 1) := dk_27 (dk_at dksX10_tellLaw_7 5 rfl rfl)
theorem dX10_tellLaw_167 : decode cX10_tellLaw 167 = .ok (.iadd, 1) := dk_96 (dk_at dksX10_tellLaw_7 6 rfl rfl)
theorem dX10_tellLaw_168 : decode cX10_tellLaw 168 = .ok (.iload_n 2, 1) := dk_28 (dk_at dksX10_tellLaw_7 7 rfl rfl)
theorem dX10_tellLaw_169 : decode cX10_tellLaw 169 = .ok (.iastore, 1) := dk_79 (dk_at dksX10_tellLaw_7 8 rfl rfl)
theorem dX10_tellLaw_170 : decode cX10_tellLaw 170 = .ok (.aload_n 0, 1) := dk_42 (dk_at dksX10_tellLaw_7 9 rfl rfl)
theorem dX10_tellLaw_171 : decode cX10_tellLaw 171 = .ok (.getfield 97, 3) := dk_180 0 97 (dk_at dksX10_tellLaw_7 10 rfl rfl)
theorem dX10_tellLaw_174 : decode cX10_tellLaw 174 = .ok (.iconst 4, 1) := dk_7 (dk_at dksX10_tellLaw_7 13 rfl rfl)
theorem dX10_tellLaw_175 : decode cX10_tellLaw 175 = .ok (.aload_n 0, 1) := dk_42 (dk_at dksX10_tellLaw_7 14 rfl rfl)
theorem dX10_tellLaw_176 : decode cX10_tellLaw 176 = .ok (.getfield 245, 3) := dk_180 0 245 (dk_at dksX10_tellLaw_7 15 rfl rfl)
theorem dX10_tellLaw_179 : decode cX10_tellLaw 179 = .ok (.imul, 1) := dk_104 (dk_at dksX10_tellLaw_7 18 rfl rfl)
theorem dX10_tellLaw_180 : decode cX10_tellLaw 180 = .ok (.iload_n 1, 1) := dk_27 (dk_at dksX10_tellLaw_7 19 rfl rfl)
theorem dX10_tellLaw_181 : decode cX10_tellLaw 181 = .ok (.iadd, 1) := dk_96 (dk_at dksX10_tellLaw_7 20 rfl rfl)
theorem dX10_tellLaw_182 : decode cX10_tellLaw 182 = .ok (.aload_n 0, 1) := dk_42 (dk_at dksX10_tellLaw_7 21 rfl rfl)
theorem dX10_tellLaw_183 : decode cX10_tellLaw 183 = .ok (.getfield 251, 3) := dk_180 0 251 (dk_at dksX10_tellLaw_8 0 rfl rfl)
theorem dX10_tellLaw_186 : decode cX10_tellLaw 186 = .ok (.iastore, 1) := dk_79 (dk_at dksX10_tellLaw_8 3 rfl rfl)
theorem dX10_tellLaw_187 : decode cX10_tellLaw 187 = .ok (.return_, 1) := dk_177 (dk_at dksX10_tellLaw_8 4 rfl rfl)
abbrev cX10_expression : ByteArray := prog_21_method_37_code
def yX10_expression : MethodName := ⟨RX10, "expression", "()V"⟩
def dkwX10_expression_11 : List UInt8 := [180, 1, 61, 4, 96, 181, 1, 61, 42, 182, 0, 233, 167, 254, 255, 177]
abbrev dktX10_expression_11 : List UInt8 := dkwX10_expression_11 ++ []
def dkwX10_expression_10 : List UInt8 := [182, 1, 70, 42, 180, 0, 122, 42, 180, 1, 61, 42, 180, 0, 20, 42, 180, 0, 215, 46, 79, 42, 89]
abbrev dktX10_expression_10 : List UInt8 := dkwX10_expression_10 ++ dktX10_expression_11
def dkwX10_expression_9 : List UInt8 := [16, 10, 182, 0, 230, 154, 0, 12, 42, 16, 15, 182, 0, 230, 153, 0, 7, 4, 167, 0, 4, 3]
abbrev dktX10_expression_9 : List UInt8 := dkwX10_expression_9 ++ dktX10_expression_10
def dkwX10_expression_8 : List UInt8 := [154, 0, 22, 42, 180, 0, 239, 27, 164, 0, 8, 42, 4, 182, 0, 227, 42, 3, 182, 1, 70, 177, 42, 42]
abbrev dktX10_expression_8 : List UInt8 := dkwX10_expression_8 ++ dktX10_expression_9
def dkwX10_expression_7 : List UInt8 := [182, 0, 230, 154, 0, 12, 42, 16, 15, 182, 0, 230, 153, 0, 7, 4, 167, 0, 4, 3, 61, 28]
abbrev dktX10_expression_7 : List UInt8 := dkwX10_expression_7 ++ dktX10_expression_8
def dkwX10_expression_6 : List UInt8 := [167, 255, 210, 42, 16, 8, 182, 0, 230, 154, 0, 30, 42, 16, 9, 182, 0, 230, 154, 0, 21, 42, 16, 10]
abbrev dktX10_expression_6 : List UInt8 := dkwX10_expression_6 ++ dktX10_expression_7
def dkwX10_expression_5 : List UInt8 := [180, 1, 61, 4, 100, 181, 1, 61, 42, 89, 180, 0, 239, 4, 100, 181, 0, 239, 42, 182, 0, 233]
abbrev dktX10_expression_5 : List UInt8 := dkwX10_expression_5 ++ dktX10_expression_6
def dkwX10_expression_4 : List UInt8 := [42, 16, 7, 182, 0, 230, 153, 0, 43, 42, 180, 0, 239, 27, 164, 0, 35, 42, 3, 182, 1, 70, 42, 89]
abbrev dktX10_expression_4 : List UInt8 := dkwX10_expression_4 ++ dktX10_expression_5
def dkwX10_expression_3 : List UInt8 := [89, 180, 1, 61, 4, 96, 181, 1, 61, 167, 255, 198, 42, 182, 1, 67, 42, 180, 0, 212, 158, 0, 4, 177]
abbrev dktX10_expression_3 : List UInt8 := dkwX10_expression_3 ++ dktX10_expression_4
def dkwX10_expression_2 : List UInt8 := [180, 0, 239, 4, 96, 181, 0, 239, 42, 182, 0, 233, 42, 180, 0, 122, 42, 180, 1, 61, 16, 6, 79, 42]
abbrev dktX10_expression_2 : List UInt8 := dkwX10_expression_2 ++ dktX10_expression_3
def dkwX10_expression_1 : List UInt8 := [16, 6, 182, 0, 230, 153, 0, 55, 42, 180, 0, 239, 16, 6, 160, 0, 8, 42, 5, 182, 0, 227, 42, 89]
abbrev dktX10_expression_1 : List UInt8 := dkwX10_expression_1 ++ dktX10_expression_2
def dkwX10_expression_0 : List UInt8 := [42, 3, 181, 1, 61, 42, 180, 0, 239, 60, 4, 61, 28, 153, 1, 3, 42, 180, 0, 212, 154, 0, 252, 42]
abbrev dktX10_expression_0 : List UInt8 := dkwX10_expression_0 ++ dktX10_expression_1
theorem dksX10_expression_0 : cX10_expression.data.toList.drop 0 = dktX10_expression_0 := by decide +kernel
theorem dksX10_expression_1 : cX10_expression.data.toList.drop 24 = dktX10_expression_1 := dk_seg dksX10_expression_0 24 rfl rfl
theorem dksX10_expression_2 : cX10_expression.data.toList.drop 48 = dktX10_expression_2 := dk_seg dksX10_expression_1 24 rfl rfl
theorem dksX10_expression_3 : cX10_expression.data.toList.drop 72 = dktX10_expression_3 := dk_seg dksX10_expression_2 24 rfl rfl
theorem dksX10_expression_4 : cX10_expression.data.toList.drop 96 = dktX10_expression_4 := dk_seg dksX10_expression_3 24 rfl rfl
theorem dksX10_expression_5 : cX10_expression.data.toList.drop 120 = dktX10_expression_5 := dk_seg dksX10_expression_4 24 rfl rfl
theorem dksX10_expression_6 : cX10_expression.data.toList.drop 142 = dktX10_expression_6 := dk_seg dksX10_expression_5 22 rfl rfl
theorem dksX10_expression_7 : cX10_expression.data.toList.drop 166 = dktX10_expression_7 := dk_seg dksX10_expression_6 24 rfl rfl
theorem dksX10_expression_8 : cX10_expression.data.toList.drop 188 = dktX10_expression_8 := dk_seg dksX10_expression_7 22 rfl rfl
theorem dksX10_expression_9 : cX10_expression.data.toList.drop 212 = dktX10_expression_9 := dk_seg dksX10_expression_8 24 rfl rfl
theorem dksX10_expression_10 : cX10_expression.data.toList.drop 234 = dktX10_expression_10 := dk_seg dksX10_expression_9 22 rfl rfl
theorem dksX10_expression_11 : cX10_expression.data.toList.drop 257 = dktX10_expression_11 := dk_seg dksX10_expression_10 23 rfl rfl
theorem dX10_expression_0 : decode cX10_expression 0 = .ok (.aload_n 0, 1) := dk_42 (dk_at dksX10_expression_0 0 rfl rfl)
theorem dX10_expression_1 : decode cX10_expression 1 = .ok (.iconst 0, 1) := dk_3 (dk_at dksX10_expression_0 1 rfl rfl)
theorem dX10_expression_2 : decode cX10_expression 2 = .ok (.putfield 317, 3) := dk_181 1 61 (dk_at dksX10_expression_0 2 rfl rfl)
theorem dX10_expression_5 : decode cX10_expression 5 = .ok (.aload_n 0, 1) := dk_42 (dk_at dksX10_expression_0 5 rfl rfl)
theorem dX10_expression_6 : decode cX10_expression 6 = .ok (.getfield 239, 3) := dk_180 0 239 (dk_at dksX10_expression_0 6 rfl rfl)
theorem dX10_expression_9 : decode cX10_expression 9 = .ok (.istore_n 1, 1) := dk_60 (dk_at dksX10_expression_0 9 rfl rfl)
theorem dX10_expression_10 : decode cX10_expression 10 = .ok (.iconst 1, 1) := dk_4 (dk_at dksX10_expression_0 10 rfl rfl)
theorem dX10_expression_11 : decode cX10_expression 11 = .ok (.istore_n 2, 1) := dk_61 (dk_at dksX10_expression_0 11 rfl rfl)
theorem dX10_expression_12 : decode cX10_expression 12 = .ok (.iload_n 2, 1) := dk_28 (dk_at dksX10_expression_0 12 rfl rfl)
theorem dX10_expression_13 : decode cX10_expression 13 = .ok (.ifCond .eq 259, 3) := dk_153 1 3 (dk_at dksX10_expression_0 13 rfl rfl)
theorem dX10_expression_16 : decode cX10_expression 16 = .ok (.aload_n 0, 1) := dk_42 (dk_at dksX10_expression_0 16 rfl rfl)
theorem dX10_expression_17 : decode cX10_expression 17 = .ok (.getfield 212, 3) := dk_180 0 212 (dk_at dksX10_expression_0 17 rfl rfl)
theorem dX10_expression_20 : decode cX10_expression 20 = .ok (.ifCond .ne 252, 3) := dk_154 0 252 (dk_at dksX10_expression_0 20 rfl rfl)
theorem dX10_expression_23 : decode cX10_expression 23 = .ok (.aload_n 0, 1) := dk_42 (dk_at dksX10_expression_0 23 rfl rfl)
theorem dX10_expression_24 : decode cX10_expression 24 = .ok (.bipush 6, 2) := dk_16 6 (dk_at dksX10_expression_1 0 rfl rfl)
theorem dX10_expression_26 : decode cX10_expression 26 = .ok (.invokevirtual 230, 3) := dk_182 0 230 (dk_at dksX10_expression_1 2 rfl rfl)
theorem dX10_expression_29 : decode cX10_expression 29 = .ok (.ifCond .eq 55, 3) := dk_153 0 55 (dk_at dksX10_expression_1 5 rfl rfl)
theorem dX10_expression_32 : decode cX10_expression 32 = .ok (.aload_n 0, 1) := dk_42 (dk_at dksX10_expression_1 8 rfl rfl)
theorem dX10_expression_33 : decode cX10_expression 33 = .ok (.getfield 239, 3) := dk_180 0 239 (dk_at dksX10_expression_1 9 rfl rfl)
theorem dX10_expression_36 : decode cX10_expression 36 = .ok (.bipush 6, 2) := dk_16 6 (dk_at dksX10_expression_1 12 rfl rfl)
theorem dX10_expression_38 : decode cX10_expression 38 = .ok (.if_icmp .ne 8, 3) := dk_160 0 8 (dk_at dksX10_expression_1 14 rfl rfl)
theorem dX10_expression_41 : decode cX10_expression 41 = .ok (.aload_n 0, 1) := dk_42 (dk_at dksX10_expression_1 17 rfl rfl)
theorem dX10_expression_42 : decode cX10_expression 42 = .ok (.iconst 2, 1) := dk_5 (dk_at dksX10_expression_1 18 rfl rfl)
theorem dX10_expression_43 : decode cX10_expression 43 = .ok (.invokevirtual 227, 3) := dk_182 0 227 (dk_at dksX10_expression_1 19 rfl rfl)
theorem dX10_expression_46 : decode cX10_expression 46 = .ok (.aload_n 0, 1) := dk_42 (dk_at dksX10_expression_1 22 rfl rfl)
theorem dX10_expression_47 : decode cX10_expression 47 = .ok (.dup, 1) := dk_89 (dk_at dksX10_expression_1 23 rfl rfl)
theorem dX10_expression_48 : decode cX10_expression 48 = .ok (.getfield 239, 3) := dk_180 0 239 (dk_at dksX10_expression_2 0 rfl rfl)
theorem dX10_expression_51 : decode cX10_expression 51 = .ok (.iconst 1, 1) := dk_4 (dk_at dksX10_expression_2 3 rfl rfl)
theorem dX10_expression_52 : decode cX10_expression 52 = .ok (.iadd, 1) := dk_96 (dk_at dksX10_expression_2 4 rfl rfl)
theorem dX10_expression_53 : decode cX10_expression 53 = .ok (.putfield 239, 3) := dk_181 0 239 (dk_at dksX10_expression_2 5 rfl rfl)
theorem dX10_expression_56 : decode cX10_expression 56 = .ok (.aload_n 0, 1) := dk_42 (dk_at dksX10_expression_2 8 rfl rfl)
theorem dX10_expression_57 : decode cX10_expression 57 = .ok (.invokevirtual 233, 3) := dk_182 0 233 (dk_at dksX10_expression_2 9 rfl rfl)
theorem dX10_expression_60 : decode cX10_expression 60 = .ok (.aload_n 0, 1) := dk_42 (dk_at dksX10_expression_2 12 rfl rfl)
theorem dX10_expression_61 : decode cX10_expression 61 = .ok (.getfield 122, 3) := dk_180 0 122 (dk_at dksX10_expression_2 13 rfl rfl)
theorem dX10_expression_64 : decode cX10_expression 64 = .ok (.aload_n 0, 1) := dk_42 (dk_at dksX10_expression_2 16 rfl rfl)
theorem dX10_expression_65 : decode cX10_expression 65 = .ok (.getfield 317, 3) := dk_180 1 61 (dk_at dksX10_expression_2 17 rfl rfl)
theorem dX10_expression_68 : decode cX10_expression 68 = .ok (.bipush 6, 2) := dk_16 6 (dk_at dksX10_expression_2 20 rfl rfl)
theorem dX10_expression_70 : decode cX10_expression 70 = .ok (.iastore, 1) := dk_79 (dk_at dksX10_expression_2 22 rfl rfl)
theorem dX10_expression_71 : decode cX10_expression 71 = .ok (.aload_n 0, 1) := dk_42 (dk_at dksX10_expression_2 23 rfl rfl)
theorem dX10_expression_72 : decode cX10_expression 72 = .ok (.dup, 1) := dk_89 (dk_at dksX10_expression_3 0 rfl rfl)
theorem dX10_expression_73 : decode cX10_expression 73 = .ok (.getfield 317, 3) := dk_180 1 61 (dk_at dksX10_expression_3 1 rfl rfl)
theorem dX10_expression_76 : decode cX10_expression 76 = .ok (.iconst 1, 1) := dk_4 (dk_at dksX10_expression_3 4 rfl rfl)
theorem dX10_expression_77 : decode cX10_expression 77 = .ok (.iadd, 1) := dk_96 (dk_at dksX10_expression_3 5 rfl rfl)
theorem dX10_expression_78 : decode cX10_expression 78 = .ok (.putfield 317, 3) := dk_181 1 61 (dk_at dksX10_expression_3 6 rfl rfl)
theorem dX10_expression_81 : decode cX10_expression 81 = .ok (.goto (-58), 3) := dk_167 255 198 (dk_at dksX10_expression_3 9 rfl rfl)
theorem dX10_expression_84 : decode cX10_expression 84 = .ok (.aload_n 0, 1) := dk_42 (dk_at dksX10_expression_3 12 rfl rfl)
theorem dX10_expression_85 : decode cX10_expression 85 = .ok (.invokevirtual 323, 3) := dk_182 1 67 (dk_at dksX10_expression_3 13 rfl rfl)
theorem dX10_expression_88 : decode cX10_expression 88 = .ok (.aload_n 0, 1) := dk_42 (dk_at dksX10_expression_3 16 rfl rfl)
theorem dX10_expression_89 : decode cX10_expression 89 = .ok (.getfield 212, 3) := dk_180 0 212 (dk_at dksX10_expression_3 17 rfl rfl)
theorem dX10_expression_92 : decode cX10_expression 92 = .ok (.ifCond .le 4, 3) := dk_158 0 4 (dk_at dksX10_expression_3 20 rfl rfl)
theorem dX10_expression_95 : decode cX10_expression 95 = .ok (.return_, 1) := dk_177 (dk_at dksX10_expression_3 23 rfl rfl)
theorem dX10_expression_96 : decode cX10_expression 96 = .ok (.aload_n 0, 1) := dk_42 (dk_at dksX10_expression_4 0 rfl rfl)
theorem dX10_expression_97 : decode cX10_expression 97 = .ok (.bipush 7, 2) := dk_16 7 (dk_at dksX10_expression_4 1 rfl rfl)
theorem dX10_expression_99 : decode cX10_expression 99 = .ok (.invokevirtual 230, 3) := dk_182 0 230 (dk_at dksX10_expression_4 3 rfl rfl)
theorem dX10_expression_102 : decode cX10_expression 102 = .ok (.ifCond .eq 43, 3) := dk_153 0 43 (dk_at dksX10_expression_4 6 rfl rfl)
theorem dX10_expression_105 : decode cX10_expression 105 = .ok (.aload_n 0, 1) := dk_42 (dk_at dksX10_expression_4 9 rfl rfl)
theorem dX10_expression_106 : decode cX10_expression 106 = .ok (.getfield 239, 3) := dk_180 0 239 (dk_at dksX10_expression_4 10 rfl rfl)
theorem dX10_expression_109 : decode cX10_expression 109 = .ok (.iload_n 1, 1) := dk_27 (dk_at dksX10_expression_4 13 rfl rfl)
theorem dX10_expression_110 : decode cX10_expression 110 = .ok (.if_icmp .le 35, 3) := dk_164 0 35 (dk_at dksX10_expression_4 14 rfl rfl)
theorem dX10_expression_113 : decode cX10_expression 113 = .ok (.aload_n 0, 1) := dk_42 (dk_at dksX10_expression_4 17 rfl rfl)
theorem dX10_expression_114 : decode cX10_expression 114 = .ok (.iconst 0, 1) := dk_3 (dk_at dksX10_expression_4 18 rfl rfl)
theorem dX10_expression_115 : decode cX10_expression 115 = .ok (.invokevirtual 326, 3) := dk_182 1 70 (dk_at dksX10_expression_4 19 rfl rfl)
theorem dX10_expression_118 : decode cX10_expression 118 = .ok (.aload_n 0, 1) := dk_42 (dk_at dksX10_expression_4 22 rfl rfl)
theorem dX10_expression_119 : decode cX10_expression 119 = .ok (.dup, 1) := dk_89 (dk_at dksX10_expression_4 23 rfl rfl)
theorem dX10_expression_120 : decode cX10_expression 120 = .ok (.getfield 317, 3) := dk_180 1 61 (dk_at dksX10_expression_5 0 rfl rfl)
theorem dX10_expression_123 : decode cX10_expression 123 = .ok (.iconst 1, 1) := dk_4 (dk_at dksX10_expression_5 3 rfl rfl)
theorem dX10_expression_124 : decode cX10_expression 124 = .ok (.isub, 1) := dk_100 (dk_at dksX10_expression_5 4 rfl rfl)
theorem dX10_expression_125 : decode cX10_expression 125 = .ok (.putfield 317, 3) := dk_181 1 61 (dk_at dksX10_expression_5 5 rfl rfl)
theorem dX10_expression_128 : decode cX10_expression 128 = .ok (.aload_n 0, 1) := dk_42 (dk_at dksX10_expression_5 8 rfl rfl)
theorem dX10_expression_129 : decode cX10_expression 129 = .ok (.dup, 1) := dk_89 (dk_at dksX10_expression_5 9 rfl rfl)
theorem dX10_expression_130 : decode cX10_expression 130 = .ok (.getfield 239, 3) := dk_180 0 239 (dk_at dksX10_expression_5 10 rfl rfl)
theorem dX10_expression_133 : decode cX10_expression 133 = .ok (.iconst 1, 1) := dk_4 (dk_at dksX10_expression_5 13 rfl rfl)
theorem dX10_expression_134 : decode cX10_expression 134 = .ok (.isub, 1) := dk_100 (dk_at dksX10_expression_5 14 rfl rfl)
theorem dX10_expression_135 : decode cX10_expression 135 = .ok (.putfield 239, 3) := dk_181 0 239 (dk_at dksX10_expression_5 15 rfl rfl)
theorem dX10_expression_138 : decode cX10_expression 138 = .ok (.aload_n 0, 1) := dk_42 (dk_at dksX10_expression_5 18 rfl rfl)
theorem dX10_expression_139 : decode cX10_expression 139 = .ok (.invokevirtual 233, 3) := dk_182 0 233 (dk_at dksX10_expression_5 19 rfl rfl)
theorem dX10_expression_142 : decode cX10_expression 142 = .ok (.goto (-46), 3) := dk_167 255 210 (dk_at dksX10_expression_6 0 rfl rfl)
theorem dX10_expression_145 : decode cX10_expression 145 = .ok (.aload_n 0, 1) := dk_42 (dk_at dksX10_expression_6 3 rfl rfl)
theorem dX10_expression_146 : decode cX10_expression 146 = .ok (.bipush 8, 2) := dk_16 8 (dk_at dksX10_expression_6 4 rfl rfl)
theorem dX10_expression_148 : decode cX10_expression 148 = .ok (.invokevirtual 230, 3) := dk_182 0 230 (dk_at dksX10_expression_6 6 rfl rfl)
theorem dX10_expression_151 : decode cX10_expression 151 = .ok (.ifCond .ne 30, 3) := dk_154 0 30 (dk_at dksX10_expression_6 9 rfl rfl)
theorem dX10_expression_154 : decode cX10_expression 154 = .ok (.aload_n 0, 1) := dk_42 (dk_at dksX10_expression_6 12 rfl rfl)
theorem dX10_expression_155 : decode cX10_expression 155 = .ok (.bipush 9, 2) := dk_16 9 (dk_at dksX10_expression_6 13 rfl rfl)
theorem dX10_expression_157 : decode cX10_expression 157 = .ok (.invokevirtual 230, 3) := dk_182 0 230 (dk_at dksX10_expression_6 15 rfl rfl)
theorem dX10_expression_160 : decode cX10_expression 160 = .ok (.ifCond .ne 21, 3) := dk_154 0 21 (dk_at dksX10_expression_6 18 rfl rfl)
theorem dX10_expression_163 : decode cX10_expression 163 = .ok (.aload_n 0, 1) := dk_42 (dk_at dksX10_expression_6 21 rfl rfl)
theorem dX10_expression_164 : decode cX10_expression 164 = .ok (.bipush 10, 2) := dk_16 10 (dk_at dksX10_expression_6 22 rfl rfl)
theorem dX10_expression_166 : decode cX10_expression 166 = .ok (.invokevirtual 230, 3) := dk_182 0 230 (dk_at dksX10_expression_7 0 rfl rfl)
theorem dX10_expression_169 : decode cX10_expression 169 = .ok (.ifCond .ne 12, 3) := dk_154 0 12 (dk_at dksX10_expression_7 3 rfl rfl)
theorem dX10_expression_172 : decode cX10_expression 172 = .ok (.aload_n 0, 1) := dk_42 (dk_at dksX10_expression_7 6 rfl rfl)
theorem dX10_expression_173 : decode cX10_expression 173 = .ok (.bipush 15, 2) := dk_16 15 (dk_at dksX10_expression_7 7 rfl rfl)
theorem dX10_expression_175 : decode cX10_expression 175 = .ok (.invokevirtual 230, 3) := dk_182 0 230 (dk_at dksX10_expression_7 9 rfl rfl)
theorem dX10_expression_178 : decode cX10_expression 178 = .ok (.ifCond .eq 7, 3) := dk_153 0 7 (dk_at dksX10_expression_7 12 rfl rfl)
theorem dX10_expression_181 : decode cX10_expression 181 = .ok (.iconst 1, 1) := dk_4 (dk_at dksX10_expression_7 15 rfl rfl)
theorem dX10_expression_182 : decode cX10_expression 182 = .ok (.goto 4, 3) := dk_167 0 4 (dk_at dksX10_expression_7 16 rfl rfl)
theorem dX10_expression_185 : decode cX10_expression 185 = .ok (.iconst 0, 1) := dk_3 (dk_at dksX10_expression_7 19 rfl rfl)
theorem dX10_expression_186 : decode cX10_expression 186 = .ok (.istore_n 2, 1) := dk_61 (dk_at dksX10_expression_7 20 rfl rfl)
theorem dX10_expression_187 : decode cX10_expression 187 = .ok (.iload_n 2, 1) := dk_28 (dk_at dksX10_expression_7 21 rfl rfl)
theorem dX10_expression_188 : decode cX10_expression 188 = .ok (.ifCond .ne 22, 3) := dk_154 0 22 (dk_at dksX10_expression_8 0 rfl rfl)
theorem dX10_expression_191 : decode cX10_expression 191 = .ok (.aload_n 0, 1) := dk_42 (dk_at dksX10_expression_8 3 rfl rfl)
theorem dX10_expression_192 : decode cX10_expression 192 = .ok (.getfield 239, 3) := dk_180 0 239 (dk_at dksX10_expression_8 4 rfl rfl)
theorem dX10_expression_195 : decode cX10_expression 195 = .ok (.iload_n 1, 1) := dk_27 (dk_at dksX10_expression_8 7 rfl rfl)
theorem dX10_expression_196 : decode cX10_expression 196 = .ok (.if_icmp .le 8, 3) := dk_164 0 8 (dk_at dksX10_expression_8 8 rfl rfl)
theorem dX10_expression_199 : decode cX10_expression 199 = .ok (.aload_n 0, 1) := dk_42 (dk_at dksX10_expression_8 11 rfl rfl)
theorem dX10_expression_200 : decode cX10_expression 200 = .ok (.iconst 1, 1) := dk_4 (dk_at dksX10_expression_8 12 rfl rfl)
theorem dX10_expression_201 : decode cX10_expression 201 = .ok (.invokevirtual 227, 3) := dk_182 0 227 (dk_at dksX10_expression_8 13 rfl rfl)
theorem dX10_expression_204 : decode cX10_expression 204 = .ok (.aload_n 0, 1) := dk_42 (dk_at dksX10_expression_8 16 rfl rfl)
theorem dX10_expression_205 : decode cX10_expression 205 = .ok (.iconst 0, 1) := dk_3 (dk_at dksX10_expression_8 17 rfl rfl)
theorem dX10_expression_206 : decode cX10_expression 206 = .ok (.invokevirtual 326, 3) := dk_182 1 70 (dk_at dksX10_expression_8 18 rfl rfl)
theorem dX10_expression_209 : decode cX10_expression 209 = .ok (.return_, 1) := dk_177 (dk_at dksX10_expression_8 21 rfl rfl)
theorem dX10_expression_210 : decode cX10_expression 210 = .ok (.aload_n 0, 1) := dk_42 (dk_at dksX10_expression_8 22 rfl rfl)
theorem dX10_expression_211 : decode cX10_expression 211 = .ok (.aload_n 0, 1) := dk_42 (dk_at dksX10_expression_8 23 rfl rfl)
theorem dX10_expression_212 : decode cX10_expression 212 = .ok (.bipush 10, 2) := dk_16 10 (dk_at dksX10_expression_9 0 rfl rfl)
theorem dX10_expression_214 : decode cX10_expression 214 = .ok (.invokevirtual 230, 3) := dk_182 0 230 (dk_at dksX10_expression_9 2 rfl rfl)
theorem dX10_expression_217 : decode cX10_expression 217 = .ok (.ifCond .ne 12, 3) := dk_154 0 12 (dk_at dksX10_expression_9 5 rfl rfl)
theorem dX10_expression_220 : decode cX10_expression 220 = .ok (.aload_n 0, 1) := dk_42 (dk_at dksX10_expression_9 8 rfl rfl)
theorem dX10_expression_221 : decode cX10_expression 221 = .ok (.bipush 15, 2) := dk_16 15 (dk_at dksX10_expression_9 9 rfl rfl)
theorem dX10_expression_223 : decode cX10_expression 223 = .ok (.invokevirtual 230, 3) := dk_182 0 230 (dk_at dksX10_expression_9 11 rfl rfl)
theorem dX10_expression_226 : decode cX10_expression 226 = .ok (.ifCond .eq 7, 3) := dk_153 0 7 (dk_at dksX10_expression_9 14 rfl rfl)
theorem dX10_expression_229 : decode cX10_expression 229 = .ok (.iconst 1, 1) := dk_4 (dk_at dksX10_expression_9 17 rfl rfl)
theorem dX10_expression_230 : decode cX10_expression 230 = .ok (.goto 4, 3) := dk_167 0 4 (dk_at dksX10_expression_9 18 rfl rfl)
theorem dX10_expression_233 : decode cX10_expression 233 = .ok (.iconst 0, 1) := dk_3 (dk_at dksX10_expression_9 21 rfl rfl)
theorem dX10_expression_234 : decode cX10_expression 234 = .ok (.invokevirtual 326, 3) := dk_182 1 70 (dk_at dksX10_expression_10 0 rfl rfl)
theorem dX10_expression_237 : decode cX10_expression 237 = .ok (.aload_n 0, 1) := dk_42 (dk_at dksX10_expression_10 3 rfl rfl)
theorem dX10_expression_238 : decode cX10_expression 238 = .ok (.getfield 122, 3) := dk_180 0 122 (dk_at dksX10_expression_10 4 rfl rfl)
theorem dX10_expression_241 : decode cX10_expression 241 = .ok (.aload_n 0, 1) := dk_42 (dk_at dksX10_expression_10 7 rfl rfl)
theorem dX10_expression_242 : decode cX10_expression 242 = .ok (.getfield 317, 3) := dk_180 1 61 (dk_at dksX10_expression_10 8 rfl rfl)
theorem dX10_expression_245 : decode cX10_expression 245 = .ok (.aload_n 0, 1) := dk_42 (dk_at dksX10_expression_10 11 rfl rfl)
theorem dX10_expression_246 : decode cX10_expression 246 = .ok (.getfield 20, 3) := dk_180 0 20 (dk_at dksX10_expression_10 12 rfl rfl)
theorem dX10_expression_249 : decode cX10_expression 249 = .ok (.aload_n 0, 1) := dk_42 (dk_at dksX10_expression_10 15 rfl rfl)
theorem dX10_expression_250 : decode cX10_expression 250 = .ok (.getfield 215, 3) := dk_180 0 215 (dk_at dksX10_expression_10 16 rfl rfl)
theorem dX10_expression_253 : decode cX10_expression 253 = .ok (.iaload, 1) := dk_46 (dk_at dksX10_expression_10 19 rfl rfl)
theorem dX10_expression_254 : decode cX10_expression 254 = .ok (.iastore, 1) := dk_79 (dk_at dksX10_expression_10 20 rfl rfl)
theorem dX10_expression_255 : decode cX10_expression 255 = .ok (.aload_n 0, 1) := dk_42 (dk_at dksX10_expression_10 21 rfl rfl)
theorem dX10_expression_256 : decode cX10_expression 256 = .ok (.dup, 1) := dk_89 (dk_at dksX10_expression_10 22 rfl rfl)
theorem dX10_expression_257 : decode cX10_expression 257 = .ok (.getfield 317, 3) := dk_180 1 61 (dk_at dksX10_expression_11 0 rfl rfl)
theorem dX10_expression_260 : decode cX10_expression 260 = .ok (.iconst 1, 1) := dk_4 (dk_at dksX10_expression_11 3 rfl rfl)
theorem dX10_expression_261 : decode cX10_expression 261 = .ok (.iadd, 1) := dk_96 (dk_at dksX10_expression_11 4 rfl rfl)
theorem dX10_expression_262 : decode cX10_expression 262 = .ok (.putfield 317, 3) := dk_181 1 61 (dk_at dksX10_expression_11 5 rfl rfl)
theorem dX10_expression_265 : decode cX10_expression 265 = .ok (.aload_n 0, 1) := dk_42 (dk_at dksX10_expression_11 8 rfl rfl)
theorem dX10_expression_266 : decode cX10_expression 266 = .ok (.invokevirtual 233, 3) := dk_182 0 233 (dk_at dksX10_expression_11 9 rfl rfl)
theorem dX10_expression_269 : decode cX10_expression 269 = .ok (.goto (-257), 3) := dk_167 254 255 (dk_at dksX10_expression_11 12 rfl rfl)
theorem dX10_expression_272 : decode cX10_expression 272 = .ok (.return_, 1) := dk_177 (dk_at dksX10_expression_11 15 rfl rfl)
abbrev cX10_unit : ByteArray := prog_21_method_38_code
def yX10_unit : MethodName := ⟨RX10, "unit", "()V"⟩
def dkwX10_unit_3 : List UInt8 := [180, 0, 215, 46, 16, 34, 100, 182, 1, 64, 42, 182, 0, 233, 167, 0, 8, 42, 4, 182, 0, 227, 177]
abbrev dktX10_unit_3 : List UInt8 := dkwX10_unit_3 ++ []
def dkwX10_unit_2 : List UInt8 := [161, 0, 41, 42, 180, 0, 20, 42, 180, 0, 215, 46, 16, 42, 163, 0, 27, 42, 4, 42, 180, 0, 20, 42]
abbrev dktX10_unit_2 : List UInt8 := dkwX10_unit_2 ++ dktX10_unit_3
def dkwX10_unit_1 : List UInt8 := [182, 0, 233, 167, 0, 67, 42, 180, 0, 212, 154, 0, 55, 42, 180, 0, 20, 42, 180, 0, 215, 46, 16, 34]
abbrev dktX10_unit_1 : List UInt8 := dkwX10_unit_1 ++ dktX10_unit_2
def dkwX10_unit_0 : List UInt8 := [42, 5, 182, 0, 230, 153, 0, 24, 42, 3, 42, 180, 0, 27, 42, 180, 0, 215, 46, 182, 1, 64, 42]
abbrev dktX10_unit_0 : List UInt8 := dkwX10_unit_0 ++ dktX10_unit_1
theorem dksX10_unit_0 : cX10_unit.data.toList.drop 0 = dktX10_unit_0 := by decide +kernel
theorem dksX10_unit_1 : cX10_unit.data.toList.drop 23 = dktX10_unit_1 := dk_seg dksX10_unit_0 23 rfl rfl
theorem dksX10_unit_2 : cX10_unit.data.toList.drop 47 = dktX10_unit_2 := dk_seg dksX10_unit_1 24 rfl rfl
theorem dksX10_unit_3 : cX10_unit.data.toList.drop 71 = dktX10_unit_3 := dk_seg dksX10_unit_2 24 rfl rfl
theorem dX10_unit_0 : decode cX10_unit 0 = .ok (.aload_n 0, 1) := dk_42 (dk_at dksX10_unit_0 0 rfl rfl)
theorem dX10_unit_1 : decode cX10_unit 1 = .ok (.iconst 2, 1) := dk_5 (dk_at dksX10_unit_0 1 rfl rfl)
theorem dX10_unit_2 : decode cX10_unit 2 = .ok (.invokevirtual 230, 3) := dk_182 0 230 (dk_at dksX10_unit_0 2 rfl rfl)
theorem dX10_unit_5 : decode cX10_unit 5 = .ok (.ifCond .eq 24, 3) := dk_153 0 24 (dk_at dksX10_unit_0 5 rfl rfl)
theorem dX10_unit_8 : decode cX10_unit 8 = .ok (.aload_n 0, 1) := dk_42 (dk_at dksX10_unit_0 8 rfl rfl)
theorem dX10_unit_9 : decode cX10_unit 9 = .ok (.iconst 0, 1) := dk_3 (dk_at dksX10_unit_0 9 rfl rfl)
theorem dX10_unit_10 : decode cX10_unit 10 = .ok (.aload_n 0, 1) := dk_42 (dk_at dksX10_unit_0 10 rfl rfl)
theorem dX10_unit_11 : decode cX10_unit 11 = .ok (.getfield 27, 3) := dk_180 0 27 (dk_at dksX10_unit_0 11 rfl rfl)
theorem dX10_unit_14 : decode cX10_unit 14 = .ok (.aload_n 0, 1) := dk_42 (dk_at dksX10_unit_0 14 rfl rfl)
theorem dX10_unit_15 : decode cX10_unit 15 = .ok (.getfield 215, 3) := dk_180 0 215 (dk_at dksX10_unit_0 15 rfl rfl)
theorem dX10_unit_18 : decode cX10_unit 18 = .ok (.iaload, 1) := dk_46 (dk_at dksX10_unit_0 18 rfl rfl)
theorem dX10_unit_19 : decode cX10_unit 19 = .ok (.invokevirtual 320, 3) := dk_182 1 64 (dk_at dksX10_unit_0 19 rfl rfl)
theorem dX10_unit_22 : decode cX10_unit 22 = .ok (.aload_n 0, 1) := dk_42 (dk_at dksX10_unit_0 22 rfl rfl)
theorem dX10_unit_23 : decode cX10_unit 23 = .ok (.invokevirtual 233, 3) := dk_182 0 233 (dk_at dksX10_unit_1 0 rfl rfl)
theorem dX10_unit_26 : decode cX10_unit 26 = .ok (.goto 67, 3) := dk_167 0 67 (dk_at dksX10_unit_1 3 rfl rfl)
theorem dX10_unit_29 : decode cX10_unit 29 = .ok (.aload_n 0, 1) := dk_42 (dk_at dksX10_unit_1 6 rfl rfl)
theorem dX10_unit_30 : decode cX10_unit 30 = .ok (.getfield 212, 3) := dk_180 0 212 (dk_at dksX10_unit_1 7 rfl rfl)
theorem dX10_unit_33 : decode cX10_unit 33 = .ok (.ifCond .ne 55, 3) := dk_154 0 55 (dk_at dksX10_unit_1 10 rfl rfl)
theorem dX10_unit_36 : decode cX10_unit 36 = .ok (.aload_n 0, 1) := dk_42 (dk_at dksX10_unit_1 13 rfl rfl)
theorem dX10_unit_37 : decode cX10_unit 37 = .ok (.getfield 20, 3) := dk_180 0 20 (dk_at dksX10_unit_1 14 rfl rfl)
theorem dX10_unit_40 : decode cX10_unit 40 = .ok (.aload_n 0, 1) := dk_42 (dk_at dksX10_unit_1 17 rfl rfl)
theorem dX10_unit_41 : decode cX10_unit 41 = .ok (.getfield 215, 3) := dk_180 0 215 (dk_at dksX10_unit_1 18 rfl rfl)
theorem dX10_unit_44 : decode cX10_unit 44 = .ok (.iaload, 1) := dk_46 (dk_at dksX10_unit_1 21 rfl rfl)
theorem dX10_unit_45 : decode cX10_unit 45 = .ok (.bipush 34, 2) := dk_16 34 (dk_at dksX10_unit_1 22 rfl rfl)
theorem dX10_unit_47 : decode cX10_unit 47 = .ok (.if_icmp .lt 41, 3) := dk_161 0 41 (dk_at dksX10_unit_2 0 rfl rfl)
theorem dX10_unit_50 : decode cX10_unit 50 = .ok (.aload_n 0, 1) := dk_42 (dk_at dksX10_unit_2 3 rfl rfl)
theorem dX10_unit_51 : decode cX10_unit 51 = .ok (.getfield 20, 3) := dk_180 0 20 (dk_at dksX10_unit_2 4 rfl rfl)
theorem dX10_unit_54 : decode cX10_unit 54 = .ok (.aload_n 0, 1) := dk_42 (dk_at dksX10_unit_2 7 rfl rfl)
theorem dX10_unit_55 : decode cX10_unit 55 = .ok (.getfield 215, 3) := dk_180 0 215 (dk_at dksX10_unit_2 8 rfl rfl)
theorem dX10_unit_58 : decode cX10_unit 58 = .ok (.iaload, 1) := dk_46 (dk_at dksX10_unit_2 11 rfl rfl)
theorem dX10_unit_59 : decode cX10_unit 59 = .ok (.bipush 42, 2) := dk_16 42 (dk_at dksX10_unit_2 12 rfl rfl)
theorem dX10_unit_61 : decode cX10_unit 61 = .ok (.if_icmp .gt 27, 3) := dk_163 0 27 (dk_at dksX10_unit_2 14 rfl rfl)
theorem dX10_unit_64 : decode cX10_unit 64 = .ok (.aload_n 0, 1) := dk_42 (dk_at dksX10_unit_2 17 rfl rfl)
theorem dX10_unit_65 : decode cX10_unit 65 = .ok (.iconst 1, 1) := dk_4 (dk_at dksX10_unit_2 18 rfl rfl)
theorem dX10_unit_66 : decode cX10_unit 66 = .ok (.aload_n 0, 1) := dk_42 (dk_at dksX10_unit_2 19 rfl rfl)
theorem dX10_unit_67 : decode cX10_unit 67 = .ok (.getfield 20, 3) := dk_180 0 20 (dk_at dksX10_unit_2 20 rfl rfl)
theorem dX10_unit_70 : decode cX10_unit 70 = .ok (.aload_n 0, 1) := dk_42 (dk_at dksX10_unit_2 23 rfl rfl)
theorem dX10_unit_71 : decode cX10_unit 71 = .ok (.getfield 215, 3) := dk_180 0 215 (dk_at dksX10_unit_3 0 rfl rfl)
theorem dX10_unit_74 : decode cX10_unit 74 = .ok (.iaload, 1) := dk_46 (dk_at dksX10_unit_3 3 rfl rfl)
theorem dX10_unit_75 : decode cX10_unit 75 = .ok (.bipush 34, 2) := dk_16 34 (dk_at dksX10_unit_3 4 rfl rfl)
theorem dX10_unit_77 : decode cX10_unit 77 = .ok (.isub, 1) := dk_100 (dk_at dksX10_unit_3 6 rfl rfl)
theorem dX10_unit_78 : decode cX10_unit 78 = .ok (.invokevirtual 320, 3) := dk_182 1 64 (dk_at dksX10_unit_3 7 rfl rfl)
theorem dX10_unit_81 : decode cX10_unit 81 = .ok (.aload_n 0, 1) := dk_42 (dk_at dksX10_unit_3 10 rfl rfl)
theorem dX10_unit_82 : decode cX10_unit 82 = .ok (.invokevirtual 233, 3) := dk_182 0 233 (dk_at dksX10_unit_3 11 rfl rfl)
theorem dX10_unit_85 : decode cX10_unit 85 = .ok (.goto 8, 3) := dk_167 0 8 (dk_at dksX10_unit_3 14 rfl rfl)
theorem dX10_unit_88 : decode cX10_unit 88 = .ok (.aload_n 0, 1) := dk_42 (dk_at dksX10_unit_3 17 rfl rfl)
theorem dX10_unit_89 : decode cX10_unit 89 = .ok (.iconst 1, 1) := dk_4 (dk_at dksX10_unit_3 18 rfl rfl)
theorem dX10_unit_90 : decode cX10_unit 90 = .ok (.invokevirtual 227, 3) := dk_182 0 227 (dk_at dksX10_unit_3 19 rfl rfl)
theorem dX10_unit_93 : decode cX10_unit 93 = .ok (.return_, 1) := dk_177 (dk_at dksX10_unit_3 22 rfl rfl)
abbrev cX10_emit : ByteArray := prog_21_method_35_code
def yX10_emit : MethodName := ⟨RX10, "emit", "(II)V"⟩
def dkwX10_emit_1 : List UInt8 := [180, 0, 254, 4, 96, 181, 0, 254, 177]
abbrev dktX10_emit_1 : List UInt8 := dkwX10_emit_1 ++ []
def dkwX10_emit_0 : List UInt8 := [42, 180, 0, 116, 42, 180, 0, 254, 27, 79, 42, 180, 0, 119, 42, 180, 0, 254, 28, 79, 42, 89]
abbrev dktX10_emit_0 : List UInt8 := dkwX10_emit_0 ++ dktX10_emit_1
theorem dksX10_emit_0 : cX10_emit.data.toList.drop 0 = dktX10_emit_0 := by decide +kernel
theorem dksX10_emit_1 : cX10_emit.data.toList.drop 22 = dktX10_emit_1 := dk_seg dksX10_emit_0 22 rfl rfl
theorem dX10_emit_0 : decode cX10_emit 0 = .ok (.aload_n 0, 1) := dk_42 (dk_at dksX10_emit_0 0 rfl rfl)
theorem dX10_emit_1 : decode cX10_emit 1 = .ok (.getfield 116, 3) := dk_180 0 116 (dk_at dksX10_emit_0 1 rfl rfl)
theorem dX10_emit_4 : decode cX10_emit 4 = .ok (.aload_n 0, 1) := dk_42 (dk_at dksX10_emit_0 4 rfl rfl)
theorem dX10_emit_5 : decode cX10_emit 5 = .ok (.getfield 254, 3) := dk_180 0 254 (dk_at dksX10_emit_0 5 rfl rfl)
theorem dX10_emit_8 : decode cX10_emit 8 = .ok (.iload_n 1, 1) := dk_27 (dk_at dksX10_emit_0 8 rfl rfl)
theorem dX10_emit_9 : decode cX10_emit 9 = .ok (.iastore, 1) := dk_79 (dk_at dksX10_emit_0 9 rfl rfl)
theorem dX10_emit_10 : decode cX10_emit 10 = .ok (.aload_n 0, 1) := dk_42 (dk_at dksX10_emit_0 10 rfl rfl)
theorem dX10_emit_11 : decode cX10_emit 11 = .ok (.getfield 119, 3) := dk_180 0 119 (dk_at dksX10_emit_0 11 rfl rfl)
theorem dX10_emit_14 : decode cX10_emit 14 = .ok (.aload_n 0, 1) := dk_42 (dk_at dksX10_emit_0 14 rfl rfl)
theorem dX10_emit_15 : decode cX10_emit 15 = .ok (.getfield 254, 3) := dk_180 0 254 (dk_at dksX10_emit_0 15 rfl rfl)
theorem dX10_emit_18 : decode cX10_emit 18 = .ok (.iload_n 2, 1) := dk_28 (dk_at dksX10_emit_0 18 rfl rfl)
theorem dX10_emit_19 : decode cX10_emit 19 = .ok (.iastore, 1) := dk_79 (dk_at dksX10_emit_0 19 rfl rfl)
theorem dX10_emit_20 : decode cX10_emit 20 = .ok (.aload_n 0, 1) := dk_42 (dk_at dksX10_emit_0 20 rfl rfl)
theorem dX10_emit_21 : decode cX10_emit 21 = .ok (.dup, 1) := dk_89 (dk_at dksX10_emit_0 21 rfl rfl)
theorem dX10_emit_22 : decode cX10_emit 22 = .ok (.getfield 254, 3) := dk_180 0 254 (dk_at dksX10_emit_1 0 rfl rfl)
theorem dX10_emit_25 : decode cX10_emit 25 = .ok (.iconst 1, 1) := dk_4 (dk_at dksX10_emit_1 3 rfl rfl)
theorem dX10_emit_26 : decode cX10_emit 26 = .ok (.iadd, 1) := dk_96 (dk_at dksX10_emit_1 4 rfl rfl)
theorem dX10_emit_27 : decode cX10_emit 27 = .ok (.putfield 254, 3) := dk_181 0 254 (dk_at dksX10_emit_1 5 rfl rfl)
theorem dX10_emit_30 : decode cX10_emit 30 = .ok (.return_, 1) := dk_177 (dk_at dksX10_emit_1 8 rfl rfl)
abbrev cX10_comesOut : ByteArray := prog_21_method_36_code
def yX10_comesOut : MethodName := ⟨RX10, "comesOut", "(Z)V"⟩
def dkwX10_comesOut_4 : List UInt8 := [167, 255, 168, 177]
abbrev dktX10_comesOut_4 : List UInt8 := dkwX10_comesOut_4 ++ []
def dkwX10_comesOut_3 : List UInt8 := [160, 0, 7, 6, 167, 0, 14, 28, 16, 10, 160, 0, 7, 7, 167, 0, 4, 8, 3, 182, 1, 64]
abbrev dktX10_comesOut_3 : List UInt8 := dkwX10_comesOut_3 ++ dktX10_comesOut_4
def dkwX10_comesOut_2 : List UInt8 := [180, 1, 61, 4, 100, 181, 1, 61, 42, 28, 16, 8, 160, 0, 7, 5, 167, 0, 24, 28, 16, 9]
abbrev dktX10_comesOut_2 : List UInt8 := dkwX10_comesOut_2 ++ dktX10_comesOut_3
def dkwX10_comesOut_1 : List UInt8 := [159, 0, 19, 27, 153, 0, 16, 28, 16, 8, 159, 0, 9, 28, 16, 9, 160, 0, 4, 177, 42, 89]
abbrev dktX10_comesOut_1 : List UInt8 := dkwX10_comesOut_1 ++ dktX10_comesOut_2
def dkwX10_comesOut_0 : List UInt8 := [42, 180, 1, 61, 158, 0, 87, 42, 180, 0, 122, 42, 180, 1, 61, 4, 100, 46, 61, 28, 16, 6]
abbrev dktX10_comesOut_0 : List UInt8 := dkwX10_comesOut_0 ++ dktX10_comesOut_1
theorem dksX10_comesOut_0 : cX10_comesOut.data.toList.drop 0 = dktX10_comesOut_0 := by decide +kernel
theorem dksX10_comesOut_1 : cX10_comesOut.data.toList.drop 22 = dktX10_comesOut_1 := dk_seg dksX10_comesOut_0 22 rfl rfl
theorem dksX10_comesOut_2 : cX10_comesOut.data.toList.drop 44 = dktX10_comesOut_2 := dk_seg dksX10_comesOut_1 22 rfl rfl
theorem dksX10_comesOut_3 : cX10_comesOut.data.toList.drop 66 = dktX10_comesOut_3 := dk_seg dksX10_comesOut_2 22 rfl rfl
theorem dksX10_comesOut_4 : cX10_comesOut.data.toList.drop 88 = dktX10_comesOut_4 := dk_seg dksX10_comesOut_3 22 rfl rfl
theorem dX10_comesOut_0 : decode cX10_comesOut 0 = .ok (.aload_n 0, 1) := dk_42 (dk_at dksX10_comesOut_0 0 rfl rfl)
theorem dX10_comesOut_1 : decode cX10_comesOut 1 = .ok (.getfield 317, 3) := dk_180 1 61 (dk_at dksX10_comesOut_0 1 rfl rfl)
theorem dX10_comesOut_4 : decode cX10_comesOut 4 = .ok (.ifCond .le 87, 3) := dk_158 0 87 (dk_at dksX10_comesOut_0 4 rfl rfl)
theorem dX10_comesOut_7 : decode cX10_comesOut 7 = .ok (.aload_n 0, 1) := dk_42 (dk_at dksX10_comesOut_0 7 rfl rfl)
theorem dX10_comesOut_8 : decode cX10_comesOut 8 = .ok (.getfield 122, 3) := dk_180 0 122 (dk_at dksX10_comesOut_0 8 rfl rfl)
theorem dX10_comesOut_11 : decode cX10_comesOut 11 = .ok (.aload_n 0, 1) := dk_42 (dk_at dksX10_comesOut_0 11 rfl rfl)
theorem dX10_comesOut_12 : decode cX10_comesOut 12 = .ok (.getfield 317, 3) := dk_180 1 61 (dk_at dksX10_comesOut_0 12 rfl rfl)
theorem dX10_comesOut_15 : decode cX10_comesOut 15 = .ok (.iconst 1, 1) := dk_4 (dk_at dksX10_comesOut_0 15 rfl rfl)
theorem dX10_comesOut_16 : decode cX10_comesOut 16 = .ok (.isub, 1) := dk_100 (dk_at dksX10_comesOut_0 16 rfl rfl)
theorem dX10_comesOut_17 : decode cX10_comesOut 17 = .ok (.iaload, 1) := dk_46 (dk_at dksX10_comesOut_0 17 rfl rfl)
theorem dX10_comesOut_18 : decode cX10_comesOut 18 = .ok (.istore_n 2, 1) := dk_61 (dk_at dksX10_comesOut_0 18 rfl rfl)
theorem dX10_comesOut_19 : decode cX10_comesOut 19 = .ok (.iload_n 2, 1) := dk_28 (dk_at dksX10_comesOut_0 19 rfl rfl)
theorem dX10_comesOut_20 : decode cX10_comesOut 20 = .ok (.bipush 6, 2) := dk_16 6 (dk_at dksX10_comesOut_0 20 rfl rfl)
theorem dX10_comesOut_22 : decode cX10_comesOut 22 = .ok (.if_icmp .eq 19, 3) := dk_159 0 19 (dk_at dksX10_comesOut_1 0 rfl rfl)
theorem dX10_comesOut_25 : decode cX10_comesOut 25 = .ok (.iload_n 1, 1) := dk_27 (dk_at dksX10_comesOut_1 3 rfl rfl)
theorem dX10_comesOut_26 : decode cX10_comesOut 26 = .ok (.ifCond .eq 16, 3) := dk_153 0 16 (dk_at dksX10_comesOut_1 4 rfl rfl)
theorem dX10_comesOut_29 : decode cX10_comesOut 29 = .ok (.iload_n 2, 1) := dk_28 (dk_at dksX10_comesOut_1 7 rfl rfl)
theorem dX10_comesOut_30 : decode cX10_comesOut 30 = .ok (.bipush 8, 2) := dk_16 8 (dk_at dksX10_comesOut_1 8 rfl rfl)
theorem dX10_comesOut_32 : decode cX10_comesOut 32 = .ok (.if_icmp .eq 9, 3) := dk_159 0 9 (dk_at dksX10_comesOut_1 10 rfl rfl)
theorem dX10_comesOut_35 : decode cX10_comesOut 35 = .ok (.iload_n 2, 1) := dk_28 (dk_at dksX10_comesOut_1 13 rfl rfl)
theorem dX10_comesOut_36 : decode cX10_comesOut 36 = .ok (.bipush 9, 2) := dk_16 9 (dk_at dksX10_comesOut_1 14 rfl rfl)
theorem dX10_comesOut_38 : decode cX10_comesOut 38 = .ok (.if_icmp .ne 4, 3) := dk_160 0 4 (dk_at dksX10_comesOut_1 16 rfl rfl)
theorem dX10_comesOut_41 : decode cX10_comesOut 41 = .ok (.return_, 1) := dk_177 (dk_at dksX10_comesOut_1 19 rfl rfl)
theorem dX10_comesOut_42 : decode cX10_comesOut 42 = .ok (.aload_n 0, 1) := dk_42 (dk_at dksX10_comesOut_1 20 rfl rfl)
theorem dX10_comesOut_43 : decode cX10_comesOut 43 = .ok (.dup, 1) := dk_89 (dk_at dksX10_comesOut_1 21 rfl rfl)
theorem dX10_comesOut_44 : decode cX10_comesOut 44 = .ok (.getfield 317, 3) := dk_180 1 61 (dk_at dksX10_comesOut_2 0 rfl rfl)
theorem dX10_comesOut_47 : decode cX10_comesOut 47 = .ok (.iconst 1, 1) := dk_4 (dk_at dksX10_comesOut_2 3 rfl rfl)
theorem dX10_comesOut_48 : decode cX10_comesOut 48 = .ok (.isub, 1) := dk_100 (dk_at dksX10_comesOut_2 4 rfl rfl)
theorem dX10_comesOut_49 : decode cX10_comesOut 49 = .ok (.putfield 317, 3) := dk_181 1 61 (dk_at dksX10_comesOut_2 5 rfl rfl)
theorem dX10_comesOut_52 : decode cX10_comesOut 52 = .ok (.aload_n 0, 1) := dk_42 (dk_at dksX10_comesOut_2 8 rfl rfl)
theorem dX10_comesOut_53 : decode cX10_comesOut 53 = .ok (.iload_n 2, 1) := dk_28 (dk_at dksX10_comesOut_2 9 rfl rfl)
theorem dX10_comesOut_54 : decode cX10_comesOut 54 = .ok (.bipush 8, 2) := dk_16 8 (dk_at dksX10_comesOut_2 10 rfl rfl)
theorem dX10_comesOut_56 : decode cX10_comesOut 56 = .ok (.if_icmp .ne 7, 3) := dk_160 0 7 (dk_at dksX10_comesOut_2 12 rfl rfl)
theorem dX10_comesOut_59 : decode cX10_comesOut 59 = .ok (.iconst 2, 1) := dk_5 (dk_at dksX10_comesOut_2 15 rfl rfl)
theorem dX10_comesOut_60 : decode cX10_comesOut 60 = .ok (.goto 24, 3) := dk_167 0 24 (dk_at dksX10_comesOut_2 16 rfl rfl)
theorem dX10_comesOut_63 : decode cX10_comesOut 63 = .ok (.iload_n 2, 1) := dk_28 (dk_at dksX10_comesOut_2 19 rfl rfl)
theorem dX10_comesOut_64 : decode cX10_comesOut 64 = .ok (.bipush 9, 2) := dk_16 9 (dk_at dksX10_comesOut_2 20 rfl rfl)
theorem dX10_comesOut_66 : decode cX10_comesOut 66 = .ok (.if_icmp .ne 7, 3) := dk_160 0 7 (dk_at dksX10_comesOut_3 0 rfl rfl)
theorem dX10_comesOut_69 : decode cX10_comesOut 69 = .ok (.iconst 3, 1) := dk_6 (dk_at dksX10_comesOut_3 3 rfl rfl)
theorem dX10_comesOut_70 : decode cX10_comesOut 70 = .ok (.goto 14, 3) := dk_167 0 14 (dk_at dksX10_comesOut_3 4 rfl rfl)
theorem dX10_comesOut_73 : decode cX10_comesOut 73 = .ok (.iload_n 2, 1) := dk_28 (dk_at dksX10_comesOut_3 7 rfl rfl)
theorem dX10_comesOut_74 : decode cX10_comesOut 74 = .ok (.bipush 10, 2) := dk_16 10 (dk_at dksX10_comesOut_3 8 rfl rfl)
theorem dX10_comesOut_76 : decode cX10_comesOut 76 = .ok (.if_icmp .ne 7, 3) := dk_160 0 7 (dk_at dksX10_comesOut_3 10 rfl rfl)
theorem dX10_comesOut_79 : decode cX10_comesOut 79 = .ok (.iconst 4, 1) := dk_7 (dk_at dksX10_comesOut_3 13 rfl rfl)
theorem dX10_comesOut_80 : decode cX10_comesOut 80 = .ok (.goto 4, 3) := dk_167 0 4 (dk_at dksX10_comesOut_3 14 rfl rfl)
theorem dX10_comesOut_83 : decode cX10_comesOut 83 = .ok (.iconst 5, 1) := dk_8 (dk_at dksX10_comesOut_3 17 rfl rfl)
theorem dX10_comesOut_84 : decode cX10_comesOut 84 = .ok (.iconst 0, 1) := dk_3 (dk_at dksX10_comesOut_3 18 rfl rfl)
theorem dX10_comesOut_85 : decode cX10_comesOut 85 = .ok (.invokevirtual 320, 3) := dk_182 1 64 (dk_at dksX10_comesOut_3 19 rfl rfl)
theorem dX10_comesOut_88 : decode cX10_comesOut 88 = .ok (.goto (-88), 3) := dk_167 255 168 (dk_at dksX10_comesOut_4 0 rfl rfl)
theorem dX10_comesOut_91 : decode cX10_comesOut 91 = .ok (.return_, 1) := dk_177 (dk_at dksX10_comesOut_4 3 rfl rfl)
abbrev cX10_term : ByteArray := prog_21_method_34_code
def yX10_term : MethodName := ⟨RX10, "term", "()V"⟩
def dkwX10_term_1 : List UInt8 := [42, 180, 0, 113, 42, 180, 0, 251, 42, 180, 0, 254, 79, 42, 89, 180, 0, 251, 4, 96, 181, 0, 251, 177]
abbrev dktX10_term_1 : List UInt8 := dkwX10_term_1 ++ []
def dkwX10_term_0 : List UInt8 := [42, 180, 0, 110, 42, 180, 0, 251, 42, 180, 0, 254, 79, 42, 180, 0, 212, 154, 0, 7, 42, 182, 1, 55]
abbrev dktX10_term_0 : List UInt8 := dkwX10_term_0 ++ dktX10_term_1
theorem dksX10_term_0 : cX10_term.data.toList.drop 0 = dktX10_term_0 := by decide +kernel
theorem dksX10_term_1 : cX10_term.data.toList.drop 24 = dktX10_term_1 := dk_seg dksX10_term_0 24 rfl rfl
theorem dX10_term_0 : decode cX10_term 0 = .ok (.aload_n 0, 1) := dk_42 (dk_at dksX10_term_0 0 rfl rfl)
theorem dX10_term_1 : decode cX10_term 1 = .ok (.getfield 110, 3) := dk_180 0 110 (dk_at dksX10_term_0 1 rfl rfl)
theorem dX10_term_4 : decode cX10_term 4 = .ok (.aload_n 0, 1) := dk_42 (dk_at dksX10_term_0 4 rfl rfl)
theorem dX10_term_5 : decode cX10_term 5 = .ok (.getfield 251, 3) := dk_180 0 251 (dk_at dksX10_term_0 5 rfl rfl)
theorem dX10_term_8 : decode cX10_term 8 = .ok (.aload_n 0, 1) := dk_42 (dk_at dksX10_term_0 8 rfl rfl)
theorem dX10_term_9 : decode cX10_term 9 = .ok (.getfield 254, 3) := dk_180 0 254 (dk_at dksX10_term_0 9 rfl rfl)
theorem dX10_term_12 : decode cX10_term 12 = .ok (.iastore, 1) := dk_79 (dk_at dksX10_term_0 12 rfl rfl)
theorem dX10_term_13 : decode cX10_term 13 = .ok (.aload_n 0, 1) := dk_42 (dk_at dksX10_term_0 13 rfl rfl)
theorem dX10_term_14 : decode cX10_term 14 = .ok (.getfield 212, 3) := dk_180 0 212 (dk_at dksX10_term_0 14 rfl rfl)
theorem dX10_term_17 : decode cX10_term 17 = .ok (.ifCond .ne 7, 3) := dk_154 0 7 (dk_at dksX10_term_0 17 rfl rfl)
theorem dX10_term_20 : decode cX10_term 20 = .ok (.aload_n 0, 1) := dk_42 (dk_at dksX10_term_0 20 rfl rfl)
theorem dX10_term_21 : decode cX10_term 21 = .ok (.invokevirtual 311, 3) := dk_182 1 55 (dk_at dksX10_term_0 21 rfl rfl)
theorem dX10_term_24 : decode cX10_term 24 = .ok (.aload_n 0, 1) := dk_42 (dk_at dksX10_term_1 0 rfl rfl)
theorem dX10_term_25 : decode cX10_term 25 = .ok (.getfield 113, 3) := dk_180 0 113 (dk_at dksX10_term_1 1 rfl rfl)
theorem dX10_term_28 : decode cX10_term 28 = .ok (.aload_n 0, 1) := dk_42 (dk_at dksX10_term_1 4 rfl rfl)
theorem dX10_term_29 : decode cX10_term 29 = .ok (.getfield 251, 3) := dk_180 0 251 (dk_at dksX10_term_1 5 rfl rfl)
theorem dX10_term_32 : decode cX10_term 32 = .ok (.aload_n 0, 1) := dk_42 (dk_at dksX10_term_1 8 rfl rfl)
theorem dX10_term_33 : decode cX10_term 33 = .ok (.getfield 254, 3) := dk_180 0 254 (dk_at dksX10_term_1 9 rfl rfl)
theorem dX10_term_36 : decode cX10_term 36 = .ok (.iastore, 1) := dk_79 (dk_at dksX10_term_1 12 rfl rfl)
theorem dX10_term_37 : decode cX10_term 37 = .ok (.aload_n 0, 1) := dk_42 (dk_at dksX10_term_1 13 rfl rfl)
theorem dX10_term_38 : decode cX10_term 38 = .ok (.dup, 1) := dk_89 (dk_at dksX10_term_1 14 rfl rfl)
theorem dX10_term_39 : decode cX10_term 39 = .ok (.getfield 251, 3) := dk_180 0 251 (dk_at dksX10_term_1 15 rfl rfl)
theorem dX10_term_42 : decode cX10_term 42 = .ok (.iconst 1, 1) := dk_4 (dk_at dksX10_term_1 18 rfl rfl)
theorem dX10_term_43 : decode cX10_term 43 = .ok (.iadd, 1) := dk_96 (dk_at dksX10_term_1 19 rfl rfl)
theorem dX10_term_44 : decode cX10_term 44 = .ok (.putfield 251, 3) := dk_181 0 251 (dk_at dksX10_term_1 20 rfl rfl)
theorem dX10_term_47 : decode cX10_term 47 = .ok (.return_, 1) := dk_177 (dk_at dksX10_term_1 23 rfl rfl)
abbrev cX10_fillsSteps : ByteArray := prog_21_method_40_code
def yX10_fillsSteps : MethodName := ⟨RX10, "fillsSteps", "()V"⟩
def dkwX10_fillsSteps_7 : List UInt8 := [167, 255, 160, 177]
abbrev dktX10_fillsSteps_7 : List UInt8 := dkwX10_fillsSteps_7 ++ []
def dkwX10_fillsSteps_6 : List UInt8 := [180, 0, 131, 16, 7, 27, 104, 28, 16, 7, 112, 96, 46, 96, 79, 132, 2, 1, 167, 255, 174, 132, 1, 1]
abbrev dktX10_fillsSteps_6 : List UInt8 := dkwX10_fillsSteps_6 ++ dktX10_fillsSteps_7
def dkwX10_fillsSteps_5 : List UInt8 := [162, 0, 38, 42, 180, 0, 131, 28, 42, 180, 0, 131, 28, 16, 7, 108, 16, 7, 104, 27, 96, 46, 42]
abbrev dktX10_fillsSteps_5 : List UInt8 := dkwX10_fillsSteps_5 ++ dktX10_fillsSteps_6
def dkwX10_fillsSteps_4 : List UInt8 := [27, 96, 46, 42, 180, 0, 131, 16, 7, 27, 104, 28, 16, 7, 112, 96, 46, 96, 42, 180, 0, 131, 28, 46]
abbrev dktX10_fillsSteps_4 : List UInt8 := dkwX10_fillsSteps_4 ++ dktX10_fillsSteps_5
def dkwX10_fillsSteps_3 : List UInt8 := [16, 7, 162, 0, 96, 3, 61, 28, 16, 49, 162, 0, 82, 42, 180, 0, 131, 28, 16, 7, 108, 16, 7, 104]
abbrev dktX10_fillsSteps_3 : List UInt8 := dkwX10_fillsSteps_3 ++ dktX10_fillsSteps_4
def dkwX10_fillsSteps_2 : List UInt8 := [112, 122, 4, 126, 4, 160, 0, 7, 4, 167, 0, 5, 16, 99, 79, 132, 1, 1, 167, 255, 192, 3, 60, 27]
abbrev dktX10_fillsSteps_2 : List UInt8 := dkwX10_fillsSteps_2 ++ dktX10_fillsSteps_3
def dkwX10_fillsSteps_1 : List UInt8 := [3, 167, 0, 37, 42, 180, 0, 49, 16, 7, 42, 180, 0, 242, 104, 27, 16, 7, 108, 96, 46, 27, 16, 7]
abbrev dktX10_fillsSteps_1 : List UInt8 := dkwX10_fillsSteps_1 ++ dktX10_fillsSteps_2
def dkwX10_fillsSteps_0 : List UInt8 := [3, 60, 27, 16, 49, 162, 0, 64, 42, 180, 0, 131, 27, 27, 16, 7, 108, 27, 16, 7, 112, 160, 0, 7]
abbrev dktX10_fillsSteps_0 : List UInt8 := dkwX10_fillsSteps_0 ++ dktX10_fillsSteps_1
theorem dksX10_fillsSteps_0 : cX10_fillsSteps.data.toList.drop 0 = dktX10_fillsSteps_0 := by decide +kernel
theorem dksX10_fillsSteps_1 : cX10_fillsSteps.data.toList.drop 24 = dktX10_fillsSteps_1 := dk_seg dksX10_fillsSteps_0 24 rfl rfl
theorem dksX10_fillsSteps_2 : cX10_fillsSteps.data.toList.drop 48 = dktX10_fillsSteps_2 := dk_seg dksX10_fillsSteps_1 24 rfl rfl
theorem dksX10_fillsSteps_3 : cX10_fillsSteps.data.toList.drop 72 = dktX10_fillsSteps_3 := dk_seg dksX10_fillsSteps_2 24 rfl rfl
theorem dksX10_fillsSteps_4 : cX10_fillsSteps.data.toList.drop 96 = dktX10_fillsSteps_4 := dk_seg dksX10_fillsSteps_3 24 rfl rfl
theorem dksX10_fillsSteps_5 : cX10_fillsSteps.data.toList.drop 120 = dktX10_fillsSteps_5 := dk_seg dksX10_fillsSteps_4 24 rfl rfl
theorem dksX10_fillsSteps_6 : cX10_fillsSteps.data.toList.drop 143 = dktX10_fillsSteps_6 := dk_seg dksX10_fillsSteps_5 23 rfl rfl
theorem dksX10_fillsSteps_7 : cX10_fillsSteps.data.toList.drop 167 = dktX10_fillsSteps_7 := dk_seg dksX10_fillsSteps_6 24 rfl rfl
theorem dX10_fillsSteps_0 : decode cX10_fillsSteps 0 = .ok (.iconst 0, 1) := dk_3 (dk_at dksX10_fillsSteps_0 0 rfl rfl)
theorem dX10_fillsSteps_1 : decode cX10_fillsSteps 1 = .ok (.istore_n 1, 1) := dk_60 (dk_at dksX10_fillsSteps_0 1 rfl rfl)
theorem dX10_fillsSteps_2 : decode cX10_fillsSteps 2 = .ok (.iload_n 1, 1) := dk_27 (dk_at dksX10_fillsSteps_0 2 rfl rfl)
theorem dX10_fillsSteps_3 : decode cX10_fillsSteps 3 = .ok (.bipush 49, 2) := dk_16 49 (dk_at dksX10_fillsSteps_0 3 rfl rfl)
theorem dX10_fillsSteps_5 : decode cX10_fillsSteps 5 = .ok (.if_icmp .ge 64, 3) := dk_162 0 64 (dk_at dksX10_fillsSteps_0 5 rfl rfl)
theorem dX10_fillsSteps_8 : decode cX10_fillsSteps 8 = .ok (.aload_n 0, 1) := dk_42 (dk_at dksX10_fillsSteps_0 8 rfl rfl)
theorem dX10_fillsSteps_9 : decode cX10_fillsSteps 9 = .ok (.getfield 131, 3) := dk_180 0 131 (dk_at dksX10_fillsSteps_0 9 rfl rfl)
theorem dX10_fillsSteps_12 : decode cX10_fillsSteps 12 = .ok (.iload_n 1, 1) := dk_27 (dk_at dksX10_fillsSteps_0 12 rfl rfl)
theorem dX10_fillsSteps_13 : decode cX10_fillsSteps 13 = .ok (.iload_n 1, 1) := dk_27 (dk_at dksX10_fillsSteps_0 13 rfl rfl)
theorem dX10_fillsSteps_14 : decode cX10_fillsSteps 14 = .ok (.bipush 7, 2) := dk_16 7 (dk_at dksX10_fillsSteps_0 14 rfl rfl)
theorem dX10_fillsSteps_16 : decode cX10_fillsSteps 16 = .ok (.idiv, 1) := dk_108 (dk_at dksX10_fillsSteps_0 16 rfl rfl)
theorem dX10_fillsSteps_17 : decode cX10_fillsSteps 17 = .ok (.iload_n 1, 1) := dk_27 (dk_at dksX10_fillsSteps_0 17 rfl rfl)
theorem dX10_fillsSteps_18 : decode cX10_fillsSteps 18 = .ok (.bipush 7, 2) := dk_16 7 (dk_at dksX10_fillsSteps_0 18 rfl rfl)
theorem dX10_fillsSteps_20 : decode cX10_fillsSteps 20 = .ok (.irem, 1) := dk_112 (dk_at dksX10_fillsSteps_0 20 rfl rfl)
theorem dX10_fillsSteps_21 : decode cX10_fillsSteps 21 = .ok (.if_icmp .ne 7, 3) := dk_160 0 7 (dk_at dksX10_fillsSteps_0 21 rfl rfl)
theorem dX10_fillsSteps_24 : decode cX10_fillsSteps 24 = .ok (.iconst 0, 1) := dk_3 (dk_at dksX10_fillsSteps_1 0 rfl rfl)
theorem dX10_fillsSteps_25 : decode cX10_fillsSteps 25 = .ok (.goto 37, 3) := dk_167 0 37 (dk_at dksX10_fillsSteps_1 1 rfl rfl)
theorem dX10_fillsSteps_28 : decode cX10_fillsSteps 28 = .ok (.aload_n 0, 1) := dk_42 (dk_at dksX10_fillsSteps_1 4 rfl rfl)
theorem dX10_fillsSteps_29 : decode cX10_fillsSteps 29 = .ok (.getfield 49, 3) := dk_180 0 49 (dk_at dksX10_fillsSteps_1 5 rfl rfl)
theorem dX10_fillsSteps_32 : decode cX10_fillsSteps 32 = .ok (.bipush 7, 2) := dk_16 7 (dk_at dksX10_fillsSteps_1 8 rfl rfl)
theorem dX10_fillsSteps_34 : decode cX10_fillsSteps 34 = .ok (.aload_n 0, 1) := dk_42 (dk_at dksX10_fillsSteps_1 10 rfl rfl)
theorem dX10_fillsSteps_35 : decode cX10_fillsSteps 35 = .ok (.getfield 242, 3) := dk_180 0 242 (dk_at dksX10_fillsSteps_1 11 rfl rfl)
theorem dX10_fillsSteps_38 : decode cX10_fillsSteps 38 = .ok (.imul, 1) := dk_104 (dk_at dksX10_fillsSteps_1 14 rfl rfl)
theorem dX10_fillsSteps_39 : decode cX10_fillsSteps 39 = .ok (.iload_n 1, 1) := dk_27 (dk_at dksX10_fillsSteps_1 15 rfl rfl)
theorem dX10_fillsSteps_40 : decode cX10_fillsSteps 40 = .ok (.bipush 7, 2) := dk_16 7 (dk_at dksX10_fillsSteps_1 16 rfl rfl)
theorem dX10_fillsSteps_42 : decode cX10_fillsSteps 42 = .ok (.idiv, 1) := dk_108 (dk_at dksX10_fillsSteps_1 18 rfl rfl)
theorem dX10_fillsSteps_43 : decode cX10_fillsSteps 43 = .ok (.iadd, 1) := dk_96 (dk_at dksX10_fillsSteps_1 19 rfl rfl)
theorem dX10_fillsSteps_44 : decode cX10_fillsSteps 44 = .ok (.iaload, 1) := dk_46 (dk_at dksX10_fillsSteps_1 20 rfl rfl)
theorem dX10_fillsSteps_45 : decode cX10_fillsSteps 45 = .ok (.iload_n 1, 1) := dk_27 (dk_at dksX10_fillsSteps_1 21 rfl rfl)
theorem dX10_fillsSteps_46 : decode cX10_fillsSteps 46 = .ok (.bipush 7, 2) := dk_16 7 (dk_at dksX10_fillsSteps_1 22 rfl rfl)
theorem dX10_fillsSteps_48 : decode cX10_fillsSteps 48 = .ok (.irem, 1) := dk_112 (dk_at dksX10_fillsSteps_2 0 rfl rfl)
theorem dX10_fillsSteps_49 : decode cX10_fillsSteps 49 = .ok (.ishr, 1) := dk_122 (dk_at dksX10_fillsSteps_2 1 rfl rfl)
theorem dX10_fillsSteps_50 : decode cX10_fillsSteps 50 = .ok (.iconst 1, 1) := dk_4 (dk_at dksX10_fillsSteps_2 2 rfl rfl)
theorem dX10_fillsSteps_51 : decode cX10_fillsSteps 51 = .ok (.iand, 1) := dk_126 (dk_at dksX10_fillsSteps_2 3 rfl rfl)
theorem dX10_fillsSteps_52 : decode cX10_fillsSteps 52 = .ok (.iconst 1, 1) := dk_4 (dk_at dksX10_fillsSteps_2 4 rfl rfl)
theorem dX10_fillsSteps_53 : decode cX10_fillsSteps 53 = .ok (.if_icmp .ne 7, 3) := dk_160 0 7 (dk_at dksX10_fillsSteps_2 5 rfl rfl)
theorem dX10_fillsSteps_56 : decode cX10_fillsSteps 56 = .ok (.iconst 1, 1) := dk_4 (dk_at dksX10_fillsSteps_2 8 rfl rfl)
theorem dX10_fillsSteps_57 : decode cX10_fillsSteps 57 = .ok (.goto 5, 3) := dk_167 0 5 (dk_at dksX10_fillsSteps_2 9 rfl rfl)
theorem dX10_fillsSteps_60 : decode cX10_fillsSteps 60 = .ok (.bipush 99, 2) := dk_16 99 (dk_at dksX10_fillsSteps_2 12 rfl rfl)
theorem dX10_fillsSteps_62 : decode cX10_fillsSteps 62 = .ok (.iastore, 1) := dk_79 (dk_at dksX10_fillsSteps_2 14 rfl rfl)
theorem dX10_fillsSteps_63 : decode cX10_fillsSteps 63 = .ok (.iinc 1 1, 3) := dk_132 1 1 (dk_at dksX10_fillsSteps_2 15 rfl rfl)
theorem dX10_fillsSteps_66 : decode cX10_fillsSteps 66 = .ok (.goto (-64), 3) := dk_167 255 192 (dk_at dksX10_fillsSteps_2 18 rfl rfl)
theorem dX10_fillsSteps_69 : decode cX10_fillsSteps 69 = .ok (.iconst 0, 1) := dk_3 (dk_at dksX10_fillsSteps_2 21 rfl rfl)
theorem dX10_fillsSteps_70 : decode cX10_fillsSteps 70 = .ok (.istore_n 1, 1) := dk_60 (dk_at dksX10_fillsSteps_2 22 rfl rfl)
theorem dX10_fillsSteps_71 : decode cX10_fillsSteps 71 = .ok (.iload_n 1, 1) := dk_27 (dk_at dksX10_fillsSteps_2 23 rfl rfl)
theorem dX10_fillsSteps_72 : decode cX10_fillsSteps 72 = .ok (.bipush 7, 2) := dk_16 7 (dk_at dksX10_fillsSteps_3 0 rfl rfl)
theorem dX10_fillsSteps_74 : decode cX10_fillsSteps 74 = .ok (.if_icmp .ge 96, 3) := dk_162 0 96 (dk_at dksX10_fillsSteps_3 2 rfl rfl)
theorem dX10_fillsSteps_77 : decode cX10_fillsSteps 77 = .ok (.iconst 0, 1) := dk_3 (dk_at dksX10_fillsSteps_3 5 rfl rfl)
theorem dX10_fillsSteps_78 : decode cX10_fillsSteps 78 = .ok (.istore_n 2, 1) := dk_61 (dk_at dksX10_fillsSteps_3 6 rfl rfl)
theorem dX10_fillsSteps_79 : decode cX10_fillsSteps 79 = .ok (.iload_n 2, 1) := dk_28 (dk_at dksX10_fillsSteps_3 7 rfl rfl)
theorem dX10_fillsSteps_80 : decode cX10_fillsSteps 80 = .ok (.bipush 49, 2) := dk_16 49 (dk_at dksX10_fillsSteps_3 8 rfl rfl)
theorem dX10_fillsSteps_82 : decode cX10_fillsSteps 82 = .ok (.if_icmp .ge 82, 3) := dk_162 0 82 (dk_at dksX10_fillsSteps_3 10 rfl rfl)
theorem dX10_fillsSteps_85 : decode cX10_fillsSteps 85 = .ok (.aload_n 0, 1) := dk_42 (dk_at dksX10_fillsSteps_3 13 rfl rfl)
theorem dX10_fillsSteps_86 : decode cX10_fillsSteps 86 = .ok (.getfield 131, 3) := dk_180 0 131 (dk_at dksX10_fillsSteps_3 14 rfl rfl)
theorem dX10_fillsSteps_89 : decode cX10_fillsSteps 89 = .ok (.iload_n 2, 1) := dk_28 (dk_at dksX10_fillsSteps_3 17 rfl rfl)
theorem dX10_fillsSteps_90 : decode cX10_fillsSteps 90 = .ok (.bipush 7, 2) := dk_16 7 (dk_at dksX10_fillsSteps_3 18 rfl rfl)
theorem dX10_fillsSteps_92 : decode cX10_fillsSteps 92 = .ok (.idiv, 1) := dk_108 (dk_at dksX10_fillsSteps_3 20 rfl rfl)
theorem dX10_fillsSteps_93 : decode cX10_fillsSteps 93 = .ok (.bipush 7, 2) := dk_16 7 (dk_at dksX10_fillsSteps_3 21 rfl rfl)
theorem dX10_fillsSteps_95 : decode cX10_fillsSteps 95 = .ok (.imul, 1) := dk_104 (dk_at dksX10_fillsSteps_3 23 rfl rfl)
theorem dX10_fillsSteps_96 : decode cX10_fillsSteps 96 = .ok (.iload_n 1, 1) := dk_27 (dk_at dksX10_fillsSteps_4 0 rfl rfl)
theorem dX10_fillsSteps_97 : decode cX10_fillsSteps 97 = .ok (.iadd, 1) := dk_96 (dk_at dksX10_fillsSteps_4 1 rfl rfl)
theorem dX10_fillsSteps_98 : decode cX10_fillsSteps 98 = .ok (.iaload, 1) := dk_46 (dk_at dksX10_fillsSteps_4 2 rfl rfl)
theorem dX10_fillsSteps_99 : decode cX10_fillsSteps 99 = .ok (.aload_n 0, 1) := dk_42 (dk_at dksX10_fillsSteps_4 3 rfl rfl)
theorem dX10_fillsSteps_100 : decode cX10_fillsSteps 100 = .ok (.getfield 131, 3) := dk_180 0 131 (dk_at dksX10_fillsSteps_4 4 rfl rfl)
theorem dX10_fillsSteps_103 : decode cX10_fillsSteps 103 = .ok (.bipush 7, 2) := dk_16 7 (dk_at dksX10_fillsSteps_4 7 rfl rfl)
theorem dX10_fillsSteps_105 : decode cX10_fillsSteps 105 = .ok (.iload_n 1, 1) := dk_27 (dk_at dksX10_fillsSteps_4 9 rfl rfl)
theorem dX10_fillsSteps_106 : decode cX10_fillsSteps 106 = .ok (.imul, 1) := dk_104 (dk_at dksX10_fillsSteps_4 10 rfl rfl)
theorem dX10_fillsSteps_107 : decode cX10_fillsSteps 107 = .ok (.iload_n 2, 1) := dk_28 (dk_at dksX10_fillsSteps_4 11 rfl rfl)
theorem dX10_fillsSteps_108 : decode cX10_fillsSteps 108 = .ok (.bipush 7, 2) := dk_16 7 (dk_at dksX10_fillsSteps_4 12 rfl rfl)
theorem dX10_fillsSteps_110 : decode cX10_fillsSteps 110 = .ok (.irem, 1) := dk_112 (dk_at dksX10_fillsSteps_4 14 rfl rfl)
theorem dX10_fillsSteps_111 : decode cX10_fillsSteps 111 = .ok (.iadd, 1) := dk_96 (dk_at dksX10_fillsSteps_4 15 rfl rfl)
theorem dX10_fillsSteps_112 : decode cX10_fillsSteps 112 = .ok (.iaload, 1) := dk_46 (dk_at dksX10_fillsSteps_4 16 rfl rfl)
theorem dX10_fillsSteps_113 : decode cX10_fillsSteps 113 = .ok (.iadd, 1) := dk_96 (dk_at dksX10_fillsSteps_4 17 rfl rfl)
theorem dX10_fillsSteps_114 : decode cX10_fillsSteps 114 = .ok (.aload_n 0, 1) := dk_42 (dk_at dksX10_fillsSteps_4 18 rfl rfl)
theorem dX10_fillsSteps_115 : decode cX10_fillsSteps 115 = .ok (.getfield 131, 3) := dk_180 0 131 (dk_at dksX10_fillsSteps_4 19 rfl rfl)
theorem dX10_fillsSteps_118 : decode cX10_fillsSteps 118 = .ok (.iload_n 2, 1) := dk_28 (dk_at dksX10_fillsSteps_4 22 rfl rfl)
theorem dX10_fillsSteps_119 : decode cX10_fillsSteps 119 = .ok (.iaload, 1) := dk_46 (dk_at dksX10_fillsSteps_4 23 rfl rfl)
theorem dX10_fillsSteps_120 : decode cX10_fillsSteps 120 = .ok (.if_icmp .ge 38, 3) := dk_162 0 38 (dk_at dksX10_fillsSteps_5 0 rfl rfl)
theorem dX10_fillsSteps_123 : decode cX10_fillsSteps 123 = .ok (.aload_n 0, 1) := dk_42 (dk_at dksX10_fillsSteps_5 3 rfl rfl)
theorem dX10_fillsSteps_124 : decode cX10_fillsSteps 124 = .ok (.getfield 131, 3) := dk_180 0 131 (dk_at dksX10_fillsSteps_5 4 rfl rfl)
theorem dX10_fillsSteps_127 : decode cX10_fillsSteps 127 = .ok (.iload_n 2, 1) := dk_28 (dk_at dksX10_fillsSteps_5 7 rfl rfl)
theorem dX10_fillsSteps_128 : decode cX10_fillsSteps 128 = .ok (.aload_n 0, 1) := dk_42 (dk_at dksX10_fillsSteps_5 8 rfl rfl)
theorem dX10_fillsSteps_129 : decode cX10_fillsSteps 129 = .ok (.getfield 131, 3) := dk_180 0 131 (dk_at dksX10_fillsSteps_5 9 rfl rfl)
theorem dX10_fillsSteps_132 : decode cX10_fillsSteps 132 = .ok (.iload_n 2, 1) := dk_28 (dk_at dksX10_fillsSteps_5 12 rfl rfl)
theorem dX10_fillsSteps_133 : decode cX10_fillsSteps 133 = .ok (.bipush 7, 2) := dk_16 7 (dk_at dksX10_fillsSteps_5 13 rfl rfl)
theorem dX10_fillsSteps_135 : decode cX10_fillsSteps 135 = .ok (.idiv, 1) := dk_108 (dk_at dksX10_fillsSteps_5 15 rfl rfl)
theorem dX10_fillsSteps_136 : decode cX10_fillsSteps 136 = .ok (.bipush 7, 2) := dk_16 7 (dk_at dksX10_fillsSteps_5 16 rfl rfl)
theorem dX10_fillsSteps_138 : decode cX10_fillsSteps 138 = .ok (.imul, 1) := dk_104 (dk_at dksX10_fillsSteps_5 18 rfl rfl)
theorem dX10_fillsSteps_139 : decode cX10_fillsSteps 139 = .ok (.iload_n 1, 1) := dk_27 (dk_at dksX10_fillsSteps_5 19 rfl rfl)
theorem dX10_fillsSteps_140 : decode cX10_fillsSteps 140 = .ok (.iadd, 1) := dk_96 (dk_at dksX10_fillsSteps_5 20 rfl rfl)
theorem dX10_fillsSteps_141 : decode cX10_fillsSteps 141 = .ok (.iaload, 1) := dk_46 (dk_at dksX10_fillsSteps_5 21 rfl rfl)
theorem dX10_fillsSteps_142 : decode cX10_fillsSteps 142 = .ok (.aload_n 0, 1) := dk_42 (dk_at dksX10_fillsSteps_5 22 rfl rfl)
theorem dX10_fillsSteps_143 : decode cX10_fillsSteps 143 = .ok (.getfield 131, 3) := dk_180 0 131 (dk_at dksX10_fillsSteps_6 0 rfl rfl)
theorem dX10_fillsSteps_146 : decode cX10_fillsSteps 146 = .ok (.bipush 7, 2) := dk_16 7 (dk_at dksX10_fillsSteps_6 3 rfl rfl)
theorem dX10_fillsSteps_148 : decode cX10_fillsSteps 148 = .ok (.iload_n 1, 1) := dk_27 (dk_at dksX10_fillsSteps_6 5 rfl rfl)
theorem dX10_fillsSteps_149 : decode cX10_fillsSteps 149 = .ok (.imul, 1) := dk_104 (dk_at dksX10_fillsSteps_6 6 rfl rfl)
theorem dX10_fillsSteps_150 : decode cX10_fillsSteps 150 = .ok (.iload_n 2, 1) := dk_28 (dk_at dksX10_fillsSteps_6 7 rfl rfl)
theorem dX10_fillsSteps_151 : decode cX10_fillsSteps 151 = .ok (.bipush 7, 2) := dk_16 7 (dk_at dksX10_fillsSteps_6 8 rfl rfl)
theorem dX10_fillsSteps_153 : decode cX10_fillsSteps 153 = .ok (.irem, 1) := dk_112 (dk_at dksX10_fillsSteps_6 10 rfl rfl)
theorem dX10_fillsSteps_154 : decode cX10_fillsSteps 154 = .ok (.iadd, 1) := dk_96 (dk_at dksX10_fillsSteps_6 11 rfl rfl)
theorem dX10_fillsSteps_155 : decode cX10_fillsSteps 155 = .ok (.iaload, 1) := dk_46 (dk_at dksX10_fillsSteps_6 12 rfl rfl)
theorem dX10_fillsSteps_156 : decode cX10_fillsSteps 156 = .ok (.iadd, 1) := dk_96 (dk_at dksX10_fillsSteps_6 13 rfl rfl)
theorem dX10_fillsSteps_157 : decode cX10_fillsSteps 157 = .ok (.iastore, 1) := dk_79 (dk_at dksX10_fillsSteps_6 14 rfl rfl)
theorem dX10_fillsSteps_158 : decode cX10_fillsSteps 158 = .ok (.iinc 2 1, 3) := dk_132 2 1 (dk_at dksX10_fillsSteps_6 15 rfl rfl)
theorem dX10_fillsSteps_161 : decode cX10_fillsSteps 161 = .ok (.goto (-82), 3) := dk_167 255 174 (dk_at dksX10_fillsSteps_6 18 rfl rfl)
theorem dX10_fillsSteps_164 : decode cX10_fillsSteps 164 = .ok (.iinc 1 1, 3) := dk_132 1 1 (dk_at dksX10_fillsSteps_6 21 rfl rfl)
theorem dX10_fillsSteps_167 : decode cX10_fillsSteps 167 = .ok (.goto (-96), 3) := dk_167 255 160 (dk_at dksX10_fillsSteps_7 0 rfl rfl)
theorem dX10_fillsSteps_170 : decode cX10_fillsSteps 170 = .ok (.return_, 1) := dk_177 (dk_at dksX10_fillsSteps_7 3 rfl rfl)
abbrev cX10_place : ByteArray := prog_21_method_21_code
def yX10_place : MethodName := ⟨RX10, "place", "()I"⟩
theorem dX10_place_0 : decode cX10_place 0 = .ok (.aload_n 0, 1) := by decide +kernel
theorem dX10_place_1 : decode cX10_place 1 = .ok (.getfield 37, 3) := by decide +kernel
theorem dX10_place_4 : decode cX10_place 4 = .ok (.ireturn, 1) := by decide +kernel
abbrev cX10_spot : ByteArray := prog_21_method_70_code
def yX10_spot : MethodName := ⟨RX10, "spot", "(II)I"⟩
def dkwX10_spot_4 : List UInt8 := [182, 1, 147, 172, 42, 2, 27, 182, 1, 150, 172, 2, 172]
abbrev dktX10_spot_4 : List UInt8 := dkwX10_spot_4 ++ []
def dkwX10_spot_3 : List UInt8 := [180, 0, 242, 46, 27, 182, 1, 147, 172, 42, 16, 15, 42, 180, 0, 67, 42, 180, 0, 242, 46, 27]
abbrev dktX10_spot_3 : List UInt8 := dkwX10_spot_3 ++ dktX10_spot_4
def dkwX10_spot_2 : List UInt8 := [42, 180, 0, 49, 16, 7, 42, 180, 0, 242, 104, 27, 96, 46, 172, 42, 3, 42, 180, 0, 55, 42]
abbrev dktX10_spot_2 : List UInt8 := dkwX10_spot_2 ++ dktX10_spot_3
def dkwX10_spot_1 : List UInt8 := [170, 0, 0, 0, 84, 0, 0, 0, 0, 0, 0, 0, 3, 0, 0, 0, 29, 0, 0, 0, 44, 0, 0, 0, 60, 0, 0, 0, 77]
abbrev dktX10_spot_1 : List UInt8 := dkwX10_spot_1 ++ dktX10_spot_2
def dkwX10_spot_0 : List UInt8 := [42, 27, 182, 1, 141, 154, 0, 5, 2, 172, 42, 182, 1, 144, 28]
abbrev dktX10_spot_0 : List UInt8 := dkwX10_spot_0 ++ dktX10_spot_1
theorem dksX10_spot_0 : cX10_spot.data.toList.drop 0 = dktX10_spot_0 := by decide +kernel
theorem dksX10_spot_1 : cX10_spot.data.toList.drop 15 = dktX10_spot_1 := dk_seg dksX10_spot_0 15 rfl rfl
theorem dksX10_spot_2 : cX10_spot.data.toList.drop 44 = dktX10_spot_2 := dk_seg dksX10_spot_1 29 rfl rfl
theorem dksX10_spot_3 : cX10_spot.data.toList.drop 66 = dktX10_spot_3 := dk_seg dksX10_spot_2 22 rfl rfl
theorem dksX10_spot_4 : cX10_spot.data.toList.drop 88 = dktX10_spot_4 := dk_seg dksX10_spot_3 22 rfl rfl
theorem dX10_spot_0 : decode cX10_spot 0 = .ok (.aload_n 0, 1) := dk_42 (dk_at dksX10_spot_0 0 rfl rfl)
theorem dX10_spot_1 : decode cX10_spot 1 = .ok (.iload_n 1, 1) := dk_27 (dk_at dksX10_spot_0 1 rfl rfl)
theorem dX10_spot_2 : decode cX10_spot 2 = .ok (.invokevirtual 397, 3) := dk_182 1 141 (dk_at dksX10_spot_0 2 rfl rfl)
theorem dX10_spot_5 : decode cX10_spot 5 = .ok (.ifCond .ne 5, 3) := dk_154 0 5 (dk_at dksX10_spot_0 5 rfl rfl)
theorem dX10_spot_8 : decode cX10_spot 8 = .ok (.iconst (-1), 1) := dk_2 (dk_at dksX10_spot_0 8 rfl rfl)
theorem dX10_spot_9 : decode cX10_spot 9 = .ok (.ireturn, 1) := dk_172 (dk_at dksX10_spot_0 9 rfl rfl)
theorem dX10_spot_10 : decode cX10_spot 10 = .ok (.aload_n 0, 1) := dk_42 (dk_at dksX10_spot_0 10 rfl rfl)
theorem dX10_spot_11 : decode cX10_spot 11 = .ok (.invokevirtual 400, 3) := dk_182 1 144 (dk_at dksX10_spot_0 11 rfl rfl)
theorem dX10_spot_14 : decode cX10_spot 14 = .ok (.iload_n 2, 1) := dk_28 (dk_at dksX10_spot_0 14 rfl rfl)
theorem dX10_spot_15 : decode cX10_spot 15 = .ok (.tableswitch 84 0 3 #[29, 44, 60, 77], 29) := by decide +kernel
theorem dX10_spot_44 : decode cX10_spot 44 = .ok (.aload_n 0, 1) := dk_42 (dk_at dksX10_spot_2 0 rfl rfl)
theorem dX10_spot_45 : decode cX10_spot 45 = .ok (.getfield 49, 3) := dk_180 0 49 (dk_at dksX10_spot_2 1 rfl rfl)
theorem dX10_spot_48 : decode cX10_spot 48 = .ok (.bipush 7, 2) := dk_16 7 (dk_at dksX10_spot_2 4 rfl rfl)
theorem dX10_spot_50 : decode cX10_spot 50 = .ok (.aload_n 0, 1) := dk_42 (dk_at dksX10_spot_2 6 rfl rfl)
theorem dX10_spot_51 : decode cX10_spot 51 = .ok (.getfield 242, 3) := dk_180 0 242 (dk_at dksX10_spot_2 7 rfl rfl)
theorem dX10_spot_54 : decode cX10_spot 54 = .ok (.imul, 1) := dk_104 (dk_at dksX10_spot_2 10 rfl rfl)
theorem dX10_spot_55 : decode cX10_spot 55 = .ok (.iload_n 1, 1) := dk_27 (dk_at dksX10_spot_2 11 rfl rfl)
theorem dX10_spot_56 : decode cX10_spot 56 = .ok (.iadd, 1) := dk_96 (dk_at dksX10_spot_2 12 rfl rfl)
theorem dX10_spot_57 : decode cX10_spot 57 = .ok (.iaload, 1) := dk_46 (dk_at dksX10_spot_2 13 rfl rfl)
theorem dX10_spot_58 : decode cX10_spot 58 = .ok (.ireturn, 1) := dk_172 (dk_at dksX10_spot_2 14 rfl rfl)
theorem dX10_spot_59 : decode cX10_spot 59 = .ok (.aload_n 0, 1) := dk_42 (dk_at dksX10_spot_2 15 rfl rfl)
theorem dX10_spot_60 : decode cX10_spot 60 = .ok (.iconst 0, 1) := dk_3 (dk_at dksX10_spot_2 16 rfl rfl)
theorem dX10_spot_61 : decode cX10_spot 61 = .ok (.aload_n 0, 1) := dk_42 (dk_at dksX10_spot_2 17 rfl rfl)
theorem dX10_spot_62 : decode cX10_spot 62 = .ok (.getfield 55, 3) := dk_180 0 55 (dk_at dksX10_spot_2 18 rfl rfl)
theorem dX10_spot_65 : decode cX10_spot 65 = .ok (.aload_n 0, 1) := dk_42 (dk_at dksX10_spot_2 21 rfl rfl)
theorem dX10_spot_66 : decode cX10_spot 66 = .ok (.getfield 242, 3) := dk_180 0 242 (dk_at dksX10_spot_3 0 rfl rfl)
theorem dX10_spot_69 : decode cX10_spot 69 = .ok (.iaload, 1) := dk_46 (dk_at dksX10_spot_3 3 rfl rfl)
theorem dX10_spot_70 : decode cX10_spot 70 = .ok (.iload_n 1, 1) := dk_27 (dk_at dksX10_spot_3 4 rfl rfl)
theorem dX10_spot_71 : decode cX10_spot 71 = .ok (.invokevirtual 403, 3) := dk_182 1 147 (dk_at dksX10_spot_3 5 rfl rfl)
theorem dX10_spot_74 : decode cX10_spot 74 = .ok (.ireturn, 1) := dk_172 (dk_at dksX10_spot_3 8 rfl rfl)
theorem dX10_spot_75 : decode cX10_spot 75 = .ok (.aload_n 0, 1) := dk_42 (dk_at dksX10_spot_3 9 rfl rfl)
theorem dX10_spot_76 : decode cX10_spot 76 = .ok (.bipush 15, 2) := dk_16 15 (dk_at dksX10_spot_3 10 rfl rfl)
theorem dX10_spot_78 : decode cX10_spot 78 = .ok (.aload_n 0, 1) := dk_42 (dk_at dksX10_spot_3 12 rfl rfl)
theorem dX10_spot_79 : decode cX10_spot 79 = .ok (.getfield 67, 3) := dk_180 0 67 (dk_at dksX10_spot_3 13 rfl rfl)
theorem dX10_spot_82 : decode cX10_spot 82 = .ok (.aload_n 0, 1) := dk_42 (dk_at dksX10_spot_3 16 rfl rfl)
theorem dX10_spot_83 : decode cX10_spot 83 = .ok (.getfield 242, 3) := dk_180 0 242 (dk_at dksX10_spot_3 17 rfl rfl)
theorem dX10_spot_86 : decode cX10_spot 86 = .ok (.iaload, 1) := dk_46 (dk_at dksX10_spot_3 20 rfl rfl)
theorem dX10_spot_87 : decode cX10_spot 87 = .ok (.iload_n 1, 1) := dk_27 (dk_at dksX10_spot_3 21 rfl rfl)
theorem dX10_spot_88 : decode cX10_spot 88 = .ok (.invokevirtual 403, 3) := dk_182 1 147 (dk_at dksX10_spot_4 0 rfl rfl)
theorem dX10_spot_91 : decode cX10_spot 91 = .ok (.ireturn, 1) := dk_172 (dk_at dksX10_spot_4 3 rfl rfl)
theorem dX10_spot_92 : decode cX10_spot 92 = .ok (.aload_n 0, 1) := dk_42 (dk_at dksX10_spot_4 4 rfl rfl)
theorem dX10_spot_93 : decode cX10_spot 93 = .ok (.iconst (-1), 1) := dk_2 (dk_at dksX10_spot_4 5 rfl rfl)
theorem dX10_spot_94 : decode cX10_spot 94 = .ok (.iload_n 1, 1) := dk_27 (dk_at dksX10_spot_4 6 rfl rfl)
theorem dX10_spot_95 : decode cX10_spot 95 = .ok (.invokevirtual 406, 3) := dk_182 1 150 (dk_at dksX10_spot_4 7 rfl rfl)
theorem dX10_spot_98 : decode cX10_spot 98 = .ok (.ireturn, 1) := dk_172 (dk_at dksX10_spot_4 10 rfl rfl)
theorem dX10_spot_99 : decode cX10_spot 99 = .ok (.iconst (-1), 1) := dk_2 (dk_at dksX10_spot_4 11 rfl rfl)
theorem dX10_spot_100 : decode cX10_spot 100 = .ok (.ireturn, 1) := dk_172 (dk_at dksX10_spot_4 12 rfl rfl)
abbrev cX10_isPlace : ByteArray := prog_21_method_44_code
def yX10_isPlace : MethodName := ⟨RX10, "isPlace", "(I)Z"⟩
def dkwX10_isPlace_0 : List UInt8 := [27, 3, 42, 180, 0, 46, 42, 180, 0, 242, 46, 4, 100, 184, 1, 78, 172]
abbrev dktX10_isPlace_0 : List UInt8 := dkwX10_isPlace_0 ++ []
theorem dksX10_isPlace_0 : cX10_isPlace.data.toList.drop 0 = dktX10_isPlace_0 := by decide +kernel
theorem dX10_isPlace_0 : decode cX10_isPlace 0 = .ok (.iload_n 1, 1) := dk_27 (dk_at dksX10_isPlace_0 0 rfl rfl)
theorem dX10_isPlace_1 : decode cX10_isPlace 1 = .ok (.iconst 0, 1) := dk_3 (dk_at dksX10_isPlace_0 1 rfl rfl)
theorem dX10_isPlace_2 : decode cX10_isPlace 2 = .ok (.aload_n 0, 1) := dk_42 (dk_at dksX10_isPlace_0 2 rfl rfl)
theorem dX10_isPlace_3 : decode cX10_isPlace 3 = .ok (.getfield 46, 3) := dk_180 0 46 (dk_at dksX10_isPlace_0 3 rfl rfl)
theorem dX10_isPlace_6 : decode cX10_isPlace 6 = .ok (.aload_n 0, 1) := dk_42 (dk_at dksX10_isPlace_0 6 rfl rfl)
theorem dX10_isPlace_7 : decode cX10_isPlace 7 = .ok (.getfield 242, 3) := dk_180 0 242 (dk_at dksX10_isPlace_0 7 rfl rfl)
theorem dX10_isPlace_10 : decode cX10_isPlace 10 = .ok (.iaload, 1) := dk_46 (dk_at dksX10_isPlace_0 10 rfl rfl)
theorem dX10_isPlace_11 : decode cX10_isPlace 11 = .ok (.iconst 1, 1) := dk_4 (dk_at dksX10_isPlace_0 11 rfl rfl)
theorem dX10_isPlace_12 : decode cX10_isPlace 12 = .ok (.isub, 1) := dk_100 (dk_at dksX10_isPlace_0 12 rfl rfl)
theorem dX10_isPlace_13 : decode cX10_isPlace 13 = .ok (.invokestatic 334, 3) := dk_184 1 78 (dk_at dksX10_isPlace_0 13 rfl rfl)
theorem dX10_isPlace_16 : decode cX10_isPlace 16 = .ok (.ireturn, 1) := dk_172 (dk_at dksX10_isPlace_0 16 rfl rfl)
abbrev cX10_in : ByteArray := prog_21_method_42_code
def yX10_in : MethodName := ⟨RX10, "in", "(III)Z"⟩
def dkwX10_in_0 : List UInt8 := [26, 27, 161, 0, 12, 26, 28, 163, 0, 7, 4, 167, 0, 4, 3, 172]
abbrev dktX10_in_0 : List UInt8 := dkwX10_in_0 ++ []
theorem dksX10_in_0 : cX10_in.data.toList.drop 0 = dktX10_in_0 := by decide +kernel
theorem dX10_in_0 : decode cX10_in 0 = .ok (.iload_n 0, 1) := dk_26 (dk_at dksX10_in_0 0 rfl rfl)
theorem dX10_in_1 : decode cX10_in 1 = .ok (.iload_n 1, 1) := dk_27 (dk_at dksX10_in_0 1 rfl rfl)
theorem dX10_in_2 : decode cX10_in 2 = .ok (.if_icmp .lt 12, 3) := dk_161 0 12 (dk_at dksX10_in_0 2 rfl rfl)
theorem dX10_in_5 : decode cX10_in 5 = .ok (.iload_n 0, 1) := dk_26 (dk_at dksX10_in_0 5 rfl rfl)
theorem dX10_in_6 : decode cX10_in 6 = .ok (.iload_n 2, 1) := dk_28 (dk_at dksX10_in_0 6 rfl rfl)
theorem dX10_in_7 : decode cX10_in 7 = .ok (.if_icmp .gt 7, 3) := dk_163 0 7 (dk_at dksX10_in_0 7 rfl rfl)
theorem dX10_in_10 : decode cX10_in 10 = .ok (.iconst 1, 1) := dk_4 (dk_at dksX10_in_0 10 rfl rfl)
theorem dX10_in_11 : decode cX10_in 11 = .ok (.goto 4, 3) := dk_167 0 4 (dk_at dksX10_in_0 11 rfl rfl)
theorem dX10_in_14 : decode cX10_in 14 = .ok (.iconst 0, 1) := dk_3 (dk_at dksX10_in_0 14 rfl rfl)
theorem dX10_in_15 : decode cX10_in 15 = .ok (.ireturn, 1) := dk_172 (dk_at dksX10_in_0 15 rfl rfl)
abbrev cX10_copies : ByteArray := prog_21_method_49_code
def yX10_copies : MethodName := ⟨RX10, "copies", "()V"⟩
def dkwX10_copies_1 : List UInt8 := [167, 255, 235, 177]
abbrev dktX10_copies_1 : List UInt8 := dkwX10_copies_1 ++ []
def dkwX10_copies_0 : List UInt8 := [3, 60, 27, 16, 77, 162, 0, 21, 42, 180, 0, 137, 27, 42, 180, 0, 134, 27, 46, 79, 132, 1, 1]
abbrev dktX10_copies_0 : List UInt8 := dkwX10_copies_0 ++ dktX10_copies_1
theorem dksX10_copies_0 : cX10_copies.data.toList.drop 0 = dktX10_copies_0 := by decide +kernel
theorem dksX10_copies_1 : cX10_copies.data.toList.drop 23 = dktX10_copies_1 := dk_seg dksX10_copies_0 23 rfl rfl
theorem dX10_copies_0 : decode cX10_copies 0 = .ok (.iconst 0, 1) := dk_3 (dk_at dksX10_copies_0 0 rfl rfl)
theorem dX10_copies_1 : decode cX10_copies 1 = .ok (.istore_n 1, 1) := dk_60 (dk_at dksX10_copies_0 1 rfl rfl)
theorem dX10_copies_2 : decode cX10_copies 2 = .ok (.iload_n 1, 1) := dk_27 (dk_at dksX10_copies_0 2 rfl rfl)
theorem dX10_copies_3 : decode cX10_copies 3 = .ok (.bipush 77, 2) := dk_16 77 (dk_at dksX10_copies_0 3 rfl rfl)
theorem dX10_copies_5 : decode cX10_copies 5 = .ok (.if_icmp .ge 21, 3) := dk_162 0 21 (dk_at dksX10_copies_0 5 rfl rfl)
theorem dX10_copies_8 : decode cX10_copies 8 = .ok (.aload_n 0, 1) := dk_42 (dk_at dksX10_copies_0 8 rfl rfl)
theorem dX10_copies_9 : decode cX10_copies 9 = .ok (.getfield 137, 3) := dk_180 0 137 (dk_at dksX10_copies_0 9 rfl rfl)
theorem dX10_copies_12 : decode cX10_copies 12 = .ok (.iload_n 1, 1) := dk_27 (dk_at dksX10_copies_0 12 rfl rfl)
theorem dX10_copies_13 : decode cX10_copies 13 = .ok (.aload_n 0, 1) := dk_42 (dk_at dksX10_copies_0 13 rfl rfl)
theorem dX10_copies_14 : decode cX10_copies 14 = .ok (.getfield 134, 3) := dk_180 0 134 (dk_at dksX10_copies_0 14 rfl rfl)
theorem dX10_copies_17 : decode cX10_copies 17 = .ok (.iload_n 1, 1) := dk_27 (dk_at dksX10_copies_0 17 rfl rfl)
theorem dX10_copies_18 : decode cX10_copies 18 = .ok (.iaload, 1) := dk_46 (dk_at dksX10_copies_0 18 rfl rfl)
theorem dX10_copies_19 : decode cX10_copies 19 = .ok (.iastore, 1) := dk_79 (dk_at dksX10_copies_0 19 rfl rfl)
theorem dX10_copies_20 : decode cX10_copies 20 = .ok (.iinc 1 1, 3) := dk_132 1 1 (dk_at dksX10_copies_0 20 rfl rfl)
theorem dX10_copies_23 : decode cX10_copies 23 = .ok (.goto (-21), 3) := dk_167 255 235 (dk_at dksX10_copies_1 0 rfl rfl)
theorem dX10_copies_26 : decode cX10_copies 26 = .ok (.return_, 1) := dk_177 (dk_at dksX10_copies_1 3 rfl rfl)
abbrev cX10_bitsOf : ByteArray := prog_21_method_69_code
def yX10_bitsOf : MethodName := ⟨RX10, "bitsOf", "(III)I"⟩
def dkwX10_bitsOf_1 : List UInt8 := [160, 0, 12, 21, 4, 4, 21, 5, 120, 128, 54, 4, 132, 5, 1, 167, 255, 225, 21, 4, 172]
abbrev dktX10_bitsOf_1 : List UInt8 := dkwX10_bitsOf_1 ++ []
def dkwX10_bitsOf_0 : List UInt8 := [3, 54, 4, 3, 54, 5, 21, 5, 28, 162, 0, 31, 42, 180, 0, 137, 27, 21, 5, 96, 46, 29]
abbrev dktX10_bitsOf_0 : List UInt8 := dkwX10_bitsOf_0 ++ dktX10_bitsOf_1
theorem dksX10_bitsOf_0 : cX10_bitsOf.data.toList.drop 0 = dktX10_bitsOf_0 := by decide +kernel
theorem dksX10_bitsOf_1 : cX10_bitsOf.data.toList.drop 22 = dktX10_bitsOf_1 := dk_seg dksX10_bitsOf_0 22 rfl rfl
theorem dX10_bitsOf_0 : decode cX10_bitsOf 0 = .ok (.iconst 0, 1) := dk_3 (dk_at dksX10_bitsOf_0 0 rfl rfl)
theorem dX10_bitsOf_1 : decode cX10_bitsOf 1 = .ok (.istore 4, 2) := dk_54 4 (dk_at dksX10_bitsOf_0 1 rfl rfl)
theorem dX10_bitsOf_3 : decode cX10_bitsOf 3 = .ok (.iconst 0, 1) := dk_3 (dk_at dksX10_bitsOf_0 3 rfl rfl)
theorem dX10_bitsOf_4 : decode cX10_bitsOf 4 = .ok (.istore 5, 2) := dk_54 5 (dk_at dksX10_bitsOf_0 4 rfl rfl)
theorem dX10_bitsOf_6 : decode cX10_bitsOf 6 = .ok (.iload 5, 2) := dk_21 5 (dk_at dksX10_bitsOf_0 6 rfl rfl)
theorem dX10_bitsOf_8 : decode cX10_bitsOf 8 = .ok (.iload_n 2, 1) := dk_28 (dk_at dksX10_bitsOf_0 8 rfl rfl)
theorem dX10_bitsOf_9 : decode cX10_bitsOf 9 = .ok (.if_icmp .ge 31, 3) := dk_162 0 31 (dk_at dksX10_bitsOf_0 9 rfl rfl)
theorem dX10_bitsOf_12 : decode cX10_bitsOf 12 = .ok (.aload_n 0, 1) := dk_42 (dk_at dksX10_bitsOf_0 12 rfl rfl)
theorem dX10_bitsOf_13 : decode cX10_bitsOf 13 = .ok (.getfield 137, 3) := dk_180 0 137 (dk_at dksX10_bitsOf_0 13 rfl rfl)
theorem dX10_bitsOf_16 : decode cX10_bitsOf 16 = .ok (.iload_n 1, 1) := dk_27 (dk_at dksX10_bitsOf_0 16 rfl rfl)
theorem dX10_bitsOf_17 : decode cX10_bitsOf 17 = .ok (.iload 5, 2) := dk_21 5 (dk_at dksX10_bitsOf_0 17 rfl rfl)
theorem dX10_bitsOf_19 : decode cX10_bitsOf 19 = .ok (.iadd, 1) := dk_96 (dk_at dksX10_bitsOf_0 19 rfl rfl)
theorem dX10_bitsOf_20 : decode cX10_bitsOf 20 = .ok (.iaload, 1) := dk_46 (dk_at dksX10_bitsOf_0 20 rfl rfl)
theorem dX10_bitsOf_21 : decode cX10_bitsOf 21 = .ok (.iload_n 3, 1) := dk_29 (dk_at dksX10_bitsOf_0 21 rfl rfl)
theorem dX10_bitsOf_22 : decode cX10_bitsOf 22 = .ok (.if_icmp .ne 12, 3) := dk_160 0 12 (dk_at dksX10_bitsOf_1 0 rfl rfl)
theorem dX10_bitsOf_25 : decode cX10_bitsOf 25 = .ok (.iload 4, 2) := dk_21 4 (dk_at dksX10_bitsOf_1 3 rfl rfl)
theorem dX10_bitsOf_27 : decode cX10_bitsOf 27 = .ok (.iconst 1, 1) := dk_4 (dk_at dksX10_bitsOf_1 5 rfl rfl)
theorem dX10_bitsOf_28 : decode cX10_bitsOf 28 = .ok (.iload 5, 2) := dk_21 5 (dk_at dksX10_bitsOf_1 6 rfl rfl)
theorem dX10_bitsOf_30 : decode cX10_bitsOf 30 = .ok (.ishl, 1) := dk_120 (dk_at dksX10_bitsOf_1 8 rfl rfl)
theorem dX10_bitsOf_31 : decode cX10_bitsOf 31 = .ok (.ior, 1) := dk_128 (dk_at dksX10_bitsOf_1 9 rfl rfl)
theorem dX10_bitsOf_32 : decode cX10_bitsOf 32 = .ok (.istore 4, 2) := dk_54 4 (dk_at dksX10_bitsOf_1 10 rfl rfl)
theorem dX10_bitsOf_34 : decode cX10_bitsOf 34 = .ok (.iinc 5 1, 3) := dk_132 5 1 (dk_at dksX10_bitsOf_1 12 rfl rfl)
theorem dX10_bitsOf_37 : decode cX10_bitsOf 37 = .ok (.goto (-31), 3) := dk_167 255 225 (dk_at dksX10_bitsOf_1 15 rfl rfl)
theorem dX10_bitsOf_40 : decode cX10_bitsOf 40 = .ok (.iload 4, 2) := dk_21 4 (dk_at dksX10_bitsOf_1 18 rfl rfl)
theorem dX10_bitsOf_42 : decode cX10_bitsOf 42 = .ok (.ireturn, 1) := dk_172 (dk_at dksX10_bitsOf_1 20 rfl rfl)
abbrev cX10_errandsLeft : ByteArray := prog_21_method_68_code
def yX10_errandsLeft : MethodName := ⟨RX10, "errandsLeft", "(II)I"⟩
def dkwX10_errandsLeft_3 : List UInt8 := [180, 0, 242, 104, 21, 4, 96, 46, 28, 160, 0, 6, 132, 3, 1, 132, 4, 1, 167, 255, 173, 29, 172]
abbrev dktX10_errandsLeft_3 : List UInt8 := dkwX10_errandsLeft_3 ++ []
def dkwX10_errandsLeft_2 : List UInt8 := [180, 0, 242, 104, 21, 4, 96, 46, 27, 160, 0, 30, 28, 2, 159, 0, 22, 42, 180, 0, 82, 16, 8, 42]
abbrev dktX10_errandsLeft_2 : List UInt8 := dkwX10_errandsLeft_2 ++ dktX10_errandsLeft_3
def dkwX10_errandsLeft_1 : List UInt8 := [16, 75, 46, 21, 4, 122, 4, 126, 154, 0, 54, 27, 2, 159, 0, 22, 42, 180, 0, 79, 16, 8, 42]
abbrev dktX10_errandsLeft_1 : List UInt8 := dkwX10_errandsLeft_1 ++ dktX10_errandsLeft_2
def dkwX10_errandsLeft_0 : List UInt8 := [3, 62, 3, 54, 4, 21, 4, 42, 180, 0, 76, 42, 180, 0, 242, 46, 162, 0, 75, 42, 180, 0, 137]
abbrev dktX10_errandsLeft_0 : List UInt8 := dkwX10_errandsLeft_0 ++ dktX10_errandsLeft_1
theorem dksX10_errandsLeft_0 : cX10_errandsLeft.data.toList.drop 0 = dktX10_errandsLeft_0 := by decide +kernel
theorem dksX10_errandsLeft_1 : cX10_errandsLeft.data.toList.drop 23 = dktX10_errandsLeft_1 := dk_seg dksX10_errandsLeft_0 23 rfl rfl
theorem dksX10_errandsLeft_2 : cX10_errandsLeft.data.toList.drop 46 = dktX10_errandsLeft_2 := dk_seg dksX10_errandsLeft_1 23 rfl rfl
theorem dksX10_errandsLeft_3 : cX10_errandsLeft.data.toList.drop 70 = dktX10_errandsLeft_3 := dk_seg dksX10_errandsLeft_2 24 rfl rfl
theorem dX10_errandsLeft_0 : decode cX10_errandsLeft 0 = .ok (.iconst 0, 1) := dk_3 (dk_at dksX10_errandsLeft_0 0 rfl rfl)
theorem dX10_errandsLeft_1 : decode cX10_errandsLeft 1 = .ok (.istore_n 3, 1) := dk_62 (dk_at dksX10_errandsLeft_0 1 rfl rfl)
theorem dX10_errandsLeft_2 : decode cX10_errandsLeft 2 = .ok (.iconst 0, 1) := dk_3 (dk_at dksX10_errandsLeft_0 2 rfl rfl)
theorem dX10_errandsLeft_3 : decode cX10_errandsLeft 3 = .ok (.istore 4, 2) := dk_54 4 (dk_at dksX10_errandsLeft_0 3 rfl rfl)
theorem dX10_errandsLeft_5 : decode cX10_errandsLeft 5 = .ok (.iload 4, 2) := dk_21 4 (dk_at dksX10_errandsLeft_0 5 rfl rfl)
theorem dX10_errandsLeft_7 : decode cX10_errandsLeft 7 = .ok (.aload_n 0, 1) := dk_42 (dk_at dksX10_errandsLeft_0 7 rfl rfl)
theorem dX10_errandsLeft_8 : decode cX10_errandsLeft 8 = .ok (.getfield 76, 3) := dk_180 0 76 (dk_at dksX10_errandsLeft_0 8 rfl rfl)
theorem dX10_errandsLeft_11 : decode cX10_errandsLeft 11 = .ok (.aload_n 0, 1) := dk_42 (dk_at dksX10_errandsLeft_0 11 rfl rfl)
theorem dX10_errandsLeft_12 : decode cX10_errandsLeft 12 = .ok (.getfield 242, 3) := dk_180 0 242 (dk_at dksX10_errandsLeft_0 12 rfl rfl)
theorem dX10_errandsLeft_15 : decode cX10_errandsLeft 15 = .ok (.iaload, 1) := dk_46 (dk_at dksX10_errandsLeft_0 15 rfl rfl)
theorem dX10_errandsLeft_16 : decode cX10_errandsLeft 16 = .ok (.if_icmp .ge 75, 3) := dk_162 0 75 (dk_at dksX10_errandsLeft_0 16 rfl rfl)
theorem dX10_errandsLeft_19 : decode cX10_errandsLeft 19 = .ok (.aload_n 0, 1) := dk_42 (dk_at dksX10_errandsLeft_0 19 rfl rfl)
theorem dX10_errandsLeft_20 : decode cX10_errandsLeft 20 = .ok (.getfield 137, 3) := dk_180 0 137 (dk_at dksX10_errandsLeft_0 20 rfl rfl)
theorem dX10_errandsLeft_23 : decode cX10_errandsLeft 23 = .ok (.bipush 75, 2) := dk_16 75 (dk_at dksX10_errandsLeft_1 0 rfl rfl)
theorem dX10_errandsLeft_25 : decode cX10_errandsLeft 25 = .ok (.iaload, 1) := dk_46 (dk_at dksX10_errandsLeft_1 2 rfl rfl)
theorem dX10_errandsLeft_26 : decode cX10_errandsLeft 26 = .ok (.iload 4, 2) := dk_21 4 (dk_at dksX10_errandsLeft_1 3 rfl rfl)
theorem dX10_errandsLeft_28 : decode cX10_errandsLeft 28 = .ok (.ishr, 1) := dk_122 (dk_at dksX10_errandsLeft_1 5 rfl rfl)
theorem dX10_errandsLeft_29 : decode cX10_errandsLeft 29 = .ok (.iconst 1, 1) := dk_4 (dk_at dksX10_errandsLeft_1 6 rfl rfl)
theorem dX10_errandsLeft_30 : decode cX10_errandsLeft 30 = .ok (.iand, 1) := dk_126 (dk_at dksX10_errandsLeft_1 7 rfl rfl)
theorem dX10_errandsLeft_31 : decode cX10_errandsLeft 31 = .ok (.ifCond .ne 54, 3) := dk_154 0 54 (dk_at dksX10_errandsLeft_1 8 rfl rfl)
theorem dX10_errandsLeft_34 : decode cX10_errandsLeft 34 = .ok (.iload_n 1, 1) := dk_27 (dk_at dksX10_errandsLeft_1 11 rfl rfl)
theorem dX10_errandsLeft_35 : decode cX10_errandsLeft 35 = .ok (.iconst (-1), 1) := dk_2 (dk_at dksX10_errandsLeft_1 12 rfl rfl)
theorem dX10_errandsLeft_36 : decode cX10_errandsLeft 36 = .ok (.if_icmp .eq 22, 3) := dk_159 0 22 (dk_at dksX10_errandsLeft_1 13 rfl rfl)
theorem dX10_errandsLeft_39 : decode cX10_errandsLeft 39 = .ok (.aload_n 0, 1) := dk_42 (dk_at dksX10_errandsLeft_1 16 rfl rfl)
theorem dX10_errandsLeft_40 : decode cX10_errandsLeft 40 = .ok (.getfield 79, 3) := dk_180 0 79 (dk_at dksX10_errandsLeft_1 17 rfl rfl)
theorem dX10_errandsLeft_43 : decode cX10_errandsLeft 43 = .ok (.bipush 8, 2) := dk_16 8 (dk_at dksX10_errandsLeft_1 20 rfl rfl)
theorem dX10_errandsLeft_45 : decode cX10_errandsLeft 45 = .ok (.aload_n 0, 1) := dk_42 (dk_at dksX10_errandsLeft_1 22 rfl rfl)
theorem dX10_errandsLeft_46 : decode cX10_errandsLeft 46 = .ok (.getfield 242, 3) := dk_180 0 242 (dk_at dksX10_errandsLeft_2 0 rfl rfl)
theorem dX10_errandsLeft_49 : decode cX10_errandsLeft 49 = .ok (.imul, 1) := dk_104 (dk_at dksX10_errandsLeft_2 3 rfl rfl)
theorem dX10_errandsLeft_50 : decode cX10_errandsLeft 50 = .ok (.iload 4, 2) := dk_21 4 (dk_at dksX10_errandsLeft_2 4 rfl rfl)
theorem dX10_errandsLeft_52 : decode cX10_errandsLeft 52 = .ok (.iadd, 1) := dk_96 (dk_at dksX10_errandsLeft_2 6 rfl rfl)
theorem dX10_errandsLeft_53 : decode cX10_errandsLeft 53 = .ok (.iaload, 1) := dk_46 (dk_at dksX10_errandsLeft_2 7 rfl rfl)
theorem dX10_errandsLeft_54 : decode cX10_errandsLeft 54 = .ok (.iload_n 1, 1) := dk_27 (dk_at dksX10_errandsLeft_2 8 rfl rfl)
theorem dX10_errandsLeft_55 : decode cX10_errandsLeft 55 = .ok (.if_icmp .ne 30, 3) := dk_160 0 30 (dk_at dksX10_errandsLeft_2 9 rfl rfl)
theorem dX10_errandsLeft_58 : decode cX10_errandsLeft 58 = .ok (.iload_n 2, 1) := dk_28 (dk_at dksX10_errandsLeft_2 12 rfl rfl)
theorem dX10_errandsLeft_59 : decode cX10_errandsLeft 59 = .ok (.iconst (-1), 1) := dk_2 (dk_at dksX10_errandsLeft_2 13 rfl rfl)
theorem dX10_errandsLeft_60 : decode cX10_errandsLeft 60 = .ok (.if_icmp .eq 22, 3) := dk_159 0 22 (dk_at dksX10_errandsLeft_2 14 rfl rfl)
theorem dX10_errandsLeft_63 : decode cX10_errandsLeft 63 = .ok (.aload_n 0, 1) := dk_42 (dk_at dksX10_errandsLeft_2 17 rfl rfl)
theorem dX10_errandsLeft_64 : decode cX10_errandsLeft 64 = .ok (.getfield 82, 3) := dk_180 0 82 (dk_at dksX10_errandsLeft_2 18 rfl rfl)
theorem dX10_errandsLeft_67 : decode cX10_errandsLeft 67 = .ok (.bipush 8, 2) := dk_16 8 (dk_at dksX10_errandsLeft_2 21 rfl rfl)
theorem dX10_errandsLeft_69 : decode cX10_errandsLeft 69 = .ok (.aload_n 0, 1) := dk_42 (dk_at dksX10_errandsLeft_2 23 rfl rfl)
theorem dX10_errandsLeft_70 : decode cX10_errandsLeft 70 = .ok (.getfield 242, 3) := dk_180 0 242 (dk_at dksX10_errandsLeft_3 0 rfl rfl)
theorem dX10_errandsLeft_73 : decode cX10_errandsLeft 73 = .ok (.imul, 1) := dk_104 (dk_at dksX10_errandsLeft_3 3 rfl rfl)
theorem dX10_errandsLeft_74 : decode cX10_errandsLeft 74 = .ok (.iload 4, 2) := dk_21 4 (dk_at dksX10_errandsLeft_3 4 rfl rfl)
theorem dX10_errandsLeft_76 : decode cX10_errandsLeft 76 = .ok (.iadd, 1) := dk_96 (dk_at dksX10_errandsLeft_3 6 rfl rfl)
theorem dX10_errandsLeft_77 : decode cX10_errandsLeft 77 = .ok (.iaload, 1) := dk_46 (dk_at dksX10_errandsLeft_3 7 rfl rfl)
theorem dX10_errandsLeft_78 : decode cX10_errandsLeft 78 = .ok (.iload_n 2, 1) := dk_28 (dk_at dksX10_errandsLeft_3 8 rfl rfl)
theorem dX10_errandsLeft_79 : decode cX10_errandsLeft 79 = .ok (.if_icmp .ne 6, 3) := dk_160 0 6 (dk_at dksX10_errandsLeft_3 9 rfl rfl)
theorem dX10_errandsLeft_82 : decode cX10_errandsLeft 82 = .ok (.iinc 3 1, 3) := dk_132 3 1 (dk_at dksX10_errandsLeft_3 12 rfl rfl)
theorem dX10_errandsLeft_85 : decode cX10_errandsLeft 85 = .ok (.iinc 4 1, 3) := dk_132 4 1 (dk_at dksX10_errandsLeft_3 15 rfl rfl)
theorem dX10_errandsLeft_88 : decode cX10_errandsLeft 88 = .ok (.goto (-83), 3) := dk_167 255 173 (dk_at dksX10_errandsLeft_3 18 rfl rfl)
theorem dX10_errandsLeft_91 : decode cX10_errandsLeft 91 = .ok (.iload_n 3, 1) := dk_29 (dk_at dksX10_errandsLeft_3 21 rfl rfl)
theorem dX10_errandsLeft_92 : decode cX10_errandsLeft 92 = .ok (.ireturn, 1) := dk_172 (dk_at dksX10_errandsLeft_3 22 rfl rfl)
abbrev cX10_dog : ByteArray := prog_21_method_71_code
def yX10_dog : MethodName := ⟨RX10, "dog", "(II)I"⟩
def dkwX10_dog_4 : List UInt8 := [6, 100, 104, 27, 96, 46, 172, 2, 172]
abbrev dktX10_dog_4 : List UInt8 := dkwX10_dog_4 ++ []
def dkwX10_dog_3 : List UInt8 := [27, 96, 46, 172, 42, 180, 0, 64, 8, 42, 180, 0, 242, 104, 27, 96, 46, 172, 42, 180, 0, 134, 8, 28]
abbrev dktX10_dog_3 : List UInt8 := dkwX10_dog_3 ++ dktX10_dog_4
def dkwX10_dog_2 : List UInt8 := [42, 180, 0, 58, 8, 42, 180, 0, 242, 104, 27, 96, 46, 172, 42, 180, 0, 61, 8, 42, 180, 0, 242, 104]
abbrev dktX10_dog_2 : List UInt8 := dkwX10_dog_2 ++ dktX10_dog_3
def dkwX10_dog_1 : List UInt8 := [170, 0, 0, 0, 92, 0, 0, 0, 0, 0, 0, 0, 5, 0, 0, 0, 37, 0, 0, 0, 51, 0, 0, 0, 65, 0, 0, 0, 79, 0, 0, 0, 79, 0, 0, 0, 79]
abbrev dktX10_dog_1 : List UInt8 := dkwX10_dog_1 ++ dktX10_dog_2
def dkwX10_dog_0 : List UInt8 := [42, 27, 182, 1, 153, 154, 0, 5, 2, 172, 28]
abbrev dktX10_dog_0 : List UInt8 := dkwX10_dog_0 ++ dktX10_dog_1
theorem dksX10_dog_0 : cX10_dog.data.toList.drop 0 = dktX10_dog_0 := by decide +kernel
theorem dksX10_dog_1 : cX10_dog.data.toList.drop 11 = dktX10_dog_1 := dk_seg dksX10_dog_0 11 rfl rfl
theorem dksX10_dog_2 : cX10_dog.data.toList.drop 48 = dktX10_dog_2 := dk_seg dksX10_dog_1 37 rfl rfl
theorem dksX10_dog_3 : cX10_dog.data.toList.drop 72 = dktX10_dog_3 := dk_seg dksX10_dog_2 24 rfl rfl
theorem dksX10_dog_4 : cX10_dog.data.toList.drop 96 = dktX10_dog_4 := dk_seg dksX10_dog_3 24 rfl rfl
theorem dX10_dog_0 : decode cX10_dog 0 = .ok (.aload_n 0, 1) := dk_42 (dk_at dksX10_dog_0 0 rfl rfl)
theorem dX10_dog_1 : decode cX10_dog 1 = .ok (.iload_n 1, 1) := dk_27 (dk_at dksX10_dog_0 1 rfl rfl)
theorem dX10_dog_2 : decode cX10_dog 2 = .ok (.invokevirtual 409, 3) := dk_182 1 153 (dk_at dksX10_dog_0 2 rfl rfl)
theorem dX10_dog_5 : decode cX10_dog 5 = .ok (.ifCond .ne 5, 3) := dk_154 0 5 (dk_at dksX10_dog_0 5 rfl rfl)
theorem dX10_dog_8 : decode cX10_dog 8 = .ok (.iconst (-1), 1) := dk_2 (dk_at dksX10_dog_0 8 rfl rfl)
theorem dX10_dog_9 : decode cX10_dog 9 = .ok (.ireturn, 1) := dk_172 (dk_at dksX10_dog_0 9 rfl rfl)
theorem dX10_dog_10 : decode cX10_dog 10 = .ok (.iload_n 2, 1) := dk_28 (dk_at dksX10_dog_0 10 rfl rfl)
theorem dX10_dog_11 : decode cX10_dog 11 = .ok (.tableswitch 92 0 5 #[37, 51, 65, 79, 79, 79], 37) := by decide +kernel
theorem dX10_dog_48 : decode cX10_dog 48 = .ok (.aload_n 0, 1) := dk_42 (dk_at dksX10_dog_2 0 rfl rfl)
theorem dX10_dog_49 : decode cX10_dog 49 = .ok (.getfield 58, 3) := dk_180 0 58 (dk_at dksX10_dog_2 1 rfl rfl)
theorem dX10_dog_52 : decode cX10_dog 52 = .ok (.iconst 5, 1) := dk_8 (dk_at dksX10_dog_2 4 rfl rfl)
theorem dX10_dog_53 : decode cX10_dog 53 = .ok (.aload_n 0, 1) := dk_42 (dk_at dksX10_dog_2 5 rfl rfl)
theorem dX10_dog_54 : decode cX10_dog 54 = .ok (.getfield 242, 3) := dk_180 0 242 (dk_at dksX10_dog_2 6 rfl rfl)
theorem dX10_dog_57 : decode cX10_dog 57 = .ok (.imul, 1) := dk_104 (dk_at dksX10_dog_2 9 rfl rfl)
theorem dX10_dog_58 : decode cX10_dog 58 = .ok (.iload_n 1, 1) := dk_27 (dk_at dksX10_dog_2 10 rfl rfl)
theorem dX10_dog_59 : decode cX10_dog 59 = .ok (.iadd, 1) := dk_96 (dk_at dksX10_dog_2 11 rfl rfl)
theorem dX10_dog_60 : decode cX10_dog 60 = .ok (.iaload, 1) := dk_46 (dk_at dksX10_dog_2 12 rfl rfl)
theorem dX10_dog_61 : decode cX10_dog 61 = .ok (.ireturn, 1) := dk_172 (dk_at dksX10_dog_2 13 rfl rfl)
theorem dX10_dog_62 : decode cX10_dog 62 = .ok (.aload_n 0, 1) := dk_42 (dk_at dksX10_dog_2 14 rfl rfl)
theorem dX10_dog_63 : decode cX10_dog 63 = .ok (.getfield 61, 3) := dk_180 0 61 (dk_at dksX10_dog_2 15 rfl rfl)
theorem dX10_dog_66 : decode cX10_dog 66 = .ok (.iconst 5, 1) := dk_8 (dk_at dksX10_dog_2 18 rfl rfl)
theorem dX10_dog_67 : decode cX10_dog 67 = .ok (.aload_n 0, 1) := dk_42 (dk_at dksX10_dog_2 19 rfl rfl)
theorem dX10_dog_68 : decode cX10_dog 68 = .ok (.getfield 242, 3) := dk_180 0 242 (dk_at dksX10_dog_2 20 rfl rfl)
theorem dX10_dog_71 : decode cX10_dog 71 = .ok (.imul, 1) := dk_104 (dk_at dksX10_dog_2 23 rfl rfl)
theorem dX10_dog_72 : decode cX10_dog 72 = .ok (.iload_n 1, 1) := dk_27 (dk_at dksX10_dog_3 0 rfl rfl)
theorem dX10_dog_73 : decode cX10_dog 73 = .ok (.iadd, 1) := dk_96 (dk_at dksX10_dog_3 1 rfl rfl)
theorem dX10_dog_74 : decode cX10_dog 74 = .ok (.iaload, 1) := dk_46 (dk_at dksX10_dog_3 2 rfl rfl)
theorem dX10_dog_75 : decode cX10_dog 75 = .ok (.ireturn, 1) := dk_172 (dk_at dksX10_dog_3 3 rfl rfl)
theorem dX10_dog_76 : decode cX10_dog 76 = .ok (.aload_n 0, 1) := dk_42 (dk_at dksX10_dog_3 4 rfl rfl)
theorem dX10_dog_77 : decode cX10_dog 77 = .ok (.getfield 64, 3) := dk_180 0 64 (dk_at dksX10_dog_3 5 rfl rfl)
theorem dX10_dog_80 : decode cX10_dog 80 = .ok (.iconst 5, 1) := dk_8 (dk_at dksX10_dog_3 8 rfl rfl)
theorem dX10_dog_81 : decode cX10_dog 81 = .ok (.aload_n 0, 1) := dk_42 (dk_at dksX10_dog_3 9 rfl rfl)
theorem dX10_dog_82 : decode cX10_dog 82 = .ok (.getfield 242, 3) := dk_180 0 242 (dk_at dksX10_dog_3 10 rfl rfl)
theorem dX10_dog_85 : decode cX10_dog 85 = .ok (.imul, 1) := dk_104 (dk_at dksX10_dog_3 13 rfl rfl)
theorem dX10_dog_86 : decode cX10_dog 86 = .ok (.iload_n 1, 1) := dk_27 (dk_at dksX10_dog_3 14 rfl rfl)
theorem dX10_dog_87 : decode cX10_dog 87 = .ok (.iadd, 1) := dk_96 (dk_at dksX10_dog_3 15 rfl rfl)
theorem dX10_dog_88 : decode cX10_dog 88 = .ok (.iaload, 1) := dk_46 (dk_at dksX10_dog_3 16 rfl rfl)
theorem dX10_dog_89 : decode cX10_dog 89 = .ok (.ireturn, 1) := dk_172 (dk_at dksX10_dog_3 17 rfl rfl)
theorem dX10_dog_90 : decode cX10_dog 90 = .ok (.aload_n 0, 1) := dk_42 (dk_at dksX10_dog_3 18 rfl rfl)
theorem dX10_dog_91 : decode cX10_dog 91 = .ok (.getfield 134, 3) := dk_180 0 134 (dk_at dksX10_dog_3 19 rfl rfl)
theorem dX10_dog_94 : decode cX10_dog 94 = .ok (.iconst 5, 1) := dk_8 (dk_at dksX10_dog_3 22 rfl rfl)
theorem dX10_dog_95 : decode cX10_dog 95 = .ok (.iload_n 2, 1) := dk_28 (dk_at dksX10_dog_3 23 rfl rfl)
theorem dX10_dog_96 : decode cX10_dog 96 = .ok (.iconst 3, 1) := dk_6 (dk_at dksX10_dog_4 0 rfl rfl)
theorem dX10_dog_97 : decode cX10_dog 97 = .ok (.isub, 1) := dk_100 (dk_at dksX10_dog_4 1 rfl rfl)
theorem dX10_dog_98 : decode cX10_dog 98 = .ok (.imul, 1) := dk_104 (dk_at dksX10_dog_4 2 rfl rfl)
theorem dX10_dog_99 : decode cX10_dog 99 = .ok (.iload_n 1, 1) := dk_27 (dk_at dksX10_dog_4 3 rfl rfl)
theorem dX10_dog_100 : decode cX10_dog 100 = .ok (.iadd, 1) := dk_96 (dk_at dksX10_dog_4 4 rfl rfl)
theorem dX10_dog_101 : decode cX10_dog 101 = .ok (.iaload, 1) := dk_46 (dk_at dksX10_dog_4 5 rfl rfl)
theorem dX10_dog_102 : decode cX10_dog 102 = .ok (.ireturn, 1) := dk_172 (dk_at dksX10_dog_4 6 rfl rfl)
theorem dX10_dog_103 : decode cX10_dog 103 = .ok (.iconst (-1), 1) := dk_2 (dk_at dksX10_dog_4 7 rfl rfl)
theorem dX10_dog_104 : decode cX10_dog 104 = .ok (.ireturn, 1) := dk_172 (dk_at dksX10_dog_4 8 rfl rfl)
abbrev cX10_isDog : ByteArray := prog_21_method_45_code
def yX10_isDog : MethodName := ⟨RX10, "isDog", "(I)Z"⟩
def dkwX10_isDog_0 : List UInt8 := [27, 3, 42, 180, 0, 55, 42, 180, 0, 242, 46, 4, 100, 184, 1, 78, 172]
abbrev dktX10_isDog_0 : List UInt8 := dkwX10_isDog_0 ++ []
theorem dksX10_isDog_0 : cX10_isDog.data.toList.drop 0 = dktX10_isDog_0 := by decide +kernel
theorem dX10_isDog_0 : decode cX10_isDog 0 = .ok (.iload_n 1, 1) := dk_27 (dk_at dksX10_isDog_0 0 rfl rfl)
theorem dX10_isDog_1 : decode cX10_isDog 1 = .ok (.iconst 0, 1) := dk_3 (dk_at dksX10_isDog_0 1 rfl rfl)
theorem dX10_isDog_2 : decode cX10_isDog 2 = .ok (.aload_n 0, 1) := dk_42 (dk_at dksX10_isDog_0 2 rfl rfl)
theorem dX10_isDog_3 : decode cX10_isDog 3 = .ok (.getfield 55, 3) := dk_180 0 55 (dk_at dksX10_isDog_0 3 rfl rfl)
theorem dX10_isDog_6 : decode cX10_isDog 6 = .ok (.aload_n 0, 1) := dk_42 (dk_at dksX10_isDog_0 6 rfl rfl)
theorem dX10_isDog_7 : decode cX10_isDog 7 = .ok (.getfield 242, 3) := dk_180 0 242 (dk_at dksX10_isDog_0 7 rfl rfl)
theorem dX10_isDog_10 : decode cX10_isDog 10 = .ok (.iaload, 1) := dk_46 (dk_at dksX10_isDog_0 10 rfl rfl)
theorem dX10_isDog_11 : decode cX10_isDog 11 = .ok (.iconst 1, 1) := dk_4 (dk_at dksX10_isDog_0 11 rfl rfl)
theorem dX10_isDog_12 : decode cX10_isDog 12 = .ok (.isub, 1) := dk_100 (dk_at dksX10_isDog_0 12 rfl rfl)
theorem dX10_isDog_13 : decode cX10_isDog 13 = .ok (.invokestatic 334, 3) := dk_184 1 78 (dk_at dksX10_isDog_0 13 rfl rfl)
theorem dX10_isDog_16 : decode cX10_isDog 16 = .ok (.ireturn, 1) := dk_172 (dk_at dksX10_isDog_0 16 rfl rfl)
abbrev cX10_person : ByteArray := prog_21_method_72_code
def yX10_person : MethodName := ⟨RX10, "person", "(II)I"⟩
def dkwX10_person_5 : List UInt8 := [172]
abbrev dktX10_person_5 : List UInt8 := dkwX10_person_5 ++ []
def dkwX10_person_4 : List UInt8 := [16, 27, 27, 96, 46, 172, 42, 27, 2, 182, 1, 150, 172, 42, 180, 0, 137, 16, 31, 27, 96, 46, 172, 2]
abbrev dktX10_person_4 : List UInt8 := dkwX10_person_4 ++ dktX10_person_5
def dkwX10_person_3 : List UInt8 := [42, 180, 0, 137, 16, 15, 27, 96, 46, 172, 42, 180, 0, 137, 16, 19, 27, 96, 46, 172, 42, 180, 0, 137]
abbrev dktX10_person_3 : List UInt8 := dkwX10_person_3 ++ dktX10_person_4
def dkwX10_person_2 : List UInt8 := [42, 180, 0, 70, 7, 42, 180, 0, 242, 104, 27, 96, 46, 172, 42, 180, 0, 137, 16, 23, 27, 96, 46, 172]
abbrev dktX10_person_2 : List UInt8 := dkwX10_person_2 ++ dktX10_person_3
def dkwX10_person_1 : List UInt8 := [170, 0, 0, 0, 112, 0, 0, 0, 0, 0, 0, 0, 6, 0, 0, 0, 41, 0, 0, 0, 55, 0, 0, 0, 65, 0, 0, 0, 75, 0, 0, 0, 85, 0, 0, 0, 95, 0, 0, 0, 102]
abbrev dktX10_person_1 : List UInt8 := dkwX10_person_1 ++ dktX10_person_2
def dkwX10_person_0 : List UInt8 := [42, 27, 182, 1, 156, 154, 0, 5, 2, 172, 42, 182, 1, 144, 28]
abbrev dktX10_person_0 : List UInt8 := dkwX10_person_0 ++ dktX10_person_1
theorem dksX10_person_0 : cX10_person.data.toList.drop 0 = dktX10_person_0 := by decide +kernel
theorem dksX10_person_1 : cX10_person.data.toList.drop 15 = dktX10_person_1 := dk_seg dksX10_person_0 15 rfl rfl
theorem dksX10_person_2 : cX10_person.data.toList.drop 56 = dktX10_person_2 := dk_seg dksX10_person_1 41 rfl rfl
theorem dksX10_person_3 : cX10_person.data.toList.drop 80 = dktX10_person_3 := dk_seg dksX10_person_2 24 rfl rfl
theorem dksX10_person_4 : cX10_person.data.toList.drop 104 = dktX10_person_4 := dk_seg dksX10_person_3 24 rfl rfl
theorem dksX10_person_5 : cX10_person.data.toList.drop 128 = dktX10_person_5 := dk_seg dksX10_person_4 24 rfl rfl
theorem dX10_person_0 : decode cX10_person 0 = .ok (.aload_n 0, 1) := dk_42 (dk_at dksX10_person_0 0 rfl rfl)
theorem dX10_person_1 : decode cX10_person 1 = .ok (.iload_n 1, 1) := dk_27 (dk_at dksX10_person_0 1 rfl rfl)
theorem dX10_person_2 : decode cX10_person 2 = .ok (.invokevirtual 412, 3) := dk_182 1 156 (dk_at dksX10_person_0 2 rfl rfl)
theorem dX10_person_5 : decode cX10_person 5 = .ok (.ifCond .ne 5, 3) := dk_154 0 5 (dk_at dksX10_person_0 5 rfl rfl)
theorem dX10_person_8 : decode cX10_person 8 = .ok (.iconst (-1), 1) := dk_2 (dk_at dksX10_person_0 8 rfl rfl)
theorem dX10_person_9 : decode cX10_person 9 = .ok (.ireturn, 1) := dk_172 (dk_at dksX10_person_0 9 rfl rfl)
theorem dX10_person_10 : decode cX10_person 10 = .ok (.aload_n 0, 1) := dk_42 (dk_at dksX10_person_0 10 rfl rfl)
theorem dX10_person_11 : decode cX10_person 11 = .ok (.invokevirtual 400, 3) := dk_182 1 144 (dk_at dksX10_person_0 11 rfl rfl)
theorem dX10_person_14 : decode cX10_person 14 = .ok (.iload_n 2, 1) := dk_28 (dk_at dksX10_person_0 14 rfl rfl)
theorem dX10_person_15 : decode cX10_person 15 = .ok (.tableswitch 112 0 6 #[41, 55, 65, 75, 85, 95, 102], 41) := by decide +kernel
theorem dX10_person_56 : decode cX10_person 56 = .ok (.aload_n 0, 1) := dk_42 (dk_at dksX10_person_2 0 rfl rfl)
theorem dX10_person_57 : decode cX10_person 57 = .ok (.getfield 70, 3) := dk_180 0 70 (dk_at dksX10_person_2 1 rfl rfl)
theorem dX10_person_60 : decode cX10_person 60 = .ok (.iconst 4, 1) := dk_7 (dk_at dksX10_person_2 4 rfl rfl)
theorem dX10_person_61 : decode cX10_person 61 = .ok (.aload_n 0, 1) := dk_42 (dk_at dksX10_person_2 5 rfl rfl)
theorem dX10_person_62 : decode cX10_person 62 = .ok (.getfield 242, 3) := dk_180 0 242 (dk_at dksX10_person_2 6 rfl rfl)
theorem dX10_person_65 : decode cX10_person 65 = .ok (.imul, 1) := dk_104 (dk_at dksX10_person_2 9 rfl rfl)
theorem dX10_person_66 : decode cX10_person 66 = .ok (.iload_n 1, 1) := dk_27 (dk_at dksX10_person_2 10 rfl rfl)
theorem dX10_person_67 : decode cX10_person 67 = .ok (.iadd, 1) := dk_96 (dk_at dksX10_person_2 11 rfl rfl)
theorem dX10_person_68 : decode cX10_person 68 = .ok (.iaload, 1) := dk_46 (dk_at dksX10_person_2 12 rfl rfl)
theorem dX10_person_69 : decode cX10_person 69 = .ok (.ireturn, 1) := dk_172 (dk_at dksX10_person_2 13 rfl rfl)
theorem dX10_person_70 : decode cX10_person 70 = .ok (.aload_n 0, 1) := dk_42 (dk_at dksX10_person_2 14 rfl rfl)
theorem dX10_person_71 : decode cX10_person 71 = .ok (.getfield 137, 3) := dk_180 0 137 (dk_at dksX10_person_2 15 rfl rfl)
theorem dX10_person_74 : decode cX10_person 74 = .ok (.bipush 23, 2) := dk_16 23 (dk_at dksX10_person_2 18 rfl rfl)
theorem dX10_person_76 : decode cX10_person 76 = .ok (.iload_n 1, 1) := dk_27 (dk_at dksX10_person_2 20 rfl rfl)
theorem dX10_person_77 : decode cX10_person 77 = .ok (.iadd, 1) := dk_96 (dk_at dksX10_person_2 21 rfl rfl)
theorem dX10_person_78 : decode cX10_person 78 = .ok (.iaload, 1) := dk_46 (dk_at dksX10_person_2 22 rfl rfl)
theorem dX10_person_79 : decode cX10_person 79 = .ok (.ireturn, 1) := dk_172 (dk_at dksX10_person_2 23 rfl rfl)
theorem dX10_person_80 : decode cX10_person 80 = .ok (.aload_n 0, 1) := dk_42 (dk_at dksX10_person_3 0 rfl rfl)
theorem dX10_person_81 : decode cX10_person 81 = .ok (.getfield 137, 3) := dk_180 0 137 (dk_at dksX10_person_3 1 rfl rfl)
theorem dX10_person_84 : decode cX10_person 84 = .ok (.bipush 15, 2) := dk_16 15 (dk_at dksX10_person_3 4 rfl rfl)
theorem dX10_person_86 : decode cX10_person 86 = .ok (.iload_n 1, 1) := dk_27 (dk_at dksX10_person_3 6 rfl rfl)
theorem dX10_person_87 : decode cX10_person 87 = .ok (.iadd, 1) := dk_96 (dk_at dksX10_person_3 7 rfl rfl)
theorem dX10_person_88 : decode cX10_person 88 = .ok (.iaload, 1) := dk_46 (dk_at dksX10_person_3 8 rfl rfl)
theorem dX10_person_89 : decode cX10_person 89 = .ok (.ireturn, 1) := dk_172 (dk_at dksX10_person_3 9 rfl rfl)
theorem dX10_person_90 : decode cX10_person 90 = .ok (.aload_n 0, 1) := dk_42 (dk_at dksX10_person_3 10 rfl rfl)
theorem dX10_person_91 : decode cX10_person 91 = .ok (.getfield 137, 3) := dk_180 0 137 (dk_at dksX10_person_3 11 rfl rfl)
theorem dX10_person_94 : decode cX10_person 94 = .ok (.bipush 19, 2) := dk_16 19 (dk_at dksX10_person_3 14 rfl rfl)
theorem dX10_person_96 : decode cX10_person 96 = .ok (.iload_n 1, 1) := dk_27 (dk_at dksX10_person_3 16 rfl rfl)
theorem dX10_person_97 : decode cX10_person 97 = .ok (.iadd, 1) := dk_96 (dk_at dksX10_person_3 17 rfl rfl)
theorem dX10_person_98 : decode cX10_person 98 = .ok (.iaload, 1) := dk_46 (dk_at dksX10_person_3 18 rfl rfl)
theorem dX10_person_99 : decode cX10_person 99 = .ok (.ireturn, 1) := dk_172 (dk_at dksX10_person_3 19 rfl rfl)
theorem dX10_person_100 : decode cX10_person 100 = .ok (.aload_n 0, 1) := dk_42 (dk_at dksX10_person_3 20 rfl rfl)
theorem dX10_person_101 : decode cX10_person 101 = .ok (.getfield 137, 3) := dk_180 0 137 (dk_at dksX10_person_3 21 rfl rfl)
theorem dX10_person_104 : decode cX10_person 104 = .ok (.bipush 27, 2) := dk_16 27 (dk_at dksX10_person_4 0 rfl rfl)
theorem dX10_person_106 : decode cX10_person 106 = .ok (.iload_n 1, 1) := dk_27 (dk_at dksX10_person_4 2 rfl rfl)
theorem dX10_person_107 : decode cX10_person 107 = .ok (.iadd, 1) := dk_96 (dk_at dksX10_person_4 3 rfl rfl)
theorem dX10_person_108 : decode cX10_person 108 = .ok (.iaload, 1) := dk_46 (dk_at dksX10_person_4 4 rfl rfl)
theorem dX10_person_109 : decode cX10_person 109 = .ok (.ireturn, 1) := dk_172 (dk_at dksX10_person_4 5 rfl rfl)
theorem dX10_person_110 : decode cX10_person 110 = .ok (.aload_n 0, 1) := dk_42 (dk_at dksX10_person_4 6 rfl rfl)
theorem dX10_person_111 : decode cX10_person 111 = .ok (.iload_n 1, 1) := dk_27 (dk_at dksX10_person_4 7 rfl rfl)
theorem dX10_person_112 : decode cX10_person 112 = .ok (.iconst (-1), 1) := dk_2 (dk_at dksX10_person_4 8 rfl rfl)
theorem dX10_person_113 : decode cX10_person 113 = .ok (.invokevirtual 406, 3) := dk_182 1 150 (dk_at dksX10_person_4 9 rfl rfl)
theorem dX10_person_116 : decode cX10_person 116 = .ok (.ireturn, 1) := dk_172 (dk_at dksX10_person_4 12 rfl rfl)
theorem dX10_person_117 : decode cX10_person 117 = .ok (.aload_n 0, 1) := dk_42 (dk_at dksX10_person_4 13 rfl rfl)
theorem dX10_person_118 : decode cX10_person 118 = .ok (.getfield 137, 3) := dk_180 0 137 (dk_at dksX10_person_4 14 rfl rfl)
theorem dX10_person_121 : decode cX10_person 121 = .ok (.bipush 31, 2) := dk_16 31 (dk_at dksX10_person_4 17 rfl rfl)
theorem dX10_person_123 : decode cX10_person 123 = .ok (.iload_n 1, 1) := dk_27 (dk_at dksX10_person_4 19 rfl rfl)
theorem dX10_person_124 : decode cX10_person 124 = .ok (.iadd, 1) := dk_96 (dk_at dksX10_person_4 20 rfl rfl)
theorem dX10_person_125 : decode cX10_person 125 = .ok (.iaload, 1) := dk_46 (dk_at dksX10_person_4 21 rfl rfl)
theorem dX10_person_126 : decode cX10_person 126 = .ok (.ireturn, 1) := dk_172 (dk_at dksX10_person_4 22 rfl rfl)
theorem dX10_person_127 : decode cX10_person 127 = .ok (.iconst (-1), 1) := dk_2 (dk_at dksX10_person_4 23 rfl rfl)
theorem dX10_person_128 : decode cX10_person 128 = .ok (.ireturn, 1) := dk_172 (dk_at dksX10_person_5 0 rfl rfl)
abbrev cX10_isPerson : ByteArray := prog_21_method_46_code
def yX10_isPerson : MethodName := ⟨RX10, "isPerson", "(I)Z"⟩
def dkwX10_isPerson_0 : List UInt8 := [27, 3, 42, 180, 0, 67, 42, 180, 0, 242, 46, 4, 100, 184, 1, 78, 172]
abbrev dktX10_isPerson_0 : List UInt8 := dkwX10_isPerson_0 ++ []
theorem dksX10_isPerson_0 : cX10_isPerson.data.toList.drop 0 = dktX10_isPerson_0 := by decide +kernel
theorem dX10_isPerson_0 : decode cX10_isPerson 0 = .ok (.iload_n 1, 1) := dk_27 (dk_at dksX10_isPerson_0 0 rfl rfl)
theorem dX10_isPerson_1 : decode cX10_isPerson 1 = .ok (.iconst 0, 1) := dk_3 (dk_at dksX10_isPerson_0 1 rfl rfl)
theorem dX10_isPerson_2 : decode cX10_isPerson 2 = .ok (.aload_n 0, 1) := dk_42 (dk_at dksX10_isPerson_0 2 rfl rfl)
theorem dX10_isPerson_3 : decode cX10_isPerson 3 = .ok (.getfield 67, 3) := dk_180 0 67 (dk_at dksX10_isPerson_0 3 rfl rfl)
theorem dX10_isPerson_6 : decode cX10_isPerson 6 = .ok (.aload_n 0, 1) := dk_42 (dk_at dksX10_isPerson_0 6 rfl rfl)
theorem dX10_isPerson_7 : decode cX10_isPerson 7 = .ok (.getfield 242, 3) := dk_180 0 242 (dk_at dksX10_isPerson_0 7 rfl rfl)
theorem dX10_isPerson_10 : decode cX10_isPerson 10 = .ok (.iaload, 1) := dk_46 (dk_at dksX10_isPerson_0 10 rfl rfl)
theorem dX10_isPerson_11 : decode cX10_isPerson 11 = .ok (.iconst 1, 1) := dk_4 (dk_at dksX10_isPerson_0 11 rfl rfl)
theorem dX10_isPerson_12 : decode cX10_isPerson 12 = .ok (.isub, 1) := dk_100 (dk_at dksX10_isPerson_0 12 rfl rfl)
theorem dX10_isPerson_13 : decode cX10_isPerson 13 = .ok (.invokestatic 334, 3) := dk_184 1 78 (dk_at dksX10_isPerson_0 13 rfl rfl)
theorem dX10_isPerson_16 : decode cX10_isPerson 16 = .ok (.ireturn, 1) := dk_172 (dk_at dksX10_isPerson_0 16 rfl rfl)
abbrev cX10_mind : ByteArray := prog_21_method_73_code
def yX10_mind : MethodName := ⟨RX10, "mind", "(III)I"⟩
def dkwX10_mind_5 : List UInt8 := [172, 19, 1, 159, 172]
abbrev dktX10_mind_5 : List UInt8 := dkwX10_mind_5 ++ []
def dkwX10_mind_4 : List UInt8 := [28, 96, 46, 172, 42, 27, 28, 182, 1, 103, 172, 42, 27, 28, 182, 1, 116, 172, 42, 27, 28, 182, 1, 119]
abbrev dktX10_mind_4 : List UInt8 := dkwX10_mind_4 ++ dktX10_mind_5
def dkwX10_mind_3 : List UInt8 := [42, 180, 0, 137, 16, 35, 7, 27, 104, 96, 28, 96, 46, 172, 42, 180, 0, 137, 16, 55, 7, 27, 104, 96]
abbrev dktX10_mind_3 : List UInt8 := dkwX10_mind_3 ++ dktX10_mind_4
def dkwX10_mind_2 : List UInt8 := [170, 0, 0, 0, 0, 0, 84, 0, 0, 0, 0, 0, 0, 0, 4, 0, 0, 0, 35, 0, 0, 0, 49, 0, 0, 0, 63, 0, 0, 0, 70, 0, 0, 0, 77]
abbrev dktX10_mind_2 : List UInt8 := dkwX10_mind_2 ++ dktX10_mind_3
def dkwX10_mind_1 : List UInt8 := [29]
abbrev dktX10_mind_1 : List UInt8 := dkwX10_mind_1 ++ dktX10_mind_2
def dkwX10_mind_0 : List UInt8 := [42, 27, 182, 1, 153, 153, 0, 11, 42, 28, 182, 1, 156, 154, 0, 7, 19, 1, 159, 172, 42, 182, 1, 144]
abbrev dktX10_mind_0 : List UInt8 := dkwX10_mind_0 ++ dktX10_mind_1
theorem dksX10_mind_0 : cX10_mind.data.toList.drop 0 = dktX10_mind_0 := by decide +kernel
theorem dksX10_mind_1 : cX10_mind.data.toList.drop 24 = dktX10_mind_1 := dk_seg dksX10_mind_0 24 rfl rfl
theorem dksX10_mind_2 : cX10_mind.data.toList.drop 25 = dktX10_mind_2 := dk_seg dksX10_mind_1 1 rfl rfl
theorem dksX10_mind_3 : cX10_mind.data.toList.drop 60 = dktX10_mind_3 := dk_seg dksX10_mind_2 35 rfl rfl
theorem dksX10_mind_4 : cX10_mind.data.toList.drop 84 = dktX10_mind_4 := dk_seg dksX10_mind_3 24 rfl rfl
theorem dksX10_mind_5 : cX10_mind.data.toList.drop 108 = dktX10_mind_5 := dk_seg dksX10_mind_4 24 rfl rfl
theorem dX10_mind_0 : decode cX10_mind 0 = .ok (.aload_n 0, 1) := dk_42 (dk_at dksX10_mind_0 0 rfl rfl)
theorem dX10_mind_1 : decode cX10_mind 1 = .ok (.iload_n 1, 1) := dk_27 (dk_at dksX10_mind_0 1 rfl rfl)
theorem dX10_mind_2 : decode cX10_mind 2 = .ok (.invokevirtual 409, 3) := dk_182 1 153 (dk_at dksX10_mind_0 2 rfl rfl)
theorem dX10_mind_5 : decode cX10_mind 5 = .ok (.ifCond .eq 11, 3) := dk_153 0 11 (dk_at dksX10_mind_0 5 rfl rfl)
theorem dX10_mind_8 : decode cX10_mind 8 = .ok (.aload_n 0, 1) := dk_42 (dk_at dksX10_mind_0 8 rfl rfl)
theorem dX10_mind_9 : decode cX10_mind 9 = .ok (.iload_n 2, 1) := dk_28 (dk_at dksX10_mind_0 9 rfl rfl)
theorem dX10_mind_10 : decode cX10_mind 10 = .ok (.invokevirtual 412, 3) := dk_182 1 156 (dk_at dksX10_mind_0 10 rfl rfl)
theorem dX10_mind_13 : decode cX10_mind 13 = .ok (.ifCond .ne 7, 3) := dk_154 0 7 (dk_at dksX10_mind_0 13 rfl rfl)
theorem dX10_mind_16 : decode cX10_mind 16 = .ok (.ldc_w 415, 3) := dk_19 1 159 (dk_at dksX10_mind_0 16 rfl rfl)
theorem dX10_mind_19 : decode cX10_mind 19 = .ok (.ireturn, 1) := dk_172 (dk_at dksX10_mind_0 19 rfl rfl)
theorem dX10_mind_20 : decode cX10_mind 20 = .ok (.aload_n 0, 1) := dk_42 (dk_at dksX10_mind_0 20 rfl rfl)
theorem dX10_mind_21 : decode cX10_mind 21 = .ok (.invokevirtual 400, 3) := dk_182 1 144 (dk_at dksX10_mind_0 21 rfl rfl)
theorem dX10_mind_24 : decode cX10_mind 24 = .ok (.iload_n 3, 1) := dk_29 (dk_at dksX10_mind_1 0 rfl rfl)
theorem dX10_mind_25 : decode cX10_mind 25 = .ok (.tableswitch 84 0 4 #[35, 49, 63, 70, 77], 35) := by decide +kernel
theorem dX10_mind_60 : decode cX10_mind 60 = .ok (.aload_n 0, 1) := dk_42 (dk_at dksX10_mind_3 0 rfl rfl)
theorem dX10_mind_61 : decode cX10_mind 61 = .ok (.getfield 137, 3) := dk_180 0 137 (dk_at dksX10_mind_3 1 rfl rfl)
theorem dX10_mind_64 : decode cX10_mind 64 = .ok (.bipush 35, 2) := dk_16 35 (dk_at dksX10_mind_3 4 rfl rfl)
theorem dX10_mind_66 : decode cX10_mind 66 = .ok (.iconst 4, 1) := dk_7 (dk_at dksX10_mind_3 6 rfl rfl)
theorem dX10_mind_67 : decode cX10_mind 67 = .ok (.iload_n 1, 1) := dk_27 (dk_at dksX10_mind_3 7 rfl rfl)
theorem dX10_mind_68 : decode cX10_mind 68 = .ok (.imul, 1) := dk_104 (dk_at dksX10_mind_3 8 rfl rfl)
theorem dX10_mind_69 : decode cX10_mind 69 = .ok (.iadd, 1) := dk_96 (dk_at dksX10_mind_3 9 rfl rfl)
theorem dX10_mind_70 : decode cX10_mind 70 = .ok (.iload_n 2, 1) := dk_28 (dk_at dksX10_mind_3 10 rfl rfl)
theorem dX10_mind_71 : decode cX10_mind 71 = .ok (.iadd, 1) := dk_96 (dk_at dksX10_mind_3 11 rfl rfl)
theorem dX10_mind_72 : decode cX10_mind 72 = .ok (.iaload, 1) := dk_46 (dk_at dksX10_mind_3 12 rfl rfl)
theorem dX10_mind_73 : decode cX10_mind 73 = .ok (.ireturn, 1) := dk_172 (dk_at dksX10_mind_3 13 rfl rfl)
theorem dX10_mind_74 : decode cX10_mind 74 = .ok (.aload_n 0, 1) := dk_42 (dk_at dksX10_mind_3 14 rfl rfl)
theorem dX10_mind_75 : decode cX10_mind 75 = .ok (.getfield 137, 3) := dk_180 0 137 (dk_at dksX10_mind_3 15 rfl rfl)
theorem dX10_mind_78 : decode cX10_mind 78 = .ok (.bipush 55, 2) := dk_16 55 (dk_at dksX10_mind_3 18 rfl rfl)
theorem dX10_mind_80 : decode cX10_mind 80 = .ok (.iconst 4, 1) := dk_7 (dk_at dksX10_mind_3 20 rfl rfl)
theorem dX10_mind_81 : decode cX10_mind 81 = .ok (.iload_n 1, 1) := dk_27 (dk_at dksX10_mind_3 21 rfl rfl)
theorem dX10_mind_82 : decode cX10_mind 82 = .ok (.imul, 1) := dk_104 (dk_at dksX10_mind_3 22 rfl rfl)
theorem dX10_mind_83 : decode cX10_mind 83 = .ok (.iadd, 1) := dk_96 (dk_at dksX10_mind_3 23 rfl rfl)
theorem dX10_mind_84 : decode cX10_mind 84 = .ok (.iload_n 2, 1) := dk_28 (dk_at dksX10_mind_4 0 rfl rfl)
theorem dX10_mind_85 : decode cX10_mind 85 = .ok (.iadd, 1) := dk_96 (dk_at dksX10_mind_4 1 rfl rfl)
theorem dX10_mind_86 : decode cX10_mind 86 = .ok (.iaload, 1) := dk_46 (dk_at dksX10_mind_4 2 rfl rfl)
theorem dX10_mind_87 : decode cX10_mind 87 = .ok (.ireturn, 1) := dk_172 (dk_at dksX10_mind_4 3 rfl rfl)
theorem dX10_mind_88 : decode cX10_mind 88 = .ok (.aload_n 0, 1) := dk_42 (dk_at dksX10_mind_4 4 rfl rfl)
theorem dX10_mind_89 : decode cX10_mind 89 = .ok (.iload_n 1, 1) := dk_27 (dk_at dksX10_mind_4 5 rfl rfl)
theorem dX10_mind_90 : decode cX10_mind 90 = .ok (.iload_n 2, 1) := dk_28 (dk_at dksX10_mind_4 6 rfl rfl)
theorem dX10_mind_91 : decode cX10_mind 91 = .ok (.invokevirtual 359, 3) := dk_182 1 103 (dk_at dksX10_mind_4 7 rfl rfl)
theorem dX10_mind_94 : decode cX10_mind 94 = .ok (.ireturn, 1) := dk_172 (dk_at dksX10_mind_4 10 rfl rfl)
theorem dX10_mind_95 : decode cX10_mind 95 = .ok (.aload_n 0, 1) := dk_42 (dk_at dksX10_mind_4 11 rfl rfl)
theorem dX10_mind_96 : decode cX10_mind 96 = .ok (.iload_n 1, 1) := dk_27 (dk_at dksX10_mind_4 12 rfl rfl)
theorem dX10_mind_97 : decode cX10_mind 97 = .ok (.iload_n 2, 1) := dk_28 (dk_at dksX10_mind_4 13 rfl rfl)
theorem dX10_mind_98 : decode cX10_mind 98 = .ok (.invokevirtual 372, 3) := dk_182 1 116 (dk_at dksX10_mind_4 14 rfl rfl)
theorem dX10_mind_101 : decode cX10_mind 101 = .ok (.ireturn, 1) := dk_172 (dk_at dksX10_mind_4 17 rfl rfl)
theorem dX10_mind_102 : decode cX10_mind 102 = .ok (.aload_n 0, 1) := dk_42 (dk_at dksX10_mind_4 18 rfl rfl)
theorem dX10_mind_103 : decode cX10_mind 103 = .ok (.iload_n 1, 1) := dk_27 (dk_at dksX10_mind_4 19 rfl rfl)
theorem dX10_mind_104 : decode cX10_mind 104 = .ok (.iload_n 2, 1) := dk_28 (dk_at dksX10_mind_4 20 rfl rfl)
theorem dX10_mind_105 : decode cX10_mind 105 = .ok (.invokevirtual 375, 3) := dk_182 1 119 (dk_at dksX10_mind_4 21 rfl rfl)
theorem dX10_mind_108 : decode cX10_mind 108 = .ok (.ireturn, 1) := dk_172 (dk_at dksX10_mind_5 0 rfl rfl)
theorem dX10_mind_109 : decode cX10_mind 109 = .ok (.ldc_w 415, 3) := dk_19 1 159 (dk_at dksX10_mind_5 1 rfl rfl)
theorem dX10_mind_112 : decode cX10_mind 112 = .ok (.ireturn, 1) := dk_172 (dk_at dksX10_mind_5 4 rfl rfl)
abbrev cX10_wantsOf : ByteArray := prog_21_method_56_code
def yX10_wantsOf : MethodName := ⟨RX10, "wantsOf", "(II)I"⟩
def dkwX10_wantsOf_0 : List UInt8 := [42, 27, 182, 1, 91, 42, 27, 28, 182, 1, 94, 42, 3, 42, 180, 0, 125, 4, 46, 182, 1, 97, 172]
abbrev dktX10_wantsOf_0 : List UInt8 := dkwX10_wantsOf_0 ++ []
theorem dksX10_wantsOf_0 : cX10_wantsOf.data.toList.drop 0 = dktX10_wantsOf_0 := by decide +kernel
theorem dX10_wantsOf_0 : decode cX10_wantsOf 0 = .ok (.aload_n 0, 1) := dk_42 (dk_at dksX10_wantsOf_0 0 rfl rfl)
theorem dX10_wantsOf_1 : decode cX10_wantsOf 1 = .ok (.iload_n 1, 1) := dk_27 (dk_at dksX10_wantsOf_0 1 rfl rfl)
theorem dX10_wantsOf_2 : decode cX10_wantsOf 2 = .ok (.invokevirtual 347, 3) := dk_182 1 91 (dk_at dksX10_wantsOf_0 2 rfl rfl)
theorem dX10_wantsOf_5 : decode cX10_wantsOf 5 = .ok (.aload_n 0, 1) := dk_42 (dk_at dksX10_wantsOf_0 5 rfl rfl)
theorem dX10_wantsOf_6 : decode cX10_wantsOf 6 = .ok (.iload_n 1, 1) := dk_27 (dk_at dksX10_wantsOf_0 6 rfl rfl)
theorem dX10_wantsOf_7 : decode cX10_wantsOf 7 = .ok (.iload_n 2, 1) := dk_28 (dk_at dksX10_wantsOf_0 7 rfl rfl)
theorem dX10_wantsOf_8 : decode cX10_wantsOf 8 = .ok (.invokevirtual 350, 3) := dk_182 1 94 (dk_at dksX10_wantsOf_0 8 rfl rfl)
theorem dX10_wantsOf_11 : decode cX10_wantsOf 11 = .ok (.aload_n 0, 1) := dk_42 (dk_at dksX10_wantsOf_0 11 rfl rfl)
theorem dX10_wantsOf_12 : decode cX10_wantsOf 12 = .ok (.iconst 0, 1) := dk_3 (dk_at dksX10_wantsOf_0 12 rfl rfl)
theorem dX10_wantsOf_13 : decode cX10_wantsOf 13 = .ok (.aload_n 0, 1) := dk_42 (dk_at dksX10_wantsOf_0 13 rfl rfl)
theorem dX10_wantsOf_14 : decode cX10_wantsOf 14 = .ok (.getfield 125, 3) := dk_180 0 125 (dk_at dksX10_wantsOf_0 14 rfl rfl)
theorem dX10_wantsOf_17 : decode cX10_wantsOf 17 = .ok (.iconst 1, 1) := dk_4 (dk_at dksX10_wantsOf_0 17 rfl rfl)
theorem dX10_wantsOf_18 : decode cX10_wantsOf 18 = .ok (.iaload, 1) := dk_46 (dk_at dksX10_wantsOf_0 18 rfl rfl)
theorem dX10_wantsOf_19 : decode cX10_wantsOf 19 = .ok (.invokevirtual 353, 3) := dk_182 1 97 (dk_at dksX10_wantsOf_0 19 rfl rfl)
theorem dX10_wantsOf_22 : decode cX10_wantsOf 22 = .ok (.ireturn, 1) := dk_172 (dk_at dksX10_wantsOf_0 22 rfl rfl)
abbrev cX10_looksAtDog : ByteArray := prog_21_method_54_code
def yX10_looksAtDog : MethodName := ⟨RX10, "looksAtDog", "(I)V"⟩
def dkwX10_looksAtDog_3 : List UInt8 := [42, 180, 0, 125, 16, 7, 27, 79, 42, 180, 0, 125, 16, 8, 42, 180, 0, 137, 8, 27, 96, 46, 79, 177]
abbrev dktX10_looksAtDog_3 : List UInt8 := dkwX10_looksAtDog_3 ++ []
def dkwX10_looksAtDog_2 : List UInt8 := [180, 0, 64, 8, 42, 180, 0, 242, 104, 27, 96, 46, 79, 42, 180, 0, 125, 16, 6, 42, 182, 1, 82, 79]
abbrev dktX10_looksAtDog_2 : List UInt8 := dkwX10_looksAtDog_2 ++ dktX10_looksAtDog_3
def dkwX10_looksAtDog_1 : List UInt8 := [180, 0, 125, 7, 42, 180, 0, 61, 8, 42, 180, 0, 242, 104, 27, 96, 46, 79, 42, 180, 0, 125, 8, 42]
abbrev dktX10_looksAtDog_1 : List UInt8 := dkwX10_looksAtDog_1 ++ dktX10_looksAtDog_2
def dkwX10_looksAtDog_0 : List UInt8 := [3, 61, 28, 16, 9, 162, 0, 16, 42, 180, 0, 125, 28, 3, 79, 132, 2, 1, 167, 255, 240, 42]
abbrev dktX10_looksAtDog_0 : List UInt8 := dkwX10_looksAtDog_0 ++ dktX10_looksAtDog_1
theorem dksX10_looksAtDog_0 : cX10_looksAtDog.data.toList.drop 0 = dktX10_looksAtDog_0 := by decide +kernel
theorem dksX10_looksAtDog_1 : cX10_looksAtDog.data.toList.drop 22 = dktX10_looksAtDog_1 := dk_seg dksX10_looksAtDog_0 22 rfl rfl
theorem dksX10_looksAtDog_2 : cX10_looksAtDog.data.toList.drop 46 = dktX10_looksAtDog_2 := dk_seg dksX10_looksAtDog_1 24 rfl rfl
theorem dksX10_looksAtDog_3 : cX10_looksAtDog.data.toList.drop 70 = dktX10_looksAtDog_3 := dk_seg dksX10_looksAtDog_2 24 rfl rfl
theorem dX10_looksAtDog_0 : decode cX10_looksAtDog 0 = .ok (.iconst 0, 1) := dk_3 (dk_at dksX10_looksAtDog_0 0 rfl rfl)
theorem dX10_looksAtDog_1 : decode cX10_looksAtDog 1 = .ok (.istore_n 2, 1) := dk_61 (dk_at dksX10_looksAtDog_0 1 rfl rfl)
theorem dX10_looksAtDog_2 : decode cX10_looksAtDog 2 = .ok (.iload_n 2, 1) := dk_28 (dk_at dksX10_looksAtDog_0 2 rfl rfl)
theorem dX10_looksAtDog_3 : decode cX10_looksAtDog 3 = .ok (.bipush 9, 2) := dk_16 9 (dk_at dksX10_looksAtDog_0 3 rfl rfl)
theorem dX10_looksAtDog_5 : decode cX10_looksAtDog 5 = .ok (.if_icmp .ge 16, 3) := dk_162 0 16 (dk_at dksX10_looksAtDog_0 5 rfl rfl)
theorem dX10_looksAtDog_8 : decode cX10_looksAtDog 8 = .ok (.aload_n 0, 1) := dk_42 (dk_at dksX10_looksAtDog_0 8 rfl rfl)
theorem dX10_looksAtDog_9 : decode cX10_looksAtDog 9 = .ok (.getfield 125, 3) := dk_180 0 125 (dk_at dksX10_looksAtDog_0 9 rfl rfl)
theorem dX10_looksAtDog_12 : decode cX10_looksAtDog 12 = .ok (.iload_n 2, 1) := dk_28 (dk_at dksX10_looksAtDog_0 12 rfl rfl)
theorem dX10_looksAtDog_13 : decode cX10_looksAtDog 13 = .ok (.iconst 0, 1) := dk_3 (dk_at dksX10_looksAtDog_0 13 rfl rfl)
theorem dX10_looksAtDog_14 : decode cX10_looksAtDog 14 = .ok (.iastore, 1) := dk_79 (dk_at dksX10_looksAtDog_0 14 rfl rfl)
theorem dX10_looksAtDog_15 : decode cX10_looksAtDog 15 = .ok (.iinc 2 1, 3) := dk_132 2 1 (dk_at dksX10_looksAtDog_0 15 rfl rfl)
theorem dX10_looksAtDog_18 : decode cX10_looksAtDog 18 = .ok (.goto (-16), 3) := dk_167 255 240 (dk_at dksX10_looksAtDog_0 18 rfl rfl)
theorem dX10_looksAtDog_21 : decode cX10_looksAtDog 21 = .ok (.aload_n 0, 1) := dk_42 (dk_at dksX10_looksAtDog_0 21 rfl rfl)
theorem dX10_looksAtDog_22 : decode cX10_looksAtDog 22 = .ok (.getfield 125, 3) := dk_180 0 125 (dk_at dksX10_looksAtDog_1 0 rfl rfl)
theorem dX10_looksAtDog_25 : decode cX10_looksAtDog 25 = .ok (.iconst 4, 1) := dk_7 (dk_at dksX10_looksAtDog_1 3 rfl rfl)
theorem dX10_looksAtDog_26 : decode cX10_looksAtDog 26 = .ok (.aload_n 0, 1) := dk_42 (dk_at dksX10_looksAtDog_1 4 rfl rfl)
theorem dX10_looksAtDog_27 : decode cX10_looksAtDog 27 = .ok (.getfield 61, 3) := dk_180 0 61 (dk_at dksX10_looksAtDog_1 5 rfl rfl)
theorem dX10_looksAtDog_30 : decode cX10_looksAtDog 30 = .ok (.iconst 5, 1) := dk_8 (dk_at dksX10_looksAtDog_1 8 rfl rfl)
theorem dX10_looksAtDog_31 : decode cX10_looksAtDog 31 = .ok (.aload_n 0, 1) := dk_42 (dk_at dksX10_looksAtDog_1 9 rfl rfl)
theorem dX10_looksAtDog_32 : decode cX10_looksAtDog 32 = .ok (.getfield 242, 3) := dk_180 0 242 (dk_at dksX10_looksAtDog_1 10 rfl rfl)
theorem dX10_looksAtDog_35 : decode cX10_looksAtDog 35 = .ok (.imul, 1) := dk_104 (dk_at dksX10_looksAtDog_1 13 rfl rfl)
theorem dX10_looksAtDog_36 : decode cX10_looksAtDog 36 = .ok (.iload_n 1, 1) := dk_27 (dk_at dksX10_looksAtDog_1 14 rfl rfl)
theorem dX10_looksAtDog_37 : decode cX10_looksAtDog 37 = .ok (.iadd, 1) := dk_96 (dk_at dksX10_looksAtDog_1 15 rfl rfl)
theorem dX10_looksAtDog_38 : decode cX10_looksAtDog 38 = .ok (.iaload, 1) := dk_46 (dk_at dksX10_looksAtDog_1 16 rfl rfl)
theorem dX10_looksAtDog_39 : decode cX10_looksAtDog 39 = .ok (.iastore, 1) := dk_79 (dk_at dksX10_looksAtDog_1 17 rfl rfl)
theorem dX10_looksAtDog_40 : decode cX10_looksAtDog 40 = .ok (.aload_n 0, 1) := dk_42 (dk_at dksX10_looksAtDog_1 18 rfl rfl)
theorem dX10_looksAtDog_41 : decode cX10_looksAtDog 41 = .ok (.getfield 125, 3) := dk_180 0 125 (dk_at dksX10_looksAtDog_1 19 rfl rfl)
theorem dX10_looksAtDog_44 : decode cX10_looksAtDog 44 = .ok (.iconst 5, 1) := dk_8 (dk_at dksX10_looksAtDog_1 22 rfl rfl)
theorem dX10_looksAtDog_45 : decode cX10_looksAtDog 45 = .ok (.aload_n 0, 1) := dk_42 (dk_at dksX10_looksAtDog_1 23 rfl rfl)
theorem dX10_looksAtDog_46 : decode cX10_looksAtDog 46 = .ok (.getfield 64, 3) := dk_180 0 64 (dk_at dksX10_looksAtDog_2 0 rfl rfl)
theorem dX10_looksAtDog_49 : decode cX10_looksAtDog 49 = .ok (.iconst 5, 1) := dk_8 (dk_at dksX10_looksAtDog_2 3 rfl rfl)
theorem dX10_looksAtDog_50 : decode cX10_looksAtDog 50 = .ok (.aload_n 0, 1) := dk_42 (dk_at dksX10_looksAtDog_2 4 rfl rfl)
theorem dX10_looksAtDog_51 : decode cX10_looksAtDog 51 = .ok (.getfield 242, 3) := dk_180 0 242 (dk_at dksX10_looksAtDog_2 5 rfl rfl)
theorem dX10_looksAtDog_54 : decode cX10_looksAtDog 54 = .ok (.imul, 1) := dk_104 (dk_at dksX10_looksAtDog_2 8 rfl rfl)
theorem dX10_looksAtDog_55 : decode cX10_looksAtDog 55 = .ok (.iload_n 1, 1) := dk_27 (dk_at dksX10_looksAtDog_2 9 rfl rfl)
theorem dX10_looksAtDog_56 : decode cX10_looksAtDog 56 = .ok (.iadd, 1) := dk_96 (dk_at dksX10_looksAtDog_2 10 rfl rfl)
theorem dX10_looksAtDog_57 : decode cX10_looksAtDog 57 = .ok (.iaload, 1) := dk_46 (dk_at dksX10_looksAtDog_2 11 rfl rfl)
theorem dX10_looksAtDog_58 : decode cX10_looksAtDog 58 = .ok (.iastore, 1) := dk_79 (dk_at dksX10_looksAtDog_2 12 rfl rfl)
theorem dX10_looksAtDog_59 : decode cX10_looksAtDog 59 = .ok (.aload_n 0, 1) := dk_42 (dk_at dksX10_looksAtDog_2 13 rfl rfl)
theorem dX10_looksAtDog_60 : decode cX10_looksAtDog 60 = .ok (.getfield 125, 3) := dk_180 0 125 (dk_at dksX10_looksAtDog_2 14 rfl rfl)
theorem dX10_looksAtDog_63 : decode cX10_looksAtDog 63 = .ok (.bipush 6, 2) := dk_16 6 (dk_at dksX10_looksAtDog_2 17 rfl rfl)
theorem dX10_looksAtDog_65 : decode cX10_looksAtDog 65 = .ok (.aload_n 0, 1) := dk_42 (dk_at dksX10_looksAtDog_2 19 rfl rfl)
theorem dX10_looksAtDog_66 : decode cX10_looksAtDog 66 = .ok (.invokevirtual 338, 3) := dk_182 1 82 (dk_at dksX10_looksAtDog_2 20 rfl rfl)
theorem dX10_looksAtDog_69 : decode cX10_looksAtDog 69 = .ok (.iastore, 1) := dk_79 (dk_at dksX10_looksAtDog_2 23 rfl rfl)
theorem dX10_looksAtDog_70 : decode cX10_looksAtDog 70 = .ok (.aload_n 0, 1) := dk_42 (dk_at dksX10_looksAtDog_3 0 rfl rfl)
theorem dX10_looksAtDog_71 : decode cX10_looksAtDog 71 = .ok (.getfield 125, 3) := dk_180 0 125 (dk_at dksX10_looksAtDog_3 1 rfl rfl)
theorem dX10_looksAtDog_74 : decode cX10_looksAtDog 74 = .ok (.bipush 7, 2) := dk_16 7 (dk_at dksX10_looksAtDog_3 4 rfl rfl)
theorem dX10_looksAtDog_76 : decode cX10_looksAtDog 76 = .ok (.iload_n 1, 1) := dk_27 (dk_at dksX10_looksAtDog_3 6 rfl rfl)
theorem dX10_looksAtDog_77 : decode cX10_looksAtDog 77 = .ok (.iastore, 1) := dk_79 (dk_at dksX10_looksAtDog_3 7 rfl rfl)
theorem dX10_looksAtDog_78 : decode cX10_looksAtDog 78 = .ok (.aload_n 0, 1) := dk_42 (dk_at dksX10_looksAtDog_3 8 rfl rfl)
theorem dX10_looksAtDog_79 : decode cX10_looksAtDog 79 = .ok (.getfield 125, 3) := dk_180 0 125 (dk_at dksX10_looksAtDog_3 9 rfl rfl)
theorem dX10_looksAtDog_82 : decode cX10_looksAtDog 82 = .ok (.bipush 8, 2) := dk_16 8 (dk_at dksX10_looksAtDog_3 12 rfl rfl)
theorem dX10_looksAtDog_84 : decode cX10_looksAtDog 84 = .ok (.aload_n 0, 1) := dk_42 (dk_at dksX10_looksAtDog_3 14 rfl rfl)
theorem dX10_looksAtDog_85 : decode cX10_looksAtDog 85 = .ok (.getfield 137, 3) := dk_180 0 137 (dk_at dksX10_looksAtDog_3 15 rfl rfl)
theorem dX10_looksAtDog_88 : decode cX10_looksAtDog 88 = .ok (.iconst 5, 1) := dk_8 (dk_at dksX10_looksAtDog_3 18 rfl rfl)
theorem dX10_looksAtDog_89 : decode cX10_looksAtDog 89 = .ok (.iload_n 1, 1) := dk_27 (dk_at dksX10_looksAtDog_3 19 rfl rfl)
theorem dX10_looksAtDog_90 : decode cX10_looksAtDog 90 = .ok (.iadd, 1) := dk_96 (dk_at dksX10_looksAtDog_3 20 rfl rfl)
theorem dX10_looksAtDog_91 : decode cX10_looksAtDog 91 = .ok (.iaload, 1) := dk_46 (dk_at dksX10_looksAtDog_3 21 rfl rfl)
theorem dX10_looksAtDog_92 : decode cX10_looksAtDog 92 = .ok (.iastore, 1) := dk_79 (dk_at dksX10_looksAtDog_3 22 rfl rfl)
theorem dX10_looksAtDog_93 : decode cX10_looksAtDog 93 = .ok (.return_, 1) := dk_177 (dk_at dksX10_looksAtDog_3 23 rfl rfl)
abbrev cX10_minuteNow : ByteArray := prog_21_method_50_code
def yX10_minuteNow : MethodName := ⟨RX10, "minuteNow", "()I"⟩
def dkwX10_minuteNow_0 : List UInt8 := [42, 180, 0, 91, 42, 180, 0, 242, 46, 42, 180, 0, 137, 16, 76, 46, 96, 17, 5, 160, 112, 172]
abbrev dktX10_minuteNow_0 : List UInt8 := dkwX10_minuteNow_0 ++ []
theorem dksX10_minuteNow_0 : cX10_minuteNow.data.toList.drop 0 = dktX10_minuteNow_0 := by decide +kernel
theorem dX10_minuteNow_0 : decode cX10_minuteNow 0 = .ok (.aload_n 0, 1) := dk_42 (dk_at dksX10_minuteNow_0 0 rfl rfl)
theorem dX10_minuteNow_1 : decode cX10_minuteNow 1 = .ok (.getfield 91, 3) := dk_180 0 91 (dk_at dksX10_minuteNow_0 1 rfl rfl)
theorem dX10_minuteNow_4 : decode cX10_minuteNow 4 = .ok (.aload_n 0, 1) := dk_42 (dk_at dksX10_minuteNow_0 4 rfl rfl)
theorem dX10_minuteNow_5 : decode cX10_minuteNow 5 = .ok (.getfield 242, 3) := dk_180 0 242 (dk_at dksX10_minuteNow_0 5 rfl rfl)
theorem dX10_minuteNow_8 : decode cX10_minuteNow 8 = .ok (.iaload, 1) := dk_46 (dk_at dksX10_minuteNow_0 8 rfl rfl)
theorem dX10_minuteNow_9 : decode cX10_minuteNow 9 = .ok (.aload_n 0, 1) := dk_42 (dk_at dksX10_minuteNow_0 9 rfl rfl)
theorem dX10_minuteNow_10 : decode cX10_minuteNow 10 = .ok (.getfield 137, 3) := dk_180 0 137 (dk_at dksX10_minuteNow_0 10 rfl rfl)
theorem dX10_minuteNow_13 : decode cX10_minuteNow 13 = .ok (.bipush 76, 2) := dk_16 76 (dk_at dksX10_minuteNow_0 13 rfl rfl)
theorem dX10_minuteNow_15 : decode cX10_minuteNow 15 = .ok (.iaload, 1) := dk_46 (dk_at dksX10_minuteNow_0 15 rfl rfl)
theorem dX10_minuteNow_16 : decode cX10_minuteNow 16 = .ok (.iadd, 1) := dk_96 (dk_at dksX10_minuteNow_0 16 rfl rfl)
theorem dX10_minuteNow_17 : decode cX10_minuteNow 17 = .ok (.sipush 1440, 3) := dk_17 5 160 (dk_at dksX10_minuteNow_0 17 rfl rfl)
theorem dX10_minuteNow_20 : decode cX10_minuteNow 20 = .ok (.irem, 1) := dk_112 (dk_at dksX10_minuteNow_0 20 rfl rfl)
theorem dX10_minuteNow_21 : decode cX10_minuteNow 21 = .ok (.ireturn, 1) := dk_172 (dk_at dksX10_minuteNow_0 21 rfl rfl)
abbrev cX10_looks : ByteArray := prog_21_method_53_code
def yX10_looks : MethodName := ⟨RX10, "looks", "(II)V"⟩
def dkwX10_looks_2 : List UInt8 := [182, 1, 85, 79, 42, 180, 0, 125, 6, 42, 180, 0, 137, 16, 23, 28, 96, 46, 79, 177]
abbrev dktX10_looks_2 : List UInt8 := dkwX10_looks_2 ++ []
def dkwX10_looks_1 : List UInt8 := [180, 0, 125, 4, 42, 180, 0, 137, 16, 55, 29, 96, 46, 79, 42, 180, 0, 125, 5, 42, 27, 28]
abbrev dktX10_looks_1 : List UInt8 := dkwX10_looks_1 ++ dktX10_looks_2
def dkwX10_looks_0 : List UInt8 := [7, 27, 104, 28, 96, 62, 42, 180, 0, 125, 3, 42, 180, 0, 137, 16, 35, 29, 96, 46, 79, 42]
abbrev dktX10_looks_0 : List UInt8 := dkwX10_looks_0 ++ dktX10_looks_1
theorem dksX10_looks_0 : cX10_looks.data.toList.drop 0 = dktX10_looks_0 := by decide +kernel
theorem dksX10_looks_1 : cX10_looks.data.toList.drop 22 = dktX10_looks_1 := dk_seg dksX10_looks_0 22 rfl rfl
theorem dksX10_looks_2 : cX10_looks.data.toList.drop 44 = dktX10_looks_2 := dk_seg dksX10_looks_1 22 rfl rfl
theorem dX10_looks_0 : decode cX10_looks 0 = .ok (.iconst 4, 1) := dk_7 (dk_at dksX10_looks_0 0 rfl rfl)
theorem dX10_looks_1 : decode cX10_looks 1 = .ok (.iload_n 1, 1) := dk_27 (dk_at dksX10_looks_0 1 rfl rfl)
theorem dX10_looks_2 : decode cX10_looks 2 = .ok (.imul, 1) := dk_104 (dk_at dksX10_looks_0 2 rfl rfl)
theorem dX10_looks_3 : decode cX10_looks 3 = .ok (.iload_n 2, 1) := dk_28 (dk_at dksX10_looks_0 3 rfl rfl)
theorem dX10_looks_4 : decode cX10_looks 4 = .ok (.iadd, 1) := dk_96 (dk_at dksX10_looks_0 4 rfl rfl)
theorem dX10_looks_5 : decode cX10_looks 5 = .ok (.istore_n 3, 1) := dk_62 (dk_at dksX10_looks_0 5 rfl rfl)
theorem dX10_looks_6 : decode cX10_looks 6 = .ok (.aload_n 0, 1) := dk_42 (dk_at dksX10_looks_0 6 rfl rfl)
theorem dX10_looks_7 : decode cX10_looks 7 = .ok (.getfield 125, 3) := dk_180 0 125 (dk_at dksX10_looks_0 7 rfl rfl)
theorem dX10_looks_10 : decode cX10_looks 10 = .ok (.iconst 0, 1) := dk_3 (dk_at dksX10_looks_0 10 rfl rfl)
theorem dX10_looks_11 : decode cX10_looks 11 = .ok (.aload_n 0, 1) := dk_42 (dk_at dksX10_looks_0 11 rfl rfl)
theorem dX10_looks_12 : decode cX10_looks 12 = .ok (.getfield 137, 3) := dk_180 0 137 (dk_at dksX10_looks_0 12 rfl rfl)
theorem dX10_looks_15 : decode cX10_looks 15 = .ok (.bipush 35, 2) := dk_16 35 (dk_at dksX10_looks_0 15 rfl rfl)
theorem dX10_looks_17 : decode cX10_looks 17 = .ok (.iload_n 3, 1) := dk_29 (dk_at dksX10_looks_0 17 rfl rfl)
theorem dX10_looks_18 : decode cX10_looks 18 = .ok (.iadd, 1) := dk_96 (dk_at dksX10_looks_0 18 rfl rfl)
theorem dX10_looks_19 : decode cX10_looks 19 = .ok (.iaload, 1) := dk_46 (dk_at dksX10_looks_0 19 rfl rfl)
theorem dX10_looks_20 : decode cX10_looks 20 = .ok (.iastore, 1) := dk_79 (dk_at dksX10_looks_0 20 rfl rfl)
theorem dX10_looks_21 : decode cX10_looks 21 = .ok (.aload_n 0, 1) := dk_42 (dk_at dksX10_looks_0 21 rfl rfl)
theorem dX10_looks_22 : decode cX10_looks 22 = .ok (.getfield 125, 3) := dk_180 0 125 (dk_at dksX10_looks_1 0 rfl rfl)
theorem dX10_looks_25 : decode cX10_looks 25 = .ok (.iconst 1, 1) := dk_4 (dk_at dksX10_looks_1 3 rfl rfl)
theorem dX10_looks_26 : decode cX10_looks 26 = .ok (.aload_n 0, 1) := dk_42 (dk_at dksX10_looks_1 4 rfl rfl)
theorem dX10_looks_27 : decode cX10_looks 27 = .ok (.getfield 137, 3) := dk_180 0 137 (dk_at dksX10_looks_1 5 rfl rfl)
theorem dX10_looks_30 : decode cX10_looks 30 = .ok (.bipush 55, 2) := dk_16 55 (dk_at dksX10_looks_1 8 rfl rfl)
theorem dX10_looks_32 : decode cX10_looks 32 = .ok (.iload_n 3, 1) := dk_29 (dk_at dksX10_looks_1 10 rfl rfl)
theorem dX10_looks_33 : decode cX10_looks 33 = .ok (.iadd, 1) := dk_96 (dk_at dksX10_looks_1 11 rfl rfl)
theorem dX10_looks_34 : decode cX10_looks 34 = .ok (.iaload, 1) := dk_46 (dk_at dksX10_looks_1 12 rfl rfl)
theorem dX10_looks_35 : decode cX10_looks 35 = .ok (.iastore, 1) := dk_79 (dk_at dksX10_looks_1 13 rfl rfl)
theorem dX10_looks_36 : decode cX10_looks 36 = .ok (.aload_n 0, 1) := dk_42 (dk_at dksX10_looks_1 14 rfl rfl)
theorem dX10_looks_37 : decode cX10_looks 37 = .ok (.getfield 125, 3) := dk_180 0 125 (dk_at dksX10_looks_1 15 rfl rfl)
theorem dX10_looks_40 : decode cX10_looks 40 = .ok (.iconst 2, 1) := dk_5 (dk_at dksX10_looks_1 18 rfl rfl)
theorem dX10_looks_41 : decode cX10_looks 41 = .ok (.aload_n 0, 1) := dk_42 (dk_at dksX10_looks_1 19 rfl rfl)
theorem dX10_looks_42 : decode cX10_looks 42 = .ok (.iload_n 1, 1) := dk_27 (dk_at dksX10_looks_1 20 rfl rfl)
theorem dX10_looks_43 : decode cX10_looks 43 = .ok (.iload_n 2, 1) := dk_28 (dk_at dksX10_looks_1 21 rfl rfl)
theorem dX10_looks_44 : decode cX10_looks 44 = .ok (.invokevirtual 341, 3) := dk_182 1 85 (dk_at dksX10_looks_2 0 rfl rfl)
theorem dX10_looks_47 : decode cX10_looks 47 = .ok (.iastore, 1) := dk_79 (dk_at dksX10_looks_2 3 rfl rfl)
theorem dX10_looks_48 : decode cX10_looks 48 = .ok (.aload_n 0, 1) := dk_42 (dk_at dksX10_looks_2 4 rfl rfl)
theorem dX10_looks_49 : decode cX10_looks 49 = .ok (.getfield 125, 3) := dk_180 0 125 (dk_at dksX10_looks_2 5 rfl rfl)
theorem dX10_looks_52 : decode cX10_looks 52 = .ok (.iconst 3, 1) := dk_6 (dk_at dksX10_looks_2 8 rfl rfl)
theorem dX10_looks_53 : decode cX10_looks 53 = .ok (.aload_n 0, 1) := dk_42 (dk_at dksX10_looks_2 9 rfl rfl)
theorem dX10_looks_54 : decode cX10_looks 54 = .ok (.getfield 137, 3) := dk_180 0 137 (dk_at dksX10_looks_2 10 rfl rfl)
theorem dX10_looks_57 : decode cX10_looks 57 = .ok (.bipush 23, 2) := dk_16 23 (dk_at dksX10_looks_2 13 rfl rfl)
theorem dX10_looks_59 : decode cX10_looks 59 = .ok (.iload_n 2, 1) := dk_28 (dk_at dksX10_looks_2 15 rfl rfl)
theorem dX10_looks_60 : decode cX10_looks 60 = .ok (.iadd, 1) := dk_96 (dk_at dksX10_looks_2 16 rfl rfl)
theorem dX10_looks_61 : decode cX10_looks 61 = .ok (.iaload, 1) := dk_46 (dk_at dksX10_looks_2 17 rfl rfl)
theorem dX10_looks_62 : decode cX10_looks 62 = .ok (.iastore, 1) := dk_79 (dk_at dksX10_looks_2 18 rfl rfl)
theorem dX10_looks_63 : decode cX10_looks 63 = .ok (.return_, 1) := dk_177 (dk_at dksX10_looks_2 19 rfl rfl)
abbrev cX10_farTo : ByteArray := prog_21_method_52_code
def yX10_farTo : MethodName := ⟨RX10, "farTo", "(II)I"⟩
def dkwX10_farTo_1 : List UInt8 := [172]
abbrev dktX10_farTo_1 : List UInt8 := dkwX10_farTo_1 ++ []
def dkwX10_farTo_0 : List UInt8 := [42, 180, 0, 131, 16, 7, 42, 180, 0, 137, 27, 46, 104, 42, 180, 0, 137, 16, 15, 28, 96, 46, 96, 46]
abbrev dktX10_farTo_0 : List UInt8 := dkwX10_farTo_0 ++ dktX10_farTo_1
theorem dksX10_farTo_0 : cX10_farTo.data.toList.drop 0 = dktX10_farTo_0 := by decide +kernel
theorem dksX10_farTo_1 : cX10_farTo.data.toList.drop 24 = dktX10_farTo_1 := dk_seg dksX10_farTo_0 24 rfl rfl
theorem dX10_farTo_0 : decode cX10_farTo 0 = .ok (.aload_n 0, 1) := dk_42 (dk_at dksX10_farTo_0 0 rfl rfl)
theorem dX10_farTo_1 : decode cX10_farTo 1 = .ok (.getfield 131, 3) := dk_180 0 131 (dk_at dksX10_farTo_0 1 rfl rfl)
theorem dX10_farTo_4 : decode cX10_farTo 4 = .ok (.bipush 7, 2) := dk_16 7 (dk_at dksX10_farTo_0 4 rfl rfl)
theorem dX10_farTo_6 : decode cX10_farTo 6 = .ok (.aload_n 0, 1) := dk_42 (dk_at dksX10_farTo_0 6 rfl rfl)
theorem dX10_farTo_7 : decode cX10_farTo 7 = .ok (.getfield 137, 3) := dk_180 0 137 (dk_at dksX10_farTo_0 7 rfl rfl)
theorem dX10_farTo_10 : decode cX10_farTo 10 = .ok (.iload_n 1, 1) := dk_27 (dk_at dksX10_farTo_0 10 rfl rfl)
theorem dX10_farTo_11 : decode cX10_farTo 11 = .ok (.iaload, 1) := dk_46 (dk_at dksX10_farTo_0 11 rfl rfl)
theorem dX10_farTo_12 : decode cX10_farTo 12 = .ok (.imul, 1) := dk_104 (dk_at dksX10_farTo_0 12 rfl rfl)
theorem dX10_farTo_13 : decode cX10_farTo 13 = .ok (.aload_n 0, 1) := dk_42 (dk_at dksX10_farTo_0 13 rfl rfl)
theorem dX10_farTo_14 : decode cX10_farTo 14 = .ok (.getfield 137, 3) := dk_180 0 137 (dk_at dksX10_farTo_0 14 rfl rfl)
theorem dX10_farTo_17 : decode cX10_farTo 17 = .ok (.bipush 15, 2) := dk_16 15 (dk_at dksX10_farTo_0 17 rfl rfl)
theorem dX10_farTo_19 : decode cX10_farTo 19 = .ok (.iload_n 2, 1) := dk_28 (dk_at dksX10_farTo_0 19 rfl rfl)
theorem dX10_farTo_20 : decode cX10_farTo 20 = .ok (.iadd, 1) := dk_96 (dk_at dksX10_farTo_0 20 rfl rfl)
theorem dX10_farTo_21 : decode cX10_farTo 21 = .ok (.iaload, 1) := dk_46 (dk_at dksX10_farTo_0 21 rfl rfl)
theorem dX10_farTo_22 : decode cX10_farTo 22 = .ok (.iadd, 1) := dk_96 (dk_at dksX10_farTo_0 22 rfl rfl)
theorem dX10_farTo_23 : decode cX10_farTo 23 = .ok (.iaload, 1) := dk_46 (dk_at dksX10_farTo_0 23 rfl rfl)
theorem dX10_farTo_24 : decode cX10_farTo 24 = .ok (.ireturn, 1) := dk_172 (dk_at dksX10_farTo_1 0 rfl rfl)
abbrev cX10_asks : ByteArray := prog_21_method_55_code
def yX10_asks : MethodName := ⟨RX10, "asks", "(II)I"⟩
def dkwX10_asks_6 : List UInt8 := [180, 1, 74, 153, 0, 7, 3, 167, 0, 5, 21, 5, 172, 132, 4, 1, 167, 255, 139, 3, 172]
abbrev dktX10_asks_6 : List UInt8 := dkwX10_asks_6 ++ []
def dkwX10_asks_5 : List UInt8 := [167, 0, 37, 42, 42, 180, 0, 110, 21, 4, 46, 42, 180, 0, 113, 21, 4, 46, 182, 1, 88, 54, 5, 42]
abbrev dktX10_asks_5 : List UInt8 := dkwX10_asks_5 ++ dktX10_asks_6
def dkwX10_asks_4 : List UInt8 := [21, 4, 46, 182, 1, 88, 54, 6, 42, 180, 1, 74, 153, 0, 5, 3, 172, 21, 5, 21, 6, 161, 0, 6]
abbrev dktX10_asks_4 : List UInt8 := dkwX10_asks_4 ++ dktX10_asks_5
def dkwX10_asks_3 : List UInt8 := [180, 0, 107, 21, 4, 46, 182, 1, 88, 54, 5, 42, 42, 180, 0, 107, 21, 4, 46, 42, 180, 0, 110]
abbrev dktX10_asks_3 : List UInt8 := dkwX10_asks_3 ++ dktX10_asks_4
def dkwX10_asks_2 : List UInt8 := [162, 0, 112, 42, 180, 0, 100, 21, 4, 51, 153, 0, 62, 42, 42, 180, 0, 104, 21, 4, 46, 42]
abbrev dktX10_asks_2 : List UInt8 := dkwX10_asks_2 ++ dktX10_asks_3
def dkwX10_asks_1 : List UInt8 := [28, 172, 42, 3, 181, 1, 74, 42, 180, 0, 94, 29, 46, 54, 4, 21, 4, 42, 180, 0, 97, 29, 46]
abbrev dktX10_asks_1 : List UInt8 := dkwX10_asks_1 ++ dktX10_asks_2
def dkwX10_asks_0 : List UInt8 := [7, 42, 180, 0, 242, 104, 27, 96, 62, 42, 180, 0, 94, 29, 46, 42, 180, 0, 97, 29, 46, 160, 0, 5]
abbrev dktX10_asks_0 : List UInt8 := dkwX10_asks_0 ++ dktX10_asks_1
theorem dksX10_asks_0 : cX10_asks.data.toList.drop 0 = dktX10_asks_0 := by decide +kernel
theorem dksX10_asks_1 : cX10_asks.data.toList.drop 24 = dktX10_asks_1 := dk_seg dksX10_asks_0 24 rfl rfl
theorem dksX10_asks_2 : cX10_asks.data.toList.drop 47 = dktX10_asks_2 := dk_seg dksX10_asks_1 23 rfl rfl
theorem dksX10_asks_3 : cX10_asks.data.toList.drop 69 = dktX10_asks_3 := dk_seg dksX10_asks_2 22 rfl rfl
theorem dksX10_asks_4 : cX10_asks.data.toList.drop 92 = dktX10_asks_4 := dk_seg dksX10_asks_3 23 rfl rfl
theorem dksX10_asks_5 : cX10_asks.data.toList.drop 116 = dktX10_asks_5 := dk_seg dksX10_asks_4 24 rfl rfl
theorem dksX10_asks_6 : cX10_asks.data.toList.drop 140 = dktX10_asks_6 := dk_seg dksX10_asks_5 24 rfl rfl
theorem dX10_asks_0 : decode cX10_asks 0 = .ok (.iconst 4, 1) := dk_7 (dk_at dksX10_asks_0 0 rfl rfl)
theorem dX10_asks_1 : decode cX10_asks 1 = .ok (.aload_n 0, 1) := dk_42 (dk_at dksX10_asks_0 1 rfl rfl)
theorem dX10_asks_2 : decode cX10_asks 2 = .ok (.getfield 242, 3) := dk_180 0 242 (dk_at dksX10_asks_0 2 rfl rfl)
theorem dX10_asks_5 : decode cX10_asks 5 = .ok (.imul, 1) := dk_104 (dk_at dksX10_asks_0 5 rfl rfl)
theorem dX10_asks_6 : decode cX10_asks 6 = .ok (.iload_n 1, 1) := dk_27 (dk_at dksX10_asks_0 6 rfl rfl)
theorem dX10_asks_7 : decode cX10_asks 7 = .ok (.iadd, 1) := dk_96 (dk_at dksX10_asks_0 7 rfl rfl)
theorem dX10_asks_8 : decode cX10_asks 8 = .ok (.istore_n 3, 1) := dk_62 (dk_at dksX10_asks_0 8 rfl rfl)
theorem dX10_asks_9 : decode cX10_asks 9 = .ok (.aload_n 0, 1) := dk_42 (dk_at dksX10_asks_0 9 rfl rfl)
theorem dX10_asks_10 : decode cX10_asks 10 = .ok (.getfield 94, 3) := dk_180 0 94 (dk_at dksX10_asks_0 10 rfl rfl)
theorem dX10_asks_13 : decode cX10_asks 13 = .ok (.iload_n 3, 1) := dk_29 (dk_at dksX10_asks_0 13 rfl rfl)
theorem dX10_asks_14 : decode cX10_asks 14 = .ok (.iaload, 1) := dk_46 (dk_at dksX10_asks_0 14 rfl rfl)
theorem dX10_asks_15 : decode cX10_asks 15 = .ok (.aload_n 0, 1) := dk_42 (dk_at dksX10_asks_0 15 rfl rfl)
theorem dX10_asks_16 : decode cX10_asks 16 = .ok (.getfield 97, 3) := dk_180 0 97 (dk_at dksX10_asks_0 16 rfl rfl)
theorem dX10_asks_19 : decode cX10_asks 19 = .ok (.iload_n 3, 1) := dk_29 (dk_at dksX10_asks_0 19 rfl rfl)
theorem dX10_asks_20 : decode cX10_asks 20 = .ok (.iaload, 1) := dk_46 (dk_at dksX10_asks_0 20 rfl rfl)
theorem dX10_asks_21 : decode cX10_asks 21 = .ok (.if_icmp .ne 5, 3) := dk_160 0 5 (dk_at dksX10_asks_0 21 rfl rfl)
theorem dX10_asks_24 : decode cX10_asks 24 = .ok (.iload_n 2, 1) := dk_28 (dk_at dksX10_asks_1 0 rfl rfl)
theorem dX10_asks_25 : decode cX10_asks 25 = .ok (.ireturn, 1) := dk_172 (dk_at dksX10_asks_1 1 rfl rfl)
theorem dX10_asks_26 : decode cX10_asks 26 = .ok (.aload_n 0, 1) := dk_42 (dk_at dksX10_asks_1 2 rfl rfl)
theorem dX10_asks_27 : decode cX10_asks 27 = .ok (.iconst 0, 1) := dk_3 (dk_at dksX10_asks_1 3 rfl rfl)
theorem dX10_asks_28 : decode cX10_asks 28 = .ok (.putfield 330, 3) := dk_181 1 74 (dk_at dksX10_asks_1 4 rfl rfl)
theorem dX10_asks_31 : decode cX10_asks 31 = .ok (.aload_n 0, 1) := dk_42 (dk_at dksX10_asks_1 7 rfl rfl)
theorem dX10_asks_32 : decode cX10_asks 32 = .ok (.getfield 94, 3) := dk_180 0 94 (dk_at dksX10_asks_1 8 rfl rfl)
theorem dX10_asks_35 : decode cX10_asks 35 = .ok (.iload_n 3, 1) := dk_29 (dk_at dksX10_asks_1 11 rfl rfl)
theorem dX10_asks_36 : decode cX10_asks 36 = .ok (.iaload, 1) := dk_46 (dk_at dksX10_asks_1 12 rfl rfl)
theorem dX10_asks_37 : decode cX10_asks 37 = .ok (.istore 4, 2) := dk_54 4 (dk_at dksX10_asks_1 13 rfl rfl)
theorem dX10_asks_39 : decode cX10_asks 39 = .ok (.iload 4, 2) := dk_21 4 (dk_at dksX10_asks_1 15 rfl rfl)
theorem dX10_asks_41 : decode cX10_asks 41 = .ok (.aload_n 0, 1) := dk_42 (dk_at dksX10_asks_1 17 rfl rfl)
theorem dX10_asks_42 : decode cX10_asks 42 = .ok (.getfield 97, 3) := dk_180 0 97 (dk_at dksX10_asks_1 18 rfl rfl)
theorem dX10_asks_45 : decode cX10_asks 45 = .ok (.iload_n 3, 1) := dk_29 (dk_at dksX10_asks_1 21 rfl rfl)
theorem dX10_asks_46 : decode cX10_asks 46 = .ok (.iaload, 1) := dk_46 (dk_at dksX10_asks_1 22 rfl rfl)
theorem dX10_asks_47 : decode cX10_asks 47 = .ok (.if_icmp .ge 112, 3) := dk_162 0 112 (dk_at dksX10_asks_2 0 rfl rfl)
theorem dX10_asks_50 : decode cX10_asks 50 = .ok (.aload_n 0, 1) := dk_42 (dk_at dksX10_asks_2 3 rfl rfl)
theorem dX10_asks_51 : decode cX10_asks 51 = .ok (.getfield 100, 3) := dk_180 0 100 (dk_at dksX10_asks_2 4 rfl rfl)
theorem dX10_asks_54 : decode cX10_asks 54 = .ok (.iload 4, 2) := dk_21 4 (dk_at dksX10_asks_2 7 rfl rfl)
theorem dX10_asks_56 : decode cX10_asks 56 = .ok (.baload, 1) := dk_51 (dk_at dksX10_asks_2 9 rfl rfl)
theorem dX10_asks_57 : decode cX10_asks 57 = .ok (.ifCond .eq 62, 3) := dk_153 0 62 (dk_at dksX10_asks_2 10 rfl rfl)
theorem dX10_asks_60 : decode cX10_asks 60 = .ok (.aload_n 0, 1) := dk_42 (dk_at dksX10_asks_2 13 rfl rfl)
theorem dX10_asks_61 : decode cX10_asks 61 = .ok (.aload_n 0, 1) := dk_42 (dk_at dksX10_asks_2 14 rfl rfl)
theorem dX10_asks_62 : decode cX10_asks 62 = .ok (.getfield 104, 3) := dk_180 0 104 (dk_at dksX10_asks_2 15 rfl rfl)
theorem dX10_asks_65 : decode cX10_asks 65 = .ok (.iload 4, 2) := dk_21 4 (dk_at dksX10_asks_2 18 rfl rfl)
theorem dX10_asks_67 : decode cX10_asks 67 = .ok (.iaload, 1) := dk_46 (dk_at dksX10_asks_2 20 rfl rfl)
theorem dX10_asks_68 : decode cX10_asks 68 = .ok (.aload_n 0, 1) := dk_42 (dk_at dksX10_asks_2 21 rfl rfl)
theorem dX10_asks_69 : decode cX10_asks 69 = .ok (.getfield 107, 3) := dk_180 0 107 (dk_at dksX10_asks_3 0 rfl rfl)
theorem dX10_asks_72 : decode cX10_asks 72 = .ok (.iload 4, 2) := dk_21 4 (dk_at dksX10_asks_3 3 rfl rfl)
theorem dX10_asks_74 : decode cX10_asks 74 = .ok (.iaload, 1) := dk_46 (dk_at dksX10_asks_3 5 rfl rfl)
theorem dX10_asks_75 : decode cX10_asks 75 = .ok (.invokevirtual 344, 3) := dk_182 1 88 (dk_at dksX10_asks_3 6 rfl rfl)
theorem dX10_asks_78 : decode cX10_asks 78 = .ok (.istore 5, 2) := dk_54 5 (dk_at dksX10_asks_3 9 rfl rfl)
theorem dX10_asks_80 : decode cX10_asks 80 = .ok (.aload_n 0, 1) := dk_42 (dk_at dksX10_asks_3 11 rfl rfl)
theorem dX10_asks_81 : decode cX10_asks 81 = .ok (.aload_n 0, 1) := dk_42 (dk_at dksX10_asks_3 12 rfl rfl)
theorem dX10_asks_82 : decode cX10_asks 82 = .ok (.getfield 107, 3) := dk_180 0 107 (dk_at dksX10_asks_3 13 rfl rfl)
theorem dX10_asks_85 : decode cX10_asks 85 = .ok (.iload 4, 2) := dk_21 4 (dk_at dksX10_asks_3 16 rfl rfl)
theorem dX10_asks_87 : decode cX10_asks 87 = .ok (.iaload, 1) := dk_46 (dk_at dksX10_asks_3 18 rfl rfl)
theorem dX10_asks_88 : decode cX10_asks 88 = .ok (.aload_n 0, 1) := dk_42 (dk_at dksX10_asks_3 19 rfl rfl)
theorem dX10_asks_89 : decode cX10_asks 89 = .ok (.getfield 110, 3) := dk_180 0 110 (dk_at dksX10_asks_3 20 rfl rfl)
theorem dX10_asks_92 : decode cX10_asks 92 = .ok (.iload 4, 2) := dk_21 4 (dk_at dksX10_asks_4 0 rfl rfl)
theorem dX10_asks_94 : decode cX10_asks 94 = .ok (.iaload, 1) := dk_46 (dk_at dksX10_asks_4 2 rfl rfl)
theorem dX10_asks_95 : decode cX10_asks 95 = .ok (.invokevirtual 344, 3) := dk_182 1 88 (dk_at dksX10_asks_4 3 rfl rfl)
theorem dX10_asks_98 : decode cX10_asks 98 = .ok (.istore 6, 2) := dk_54 6 (dk_at dksX10_asks_4 6 rfl rfl)
theorem dX10_asks_100 : decode cX10_asks 100 = .ok (.aload_n 0, 1) := dk_42 (dk_at dksX10_asks_4 8 rfl rfl)
theorem dX10_asks_101 : decode cX10_asks 101 = .ok (.getfield 330, 3) := dk_180 1 74 (dk_at dksX10_asks_4 9 rfl rfl)
theorem dX10_asks_104 : decode cX10_asks 104 = .ok (.ifCond .eq 5, 3) := dk_153 0 5 (dk_at dksX10_asks_4 12 rfl rfl)
theorem dX10_asks_107 : decode cX10_asks 107 = .ok (.iconst 0, 1) := dk_3 (dk_at dksX10_asks_4 15 rfl rfl)
theorem dX10_asks_108 : decode cX10_asks 108 = .ok (.ireturn, 1) := dk_172 (dk_at dksX10_asks_4 16 rfl rfl)
theorem dX10_asks_109 : decode cX10_asks 109 = .ok (.iload 5, 2) := dk_21 5 (dk_at dksX10_asks_4 17 rfl rfl)
theorem dX10_asks_111 : decode cX10_asks 111 = .ok (.iload 6, 2) := dk_21 6 (dk_at dksX10_asks_4 19 rfl rfl)
theorem dX10_asks_113 : decode cX10_asks 113 = .ok (.if_icmp .lt 6, 3) := dk_161 0 6 (dk_at dksX10_asks_4 21 rfl rfl)
theorem dX10_asks_116 : decode cX10_asks 116 = .ok (.goto 37, 3) := dk_167 0 37 (dk_at dksX10_asks_5 0 rfl rfl)
theorem dX10_asks_119 : decode cX10_asks 119 = .ok (.aload_n 0, 1) := dk_42 (dk_at dksX10_asks_5 3 rfl rfl)
theorem dX10_asks_120 : decode cX10_asks 120 = .ok (.aload_n 0, 1) := dk_42 (dk_at dksX10_asks_5 4 rfl rfl)
theorem dX10_asks_121 : decode cX10_asks 121 = .ok (.getfield 110, 3) := dk_180 0 110 (dk_at dksX10_asks_5 5 rfl rfl)
theorem dX10_asks_124 : decode cX10_asks 124 = .ok (.iload 4, 2) := dk_21 4 (dk_at dksX10_asks_5 8 rfl rfl)
theorem dX10_asks_126 : decode cX10_asks 126 = .ok (.iaload, 1) := dk_46 (dk_at dksX10_asks_5 10 rfl rfl)
theorem dX10_asks_127 : decode cX10_asks 127 = .ok (.aload_n 0, 1) := dk_42 (dk_at dksX10_asks_5 11 rfl rfl)
theorem dX10_asks_128 : decode cX10_asks 128 = .ok (.getfield 113, 3) := dk_180 0 113 (dk_at dksX10_asks_5 12 rfl rfl)
theorem dX10_asks_131 : decode cX10_asks 131 = .ok (.iload 4, 2) := dk_21 4 (dk_at dksX10_asks_5 15 rfl rfl)
theorem dX10_asks_133 : decode cX10_asks 133 = .ok (.iaload, 1) := dk_46 (dk_at dksX10_asks_5 17 rfl rfl)
theorem dX10_asks_134 : decode cX10_asks 134 = .ok (.invokevirtual 344, 3) := dk_182 1 88 (dk_at dksX10_asks_5 18 rfl rfl)
theorem dX10_asks_137 : decode cX10_asks 137 = .ok (.istore 5, 2) := dk_54 5 (dk_at dksX10_asks_5 21 rfl rfl)
theorem dX10_asks_139 : decode cX10_asks 139 = .ok (.aload_n 0, 1) := dk_42 (dk_at dksX10_asks_5 23 rfl rfl)
theorem dX10_asks_140 : decode cX10_asks 140 = .ok (.getfield 330, 3) := dk_180 1 74 (dk_at dksX10_asks_6 0 rfl rfl)
theorem dX10_asks_143 : decode cX10_asks 143 = .ok (.ifCond .eq 7, 3) := dk_153 0 7 (dk_at dksX10_asks_6 3 rfl rfl)
theorem dX10_asks_146 : decode cX10_asks 146 = .ok (.iconst 0, 1) := dk_3 (dk_at dksX10_asks_6 6 rfl rfl)
theorem dX10_asks_147 : decode cX10_asks 147 = .ok (.goto 5, 3) := dk_167 0 5 (dk_at dksX10_asks_6 7 rfl rfl)
theorem dX10_asks_150 : decode cX10_asks 150 = .ok (.iload 5, 2) := dk_21 5 (dk_at dksX10_asks_6 10 rfl rfl)
theorem dX10_asks_152 : decode cX10_asks 152 = .ok (.ireturn, 1) := dk_172 (dk_at dksX10_asks_6 12 rfl rfl)
theorem dX10_asks_153 : decode cX10_asks 153 = .ok (.iinc 4 1, 3) := dk_132 4 1 (dk_at dksX10_asks_6 13 rfl rfl)
theorem dX10_asks_156 : decode cX10_asks 156 = .ok (.goto (-117), 3) := dk_167 255 139 (dk_at dksX10_asks_6 16 rfl rfl)
theorem dX10_asks_159 : decode cX10_asks 159 = .ok (.iconst 0, 1) := dk_3 (dk_at dksX10_asks_6 19 rfl rfl)
theorem dX10_asks_160 : decode cX10_asks 160 = .ok (.ireturn, 1) := dk_172 (dk_at dksX10_asks_6 20 rfl rfl)
abbrev cX10_termOf : ByteArray := prog_21_method_39_code
def yX10_termOf : MethodName := ⟨RX10, "termOf", "(II)I"⟩
def dkwX10_termOf_7 : List UInt8 := [132, 4, 1, 167, 255, 99, 42, 180, 0, 128, 3, 46, 172]
abbrev dktX10_termOf_7 : List UInt8 := dkwX10_termOf_7 ++ []
def dkwX10_termOf_6 : List UInt8 := [167, 0, 22, 21, 5, 7, 160, 0, 11, 21, 6, 21, 7, 104, 167, 0, 8, 21, 6, 21, 7, 108, 79]
abbrev dktX10_termOf_6 : List UInt8 := dkwX10_termOf_6 ++ dktX10_termOf_7
def dkwX10_termOf_5 : List UInt8 := [160, 0, 11, 21, 6, 21, 7, 96, 167, 0, 36, 21, 5, 6, 160, 0, 11, 21, 6, 21, 7, 100]
abbrev dktX10_termOf_5 : List UInt8 := dkwX10_termOf_5 ++ dktX10_termOf_6
def dkwX10_termOf_4 : List UInt8 := [21, 7, 154, 0, 10, 42, 4, 181, 1, 74, 3, 172, 42, 180, 0, 128, 29, 4, 100, 21, 5, 5]
abbrev dktX10_termOf_4 : List UInt8 := dkwX10_termOf_4 ++ dktX10_termOf_5
def dkwX10_termOf_3 : List UInt8 := [180, 0, 128, 29, 4, 100, 46, 54, 6, 42, 180, 0, 128, 29, 46, 54, 7, 21, 5, 8, 160, 0, 15]
abbrev dktX10_termOf_3 : List UInt8 := dkwX10_termOf_3 ++ dktX10_termOf_4
def dkwX10_termOf_2 : List UInt8 := [180, 0, 125, 42, 180, 0, 119, 21, 4, 46, 46, 79, 132, 3, 1, 167, 0, 97, 132, 3, 255, 42]
abbrev dktX10_termOf_2 : List UInt8 := dkwX10_termOf_2 ++ dktX10_termOf_3
def dkwX10_termOf_1 : List UInt8 := [162, 0, 42, 42, 180, 0, 128, 29, 21, 5, 154, 0, 13, 42, 180, 0, 119, 21, 4, 46, 167, 0, 15, 42]
abbrev dktX10_termOf_1 : List UInt8 := dkwX10_termOf_1 ++ dktX10_termOf_2
def dkwX10_termOf_0 : List UInt8 := [3, 62, 27, 54, 4, 21, 4, 28, 162, 0, 157, 42, 180, 0, 116, 21, 4, 46, 54, 5, 21, 5, 5]
abbrev dktX10_termOf_0 : List UInt8 := dkwX10_termOf_0 ++ dktX10_termOf_1
theorem dksX10_termOf_0 : cX10_termOf.data.toList.drop 0 = dktX10_termOf_0 := by decide +kernel
theorem dksX10_termOf_1 : cX10_termOf.data.toList.drop 23 = dktX10_termOf_1 := dk_seg dksX10_termOf_0 23 rfl rfl
theorem dksX10_termOf_2 : cX10_termOf.data.toList.drop 47 = dktX10_termOf_2 := dk_seg dksX10_termOf_1 24 rfl rfl
theorem dksX10_termOf_3 : cX10_termOf.data.toList.drop 69 = dktX10_termOf_3 := dk_seg dksX10_termOf_2 22 rfl rfl
theorem dksX10_termOf_4 : cX10_termOf.data.toList.drop 92 = dktX10_termOf_4 := dk_seg dksX10_termOf_3 23 rfl rfl
theorem dksX10_termOf_5 : cX10_termOf.data.toList.drop 114 = dktX10_termOf_5 := dk_seg dksX10_termOf_4 22 rfl rfl
theorem dksX10_termOf_6 : cX10_termOf.data.toList.drop 136 = dktX10_termOf_6 := dk_seg dksX10_termOf_5 22 rfl rfl
theorem dksX10_termOf_7 : cX10_termOf.data.toList.drop 159 = dktX10_termOf_7 := dk_seg dksX10_termOf_6 23 rfl rfl
theorem dX10_termOf_0 : decode cX10_termOf 0 = .ok (.iconst 0, 1) := dk_3 (dk_at dksX10_termOf_0 0 rfl rfl)
theorem dX10_termOf_1 : decode cX10_termOf 1 = .ok (.istore_n 3, 1) := dk_62 (dk_at dksX10_termOf_0 1 rfl rfl)
theorem dX10_termOf_2 : decode cX10_termOf 2 = .ok (.iload_n 1, 1) := dk_27 (dk_at dksX10_termOf_0 2 rfl rfl)
theorem dX10_termOf_3 : decode cX10_termOf 3 = .ok (.istore 4, 2) := dk_54 4 (dk_at dksX10_termOf_0 3 rfl rfl)
theorem dX10_termOf_5 : decode cX10_termOf 5 = .ok (.iload 4, 2) := dk_21 4 (dk_at dksX10_termOf_0 5 rfl rfl)
theorem dX10_termOf_7 : decode cX10_termOf 7 = .ok (.iload_n 2, 1) := dk_28 (dk_at dksX10_termOf_0 7 rfl rfl)
theorem dX10_termOf_8 : decode cX10_termOf 8 = .ok (.if_icmp .ge 157, 3) := dk_162 0 157 (dk_at dksX10_termOf_0 8 rfl rfl)
theorem dX10_termOf_11 : decode cX10_termOf 11 = .ok (.aload_n 0, 1) := dk_42 (dk_at dksX10_termOf_0 11 rfl rfl)
theorem dX10_termOf_12 : decode cX10_termOf 12 = .ok (.getfield 116, 3) := dk_180 0 116 (dk_at dksX10_termOf_0 12 rfl rfl)
theorem dX10_termOf_15 : decode cX10_termOf 15 = .ok (.iload 4, 2) := dk_21 4 (dk_at dksX10_termOf_0 15 rfl rfl)
theorem dX10_termOf_17 : decode cX10_termOf 17 = .ok (.iaload, 1) := dk_46 (dk_at dksX10_termOf_0 17 rfl rfl)
theorem dX10_termOf_18 : decode cX10_termOf 18 = .ok (.istore 5, 2) := dk_54 5 (dk_at dksX10_termOf_0 18 rfl rfl)
theorem dX10_termOf_20 : decode cX10_termOf 20 = .ok (.iload 5, 2) := dk_21 5 (dk_at dksX10_termOf_0 20 rfl rfl)
theorem dX10_termOf_22 : decode cX10_termOf 22 = .ok (.iconst 2, 1) := dk_5 (dk_at dksX10_termOf_0 22 rfl rfl)
theorem dX10_termOf_23 : decode cX10_termOf 23 = .ok (.if_icmp .ge 42, 3) := dk_162 0 42 (dk_at dksX10_termOf_1 0 rfl rfl)
theorem dX10_termOf_26 : decode cX10_termOf 26 = .ok (.aload_n 0, 1) := dk_42 (dk_at dksX10_termOf_1 3 rfl rfl)
theorem dX10_termOf_27 : decode cX10_termOf 27 = .ok (.getfield 128, 3) := dk_180 0 128 (dk_at dksX10_termOf_1 4 rfl rfl)
theorem dX10_termOf_30 : decode cX10_termOf 30 = .ok (.iload_n 3, 1) := dk_29 (dk_at dksX10_termOf_1 7 rfl rfl)
theorem dX10_termOf_31 : decode cX10_termOf 31 = .ok (.iload 5, 2) := dk_21 5 (dk_at dksX10_termOf_1 8 rfl rfl)
theorem dX10_termOf_33 : decode cX10_termOf 33 = .ok (.ifCond .ne 13, 3) := dk_154 0 13 (dk_at dksX10_termOf_1 10 rfl rfl)
theorem dX10_termOf_36 : decode cX10_termOf 36 = .ok (.aload_n 0, 1) := dk_42 (dk_at dksX10_termOf_1 13 rfl rfl)
theorem dX10_termOf_37 : decode cX10_termOf 37 = .ok (.getfield 119, 3) := dk_180 0 119 (dk_at dksX10_termOf_1 14 rfl rfl)
theorem dX10_termOf_40 : decode cX10_termOf 40 = .ok (.iload 4, 2) := dk_21 4 (dk_at dksX10_termOf_1 17 rfl rfl)
theorem dX10_termOf_42 : decode cX10_termOf 42 = .ok (.iaload, 1) := dk_46 (dk_at dksX10_termOf_1 19 rfl rfl)
theorem dX10_termOf_43 : decode cX10_termOf 43 = .ok (.goto 15, 3) := dk_167 0 15 (dk_at dksX10_termOf_1 20 rfl rfl)
theorem dX10_termOf_46 : decode cX10_termOf 46 = .ok (.aload_n 0, 1) := dk_42 (dk_at dksX10_termOf_1 23 rfl rfl)
theorem dX10_termOf_47 : decode cX10_termOf 47 = .ok (.getfield 125, 3) := dk_180 0 125 (dk_at dksX10_termOf_2 0 rfl rfl)
theorem dX10_termOf_50 : decode cX10_termOf 50 = .ok (.aload_n 0, 1) := dk_42 (dk_at dksX10_termOf_2 3 rfl rfl)
theorem dX10_termOf_51 : decode cX10_termOf 51 = .ok (.getfield 119, 3) := dk_180 0 119 (dk_at dksX10_termOf_2 4 rfl rfl)
theorem dX10_termOf_54 : decode cX10_termOf 54 = .ok (.iload 4, 2) := dk_21 4 (dk_at dksX10_termOf_2 7 rfl rfl)
theorem dX10_termOf_56 : decode cX10_termOf 56 = .ok (.iaload, 1) := dk_46 (dk_at dksX10_termOf_2 9 rfl rfl)
theorem dX10_termOf_57 : decode cX10_termOf 57 = .ok (.iaload, 1) := dk_46 (dk_at dksX10_termOf_2 10 rfl rfl)
theorem dX10_termOf_58 : decode cX10_termOf 58 = .ok (.iastore, 1) := dk_79 (dk_at dksX10_termOf_2 11 rfl rfl)
theorem dX10_termOf_59 : decode cX10_termOf 59 = .ok (.iinc 3 1, 3) := dk_132 3 1 (dk_at dksX10_termOf_2 12 rfl rfl)
theorem dX10_termOf_62 : decode cX10_termOf 62 = .ok (.goto 97, 3) := dk_167 0 97 (dk_at dksX10_termOf_2 15 rfl rfl)
theorem dX10_termOf_65 : decode cX10_termOf 65 = .ok (.iinc 3 (-1), 3) := dk_132 3 255 (dk_at dksX10_termOf_2 18 rfl rfl)
theorem dX10_termOf_68 : decode cX10_termOf 68 = .ok (.aload_n 0, 1) := dk_42 (dk_at dksX10_termOf_2 21 rfl rfl)
theorem dX10_termOf_69 : decode cX10_termOf 69 = .ok (.getfield 128, 3) := dk_180 0 128 (dk_at dksX10_termOf_3 0 rfl rfl)
theorem dX10_termOf_72 : decode cX10_termOf 72 = .ok (.iload_n 3, 1) := dk_29 (dk_at dksX10_termOf_3 3 rfl rfl)
theorem dX10_termOf_73 : decode cX10_termOf 73 = .ok (.iconst 1, 1) := dk_4 (dk_at dksX10_termOf_3 4 rfl rfl)
theorem dX10_termOf_74 : decode cX10_termOf 74 = .ok (.isub, 1) := dk_100 (dk_at dksX10_termOf_3 5 rfl rfl)
theorem dX10_termOf_75 : decode cX10_termOf 75 = .ok (.iaload, 1) := dk_46 (dk_at dksX10_termOf_3 6 rfl rfl)
theorem dX10_termOf_76 : decode cX10_termOf 76 = .ok (.istore 6, 2) := dk_54 6 (dk_at dksX10_termOf_3 7 rfl rfl)
theorem dX10_termOf_78 : decode cX10_termOf 78 = .ok (.aload_n 0, 1) := dk_42 (dk_at dksX10_termOf_3 9 rfl rfl)
theorem dX10_termOf_79 : decode cX10_termOf 79 = .ok (.getfield 128, 3) := dk_180 0 128 (dk_at dksX10_termOf_3 10 rfl rfl)
theorem dX10_termOf_82 : decode cX10_termOf 82 = .ok (.iload_n 3, 1) := dk_29 (dk_at dksX10_termOf_3 13 rfl rfl)
theorem dX10_termOf_83 : decode cX10_termOf 83 = .ok (.iaload, 1) := dk_46 (dk_at dksX10_termOf_3 14 rfl rfl)
theorem dX10_termOf_84 : decode cX10_termOf 84 = .ok (.istore 7, 2) := dk_54 7 (dk_at dksX10_termOf_3 15 rfl rfl)
theorem dX10_termOf_86 : decode cX10_termOf 86 = .ok (.iload 5, 2) := dk_21 5 (dk_at dksX10_termOf_3 17 rfl rfl)
theorem dX10_termOf_88 : decode cX10_termOf 88 = .ok (.iconst 5, 1) := dk_8 (dk_at dksX10_termOf_3 19 rfl rfl)
theorem dX10_termOf_89 : decode cX10_termOf 89 = .ok (.if_icmp .ne 15, 3) := dk_160 0 15 (dk_at dksX10_termOf_3 20 rfl rfl)
theorem dX10_termOf_92 : decode cX10_termOf 92 = .ok (.iload 7, 2) := dk_21 7 (dk_at dksX10_termOf_4 0 rfl rfl)
theorem dX10_termOf_94 : decode cX10_termOf 94 = .ok (.ifCond .ne 10, 3) := dk_154 0 10 (dk_at dksX10_termOf_4 2 rfl rfl)
theorem dX10_termOf_97 : decode cX10_termOf 97 = .ok (.aload_n 0, 1) := dk_42 (dk_at dksX10_termOf_4 5 rfl rfl)
theorem dX10_termOf_98 : decode cX10_termOf 98 = .ok (.iconst 1, 1) := dk_4 (dk_at dksX10_termOf_4 6 rfl rfl)
theorem dX10_termOf_99 : decode cX10_termOf 99 = .ok (.putfield 330, 3) := dk_181 1 74 (dk_at dksX10_termOf_4 7 rfl rfl)
theorem dX10_termOf_102 : decode cX10_termOf 102 = .ok (.iconst 0, 1) := dk_3 (dk_at dksX10_termOf_4 10 rfl rfl)
theorem dX10_termOf_103 : decode cX10_termOf 103 = .ok (.ireturn, 1) := dk_172 (dk_at dksX10_termOf_4 11 rfl rfl)
theorem dX10_termOf_104 : decode cX10_termOf 104 = .ok (.aload_n 0, 1) := dk_42 (dk_at dksX10_termOf_4 12 rfl rfl)
theorem dX10_termOf_105 : decode cX10_termOf 105 = .ok (.getfield 128, 3) := dk_180 0 128 (dk_at dksX10_termOf_4 13 rfl rfl)
theorem dX10_termOf_108 : decode cX10_termOf 108 = .ok (.iload_n 3, 1) := dk_29 (dk_at dksX10_termOf_4 16 rfl rfl)
theorem dX10_termOf_109 : decode cX10_termOf 109 = .ok (.iconst 1, 1) := dk_4 (dk_at dksX10_termOf_4 17 rfl rfl)
theorem dX10_termOf_110 : decode cX10_termOf 110 = .ok (.isub, 1) := dk_100 (dk_at dksX10_termOf_4 18 rfl rfl)
theorem dX10_termOf_111 : decode cX10_termOf 111 = .ok (.iload 5, 2) := dk_21 5 (dk_at dksX10_termOf_4 19 rfl rfl)
theorem dX10_termOf_113 : decode cX10_termOf 113 = .ok (.iconst 2, 1) := dk_5 (dk_at dksX10_termOf_4 21 rfl rfl)
theorem dX10_termOf_114 : decode cX10_termOf 114 = .ok (.if_icmp .ne 11, 3) := dk_160 0 11 (dk_at dksX10_termOf_5 0 rfl rfl)
theorem dX10_termOf_117 : decode cX10_termOf 117 = .ok (.iload 6, 2) := dk_21 6 (dk_at dksX10_termOf_5 3 rfl rfl)
theorem dX10_termOf_119 : decode cX10_termOf 119 = .ok (.iload 7, 2) := dk_21 7 (dk_at dksX10_termOf_5 5 rfl rfl)
theorem dX10_termOf_121 : decode cX10_termOf 121 = .ok (.iadd, 1) := dk_96 (dk_at dksX10_termOf_5 7 rfl rfl)
theorem dX10_termOf_122 : decode cX10_termOf 122 = .ok (.goto 36, 3) := dk_167 0 36 (dk_at dksX10_termOf_5 8 rfl rfl)
theorem dX10_termOf_125 : decode cX10_termOf 125 = .ok (.iload 5, 2) := dk_21 5 (dk_at dksX10_termOf_5 11 rfl rfl)
theorem dX10_termOf_127 : decode cX10_termOf 127 = .ok (.iconst 3, 1) := dk_6 (dk_at dksX10_termOf_5 13 rfl rfl)
theorem dX10_termOf_128 : decode cX10_termOf 128 = .ok (.if_icmp .ne 11, 3) := dk_160 0 11 (dk_at dksX10_termOf_5 14 rfl rfl)
theorem dX10_termOf_131 : decode cX10_termOf 131 = .ok (.iload 6, 2) := dk_21 6 (dk_at dksX10_termOf_5 17 rfl rfl)
theorem dX10_termOf_133 : decode cX10_termOf 133 = .ok (.iload 7, 2) := dk_21 7 (dk_at dksX10_termOf_5 19 rfl rfl)
theorem dX10_termOf_135 : decode cX10_termOf 135 = .ok (.isub, 1) := dk_100 (dk_at dksX10_termOf_5 21 rfl rfl)
theorem dX10_termOf_136 : decode cX10_termOf 136 = .ok (.goto 22, 3) := dk_167 0 22 (dk_at dksX10_termOf_6 0 rfl rfl)
theorem dX10_termOf_139 : decode cX10_termOf 139 = .ok (.iload 5, 2) := dk_21 5 (dk_at dksX10_termOf_6 3 rfl rfl)
theorem dX10_termOf_141 : decode cX10_termOf 141 = .ok (.iconst 4, 1) := dk_7 (dk_at dksX10_termOf_6 5 rfl rfl)
theorem dX10_termOf_142 : decode cX10_termOf 142 = .ok (.if_icmp .ne 11, 3) := dk_160 0 11 (dk_at dksX10_termOf_6 6 rfl rfl)
theorem dX10_termOf_145 : decode cX10_termOf 145 = .ok (.iload 6, 2) := dk_21 6 (dk_at dksX10_termOf_6 9 rfl rfl)
theorem dX10_termOf_147 : decode cX10_termOf 147 = .ok (.iload 7, 2) := dk_21 7 (dk_at dksX10_termOf_6 11 rfl rfl)
theorem dX10_termOf_149 : decode cX10_termOf 149 = .ok (.imul, 1) := dk_104 (dk_at dksX10_termOf_6 13 rfl rfl)
theorem dX10_termOf_150 : decode cX10_termOf 150 = .ok (.goto 8, 3) := dk_167 0 8 (dk_at dksX10_termOf_6 14 rfl rfl)
theorem dX10_termOf_153 : decode cX10_termOf 153 = .ok (.iload 6, 2) := dk_21 6 (dk_at dksX10_termOf_6 17 rfl rfl)
theorem dX10_termOf_155 : decode cX10_termOf 155 = .ok (.iload 7, 2) := dk_21 7 (dk_at dksX10_termOf_6 19 rfl rfl)
theorem dX10_termOf_157 : decode cX10_termOf 157 = .ok (.idiv, 1) := dk_108 (dk_at dksX10_termOf_6 21 rfl rfl)
theorem dX10_termOf_158 : decode cX10_termOf 158 = .ok (.iastore, 1) := dk_79 (dk_at dksX10_termOf_6 22 rfl rfl)
theorem dX10_termOf_159 : decode cX10_termOf 159 = .ok (.iinc 4 1, 3) := dk_132 4 1 (dk_at dksX10_termOf_7 0 rfl rfl)
theorem dX10_termOf_162 : decode cX10_termOf 162 = .ok (.goto (-157), 3) := dk_167 255 99 (dk_at dksX10_termOf_7 3 rfl rfl)
theorem dX10_termOf_165 : decode cX10_termOf 165 = .ok (.aload_n 0, 1) := dk_42 (dk_at dksX10_termOf_7 6 rfl rfl)
theorem dX10_termOf_166 : decode cX10_termOf 166 = .ok (.getfield 128, 3) := dk_180 0 128 (dk_at dksX10_termOf_7 7 rfl rfl)
theorem dX10_termOf_169 : decode cX10_termOf 169 = .ok (.iconst 0, 1) := dk_3 (dk_at dksX10_termOf_7 10 rfl rfl)
theorem dX10_termOf_170 : decode cX10_termOf 170 = .ok (.iaload, 1) := dk_46 (dk_at dksX10_termOf_7 11 rfl rfl)
theorem dX10_termOf_171 : decode cX10_termOf 171 = .ok (.ireturn, 1) := dk_172 (dk_at dksX10_termOf_7 12 rfl rfl)
abbrev cX10_takesOf : ByteArray := prog_21_method_57_code
def yX10_takesOf : MethodName := ⟨RX10, "takesOf", "(II)I"⟩
def dkwX10_takesOf_1 : List UInt8 := [180, 0, 137, 16, 23, 28, 96, 46, 184, 1, 100, 172]
abbrev dktX10_takesOf_1 : List UInt8 := dkwX10_takesOf_1 ++ []
def dkwX10_takesOf_0 : List UInt8 := [42, 27, 182, 1, 91, 42, 27, 28, 182, 1, 94, 42, 4, 42, 180, 0, 125, 7, 46, 182, 1, 97, 3, 42]
abbrev dktX10_takesOf_0 : List UInt8 := dkwX10_takesOf_0 ++ dktX10_takesOf_1
theorem dksX10_takesOf_0 : cX10_takesOf.data.toList.drop 0 = dktX10_takesOf_0 := by decide +kernel
theorem dksX10_takesOf_1 : cX10_takesOf.data.toList.drop 24 = dktX10_takesOf_1 := dk_seg dksX10_takesOf_0 24 rfl rfl
theorem dX10_takesOf_0 : decode cX10_takesOf 0 = .ok (.aload_n 0, 1) := dk_42 (dk_at dksX10_takesOf_0 0 rfl rfl)
theorem dX10_takesOf_1 : decode cX10_takesOf 1 = .ok (.iload_n 1, 1) := dk_27 (dk_at dksX10_takesOf_0 1 rfl rfl)
theorem dX10_takesOf_2 : decode cX10_takesOf 2 = .ok (.invokevirtual 347, 3) := dk_182 1 91 (dk_at dksX10_takesOf_0 2 rfl rfl)
theorem dX10_takesOf_5 : decode cX10_takesOf 5 = .ok (.aload_n 0, 1) := dk_42 (dk_at dksX10_takesOf_0 5 rfl rfl)
theorem dX10_takesOf_6 : decode cX10_takesOf 6 = .ok (.iload_n 1, 1) := dk_27 (dk_at dksX10_takesOf_0 6 rfl rfl)
theorem dX10_takesOf_7 : decode cX10_takesOf 7 = .ok (.iload_n 2, 1) := dk_28 (dk_at dksX10_takesOf_0 7 rfl rfl)
theorem dX10_takesOf_8 : decode cX10_takesOf 8 = .ok (.invokevirtual 350, 3) := dk_182 1 94 (dk_at dksX10_takesOf_0 8 rfl rfl)
theorem dX10_takesOf_11 : decode cX10_takesOf 11 = .ok (.aload_n 0, 1) := dk_42 (dk_at dksX10_takesOf_0 11 rfl rfl)
theorem dX10_takesOf_12 : decode cX10_takesOf 12 = .ok (.iconst 1, 1) := dk_4 (dk_at dksX10_takesOf_0 12 rfl rfl)
theorem dX10_takesOf_13 : decode cX10_takesOf 13 = .ok (.aload_n 0, 1) := dk_42 (dk_at dksX10_takesOf_0 13 rfl rfl)
theorem dX10_takesOf_14 : decode cX10_takesOf 14 = .ok (.getfield 125, 3) := dk_180 0 125 (dk_at dksX10_takesOf_0 14 rfl rfl)
theorem dX10_takesOf_17 : decode cX10_takesOf 17 = .ok (.iconst 4, 1) := dk_7 (dk_at dksX10_takesOf_0 17 rfl rfl)
theorem dX10_takesOf_18 : decode cX10_takesOf 18 = .ok (.iaload, 1) := dk_46 (dk_at dksX10_takesOf_0 18 rfl rfl)
theorem dX10_takesOf_19 : decode cX10_takesOf 19 = .ok (.invokevirtual 353, 3) := dk_182 1 97 (dk_at dksX10_takesOf_0 19 rfl rfl)
theorem dX10_takesOf_22 : decode cX10_takesOf 22 = .ok (.iconst 0, 1) := dk_3 (dk_at dksX10_takesOf_0 22 rfl rfl)
theorem dX10_takesOf_23 : decode cX10_takesOf 23 = .ok (.aload_n 0, 1) := dk_42 (dk_at dksX10_takesOf_0 23 rfl rfl)
theorem dX10_takesOf_24 : decode cX10_takesOf 24 = .ok (.getfield 137, 3) := dk_180 0 137 (dk_at dksX10_takesOf_1 0 rfl rfl)
theorem dX10_takesOf_27 : decode cX10_takesOf 27 = .ok (.bipush 23, 2) := dk_16 23 (dk_at dksX10_takesOf_1 3 rfl rfl)
theorem dX10_takesOf_29 : decode cX10_takesOf 29 = .ok (.iload_n 2, 1) := dk_28 (dk_at dksX10_takesOf_1 5 rfl rfl)
theorem dX10_takesOf_30 : decode cX10_takesOf 30 = .ok (.iadd, 1) := dk_96 (dk_at dksX10_takesOf_1 6 rfl rfl)
theorem dX10_takesOf_31 : decode cX10_takesOf 31 = .ok (.iaload, 1) := dk_46 (dk_at dksX10_takesOf_1 7 rfl rfl)
theorem dX10_takesOf_32 : decode cX10_takesOf 32 = .ok (.invokestatic 356, 3) := dk_184 1 100 (dk_at dksX10_takesOf_1 8 rfl rfl)
theorem dX10_takesOf_35 : decode cX10_takesOf 35 = .ok (.ireturn, 1) := dk_172 (dk_at dksX10_takesOf_1 11 rfl rfl)
abbrev cX10_within : ByteArray := prog_21_method_43_code
def yX10_within : MethodName := ⟨RX10, "within", "(III)I"⟩
def dkwX10_within_0 : List UInt8 := [26, 27, 162, 0, 7, 27, 167, 0, 13, 26, 28, 164, 0, 7, 28, 167, 0, 4, 26, 172]
abbrev dktX10_within_0 : List UInt8 := dkwX10_within_0 ++ []
theorem dksX10_within_0 : cX10_within.data.toList.drop 0 = dktX10_within_0 := by decide +kernel
theorem dX10_within_0 : decode cX10_within 0 = .ok (.iload_n 0, 1) := dk_26 (dk_at dksX10_within_0 0 rfl rfl)
theorem dX10_within_1 : decode cX10_within 1 = .ok (.iload_n 1, 1) := dk_27 (dk_at dksX10_within_0 1 rfl rfl)
theorem dX10_within_2 : decode cX10_within 2 = .ok (.if_icmp .ge 7, 3) := dk_162 0 7 (dk_at dksX10_within_0 2 rfl rfl)
theorem dX10_within_5 : decode cX10_within 5 = .ok (.iload_n 1, 1) := dk_27 (dk_at dksX10_within_0 5 rfl rfl)
theorem dX10_within_6 : decode cX10_within 6 = .ok (.goto 13, 3) := dk_167 0 13 (dk_at dksX10_within_0 6 rfl rfl)
theorem dX10_within_9 : decode cX10_within 9 = .ok (.iload_n 0, 1) := dk_26 (dk_at dksX10_within_0 9 rfl rfl)
theorem dX10_within_10 : decode cX10_within 10 = .ok (.iload_n 2, 1) := dk_28 (dk_at dksX10_within_0 10 rfl rfl)
theorem dX10_within_11 : decode cX10_within 11 = .ok (.if_icmp .le 7, 3) := dk_164 0 7 (dk_at dksX10_within_0 11 rfl rfl)
theorem dX10_within_14 : decode cX10_within 14 = .ok (.iload_n 2, 1) := dk_28 (dk_at dksX10_within_0 14 rfl rfl)
theorem dX10_within_15 : decode cX10_within 15 = .ok (.goto 4, 3) := dk_167 0 4 (dk_at dksX10_within_0 15 rfl rfl)
theorem dX10_within_18 : decode cX10_within 18 = .ok (.iload_n 0, 1) := dk_26 (dk_at dksX10_within_0 18 rfl rfl)
theorem dX10_within_19 : decode cX10_within 19 = .ok (.ireturn, 1) := dk_172 (dk_at dksX10_within_0 19 rfl rfl)
abbrev cX10_fadesOf : ByteArray := prog_21_method_58_code
def yX10_fadesOf : MethodName := ⟨RX10, "fadesOf", "(II)I"⟩
def dkwX10_fadesOf_0 : List UInt8 := [42, 27, 182, 1, 91, 42, 27, 28, 182, 1, 94, 42, 5, 4, 182, 1, 97, 3, 16, 99, 184, 1, 100, 172]
abbrev dktX10_fadesOf_0 : List UInt8 := dkwX10_fadesOf_0 ++ []
theorem dksX10_fadesOf_0 : cX10_fadesOf.data.toList.drop 0 = dktX10_fadesOf_0 := by decide +kernel
theorem dX10_fadesOf_0 : decode cX10_fadesOf 0 = .ok (.aload_n 0, 1) := dk_42 (dk_at dksX10_fadesOf_0 0 rfl rfl)
theorem dX10_fadesOf_1 : decode cX10_fadesOf 1 = .ok (.iload_n 1, 1) := dk_27 (dk_at dksX10_fadesOf_0 1 rfl rfl)
theorem dX10_fadesOf_2 : decode cX10_fadesOf 2 = .ok (.invokevirtual 347, 3) := dk_182 1 91 (dk_at dksX10_fadesOf_0 2 rfl rfl)
theorem dX10_fadesOf_5 : decode cX10_fadesOf 5 = .ok (.aload_n 0, 1) := dk_42 (dk_at dksX10_fadesOf_0 5 rfl rfl)
theorem dX10_fadesOf_6 : decode cX10_fadesOf 6 = .ok (.iload_n 1, 1) := dk_27 (dk_at dksX10_fadesOf_0 6 rfl rfl)
theorem dX10_fadesOf_7 : decode cX10_fadesOf 7 = .ok (.iload_n 2, 1) := dk_28 (dk_at dksX10_fadesOf_0 7 rfl rfl)
theorem dX10_fadesOf_8 : decode cX10_fadesOf 8 = .ok (.invokevirtual 350, 3) := dk_182 1 94 (dk_at dksX10_fadesOf_0 8 rfl rfl)
theorem dX10_fadesOf_11 : decode cX10_fadesOf 11 = .ok (.aload_n 0, 1) := dk_42 (dk_at dksX10_fadesOf_0 11 rfl rfl)
theorem dX10_fadesOf_12 : decode cX10_fadesOf 12 = .ok (.iconst 2, 1) := dk_5 (dk_at dksX10_fadesOf_0 12 rfl rfl)
theorem dX10_fadesOf_13 : decode cX10_fadesOf 13 = .ok (.iconst 1, 1) := dk_4 (dk_at dksX10_fadesOf_0 13 rfl rfl)
theorem dX10_fadesOf_14 : decode cX10_fadesOf 14 = .ok (.invokevirtual 353, 3) := dk_182 1 97 (dk_at dksX10_fadesOf_0 14 rfl rfl)
theorem dX10_fadesOf_17 : decode cX10_fadesOf 17 = .ok (.iconst 0, 1) := dk_3 (dk_at dksX10_fadesOf_0 17 rfl rfl)
theorem dX10_fadesOf_18 : decode cX10_fadesOf 18 = .ok (.bipush 99, 2) := dk_16 99 (dk_at dksX10_fadesOf_0 18 rfl rfl)
theorem dX10_fadesOf_20 : decode cX10_fadesOf 20 = .ok (.invokestatic 356, 3) := dk_184 1 100 (dk_at dksX10_fadesOf_0 20 rfl rfl)
theorem dX10_fadesOf_23 : decode cX10_fadesOf 23 = .ok (.ireturn, 1) := dk_172 (dk_at dksX10_fadesOf_0 23 rfl rfl)
abbrev cX10_go : ByteArray := prog_21_method_75_code
def yX10_go : MethodName := ⟨RX10, "go", "(II)Z"⟩
def dkwX10_go_3 : List UInt8 := [180, 0, 137, 16, 19, 27, 96, 29, 79, 42, 182, 1, 160, 4, 172]
abbrev dktX10_go_3 : List UInt8 := dkwX10_go_3 ++ []
def dkwX10_go_2 : List UInt8 := [28, 62, 42, 180, 0, 134, 16, 19, 27, 96, 46, 29, 160, 0, 5, 3, 172, 42, 182, 1, 144, 42]
abbrev dktX10_go_2 : List UInt8 := dkwX10_go_2 ++ dktX10_go_3
def dkwX10_go_1 : List UInt8 := [180, 0, 134, 16, 27, 27, 96, 46, 4, 160, 0, 5, 3, 172, 28, 2, 160, 0, 8, 16, 254, 167, 0, 4]
abbrev dktX10_go_1 : List UInt8 := dkwX10_go_1 ++ dktX10_go_2
def dkwX10_go_0 : List UInt8 := [42, 27, 182, 1, 156, 153, 0, 29, 28, 2, 159, 0, 11, 42, 28, 182, 1, 141, 153, 0, 16, 42]
abbrev dktX10_go_0 : List UInt8 := dkwX10_go_0 ++ dktX10_go_1
theorem dksX10_go_0 : cX10_go.data.toList.drop 0 = dktX10_go_0 := by decide +kernel
theorem dksX10_go_1 : cX10_go.data.toList.drop 22 = dktX10_go_1 := dk_seg dksX10_go_0 22 rfl rfl
theorem dksX10_go_2 : cX10_go.data.toList.drop 46 = dktX10_go_2 := dk_seg dksX10_go_1 24 rfl rfl
theorem dksX10_go_3 : cX10_go.data.toList.drop 68 = dktX10_go_3 := dk_seg dksX10_go_2 22 rfl rfl
theorem dX10_go_0 : decode cX10_go 0 = .ok (.aload_n 0, 1) := dk_42 (dk_at dksX10_go_0 0 rfl rfl)
theorem dX10_go_1 : decode cX10_go 1 = .ok (.iload_n 1, 1) := dk_27 (dk_at dksX10_go_0 1 rfl rfl)
theorem dX10_go_2 : decode cX10_go 2 = .ok (.invokevirtual 412, 3) := dk_182 1 156 (dk_at dksX10_go_0 2 rfl rfl)
theorem dX10_go_5 : decode cX10_go 5 = .ok (.ifCond .eq 29, 3) := dk_153 0 29 (dk_at dksX10_go_0 5 rfl rfl)
theorem dX10_go_8 : decode cX10_go 8 = .ok (.iload_n 2, 1) := dk_28 (dk_at dksX10_go_0 8 rfl rfl)
theorem dX10_go_9 : decode cX10_go 9 = .ok (.iconst (-1), 1) := dk_2 (dk_at dksX10_go_0 9 rfl rfl)
theorem dX10_go_10 : decode cX10_go 10 = .ok (.if_icmp .eq 11, 3) := dk_159 0 11 (dk_at dksX10_go_0 10 rfl rfl)
theorem dX10_go_13 : decode cX10_go 13 = .ok (.aload_n 0, 1) := dk_42 (dk_at dksX10_go_0 13 rfl rfl)
theorem dX10_go_14 : decode cX10_go 14 = .ok (.iload_n 2, 1) := dk_28 (dk_at dksX10_go_0 14 rfl rfl)
theorem dX10_go_15 : decode cX10_go 15 = .ok (.invokevirtual 397, 3) := dk_182 1 141 (dk_at dksX10_go_0 15 rfl rfl)
theorem dX10_go_18 : decode cX10_go 18 = .ok (.ifCond .eq 16, 3) := dk_153 0 16 (dk_at dksX10_go_0 18 rfl rfl)
theorem dX10_go_21 : decode cX10_go 21 = .ok (.aload_n 0, 1) := dk_42 (dk_at dksX10_go_0 21 rfl rfl)
theorem dX10_go_22 : decode cX10_go 22 = .ok (.getfield 134, 3) := dk_180 0 134 (dk_at dksX10_go_1 0 rfl rfl)
theorem dX10_go_25 : decode cX10_go 25 = .ok (.bipush 27, 2) := dk_16 27 (dk_at dksX10_go_1 3 rfl rfl)
theorem dX10_go_27 : decode cX10_go 27 = .ok (.iload_n 1, 1) := dk_27 (dk_at dksX10_go_1 5 rfl rfl)
theorem dX10_go_28 : decode cX10_go 28 = .ok (.iadd, 1) := dk_96 (dk_at dksX10_go_1 6 rfl rfl)
theorem dX10_go_29 : decode cX10_go 29 = .ok (.iaload, 1) := dk_46 (dk_at dksX10_go_1 7 rfl rfl)
theorem dX10_go_30 : decode cX10_go 30 = .ok (.iconst 1, 1) := dk_4 (dk_at dksX10_go_1 8 rfl rfl)
theorem dX10_go_31 : decode cX10_go 31 = .ok (.if_icmp .ne 5, 3) := dk_160 0 5 (dk_at dksX10_go_1 9 rfl rfl)
theorem dX10_go_34 : decode cX10_go 34 = .ok (.iconst 0, 1) := dk_3 (dk_at dksX10_go_1 12 rfl rfl)
theorem dX10_go_35 : decode cX10_go 35 = .ok (.ireturn, 1) := dk_172 (dk_at dksX10_go_1 13 rfl rfl)
theorem dX10_go_36 : decode cX10_go 36 = .ok (.iload_n 2, 1) := dk_28 (dk_at dksX10_go_1 14 rfl rfl)
theorem dX10_go_37 : decode cX10_go 37 = .ok (.iconst (-1), 1) := dk_2 (dk_at dksX10_go_1 15 rfl rfl)
theorem dX10_go_38 : decode cX10_go 38 = .ok (.if_icmp .ne 8, 3) := dk_160 0 8 (dk_at dksX10_go_1 16 rfl rfl)
theorem dX10_go_41 : decode cX10_go 41 = .ok (.bipush (-2), 2) := dk_16 254 (dk_at dksX10_go_1 19 rfl rfl)
theorem dX10_go_43 : decode cX10_go 43 = .ok (.goto 4, 3) := dk_167 0 4 (dk_at dksX10_go_1 21 rfl rfl)
theorem dX10_go_46 : decode cX10_go 46 = .ok (.iload_n 2, 1) := dk_28 (dk_at dksX10_go_2 0 rfl rfl)
theorem dX10_go_47 : decode cX10_go 47 = .ok (.istore_n 3, 1) := dk_62 (dk_at dksX10_go_2 1 rfl rfl)
theorem dX10_go_48 : decode cX10_go 48 = .ok (.aload_n 0, 1) := dk_42 (dk_at dksX10_go_2 2 rfl rfl)
theorem dX10_go_49 : decode cX10_go 49 = .ok (.getfield 134, 3) := dk_180 0 134 (dk_at dksX10_go_2 3 rfl rfl)
theorem dX10_go_52 : decode cX10_go 52 = .ok (.bipush 19, 2) := dk_16 19 (dk_at dksX10_go_2 6 rfl rfl)
theorem dX10_go_54 : decode cX10_go 54 = .ok (.iload_n 1, 1) := dk_27 (dk_at dksX10_go_2 8 rfl rfl)
theorem dX10_go_55 : decode cX10_go 55 = .ok (.iadd, 1) := dk_96 (dk_at dksX10_go_2 9 rfl rfl)
theorem dX10_go_56 : decode cX10_go 56 = .ok (.iaload, 1) := dk_46 (dk_at dksX10_go_2 10 rfl rfl)
theorem dX10_go_57 : decode cX10_go 57 = .ok (.iload_n 3, 1) := dk_29 (dk_at dksX10_go_2 11 rfl rfl)
theorem dX10_go_58 : decode cX10_go 58 = .ok (.if_icmp .ne 5, 3) := dk_160 0 5 (dk_at dksX10_go_2 12 rfl rfl)
theorem dX10_go_61 : decode cX10_go 61 = .ok (.iconst 0, 1) := dk_3 (dk_at dksX10_go_2 15 rfl rfl)
theorem dX10_go_62 : decode cX10_go 62 = .ok (.ireturn, 1) := dk_172 (dk_at dksX10_go_2 16 rfl rfl)
theorem dX10_go_63 : decode cX10_go 63 = .ok (.aload_n 0, 1) := dk_42 (dk_at dksX10_go_2 17 rfl rfl)
theorem dX10_go_64 : decode cX10_go 64 = .ok (.invokevirtual 400, 3) := dk_182 1 144 (dk_at dksX10_go_2 18 rfl rfl)
theorem dX10_go_67 : decode cX10_go 67 = .ok (.aload_n 0, 1) := dk_42 (dk_at dksX10_go_2 21 rfl rfl)
theorem dX10_go_68 : decode cX10_go 68 = .ok (.getfield 137, 3) := dk_180 0 137 (dk_at dksX10_go_3 0 rfl rfl)
theorem dX10_go_71 : decode cX10_go 71 = .ok (.bipush 19, 2) := dk_16 19 (dk_at dksX10_go_3 3 rfl rfl)
theorem dX10_go_73 : decode cX10_go 73 = .ok (.iload_n 1, 1) := dk_27 (dk_at dksX10_go_3 5 rfl rfl)
theorem dX10_go_74 : decode cX10_go 74 = .ok (.iadd, 1) := dk_96 (dk_at dksX10_go_3 6 rfl rfl)
theorem dX10_go_75 : decode cX10_go 75 = .ok (.iload_n 3, 1) := dk_29 (dk_at dksX10_go_3 7 rfl rfl)
theorem dX10_go_76 : decode cX10_go 76 = .ok (.iastore, 1) := dk_79 (dk_at dksX10_go_3 8 rfl rfl)
theorem dX10_go_77 : decode cX10_go 77 = .ok (.aload_n 0, 1) := dk_42 (dk_at dksX10_go_3 9 rfl rfl)
theorem dX10_go_78 : decode cX10_go 78 = .ok (.invokevirtual 416, 3) := dk_182 1 160 (dk_at dksX10_go_3 10 rfl rfl)
theorem dX10_go_81 : decode cX10_go 81 = .ok (.iconst 1, 1) := dk_4 (dk_at dksX10_go_3 13 rfl rfl)
theorem dX10_go_82 : decode cX10_go 82 = .ok (.ireturn, 1) := dk_172 (dk_at dksX10_go_3 14 rfl rfl)
abbrev cX10_records : ByteArray := prog_21_method_74_code
def yX10_records : MethodName := ⟨RX10, "records", "()V"⟩
def dkwX10_records_4 : List UInt8 := [182, 0, 172, 177]
abbrev dktX10_records_4 : List UInt8 := dkwX10_records_4 ++ []
def dkwX10_records_3 : List UInt8 := [42, 180, 0, 134, 27, 46, 79, 132, 1, 1, 167, 255, 227, 42, 89, 180, 1, 7, 4, 96, 181, 1, 7, 42]
abbrev dktX10_records_3 : List UInt8 := dkwX10_records_3 ++ dktX10_records_4
def dkwX10_records_2 : List UInt8 := [181, 1, 7, 3, 60, 27, 16, 77, 162, 0, 29, 42, 180, 0, 140, 16, 77, 42, 180, 1, 7, 104, 27, 96]
abbrev dktX10_records_2 : List UInt8 := dkwX10_records_2 ++ dktX10_records_3
def dkwX10_records_1 : List UInt8 := [180, 0, 140, 27, 16, 77, 96, 46, 79, 132, 1, 1, 167, 255, 231, 42, 89, 180, 1, 7, 4, 100]
abbrev dktX10_records_1 : List UInt8 := dkwX10_records_1 ++ dktX10_records_2
def dkwX10_records_0 : List UInt8 := [42, 180, 1, 7, 16, 40, 160, 0, 43, 3, 60, 27, 17, 11, 187, 162, 0, 24, 42, 180, 0, 140, 27, 42]
abbrev dktX10_records_0 : List UInt8 := dkwX10_records_0 ++ dktX10_records_1
theorem dksX10_records_0 : cX10_records.data.toList.drop 0 = dktX10_records_0 := by decide +kernel
theorem dksX10_records_1 : cX10_records.data.toList.drop 24 = dktX10_records_1 := dk_seg dksX10_records_0 24 rfl rfl
theorem dksX10_records_2 : cX10_records.data.toList.drop 46 = dktX10_records_2 := dk_seg dksX10_records_1 22 rfl rfl
theorem dksX10_records_3 : cX10_records.data.toList.drop 70 = dktX10_records_3 := dk_seg dksX10_records_2 24 rfl rfl
theorem dksX10_records_4 : cX10_records.data.toList.drop 94 = dktX10_records_4 := dk_seg dksX10_records_3 24 rfl rfl
theorem dX10_records_0 : decode cX10_records 0 = .ok (.aload_n 0, 1) := dk_42 (dk_at dksX10_records_0 0 rfl rfl)
theorem dX10_records_1 : decode cX10_records 1 = .ok (.getfield 263, 3) := dk_180 1 7 (dk_at dksX10_records_0 1 rfl rfl)
theorem dX10_records_4 : decode cX10_records 4 = .ok (.bipush 40, 2) := dk_16 40 (dk_at dksX10_records_0 4 rfl rfl)
theorem dX10_records_6 : decode cX10_records 6 = .ok (.if_icmp .ne 43, 3) := dk_160 0 43 (dk_at dksX10_records_0 6 rfl rfl)
theorem dX10_records_9 : decode cX10_records 9 = .ok (.iconst 0, 1) := dk_3 (dk_at dksX10_records_0 9 rfl rfl)
theorem dX10_records_10 : decode cX10_records 10 = .ok (.istore_n 1, 1) := dk_60 (dk_at dksX10_records_0 10 rfl rfl)
theorem dX10_records_11 : decode cX10_records 11 = .ok (.iload_n 1, 1) := dk_27 (dk_at dksX10_records_0 11 rfl rfl)
theorem dX10_records_12 : decode cX10_records 12 = .ok (.sipush 3003, 3) := dk_17 11 187 (dk_at dksX10_records_0 12 rfl rfl)
theorem dX10_records_15 : decode cX10_records 15 = .ok (.if_icmp .ge 24, 3) := dk_162 0 24 (dk_at dksX10_records_0 15 rfl rfl)
theorem dX10_records_18 : decode cX10_records 18 = .ok (.aload_n 0, 1) := dk_42 (dk_at dksX10_records_0 18 rfl rfl)
theorem dX10_records_19 : decode cX10_records 19 = .ok (.getfield 140, 3) := dk_180 0 140 (dk_at dksX10_records_0 19 rfl rfl)
theorem dX10_records_22 : decode cX10_records 22 = .ok (.iload_n 1, 1) := dk_27 (dk_at dksX10_records_0 22 rfl rfl)
theorem dX10_records_23 : decode cX10_records 23 = .ok (.aload_n 0, 1) := dk_42 (dk_at dksX10_records_0 23 rfl rfl)
theorem dX10_records_24 : decode cX10_records 24 = .ok (.getfield 140, 3) := dk_180 0 140 (dk_at dksX10_records_1 0 rfl rfl)
theorem dX10_records_27 : decode cX10_records 27 = .ok (.iload_n 1, 1) := dk_27 (dk_at dksX10_records_1 3 rfl rfl)
theorem dX10_records_28 : decode cX10_records 28 = .ok (.bipush 77, 2) := dk_16 77 (dk_at dksX10_records_1 4 rfl rfl)
theorem dX10_records_30 : decode cX10_records 30 = .ok (.iadd, 1) := dk_96 (dk_at dksX10_records_1 6 rfl rfl)
theorem dX10_records_31 : decode cX10_records 31 = .ok (.iaload, 1) := dk_46 (dk_at dksX10_records_1 7 rfl rfl)
theorem dX10_records_32 : decode cX10_records 32 = .ok (.iastore, 1) := dk_79 (dk_at dksX10_records_1 8 rfl rfl)
theorem dX10_records_33 : decode cX10_records 33 = .ok (.iinc 1 1, 3) := dk_132 1 1 (dk_at dksX10_records_1 9 rfl rfl)
theorem dX10_records_36 : decode cX10_records 36 = .ok (.goto (-25), 3) := dk_167 255 231 (dk_at dksX10_records_1 12 rfl rfl)
theorem dX10_records_39 : decode cX10_records 39 = .ok (.aload_n 0, 1) := dk_42 (dk_at dksX10_records_1 15 rfl rfl)
theorem dX10_records_40 : decode cX10_records 40 = .ok (.dup, 1) := dk_89 (dk_at dksX10_records_1 16 rfl rfl)
theorem dX10_records_41 : decode cX10_records 41 = .ok (.getfield 263, 3) := dk_180 1 7 (dk_at dksX10_records_1 17 rfl rfl)
theorem dX10_records_44 : decode cX10_records 44 = .ok (.iconst 1, 1) := dk_4 (dk_at dksX10_records_1 20 rfl rfl)
theorem dX10_records_45 : decode cX10_records 45 = .ok (.isub, 1) := dk_100 (dk_at dksX10_records_1 21 rfl rfl)
theorem dX10_records_46 : decode cX10_records 46 = .ok (.putfield 263, 3) := dk_181 1 7 (dk_at dksX10_records_2 0 rfl rfl)
theorem dX10_records_49 : decode cX10_records 49 = .ok (.iconst 0, 1) := dk_3 (dk_at dksX10_records_2 3 rfl rfl)
theorem dX10_records_50 : decode cX10_records 50 = .ok (.istore_n 1, 1) := dk_60 (dk_at dksX10_records_2 4 rfl rfl)
theorem dX10_records_51 : decode cX10_records 51 = .ok (.iload_n 1, 1) := dk_27 (dk_at dksX10_records_2 5 rfl rfl)
theorem dX10_records_52 : decode cX10_records 52 = .ok (.bipush 77, 2) := dk_16 77 (dk_at dksX10_records_2 6 rfl rfl)
theorem dX10_records_54 : decode cX10_records 54 = .ok (.if_icmp .ge 29, 3) := dk_162 0 29 (dk_at dksX10_records_2 8 rfl rfl)
theorem dX10_records_57 : decode cX10_records 57 = .ok (.aload_n 0, 1) := dk_42 (dk_at dksX10_records_2 11 rfl rfl)
theorem dX10_records_58 : decode cX10_records 58 = .ok (.getfield 140, 3) := dk_180 0 140 (dk_at dksX10_records_2 12 rfl rfl)
theorem dX10_records_61 : decode cX10_records 61 = .ok (.bipush 77, 2) := dk_16 77 (dk_at dksX10_records_2 15 rfl rfl)
theorem dX10_records_63 : decode cX10_records 63 = .ok (.aload_n 0, 1) := dk_42 (dk_at dksX10_records_2 17 rfl rfl)
theorem dX10_records_64 : decode cX10_records 64 = .ok (.getfield 263, 3) := dk_180 1 7 (dk_at dksX10_records_2 18 rfl rfl)
theorem dX10_records_67 : decode cX10_records 67 = .ok (.imul, 1) := dk_104 (dk_at dksX10_records_2 21 rfl rfl)
theorem dX10_records_68 : decode cX10_records 68 = .ok (.iload_n 1, 1) := dk_27 (dk_at dksX10_records_2 22 rfl rfl)
theorem dX10_records_69 : decode cX10_records 69 = .ok (.iadd, 1) := dk_96 (dk_at dksX10_records_2 23 rfl rfl)
theorem dX10_records_70 : decode cX10_records 70 = .ok (.aload_n 0, 1) := dk_42 (dk_at dksX10_records_3 0 rfl rfl)
theorem dX10_records_71 : decode cX10_records 71 = .ok (.getfield 134, 3) := dk_180 0 134 (dk_at dksX10_records_3 1 rfl rfl)
theorem dX10_records_74 : decode cX10_records 74 = .ok (.iload_n 1, 1) := dk_27 (dk_at dksX10_records_3 4 rfl rfl)
theorem dX10_records_75 : decode cX10_records 75 = .ok (.iaload, 1) := dk_46 (dk_at dksX10_records_3 5 rfl rfl)
theorem dX10_records_76 : decode cX10_records 76 = .ok (.iastore, 1) := dk_79 (dk_at dksX10_records_3 6 rfl rfl)
theorem dX10_records_77 : decode cX10_records 77 = .ok (.iinc 1 1, 3) := dk_132 1 1 (dk_at dksX10_records_3 7 rfl rfl)
theorem dX10_records_80 : decode cX10_records 80 = .ok (.goto (-29), 3) := dk_167 255 227 (dk_at dksX10_records_3 10 rfl rfl)
theorem dX10_records_83 : decode cX10_records 83 = .ok (.aload_n 0, 1) := dk_42 (dk_at dksX10_records_3 13 rfl rfl)
theorem dX10_records_84 : decode cX10_records 84 = .ok (.dup, 1) := dk_89 (dk_at dksX10_records_3 14 rfl rfl)
theorem dX10_records_85 : decode cX10_records 85 = .ok (.getfield 263, 3) := dk_180 1 7 (dk_at dksX10_records_3 15 rfl rfl)
theorem dX10_records_88 : decode cX10_records 88 = .ok (.iconst 1, 1) := dk_4 (dk_at dksX10_records_3 18 rfl rfl)
theorem dX10_records_89 : decode cX10_records 89 = .ok (.iadd, 1) := dk_96 (dk_at dksX10_records_3 19 rfl rfl)
theorem dX10_records_90 : decode cX10_records 90 = .ok (.putfield 263, 3) := dk_181 1 7 (dk_at dksX10_records_3 20 rfl rfl)
theorem dX10_records_93 : decode cX10_records 93 = .ok (.aload_n 0, 1) := dk_42 (dk_at dksX10_records_3 23 rfl rfl)
theorem dX10_records_94 : decode cX10_records 94 = .ok (.invokevirtual 172, 3) := dk_182 0 172 (dk_at dksX10_records_4 0 rfl rfl)
theorem dX10_records_97 : decode cX10_records 97 = .ok (.return_, 1) := dk_177 (dk_at dksX10_records_4 3 rfl rfl)
abbrev cX10_give : ByteArray := prog_21_method_77_code
def yX10_give : MethodName := ⟨RX10, "give", "(III)I"⟩
def dkwX10_give_5 : List UInt8 := [172]
abbrev dktX10_give_5 : List UInt8 := dkwX10_give_5 ++ []
def dkwX10_give_4 : List UInt8 := [100, 79, 42, 180, 0, 137, 21, 4, 92, 46, 29, 96, 79, 42, 182, 1, 160, 42, 180, 0, 134, 21, 4, 46]
abbrev dktX10_give_4 : List UInt8 := dkwX10_give_4 ++ dktX10_give_5
def dkwX10_give_3 : List UInt8 := [17, 3, 231, 164, 0, 6, 16, 254, 172, 42, 182, 1, 144, 42, 180, 0, 137, 16, 23, 27, 96, 92, 46, 29]
abbrev dktX10_give_3 : List UInt8 := dkwX10_give_3 ++ dktX10_give_4
def dkwX10_give_2 : List UInt8 := [42, 180, 0, 134, 16, 23, 27, 96, 46, 29, 161, 0, 18, 42, 180, 0, 134, 21, 4, 46, 29, 96]
abbrev dktX10_give_2 : List UInt8 := dkwX10_give_2 ++ dktX10_give_3
def dkwX10_give_1 : List UInt8 := [154, 0, 5, 2, 172, 16, 35, 7, 28, 104, 96, 27, 96, 54, 4, 42, 27, 28, 182, 1, 163, 153, 0, 31]
abbrev dktX10_give_1 : List UInt8 := dkwX10_give_1 ++ dktX10_give_2
def dkwX10_give_0 : List UInt8 := [42, 27, 182, 1, 156, 153, 0, 21, 42, 28, 182, 1, 153, 153, 0, 13, 29, 4, 16, 99, 184, 1, 78]
abbrev dktX10_give_0 : List UInt8 := dkwX10_give_0 ++ dktX10_give_1
theorem dksX10_give_0 : cX10_give.data.toList.drop 0 = dktX10_give_0 := by decide +kernel
theorem dksX10_give_1 : cX10_give.data.toList.drop 23 = dktX10_give_1 := dk_seg dksX10_give_0 23 rfl rfl
theorem dksX10_give_2 : cX10_give.data.toList.drop 47 = dktX10_give_2 := dk_seg dksX10_give_1 24 rfl rfl
theorem dksX10_give_3 : cX10_give.data.toList.drop 69 = dktX10_give_3 := dk_seg dksX10_give_2 22 rfl rfl
theorem dksX10_give_4 : cX10_give.data.toList.drop 93 = dktX10_give_4 := dk_seg dksX10_give_3 24 rfl rfl
theorem dksX10_give_5 : cX10_give.data.toList.drop 117 = dktX10_give_5 := dk_seg dksX10_give_4 24 rfl rfl
theorem dX10_give_0 : decode cX10_give 0 = .ok (.aload_n 0, 1) := dk_42 (dk_at dksX10_give_0 0 rfl rfl)
theorem dX10_give_1 : decode cX10_give 1 = .ok (.iload_n 1, 1) := dk_27 (dk_at dksX10_give_0 1 rfl rfl)
theorem dX10_give_2 : decode cX10_give 2 = .ok (.invokevirtual 412, 3) := dk_182 1 156 (dk_at dksX10_give_0 2 rfl rfl)
theorem dX10_give_5 : decode cX10_give 5 = .ok (.ifCond .eq 21, 3) := dk_153 0 21 (dk_at dksX10_give_0 5 rfl rfl)
theorem dX10_give_8 : decode cX10_give 8 = .ok (.aload_n 0, 1) := dk_42 (dk_at dksX10_give_0 8 rfl rfl)
theorem dX10_give_9 : decode cX10_give 9 = .ok (.iload_n 2, 1) := dk_28 (dk_at dksX10_give_0 9 rfl rfl)
theorem dX10_give_10 : decode cX10_give 10 = .ok (.invokevirtual 409, 3) := dk_182 1 153 (dk_at dksX10_give_0 10 rfl rfl)
theorem dX10_give_13 : decode cX10_give 13 = .ok (.ifCond .eq 13, 3) := dk_153 0 13 (dk_at dksX10_give_0 13 rfl rfl)
theorem dX10_give_16 : decode cX10_give 16 = .ok (.iload_n 3, 1) := dk_29 (dk_at dksX10_give_0 16 rfl rfl)
theorem dX10_give_17 : decode cX10_give 17 = .ok (.iconst 1, 1) := dk_4 (dk_at dksX10_give_0 17 rfl rfl)
theorem dX10_give_18 : decode cX10_give 18 = .ok (.bipush 99, 2) := dk_16 99 (dk_at dksX10_give_0 18 rfl rfl)
theorem dX10_give_20 : decode cX10_give 20 = .ok (.invokestatic 334, 3) := dk_184 1 78 (dk_at dksX10_give_0 20 rfl rfl)
theorem dX10_give_23 : decode cX10_give 23 = .ok (.ifCond .ne 5, 3) := dk_154 0 5 (dk_at dksX10_give_1 0 rfl rfl)
theorem dX10_give_26 : decode cX10_give 26 = .ok (.iconst (-1), 1) := dk_2 (dk_at dksX10_give_1 3 rfl rfl)
theorem dX10_give_27 : decode cX10_give 27 = .ok (.ireturn, 1) := dk_172 (dk_at dksX10_give_1 4 rfl rfl)
theorem dX10_give_28 : decode cX10_give 28 = .ok (.bipush 35, 2) := dk_16 35 (dk_at dksX10_give_1 5 rfl rfl)
theorem dX10_give_30 : decode cX10_give 30 = .ok (.iconst 4, 1) := dk_7 (dk_at dksX10_give_1 7 rfl rfl)
theorem dX10_give_31 : decode cX10_give 31 = .ok (.iload_n 2, 1) := dk_28 (dk_at dksX10_give_1 8 rfl rfl)
theorem dX10_give_32 : decode cX10_give 32 = .ok (.imul, 1) := dk_104 (dk_at dksX10_give_1 9 rfl rfl)
theorem dX10_give_33 : decode cX10_give 33 = .ok (.iadd, 1) := dk_96 (dk_at dksX10_give_1 10 rfl rfl)
theorem dX10_give_34 : decode cX10_give 34 = .ok (.iload_n 1, 1) := dk_27 (dk_at dksX10_give_1 11 rfl rfl)
theorem dX10_give_35 : decode cX10_give 35 = .ok (.iadd, 1) := dk_96 (dk_at dksX10_give_1 12 rfl rfl)
theorem dX10_give_36 : decode cX10_give 36 = .ok (.istore 4, 2) := dk_54 4 (dk_at dksX10_give_1 13 rfl rfl)
theorem dX10_give_38 : decode cX10_give 38 = .ok (.aload_n 0, 1) := dk_42 (dk_at dksX10_give_1 15 rfl rfl)
theorem dX10_give_39 : decode cX10_give 39 = .ok (.iload_n 1, 1) := dk_27 (dk_at dksX10_give_1 16 rfl rfl)
theorem dX10_give_40 : decode cX10_give 40 = .ok (.iload_n 2, 1) := dk_28 (dk_at dksX10_give_1 17 rfl rfl)
theorem dX10_give_41 : decode cX10_give 41 = .ok (.invokevirtual 419, 3) := dk_182 1 163 (dk_at dksX10_give_1 18 rfl rfl)
theorem dX10_give_44 : decode cX10_give 44 = .ok (.ifCond .eq 31, 3) := dk_153 0 31 (dk_at dksX10_give_1 21 rfl rfl)
theorem dX10_give_47 : decode cX10_give 47 = .ok (.aload_n 0, 1) := dk_42 (dk_at dksX10_give_2 0 rfl rfl)
theorem dX10_give_48 : decode cX10_give 48 = .ok (.getfield 134, 3) := dk_180 0 134 (dk_at dksX10_give_2 1 rfl rfl)
theorem dX10_give_51 : decode cX10_give 51 = .ok (.bipush 23, 2) := dk_16 23 (dk_at dksX10_give_2 4 rfl rfl)
theorem dX10_give_53 : decode cX10_give 53 = .ok (.iload_n 1, 1) := dk_27 (dk_at dksX10_give_2 6 rfl rfl)
theorem dX10_give_54 : decode cX10_give 54 = .ok (.iadd, 1) := dk_96 (dk_at dksX10_give_2 7 rfl rfl)
theorem dX10_give_55 : decode cX10_give 55 = .ok (.iaload, 1) := dk_46 (dk_at dksX10_give_2 8 rfl rfl)
theorem dX10_give_56 : decode cX10_give 56 = .ok (.iload_n 3, 1) := dk_29 (dk_at dksX10_give_2 9 rfl rfl)
theorem dX10_give_57 : decode cX10_give 57 = .ok (.if_icmp .lt 18, 3) := dk_161 0 18 (dk_at dksX10_give_2 10 rfl rfl)
theorem dX10_give_60 : decode cX10_give 60 = .ok (.aload_n 0, 1) := dk_42 (dk_at dksX10_give_2 13 rfl rfl)
theorem dX10_give_61 : decode cX10_give 61 = .ok (.getfield 134, 3) := dk_180 0 134 (dk_at dksX10_give_2 14 rfl rfl)
theorem dX10_give_64 : decode cX10_give 64 = .ok (.iload 4, 2) := dk_21 4 (dk_at dksX10_give_2 17 rfl rfl)
theorem dX10_give_66 : decode cX10_give 66 = .ok (.iaload, 1) := dk_46 (dk_at dksX10_give_2 19 rfl rfl)
theorem dX10_give_67 : decode cX10_give 67 = .ok (.iload_n 3, 1) := dk_29 (dk_at dksX10_give_2 20 rfl rfl)
theorem dX10_give_68 : decode cX10_give 68 = .ok (.iadd, 1) := dk_96 (dk_at dksX10_give_2 21 rfl rfl)
theorem dX10_give_69 : decode cX10_give 69 = .ok (.sipush 999, 3) := dk_17 3 231 (dk_at dksX10_give_3 0 rfl rfl)
theorem dX10_give_72 : decode cX10_give 72 = .ok (.if_icmp .le 6, 3) := dk_164 0 6 (dk_at dksX10_give_3 3 rfl rfl)
theorem dX10_give_75 : decode cX10_give 75 = .ok (.bipush (-2), 2) := dk_16 254 (dk_at dksX10_give_3 6 rfl rfl)
theorem dX10_give_77 : decode cX10_give 77 = .ok (.ireturn, 1) := dk_172 (dk_at dksX10_give_3 8 rfl rfl)
theorem dX10_give_78 : decode cX10_give 78 = .ok (.aload_n 0, 1) := dk_42 (dk_at dksX10_give_3 9 rfl rfl)
theorem dX10_give_79 : decode cX10_give 79 = .ok (.invokevirtual 400, 3) := dk_182 1 144 (dk_at dksX10_give_3 10 rfl rfl)
theorem dX10_give_82 : decode cX10_give 82 = .ok (.aload_n 0, 1) := dk_42 (dk_at dksX10_give_3 13 rfl rfl)
theorem dX10_give_83 : decode cX10_give 83 = .ok (.getfield 137, 3) := dk_180 0 137 (dk_at dksX10_give_3 14 rfl rfl)
theorem dX10_give_86 : decode cX10_give 86 = .ok (.bipush 23, 2) := dk_16 23 (dk_at dksX10_give_3 17 rfl rfl)
theorem dX10_give_88 : decode cX10_give 88 = .ok (.iload_n 1, 1) := dk_27 (dk_at dksX10_give_3 19 rfl rfl)
theorem dX10_give_89 : decode cX10_give 89 = .ok (.iadd, 1) := dk_96 (dk_at dksX10_give_3 20 rfl rfl)
theorem dX10_give_90 : decode cX10_give 90 = .ok (.dup2, 1) := dk_92 (dk_at dksX10_give_3 21 rfl rfl)
theorem dX10_give_91 : decode cX10_give 91 = .ok (.iaload, 1) := dk_46 (dk_at dksX10_give_3 22 rfl rfl)
theorem dX10_give_92 : decode cX10_give 92 = .ok (.iload_n 3, 1) := dk_29 (dk_at dksX10_give_3 23 rfl rfl)
theorem dX10_give_93 : decode cX10_give 93 = .ok (.isub, 1) := dk_100 (dk_at dksX10_give_4 0 rfl rfl)
theorem dX10_give_94 : decode cX10_give 94 = .ok (.iastore, 1) := dk_79 (dk_at dksX10_give_4 1 rfl rfl)
theorem dX10_give_95 : decode cX10_give 95 = .ok (.aload_n 0, 1) := dk_42 (dk_at dksX10_give_4 2 rfl rfl)
theorem dX10_give_96 : decode cX10_give 96 = .ok (.getfield 137, 3) := dk_180 0 137 (dk_at dksX10_give_4 3 rfl rfl)
theorem dX10_give_99 : decode cX10_give 99 = .ok (.iload 4, 2) := dk_21 4 (dk_at dksX10_give_4 6 rfl rfl)
theorem dX10_give_101 : decode cX10_give 101 = .ok (.dup2, 1) := dk_92 (dk_at dksX10_give_4 8 rfl rfl)
theorem dX10_give_102 : decode cX10_give 102 = .ok (.iaload, 1) := dk_46 (dk_at dksX10_give_4 9 rfl rfl)
theorem dX10_give_103 : decode cX10_give 103 = .ok (.iload_n 3, 1) := dk_29 (dk_at dksX10_give_4 10 rfl rfl)
theorem dX10_give_104 : decode cX10_give 104 = .ok (.iadd, 1) := dk_96 (dk_at dksX10_give_4 11 rfl rfl)
theorem dX10_give_105 : decode cX10_give 105 = .ok (.iastore, 1) := dk_79 (dk_at dksX10_give_4 12 rfl rfl)
theorem dX10_give_106 : decode cX10_give 106 = .ok (.aload_n 0, 1) := dk_42 (dk_at dksX10_give_4 13 rfl rfl)
theorem dX10_give_107 : decode cX10_give 107 = .ok (.invokevirtual 416, 3) := dk_182 1 160 (dk_at dksX10_give_4 14 rfl rfl)
theorem dX10_give_110 : decode cX10_give 110 = .ok (.aload_n 0, 1) := dk_42 (dk_at dksX10_give_4 17 rfl rfl)
theorem dX10_give_111 : decode cX10_give 111 = .ok (.getfield 134, 3) := dk_180 0 134 (dk_at dksX10_give_4 18 rfl rfl)
theorem dX10_give_114 : decode cX10_give 114 = .ok (.iload 4, 2) := dk_21 4 (dk_at dksX10_give_4 21 rfl rfl)
theorem dX10_give_116 : decode cX10_give 116 = .ok (.iaload, 1) := dk_46 (dk_at dksX10_give_4 23 rfl rfl)
theorem dX10_give_117 : decode cX10_give 117 = .ok (.ireturn, 1) := dk_172 (dk_at dksX10_give_5 0 rfl rfl)
abbrev cX10_isWith : ByteArray := prog_21_method_76_code
def yX10_isWith : MethodName := ⟨RX10, "isWith", "(II)Z"⟩
def dkwX10_isWith_1 : List UInt8 := [180, 0, 134, 28, 46, 160, 0, 7, 4, 167, 0, 4, 3, 172]
abbrev dktX10_isWith_1 : List UInt8 := dkwX10_isWith_1 ++ []
def dkwX10_isWith_0 : List UInt8 := [42, 180, 0, 134, 16, 27, 27, 96, 46, 154, 0, 25, 42, 180, 0, 134, 16, 15, 27, 96, 46, 42]
abbrev dktX10_isWith_0 : List UInt8 := dkwX10_isWith_0 ++ dktX10_isWith_1
theorem dksX10_isWith_0 : cX10_isWith.data.toList.drop 0 = dktX10_isWith_0 := by decide +kernel
theorem dksX10_isWith_1 : cX10_isWith.data.toList.drop 22 = dktX10_isWith_1 := dk_seg dksX10_isWith_0 22 rfl rfl
theorem dX10_isWith_0 : decode cX10_isWith 0 = .ok (.aload_n 0, 1) := dk_42 (dk_at dksX10_isWith_0 0 rfl rfl)
theorem dX10_isWith_1 : decode cX10_isWith 1 = .ok (.getfield 134, 3) := dk_180 0 134 (dk_at dksX10_isWith_0 1 rfl rfl)
theorem dX10_isWith_4 : decode cX10_isWith 4 = .ok (.bipush 27, 2) := dk_16 27 (dk_at dksX10_isWith_0 4 rfl rfl)
theorem dX10_isWith_6 : decode cX10_isWith 6 = .ok (.iload_n 1, 1) := dk_27 (dk_at dksX10_isWith_0 6 rfl rfl)
theorem dX10_isWith_7 : decode cX10_isWith 7 = .ok (.iadd, 1) := dk_96 (dk_at dksX10_isWith_0 7 rfl rfl)
theorem dX10_isWith_8 : decode cX10_isWith 8 = .ok (.iaload, 1) := dk_46 (dk_at dksX10_isWith_0 8 rfl rfl)
theorem dX10_isWith_9 : decode cX10_isWith 9 = .ok (.ifCond .ne 25, 3) := dk_154 0 25 (dk_at dksX10_isWith_0 9 rfl rfl)
theorem dX10_isWith_12 : decode cX10_isWith 12 = .ok (.aload_n 0, 1) := dk_42 (dk_at dksX10_isWith_0 12 rfl rfl)
theorem dX10_isWith_13 : decode cX10_isWith 13 = .ok (.getfield 134, 3) := dk_180 0 134 (dk_at dksX10_isWith_0 13 rfl rfl)
theorem dX10_isWith_16 : decode cX10_isWith 16 = .ok (.bipush 15, 2) := dk_16 15 (dk_at dksX10_isWith_0 16 rfl rfl)
theorem dX10_isWith_18 : decode cX10_isWith 18 = .ok (.iload_n 1, 1) := dk_27 (dk_at dksX10_isWith_0 18 rfl rfl)
theorem dX10_isWith_19 : decode cX10_isWith 19 = .ok (.iadd, 1) := dk_96 (dk_at dksX10_isWith_0 19 rfl rfl)
theorem dX10_isWith_20 : decode cX10_isWith 20 = .ok (.iaload, 1) := dk_46 (dk_at dksX10_isWith_0 20 rfl rfl)
theorem dX10_isWith_21 : decode cX10_isWith 21 = .ok (.aload_n 0, 1) := dk_42 (dk_at dksX10_isWith_0 21 rfl rfl)
theorem dX10_isWith_22 : decode cX10_isWith 22 = .ok (.getfield 134, 3) := dk_180 0 134 (dk_at dksX10_isWith_1 0 rfl rfl)
theorem dX10_isWith_25 : decode cX10_isWith 25 = .ok (.iload_n 2, 1) := dk_28 (dk_at dksX10_isWith_1 3 rfl rfl)
theorem dX10_isWith_26 : decode cX10_isWith 26 = .ok (.iaload, 1) := dk_46 (dk_at dksX10_isWith_1 4 rfl rfl)
theorem dX10_isWith_27 : decode cX10_isWith 27 = .ok (.if_icmp .ne 7, 3) := dk_160 0 7 (dk_at dksX10_isWith_1 5 rfl rfl)
theorem dX10_isWith_30 : decode cX10_isWith 30 = .ok (.iconst 1, 1) := dk_4 (dk_at dksX10_isWith_1 8 rfl rfl)
theorem dX10_isWith_31 : decode cX10_isWith 31 = .ok (.goto 4, 3) := dk_167 0 4 (dk_at dksX10_isWith_1 9 rfl rfl)
theorem dX10_isWith_34 : decode cX10_isWith 34 = .ok (.iconst 0, 1) := dk_3 (dk_at dksX10_isWith_1 12 rfl rfl)
theorem dX10_isWith_35 : decode cX10_isWith 35 = .ok (.ireturn, 1) := dk_172 (dk_at dksX10_isWith_1 13 rfl rfl)
abbrev cX10_kick : ByteArray := prog_21_method_78_code
def yX10_kick : MethodName := ⟨RX10, "kick", "(II)I"⟩
def dkwX10_kick_3 : List UInt8 := [180, 0, 134, 29, 46, 172]
abbrev dktX10_kick_3 : List UInt8 := dkwX10_kick_3 ++ []
def dkwX10_kick_2 : List UInt8 := [16, 254, 172, 42, 182, 1, 144, 42, 180, 0, 137, 29, 92, 46, 4, 96, 79, 42, 182, 1, 160, 42]
abbrev dktX10_kick_2 : List UInt8 := dkwX10_kick_2 ++ dktX10_kick_3
def dkwX10_kick_1 : List UInt8 := [27, 96, 62, 42, 27, 28, 182, 1, 163, 153, 0, 15, 42, 180, 0, 134, 29, 46, 17, 3, 231, 160, 0, 6]
abbrev dktX10_kick_1 : List UInt8 := dkwX10_kick_1 ++ dktX10_kick_2
def dkwX10_kick_0 : List UInt8 := [42, 27, 182, 1, 156, 153, 0, 11, 42, 28, 182, 1, 153, 154, 0, 5, 2, 172, 16, 55, 7, 28, 104, 96]
abbrev dktX10_kick_0 : List UInt8 := dkwX10_kick_0 ++ dktX10_kick_1
theorem dksX10_kick_0 : cX10_kick.data.toList.drop 0 = dktX10_kick_0 := by decide +kernel
theorem dksX10_kick_1 : cX10_kick.data.toList.drop 24 = dktX10_kick_1 := dk_seg dksX10_kick_0 24 rfl rfl
theorem dksX10_kick_2 : cX10_kick.data.toList.drop 48 = dktX10_kick_2 := dk_seg dksX10_kick_1 24 rfl rfl
theorem dksX10_kick_3 : cX10_kick.data.toList.drop 70 = dktX10_kick_3 := dk_seg dksX10_kick_2 22 rfl rfl
theorem dX10_kick_0 : decode cX10_kick 0 = .ok (.aload_n 0, 1) := dk_42 (dk_at dksX10_kick_0 0 rfl rfl)
theorem dX10_kick_1 : decode cX10_kick 1 = .ok (.iload_n 1, 1) := dk_27 (dk_at dksX10_kick_0 1 rfl rfl)
theorem dX10_kick_2 : decode cX10_kick 2 = .ok (.invokevirtual 412, 3) := dk_182 1 156 (dk_at dksX10_kick_0 2 rfl rfl)
theorem dX10_kick_5 : decode cX10_kick 5 = .ok (.ifCond .eq 11, 3) := dk_153 0 11 (dk_at dksX10_kick_0 5 rfl rfl)
theorem dX10_kick_8 : decode cX10_kick 8 = .ok (.aload_n 0, 1) := dk_42 (dk_at dksX10_kick_0 8 rfl rfl)
theorem dX10_kick_9 : decode cX10_kick 9 = .ok (.iload_n 2, 1) := dk_28 (dk_at dksX10_kick_0 9 rfl rfl)
theorem dX10_kick_10 : decode cX10_kick 10 = .ok (.invokevirtual 409, 3) := dk_182 1 153 (dk_at dksX10_kick_0 10 rfl rfl)
theorem dX10_kick_13 : decode cX10_kick 13 = .ok (.ifCond .ne 5, 3) := dk_154 0 5 (dk_at dksX10_kick_0 13 rfl rfl)
theorem dX10_kick_16 : decode cX10_kick 16 = .ok (.iconst (-1), 1) := dk_2 (dk_at dksX10_kick_0 16 rfl rfl)
theorem dX10_kick_17 : decode cX10_kick 17 = .ok (.ireturn, 1) := dk_172 (dk_at dksX10_kick_0 17 rfl rfl)
theorem dX10_kick_18 : decode cX10_kick 18 = .ok (.bipush 55, 2) := dk_16 55 (dk_at dksX10_kick_0 18 rfl rfl)
theorem dX10_kick_20 : decode cX10_kick 20 = .ok (.iconst 4, 1) := dk_7 (dk_at dksX10_kick_0 20 rfl rfl)
theorem dX10_kick_21 : decode cX10_kick 21 = .ok (.iload_n 2, 1) := dk_28 (dk_at dksX10_kick_0 21 rfl rfl)
theorem dX10_kick_22 : decode cX10_kick 22 = .ok (.imul, 1) := dk_104 (dk_at dksX10_kick_0 22 rfl rfl)
theorem dX10_kick_23 : decode cX10_kick 23 = .ok (.iadd, 1) := dk_96 (dk_at dksX10_kick_0 23 rfl rfl)
theorem dX10_kick_24 : decode cX10_kick 24 = .ok (.iload_n 1, 1) := dk_27 (dk_at dksX10_kick_1 0 rfl rfl)
theorem dX10_kick_25 : decode cX10_kick 25 = .ok (.iadd, 1) := dk_96 (dk_at dksX10_kick_1 1 rfl rfl)
theorem dX10_kick_26 : decode cX10_kick 26 = .ok (.istore_n 3, 1) := dk_62 (dk_at dksX10_kick_1 2 rfl rfl)
theorem dX10_kick_27 : decode cX10_kick 27 = .ok (.aload_n 0, 1) := dk_42 (dk_at dksX10_kick_1 3 rfl rfl)
theorem dX10_kick_28 : decode cX10_kick 28 = .ok (.iload_n 1, 1) := dk_27 (dk_at dksX10_kick_1 4 rfl rfl)
theorem dX10_kick_29 : decode cX10_kick 29 = .ok (.iload_n 2, 1) := dk_28 (dk_at dksX10_kick_1 5 rfl rfl)
theorem dX10_kick_30 : decode cX10_kick 30 = .ok (.invokevirtual 419, 3) := dk_182 1 163 (dk_at dksX10_kick_1 6 rfl rfl)
theorem dX10_kick_33 : decode cX10_kick 33 = .ok (.ifCond .eq 15, 3) := dk_153 0 15 (dk_at dksX10_kick_1 9 rfl rfl)
theorem dX10_kick_36 : decode cX10_kick 36 = .ok (.aload_n 0, 1) := dk_42 (dk_at dksX10_kick_1 12 rfl rfl)
theorem dX10_kick_37 : decode cX10_kick 37 = .ok (.getfield 134, 3) := dk_180 0 134 (dk_at dksX10_kick_1 13 rfl rfl)
theorem dX10_kick_40 : decode cX10_kick 40 = .ok (.iload_n 3, 1) := dk_29 (dk_at dksX10_kick_1 16 rfl rfl)
theorem dX10_kick_41 : decode cX10_kick 41 = .ok (.iaload, 1) := dk_46 (dk_at dksX10_kick_1 17 rfl rfl)
theorem dX10_kick_42 : decode cX10_kick 42 = .ok (.sipush 999, 3) := dk_17 3 231 (dk_at dksX10_kick_1 18 rfl rfl)
theorem dX10_kick_45 : decode cX10_kick 45 = .ok (.if_icmp .ne 6, 3) := dk_160 0 6 (dk_at dksX10_kick_1 21 rfl rfl)
theorem dX10_kick_48 : decode cX10_kick 48 = .ok (.bipush (-2), 2) := dk_16 254 (dk_at dksX10_kick_2 0 rfl rfl)
theorem dX10_kick_50 : decode cX10_kick 50 = .ok (.ireturn, 1) := dk_172 (dk_at dksX10_kick_2 2 rfl rfl)
theorem dX10_kick_51 : decode cX10_kick 51 = .ok (.aload_n 0, 1) := dk_42 (dk_at dksX10_kick_2 3 rfl rfl)
theorem dX10_kick_52 : decode cX10_kick 52 = .ok (.invokevirtual 400, 3) := dk_182 1 144 (dk_at dksX10_kick_2 4 rfl rfl)
theorem dX10_kick_55 : decode cX10_kick 55 = .ok (.aload_n 0, 1) := dk_42 (dk_at dksX10_kick_2 7 rfl rfl)
theorem dX10_kick_56 : decode cX10_kick 56 = .ok (.getfield 137, 3) := dk_180 0 137 (dk_at dksX10_kick_2 8 rfl rfl)
theorem dX10_kick_59 : decode cX10_kick 59 = .ok (.iload_n 3, 1) := dk_29 (dk_at dksX10_kick_2 11 rfl rfl)
theorem dX10_kick_60 : decode cX10_kick 60 = .ok (.dup2, 1) := dk_92 (dk_at dksX10_kick_2 12 rfl rfl)
theorem dX10_kick_61 : decode cX10_kick 61 = .ok (.iaload, 1) := dk_46 (dk_at dksX10_kick_2 13 rfl rfl)
theorem dX10_kick_62 : decode cX10_kick 62 = .ok (.iconst 1, 1) := dk_4 (dk_at dksX10_kick_2 14 rfl rfl)
theorem dX10_kick_63 : decode cX10_kick 63 = .ok (.iadd, 1) := dk_96 (dk_at dksX10_kick_2 15 rfl rfl)
theorem dX10_kick_64 : decode cX10_kick 64 = .ok (.iastore, 1) := dk_79 (dk_at dksX10_kick_2 16 rfl rfl)
theorem dX10_kick_65 : decode cX10_kick 65 = .ok (.aload_n 0, 1) := dk_42 (dk_at dksX10_kick_2 17 rfl rfl)
theorem dX10_kick_66 : decode cX10_kick 66 = .ok (.invokevirtual 416, 3) := dk_182 1 160 (dk_at dksX10_kick_2 18 rfl rfl)
theorem dX10_kick_69 : decode cX10_kick 69 = .ok (.aload_n 0, 1) := dk_42 (dk_at dksX10_kick_2 21 rfl rfl)
theorem dX10_kick_70 : decode cX10_kick 70 = .ok (.getfield 134, 3) := dk_180 0 134 (dk_at dksX10_kick_3 0 rfl rfl)
theorem dX10_kick_73 : decode cX10_kick 73 = .ok (.iload_n 3, 1) := dk_29 (dk_at dksX10_kick_3 3 rfl rfl)
theorem dX10_kick_74 : decode cX10_kick 74 = .ok (.iaload, 1) := dk_46 (dk_at dksX10_kick_3 4 rfl rfl)
theorem dX10_kick_75 : decode cX10_kick 75 = .ok (.ireturn, 1) := dk_172 (dk_at dksX10_kick_3 5 rfl rfl)
abbrev cX10_minutes : ByteArray := prog_21_method_79_code
def yX10_minutes : MethodName := ⟨RX10, "minutes", "(I)I"⟩
def dkwX10_minutes_1 : List UInt8 := [172, 42, 182, 1, 144, 42, 27, 182, 1, 166, 42, 182, 1, 160, 42, 180, 0, 134, 16, 76, 46, 172]
abbrev dktX10_minutes_1 : List UInt8 := dkwX10_minutes_1 ++ []
def dkwX10_minutes_0 : List UInt8 := [27, 3, 17, 5, 160, 184, 1, 78, 154, 0, 5, 2, 172, 27, 154, 0, 11, 42, 180, 0, 134, 16, 76, 46]
abbrev dktX10_minutes_0 : List UInt8 := dkwX10_minutes_0 ++ dktX10_minutes_1
theorem dksX10_minutes_0 : cX10_minutes.data.toList.drop 0 = dktX10_minutes_0 := by decide +kernel
theorem dksX10_minutes_1 : cX10_minutes.data.toList.drop 24 = dktX10_minutes_1 := dk_seg dksX10_minutes_0 24 rfl rfl
theorem dX10_minutes_0 : decode cX10_minutes 0 = .ok (.iload_n 1, 1) := dk_27 (dk_at dksX10_minutes_0 0 rfl rfl)
theorem dX10_minutes_1 : decode cX10_minutes 1 = .ok (.iconst 0, 1) := dk_3 (dk_at dksX10_minutes_0 1 rfl rfl)
theorem dX10_minutes_2 : decode cX10_minutes 2 = .ok (.sipush 1440, 3) := dk_17 5 160 (dk_at dksX10_minutes_0 2 rfl rfl)
theorem dX10_minutes_5 : decode cX10_minutes 5 = .ok (.invokestatic 334, 3) := dk_184 1 78 (dk_at dksX10_minutes_0 5 rfl rfl)
theorem dX10_minutes_8 : decode cX10_minutes 8 = .ok (.ifCond .ne 5, 3) := dk_154 0 5 (dk_at dksX10_minutes_0 8 rfl rfl)
theorem dX10_minutes_11 : decode cX10_minutes 11 = .ok (.iconst (-1), 1) := dk_2 (dk_at dksX10_minutes_0 11 rfl rfl)
theorem dX10_minutes_12 : decode cX10_minutes 12 = .ok (.ireturn, 1) := dk_172 (dk_at dksX10_minutes_0 12 rfl rfl)
theorem dX10_minutes_13 : decode cX10_minutes 13 = .ok (.iload_n 1, 1) := dk_27 (dk_at dksX10_minutes_0 13 rfl rfl)
theorem dX10_minutes_14 : decode cX10_minutes 14 = .ok (.ifCond .ne 11, 3) := dk_154 0 11 (dk_at dksX10_minutes_0 14 rfl rfl)
theorem dX10_minutes_17 : decode cX10_minutes 17 = .ok (.aload_n 0, 1) := dk_42 (dk_at dksX10_minutes_0 17 rfl rfl)
theorem dX10_minutes_18 : decode cX10_minutes 18 = .ok (.getfield 134, 3) := dk_180 0 134 (dk_at dksX10_minutes_0 18 rfl rfl)
theorem dX10_minutes_21 : decode cX10_minutes 21 = .ok (.bipush 76, 2) := dk_16 76 (dk_at dksX10_minutes_0 21 rfl rfl)
theorem dX10_minutes_23 : decode cX10_minutes 23 = .ok (.iaload, 1) := dk_46 (dk_at dksX10_minutes_0 23 rfl rfl)
theorem dX10_minutes_24 : decode cX10_minutes 24 = .ok (.ireturn, 1) := dk_172 (dk_at dksX10_minutes_1 0 rfl rfl)
theorem dX10_minutes_25 : decode cX10_minutes 25 = .ok (.aload_n 0, 1) := dk_42 (dk_at dksX10_minutes_1 1 rfl rfl)
theorem dX10_minutes_26 : decode cX10_minutes 26 = .ok (.invokevirtual 400, 3) := dk_182 1 144 (dk_at dksX10_minutes_1 2 rfl rfl)
theorem dX10_minutes_29 : decode cX10_minutes 29 = .ok (.aload_n 0, 1) := dk_42 (dk_at dksX10_minutes_1 5 rfl rfl)
theorem dX10_minutes_30 : decode cX10_minutes 30 = .ok (.iload_n 1, 1) := dk_27 (dk_at dksX10_minutes_1 6 rfl rfl)
theorem dX10_minutes_31 : decode cX10_minutes 31 = .ok (.invokevirtual 422, 3) := dk_182 1 166 (dk_at dksX10_minutes_1 7 rfl rfl)
theorem dX10_minutes_34 : decode cX10_minutes 34 = .ok (.aload_n 0, 1) := dk_42 (dk_at dksX10_minutes_1 10 rfl rfl)
theorem dX10_minutes_35 : decode cX10_minutes 35 = .ok (.invokevirtual 416, 3) := dk_182 1 160 (dk_at dksX10_minutes_1 11 rfl rfl)
theorem dX10_minutes_38 : decode cX10_minutes 38 = .ok (.aload_n 0, 1) := dk_42 (dk_at dksX10_minutes_1 14 rfl rfl)
theorem dX10_minutes_39 : decode cX10_minutes 39 = .ok (.getfield 134, 3) := dk_180 0 134 (dk_at dksX10_minutes_1 15 rfl rfl)
theorem dX10_minutes_42 : decode cX10_minutes 42 = .ok (.bipush 76, 2) := dk_16 76 (dk_at dksX10_minutes_1 18 rfl rfl)
theorem dX10_minutes_44 : decode cX10_minutes 44 = .ok (.iaload, 1) := dk_46 (dk_at dksX10_minutes_1 20 rfl rfl)
theorem dX10_minutes_45 : decode cX10_minutes 45 = .ok (.ireturn, 1) := dk_172 (dk_at dksX10_minutes_1 21 rfl rfl)
abbrev cX10_goes : ByteArray := prog_21_method_67_code
def yX10_goes : MethodName := ⟨RX10, "goes", "(I)V"⟩
def dkwX10_goes_0 : List UInt8 := [3, 61, 28, 27, 162, 0, 13, 42, 182, 1, 138, 132, 2, 1, 167, 255, 244, 177]
abbrev dktX10_goes_0 : List UInt8 := dkwX10_goes_0 ++ []
theorem dksX10_goes_0 : cX10_goes.data.toList.drop 0 = dktX10_goes_0 := by decide +kernel
theorem dX10_goes_0 : decode cX10_goes 0 = .ok (.iconst 0, 1) := dk_3 (dk_at dksX10_goes_0 0 rfl rfl)
theorem dX10_goes_1 : decode cX10_goes 1 = .ok (.istore_n 2, 1) := dk_61 (dk_at dksX10_goes_0 1 rfl rfl)
theorem dX10_goes_2 : decode cX10_goes 2 = .ok (.iload_n 2, 1) := dk_28 (dk_at dksX10_goes_0 2 rfl rfl)
theorem dX10_goes_3 : decode cX10_goes 3 = .ok (.iload_n 1, 1) := dk_27 (dk_at dksX10_goes_0 3 rfl rfl)
theorem dX10_goes_4 : decode cX10_goes 4 = .ok (.if_icmp .ge 13, 3) := dk_162 0 13 (dk_at dksX10_goes_0 4 rfl rfl)
theorem dX10_goes_7 : decode cX10_goes 7 = .ok (.aload_n 0, 1) := dk_42 (dk_at dksX10_goes_0 7 rfl rfl)
theorem dX10_goes_8 : decode cX10_goes 8 = .ok (.invokevirtual 394, 3) := dk_182 1 138 (dk_at dksX10_goes_0 8 rfl rfl)
theorem dX10_goes_11 : decode cX10_goes 11 = .ok (.iinc 2 1, 3) := dk_132 2 1 (dk_at dksX10_goes_0 11 rfl rfl)
theorem dX10_goes_14 : decode cX10_goes 14 = .ok (.goto (-12), 3) := dk_167 255 244 (dk_at dksX10_goes_0 14 rfl rfl)
theorem dX10_goes_17 : decode cX10_goes 17 = .ok (.return_, 1) := dk_177 (dk_at dksX10_goes_0 17 rfl rfl)
abbrev cX10_minuteGoes : ByteArray := prog_21_method_66_code
def yX10_minuteGoes : MethodName := ⟨RX10, "minuteGoes", "()V"⟩
def dkwX10_minuteGoes_6 : List UInt8 := [132, 1, 1, 167, 255, 213, 177]
abbrev dktX10_minuteGoes_6 : List UInt8 := dkwX10_minuteGoes_6 ++ []
def dkwX10_minuteGoes_5 : List UInt8 := [180, 0, 67, 42, 180, 0, 242, 46, 162, 0, 15, 42, 27, 28, 182, 1, 135, 132, 2, 1, 167, 255, 234]
abbrev dktX10_minuteGoes_5 : List UInt8 := dkwX10_minuteGoes_5 ++ dktX10_minuteGoes_6
def dkwX10_minuteGoes_4 : List UInt8 := [158, 0, 4, 177, 3, 60, 27, 42, 180, 0, 55, 42, 180, 0, 242, 46, 162, 0, 36, 3, 61, 28, 42]
abbrev dktX10_minuteGoes_4 : List UInt8 := dkwX10_minuteGoes_4 ++ dktX10_minuteGoes_5
def dkwX10_minuteGoes_3 : List UInt8 := [182, 1, 132, 132, 1, 1, 167, 255, 235, 42, 180, 0, 137, 16, 76, 92, 46, 4, 96, 79, 42, 182, 1, 82]
abbrev dktX10_minuteGoes_3 : List UInt8 := dkwX10_minuteGoes_3 ++ dktX10_minuteGoes_4
def dkwX10_minuteGoes_2 : List UInt8 := [182, 1, 129, 167, 0, 29, 3, 60, 27, 42, 180, 0, 55, 42, 180, 0, 242, 46, 162, 0, 14, 42, 27]
abbrev dktX10_minuteGoes_2 : List UInt8 := dkwX10_minuteGoes_2 ++ dktX10_minuteGoes_3
def dkwX10_minuteGoes_1 : List UInt8 := [154, 0, 8, 42, 27, 182, 1, 122, 132, 1, 1, 167, 255, 223, 42, 182, 1, 125, 154, 0, 10, 42]
abbrev dktX10_minuteGoes_1 : List UInt8 := dkwX10_minuteGoes_1 ++ dktX10_minuteGoes_2
def dkwX10_minuteGoes_0 : List UInt8 := [3, 60, 27, 42, 180, 0, 67, 42, 180, 0, 242, 46, 162, 0, 26, 42, 180, 0, 137, 16, 27, 27, 96, 46]
abbrev dktX10_minuteGoes_0 : List UInt8 := dkwX10_minuteGoes_0 ++ dktX10_minuteGoes_1
theorem dksX10_minuteGoes_0 : cX10_minuteGoes.data.toList.drop 0 = dktX10_minuteGoes_0 := by decide +kernel
theorem dksX10_minuteGoes_1 : cX10_minuteGoes.data.toList.drop 24 = dktX10_minuteGoes_1 := dk_seg dksX10_minuteGoes_0 24 rfl rfl
theorem dksX10_minuteGoes_2 : cX10_minuteGoes.data.toList.drop 46 = dktX10_minuteGoes_2 := dk_seg dksX10_minuteGoes_1 22 rfl rfl
theorem dksX10_minuteGoes_3 : cX10_minuteGoes.data.toList.drop 69 = dktX10_minuteGoes_3 := dk_seg dksX10_minuteGoes_2 23 rfl rfl
theorem dksX10_minuteGoes_4 : cX10_minuteGoes.data.toList.drop 93 = dktX10_minuteGoes_4 := dk_seg dksX10_minuteGoes_3 24 rfl rfl
theorem dksX10_minuteGoes_5 : cX10_minuteGoes.data.toList.drop 116 = dktX10_minuteGoes_5 := dk_seg dksX10_minuteGoes_4 23 rfl rfl
theorem dksX10_minuteGoes_6 : cX10_minuteGoes.data.toList.drop 139 = dktX10_minuteGoes_6 := dk_seg dksX10_minuteGoes_5 23 rfl rfl
theorem dX10_minuteGoes_0 : decode cX10_minuteGoes 0 = .ok (.iconst 0, 1) := dk_3 (dk_at dksX10_minuteGoes_0 0 rfl rfl)
theorem dX10_minuteGoes_1 : decode cX10_minuteGoes 1 = .ok (.istore_n 1, 1) := dk_60 (dk_at dksX10_minuteGoes_0 1 rfl rfl)
theorem dX10_minuteGoes_2 : decode cX10_minuteGoes 2 = .ok (.iload_n 1, 1) := dk_27 (dk_at dksX10_minuteGoes_0 2 rfl rfl)
theorem dX10_minuteGoes_3 : decode cX10_minuteGoes 3 = .ok (.aload_n 0, 1) := dk_42 (dk_at dksX10_minuteGoes_0 3 rfl rfl)
theorem dX10_minuteGoes_4 : decode cX10_minuteGoes 4 = .ok (.getfield 67, 3) := dk_180 0 67 (dk_at dksX10_minuteGoes_0 4 rfl rfl)
theorem dX10_minuteGoes_7 : decode cX10_minuteGoes 7 = .ok (.aload_n 0, 1) := dk_42 (dk_at dksX10_minuteGoes_0 7 rfl rfl)
theorem dX10_minuteGoes_8 : decode cX10_minuteGoes 8 = .ok (.getfield 242, 3) := dk_180 0 242 (dk_at dksX10_minuteGoes_0 8 rfl rfl)
theorem dX10_minuteGoes_11 : decode cX10_minuteGoes 11 = .ok (.iaload, 1) := dk_46 (dk_at dksX10_minuteGoes_0 11 rfl rfl)
theorem dX10_minuteGoes_12 : decode cX10_minuteGoes 12 = .ok (.if_icmp .ge 26, 3) := dk_162 0 26 (dk_at dksX10_minuteGoes_0 12 rfl rfl)
theorem dX10_minuteGoes_15 : decode cX10_minuteGoes 15 = .ok (.aload_n 0, 1) := dk_42 (dk_at dksX10_minuteGoes_0 15 rfl rfl)
theorem dX10_minuteGoes_16 : decode cX10_minuteGoes 16 = .ok (.getfield 137, 3) := dk_180 0 137 (dk_at dksX10_minuteGoes_0 16 rfl rfl)
theorem dX10_minuteGoes_19 : decode cX10_minuteGoes 19 = .ok (.bipush 27, 2) := dk_16 27 (dk_at dksX10_minuteGoes_0 19 rfl rfl)
theorem dX10_minuteGoes_21 : decode cX10_minuteGoes 21 = .ok (.iload_n 1, 1) := dk_27 (dk_at dksX10_minuteGoes_0 21 rfl rfl)
theorem dX10_minuteGoes_22 : decode cX10_minuteGoes 22 = .ok (.iadd, 1) := dk_96 (dk_at dksX10_minuteGoes_0 22 rfl rfl)
theorem dX10_minuteGoes_23 : decode cX10_minuteGoes 23 = .ok (.iaload, 1) := dk_46 (dk_at dksX10_minuteGoes_0 23 rfl rfl)
theorem dX10_minuteGoes_24 : decode cX10_minuteGoes 24 = .ok (.ifCond .ne 8, 3) := dk_154 0 8 (dk_at dksX10_minuteGoes_1 0 rfl rfl)
theorem dX10_minuteGoes_27 : decode cX10_minuteGoes 27 = .ok (.aload_n 0, 1) := dk_42 (dk_at dksX10_minuteGoes_1 3 rfl rfl)
theorem dX10_minuteGoes_28 : decode cX10_minuteGoes 28 = .ok (.iload_n 1, 1) := dk_27 (dk_at dksX10_minuteGoes_1 4 rfl rfl)
theorem dX10_minuteGoes_29 : decode cX10_minuteGoes 29 = .ok (.invokevirtual 378, 3) := dk_182 1 122 (dk_at dksX10_minuteGoes_1 5 rfl rfl)
theorem dX10_minuteGoes_32 : decode cX10_minuteGoes 32 = .ok (.iinc 1 1, 3) := dk_132 1 1 (dk_at dksX10_minuteGoes_1 8 rfl rfl)
theorem dX10_minuteGoes_35 : decode cX10_minuteGoes 35 = .ok (.goto (-33), 3) := dk_167 255 223 (dk_at dksX10_minuteGoes_1 11 rfl rfl)
theorem dX10_minuteGoes_38 : decode cX10_minuteGoes 38 = .ok (.aload_n 0, 1) := dk_42 (dk_at dksX10_minuteGoes_1 14 rfl rfl)
theorem dX10_minuteGoes_39 : decode cX10_minuteGoes 39 = .ok (.invokevirtual 381, 3) := dk_182 1 125 (dk_at dksX10_minuteGoes_1 15 rfl rfl)
theorem dX10_minuteGoes_42 : decode cX10_minuteGoes 42 = .ok (.ifCond .ne 10, 3) := dk_154 0 10 (dk_at dksX10_minuteGoes_1 18 rfl rfl)
theorem dX10_minuteGoes_45 : decode cX10_minuteGoes 45 = .ok (.aload_n 0, 1) := dk_42 (dk_at dksX10_minuteGoes_1 21 rfl rfl)
theorem dX10_minuteGoes_46 : decode cX10_minuteGoes 46 = .ok (.invokevirtual 385, 3) := dk_182 1 129 (dk_at dksX10_minuteGoes_2 0 rfl rfl)
theorem dX10_minuteGoes_49 : decode cX10_minuteGoes 49 = .ok (.goto 29, 3) := dk_167 0 29 (dk_at dksX10_minuteGoes_2 3 rfl rfl)
theorem dX10_minuteGoes_52 : decode cX10_minuteGoes 52 = .ok (.iconst 0, 1) := dk_3 (dk_at dksX10_minuteGoes_2 6 rfl rfl)
theorem dX10_minuteGoes_53 : decode cX10_minuteGoes 53 = .ok (.istore_n 1, 1) := dk_60 (dk_at dksX10_minuteGoes_2 7 rfl rfl)
theorem dX10_minuteGoes_54 : decode cX10_minuteGoes 54 = .ok (.iload_n 1, 1) := dk_27 (dk_at dksX10_minuteGoes_2 8 rfl rfl)
theorem dX10_minuteGoes_55 : decode cX10_minuteGoes 55 = .ok (.aload_n 0, 1) := dk_42 (dk_at dksX10_minuteGoes_2 9 rfl rfl)
theorem dX10_minuteGoes_56 : decode cX10_minuteGoes 56 = .ok (.getfield 55, 3) := dk_180 0 55 (dk_at dksX10_minuteGoes_2 10 rfl rfl)
theorem dX10_minuteGoes_59 : decode cX10_minuteGoes 59 = .ok (.aload_n 0, 1) := dk_42 (dk_at dksX10_minuteGoes_2 13 rfl rfl)
theorem dX10_minuteGoes_60 : decode cX10_minuteGoes 60 = .ok (.getfield 242, 3) := dk_180 0 242 (dk_at dksX10_minuteGoes_2 14 rfl rfl)
theorem dX10_minuteGoes_63 : decode cX10_minuteGoes 63 = .ok (.iaload, 1) := dk_46 (dk_at dksX10_minuteGoes_2 17 rfl rfl)
theorem dX10_minuteGoes_64 : decode cX10_minuteGoes 64 = .ok (.if_icmp .ge 14, 3) := dk_162 0 14 (dk_at dksX10_minuteGoes_2 18 rfl rfl)
theorem dX10_minuteGoes_67 : decode cX10_minuteGoes 67 = .ok (.aload_n 0, 1) := dk_42 (dk_at dksX10_minuteGoes_2 21 rfl rfl)
theorem dX10_minuteGoes_68 : decode cX10_minuteGoes 68 = .ok (.iload_n 1, 1) := dk_27 (dk_at dksX10_minuteGoes_2 22 rfl rfl)
theorem dX10_minuteGoes_69 : decode cX10_minuteGoes 69 = .ok (.invokevirtual 388, 3) := dk_182 1 132 (dk_at dksX10_minuteGoes_3 0 rfl rfl)
theorem dX10_minuteGoes_72 : decode cX10_minuteGoes 72 = .ok (.iinc 1 1, 3) := dk_132 1 1 (dk_at dksX10_minuteGoes_3 3 rfl rfl)
theorem dX10_minuteGoes_75 : decode cX10_minuteGoes 75 = .ok (.goto (-21), 3) := dk_167 255 235 (dk_at dksX10_minuteGoes_3 6 rfl rfl)
theorem dX10_minuteGoes_78 : decode cX10_minuteGoes 78 = .ok (.aload_n 0, 1) := dk_42 (dk_at dksX10_minuteGoes_3 9 rfl rfl)
theorem dX10_minuteGoes_79 : decode cX10_minuteGoes 79 = .ok (.getfield 137, 3) := dk_180 0 137 (dk_at dksX10_minuteGoes_3 10 rfl rfl)
theorem dX10_minuteGoes_82 : decode cX10_minuteGoes 82 = .ok (.bipush 76, 2) := dk_16 76 (dk_at dksX10_minuteGoes_3 13 rfl rfl)
theorem dX10_minuteGoes_84 : decode cX10_minuteGoes 84 = .ok (.dup2, 1) := dk_92 (dk_at dksX10_minuteGoes_3 15 rfl rfl)
theorem dX10_minuteGoes_85 : decode cX10_minuteGoes 85 = .ok (.iaload, 1) := dk_46 (dk_at dksX10_minuteGoes_3 16 rfl rfl)
theorem dX10_minuteGoes_86 : decode cX10_minuteGoes 86 = .ok (.iconst 1, 1) := dk_4 (dk_at dksX10_minuteGoes_3 17 rfl rfl)
theorem dX10_minuteGoes_87 : decode cX10_minuteGoes 87 = .ok (.iadd, 1) := dk_96 (dk_at dksX10_minuteGoes_3 18 rfl rfl)
theorem dX10_minuteGoes_88 : decode cX10_minuteGoes 88 = .ok (.iastore, 1) := dk_79 (dk_at dksX10_minuteGoes_3 19 rfl rfl)
theorem dX10_minuteGoes_89 : decode cX10_minuteGoes 89 = .ok (.aload_n 0, 1) := dk_42 (dk_at dksX10_minuteGoes_3 20 rfl rfl)
theorem dX10_minuteGoes_90 : decode cX10_minuteGoes 90 = .ok (.invokevirtual 338, 3) := dk_182 1 82 (dk_at dksX10_minuteGoes_3 21 rfl rfl)
theorem dX10_minuteGoes_93 : decode cX10_minuteGoes 93 = .ok (.ifCond .le 4, 3) := dk_158 0 4 (dk_at dksX10_minuteGoes_4 0 rfl rfl)
theorem dX10_minuteGoes_96 : decode cX10_minuteGoes 96 = .ok (.return_, 1) := dk_177 (dk_at dksX10_minuteGoes_4 3 rfl rfl)
theorem dX10_minuteGoes_97 : decode cX10_minuteGoes 97 = .ok (.iconst 0, 1) := dk_3 (dk_at dksX10_minuteGoes_4 4 rfl rfl)
theorem dX10_minuteGoes_98 : decode cX10_minuteGoes 98 = .ok (.istore_n 1, 1) := dk_60 (dk_at dksX10_minuteGoes_4 5 rfl rfl)
theorem dX10_minuteGoes_99 : decode cX10_minuteGoes 99 = .ok (.iload_n 1, 1) := dk_27 (dk_at dksX10_minuteGoes_4 6 rfl rfl)
theorem dX10_minuteGoes_100 : decode cX10_minuteGoes 100 = .ok (.aload_n 0, 1) := dk_42 (dk_at dksX10_minuteGoes_4 7 rfl rfl)
theorem dX10_minuteGoes_101 : decode cX10_minuteGoes 101 = .ok (.getfield 55, 3) := dk_180 0 55 (dk_at dksX10_minuteGoes_4 8 rfl rfl)
theorem dX10_minuteGoes_104 : decode cX10_minuteGoes 104 = .ok (.aload_n 0, 1) := dk_42 (dk_at dksX10_minuteGoes_4 11 rfl rfl)
theorem dX10_minuteGoes_105 : decode cX10_minuteGoes 105 = .ok (.getfield 242, 3) := dk_180 0 242 (dk_at dksX10_minuteGoes_4 12 rfl rfl)
theorem dX10_minuteGoes_108 : decode cX10_minuteGoes 108 = .ok (.iaload, 1) := dk_46 (dk_at dksX10_minuteGoes_4 15 rfl rfl)
theorem dX10_minuteGoes_109 : decode cX10_minuteGoes 109 = .ok (.if_icmp .ge 36, 3) := dk_162 0 36 (dk_at dksX10_minuteGoes_4 16 rfl rfl)
theorem dX10_minuteGoes_112 : decode cX10_minuteGoes 112 = .ok (.iconst 0, 1) := dk_3 (dk_at dksX10_minuteGoes_4 19 rfl rfl)
theorem dX10_minuteGoes_113 : decode cX10_minuteGoes 113 = .ok (.istore_n 2, 1) := dk_61 (dk_at dksX10_minuteGoes_4 20 rfl rfl)
theorem dX10_minuteGoes_114 : decode cX10_minuteGoes 114 = .ok (.iload_n 2, 1) := dk_28 (dk_at dksX10_minuteGoes_4 21 rfl rfl)
theorem dX10_minuteGoes_115 : decode cX10_minuteGoes 115 = .ok (.aload_n 0, 1) := dk_42 (dk_at dksX10_minuteGoes_4 22 rfl rfl)
theorem dX10_minuteGoes_116 : decode cX10_minuteGoes 116 = .ok (.getfield 67, 3) := dk_180 0 67 (dk_at dksX10_minuteGoes_5 0 rfl rfl)
theorem dX10_minuteGoes_119 : decode cX10_minuteGoes 119 = .ok (.aload_n 0, 1) := dk_42 (dk_at dksX10_minuteGoes_5 3 rfl rfl)
theorem dX10_minuteGoes_120 : decode cX10_minuteGoes 120 = .ok (.getfield 242, 3) := dk_180 0 242 (dk_at dksX10_minuteGoes_5 4 rfl rfl)
theorem dX10_minuteGoes_123 : decode cX10_minuteGoes 123 = .ok (.iaload, 1) := dk_46 (dk_at dksX10_minuteGoes_5 7 rfl rfl)
theorem dX10_minuteGoes_124 : decode cX10_minuteGoes 124 = .ok (.if_icmp .ge 15, 3) := dk_162 0 15 (dk_at dksX10_minuteGoes_5 8 rfl rfl)
theorem dX10_minuteGoes_127 : decode cX10_minuteGoes 127 = .ok (.aload_n 0, 1) := dk_42 (dk_at dksX10_minuteGoes_5 11 rfl rfl)
theorem dX10_minuteGoes_128 : decode cX10_minuteGoes 128 = .ok (.iload_n 1, 1) := dk_27 (dk_at dksX10_minuteGoes_5 12 rfl rfl)
theorem dX10_minuteGoes_129 : decode cX10_minuteGoes 129 = .ok (.iload_n 2, 1) := dk_28 (dk_at dksX10_minuteGoes_5 13 rfl rfl)
theorem dX10_minuteGoes_130 : decode cX10_minuteGoes 130 = .ok (.invokevirtual 391, 3) := dk_182 1 135 (dk_at dksX10_minuteGoes_5 14 rfl rfl)
theorem dX10_minuteGoes_133 : decode cX10_minuteGoes 133 = .ok (.iinc 2 1, 3) := dk_132 2 1 (dk_at dksX10_minuteGoes_5 17 rfl rfl)
theorem dX10_minuteGoes_136 : decode cX10_minuteGoes 136 = .ok (.goto (-22), 3) := dk_167 255 234 (dk_at dksX10_minuteGoes_5 20 rfl rfl)
theorem dX10_minuteGoes_139 : decode cX10_minuteGoes 139 = .ok (.iinc 1 1, 3) := dk_132 1 1 (dk_at dksX10_minuteGoes_6 0 rfl rfl)
theorem dX10_minuteGoes_142 : decode cX10_minuteGoes 142 = .ok (.goto (-43), 3) := dk_167 255 213 (dk_at dksX10_minuteGoes_6 3 rfl rfl)
theorem dX10_minuteGoes_145 : decode cX10_minuteGoes 145 = .ok (.return_, 1) := dk_177 (dk_at dksX10_minuteGoes_6 6 rfl rfl)
abbrev cX10_personGoes : ByteArray := prog_21_method_62_code
def yX10_personGoes : MethodName := ⟨RX10, "personGoes", "(I)V"⟩
def dkwX10_personGoes_6 : List UInt8 := [4, 29, 120, 128, 79, 132, 3, 1, 167, 255, 183, 177]
abbrev dktX10_personGoes_6 : List UInt8 := dkwX10_personGoes_6 ++ []
def dkwX10_personGoes_5 : List UInt8 := [104, 29, 96, 46, 42, 180, 0, 137, 16, 15, 27, 96, 46, 160, 0, 16, 42, 180, 0, 137, 16, 75, 92, 46]
abbrev dktX10_personGoes_5 : List UInt8 := dkwX10_personGoes_5 ++ dktX10_personGoes_6
def dkwX10_personGoes_4 : List UInt8 := [16, 8, 42, 180, 0, 242, 104, 29, 96, 46, 27, 160, 0, 42, 42, 180, 0, 82, 16, 8, 42, 180, 0, 242]
abbrev dktX10_personGoes_4 : List UInt8 := dkwX10_personGoes_4 ++ dktX10_personGoes_5
def dkwX10_personGoes_3 : List UInt8 := [182, 1, 106, 79, 3, 62, 29, 42, 180, 0, 76, 42, 180, 0, 242, 46, 162, 0, 66, 42, 180, 0, 79]
abbrev dktX10_personGoes_3 : List UInt8 := dkwX10_personGoes_3 ++ dktX10_personGoes_4
def dkwX10_personGoes_2 : List UInt8 := [162, 0, 26, 42, 180, 0, 137, 16, 15, 27, 96, 42, 42, 180, 0, 137, 16, 15, 27, 96, 46, 28]
abbrev dktX10_personGoes_2 : List UInt8 := dkwX10_personGoes_2 ++ dktX10_personGoes_3
def dkwX10_personGoes_1 : List UInt8 := [159, 0, 50, 42, 180, 0, 131, 16, 7, 42, 180, 0, 137, 16, 15, 27, 96, 46, 104, 28, 96, 46, 16, 99]
abbrev dktX10_personGoes_1 : List UInt8 := dkwX10_personGoes_1 ++ dktX10_personGoes_2
def dkwX10_personGoes_0 : List UInt8 := [42, 180, 0, 137, 16, 19, 27, 96, 46, 61, 28, 155, 0, 63, 28, 42, 180, 0, 137, 16, 15, 27, 96, 46]
abbrev dktX10_personGoes_0 : List UInt8 := dkwX10_personGoes_0 ++ dktX10_personGoes_1
theorem dksX10_personGoes_0 : cX10_personGoes.data.toList.drop 0 = dktX10_personGoes_0 := by decide +kernel
theorem dksX10_personGoes_1 : cX10_personGoes.data.toList.drop 24 = dktX10_personGoes_1 := dk_seg dksX10_personGoes_0 24 rfl rfl
theorem dksX10_personGoes_2 : cX10_personGoes.data.toList.drop 48 = dktX10_personGoes_2 := dk_seg dksX10_personGoes_1 24 rfl rfl
theorem dksX10_personGoes_3 : cX10_personGoes.data.toList.drop 70 = dktX10_personGoes_3 := dk_seg dksX10_personGoes_2 22 rfl rfl
theorem dksX10_personGoes_4 : cX10_personGoes.data.toList.drop 93 = dktX10_personGoes_4 := dk_seg dksX10_personGoes_3 23 rfl rfl
theorem dksX10_personGoes_5 : cX10_personGoes.data.toList.drop 117 = dktX10_personGoes_5 := dk_seg dksX10_personGoes_4 24 rfl rfl
theorem dksX10_personGoes_6 : cX10_personGoes.data.toList.drop 141 = dktX10_personGoes_6 := dk_seg dksX10_personGoes_5 24 rfl rfl
theorem dX10_personGoes_0 : decode cX10_personGoes 0 = .ok (.aload_n 0, 1) := dk_42 (dk_at dksX10_personGoes_0 0 rfl rfl)
theorem dX10_personGoes_1 : decode cX10_personGoes 1 = .ok (.getfield 137, 3) := dk_180 0 137 (dk_at dksX10_personGoes_0 1 rfl rfl)
theorem dX10_personGoes_4 : decode cX10_personGoes 4 = .ok (.bipush 19, 2) := dk_16 19 (dk_at dksX10_personGoes_0 4 rfl rfl)
theorem dX10_personGoes_6 : decode cX10_personGoes 6 = .ok (.iload_n 1, 1) := dk_27 (dk_at dksX10_personGoes_0 6 rfl rfl)
theorem dX10_personGoes_7 : decode cX10_personGoes 7 = .ok (.iadd, 1) := dk_96 (dk_at dksX10_personGoes_0 7 rfl rfl)
theorem dX10_personGoes_8 : decode cX10_personGoes 8 = .ok (.iaload, 1) := dk_46 (dk_at dksX10_personGoes_0 8 rfl rfl)
theorem dX10_personGoes_9 : decode cX10_personGoes 9 = .ok (.istore_n 2, 1) := dk_61 (dk_at dksX10_personGoes_0 9 rfl rfl)
theorem dX10_personGoes_10 : decode cX10_personGoes 10 = .ok (.iload_n 2, 1) := dk_28 (dk_at dksX10_personGoes_0 10 rfl rfl)
theorem dX10_personGoes_11 : decode cX10_personGoes 11 = .ok (.ifCond .lt 63, 3) := dk_155 0 63 (dk_at dksX10_personGoes_0 11 rfl rfl)
theorem dX10_personGoes_14 : decode cX10_personGoes 14 = .ok (.iload_n 2, 1) := dk_28 (dk_at dksX10_personGoes_0 14 rfl rfl)
theorem dX10_personGoes_15 : decode cX10_personGoes 15 = .ok (.aload_n 0, 1) := dk_42 (dk_at dksX10_personGoes_0 15 rfl rfl)
theorem dX10_personGoes_16 : decode cX10_personGoes 16 = .ok (.getfield 137, 3) := dk_180 0 137 (dk_at dksX10_personGoes_0 16 rfl rfl)
theorem dX10_personGoes_19 : decode cX10_personGoes 19 = .ok (.bipush 15, 2) := dk_16 15 (dk_at dksX10_personGoes_0 19 rfl rfl)
theorem dX10_personGoes_21 : decode cX10_personGoes 21 = .ok (.iload_n 1, 1) := dk_27 (dk_at dksX10_personGoes_0 21 rfl rfl)
theorem dX10_personGoes_22 : decode cX10_personGoes 22 = .ok (.iadd, 1) := dk_96 (dk_at dksX10_personGoes_0 22 rfl rfl)
theorem dX10_personGoes_23 : decode cX10_personGoes 23 = .ok (.iaload, 1) := dk_46 (dk_at dksX10_personGoes_0 23 rfl rfl)
theorem dX10_personGoes_24 : decode cX10_personGoes 24 = .ok (.if_icmp .eq 50, 3) := dk_159 0 50 (dk_at dksX10_personGoes_1 0 rfl rfl)
theorem dX10_personGoes_27 : decode cX10_personGoes 27 = .ok (.aload_n 0, 1) := dk_42 (dk_at dksX10_personGoes_1 3 rfl rfl)
theorem dX10_personGoes_28 : decode cX10_personGoes 28 = .ok (.getfield 131, 3) := dk_180 0 131 (dk_at dksX10_personGoes_1 4 rfl rfl)
theorem dX10_personGoes_31 : decode cX10_personGoes 31 = .ok (.bipush 7, 2) := dk_16 7 (dk_at dksX10_personGoes_1 7 rfl rfl)
theorem dX10_personGoes_33 : decode cX10_personGoes 33 = .ok (.aload_n 0, 1) := dk_42 (dk_at dksX10_personGoes_1 9 rfl rfl)
theorem dX10_personGoes_34 : decode cX10_personGoes 34 = .ok (.getfield 137, 3) := dk_180 0 137 (dk_at dksX10_personGoes_1 10 rfl rfl)
theorem dX10_personGoes_37 : decode cX10_personGoes 37 = .ok (.bipush 15, 2) := dk_16 15 (dk_at dksX10_personGoes_1 13 rfl rfl)
theorem dX10_personGoes_39 : decode cX10_personGoes 39 = .ok (.iload_n 1, 1) := dk_27 (dk_at dksX10_personGoes_1 15 rfl rfl)
theorem dX10_personGoes_40 : decode cX10_personGoes 40 = .ok (.iadd, 1) := dk_96 (dk_at dksX10_personGoes_1 16 rfl rfl)
theorem dX10_personGoes_41 : decode cX10_personGoes 41 = .ok (.iaload, 1) := dk_46 (dk_at dksX10_personGoes_1 17 rfl rfl)
theorem dX10_personGoes_42 : decode cX10_personGoes 42 = .ok (.imul, 1) := dk_104 (dk_at dksX10_personGoes_1 18 rfl rfl)
theorem dX10_personGoes_43 : decode cX10_personGoes 43 = .ok (.iload_n 2, 1) := dk_28 (dk_at dksX10_personGoes_1 19 rfl rfl)
theorem dX10_personGoes_44 : decode cX10_personGoes 44 = .ok (.iadd, 1) := dk_96 (dk_at dksX10_personGoes_1 20 rfl rfl)
theorem dX10_personGoes_45 : decode cX10_personGoes 45 = .ok (.iaload, 1) := dk_46 (dk_at dksX10_personGoes_1 21 rfl rfl)
theorem dX10_personGoes_46 : decode cX10_personGoes 46 = .ok (.bipush 99, 2) := dk_16 99 (dk_at dksX10_personGoes_1 22 rfl rfl)
theorem dX10_personGoes_48 : decode cX10_personGoes 48 = .ok (.if_icmp .ge 26, 3) := dk_162 0 26 (dk_at dksX10_personGoes_2 0 rfl rfl)
theorem dX10_personGoes_51 : decode cX10_personGoes 51 = .ok (.aload_n 0, 1) := dk_42 (dk_at dksX10_personGoes_2 3 rfl rfl)
theorem dX10_personGoes_52 : decode cX10_personGoes 52 = .ok (.getfield 137, 3) := dk_180 0 137 (dk_at dksX10_personGoes_2 4 rfl rfl)
theorem dX10_personGoes_55 : decode cX10_personGoes 55 = .ok (.bipush 15, 2) := dk_16 15 (dk_at dksX10_personGoes_2 7 rfl rfl)
theorem dX10_personGoes_57 : decode cX10_personGoes 57 = .ok (.iload_n 1, 1) := dk_27 (dk_at dksX10_personGoes_2 9 rfl rfl)
theorem dX10_personGoes_58 : decode cX10_personGoes 58 = .ok (.iadd, 1) := dk_96 (dk_at dksX10_personGoes_2 10 rfl rfl)
theorem dX10_personGoes_59 : decode cX10_personGoes 59 = .ok (.aload_n 0, 1) := dk_42 (dk_at dksX10_personGoes_2 11 rfl rfl)
theorem dX10_personGoes_60 : decode cX10_personGoes 60 = .ok (.aload_n 0, 1) := dk_42 (dk_at dksX10_personGoes_2 12 rfl rfl)
theorem dX10_personGoes_61 : decode cX10_personGoes 61 = .ok (.getfield 137, 3) := dk_180 0 137 (dk_at dksX10_personGoes_2 13 rfl rfl)
theorem dX10_personGoes_64 : decode cX10_personGoes 64 = .ok (.bipush 15, 2) := dk_16 15 (dk_at dksX10_personGoes_2 16 rfl rfl)
theorem dX10_personGoes_66 : decode cX10_personGoes 66 = .ok (.iload_n 1, 1) := dk_27 (dk_at dksX10_personGoes_2 18 rfl rfl)
theorem dX10_personGoes_67 : decode cX10_personGoes 67 = .ok (.iadd, 1) := dk_96 (dk_at dksX10_personGoes_2 19 rfl rfl)
theorem dX10_personGoes_68 : decode cX10_personGoes 68 = .ok (.iaload, 1) := dk_46 (dk_at dksX10_personGoes_2 20 rfl rfl)
theorem dX10_personGoes_69 : decode cX10_personGoes 69 = .ok (.iload_n 2, 1) := dk_28 (dk_at dksX10_personGoes_2 21 rfl rfl)
theorem dX10_personGoes_70 : decode cX10_personGoes 70 = .ok (.invokevirtual 362, 3) := dk_182 1 106 (dk_at dksX10_personGoes_3 0 rfl rfl)
theorem dX10_personGoes_73 : decode cX10_personGoes 73 = .ok (.iastore, 1) := dk_79 (dk_at dksX10_personGoes_3 3 rfl rfl)
theorem dX10_personGoes_74 : decode cX10_personGoes 74 = .ok (.iconst 0, 1) := dk_3 (dk_at dksX10_personGoes_3 4 rfl rfl)
theorem dX10_personGoes_75 : decode cX10_personGoes 75 = .ok (.istore_n 3, 1) := dk_62 (dk_at dksX10_personGoes_3 5 rfl rfl)
theorem dX10_personGoes_76 : decode cX10_personGoes 76 = .ok (.iload_n 3, 1) := dk_29 (dk_at dksX10_personGoes_3 6 rfl rfl)
theorem dX10_personGoes_77 : decode cX10_personGoes 77 = .ok (.aload_n 0, 1) := dk_42 (dk_at dksX10_personGoes_3 7 rfl rfl)
theorem dX10_personGoes_78 : decode cX10_personGoes 78 = .ok (.getfield 76, 3) := dk_180 0 76 (dk_at dksX10_personGoes_3 8 rfl rfl)
theorem dX10_personGoes_81 : decode cX10_personGoes 81 = .ok (.aload_n 0, 1) := dk_42 (dk_at dksX10_personGoes_3 11 rfl rfl)
theorem dX10_personGoes_82 : decode cX10_personGoes 82 = .ok (.getfield 242, 3) := dk_180 0 242 (dk_at dksX10_personGoes_3 12 rfl rfl)
theorem dX10_personGoes_85 : decode cX10_personGoes 85 = .ok (.iaload, 1) := dk_46 (dk_at dksX10_personGoes_3 15 rfl rfl)
theorem dX10_personGoes_86 : decode cX10_personGoes 86 = .ok (.if_icmp .ge 66, 3) := dk_162 0 66 (dk_at dksX10_personGoes_3 16 rfl rfl)
theorem dX10_personGoes_89 : decode cX10_personGoes 89 = .ok (.aload_n 0, 1) := dk_42 (dk_at dksX10_personGoes_3 19 rfl rfl)
theorem dX10_personGoes_90 : decode cX10_personGoes 90 = .ok (.getfield 79, 3) := dk_180 0 79 (dk_at dksX10_personGoes_3 20 rfl rfl)
theorem dX10_personGoes_93 : decode cX10_personGoes 93 = .ok (.bipush 8, 2) := dk_16 8 (dk_at dksX10_personGoes_4 0 rfl rfl)
theorem dX10_personGoes_95 : decode cX10_personGoes 95 = .ok (.aload_n 0, 1) := dk_42 (dk_at dksX10_personGoes_4 2 rfl rfl)
theorem dX10_personGoes_96 : decode cX10_personGoes 96 = .ok (.getfield 242, 3) := dk_180 0 242 (dk_at dksX10_personGoes_4 3 rfl rfl)
theorem dX10_personGoes_99 : decode cX10_personGoes 99 = .ok (.imul, 1) := dk_104 (dk_at dksX10_personGoes_4 6 rfl rfl)
theorem dX10_personGoes_100 : decode cX10_personGoes 100 = .ok (.iload_n 3, 1) := dk_29 (dk_at dksX10_personGoes_4 7 rfl rfl)
theorem dX10_personGoes_101 : decode cX10_personGoes 101 = .ok (.iadd, 1) := dk_96 (dk_at dksX10_personGoes_4 8 rfl rfl)
theorem dX10_personGoes_102 : decode cX10_personGoes 102 = .ok (.iaload, 1) := dk_46 (dk_at dksX10_personGoes_4 9 rfl rfl)
theorem dX10_personGoes_103 : decode cX10_personGoes 103 = .ok (.iload_n 1, 1) := dk_27 (dk_at dksX10_personGoes_4 10 rfl rfl)
theorem dX10_personGoes_104 : decode cX10_personGoes 104 = .ok (.if_icmp .ne 42, 3) := dk_160 0 42 (dk_at dksX10_personGoes_4 11 rfl rfl)
theorem dX10_personGoes_107 : decode cX10_personGoes 107 = .ok (.aload_n 0, 1) := dk_42 (dk_at dksX10_personGoes_4 14 rfl rfl)
theorem dX10_personGoes_108 : decode cX10_personGoes 108 = .ok (.getfield 82, 3) := dk_180 0 82 (dk_at dksX10_personGoes_4 15 rfl rfl)
theorem dX10_personGoes_111 : decode cX10_personGoes 111 = .ok (.bipush 8, 2) := dk_16 8 (dk_at dksX10_personGoes_4 18 rfl rfl)
theorem dX10_personGoes_113 : decode cX10_personGoes 113 = .ok (.aload_n 0, 1) := dk_42 (dk_at dksX10_personGoes_4 20 rfl rfl)
theorem dX10_personGoes_114 : decode cX10_personGoes 114 = .ok (.getfield 242, 3) := dk_180 0 242 (dk_at dksX10_personGoes_4 21 rfl rfl)
theorem dX10_personGoes_117 : decode cX10_personGoes 117 = .ok (.imul, 1) := dk_104 (dk_at dksX10_personGoes_5 0 rfl rfl)
theorem dX10_personGoes_118 : decode cX10_personGoes 118 = .ok (.iload_n 3, 1) := dk_29 (dk_at dksX10_personGoes_5 1 rfl rfl)
theorem dX10_personGoes_119 : decode cX10_personGoes 119 = .ok (.iadd, 1) := dk_96 (dk_at dksX10_personGoes_5 2 rfl rfl)
theorem dX10_personGoes_120 : decode cX10_personGoes 120 = .ok (.iaload, 1) := dk_46 (dk_at dksX10_personGoes_5 3 rfl rfl)
theorem dX10_personGoes_121 : decode cX10_personGoes 121 = .ok (.aload_n 0, 1) := dk_42 (dk_at dksX10_personGoes_5 4 rfl rfl)
theorem dX10_personGoes_122 : decode cX10_personGoes 122 = .ok (.getfield 137, 3) := dk_180 0 137 (dk_at dksX10_personGoes_5 5 rfl rfl)
theorem dX10_personGoes_125 : decode cX10_personGoes 125 = .ok (.bipush 15, 2) := dk_16 15 (dk_at dksX10_personGoes_5 8 rfl rfl)
theorem dX10_personGoes_127 : decode cX10_personGoes 127 = .ok (.iload_n 1, 1) := dk_27 (dk_at dksX10_personGoes_5 10 rfl rfl)
theorem dX10_personGoes_128 : decode cX10_personGoes 128 = .ok (.iadd, 1) := dk_96 (dk_at dksX10_personGoes_5 11 rfl rfl)
theorem dX10_personGoes_129 : decode cX10_personGoes 129 = .ok (.iaload, 1) := dk_46 (dk_at dksX10_personGoes_5 12 rfl rfl)
theorem dX10_personGoes_130 : decode cX10_personGoes 130 = .ok (.if_icmp .ne 16, 3) := dk_160 0 16 (dk_at dksX10_personGoes_5 13 rfl rfl)
theorem dX10_personGoes_133 : decode cX10_personGoes 133 = .ok (.aload_n 0, 1) := dk_42 (dk_at dksX10_personGoes_5 16 rfl rfl)
theorem dX10_personGoes_134 : decode cX10_personGoes 134 = .ok (.getfield 137, 3) := dk_180 0 137 (dk_at dksX10_personGoes_5 17 rfl rfl)
theorem dX10_personGoes_137 : decode cX10_personGoes 137 = .ok (.bipush 75, 2) := dk_16 75 (dk_at dksX10_personGoes_5 20 rfl rfl)
theorem dX10_personGoes_139 : decode cX10_personGoes 139 = .ok (.dup2, 1) := dk_92 (dk_at dksX10_personGoes_5 22 rfl rfl)
theorem dX10_personGoes_140 : decode cX10_personGoes 140 = .ok (.iaload, 1) := dk_46 (dk_at dksX10_personGoes_5 23 rfl rfl)
theorem dX10_personGoes_141 : decode cX10_personGoes 141 = .ok (.iconst 1, 1) := dk_4 (dk_at dksX10_personGoes_6 0 rfl rfl)
theorem dX10_personGoes_142 : decode cX10_personGoes 142 = .ok (.iload_n 3, 1) := dk_29 (dk_at dksX10_personGoes_6 1 rfl rfl)
theorem dX10_personGoes_143 : decode cX10_personGoes 143 = .ok (.ishl, 1) := dk_120 (dk_at dksX10_personGoes_6 2 rfl rfl)
theorem dX10_personGoes_144 : decode cX10_personGoes 144 = .ok (.ior, 1) := dk_128 (dk_at dksX10_personGoes_6 3 rfl rfl)
theorem dX10_personGoes_145 : decode cX10_personGoes 145 = .ok (.iastore, 1) := dk_79 (dk_at dksX10_personGoes_6 4 rfl rfl)
theorem dX10_personGoes_146 : decode cX10_personGoes 146 = .ok (.iinc 3 1, 3) := dk_132 3 1 (dk_at dksX10_personGoes_6 5 rfl rfl)
theorem dX10_personGoes_149 : decode cX10_personGoes 149 = .ok (.goto (-73), 3) := dk_167 255 183 (dk_at dksX10_personGoes_6 8 rfl rfl)
theorem dX10_personGoes_152 : decode cX10_personGoes 152 = .ok (.return_, 1) := dk_177 (dk_at dksX10_personGoes_6 11 rfl rfl)
abbrev cX10_stepTo : ByteArray := prog_21_method_41_code
def yX10_stepTo : MethodName := ⟨RX10, "stepTo", "(II)I"⟩
def dkwX10_stepTo_3 : List UInt8 := [180, 0, 131, 16, 7, 21, 5, 104, 28, 96, 46, 54, 4, 132, 5, 1, 167, 255, 180, 29, 172]
abbrev dktX10_stepTo_3 : List UInt8 := dkwX10_stepTo_3 ++ []
def dkwX10_stepTo_2 : List UInt8 := [180, 0, 131, 16, 7, 21, 5, 104, 28, 96, 46, 21, 4, 161, 0, 6, 167, 0, 20, 21, 5, 62, 42]
abbrev dktX10_stepTo_2 : List UInt8 := dkwX10_stepTo_2 ++ dktX10_stepTo_3
def dkwX10_stepTo_1 : List UInt8 := [180, 0, 49, 16, 7, 42, 180, 0, 242, 104, 27, 96, 46, 21, 5, 122, 4, 126, 153, 0, 40, 42]
abbrev dktX10_stepTo_1 : List UInt8 := dkwX10_stepTo_1 ++ dktX10_stepTo_2
def dkwX10_stepTo_0 : List UInt8 := [27, 62, 16, 99, 54, 4, 3, 54, 5, 21, 5, 42, 180, 0, 46, 42, 180, 0, 242, 46, 162, 0, 68, 42]
abbrev dktX10_stepTo_0 : List UInt8 := dkwX10_stepTo_0 ++ dktX10_stepTo_1
theorem dksX10_stepTo_0 : cX10_stepTo.data.toList.drop 0 = dktX10_stepTo_0 := by decide +kernel
theorem dksX10_stepTo_1 : cX10_stepTo.data.toList.drop 24 = dktX10_stepTo_1 := dk_seg dksX10_stepTo_0 24 rfl rfl
theorem dksX10_stepTo_2 : cX10_stepTo.data.toList.drop 46 = dktX10_stepTo_2 := dk_seg dksX10_stepTo_1 22 rfl rfl
theorem dksX10_stepTo_3 : cX10_stepTo.data.toList.drop 69 = dktX10_stepTo_3 := dk_seg dksX10_stepTo_2 23 rfl rfl
theorem dX10_stepTo_0 : decode cX10_stepTo 0 = .ok (.iload_n 1, 1) := dk_27 (dk_at dksX10_stepTo_0 0 rfl rfl)
theorem dX10_stepTo_1 : decode cX10_stepTo 1 = .ok (.istore_n 3, 1) := dk_62 (dk_at dksX10_stepTo_0 1 rfl rfl)
theorem dX10_stepTo_2 : decode cX10_stepTo 2 = .ok (.bipush 99, 2) := dk_16 99 (dk_at dksX10_stepTo_0 2 rfl rfl)
theorem dX10_stepTo_4 : decode cX10_stepTo 4 = .ok (.istore 4, 2) := dk_54 4 (dk_at dksX10_stepTo_0 4 rfl rfl)
theorem dX10_stepTo_6 : decode cX10_stepTo 6 = .ok (.iconst 0, 1) := dk_3 (dk_at dksX10_stepTo_0 6 rfl rfl)
theorem dX10_stepTo_7 : decode cX10_stepTo 7 = .ok (.istore 5, 2) := dk_54 5 (dk_at dksX10_stepTo_0 7 rfl rfl)
theorem dX10_stepTo_9 : decode cX10_stepTo 9 = .ok (.iload 5, 2) := dk_21 5 (dk_at dksX10_stepTo_0 9 rfl rfl)
theorem dX10_stepTo_11 : decode cX10_stepTo 11 = .ok (.aload_n 0, 1) := dk_42 (dk_at dksX10_stepTo_0 11 rfl rfl)
theorem dX10_stepTo_12 : decode cX10_stepTo 12 = .ok (.getfield 46, 3) := dk_180 0 46 (dk_at dksX10_stepTo_0 12 rfl rfl)
theorem dX10_stepTo_15 : decode cX10_stepTo 15 = .ok (.aload_n 0, 1) := dk_42 (dk_at dksX10_stepTo_0 15 rfl rfl)
theorem dX10_stepTo_16 : decode cX10_stepTo 16 = .ok (.getfield 242, 3) := dk_180 0 242 (dk_at dksX10_stepTo_0 16 rfl rfl)
theorem dX10_stepTo_19 : decode cX10_stepTo 19 = .ok (.iaload, 1) := dk_46 (dk_at dksX10_stepTo_0 19 rfl rfl)
theorem dX10_stepTo_20 : decode cX10_stepTo 20 = .ok (.if_icmp .ge 68, 3) := dk_162 0 68 (dk_at dksX10_stepTo_0 20 rfl rfl)
theorem dX10_stepTo_23 : decode cX10_stepTo 23 = .ok (.aload_n 0, 1) := dk_42 (dk_at dksX10_stepTo_0 23 rfl rfl)
theorem dX10_stepTo_24 : decode cX10_stepTo 24 = .ok (.getfield 49, 3) := dk_180 0 49 (dk_at dksX10_stepTo_1 0 rfl rfl)
theorem dX10_stepTo_27 : decode cX10_stepTo 27 = .ok (.bipush 7, 2) := dk_16 7 (dk_at dksX10_stepTo_1 3 rfl rfl)
theorem dX10_stepTo_29 : decode cX10_stepTo 29 = .ok (.aload_n 0, 1) := dk_42 (dk_at dksX10_stepTo_1 5 rfl rfl)
theorem dX10_stepTo_30 : decode cX10_stepTo 30 = .ok (.getfield 242, 3) := dk_180 0 242 (dk_at dksX10_stepTo_1 6 rfl rfl)
theorem dX10_stepTo_33 : decode cX10_stepTo 33 = .ok (.imul, 1) := dk_104 (dk_at dksX10_stepTo_1 9 rfl rfl)
theorem dX10_stepTo_34 : decode cX10_stepTo 34 = .ok (.iload_n 1, 1) := dk_27 (dk_at dksX10_stepTo_1 10 rfl rfl)
theorem dX10_stepTo_35 : decode cX10_stepTo 35 = .ok (.iadd, 1) := dk_96 (dk_at dksX10_stepTo_1 11 rfl rfl)
theorem dX10_stepTo_36 : decode cX10_stepTo 36 = .ok (.iaload, 1) := dk_46 (dk_at dksX10_stepTo_1 12 rfl rfl)
theorem dX10_stepTo_37 : decode cX10_stepTo 37 = .ok (.iload 5, 2) := dk_21 5 (dk_at dksX10_stepTo_1 13 rfl rfl)
theorem dX10_stepTo_39 : decode cX10_stepTo 39 = .ok (.ishr, 1) := dk_122 (dk_at dksX10_stepTo_1 15 rfl rfl)
theorem dX10_stepTo_40 : decode cX10_stepTo 40 = .ok (.iconst 1, 1) := dk_4 (dk_at dksX10_stepTo_1 16 rfl rfl)
theorem dX10_stepTo_41 : decode cX10_stepTo 41 = .ok (.iand, 1) := dk_126 (dk_at dksX10_stepTo_1 17 rfl rfl)
theorem dX10_stepTo_42 : decode cX10_stepTo 42 = .ok (.ifCond .eq 40, 3) := dk_153 0 40 (dk_at dksX10_stepTo_1 18 rfl rfl)
theorem dX10_stepTo_45 : decode cX10_stepTo 45 = .ok (.aload_n 0, 1) := dk_42 (dk_at dksX10_stepTo_1 21 rfl rfl)
theorem dX10_stepTo_46 : decode cX10_stepTo 46 = .ok (.getfield 131, 3) := dk_180 0 131 (dk_at dksX10_stepTo_2 0 rfl rfl)
theorem dX10_stepTo_49 : decode cX10_stepTo 49 = .ok (.bipush 7, 2) := dk_16 7 (dk_at dksX10_stepTo_2 3 rfl rfl)
theorem dX10_stepTo_51 : decode cX10_stepTo 51 = .ok (.iload 5, 2) := dk_21 5 (dk_at dksX10_stepTo_2 5 rfl rfl)
theorem dX10_stepTo_53 : decode cX10_stepTo 53 = .ok (.imul, 1) := dk_104 (dk_at dksX10_stepTo_2 7 rfl rfl)
theorem dX10_stepTo_54 : decode cX10_stepTo 54 = .ok (.iload_n 2, 1) := dk_28 (dk_at dksX10_stepTo_2 8 rfl rfl)
theorem dX10_stepTo_55 : decode cX10_stepTo 55 = .ok (.iadd, 1) := dk_96 (dk_at dksX10_stepTo_2 9 rfl rfl)
theorem dX10_stepTo_56 : decode cX10_stepTo 56 = .ok (.iaload, 1) := dk_46 (dk_at dksX10_stepTo_2 10 rfl rfl)
theorem dX10_stepTo_57 : decode cX10_stepTo 57 = .ok (.iload 4, 2) := dk_21 4 (dk_at dksX10_stepTo_2 11 rfl rfl)
theorem dX10_stepTo_59 : decode cX10_stepTo 59 = .ok (.if_icmp .lt 6, 3) := dk_161 0 6 (dk_at dksX10_stepTo_2 13 rfl rfl)
theorem dX10_stepTo_62 : decode cX10_stepTo 62 = .ok (.goto 20, 3) := dk_167 0 20 (dk_at dksX10_stepTo_2 16 rfl rfl)
theorem dX10_stepTo_65 : decode cX10_stepTo 65 = .ok (.iload 5, 2) := dk_21 5 (dk_at dksX10_stepTo_2 19 rfl rfl)
theorem dX10_stepTo_67 : decode cX10_stepTo 67 = .ok (.istore_n 3, 1) := dk_62 (dk_at dksX10_stepTo_2 21 rfl rfl)
theorem dX10_stepTo_68 : decode cX10_stepTo 68 = .ok (.aload_n 0, 1) := dk_42 (dk_at dksX10_stepTo_2 22 rfl rfl)
theorem dX10_stepTo_69 : decode cX10_stepTo 69 = .ok (.getfield 131, 3) := dk_180 0 131 (dk_at dksX10_stepTo_3 0 rfl rfl)
theorem dX10_stepTo_72 : decode cX10_stepTo 72 = .ok (.bipush 7, 2) := dk_16 7 (dk_at dksX10_stepTo_3 3 rfl rfl)
theorem dX10_stepTo_74 : decode cX10_stepTo 74 = .ok (.iload 5, 2) := dk_21 5 (dk_at dksX10_stepTo_3 5 rfl rfl)
theorem dX10_stepTo_76 : decode cX10_stepTo 76 = .ok (.imul, 1) := dk_104 (dk_at dksX10_stepTo_3 7 rfl rfl)
theorem dX10_stepTo_77 : decode cX10_stepTo 77 = .ok (.iload_n 2, 1) := dk_28 (dk_at dksX10_stepTo_3 8 rfl rfl)
theorem dX10_stepTo_78 : decode cX10_stepTo 78 = .ok (.iadd, 1) := dk_96 (dk_at dksX10_stepTo_3 9 rfl rfl)
theorem dX10_stepTo_79 : decode cX10_stepTo 79 = .ok (.iaload, 1) := dk_46 (dk_at dksX10_stepTo_3 10 rfl rfl)
theorem dX10_stepTo_80 : decode cX10_stepTo 80 = .ok (.istore 4, 2) := dk_54 4 (dk_at dksX10_stepTo_3 11 rfl rfl)
theorem dX10_stepTo_82 : decode cX10_stepTo 82 = .ok (.iinc 5 1, 3) := dk_132 5 1 (dk_at dksX10_stepTo_3 13 rfl rfl)
theorem dX10_stepTo_85 : decode cX10_stepTo 85 = .ok (.goto (-76), 3) := dk_167 255 180 (dk_at dksX10_stepTo_3 16 rfl rfl)
theorem dX10_stepTo_88 : decode cX10_stepTo 88 = .ok (.iload_n 3, 1) := dk_29 (dk_at dksX10_stepTo_3 19 rfl rfl)
theorem dX10_stepTo_89 : decode cX10_stepTo 89 = .ok (.ireturn, 1) := dk_172 (dk_at dksX10_stepTo_3 20 rfl rfl)
abbrev cX10_isHour : ByteArray := prog_21_method_51_code
def yX10_isHour : MethodName := ⟨RX10, "isHour", "()Z"⟩
def dkwX10_isHour_1 : List UInt8 := [184, 1, 78, 172]
abbrev dktX10_isHour_1 : List UInt8 := dkwX10_isHour_1 ++ []
def dkwX10_isHour_0 : List UInt8 := [42, 182, 1, 82, 42, 180, 0, 85, 42, 180, 0, 242, 46, 42, 180, 0, 88, 42, 180, 0, 242, 46, 4, 100]
abbrev dktX10_isHour_0 : List UInt8 := dkwX10_isHour_0 ++ dktX10_isHour_1
theorem dksX10_isHour_0 : cX10_isHour.data.toList.drop 0 = dktX10_isHour_0 := by decide +kernel
theorem dksX10_isHour_1 : cX10_isHour.data.toList.drop 24 = dktX10_isHour_1 := dk_seg dksX10_isHour_0 24 rfl rfl
theorem dX10_isHour_0 : decode cX10_isHour 0 = .ok (.aload_n 0, 1) := dk_42 (dk_at dksX10_isHour_0 0 rfl rfl)
theorem dX10_isHour_1 : decode cX10_isHour 1 = .ok (.invokevirtual 338, 3) := dk_182 1 82 (dk_at dksX10_isHour_0 1 rfl rfl)
theorem dX10_isHour_4 : decode cX10_isHour 4 = .ok (.aload_n 0, 1) := dk_42 (dk_at dksX10_isHour_0 4 rfl rfl)
theorem dX10_isHour_5 : decode cX10_isHour 5 = .ok (.getfield 85, 3) := dk_180 0 85 (dk_at dksX10_isHour_0 5 rfl rfl)
theorem dX10_isHour_8 : decode cX10_isHour 8 = .ok (.aload_n 0, 1) := dk_42 (dk_at dksX10_isHour_0 8 rfl rfl)
theorem dX10_isHour_9 : decode cX10_isHour 9 = .ok (.getfield 242, 3) := dk_180 0 242 (dk_at dksX10_isHour_0 9 rfl rfl)
theorem dX10_isHour_12 : decode cX10_isHour 12 = .ok (.iaload, 1) := dk_46 (dk_at dksX10_isHour_0 12 rfl rfl)
theorem dX10_isHour_13 : decode cX10_isHour 13 = .ok (.aload_n 0, 1) := dk_42 (dk_at dksX10_isHour_0 13 rfl rfl)
theorem dX10_isHour_14 : decode cX10_isHour 14 = .ok (.getfield 88, 3) := dk_180 0 88 (dk_at dksX10_isHour_0 14 rfl rfl)
theorem dX10_isHour_17 : decode cX10_isHour 17 = .ok (.aload_n 0, 1) := dk_42 (dk_at dksX10_isHour_0 17 rfl rfl)
theorem dX10_isHour_18 : decode cX10_isHour 18 = .ok (.getfield 242, 3) := dk_180 0 242 (dk_at dksX10_isHour_0 18 rfl rfl)
theorem dX10_isHour_21 : decode cX10_isHour 21 = .ok (.iaload, 1) := dk_46 (dk_at dksX10_isHour_0 21 rfl rfl)
theorem dX10_isHour_22 : decode cX10_isHour 22 = .ok (.iconst 1, 1) := dk_4 (dk_at dksX10_isHour_0 22 rfl rfl)
theorem dX10_isHour_23 : decode cX10_isHour 23 = .ok (.isub, 1) := dk_100 (dk_at dksX10_isHour_0 23 rfl rfl)
theorem dX10_isHour_24 : decode cX10_isHour 24 = .ok (.invokestatic 334, 3) := dk_184 1 78 (dk_at dksX10_isHour_1 0 rfl rfl)
theorem dX10_isHour_27 : decode cX10_isHour 27 = .ok (.ireturn, 1) := dk_172 (dk_at dksX10_isHour_1 3 rfl rfl)
abbrev cX10_dogsRest : ByteArray := prog_21_method_64_code
def yX10_dogsRest : MethodName := ⟨RX10, "dogsRest", "()V"⟩
def dkwX10_dogsRest_3 : List UInt8 := [27, 96, 3, 79, 132, 1, 1, 167, 255, 230, 177]
abbrev dktX10_dogsRest_3 : List UInt8 := dkwX10_dogsRest_3 ++ []
def dkwX10_dogsRest_2 : List UInt8 := [167, 255, 212, 3, 60, 27, 42, 180, 0, 67, 42, 180, 0, 242, 46, 162, 0, 19, 42, 180, 0, 137, 16, 27]
abbrev dktX10_dogsRest_2 : List UInt8 := dkwX10_dogsRest_2 ++ dktX10_dogsRest_3
def dkwX10_dogsRest_1 : List UInt8 := [8, 42, 180, 0, 242, 104, 27, 96, 46, 79, 42, 180, 0, 137, 8, 27, 96, 3, 79, 132, 1, 1]
abbrev dktX10_dogsRest_1 : List UInt8 := dkwX10_dogsRest_1 ++ dktX10_dogsRest_2
def dkwX10_dogsRest_0 : List UInt8 := [3, 60, 27, 42, 180, 0, 55, 42, 180, 0, 242, 46, 162, 0, 37, 42, 180, 0, 137, 27, 42, 180, 0, 58]
abbrev dktX10_dogsRest_0 : List UInt8 := dkwX10_dogsRest_0 ++ dktX10_dogsRest_1
theorem dksX10_dogsRest_0 : cX10_dogsRest.data.toList.drop 0 = dktX10_dogsRest_0 := by decide +kernel
theorem dksX10_dogsRest_1 : cX10_dogsRest.data.toList.drop 24 = dktX10_dogsRest_1 := dk_seg dksX10_dogsRest_0 24 rfl rfl
theorem dksX10_dogsRest_2 : cX10_dogsRest.data.toList.drop 46 = dktX10_dogsRest_2 := dk_seg dksX10_dogsRest_1 22 rfl rfl
theorem dksX10_dogsRest_3 : cX10_dogsRest.data.toList.drop 70 = dktX10_dogsRest_3 := dk_seg dksX10_dogsRest_2 24 rfl rfl
theorem dX10_dogsRest_0 : decode cX10_dogsRest 0 = .ok (.iconst 0, 1) := dk_3 (dk_at dksX10_dogsRest_0 0 rfl rfl)
theorem dX10_dogsRest_1 : decode cX10_dogsRest 1 = .ok (.istore_n 1, 1) := dk_60 (dk_at dksX10_dogsRest_0 1 rfl rfl)
theorem dX10_dogsRest_2 : decode cX10_dogsRest 2 = .ok (.iload_n 1, 1) := dk_27 (dk_at dksX10_dogsRest_0 2 rfl rfl)
theorem dX10_dogsRest_3 : decode cX10_dogsRest 3 = .ok (.aload_n 0, 1) := dk_42 (dk_at dksX10_dogsRest_0 3 rfl rfl)
theorem dX10_dogsRest_4 : decode cX10_dogsRest 4 = .ok (.getfield 55, 3) := dk_180 0 55 (dk_at dksX10_dogsRest_0 4 rfl rfl)
theorem dX10_dogsRest_7 : decode cX10_dogsRest 7 = .ok (.aload_n 0, 1) := dk_42 (dk_at dksX10_dogsRest_0 7 rfl rfl)
theorem dX10_dogsRest_8 : decode cX10_dogsRest 8 = .ok (.getfield 242, 3) := dk_180 0 242 (dk_at dksX10_dogsRest_0 8 rfl rfl)
theorem dX10_dogsRest_11 : decode cX10_dogsRest 11 = .ok (.iaload, 1) := dk_46 (dk_at dksX10_dogsRest_0 11 rfl rfl)
theorem dX10_dogsRest_12 : decode cX10_dogsRest 12 = .ok (.if_icmp .ge 37, 3) := dk_162 0 37 (dk_at dksX10_dogsRest_0 12 rfl rfl)
theorem dX10_dogsRest_15 : decode cX10_dogsRest 15 = .ok (.aload_n 0, 1) := dk_42 (dk_at dksX10_dogsRest_0 15 rfl rfl)
theorem dX10_dogsRest_16 : decode cX10_dogsRest 16 = .ok (.getfield 137, 3) := dk_180 0 137 (dk_at dksX10_dogsRest_0 16 rfl rfl)
theorem dX10_dogsRest_19 : decode cX10_dogsRest 19 = .ok (.iload_n 1, 1) := dk_27 (dk_at dksX10_dogsRest_0 19 rfl rfl)
theorem dX10_dogsRest_20 : decode cX10_dogsRest 20 = .ok (.aload_n 0, 1) := dk_42 (dk_at dksX10_dogsRest_0 20 rfl rfl)
theorem dX10_dogsRest_21 : decode cX10_dogsRest 21 = .ok (.getfield 58, 3) := dk_180 0 58 (dk_at dksX10_dogsRest_0 21 rfl rfl)
theorem dX10_dogsRest_24 : decode cX10_dogsRest 24 = .ok (.iconst 5, 1) := dk_8 (dk_at dksX10_dogsRest_1 0 rfl rfl)
theorem dX10_dogsRest_25 : decode cX10_dogsRest 25 = .ok (.aload_n 0, 1) := dk_42 (dk_at dksX10_dogsRest_1 1 rfl rfl)
theorem dX10_dogsRest_26 : decode cX10_dogsRest 26 = .ok (.getfield 242, 3) := dk_180 0 242 (dk_at dksX10_dogsRest_1 2 rfl rfl)
theorem dX10_dogsRest_29 : decode cX10_dogsRest 29 = .ok (.imul, 1) := dk_104 (dk_at dksX10_dogsRest_1 5 rfl rfl)
theorem dX10_dogsRest_30 : decode cX10_dogsRest 30 = .ok (.iload_n 1, 1) := dk_27 (dk_at dksX10_dogsRest_1 6 rfl rfl)
theorem dX10_dogsRest_31 : decode cX10_dogsRest 31 = .ok (.iadd, 1) := dk_96 (dk_at dksX10_dogsRest_1 7 rfl rfl)
theorem dX10_dogsRest_32 : decode cX10_dogsRest 32 = .ok (.iaload, 1) := dk_46 (dk_at dksX10_dogsRest_1 8 rfl rfl)
theorem dX10_dogsRest_33 : decode cX10_dogsRest 33 = .ok (.iastore, 1) := dk_79 (dk_at dksX10_dogsRest_1 9 rfl rfl)
theorem dX10_dogsRest_34 : decode cX10_dogsRest 34 = .ok (.aload_n 0, 1) := dk_42 (dk_at dksX10_dogsRest_1 10 rfl rfl)
theorem dX10_dogsRest_35 : decode cX10_dogsRest 35 = .ok (.getfield 137, 3) := dk_180 0 137 (dk_at dksX10_dogsRest_1 11 rfl rfl)
theorem dX10_dogsRest_38 : decode cX10_dogsRest 38 = .ok (.iconst 5, 1) := dk_8 (dk_at dksX10_dogsRest_1 14 rfl rfl)
theorem dX10_dogsRest_39 : decode cX10_dogsRest 39 = .ok (.iload_n 1, 1) := dk_27 (dk_at dksX10_dogsRest_1 15 rfl rfl)
theorem dX10_dogsRest_40 : decode cX10_dogsRest 40 = .ok (.iadd, 1) := dk_96 (dk_at dksX10_dogsRest_1 16 rfl rfl)
theorem dX10_dogsRest_41 : decode cX10_dogsRest 41 = .ok (.iconst 0, 1) := dk_3 (dk_at dksX10_dogsRest_1 17 rfl rfl)
theorem dX10_dogsRest_42 : decode cX10_dogsRest 42 = .ok (.iastore, 1) := dk_79 (dk_at dksX10_dogsRest_1 18 rfl rfl)
theorem dX10_dogsRest_43 : decode cX10_dogsRest 43 = .ok (.iinc 1 1, 3) := dk_132 1 1 (dk_at dksX10_dogsRest_1 19 rfl rfl)
theorem dX10_dogsRest_46 : decode cX10_dogsRest 46 = .ok (.goto (-44), 3) := dk_167 255 212 (dk_at dksX10_dogsRest_2 0 rfl rfl)
theorem dX10_dogsRest_49 : decode cX10_dogsRest 49 = .ok (.iconst 0, 1) := dk_3 (dk_at dksX10_dogsRest_2 3 rfl rfl)
theorem dX10_dogsRest_50 : decode cX10_dogsRest 50 = .ok (.istore_n 1, 1) := dk_60 (dk_at dksX10_dogsRest_2 4 rfl rfl)
theorem dX10_dogsRest_51 : decode cX10_dogsRest 51 = .ok (.iload_n 1, 1) := dk_27 (dk_at dksX10_dogsRest_2 5 rfl rfl)
theorem dX10_dogsRest_52 : decode cX10_dogsRest 52 = .ok (.aload_n 0, 1) := dk_42 (dk_at dksX10_dogsRest_2 6 rfl rfl)
theorem dX10_dogsRest_53 : decode cX10_dogsRest 53 = .ok (.getfield 67, 3) := dk_180 0 67 (dk_at dksX10_dogsRest_2 7 rfl rfl)
theorem dX10_dogsRest_56 : decode cX10_dogsRest 56 = .ok (.aload_n 0, 1) := dk_42 (dk_at dksX10_dogsRest_2 10 rfl rfl)
theorem dX10_dogsRest_57 : decode cX10_dogsRest 57 = .ok (.getfield 242, 3) := dk_180 0 242 (dk_at dksX10_dogsRest_2 11 rfl rfl)
theorem dX10_dogsRest_60 : decode cX10_dogsRest 60 = .ok (.iaload, 1) := dk_46 (dk_at dksX10_dogsRest_2 14 rfl rfl)
theorem dX10_dogsRest_61 : decode cX10_dogsRest 61 = .ok (.if_icmp .ge 19, 3) := dk_162 0 19 (dk_at dksX10_dogsRest_2 15 rfl rfl)
theorem dX10_dogsRest_64 : decode cX10_dogsRest 64 = .ok (.aload_n 0, 1) := dk_42 (dk_at dksX10_dogsRest_2 18 rfl rfl)
theorem dX10_dogsRest_65 : decode cX10_dogsRest 65 = .ok (.getfield 137, 3) := dk_180 0 137 (dk_at dksX10_dogsRest_2 19 rfl rfl)
theorem dX10_dogsRest_68 : decode cX10_dogsRest 68 = .ok (.bipush 27, 2) := dk_16 27 (dk_at dksX10_dogsRest_2 22 rfl rfl)
theorem dX10_dogsRest_70 : decode cX10_dogsRest 70 = .ok (.iload_n 1, 1) := dk_27 (dk_at dksX10_dogsRest_3 0 rfl rfl)
theorem dX10_dogsRest_71 : decode cX10_dogsRest 71 = .ok (.iadd, 1) := dk_96 (dk_at dksX10_dogsRest_3 1 rfl rfl)
theorem dX10_dogsRest_72 : decode cX10_dogsRest 72 = .ok (.iconst 0, 1) := dk_3 (dk_at dksX10_dogsRest_3 2 rfl rfl)
theorem dX10_dogsRest_73 : decode cX10_dogsRest 73 = .ok (.iastore, 1) := dk_79 (dk_at dksX10_dogsRest_3 3 rfl rfl)
theorem dX10_dogsRest_74 : decode cX10_dogsRest 74 = .ok (.iinc 1 1, 3) := dk_132 1 1 (dk_at dksX10_dogsRest_3 4 rfl rfl)
theorem dX10_dogsRest_77 : decode cX10_dogsRest 77 = .ok (.goto (-26), 3) := dk_167 255 230 (dk_at dksX10_dogsRest_3 7 rfl rfl)
theorem dX10_dogsRest_80 : decode cX10_dogsRest 80 = .ok (.return_, 1) := dk_177 (dk_at dksX10_dogsRest_3 10 rfl rfl)
abbrev cX10_dogGoes : ByteArray := prog_21_method_63_code
def yX10_dogGoes : MethodName := ⟨RX10, "dogGoes", "(I)V"⟩
def dkwX10_dogGoes_6 : List UInt8 := [180, 0, 137, 16, 31, 28, 96, 92, 46, 4, 96, 79, 177]
abbrev dktX10_dogGoes_6 : List UInt8 := dkwX10_dogGoes_6 ++ []
def dkwX10_dogGoes_5 : List UInt8 := [42, 180, 0, 137, 16, 19, 28, 96, 16, 254, 79, 42, 180, 0, 137, 16, 27, 28, 96, 4, 79, 42]
abbrev dktX10_dogGoes_5 : List UInt8 := dkwX10_dogGoes_5 ++ dktX10_dogGoes_6
def dkwX10_dogGoes_4 : List UInt8 := [42, 180, 0, 137, 16, 10, 27, 96, 92, 46, 29, 96, 79, 177, 42, 180, 0, 137, 16, 15, 28, 96, 3, 79]
abbrev dktX10_dogGoes_4 : List UInt8 := dkwX10_dogGoes_4 ++ dktX10_dogGoes_5
def dkwX10_dogGoes_3 : List UInt8 := [180, 0, 137, 16, 23, 28, 96, 92, 46, 29, 100, 79, 42, 180, 0, 137, 8, 27, 96, 92, 46, 29, 96, 79]
abbrev dktX10_dogGoes_3 : List UInt8 := dkwX10_dogGoes_3 ++ dktX10_dogGoes_4
def dkwX10_dogGoes_2 : List UInt8 := [96, 46, 182, 1, 106, 79, 177, 42, 27, 28, 182, 1, 112, 154, 0, 49, 42, 27, 28, 182, 1, 116, 62, 42]
abbrev dktX10_dogGoes_2 : List UInt8 := dkwX10_dogGoes_2 ++ dktX10_dogGoes_3
def dkwX10_dogGoes_1 : List UInt8 := [96, 46, 159, 0, 29, 42, 180, 0, 137, 27, 42, 42, 180, 0, 137, 27, 46, 42, 180, 0, 137, 16, 15, 28]
abbrev dktX10_dogGoes_1 : List UInt8 := dkwX10_dogGoes_1 ++ dktX10_dogGoes_2
def dkwX10_dogGoes_0 : List UInt8 := [42, 27, 182, 1, 109, 61, 28, 156, 0, 4, 177, 42, 180, 0, 137, 27, 46, 42, 180, 0, 137, 16, 15, 28]
abbrev dktX10_dogGoes_0 : List UInt8 := dkwX10_dogGoes_0 ++ dktX10_dogGoes_1
theorem dksX10_dogGoes_0 : cX10_dogGoes.data.toList.drop 0 = dktX10_dogGoes_0 := by decide +kernel
theorem dksX10_dogGoes_1 : cX10_dogGoes.data.toList.drop 24 = dktX10_dogGoes_1 := dk_seg dksX10_dogGoes_0 24 rfl rfl
theorem dksX10_dogGoes_2 : cX10_dogGoes.data.toList.drop 48 = dktX10_dogGoes_2 := dk_seg dksX10_dogGoes_1 24 rfl rfl
theorem dksX10_dogGoes_3 : cX10_dogGoes.data.toList.drop 72 = dktX10_dogGoes_3 := dk_seg dksX10_dogGoes_2 24 rfl rfl
theorem dksX10_dogGoes_4 : cX10_dogGoes.data.toList.drop 96 = dktX10_dogGoes_4 := dk_seg dksX10_dogGoes_3 24 rfl rfl
theorem dksX10_dogGoes_5 : cX10_dogGoes.data.toList.drop 120 = dktX10_dogGoes_5 := dk_seg dksX10_dogGoes_4 24 rfl rfl
theorem dksX10_dogGoes_6 : cX10_dogGoes.data.toList.drop 142 = dktX10_dogGoes_6 := dk_seg dksX10_dogGoes_5 22 rfl rfl
theorem dX10_dogGoes_0 : decode cX10_dogGoes 0 = .ok (.aload_n 0, 1) := dk_42 (dk_at dksX10_dogGoes_0 0 rfl rfl)
theorem dX10_dogGoes_1 : decode cX10_dogGoes 1 = .ok (.iload_n 1, 1) := dk_27 (dk_at dksX10_dogGoes_0 1 rfl rfl)
theorem dX10_dogGoes_2 : decode cX10_dogGoes 2 = .ok (.invokevirtual 365, 3) := dk_182 1 109 (dk_at dksX10_dogGoes_0 2 rfl rfl)
theorem dX10_dogGoes_5 : decode cX10_dogGoes 5 = .ok (.istore_n 2, 1) := dk_61 (dk_at dksX10_dogGoes_0 5 rfl rfl)
theorem dX10_dogGoes_6 : decode cX10_dogGoes 6 = .ok (.iload_n 2, 1) := dk_28 (dk_at dksX10_dogGoes_0 6 rfl rfl)
theorem dX10_dogGoes_7 : decode cX10_dogGoes 7 = .ok (.ifCond .ge 4, 3) := dk_156 0 4 (dk_at dksX10_dogGoes_0 7 rfl rfl)
theorem dX10_dogGoes_10 : decode cX10_dogGoes 10 = .ok (.return_, 1) := dk_177 (dk_at dksX10_dogGoes_0 10 rfl rfl)
theorem dX10_dogGoes_11 : decode cX10_dogGoes 11 = .ok (.aload_n 0, 1) := dk_42 (dk_at dksX10_dogGoes_0 11 rfl rfl)
theorem dX10_dogGoes_12 : decode cX10_dogGoes 12 = .ok (.getfield 137, 3) := dk_180 0 137 (dk_at dksX10_dogGoes_0 12 rfl rfl)
theorem dX10_dogGoes_15 : decode cX10_dogGoes 15 = .ok (.iload_n 1, 1) := dk_27 (dk_at dksX10_dogGoes_0 15 rfl rfl)
theorem dX10_dogGoes_16 : decode cX10_dogGoes 16 = .ok (.iaload, 1) := dk_46 (dk_at dksX10_dogGoes_0 16 rfl rfl)
theorem dX10_dogGoes_17 : decode cX10_dogGoes 17 = .ok (.aload_n 0, 1) := dk_42 (dk_at dksX10_dogGoes_0 17 rfl rfl)
theorem dX10_dogGoes_18 : decode cX10_dogGoes 18 = .ok (.getfield 137, 3) := dk_180 0 137 (dk_at dksX10_dogGoes_0 18 rfl rfl)
theorem dX10_dogGoes_21 : decode cX10_dogGoes 21 = .ok (.bipush 15, 2) := dk_16 15 (dk_at dksX10_dogGoes_0 21 rfl rfl)
theorem dX10_dogGoes_23 : decode cX10_dogGoes 23 = .ok (.iload_n 2, 1) := dk_28 (dk_at dksX10_dogGoes_0 23 rfl rfl)
theorem dX10_dogGoes_24 : decode cX10_dogGoes 24 = .ok (.iadd, 1) := dk_96 (dk_at dksX10_dogGoes_1 0 rfl rfl)
theorem dX10_dogGoes_25 : decode cX10_dogGoes 25 = .ok (.iaload, 1) := dk_46 (dk_at dksX10_dogGoes_1 1 rfl rfl)
theorem dX10_dogGoes_26 : decode cX10_dogGoes 26 = .ok (.if_icmp .eq 29, 3) := dk_159 0 29 (dk_at dksX10_dogGoes_1 2 rfl rfl)
theorem dX10_dogGoes_29 : decode cX10_dogGoes 29 = .ok (.aload_n 0, 1) := dk_42 (dk_at dksX10_dogGoes_1 5 rfl rfl)
theorem dX10_dogGoes_30 : decode cX10_dogGoes 30 = .ok (.getfield 137, 3) := dk_180 0 137 (dk_at dksX10_dogGoes_1 6 rfl rfl)
theorem dX10_dogGoes_33 : decode cX10_dogGoes 33 = .ok (.iload_n 1, 1) := dk_27 (dk_at dksX10_dogGoes_1 9 rfl rfl)
theorem dX10_dogGoes_34 : decode cX10_dogGoes 34 = .ok (.aload_n 0, 1) := dk_42 (dk_at dksX10_dogGoes_1 10 rfl rfl)
theorem dX10_dogGoes_35 : decode cX10_dogGoes 35 = .ok (.aload_n 0, 1) := dk_42 (dk_at dksX10_dogGoes_1 11 rfl rfl)
theorem dX10_dogGoes_36 : decode cX10_dogGoes 36 = .ok (.getfield 137, 3) := dk_180 0 137 (dk_at dksX10_dogGoes_1 12 rfl rfl)
theorem dX10_dogGoes_39 : decode cX10_dogGoes 39 = .ok (.iload_n 1, 1) := dk_27 (dk_at dksX10_dogGoes_1 15 rfl rfl)
theorem dX10_dogGoes_40 : decode cX10_dogGoes 40 = .ok (.iaload, 1) := dk_46 (dk_at dksX10_dogGoes_1 16 rfl rfl)
theorem dX10_dogGoes_41 : decode cX10_dogGoes 41 = .ok (.aload_n 0, 1) := dk_42 (dk_at dksX10_dogGoes_1 17 rfl rfl)
theorem dX10_dogGoes_42 : decode cX10_dogGoes 42 = .ok (.getfield 137, 3) := dk_180 0 137 (dk_at dksX10_dogGoes_1 18 rfl rfl)
theorem dX10_dogGoes_45 : decode cX10_dogGoes 45 = .ok (.bipush 15, 2) := dk_16 15 (dk_at dksX10_dogGoes_1 21 rfl rfl)
theorem dX10_dogGoes_47 : decode cX10_dogGoes 47 = .ok (.iload_n 2, 1) := dk_28 (dk_at dksX10_dogGoes_1 23 rfl rfl)
theorem dX10_dogGoes_48 : decode cX10_dogGoes 48 = .ok (.iadd, 1) := dk_96 (dk_at dksX10_dogGoes_2 0 rfl rfl)
theorem dX10_dogGoes_49 : decode cX10_dogGoes 49 = .ok (.iaload, 1) := dk_46 (dk_at dksX10_dogGoes_2 1 rfl rfl)
theorem dX10_dogGoes_50 : decode cX10_dogGoes 50 = .ok (.invokevirtual 362, 3) := dk_182 1 106 (dk_at dksX10_dogGoes_2 2 rfl rfl)
theorem dX10_dogGoes_53 : decode cX10_dogGoes 53 = .ok (.iastore, 1) := dk_79 (dk_at dksX10_dogGoes_2 5 rfl rfl)
theorem dX10_dogGoes_54 : decode cX10_dogGoes 54 = .ok (.return_, 1) := dk_177 (dk_at dksX10_dogGoes_2 6 rfl rfl)
theorem dX10_dogGoes_55 : decode cX10_dogGoes 55 = .ok (.aload_n 0, 1) := dk_42 (dk_at dksX10_dogGoes_2 7 rfl rfl)
theorem dX10_dogGoes_56 : decode cX10_dogGoes 56 = .ok (.iload_n 1, 1) := dk_27 (dk_at dksX10_dogGoes_2 8 rfl rfl)
theorem dX10_dogGoes_57 : decode cX10_dogGoes 57 = .ok (.iload_n 2, 1) := dk_28 (dk_at dksX10_dogGoes_2 9 rfl rfl)
theorem dX10_dogGoes_58 : decode cX10_dogGoes 58 = .ok (.invokevirtual 368, 3) := dk_182 1 112 (dk_at dksX10_dogGoes_2 10 rfl rfl)
theorem dX10_dogGoes_61 : decode cX10_dogGoes 61 = .ok (.ifCond .ne 49, 3) := dk_154 0 49 (dk_at dksX10_dogGoes_2 13 rfl rfl)
theorem dX10_dogGoes_64 : decode cX10_dogGoes 64 = .ok (.aload_n 0, 1) := dk_42 (dk_at dksX10_dogGoes_2 16 rfl rfl)
theorem dX10_dogGoes_65 : decode cX10_dogGoes 65 = .ok (.iload_n 1, 1) := dk_27 (dk_at dksX10_dogGoes_2 17 rfl rfl)
theorem dX10_dogGoes_66 : decode cX10_dogGoes 66 = .ok (.iload_n 2, 1) := dk_28 (dk_at dksX10_dogGoes_2 18 rfl rfl)
theorem dX10_dogGoes_67 : decode cX10_dogGoes 67 = .ok (.invokevirtual 372, 3) := dk_182 1 116 (dk_at dksX10_dogGoes_2 19 rfl rfl)
theorem dX10_dogGoes_70 : decode cX10_dogGoes 70 = .ok (.istore_n 3, 1) := dk_62 (dk_at dksX10_dogGoes_2 22 rfl rfl)
theorem dX10_dogGoes_71 : decode cX10_dogGoes 71 = .ok (.aload_n 0, 1) := dk_42 (dk_at dksX10_dogGoes_2 23 rfl rfl)
theorem dX10_dogGoes_72 : decode cX10_dogGoes 72 = .ok (.getfield 137, 3) := dk_180 0 137 (dk_at dksX10_dogGoes_3 0 rfl rfl)
theorem dX10_dogGoes_75 : decode cX10_dogGoes 75 = .ok (.bipush 23, 2) := dk_16 23 (dk_at dksX10_dogGoes_3 3 rfl rfl)
theorem dX10_dogGoes_77 : decode cX10_dogGoes 77 = .ok (.iload_n 2, 1) := dk_28 (dk_at dksX10_dogGoes_3 5 rfl rfl)
theorem dX10_dogGoes_78 : decode cX10_dogGoes 78 = .ok (.iadd, 1) := dk_96 (dk_at dksX10_dogGoes_3 6 rfl rfl)
theorem dX10_dogGoes_79 : decode cX10_dogGoes 79 = .ok (.dup2, 1) := dk_92 (dk_at dksX10_dogGoes_3 7 rfl rfl)
theorem dX10_dogGoes_80 : decode cX10_dogGoes 80 = .ok (.iaload, 1) := dk_46 (dk_at dksX10_dogGoes_3 8 rfl rfl)
theorem dX10_dogGoes_81 : decode cX10_dogGoes 81 = .ok (.iload_n 3, 1) := dk_29 (dk_at dksX10_dogGoes_3 9 rfl rfl)
theorem dX10_dogGoes_82 : decode cX10_dogGoes 82 = .ok (.isub, 1) := dk_100 (dk_at dksX10_dogGoes_3 10 rfl rfl)
theorem dX10_dogGoes_83 : decode cX10_dogGoes 83 = .ok (.iastore, 1) := dk_79 (dk_at dksX10_dogGoes_3 11 rfl rfl)
theorem dX10_dogGoes_84 : decode cX10_dogGoes 84 = .ok (.aload_n 0, 1) := dk_42 (dk_at dksX10_dogGoes_3 12 rfl rfl)
theorem dX10_dogGoes_85 : decode cX10_dogGoes 85 = .ok (.getfield 137, 3) := dk_180 0 137 (dk_at dksX10_dogGoes_3 13 rfl rfl)
theorem dX10_dogGoes_88 : decode cX10_dogGoes 88 = .ok (.iconst 5, 1) := dk_8 (dk_at dksX10_dogGoes_3 16 rfl rfl)
theorem dX10_dogGoes_89 : decode cX10_dogGoes 89 = .ok (.iload_n 1, 1) := dk_27 (dk_at dksX10_dogGoes_3 17 rfl rfl)
theorem dX10_dogGoes_90 : decode cX10_dogGoes 90 = .ok (.iadd, 1) := dk_96 (dk_at dksX10_dogGoes_3 18 rfl rfl)
theorem dX10_dogGoes_91 : decode cX10_dogGoes 91 = .ok (.dup2, 1) := dk_92 (dk_at dksX10_dogGoes_3 19 rfl rfl)
theorem dX10_dogGoes_92 : decode cX10_dogGoes 92 = .ok (.iaload, 1) := dk_46 (dk_at dksX10_dogGoes_3 20 rfl rfl)
theorem dX10_dogGoes_93 : decode cX10_dogGoes 93 = .ok (.iload_n 3, 1) := dk_29 (dk_at dksX10_dogGoes_3 21 rfl rfl)
theorem dX10_dogGoes_94 : decode cX10_dogGoes 94 = .ok (.iadd, 1) := dk_96 (dk_at dksX10_dogGoes_3 22 rfl rfl)
theorem dX10_dogGoes_95 : decode cX10_dogGoes 95 = .ok (.iastore, 1) := dk_79 (dk_at dksX10_dogGoes_3 23 rfl rfl)
theorem dX10_dogGoes_96 : decode cX10_dogGoes 96 = .ok (.aload_n 0, 1) := dk_42 (dk_at dksX10_dogGoes_4 0 rfl rfl)
theorem dX10_dogGoes_97 : decode cX10_dogGoes 97 = .ok (.getfield 137, 3) := dk_180 0 137 (dk_at dksX10_dogGoes_4 1 rfl rfl)
theorem dX10_dogGoes_100 : decode cX10_dogGoes 100 = .ok (.bipush 10, 2) := dk_16 10 (dk_at dksX10_dogGoes_4 4 rfl rfl)
theorem dX10_dogGoes_102 : decode cX10_dogGoes 102 = .ok (.iload_n 1, 1) := dk_27 (dk_at dksX10_dogGoes_4 6 rfl rfl)
theorem dX10_dogGoes_103 : decode cX10_dogGoes 103 = .ok (.iadd, 1) := dk_96 (dk_at dksX10_dogGoes_4 7 rfl rfl)
theorem dX10_dogGoes_104 : decode cX10_dogGoes 104 = .ok (.dup2, 1) := dk_92 (dk_at dksX10_dogGoes_4 8 rfl rfl)
theorem dX10_dogGoes_105 : decode cX10_dogGoes 105 = .ok (.iaload, 1) := dk_46 (dk_at dksX10_dogGoes_4 9 rfl rfl)
theorem dX10_dogGoes_106 : decode cX10_dogGoes 106 = .ok (.iload_n 3, 1) := dk_29 (dk_at dksX10_dogGoes_4 10 rfl rfl)
theorem dX10_dogGoes_107 : decode cX10_dogGoes 107 = .ok (.iadd, 1) := dk_96 (dk_at dksX10_dogGoes_4 11 rfl rfl)
theorem dX10_dogGoes_108 : decode cX10_dogGoes 108 = .ok (.iastore, 1) := dk_79 (dk_at dksX10_dogGoes_4 12 rfl rfl)
theorem dX10_dogGoes_109 : decode cX10_dogGoes 109 = .ok (.return_, 1) := dk_177 (dk_at dksX10_dogGoes_4 13 rfl rfl)
theorem dX10_dogGoes_110 : decode cX10_dogGoes 110 = .ok (.aload_n 0, 1) := dk_42 (dk_at dksX10_dogGoes_4 14 rfl rfl)
theorem dX10_dogGoes_111 : decode cX10_dogGoes 111 = .ok (.getfield 137, 3) := dk_180 0 137 (dk_at dksX10_dogGoes_4 15 rfl rfl)
theorem dX10_dogGoes_114 : decode cX10_dogGoes 114 = .ok (.bipush 15, 2) := dk_16 15 (dk_at dksX10_dogGoes_4 18 rfl rfl)
theorem dX10_dogGoes_116 : decode cX10_dogGoes 116 = .ok (.iload_n 2, 1) := dk_28 (dk_at dksX10_dogGoes_4 20 rfl rfl)
theorem dX10_dogGoes_117 : decode cX10_dogGoes 117 = .ok (.iadd, 1) := dk_96 (dk_at dksX10_dogGoes_4 21 rfl rfl)
theorem dX10_dogGoes_118 : decode cX10_dogGoes 118 = .ok (.iconst 0, 1) := dk_3 (dk_at dksX10_dogGoes_4 22 rfl rfl)
theorem dX10_dogGoes_119 : decode cX10_dogGoes 119 = .ok (.iastore, 1) := dk_79 (dk_at dksX10_dogGoes_4 23 rfl rfl)
theorem dX10_dogGoes_120 : decode cX10_dogGoes 120 = .ok (.aload_n 0, 1) := dk_42 (dk_at dksX10_dogGoes_5 0 rfl rfl)
theorem dX10_dogGoes_121 : decode cX10_dogGoes 121 = .ok (.getfield 137, 3) := dk_180 0 137 (dk_at dksX10_dogGoes_5 1 rfl rfl)
theorem dX10_dogGoes_124 : decode cX10_dogGoes 124 = .ok (.bipush 19, 2) := dk_16 19 (dk_at dksX10_dogGoes_5 4 rfl rfl)
theorem dX10_dogGoes_126 : decode cX10_dogGoes 126 = .ok (.iload_n 2, 1) := dk_28 (dk_at dksX10_dogGoes_5 6 rfl rfl)
theorem dX10_dogGoes_127 : decode cX10_dogGoes 127 = .ok (.iadd, 1) := dk_96 (dk_at dksX10_dogGoes_5 7 rfl rfl)
theorem dX10_dogGoes_128 : decode cX10_dogGoes 128 = .ok (.bipush (-2), 2) := dk_16 254 (dk_at dksX10_dogGoes_5 8 rfl rfl)
theorem dX10_dogGoes_130 : decode cX10_dogGoes 130 = .ok (.iastore, 1) := dk_79 (dk_at dksX10_dogGoes_5 10 rfl rfl)
theorem dX10_dogGoes_131 : decode cX10_dogGoes 131 = .ok (.aload_n 0, 1) := dk_42 (dk_at dksX10_dogGoes_5 11 rfl rfl)
theorem dX10_dogGoes_132 : decode cX10_dogGoes 132 = .ok (.getfield 137, 3) := dk_180 0 137 (dk_at dksX10_dogGoes_5 12 rfl rfl)
theorem dX10_dogGoes_135 : decode cX10_dogGoes 135 = .ok (.bipush 27, 2) := dk_16 27 (dk_at dksX10_dogGoes_5 15 rfl rfl)
theorem dX10_dogGoes_137 : decode cX10_dogGoes 137 = .ok (.iload_n 2, 1) := dk_28 (dk_at dksX10_dogGoes_5 17 rfl rfl)
theorem dX10_dogGoes_138 : decode cX10_dogGoes 138 = .ok (.iadd, 1) := dk_96 (dk_at dksX10_dogGoes_5 18 rfl rfl)
theorem dX10_dogGoes_139 : decode cX10_dogGoes 139 = .ok (.iconst 1, 1) := dk_4 (dk_at dksX10_dogGoes_5 19 rfl rfl)
theorem dX10_dogGoes_140 : decode cX10_dogGoes 140 = .ok (.iastore, 1) := dk_79 (dk_at dksX10_dogGoes_5 20 rfl rfl)
theorem dX10_dogGoes_141 : decode cX10_dogGoes 141 = .ok (.aload_n 0, 1) := dk_42 (dk_at dksX10_dogGoes_5 21 rfl rfl)
theorem dX10_dogGoes_142 : decode cX10_dogGoes 142 = .ok (.getfield 137, 3) := dk_180 0 137 (dk_at dksX10_dogGoes_6 0 rfl rfl)
theorem dX10_dogGoes_145 : decode cX10_dogGoes 145 = .ok (.bipush 31, 2) := dk_16 31 (dk_at dksX10_dogGoes_6 3 rfl rfl)
theorem dX10_dogGoes_147 : decode cX10_dogGoes 147 = .ok (.iload_n 2, 1) := dk_28 (dk_at dksX10_dogGoes_6 5 rfl rfl)
theorem dX10_dogGoes_148 : decode cX10_dogGoes 148 = .ok (.iadd, 1) := dk_96 (dk_at dksX10_dogGoes_6 6 rfl rfl)
theorem dX10_dogGoes_149 : decode cX10_dogGoes 149 = .ok (.dup2, 1) := dk_92 (dk_at dksX10_dogGoes_6 7 rfl rfl)
theorem dX10_dogGoes_150 : decode cX10_dogGoes 150 = .ok (.iaload, 1) := dk_46 (dk_at dksX10_dogGoes_6 8 rfl rfl)
theorem dX10_dogGoes_151 : decode cX10_dogGoes 151 = .ok (.iconst 1, 1) := dk_4 (dk_at dksX10_dogGoes_6 9 rfl rfl)
theorem dX10_dogGoes_152 : decode cX10_dogGoes 152 = .ok (.iadd, 1) := dk_96 (dk_at dksX10_dogGoes_6 10 rfl rfl)
theorem dX10_dogGoes_153 : decode cX10_dogGoes 153 = .ok (.iastore, 1) := dk_79 (dk_at dksX10_dogGoes_6 11 rfl rfl)
theorem dX10_dogGoes_154 : decode cX10_dogGoes 154 = .ok (.return_, 1) := dk_177 (dk_at dksX10_dogGoes_6 12 rfl rfl)
abbrev cX10_mindsNow : ByteArray := prog_21_method_61_code
def yX10_mindsNow : MethodName := ⟨RX10, "mindsNow", "(I)I"⟩
def dkwX10_mindsNow_3 : List UInt8 := [163, 0, 6, 167, 0, 9, 21, 4, 61, 21, 5, 62, 132, 4, 1, 167, 255, 182, 28, 172]
abbrev dktX10_mindsNow_3 : List UInt8 := dkwX10_mindsNow_3 ++ []
def dkwX10_mindsNow_2 : List UInt8 := [161, 0, 6, 167, 0, 31, 42, 27, 21, 4, 182, 1, 103, 54, 5, 28, 155, 0, 12, 21, 5, 29]
abbrev dktX10_mindsNow_2 : List UInt8 := dkwX10_mindsNow_2 ++ dktX10_mindsNow_3
def dkwX10_mindsNow_1 : List UInt8 := [180, 0, 137, 16, 27, 21, 4, 96, 46, 4, 159, 0, 46, 42, 27, 21, 4, 182, 1, 85, 16, 99]
abbrev dktX10_mindsNow_1 : List UInt8 := dkwX10_mindsNow_1 ++ dktX10_mindsNow_2
def dkwX10_mindsNow_0 : List UInt8 := [16, 254, 61, 3, 62, 3, 54, 4, 21, 4, 42, 180, 0, 67, 42, 180, 0, 242, 46, 162, 0, 66, 42]
abbrev dktX10_mindsNow_0 : List UInt8 := dkwX10_mindsNow_0 ++ dktX10_mindsNow_1
theorem dksX10_mindsNow_0 : cX10_mindsNow.data.toList.drop 0 = dktX10_mindsNow_0 := by decide +kernel
theorem dksX10_mindsNow_1 : cX10_mindsNow.data.toList.drop 23 = dktX10_mindsNow_1 := dk_seg dksX10_mindsNow_0 23 rfl rfl
theorem dksX10_mindsNow_2 : cX10_mindsNow.data.toList.drop 45 = dktX10_mindsNow_2 := dk_seg dksX10_mindsNow_1 22 rfl rfl
theorem dksX10_mindsNow_3 : cX10_mindsNow.data.toList.drop 67 = dktX10_mindsNow_3 := dk_seg dksX10_mindsNow_2 22 rfl rfl
theorem dX10_mindsNow_0 : decode cX10_mindsNow 0 = .ok (.bipush (-2), 2) := dk_16 254 (dk_at dksX10_mindsNow_0 0 rfl rfl)
theorem dX10_mindsNow_2 : decode cX10_mindsNow 2 = .ok (.istore_n 2, 1) := dk_61 (dk_at dksX10_mindsNow_0 2 rfl rfl)
theorem dX10_mindsNow_3 : decode cX10_mindsNow 3 = .ok (.iconst 0, 1) := dk_3 (dk_at dksX10_mindsNow_0 3 rfl rfl)
theorem dX10_mindsNow_4 : decode cX10_mindsNow 4 = .ok (.istore_n 3, 1) := dk_62 (dk_at dksX10_mindsNow_0 4 rfl rfl)
theorem dX10_mindsNow_5 : decode cX10_mindsNow 5 = .ok (.iconst 0, 1) := dk_3 (dk_at dksX10_mindsNow_0 5 rfl rfl)
theorem dX10_mindsNow_6 : decode cX10_mindsNow 6 = .ok (.istore 4, 2) := dk_54 4 (dk_at dksX10_mindsNow_0 6 rfl rfl)
theorem dX10_mindsNow_8 : decode cX10_mindsNow 8 = .ok (.iload 4, 2) := dk_21 4 (dk_at dksX10_mindsNow_0 8 rfl rfl)
theorem dX10_mindsNow_10 : decode cX10_mindsNow 10 = .ok (.aload_n 0, 1) := dk_42 (dk_at dksX10_mindsNow_0 10 rfl rfl)
theorem dX10_mindsNow_11 : decode cX10_mindsNow 11 = .ok (.getfield 67, 3) := dk_180 0 67 (dk_at dksX10_mindsNow_0 11 rfl rfl)
theorem dX10_mindsNow_14 : decode cX10_mindsNow 14 = .ok (.aload_n 0, 1) := dk_42 (dk_at dksX10_mindsNow_0 14 rfl rfl)
theorem dX10_mindsNow_15 : decode cX10_mindsNow 15 = .ok (.getfield 242, 3) := dk_180 0 242 (dk_at dksX10_mindsNow_0 15 rfl rfl)
theorem dX10_mindsNow_18 : decode cX10_mindsNow 18 = .ok (.iaload, 1) := dk_46 (dk_at dksX10_mindsNow_0 18 rfl rfl)
theorem dX10_mindsNow_19 : decode cX10_mindsNow 19 = .ok (.if_icmp .ge 66, 3) := dk_162 0 66 (dk_at dksX10_mindsNow_0 19 rfl rfl)
theorem dX10_mindsNow_22 : decode cX10_mindsNow 22 = .ok (.aload_n 0, 1) := dk_42 (dk_at dksX10_mindsNow_0 22 rfl rfl)
theorem dX10_mindsNow_23 : decode cX10_mindsNow 23 = .ok (.getfield 137, 3) := dk_180 0 137 (dk_at dksX10_mindsNow_1 0 rfl rfl)
theorem dX10_mindsNow_26 : decode cX10_mindsNow 26 = .ok (.bipush 27, 2) := dk_16 27 (dk_at dksX10_mindsNow_1 3 rfl rfl)
theorem dX10_mindsNow_28 : decode cX10_mindsNow 28 = .ok (.iload 4, 2) := dk_21 4 (dk_at dksX10_mindsNow_1 5 rfl rfl)
theorem dX10_mindsNow_30 : decode cX10_mindsNow 30 = .ok (.iadd, 1) := dk_96 (dk_at dksX10_mindsNow_1 7 rfl rfl)
theorem dX10_mindsNow_31 : decode cX10_mindsNow 31 = .ok (.iaload, 1) := dk_46 (dk_at dksX10_mindsNow_1 8 rfl rfl)
theorem dX10_mindsNow_32 : decode cX10_mindsNow 32 = .ok (.iconst 1, 1) := dk_4 (dk_at dksX10_mindsNow_1 9 rfl rfl)
theorem dX10_mindsNow_33 : decode cX10_mindsNow 33 = .ok (.if_icmp .eq 46, 3) := dk_159 0 46 (dk_at dksX10_mindsNow_1 10 rfl rfl)
theorem dX10_mindsNow_36 : decode cX10_mindsNow 36 = .ok (.aload_n 0, 1) := dk_42 (dk_at dksX10_mindsNow_1 13 rfl rfl)
theorem dX10_mindsNow_37 : decode cX10_mindsNow 37 = .ok (.iload_n 1, 1) := dk_27 (dk_at dksX10_mindsNow_1 14 rfl rfl)
theorem dX10_mindsNow_38 : decode cX10_mindsNow 38 = .ok (.iload 4, 2) := dk_21 4 (dk_at dksX10_mindsNow_1 15 rfl rfl)
theorem dX10_mindsNow_40 : decode cX10_mindsNow 40 = .ok (.invokevirtual 341, 3) := dk_182 1 85 (dk_at dksX10_mindsNow_1 17 rfl rfl)
theorem dX10_mindsNow_43 : decode cX10_mindsNow 43 = .ok (.bipush 99, 2) := dk_16 99 (dk_at dksX10_mindsNow_1 20 rfl rfl)
theorem dX10_mindsNow_45 : decode cX10_mindsNow 45 = .ok (.if_icmp .lt 6, 3) := dk_161 0 6 (dk_at dksX10_mindsNow_2 0 rfl rfl)
theorem dX10_mindsNow_48 : decode cX10_mindsNow 48 = .ok (.goto 31, 3) := dk_167 0 31 (dk_at dksX10_mindsNow_2 3 rfl rfl)
theorem dX10_mindsNow_51 : decode cX10_mindsNow 51 = .ok (.aload_n 0, 1) := dk_42 (dk_at dksX10_mindsNow_2 6 rfl rfl)
theorem dX10_mindsNow_52 : decode cX10_mindsNow 52 = .ok (.iload_n 1, 1) := dk_27 (dk_at dksX10_mindsNow_2 7 rfl rfl)
theorem dX10_mindsNow_53 : decode cX10_mindsNow 53 = .ok (.iload 4, 2) := dk_21 4 (dk_at dksX10_mindsNow_2 8 rfl rfl)
theorem dX10_mindsNow_55 : decode cX10_mindsNow 55 = .ok (.invokevirtual 359, 3) := dk_182 1 103 (dk_at dksX10_mindsNow_2 10 rfl rfl)
theorem dX10_mindsNow_58 : decode cX10_mindsNow 58 = .ok (.istore 5, 2) := dk_54 5 (dk_at dksX10_mindsNow_2 13 rfl rfl)
theorem dX10_mindsNow_60 : decode cX10_mindsNow 60 = .ok (.iload_n 2, 1) := dk_28 (dk_at dksX10_mindsNow_2 15 rfl rfl)
theorem dX10_mindsNow_61 : decode cX10_mindsNow 61 = .ok (.ifCond .lt 12, 3) := dk_155 0 12 (dk_at dksX10_mindsNow_2 16 rfl rfl)
theorem dX10_mindsNow_64 : decode cX10_mindsNow 64 = .ok (.iload 5, 2) := dk_21 5 (dk_at dksX10_mindsNow_2 19 rfl rfl)
theorem dX10_mindsNow_66 : decode cX10_mindsNow 66 = .ok (.iload_n 3, 1) := dk_29 (dk_at dksX10_mindsNow_2 21 rfl rfl)
theorem dX10_mindsNow_67 : decode cX10_mindsNow 67 = .ok (.if_icmp .gt 6, 3) := dk_163 0 6 (dk_at dksX10_mindsNow_3 0 rfl rfl)
theorem dX10_mindsNow_70 : decode cX10_mindsNow 70 = .ok (.goto 9, 3) := dk_167 0 9 (dk_at dksX10_mindsNow_3 3 rfl rfl)
theorem dX10_mindsNow_73 : decode cX10_mindsNow 73 = .ok (.iload 4, 2) := dk_21 4 (dk_at dksX10_mindsNow_3 6 rfl rfl)
theorem dX10_mindsNow_75 : decode cX10_mindsNow 75 = .ok (.istore_n 2, 1) := dk_61 (dk_at dksX10_mindsNow_3 8 rfl rfl)
theorem dX10_mindsNow_76 : decode cX10_mindsNow 76 = .ok (.iload 5, 2) := dk_21 5 (dk_at dksX10_mindsNow_3 9 rfl rfl)
theorem dX10_mindsNow_78 : decode cX10_mindsNow 78 = .ok (.istore_n 3, 1) := dk_62 (dk_at dksX10_mindsNow_3 11 rfl rfl)
theorem dX10_mindsNow_79 : decode cX10_mindsNow 79 = .ok (.iinc 4 1, 3) := dk_132 4 1 (dk_at dksX10_mindsNow_3 12 rfl rfl)
theorem dX10_mindsNow_82 : decode cX10_mindsNow 82 = .ok (.goto (-74), 3) := dk_167 255 182 (dk_at dksX10_mindsNow_3 15 rfl rfl)
theorem dX10_mindsNow_85 : decode cX10_mindsNow 85 = .ok (.iload_n 2, 1) := dk_28 (dk_at dksX10_mindsNow_3 18 rfl rfl)
theorem dX10_mindsNow_86 : decode cX10_mindsNow 86 = .ok (.ireturn, 1) := dk_172 (dk_at dksX10_mindsNow_3 19 rfl rfl)
abbrev cX10_bearsGrudge : ByteArray := prog_21_method_60_code
def yX10_bearsGrudge : MethodName := ⟨RX10, "bearsGrudge", "(II)Z"⟩
def dkwX10_bearsGrudge_1 : List UInt8 := [96, 46, 164, 0, 7, 4, 167, 0, 4, 3, 172]
abbrev dktX10_bearsGrudge_1 : List UInt8 := dkwX10_bearsGrudge_1 ++ []
def dkwX10_bearsGrudge_0 : List UInt8 := [42, 180, 0, 137, 16, 55, 7, 27, 104, 96, 28, 96, 46, 42, 180, 0, 137, 16, 35, 7, 27, 104, 96, 28]
abbrev dktX10_bearsGrudge_0 : List UInt8 := dkwX10_bearsGrudge_0 ++ dktX10_bearsGrudge_1
theorem dksX10_bearsGrudge_0 : cX10_bearsGrudge.data.toList.drop 0 = dktX10_bearsGrudge_0 := by decide +kernel
theorem dksX10_bearsGrudge_1 : cX10_bearsGrudge.data.toList.drop 24 = dktX10_bearsGrudge_1 := dk_seg dksX10_bearsGrudge_0 24 rfl rfl
theorem dX10_bearsGrudge_0 : decode cX10_bearsGrudge 0 = .ok (.aload_n 0, 1) := dk_42 (dk_at dksX10_bearsGrudge_0 0 rfl rfl)
theorem dX10_bearsGrudge_1 : decode cX10_bearsGrudge 1 = .ok (.getfield 137, 3) := dk_180 0 137 (dk_at dksX10_bearsGrudge_0 1 rfl rfl)
theorem dX10_bearsGrudge_4 : decode cX10_bearsGrudge 4 = .ok (.bipush 55, 2) := dk_16 55 (dk_at dksX10_bearsGrudge_0 4 rfl rfl)
theorem dX10_bearsGrudge_6 : decode cX10_bearsGrudge 6 = .ok (.iconst 4, 1) := dk_7 (dk_at dksX10_bearsGrudge_0 6 rfl rfl)
theorem dX10_bearsGrudge_7 : decode cX10_bearsGrudge 7 = .ok (.iload_n 1, 1) := dk_27 (dk_at dksX10_bearsGrudge_0 7 rfl rfl)
theorem dX10_bearsGrudge_8 : decode cX10_bearsGrudge 8 = .ok (.imul, 1) := dk_104 (dk_at dksX10_bearsGrudge_0 8 rfl rfl)
theorem dX10_bearsGrudge_9 : decode cX10_bearsGrudge 9 = .ok (.iadd, 1) := dk_96 (dk_at dksX10_bearsGrudge_0 9 rfl rfl)
theorem dX10_bearsGrudge_10 : decode cX10_bearsGrudge 10 = .ok (.iload_n 2, 1) := dk_28 (dk_at dksX10_bearsGrudge_0 10 rfl rfl)
theorem dX10_bearsGrudge_11 : decode cX10_bearsGrudge 11 = .ok (.iadd, 1) := dk_96 (dk_at dksX10_bearsGrudge_0 11 rfl rfl)
theorem dX10_bearsGrudge_12 : decode cX10_bearsGrudge 12 = .ok (.iaload, 1) := dk_46 (dk_at dksX10_bearsGrudge_0 12 rfl rfl)
theorem dX10_bearsGrudge_13 : decode cX10_bearsGrudge 13 = .ok (.aload_n 0, 1) := dk_42 (dk_at dksX10_bearsGrudge_0 13 rfl rfl)
theorem dX10_bearsGrudge_14 : decode cX10_bearsGrudge 14 = .ok (.getfield 137, 3) := dk_180 0 137 (dk_at dksX10_bearsGrudge_0 14 rfl rfl)
theorem dX10_bearsGrudge_17 : decode cX10_bearsGrudge 17 = .ok (.bipush 35, 2) := dk_16 35 (dk_at dksX10_bearsGrudge_0 17 rfl rfl)
theorem dX10_bearsGrudge_19 : decode cX10_bearsGrudge 19 = .ok (.iconst 4, 1) := dk_7 (dk_at dksX10_bearsGrudge_0 19 rfl rfl)
theorem dX10_bearsGrudge_20 : decode cX10_bearsGrudge 20 = .ok (.iload_n 1, 1) := dk_27 (dk_at dksX10_bearsGrudge_0 20 rfl rfl)
theorem dX10_bearsGrudge_21 : decode cX10_bearsGrudge 21 = .ok (.imul, 1) := dk_104 (dk_at dksX10_bearsGrudge_0 21 rfl rfl)
theorem dX10_bearsGrudge_22 : decode cX10_bearsGrudge 22 = .ok (.iadd, 1) := dk_96 (dk_at dksX10_bearsGrudge_0 22 rfl rfl)
theorem dX10_bearsGrudge_23 : decode cX10_bearsGrudge 23 = .ok (.iload_n 2, 1) := dk_28 (dk_at dksX10_bearsGrudge_0 23 rfl rfl)
theorem dX10_bearsGrudge_24 : decode cX10_bearsGrudge 24 = .ok (.iadd, 1) := dk_96 (dk_at dksX10_bearsGrudge_1 0 rfl rfl)
theorem dX10_bearsGrudge_25 : decode cX10_bearsGrudge 25 = .ok (.iaload, 1) := dk_46 (dk_at dksX10_bearsGrudge_1 1 rfl rfl)
theorem dX10_bearsGrudge_26 : decode cX10_bearsGrudge 26 = .ok (.if_icmp .le 7, 3) := dk_164 0 7 (dk_at dksX10_bearsGrudge_1 2 rfl rfl)
theorem dX10_bearsGrudge_29 : decode cX10_bearsGrudge 29 = .ok (.iconst 1, 1) := dk_4 (dk_at dksX10_bearsGrudge_1 5 rfl rfl)
theorem dX10_bearsGrudge_30 : decode cX10_bearsGrudge 30 = .ok (.goto 4, 3) := dk_167 0 4 (dk_at dksX10_bearsGrudge_1 6 rfl rfl)
theorem dX10_bearsGrudge_33 : decode cX10_bearsGrudge 33 = .ok (.iconst 0, 1) := dk_3 (dk_at dksX10_bearsGrudge_1 9 rfl rfl)
theorem dX10_bearsGrudge_34 : decode cX10_bearsGrudge 34 = .ok (.ireturn, 1) := dk_172 (dk_at dksX10_bearsGrudge_1 10 rfl rfl)
abbrev cX10_fades : ByteArray := prog_21_method_65_code
def yX10_fades : MethodName := ⟨RX10, "fades", "(II)V"⟩
def dkwX10_fades_3 : List UInt8 := [79, 177]
abbrev dktX10_fades_3 : List UInt8 := dkwX10_fades_3 ++ []
def dkwX10_fades_2 : List UInt8 := [16, 55, 21, 4, 96, 42, 180, 0, 137, 16, 55, 21, 4, 96, 46, 29, 100, 3, 17, 3, 231, 184, 1, 100]
abbrev dktX10_fades_2 : List UInt8 := dkwX10_fades_2 ++ dktX10_fades_3
def dkwX10_fades_1 : List UInt8 := [180, 0, 137, 16, 35, 21, 4, 96, 46, 29, 100, 3, 17, 3, 231, 184, 1, 100, 79, 42, 180, 0, 137]
abbrev dktX10_fades_1 : List UInt8 := dkwX10_fades_1 ++ dktX10_fades_2
def dkwX10_fades_0 : List UInt8 := [42, 27, 28, 182, 1, 119, 62, 7, 27, 104, 28, 96, 54, 4, 42, 180, 0, 137, 16, 35, 21, 4, 96, 42]
abbrev dktX10_fades_0 : List UInt8 := dkwX10_fades_0 ++ dktX10_fades_1
theorem dksX10_fades_0 : cX10_fades.data.toList.drop 0 = dktX10_fades_0 := by decide +kernel
theorem dksX10_fades_1 : cX10_fades.data.toList.drop 24 = dktX10_fades_1 := dk_seg dksX10_fades_0 24 rfl rfl
theorem dksX10_fades_2 : cX10_fades.data.toList.drop 47 = dktX10_fades_2 := dk_seg dksX10_fades_1 23 rfl rfl
theorem dksX10_fades_3 : cX10_fades.data.toList.drop 71 = dktX10_fades_3 := dk_seg dksX10_fades_2 24 rfl rfl
theorem dX10_fades_0 : decode cX10_fades 0 = .ok (.aload_n 0, 1) := dk_42 (dk_at dksX10_fades_0 0 rfl rfl)
theorem dX10_fades_1 : decode cX10_fades 1 = .ok (.iload_n 1, 1) := dk_27 (dk_at dksX10_fades_0 1 rfl rfl)
theorem dX10_fades_2 : decode cX10_fades 2 = .ok (.iload_n 2, 1) := dk_28 (dk_at dksX10_fades_0 2 rfl rfl)
theorem dX10_fades_3 : decode cX10_fades 3 = .ok (.invokevirtual 375, 3) := dk_182 1 119 (dk_at dksX10_fades_0 3 rfl rfl)
theorem dX10_fades_6 : decode cX10_fades 6 = .ok (.istore_n 3, 1) := dk_62 (dk_at dksX10_fades_0 6 rfl rfl)
theorem dX10_fades_7 : decode cX10_fades 7 = .ok (.iconst 4, 1) := dk_7 (dk_at dksX10_fades_0 7 rfl rfl)
theorem dX10_fades_8 : decode cX10_fades 8 = .ok (.iload_n 1, 1) := dk_27 (dk_at dksX10_fades_0 8 rfl rfl)
theorem dX10_fades_9 : decode cX10_fades 9 = .ok (.imul, 1) := dk_104 (dk_at dksX10_fades_0 9 rfl rfl)
theorem dX10_fades_10 : decode cX10_fades 10 = .ok (.iload_n 2, 1) := dk_28 (dk_at dksX10_fades_0 10 rfl rfl)
theorem dX10_fades_11 : decode cX10_fades 11 = .ok (.iadd, 1) := dk_96 (dk_at dksX10_fades_0 11 rfl rfl)
theorem dX10_fades_12 : decode cX10_fades 12 = .ok (.istore 4, 2) := dk_54 4 (dk_at dksX10_fades_0 12 rfl rfl)
theorem dX10_fades_14 : decode cX10_fades 14 = .ok (.aload_n 0, 1) := dk_42 (dk_at dksX10_fades_0 14 rfl rfl)
theorem dX10_fades_15 : decode cX10_fades 15 = .ok (.getfield 137, 3) := dk_180 0 137 (dk_at dksX10_fades_0 15 rfl rfl)
theorem dX10_fades_18 : decode cX10_fades 18 = .ok (.bipush 35, 2) := dk_16 35 (dk_at dksX10_fades_0 18 rfl rfl)
theorem dX10_fades_20 : decode cX10_fades 20 = .ok (.iload 4, 2) := dk_21 4 (dk_at dksX10_fades_0 20 rfl rfl)
theorem dX10_fades_22 : decode cX10_fades 22 = .ok (.iadd, 1) := dk_96 (dk_at dksX10_fades_0 22 rfl rfl)
theorem dX10_fades_23 : decode cX10_fades 23 = .ok (.aload_n 0, 1) := dk_42 (dk_at dksX10_fades_0 23 rfl rfl)
theorem dX10_fades_24 : decode cX10_fades 24 = .ok (.getfield 137, 3) := dk_180 0 137 (dk_at dksX10_fades_1 0 rfl rfl)
theorem dX10_fades_27 : decode cX10_fades 27 = .ok (.bipush 35, 2) := dk_16 35 (dk_at dksX10_fades_1 3 rfl rfl)
theorem dX10_fades_29 : decode cX10_fades 29 = .ok (.iload 4, 2) := dk_21 4 (dk_at dksX10_fades_1 5 rfl rfl)
theorem dX10_fades_31 : decode cX10_fades 31 = .ok (.iadd, 1) := dk_96 (dk_at dksX10_fades_1 7 rfl rfl)
theorem dX10_fades_32 : decode cX10_fades 32 = .ok (.iaload, 1) := dk_46 (dk_at dksX10_fades_1 8 rfl rfl)
theorem dX10_fades_33 : decode cX10_fades 33 = .ok (.iload_n 3, 1) := dk_29 (dk_at dksX10_fades_1 9 rfl rfl)
theorem dX10_fades_34 : decode cX10_fades 34 = .ok (.isub, 1) := dk_100 (dk_at dksX10_fades_1 10 rfl rfl)
theorem dX10_fades_35 : decode cX10_fades 35 = .ok (.iconst 0, 1) := dk_3 (dk_at dksX10_fades_1 11 rfl rfl)
theorem dX10_fades_36 : decode cX10_fades 36 = .ok (.sipush 999, 3) := dk_17 3 231 (dk_at dksX10_fades_1 12 rfl rfl)
theorem dX10_fades_39 : decode cX10_fades 39 = .ok (.invokestatic 356, 3) := dk_184 1 100 (dk_at dksX10_fades_1 15 rfl rfl)
theorem dX10_fades_42 : decode cX10_fades 42 = .ok (.iastore, 1) := dk_79 (dk_at dksX10_fades_1 18 rfl rfl)
theorem dX10_fades_43 : decode cX10_fades 43 = .ok (.aload_n 0, 1) := dk_42 (dk_at dksX10_fades_1 19 rfl rfl)
theorem dX10_fades_44 : decode cX10_fades 44 = .ok (.getfield 137, 3) := dk_180 0 137 (dk_at dksX10_fades_1 20 rfl rfl)
theorem dX10_fades_47 : decode cX10_fades 47 = .ok (.bipush 55, 2) := dk_16 55 (dk_at dksX10_fades_2 0 rfl rfl)
theorem dX10_fades_49 : decode cX10_fades 49 = .ok (.iload 4, 2) := dk_21 4 (dk_at dksX10_fades_2 2 rfl rfl)
theorem dX10_fades_51 : decode cX10_fades 51 = .ok (.iadd, 1) := dk_96 (dk_at dksX10_fades_2 4 rfl rfl)
theorem dX10_fades_52 : decode cX10_fades 52 = .ok (.aload_n 0, 1) := dk_42 (dk_at dksX10_fades_2 5 rfl rfl)
theorem dX10_fades_53 : decode cX10_fades 53 = .ok (.getfield 137, 3) := dk_180 0 137 (dk_at dksX10_fades_2 6 rfl rfl)
theorem dX10_fades_56 : decode cX10_fades 56 = .ok (.bipush 55, 2) := dk_16 55 (dk_at dksX10_fades_2 9 rfl rfl)
theorem dX10_fades_58 : decode cX10_fades 58 = .ok (.iload 4, 2) := dk_21 4 (dk_at dksX10_fades_2 11 rfl rfl)
theorem dX10_fades_60 : decode cX10_fades 60 = .ok (.iadd, 1) := dk_96 (dk_at dksX10_fades_2 13 rfl rfl)
theorem dX10_fades_61 : decode cX10_fades 61 = .ok (.iaload, 1) := dk_46 (dk_at dksX10_fades_2 14 rfl rfl)
theorem dX10_fades_62 : decode cX10_fades 62 = .ok (.iload_n 3, 1) := dk_29 (dk_at dksX10_fades_2 15 rfl rfl)
theorem dX10_fades_63 : decode cX10_fades 63 = .ok (.isub, 1) := dk_100 (dk_at dksX10_fades_2 16 rfl rfl)
theorem dX10_fades_64 : decode cX10_fades 64 = .ok (.iconst 0, 1) := dk_3 (dk_at dksX10_fades_2 17 rfl rfl)
theorem dX10_fades_65 : decode cX10_fades 65 = .ok (.sipush 999, 3) := dk_17 3 231 (dk_at dksX10_fades_2 18 rfl rfl)
theorem dX10_fades_68 : decode cX10_fades 68 = .ok (.invokestatic 356, 3) := dk_184 1 100 (dk_at dksX10_fades_2 21 rfl rfl)
theorem dX10_fades_71 : decode cX10_fades 71 = .ok (.iastore, 1) := dk_79 (dk_at dksX10_fades_3 0 rfl rfl)
theorem dX10_fades_72 : decode cX10_fades 72 = .ok (.return_, 1) := dk_177 (dk_at dksX10_fades_3 1 rfl rfl)
abbrev cX10_undo : ByteArray := prog_21_method_80_code
def yX10_undo : MethodName := ⟨RX10, "undo", "()Z"⟩
def dkwX10_undo_2 : List UInt8 := [132, 1, 1, 167, 255, 227, 4, 172]
abbrev dktX10_undo_2 : List UInt8 := dkwX10_undo_2 ++ []
def dkwX10_undo_1 : List UInt8 := [162, 0, 29, 42, 180, 0, 134, 27, 42, 180, 0, 140, 16, 77, 42, 180, 1, 7, 104, 27, 96, 46, 79]
abbrev dktX10_undo_1 : List UInt8 := dkwX10_undo_1 ++ dktX10_undo_2
def dkwX10_undo_0 : List UInt8 := [42, 180, 1, 7, 154, 0, 5, 3, 172, 42, 89, 180, 1, 7, 4, 100, 181, 1, 7, 3, 60, 27, 16, 77]
abbrev dktX10_undo_0 : List UInt8 := dkwX10_undo_0 ++ dktX10_undo_1
theorem dksX10_undo_0 : cX10_undo.data.toList.drop 0 = dktX10_undo_0 := by decide +kernel
theorem dksX10_undo_1 : cX10_undo.data.toList.drop 24 = dktX10_undo_1 := dk_seg dksX10_undo_0 24 rfl rfl
theorem dksX10_undo_2 : cX10_undo.data.toList.drop 47 = dktX10_undo_2 := dk_seg dksX10_undo_1 23 rfl rfl
theorem dX10_undo_0 : decode cX10_undo 0 = .ok (.aload_n 0, 1) := dk_42 (dk_at dksX10_undo_0 0 rfl rfl)
theorem dX10_undo_1 : decode cX10_undo 1 = .ok (.getfield 263, 3) := dk_180 1 7 (dk_at dksX10_undo_0 1 rfl rfl)
theorem dX10_undo_4 : decode cX10_undo 4 = .ok (.ifCond .ne 5, 3) := dk_154 0 5 (dk_at dksX10_undo_0 4 rfl rfl)
theorem dX10_undo_7 : decode cX10_undo 7 = .ok (.iconst 0, 1) := dk_3 (dk_at dksX10_undo_0 7 rfl rfl)
theorem dX10_undo_8 : decode cX10_undo 8 = .ok (.ireturn, 1) := dk_172 (dk_at dksX10_undo_0 8 rfl rfl)
theorem dX10_undo_9 : decode cX10_undo 9 = .ok (.aload_n 0, 1) := dk_42 (dk_at dksX10_undo_0 9 rfl rfl)
theorem dX10_undo_10 : decode cX10_undo 10 = .ok (.dup, 1) := dk_89 (dk_at dksX10_undo_0 10 rfl rfl)
theorem dX10_undo_11 : decode cX10_undo 11 = .ok (.getfield 263, 3) := dk_180 1 7 (dk_at dksX10_undo_0 11 rfl rfl)
theorem dX10_undo_14 : decode cX10_undo 14 = .ok (.iconst 1, 1) := dk_4 (dk_at dksX10_undo_0 14 rfl rfl)
theorem dX10_undo_15 : decode cX10_undo 15 = .ok (.isub, 1) := dk_100 (dk_at dksX10_undo_0 15 rfl rfl)
theorem dX10_undo_16 : decode cX10_undo 16 = .ok (.putfield 263, 3) := dk_181 1 7 (dk_at dksX10_undo_0 16 rfl rfl)
theorem dX10_undo_19 : decode cX10_undo 19 = .ok (.iconst 0, 1) := dk_3 (dk_at dksX10_undo_0 19 rfl rfl)
theorem dX10_undo_20 : decode cX10_undo 20 = .ok (.istore_n 1, 1) := dk_60 (dk_at dksX10_undo_0 20 rfl rfl)
theorem dX10_undo_21 : decode cX10_undo 21 = .ok (.iload_n 1, 1) := dk_27 (dk_at dksX10_undo_0 21 rfl rfl)
theorem dX10_undo_22 : decode cX10_undo 22 = .ok (.bipush 77, 2) := dk_16 77 (dk_at dksX10_undo_0 22 rfl rfl)
theorem dX10_undo_24 : decode cX10_undo 24 = .ok (.if_icmp .ge 29, 3) := dk_162 0 29 (dk_at dksX10_undo_1 0 rfl rfl)
theorem dX10_undo_27 : decode cX10_undo 27 = .ok (.aload_n 0, 1) := dk_42 (dk_at dksX10_undo_1 3 rfl rfl)
theorem dX10_undo_28 : decode cX10_undo 28 = .ok (.getfield 134, 3) := dk_180 0 134 (dk_at dksX10_undo_1 4 rfl rfl)
theorem dX10_undo_31 : decode cX10_undo 31 = .ok (.iload_n 1, 1) := dk_27 (dk_at dksX10_undo_1 7 rfl rfl)
theorem dX10_undo_32 : decode cX10_undo 32 = .ok (.aload_n 0, 1) := dk_42 (dk_at dksX10_undo_1 8 rfl rfl)
theorem dX10_undo_33 : decode cX10_undo 33 = .ok (.getfield 140, 3) := dk_180 0 140 (dk_at dksX10_undo_1 9 rfl rfl)
theorem dX10_undo_36 : decode cX10_undo 36 = .ok (.bipush 77, 2) := dk_16 77 (dk_at dksX10_undo_1 12 rfl rfl)
theorem dX10_undo_38 : decode cX10_undo 38 = .ok (.aload_n 0, 1) := dk_42 (dk_at dksX10_undo_1 14 rfl rfl)
theorem dX10_undo_39 : decode cX10_undo 39 = .ok (.getfield 263, 3) := dk_180 1 7 (dk_at dksX10_undo_1 15 rfl rfl)
theorem dX10_undo_42 : decode cX10_undo 42 = .ok (.imul, 1) := dk_104 (dk_at dksX10_undo_1 18 rfl rfl)
theorem dX10_undo_43 : decode cX10_undo 43 = .ok (.iload_n 1, 1) := dk_27 (dk_at dksX10_undo_1 19 rfl rfl)
theorem dX10_undo_44 : decode cX10_undo 44 = .ok (.iadd, 1) := dk_96 (dk_at dksX10_undo_1 20 rfl rfl)
theorem dX10_undo_45 : decode cX10_undo 45 = .ok (.iaload, 1) := dk_46 (dk_at dksX10_undo_1 21 rfl rfl)
theorem dX10_undo_46 : decode cX10_undo 46 = .ok (.iastore, 1) := dk_79 (dk_at dksX10_undo_1 22 rfl rfl)
theorem dX10_undo_47 : decode cX10_undo 47 = .ok (.iinc 1 1, 3) := dk_132 1 1 (dk_at dksX10_undo_2 0 rfl rfl)
theorem dX10_undo_50 : decode cX10_undo 50 = .ok (.goto (-29), 3) := dk_167 255 227 (dk_at dksX10_undo_2 3 rfl rfl)
theorem dX10_undo_53 : decode cX10_undo 53 = .ok (.iconst 1, 1) := dk_4 (dk_at dksX10_undo_2 6 rfl rfl)
theorem dX10_undo_54 : decode cX10_undo 54 = .ok (.ireturn, 1) := dk_172 (dk_at dksX10_undo_2 7 rfl rfl)
abbrev cX10_far : ByteArray := prog_21_method_81_code
def yX10_far : MethodName := ⟨RX10, "far", "(II)I"⟩
def dkwX10_far_2 : List UInt8 := [96, 46, 172]
abbrev dktX10_far_2 : List UInt8 := dkwX10_far_2 ++ []
def dkwX10_far_1 : List UInt8 := [27, 104, 28, 96, 46, 16, 99, 161, 0, 8, 16, 254, 167, 0, 14, 42, 180, 0, 131, 16, 7, 27, 104, 28]
abbrev dktX10_far_1 : List UInt8 := dkwX10_far_1 ++ dktX10_far_2
def dkwX10_far_0 : List UInt8 := [42, 27, 182, 1, 141, 153, 0, 11, 42, 28, 182, 1, 141, 154, 0, 5, 2, 172, 42, 180, 0, 131, 16, 7]
abbrev dktX10_far_0 : List UInt8 := dkwX10_far_0 ++ dktX10_far_1
theorem dksX10_far_0 : cX10_far.data.toList.drop 0 = dktX10_far_0 := by decide +kernel
theorem dksX10_far_1 : cX10_far.data.toList.drop 24 = dktX10_far_1 := dk_seg dksX10_far_0 24 rfl rfl
theorem dksX10_far_2 : cX10_far.data.toList.drop 48 = dktX10_far_2 := dk_seg dksX10_far_1 24 rfl rfl
theorem dX10_far_0 : decode cX10_far 0 = .ok (.aload_n 0, 1) := dk_42 (dk_at dksX10_far_0 0 rfl rfl)
theorem dX10_far_1 : decode cX10_far 1 = .ok (.iload_n 1, 1) := dk_27 (dk_at dksX10_far_0 1 rfl rfl)
theorem dX10_far_2 : decode cX10_far 2 = .ok (.invokevirtual 397, 3) := dk_182 1 141 (dk_at dksX10_far_0 2 rfl rfl)
theorem dX10_far_5 : decode cX10_far 5 = .ok (.ifCond .eq 11, 3) := dk_153 0 11 (dk_at dksX10_far_0 5 rfl rfl)
theorem dX10_far_8 : decode cX10_far 8 = .ok (.aload_n 0, 1) := dk_42 (dk_at dksX10_far_0 8 rfl rfl)
theorem dX10_far_9 : decode cX10_far 9 = .ok (.iload_n 2, 1) := dk_28 (dk_at dksX10_far_0 9 rfl rfl)
theorem dX10_far_10 : decode cX10_far 10 = .ok (.invokevirtual 397, 3) := dk_182 1 141 (dk_at dksX10_far_0 10 rfl rfl)
theorem dX10_far_13 : decode cX10_far 13 = .ok (.ifCond .ne 5, 3) := dk_154 0 5 (dk_at dksX10_far_0 13 rfl rfl)
theorem dX10_far_16 : decode cX10_far 16 = .ok (.iconst (-1), 1) := dk_2 (dk_at dksX10_far_0 16 rfl rfl)
theorem dX10_far_17 : decode cX10_far 17 = .ok (.ireturn, 1) := dk_172 (dk_at dksX10_far_0 17 rfl rfl)
theorem dX10_far_18 : decode cX10_far 18 = .ok (.aload_n 0, 1) := dk_42 (dk_at dksX10_far_0 18 rfl rfl)
theorem dX10_far_19 : decode cX10_far 19 = .ok (.getfield 131, 3) := dk_180 0 131 (dk_at dksX10_far_0 19 rfl rfl)
theorem dX10_far_22 : decode cX10_far 22 = .ok (.bipush 7, 2) := dk_16 7 (dk_at dksX10_far_0 22 rfl rfl)
theorem dX10_far_24 : decode cX10_far 24 = .ok (.iload_n 1, 1) := dk_27 (dk_at dksX10_far_1 0 rfl rfl)
theorem dX10_far_25 : decode cX10_far 25 = .ok (.imul, 1) := dk_104 (dk_at dksX10_far_1 1 rfl rfl)
theorem dX10_far_26 : decode cX10_far 26 = .ok (.iload_n 2, 1) := dk_28 (dk_at dksX10_far_1 2 rfl rfl)
theorem dX10_far_27 : decode cX10_far 27 = .ok (.iadd, 1) := dk_96 (dk_at dksX10_far_1 3 rfl rfl)
theorem dX10_far_28 : decode cX10_far 28 = .ok (.iaload, 1) := dk_46 (dk_at dksX10_far_1 4 rfl rfl)
theorem dX10_far_29 : decode cX10_far 29 = .ok (.bipush 99, 2) := dk_16 99 (dk_at dksX10_far_1 5 rfl rfl)
theorem dX10_far_31 : decode cX10_far 31 = .ok (.if_icmp .lt 8, 3) := dk_161 0 8 (dk_at dksX10_far_1 7 rfl rfl)
theorem dX10_far_34 : decode cX10_far 34 = .ok (.bipush (-2), 2) := dk_16 254 (dk_at dksX10_far_1 10 rfl rfl)
theorem dX10_far_36 : decode cX10_far 36 = .ok (.goto 14, 3) := dk_167 0 14 (dk_at dksX10_far_1 12 rfl rfl)
theorem dX10_far_39 : decode cX10_far 39 = .ok (.aload_n 0, 1) := dk_42 (dk_at dksX10_far_1 15 rfl rfl)
theorem dX10_far_40 : decode cX10_far 40 = .ok (.getfield 131, 3) := dk_180 0 131 (dk_at dksX10_far_1 16 rfl rfl)
theorem dX10_far_43 : decode cX10_far 43 = .ok (.bipush 7, 2) := dk_16 7 (dk_at dksX10_far_1 19 rfl rfl)
theorem dX10_far_45 : decode cX10_far 45 = .ok (.iload_n 1, 1) := dk_27 (dk_at dksX10_far_1 21 rfl rfl)
theorem dX10_far_46 : decode cX10_far 46 = .ok (.imul, 1) := dk_104 (dk_at dksX10_far_1 22 rfl rfl)
theorem dX10_far_47 : decode cX10_far 47 = .ok (.iload_n 2, 1) := dk_28 (dk_at dksX10_far_1 23 rfl rfl)
theorem dX10_far_48 : decode cX10_far 48 = .ok (.iadd, 1) := dk_96 (dk_at dksX10_far_2 0 rfl rfl)
theorem dX10_far_49 : decode cX10_far 49 = .ok (.iaload, 1) := dk_46 (dk_at dksX10_far_2 1 rfl rfl)
theorem dX10_far_50 : decode cX10_far 50 = .ok (.ireturn, 1) := dk_172 (dk_at dksX10_far_2 2 rfl rfl)
abbrev cX10_till : ByteArray := prog_21_method_83_code
def yX10_till : MethodName := ⟨RX10, "till", "()I"⟩
def dkwX10_till_0 : List UInt8 := [42, 182, 1, 144, 42, 182, 1, 169, 172]
abbrev dktX10_till_0 : List UInt8 := dkwX10_till_0 ++ []
theorem dksX10_till_0 : cX10_till.data.toList.drop 0 = dktX10_till_0 := by decide +kernel
theorem dX10_till_0 : decode cX10_till 0 = .ok (.aload_n 0, 1) := dk_42 (dk_at dksX10_till_0 0 rfl rfl)
theorem dX10_till_1 : decode cX10_till 1 = .ok (.invokevirtual 400, 3) := dk_182 1 144 (dk_at dksX10_till_0 1 rfl rfl)
theorem dX10_till_4 : decode cX10_till 4 = .ok (.aload_n 0, 1) := dk_42 (dk_at dksX10_till_0 4 rfl rfl)
theorem dX10_till_5 : decode cX10_till 5 = .ok (.invokevirtual 425, 3) := dk_182 1 169 (dk_at dksX10_till_0 5 rfl rfl)
theorem dX10_till_8 : decode cX10_till 8 = .ok (.ireturn, 1) := dk_172 (dk_at dksX10_till_0 8 rfl rfl)
abbrev cX10_tillNext : ByteArray := prog_21_method_82_code
def yX10_tillNext : MethodName := ⟨RX10, "tillNext", "()I"⟩
def dkwX10_tillNext_1 : List UInt8 := [154, 0, 9, 17, 5, 160, 167, 0, 4, 27, 172]
abbrev dktX10_tillNext_1 : List UInt8 := dkwX10_tillNext_1 ++ []
def dkwX10_tillNext_0 : List UInt8 := [42, 180, 0, 85, 42, 180, 0, 242, 46, 42, 182, 1, 82, 100, 17, 5, 160, 96, 17, 5, 160, 112, 60, 27]
abbrev dktX10_tillNext_0 : List UInt8 := dkwX10_tillNext_0 ++ dktX10_tillNext_1
theorem dksX10_tillNext_0 : cX10_tillNext.data.toList.drop 0 = dktX10_tillNext_0 := by decide +kernel
theorem dksX10_tillNext_1 : cX10_tillNext.data.toList.drop 24 = dktX10_tillNext_1 := dk_seg dksX10_tillNext_0 24 rfl rfl
theorem dX10_tillNext_0 : decode cX10_tillNext 0 = .ok (.aload_n 0, 1) := dk_42 (dk_at dksX10_tillNext_0 0 rfl rfl)
theorem dX10_tillNext_1 : decode cX10_tillNext 1 = .ok (.getfield 85, 3) := dk_180 0 85 (dk_at dksX10_tillNext_0 1 rfl rfl)
theorem dX10_tillNext_4 : decode cX10_tillNext 4 = .ok (.aload_n 0, 1) := dk_42 (dk_at dksX10_tillNext_0 4 rfl rfl)
theorem dX10_tillNext_5 : decode cX10_tillNext 5 = .ok (.getfield 242, 3) := dk_180 0 242 (dk_at dksX10_tillNext_0 5 rfl rfl)
theorem dX10_tillNext_8 : decode cX10_tillNext 8 = .ok (.iaload, 1) := dk_46 (dk_at dksX10_tillNext_0 8 rfl rfl)
theorem dX10_tillNext_9 : decode cX10_tillNext 9 = .ok (.aload_n 0, 1) := dk_42 (dk_at dksX10_tillNext_0 9 rfl rfl)
theorem dX10_tillNext_10 : decode cX10_tillNext 10 = .ok (.invokevirtual 338, 3) := dk_182 1 82 (dk_at dksX10_tillNext_0 10 rfl rfl)
theorem dX10_tillNext_13 : decode cX10_tillNext 13 = .ok (.isub, 1) := dk_100 (dk_at dksX10_tillNext_0 13 rfl rfl)
theorem dX10_tillNext_14 : decode cX10_tillNext 14 = .ok (.sipush 1440, 3) := dk_17 5 160 (dk_at dksX10_tillNext_0 14 rfl rfl)
theorem dX10_tillNext_17 : decode cX10_tillNext 17 = .ok (.iadd, 1) := dk_96 (dk_at dksX10_tillNext_0 17 rfl rfl)
theorem dX10_tillNext_18 : decode cX10_tillNext 18 = .ok (.sipush 1440, 3) := dk_17 5 160 (dk_at dksX10_tillNext_0 18 rfl rfl)
theorem dX10_tillNext_21 : decode cX10_tillNext 21 = .ok (.irem, 1) := dk_112 (dk_at dksX10_tillNext_0 21 rfl rfl)
theorem dX10_tillNext_22 : decode cX10_tillNext 22 = .ok (.istore_n 1, 1) := dk_60 (dk_at dksX10_tillNext_0 22 rfl rfl)
theorem dX10_tillNext_23 : decode cX10_tillNext 23 = .ok (.iload_n 1, 1) := dk_27 (dk_at dksX10_tillNext_0 23 rfl rfl)
theorem dX10_tillNext_24 : decode cX10_tillNext 24 = .ok (.ifCond .ne 9, 3) := dk_154 0 9 (dk_at dksX10_tillNext_1 0 rfl rfl)
theorem dX10_tillNext_27 : decode cX10_tillNext 27 = .ok (.sipush 1440, 3) := dk_17 5 160 (dk_at dksX10_tillNext_1 3 rfl rfl)
theorem dX10_tillNext_30 : decode cX10_tillNext 30 = .ok (.goto 4, 3) := dk_167 0 4 (dk_at dksX10_tillNext_1 6 rfl rfl)
theorem dX10_tillNext_33 : decode cX10_tillNext 33 = .ok (.iload_n 1, 1) := dk_27 (dk_at dksX10_tillNext_1 9 rfl rfl)
theorem dX10_tillNext_34 : decode cX10_tillNext 34 = .ok (.ireturn, 1) := dk_172 (dk_at dksX10_tillNext_1 10 rfl rfl)
abbrev cX10_round : ByteArray := prog_21_method_85_code
def yX10_round : MethodName := ⟨RX10, "round", "(II)I"⟩
def dkwX10_round_2 : List UInt8 := [182, 1, 125, 154, 0, 15, 29, 42, 182, 1, 169, 163, 0, 7, 4, 167, 0, 4, 3, 172]
abbrev dktX10_round_2 : List UInt8 := dkwX10_round_2 ++ []
def dkwX10_round_1 : List UInt8 := [27, 182, 1, 172, 62, 29, 16, 99, 161, 0, 6, 16, 254, 172, 28, 154, 0, 7, 29, 167, 0, 23, 42]
abbrev dktX10_round_1 : List UInt8 := dkwX10_round_1 ++ dktX10_round_2
def dkwX10_round_0 : List UInt8 := [42, 27, 182, 1, 156, 153, 0, 12, 28, 3, 4, 184, 1, 78, 154, 0, 5, 2, 172, 42, 182, 1, 144, 42]
abbrev dktX10_round_0 : List UInt8 := dkwX10_round_0 ++ dktX10_round_1
theorem dksX10_round_0 : cX10_round.data.toList.drop 0 = dktX10_round_0 := by decide +kernel
theorem dksX10_round_1 : cX10_round.data.toList.drop 24 = dktX10_round_1 := dk_seg dksX10_round_0 24 rfl rfl
theorem dksX10_round_2 : cX10_round.data.toList.drop 47 = dktX10_round_2 := dk_seg dksX10_round_1 23 rfl rfl
theorem dX10_round_0 : decode cX10_round 0 = .ok (.aload_n 0, 1) := dk_42 (dk_at dksX10_round_0 0 rfl rfl)
theorem dX10_round_1 : decode cX10_round 1 = .ok (.iload_n 1, 1) := dk_27 (dk_at dksX10_round_0 1 rfl rfl)
theorem dX10_round_2 : decode cX10_round 2 = .ok (.invokevirtual 412, 3) := dk_182 1 156 (dk_at dksX10_round_0 2 rfl rfl)
theorem dX10_round_5 : decode cX10_round 5 = .ok (.ifCond .eq 12, 3) := dk_153 0 12 (dk_at dksX10_round_0 5 rfl rfl)
theorem dX10_round_8 : decode cX10_round 8 = .ok (.iload_n 2, 1) := dk_28 (dk_at dksX10_round_0 8 rfl rfl)
theorem dX10_round_9 : decode cX10_round 9 = .ok (.iconst 0, 1) := dk_3 (dk_at dksX10_round_0 9 rfl rfl)
theorem dX10_round_10 : decode cX10_round 10 = .ok (.iconst 1, 1) := dk_4 (dk_at dksX10_round_0 10 rfl rfl)
theorem dX10_round_11 : decode cX10_round 11 = .ok (.invokestatic 334, 3) := dk_184 1 78 (dk_at dksX10_round_0 11 rfl rfl)
theorem dX10_round_14 : decode cX10_round 14 = .ok (.ifCond .ne 5, 3) := dk_154 0 5 (dk_at dksX10_round_0 14 rfl rfl)
theorem dX10_round_17 : decode cX10_round 17 = .ok (.iconst (-1), 1) := dk_2 (dk_at dksX10_round_0 17 rfl rfl)
theorem dX10_round_18 : decode cX10_round 18 = .ok (.ireturn, 1) := dk_172 (dk_at dksX10_round_0 18 rfl rfl)
theorem dX10_round_19 : decode cX10_round 19 = .ok (.aload_n 0, 1) := dk_42 (dk_at dksX10_round_0 19 rfl rfl)
theorem dX10_round_20 : decode cX10_round 20 = .ok (.invokevirtual 400, 3) := dk_182 1 144 (dk_at dksX10_round_0 20 rfl rfl)
theorem dX10_round_23 : decode cX10_round 23 = .ok (.aload_n 0, 1) := dk_42 (dk_at dksX10_round_0 23 rfl rfl)
theorem dX10_round_24 : decode cX10_round 24 = .ok (.iload_n 1, 1) := dk_27 (dk_at dksX10_round_1 0 rfl rfl)
theorem dX10_round_25 : decode cX10_round 25 = .ok (.invokevirtual 428, 3) := dk_182 1 172 (dk_at dksX10_round_1 1 rfl rfl)
theorem dX10_round_28 : decode cX10_round 28 = .ok (.istore_n 3, 1) := dk_62 (dk_at dksX10_round_1 4 rfl rfl)
theorem dX10_round_29 : decode cX10_round 29 = .ok (.iload_n 3, 1) := dk_29 (dk_at dksX10_round_1 5 rfl rfl)
theorem dX10_round_30 : decode cX10_round 30 = .ok (.bipush 99, 2) := dk_16 99 (dk_at dksX10_round_1 6 rfl rfl)
theorem dX10_round_32 : decode cX10_round 32 = .ok (.if_icmp .lt 6, 3) := dk_161 0 6 (dk_at dksX10_round_1 8 rfl rfl)
theorem dX10_round_35 : decode cX10_round 35 = .ok (.bipush (-2), 2) := dk_16 254 (dk_at dksX10_round_1 11 rfl rfl)
theorem dX10_round_37 : decode cX10_round 37 = .ok (.ireturn, 1) := dk_172 (dk_at dksX10_round_1 13 rfl rfl)
theorem dX10_round_38 : decode cX10_round 38 = .ok (.iload_n 2, 1) := dk_28 (dk_at dksX10_round_1 14 rfl rfl)
theorem dX10_round_39 : decode cX10_round 39 = .ok (.ifCond .ne 7, 3) := dk_154 0 7 (dk_at dksX10_round_1 15 rfl rfl)
theorem dX10_round_42 : decode cX10_round 42 = .ok (.iload_n 3, 1) := dk_29 (dk_at dksX10_round_1 18 rfl rfl)
theorem dX10_round_43 : decode cX10_round 43 = .ok (.goto 23, 3) := dk_167 0 23 (dk_at dksX10_round_1 19 rfl rfl)
theorem dX10_round_46 : decode cX10_round 46 = .ok (.aload_n 0, 1) := dk_42 (dk_at dksX10_round_1 22 rfl rfl)
theorem dX10_round_47 : decode cX10_round 47 = .ok (.invokevirtual 381, 3) := dk_182 1 125 (dk_at dksX10_round_2 0 rfl rfl)
theorem dX10_round_50 : decode cX10_round 50 = .ok (.ifCond .ne 15, 3) := dk_154 0 15 (dk_at dksX10_round_2 3 rfl rfl)
theorem dX10_round_53 : decode cX10_round 53 = .ok (.iload_n 3, 1) := dk_29 (dk_at dksX10_round_2 6 rfl rfl)
theorem dX10_round_54 : decode cX10_round 54 = .ok (.aload_n 0, 1) := dk_42 (dk_at dksX10_round_2 7 rfl rfl)
theorem dX10_round_55 : decode cX10_round 55 = .ok (.invokevirtual 425, 3) := dk_182 1 169 (dk_at dksX10_round_2 8 rfl rfl)
theorem dX10_round_58 : decode cX10_round 58 = .ok (.if_icmp .gt 7, 3) := dk_163 0 7 (dk_at dksX10_round_2 11 rfl rfl)
theorem dX10_round_61 : decode cX10_round 61 = .ok (.iconst 1, 1) := dk_4 (dk_at dksX10_round_2 14 rfl rfl)
theorem dX10_round_62 : decode cX10_round 62 = .ok (.goto 4, 3) := dk_167 0 4 (dk_at dksX10_round_2 15 rfl rfl)
theorem dX10_round_65 : decode cX10_round 65 = .ok (.iconst 0, 1) := dk_3 (dk_at dksX10_round_2 18 rfl rfl)
theorem dX10_round_66 : decode cX10_round 66 = .ok (.ireturn, 1) := dk_172 (dk_at dksX10_round_2 19 rfl rfl)
abbrev cX10_roundOf : ByteArray := prog_21_method_84_code
def yX10_roundOf : MethodName := ⟨RX10, "roundOf", "(I)I"⟩
def dkwX10_roundOf_16 : List UInt8 := [21, 5, 104, 29, 96, 46, 96, 54, 4, 132, 5, 1, 167, 255, 189, 21, 4, 172]
abbrev dktX10_roundOf_16 : List UInt8 := dkwX10_roundOf_16 ++ []
def dkwX10_roundOf_15 : List UInt8 := [21, 4, 162, 0, 30, 42, 180, 0, 143, 16, 7, 28, 104, 21, 5, 96, 46, 42, 180, 0, 131, 16, 7]
abbrev dktX10_roundOf_15 : List UInt8 := dkwX10_roundOf_15 ++ dktX10_roundOf_16
def dkwX10_roundOf_14 : List UInt8 := [180, 0, 143, 16, 7, 28, 104, 21, 5, 96, 46, 42, 180, 0, 131, 16, 7, 21, 5, 104, 29, 96, 46, 96]
abbrev dktX10_roundOf_14 : List UInt8 := dkwX10_roundOf_14 ++ dktX10_roundOf_15
def dkwX10_roundOf_13 : List UInt8 := [27, 96, 46, 104, 29, 96, 46, 172, 17, 3, 231, 54, 4, 3, 54, 5, 21, 5, 16, 7, 162, 0, 66, 42]
abbrev dktX10_roundOf_13 : List UInt8 := dkwX10_roundOf_13 ++ dktX10_roundOf_14
def dkwX10_roundOf_12 : List UInt8 := [180, 0, 242, 104, 27, 96, 46, 62, 28, 154, 0, 23, 42, 180, 0, 131, 16, 7, 42, 180, 0, 137, 16, 15]
abbrev dktX10_roundOf_12 : List UInt8 := dkwX10_roundOf_12 ++ dktX10_roundOf_13
def dkwX10_roundOf_11 : List UInt8 := [132, 5, 1, 167, 255, 155, 132, 4, 1, 167, 255, 118, 132, 3, 1, 167, 255, 104, 42, 180, 0, 70, 7, 42]
abbrev dktX10_roundOf_11 : List UInt8 := dkwX10_roundOf_11 ++ dktX10_roundOf_12
def dkwX10_roundOf_10 : List UInt8 := [162, 0, 22, 42, 180, 0, 143, 16, 7, 29, 4, 21, 5, 120, 128, 104, 21, 5, 96, 21, 6, 79]
abbrev dktX10_roundOf_10 : List UInt8 := dkwX10_roundOf_10 ++ dktX10_roundOf_11
def dkwX10_roundOf_9 : List UInt8 := [96, 54, 6, 21, 6, 42, 180, 0, 143, 16, 7, 29, 4, 21, 5, 120, 128, 104, 21, 5, 96, 46]
abbrev dktX10_roundOf_9 : List UInt8 := dkwX10_roundOf_9 ++ dktX10_roundOf_10
def dkwX10_roundOf_8 : List UInt8 := [180, 0, 143, 16, 7, 29, 104, 21, 4, 96, 46, 42, 180, 0, 131, 16, 7, 21, 4, 104, 21, 5, 96, 46]
abbrev dktX10_roundOf_8 : List UInt8 := dkwX10_roundOf_8 ++ dktX10_roundOf_9
def dkwX10_roundOf_7 : List UInt8 := [21, 5, 122, 4, 126, 153, 0, 85, 29, 21, 5, 122, 4, 126, 4, 160, 0, 6, 167, 0, 72, 42]
abbrev dktX10_roundOf_7 : List UInt8 := dkwX10_roundOf_7 ++ dktX10_roundOf_8
def dkwX10_roundOf_6 : List UInt8 := [21, 4, 96, 46, 17, 3, 231, 161, 0, 6, 167, 0, 110, 3, 54, 5, 21, 5, 16, 7, 162, 0, 100, 28]
abbrev dktX10_roundOf_6 : List UInt8 := dkwX10_roundOf_6 ++ dktX10_roundOf_7
def dkwX10_roundOf_5 : List UInt8 := [29, 28, 163, 0, 153, 3, 54, 4, 21, 4, 16, 7, 162, 0, 137, 42, 180, 0, 143, 16, 7, 29, 104]
abbrev dktX10_roundOf_5 : List UInt8 := dkwX10_roundOf_5 ++ dktX10_roundOf_6
def dkwX10_roundOf_4 : List UInt8 := [16, 7, 42, 180, 0, 137, 16, 15, 27, 96, 46, 104, 29, 96, 46, 79, 132, 3, 1, 167, 255, 206, 4, 62]
abbrev dktX10_roundOf_4 : List UInt8 := dkwX10_roundOf_4 ++ dktX10_roundOf_5
def dkwX10_roundOf_3 : List UInt8 := [29, 122, 4, 126, 4, 160, 0, 35, 42, 180, 0, 143, 16, 7, 4, 29, 120, 104, 29, 96, 42, 180, 0, 131]
abbrev dktX10_roundOf_3 : List UInt8 := dkwX10_roundOf_3 ++ dktX10_roundOf_4
def dkwX10_roundOf_2 : List UInt8 := [42, 180, 0, 143, 29, 17, 3, 231, 79, 132, 3, 1, 167, 255, 237, 3, 62, 29, 16, 7, 162, 0, 50, 28]
abbrev dktX10_roundOf_2 : List UInt8 := dkwX10_roundOf_2 ++ dktX10_roundOf_3
def dkwX10_roundOf_1 : List UInt8 := [158, 0, 9, 28, 4, 29, 120, 128, 61, 132, 3, 1, 167, 255, 225, 3, 62, 29, 17, 3, 128, 162, 0, 18]
abbrev dktX10_roundOf_1 : List UInt8 := dkwX10_roundOf_1 ++ dktX10_roundOf_2
def dkwX10_roundOf_0 : List UInt8 := [3, 61, 3, 62, 29, 42, 180, 0, 46, 42, 180, 0, 242, 46, 162, 0, 24, 42, 27, 29, 182, 1, 150]
abbrev dktX10_roundOf_0 : List UInt8 := dkwX10_roundOf_0 ++ dktX10_roundOf_1
theorem dksX10_roundOf_0 : cX10_roundOf.data.toList.drop 0 = dktX10_roundOf_0 := by decide +kernel
theorem dksX10_roundOf_1 : cX10_roundOf.data.toList.drop 23 = dktX10_roundOf_1 := dk_seg dksX10_roundOf_0 23 rfl rfl
theorem dksX10_roundOf_2 : cX10_roundOf.data.toList.drop 47 = dktX10_roundOf_2 := dk_seg dksX10_roundOf_1 24 rfl rfl
theorem dksX10_roundOf_3 : cX10_roundOf.data.toList.drop 71 = dktX10_roundOf_3 := dk_seg dksX10_roundOf_2 24 rfl rfl
theorem dksX10_roundOf_4 : cX10_roundOf.data.toList.drop 95 = dktX10_roundOf_4 := dk_seg dksX10_roundOf_3 24 rfl rfl
theorem dksX10_roundOf_5 : cX10_roundOf.data.toList.drop 119 = dktX10_roundOf_5 := dk_seg dksX10_roundOf_4 24 rfl rfl
theorem dksX10_roundOf_6 : cX10_roundOf.data.toList.drop 142 = dktX10_roundOf_6 := dk_seg dksX10_roundOf_5 23 rfl rfl
theorem dksX10_roundOf_7 : cX10_roundOf.data.toList.drop 166 = dktX10_roundOf_7 := dk_seg dksX10_roundOf_6 24 rfl rfl
theorem dksX10_roundOf_8 : cX10_roundOf.data.toList.drop 188 = dktX10_roundOf_8 := dk_seg dksX10_roundOf_7 22 rfl rfl
theorem dksX10_roundOf_9 : cX10_roundOf.data.toList.drop 212 = dktX10_roundOf_9 := dk_seg dksX10_roundOf_8 24 rfl rfl
theorem dksX10_roundOf_10 : cX10_roundOf.data.toList.drop 234 = dktX10_roundOf_10 := dk_seg dksX10_roundOf_9 22 rfl rfl
theorem dksX10_roundOf_11 : cX10_roundOf.data.toList.drop 256 = dktX10_roundOf_11 := dk_seg dksX10_roundOf_10 22 rfl rfl
theorem dksX10_roundOf_12 : cX10_roundOf.data.toList.drop 280 = dktX10_roundOf_12 := dk_seg dksX10_roundOf_11 24 rfl rfl
theorem dksX10_roundOf_13 : cX10_roundOf.data.toList.drop 304 = dktX10_roundOf_13 := dk_seg dksX10_roundOf_12 24 rfl rfl
theorem dksX10_roundOf_14 : cX10_roundOf.data.toList.drop 328 = dktX10_roundOf_14 := dk_seg dksX10_roundOf_13 24 rfl rfl
theorem dksX10_roundOf_15 : cX10_roundOf.data.toList.drop 352 = dktX10_roundOf_15 := dk_seg dksX10_roundOf_14 24 rfl rfl
theorem dksX10_roundOf_16 : cX10_roundOf.data.toList.drop 375 = dktX10_roundOf_16 := dk_seg dksX10_roundOf_15 23 rfl rfl
theorem dX10_roundOf_0 : decode cX10_roundOf 0 = .ok (.iconst 0, 1) := dk_3 (dk_at dksX10_roundOf_0 0 rfl rfl)
theorem dX10_roundOf_1 : decode cX10_roundOf 1 = .ok (.istore_n 2, 1) := dk_61 (dk_at dksX10_roundOf_0 1 rfl rfl)
theorem dX10_roundOf_2 : decode cX10_roundOf 2 = .ok (.iconst 0, 1) := dk_3 (dk_at dksX10_roundOf_0 2 rfl rfl)
theorem dX10_roundOf_3 : decode cX10_roundOf 3 = .ok (.istore_n 3, 1) := dk_62 (dk_at dksX10_roundOf_0 3 rfl rfl)
theorem dX10_roundOf_4 : decode cX10_roundOf 4 = .ok (.iload_n 3, 1) := dk_29 (dk_at dksX10_roundOf_0 4 rfl rfl)
theorem dX10_roundOf_5 : decode cX10_roundOf 5 = .ok (.aload_n 0, 1) := dk_42 (dk_at dksX10_roundOf_0 5 rfl rfl)
theorem dX10_roundOf_6 : decode cX10_roundOf 6 = .ok (.getfield 46, 3) := dk_180 0 46 (dk_at dksX10_roundOf_0 6 rfl rfl)
theorem dX10_roundOf_9 : decode cX10_roundOf 9 = .ok (.aload_n 0, 1) := dk_42 (dk_at dksX10_roundOf_0 9 rfl rfl)
theorem dX10_roundOf_10 : decode cX10_roundOf 10 = .ok (.getfield 242, 3) := dk_180 0 242 (dk_at dksX10_roundOf_0 10 rfl rfl)
theorem dX10_roundOf_13 : decode cX10_roundOf 13 = .ok (.iaload, 1) := dk_46 (dk_at dksX10_roundOf_0 13 rfl rfl)
theorem dX10_roundOf_14 : decode cX10_roundOf 14 = .ok (.if_icmp .ge 24, 3) := dk_162 0 24 (dk_at dksX10_roundOf_0 14 rfl rfl)
theorem dX10_roundOf_17 : decode cX10_roundOf 17 = .ok (.aload_n 0, 1) := dk_42 (dk_at dksX10_roundOf_0 17 rfl rfl)
theorem dX10_roundOf_18 : decode cX10_roundOf 18 = .ok (.iload_n 1, 1) := dk_27 (dk_at dksX10_roundOf_0 18 rfl rfl)
theorem dX10_roundOf_19 : decode cX10_roundOf 19 = .ok (.iload_n 3, 1) := dk_29 (dk_at dksX10_roundOf_0 19 rfl rfl)
theorem dX10_roundOf_20 : decode cX10_roundOf 20 = .ok (.invokevirtual 406, 3) := dk_182 1 150 (dk_at dksX10_roundOf_0 20 rfl rfl)
theorem dX10_roundOf_23 : decode cX10_roundOf 23 = .ok (.ifCond .le 9, 3) := dk_158 0 9 (dk_at dksX10_roundOf_1 0 rfl rfl)
theorem dX10_roundOf_26 : decode cX10_roundOf 26 = .ok (.iload_n 2, 1) := dk_28 (dk_at dksX10_roundOf_1 3 rfl rfl)
theorem dX10_roundOf_27 : decode cX10_roundOf 27 = .ok (.iconst 1, 1) := dk_4 (dk_at dksX10_roundOf_1 4 rfl rfl)
theorem dX10_roundOf_28 : decode cX10_roundOf 28 = .ok (.iload_n 3, 1) := dk_29 (dk_at dksX10_roundOf_1 5 rfl rfl)
theorem dX10_roundOf_29 : decode cX10_roundOf 29 = .ok (.ishl, 1) := dk_120 (dk_at dksX10_roundOf_1 6 rfl rfl)
theorem dX10_roundOf_30 : decode cX10_roundOf 30 = .ok (.ior, 1) := dk_128 (dk_at dksX10_roundOf_1 7 rfl rfl)
theorem dX10_roundOf_31 : decode cX10_roundOf 31 = .ok (.istore_n 2, 1) := dk_61 (dk_at dksX10_roundOf_1 8 rfl rfl)
theorem dX10_roundOf_32 : decode cX10_roundOf 32 = .ok (.iinc 3 1, 3) := dk_132 3 1 (dk_at dksX10_roundOf_1 9 rfl rfl)
theorem dX10_roundOf_35 : decode cX10_roundOf 35 = .ok (.goto (-31), 3) := dk_167 255 225 (dk_at dksX10_roundOf_1 12 rfl rfl)
theorem dX10_roundOf_38 : decode cX10_roundOf 38 = .ok (.iconst 0, 1) := dk_3 (dk_at dksX10_roundOf_1 15 rfl rfl)
theorem dX10_roundOf_39 : decode cX10_roundOf 39 = .ok (.istore_n 3, 1) := dk_62 (dk_at dksX10_roundOf_1 16 rfl rfl)
theorem dX10_roundOf_40 : decode cX10_roundOf 40 = .ok (.iload_n 3, 1) := dk_29 (dk_at dksX10_roundOf_1 17 rfl rfl)
theorem dX10_roundOf_41 : decode cX10_roundOf 41 = .ok (.sipush 896, 3) := dk_17 3 128 (dk_at dksX10_roundOf_1 18 rfl rfl)
theorem dX10_roundOf_44 : decode cX10_roundOf 44 = .ok (.if_icmp .ge 18, 3) := dk_162 0 18 (dk_at dksX10_roundOf_1 21 rfl rfl)
theorem dX10_roundOf_47 : decode cX10_roundOf 47 = .ok (.aload_n 0, 1) := dk_42 (dk_at dksX10_roundOf_2 0 rfl rfl)
theorem dX10_roundOf_48 : decode cX10_roundOf 48 = .ok (.getfield 143, 3) := dk_180 0 143 (dk_at dksX10_roundOf_2 1 rfl rfl)
theorem dX10_roundOf_51 : decode cX10_roundOf 51 = .ok (.iload_n 3, 1) := dk_29 (dk_at dksX10_roundOf_2 4 rfl rfl)
theorem dX10_roundOf_52 : decode cX10_roundOf 52 = .ok (.sipush 999, 3) := dk_17 3 231 (dk_at dksX10_roundOf_2 5 rfl rfl)
theorem dX10_roundOf_55 : decode cX10_roundOf 55 = .ok (.iastore, 1) := dk_79 (dk_at dksX10_roundOf_2 8 rfl rfl)
theorem dX10_roundOf_56 : decode cX10_roundOf 56 = .ok (.iinc 3 1, 3) := dk_132 3 1 (dk_at dksX10_roundOf_2 9 rfl rfl)
theorem dX10_roundOf_59 : decode cX10_roundOf 59 = .ok (.goto (-19), 3) := dk_167 255 237 (dk_at dksX10_roundOf_2 12 rfl rfl)
theorem dX10_roundOf_62 : decode cX10_roundOf 62 = .ok (.iconst 0, 1) := dk_3 (dk_at dksX10_roundOf_2 15 rfl rfl)
theorem dX10_roundOf_63 : decode cX10_roundOf 63 = .ok (.istore_n 3, 1) := dk_62 (dk_at dksX10_roundOf_2 16 rfl rfl)
theorem dX10_roundOf_64 : decode cX10_roundOf 64 = .ok (.iload_n 3, 1) := dk_29 (dk_at dksX10_roundOf_2 17 rfl rfl)
theorem dX10_roundOf_65 : decode cX10_roundOf 65 = .ok (.bipush 7, 2) := dk_16 7 (dk_at dksX10_roundOf_2 18 rfl rfl)
theorem dX10_roundOf_67 : decode cX10_roundOf 67 = .ok (.if_icmp .ge 50, 3) := dk_162 0 50 (dk_at dksX10_roundOf_2 20 rfl rfl)
theorem dX10_roundOf_70 : decode cX10_roundOf 70 = .ok (.iload_n 2, 1) := dk_28 (dk_at dksX10_roundOf_2 23 rfl rfl)
theorem dX10_roundOf_71 : decode cX10_roundOf 71 = .ok (.iload_n 3, 1) := dk_29 (dk_at dksX10_roundOf_3 0 rfl rfl)
theorem dX10_roundOf_72 : decode cX10_roundOf 72 = .ok (.ishr, 1) := dk_122 (dk_at dksX10_roundOf_3 1 rfl rfl)
theorem dX10_roundOf_73 : decode cX10_roundOf 73 = .ok (.iconst 1, 1) := dk_4 (dk_at dksX10_roundOf_3 2 rfl rfl)
theorem dX10_roundOf_74 : decode cX10_roundOf 74 = .ok (.iand, 1) := dk_126 (dk_at dksX10_roundOf_3 3 rfl rfl)
theorem dX10_roundOf_75 : decode cX10_roundOf 75 = .ok (.iconst 1, 1) := dk_4 (dk_at dksX10_roundOf_3 4 rfl rfl)
theorem dX10_roundOf_76 : decode cX10_roundOf 76 = .ok (.if_icmp .ne 35, 3) := dk_160 0 35 (dk_at dksX10_roundOf_3 5 rfl rfl)
theorem dX10_roundOf_79 : decode cX10_roundOf 79 = .ok (.aload_n 0, 1) := dk_42 (dk_at dksX10_roundOf_3 8 rfl rfl)
theorem dX10_roundOf_80 : decode cX10_roundOf 80 = .ok (.getfield 143, 3) := dk_180 0 143 (dk_at dksX10_roundOf_3 9 rfl rfl)
theorem dX10_roundOf_83 : decode cX10_roundOf 83 = .ok (.bipush 7, 2) := dk_16 7 (dk_at dksX10_roundOf_3 12 rfl rfl)
theorem dX10_roundOf_85 : decode cX10_roundOf 85 = .ok (.iconst 1, 1) := dk_4 (dk_at dksX10_roundOf_3 14 rfl rfl)
theorem dX10_roundOf_86 : decode cX10_roundOf 86 = .ok (.iload_n 3, 1) := dk_29 (dk_at dksX10_roundOf_3 15 rfl rfl)
theorem dX10_roundOf_87 : decode cX10_roundOf 87 = .ok (.ishl, 1) := dk_120 (dk_at dksX10_roundOf_3 16 rfl rfl)
theorem dX10_roundOf_88 : decode cX10_roundOf 88 = .ok (.imul, 1) := dk_104 (dk_at dksX10_roundOf_3 17 rfl rfl)
theorem dX10_roundOf_89 : decode cX10_roundOf 89 = .ok (.iload_n 3, 1) := dk_29 (dk_at dksX10_roundOf_3 18 rfl rfl)
theorem dX10_roundOf_90 : decode cX10_roundOf 90 = .ok (.iadd, 1) := dk_96 (dk_at dksX10_roundOf_3 19 rfl rfl)
theorem dX10_roundOf_91 : decode cX10_roundOf 91 = .ok (.aload_n 0, 1) := dk_42 (dk_at dksX10_roundOf_3 20 rfl rfl)
theorem dX10_roundOf_92 : decode cX10_roundOf 92 = .ok (.getfield 131, 3) := dk_180 0 131 (dk_at dksX10_roundOf_3 21 rfl rfl)
theorem dX10_roundOf_95 : decode cX10_roundOf 95 = .ok (.bipush 7, 2) := dk_16 7 (dk_at dksX10_roundOf_4 0 rfl rfl)
theorem dX10_roundOf_97 : decode cX10_roundOf 97 = .ok (.aload_n 0, 1) := dk_42 (dk_at dksX10_roundOf_4 2 rfl rfl)
theorem dX10_roundOf_98 : decode cX10_roundOf 98 = .ok (.getfield 137, 3) := dk_180 0 137 (dk_at dksX10_roundOf_4 3 rfl rfl)
theorem dX10_roundOf_101 : decode cX10_roundOf 101 = .ok (.bipush 15, 2) := dk_16 15 (dk_at dksX10_roundOf_4 6 rfl rfl)
theorem dX10_roundOf_103 : decode cX10_roundOf 103 = .ok (.iload_n 1, 1) := dk_27 (dk_at dksX10_roundOf_4 8 rfl rfl)
theorem dX10_roundOf_104 : decode cX10_roundOf 104 = .ok (.iadd, 1) := dk_96 (dk_at dksX10_roundOf_4 9 rfl rfl)
theorem dX10_roundOf_105 : decode cX10_roundOf 105 = .ok (.iaload, 1) := dk_46 (dk_at dksX10_roundOf_4 10 rfl rfl)
theorem dX10_roundOf_106 : decode cX10_roundOf 106 = .ok (.imul, 1) := dk_104 (dk_at dksX10_roundOf_4 11 rfl rfl)
theorem dX10_roundOf_107 : decode cX10_roundOf 107 = .ok (.iload_n 3, 1) := dk_29 (dk_at dksX10_roundOf_4 12 rfl rfl)
theorem dX10_roundOf_108 : decode cX10_roundOf 108 = .ok (.iadd, 1) := dk_96 (dk_at dksX10_roundOf_4 13 rfl rfl)
theorem dX10_roundOf_109 : decode cX10_roundOf 109 = .ok (.iaload, 1) := dk_46 (dk_at dksX10_roundOf_4 14 rfl rfl)
theorem dX10_roundOf_110 : decode cX10_roundOf 110 = .ok (.iastore, 1) := dk_79 (dk_at dksX10_roundOf_4 15 rfl rfl)
theorem dX10_roundOf_111 : decode cX10_roundOf 111 = .ok (.iinc 3 1, 3) := dk_132 3 1 (dk_at dksX10_roundOf_4 16 rfl rfl)
theorem dX10_roundOf_114 : decode cX10_roundOf 114 = .ok (.goto (-50), 3) := dk_167 255 206 (dk_at dksX10_roundOf_4 19 rfl rfl)
theorem dX10_roundOf_117 : decode cX10_roundOf 117 = .ok (.iconst 1, 1) := dk_4 (dk_at dksX10_roundOf_4 22 rfl rfl)
theorem dX10_roundOf_118 : decode cX10_roundOf 118 = .ok (.istore_n 3, 1) := dk_62 (dk_at dksX10_roundOf_4 23 rfl rfl)
theorem dX10_roundOf_119 : decode cX10_roundOf 119 = .ok (.iload_n 3, 1) := dk_29 (dk_at dksX10_roundOf_5 0 rfl rfl)
theorem dX10_roundOf_120 : decode cX10_roundOf 120 = .ok (.iload_n 2, 1) := dk_28 (dk_at dksX10_roundOf_5 1 rfl rfl)
theorem dX10_roundOf_121 : decode cX10_roundOf 121 = .ok (.if_icmp .gt 153, 3) := dk_163 0 153 (dk_at dksX10_roundOf_5 2 rfl rfl)
theorem dX10_roundOf_124 : decode cX10_roundOf 124 = .ok (.iconst 0, 1) := dk_3 (dk_at dksX10_roundOf_5 5 rfl rfl)
theorem dX10_roundOf_125 : decode cX10_roundOf 125 = .ok (.istore 4, 2) := dk_54 4 (dk_at dksX10_roundOf_5 6 rfl rfl)
theorem dX10_roundOf_127 : decode cX10_roundOf 127 = .ok (.iload 4, 2) := dk_21 4 (dk_at dksX10_roundOf_5 8 rfl rfl)
theorem dX10_roundOf_129 : decode cX10_roundOf 129 = .ok (.bipush 7, 2) := dk_16 7 (dk_at dksX10_roundOf_5 10 rfl rfl)
theorem dX10_roundOf_131 : decode cX10_roundOf 131 = .ok (.if_icmp .ge 137, 3) := dk_162 0 137 (dk_at dksX10_roundOf_5 12 rfl rfl)
theorem dX10_roundOf_134 : decode cX10_roundOf 134 = .ok (.aload_n 0, 1) := dk_42 (dk_at dksX10_roundOf_5 15 rfl rfl)
theorem dX10_roundOf_135 : decode cX10_roundOf 135 = .ok (.getfield 143, 3) := dk_180 0 143 (dk_at dksX10_roundOf_5 16 rfl rfl)
theorem dX10_roundOf_138 : decode cX10_roundOf 138 = .ok (.bipush 7, 2) := dk_16 7 (dk_at dksX10_roundOf_5 19 rfl rfl)
theorem dX10_roundOf_140 : decode cX10_roundOf 140 = .ok (.iload_n 3, 1) := dk_29 (dk_at dksX10_roundOf_5 21 rfl rfl)
theorem dX10_roundOf_141 : decode cX10_roundOf 141 = .ok (.imul, 1) := dk_104 (dk_at dksX10_roundOf_5 22 rfl rfl)
theorem dX10_roundOf_142 : decode cX10_roundOf 142 = .ok (.iload 4, 2) := dk_21 4 (dk_at dksX10_roundOf_6 0 rfl rfl)
theorem dX10_roundOf_144 : decode cX10_roundOf 144 = .ok (.iadd, 1) := dk_96 (dk_at dksX10_roundOf_6 2 rfl rfl)
theorem dX10_roundOf_145 : decode cX10_roundOf 145 = .ok (.iaload, 1) := dk_46 (dk_at dksX10_roundOf_6 3 rfl rfl)
theorem dX10_roundOf_146 : decode cX10_roundOf 146 = .ok (.sipush 999, 3) := dk_17 3 231 (dk_at dksX10_roundOf_6 4 rfl rfl)
theorem dX10_roundOf_149 : decode cX10_roundOf 149 = .ok (.if_icmp .lt 6, 3) := dk_161 0 6 (dk_at dksX10_roundOf_6 7 rfl rfl)
theorem dX10_roundOf_152 : decode cX10_roundOf 152 = .ok (.goto 110, 3) := dk_167 0 110 (dk_at dksX10_roundOf_6 10 rfl rfl)
theorem dX10_roundOf_155 : decode cX10_roundOf 155 = .ok (.iconst 0, 1) := dk_3 (dk_at dksX10_roundOf_6 13 rfl rfl)
theorem dX10_roundOf_156 : decode cX10_roundOf 156 = .ok (.istore 5, 2) := dk_54 5 (dk_at dksX10_roundOf_6 14 rfl rfl)
theorem dX10_roundOf_158 : decode cX10_roundOf 158 = .ok (.iload 5, 2) := dk_21 5 (dk_at dksX10_roundOf_6 16 rfl rfl)
theorem dX10_roundOf_160 : decode cX10_roundOf 160 = .ok (.bipush 7, 2) := dk_16 7 (dk_at dksX10_roundOf_6 18 rfl rfl)
theorem dX10_roundOf_162 : decode cX10_roundOf 162 = .ok (.if_icmp .ge 100, 3) := dk_162 0 100 (dk_at dksX10_roundOf_6 20 rfl rfl)
theorem dX10_roundOf_165 : decode cX10_roundOf 165 = .ok (.iload_n 2, 1) := dk_28 (dk_at dksX10_roundOf_6 23 rfl rfl)
theorem dX10_roundOf_166 : decode cX10_roundOf 166 = .ok (.iload 5, 2) := dk_21 5 (dk_at dksX10_roundOf_7 0 rfl rfl)
theorem dX10_roundOf_168 : decode cX10_roundOf 168 = .ok (.ishr, 1) := dk_122 (dk_at dksX10_roundOf_7 2 rfl rfl)
theorem dX10_roundOf_169 : decode cX10_roundOf 169 = .ok (.iconst 1, 1) := dk_4 (dk_at dksX10_roundOf_7 3 rfl rfl)
theorem dX10_roundOf_170 : decode cX10_roundOf 170 = .ok (.iand, 1) := dk_126 (dk_at dksX10_roundOf_7 4 rfl rfl)
theorem dX10_roundOf_171 : decode cX10_roundOf 171 = .ok (.ifCond .eq 85, 3) := dk_153 0 85 (dk_at dksX10_roundOf_7 5 rfl rfl)
theorem dX10_roundOf_174 : decode cX10_roundOf 174 = .ok (.iload_n 3, 1) := dk_29 (dk_at dksX10_roundOf_7 8 rfl rfl)
theorem dX10_roundOf_175 : decode cX10_roundOf 175 = .ok (.iload 5, 2) := dk_21 5 (dk_at dksX10_roundOf_7 9 rfl rfl)
theorem dX10_roundOf_177 : decode cX10_roundOf 177 = .ok (.ishr, 1) := dk_122 (dk_at dksX10_roundOf_7 11 rfl rfl)
theorem dX10_roundOf_178 : decode cX10_roundOf 178 = .ok (.iconst 1, 1) := dk_4 (dk_at dksX10_roundOf_7 12 rfl rfl)
theorem dX10_roundOf_179 : decode cX10_roundOf 179 = .ok (.iand, 1) := dk_126 (dk_at dksX10_roundOf_7 13 rfl rfl)
theorem dX10_roundOf_180 : decode cX10_roundOf 180 = .ok (.iconst 1, 1) := dk_4 (dk_at dksX10_roundOf_7 14 rfl rfl)
theorem dX10_roundOf_181 : decode cX10_roundOf 181 = .ok (.if_icmp .ne 6, 3) := dk_160 0 6 (dk_at dksX10_roundOf_7 15 rfl rfl)
theorem dX10_roundOf_184 : decode cX10_roundOf 184 = .ok (.goto 72, 3) := dk_167 0 72 (dk_at dksX10_roundOf_7 18 rfl rfl)
theorem dX10_roundOf_187 : decode cX10_roundOf 187 = .ok (.aload_n 0, 1) := dk_42 (dk_at dksX10_roundOf_7 21 rfl rfl)
theorem dX10_roundOf_188 : decode cX10_roundOf 188 = .ok (.getfield 143, 3) := dk_180 0 143 (dk_at dksX10_roundOf_8 0 rfl rfl)
theorem dX10_roundOf_191 : decode cX10_roundOf 191 = .ok (.bipush 7, 2) := dk_16 7 (dk_at dksX10_roundOf_8 3 rfl rfl)
theorem dX10_roundOf_193 : decode cX10_roundOf 193 = .ok (.iload_n 3, 1) := dk_29 (dk_at dksX10_roundOf_8 5 rfl rfl)
theorem dX10_roundOf_194 : decode cX10_roundOf 194 = .ok (.imul, 1) := dk_104 (dk_at dksX10_roundOf_8 6 rfl rfl)
theorem dX10_roundOf_195 : decode cX10_roundOf 195 = .ok (.iload 4, 2) := dk_21 4 (dk_at dksX10_roundOf_8 7 rfl rfl)
theorem dX10_roundOf_197 : decode cX10_roundOf 197 = .ok (.iadd, 1) := dk_96 (dk_at dksX10_roundOf_8 9 rfl rfl)
theorem dX10_roundOf_198 : decode cX10_roundOf 198 = .ok (.iaload, 1) := dk_46 (dk_at dksX10_roundOf_8 10 rfl rfl)
theorem dX10_roundOf_199 : decode cX10_roundOf 199 = .ok (.aload_n 0, 1) := dk_42 (dk_at dksX10_roundOf_8 11 rfl rfl)
theorem dX10_roundOf_200 : decode cX10_roundOf 200 = .ok (.getfield 131, 3) := dk_180 0 131 (dk_at dksX10_roundOf_8 12 rfl rfl)
theorem dX10_roundOf_203 : decode cX10_roundOf 203 = .ok (.bipush 7, 2) := dk_16 7 (dk_at dksX10_roundOf_8 15 rfl rfl)
theorem dX10_roundOf_205 : decode cX10_roundOf 205 = .ok (.iload 4, 2) := dk_21 4 (dk_at dksX10_roundOf_8 17 rfl rfl)
theorem dX10_roundOf_207 : decode cX10_roundOf 207 = .ok (.imul, 1) := dk_104 (dk_at dksX10_roundOf_8 19 rfl rfl)
theorem dX10_roundOf_208 : decode cX10_roundOf 208 = .ok (.iload 5, 2) := dk_21 5 (dk_at dksX10_roundOf_8 20 rfl rfl)
theorem dX10_roundOf_210 : decode cX10_roundOf 210 = .ok (.iadd, 1) := dk_96 (dk_at dksX10_roundOf_8 22 rfl rfl)
theorem dX10_roundOf_211 : decode cX10_roundOf 211 = .ok (.iaload, 1) := dk_46 (dk_at dksX10_roundOf_8 23 rfl rfl)
theorem dX10_roundOf_212 : decode cX10_roundOf 212 = .ok (.iadd, 1) := dk_96 (dk_at dksX10_roundOf_9 0 rfl rfl)
theorem dX10_roundOf_213 : decode cX10_roundOf 213 = .ok (.istore 6, 2) := dk_54 6 (dk_at dksX10_roundOf_9 1 rfl rfl)
theorem dX10_roundOf_215 : decode cX10_roundOf 215 = .ok (.iload 6, 2) := dk_21 6 (dk_at dksX10_roundOf_9 3 rfl rfl)
theorem dX10_roundOf_217 : decode cX10_roundOf 217 = .ok (.aload_n 0, 1) := dk_42 (dk_at dksX10_roundOf_9 5 rfl rfl)
theorem dX10_roundOf_218 : decode cX10_roundOf 218 = .ok (.getfield 143, 3) := dk_180 0 143 (dk_at dksX10_roundOf_9 6 rfl rfl)
theorem dX10_roundOf_221 : decode cX10_roundOf 221 = .ok (.bipush 7, 2) := dk_16 7 (dk_at dksX10_roundOf_9 9 rfl rfl)
theorem dX10_roundOf_223 : decode cX10_roundOf 223 = .ok (.iload_n 3, 1) := dk_29 (dk_at dksX10_roundOf_9 11 rfl rfl)
theorem dX10_roundOf_224 : decode cX10_roundOf 224 = .ok (.iconst 1, 1) := dk_4 (dk_at dksX10_roundOf_9 12 rfl rfl)
theorem dX10_roundOf_225 : decode cX10_roundOf 225 = .ok (.iload 5, 2) := dk_21 5 (dk_at dksX10_roundOf_9 13 rfl rfl)
theorem dX10_roundOf_227 : decode cX10_roundOf 227 = .ok (.ishl, 1) := dk_120 (dk_at dksX10_roundOf_9 15 rfl rfl)
theorem dX10_roundOf_228 : decode cX10_roundOf 228 = .ok (.ior, 1) := dk_128 (dk_at dksX10_roundOf_9 16 rfl rfl)
theorem dX10_roundOf_229 : decode cX10_roundOf 229 = .ok (.imul, 1) := dk_104 (dk_at dksX10_roundOf_9 17 rfl rfl)
theorem dX10_roundOf_230 : decode cX10_roundOf 230 = .ok (.iload 5, 2) := dk_21 5 (dk_at dksX10_roundOf_9 18 rfl rfl)
theorem dX10_roundOf_232 : decode cX10_roundOf 232 = .ok (.iadd, 1) := dk_96 (dk_at dksX10_roundOf_9 20 rfl rfl)
theorem dX10_roundOf_233 : decode cX10_roundOf 233 = .ok (.iaload, 1) := dk_46 (dk_at dksX10_roundOf_9 21 rfl rfl)
theorem dX10_roundOf_234 : decode cX10_roundOf 234 = .ok (.if_icmp .ge 22, 3) := dk_162 0 22 (dk_at dksX10_roundOf_10 0 rfl rfl)
theorem dX10_roundOf_237 : decode cX10_roundOf 237 = .ok (.aload_n 0, 1) := dk_42 (dk_at dksX10_roundOf_10 3 rfl rfl)
theorem dX10_roundOf_238 : decode cX10_roundOf 238 = .ok (.getfield 143, 3) := dk_180 0 143 (dk_at dksX10_roundOf_10 4 rfl rfl)
theorem dX10_roundOf_241 : decode cX10_roundOf 241 = .ok (.bipush 7, 2) := dk_16 7 (dk_at dksX10_roundOf_10 7 rfl rfl)
theorem dX10_roundOf_243 : decode cX10_roundOf 243 = .ok (.iload_n 3, 1) := dk_29 (dk_at dksX10_roundOf_10 9 rfl rfl)
theorem dX10_roundOf_244 : decode cX10_roundOf 244 = .ok (.iconst 1, 1) := dk_4 (dk_at dksX10_roundOf_10 10 rfl rfl)
theorem dX10_roundOf_245 : decode cX10_roundOf 245 = .ok (.iload 5, 2) := dk_21 5 (dk_at dksX10_roundOf_10 11 rfl rfl)
theorem dX10_roundOf_247 : decode cX10_roundOf 247 = .ok (.ishl, 1) := dk_120 (dk_at dksX10_roundOf_10 13 rfl rfl)
theorem dX10_roundOf_248 : decode cX10_roundOf 248 = .ok (.ior, 1) := dk_128 (dk_at dksX10_roundOf_10 14 rfl rfl)
theorem dX10_roundOf_249 : decode cX10_roundOf 249 = .ok (.imul, 1) := dk_104 (dk_at dksX10_roundOf_10 15 rfl rfl)
theorem dX10_roundOf_250 : decode cX10_roundOf 250 = .ok (.iload 5, 2) := dk_21 5 (dk_at dksX10_roundOf_10 16 rfl rfl)
theorem dX10_roundOf_252 : decode cX10_roundOf 252 = .ok (.iadd, 1) := dk_96 (dk_at dksX10_roundOf_10 18 rfl rfl)
theorem dX10_roundOf_253 : decode cX10_roundOf 253 = .ok (.iload 6, 2) := dk_21 6 (dk_at dksX10_roundOf_10 19 rfl rfl)
theorem dX10_roundOf_255 : decode cX10_roundOf 255 = .ok (.iastore, 1) := dk_79 (dk_at dksX10_roundOf_10 21 rfl rfl)
theorem dX10_roundOf_256 : decode cX10_roundOf 256 = .ok (.iinc 5 1, 3) := dk_132 5 1 (dk_at dksX10_roundOf_11 0 rfl rfl)
theorem dX10_roundOf_259 : decode cX10_roundOf 259 = .ok (.goto (-101), 3) := dk_167 255 155 (dk_at dksX10_roundOf_11 3 rfl rfl)
theorem dX10_roundOf_262 : decode cX10_roundOf 262 = .ok (.iinc 4 1, 3) := dk_132 4 1 (dk_at dksX10_roundOf_11 6 rfl rfl)
theorem dX10_roundOf_265 : decode cX10_roundOf 265 = .ok (.goto (-138), 3) := dk_167 255 118 (dk_at dksX10_roundOf_11 9 rfl rfl)
theorem dX10_roundOf_268 : decode cX10_roundOf 268 = .ok (.iinc 3 1, 3) := dk_132 3 1 (dk_at dksX10_roundOf_11 12 rfl rfl)
theorem dX10_roundOf_271 : decode cX10_roundOf 271 = .ok (.goto (-152), 3) := dk_167 255 104 (dk_at dksX10_roundOf_11 15 rfl rfl)
theorem dX10_roundOf_274 : decode cX10_roundOf 274 = .ok (.aload_n 0, 1) := dk_42 (dk_at dksX10_roundOf_11 18 rfl rfl)
theorem dX10_roundOf_275 : decode cX10_roundOf 275 = .ok (.getfield 70, 3) := dk_180 0 70 (dk_at dksX10_roundOf_11 19 rfl rfl)
theorem dX10_roundOf_278 : decode cX10_roundOf 278 = .ok (.iconst 4, 1) := dk_7 (dk_at dksX10_roundOf_11 22 rfl rfl)
theorem dX10_roundOf_279 : decode cX10_roundOf 279 = .ok (.aload_n 0, 1) := dk_42 (dk_at dksX10_roundOf_11 23 rfl rfl)
theorem dX10_roundOf_280 : decode cX10_roundOf 280 = .ok (.getfield 242, 3) := dk_180 0 242 (dk_at dksX10_roundOf_12 0 rfl rfl)
theorem dX10_roundOf_283 : decode cX10_roundOf 283 = .ok (.imul, 1) := dk_104 (dk_at dksX10_roundOf_12 3 rfl rfl)
theorem dX10_roundOf_284 : decode cX10_roundOf 284 = .ok (.iload_n 1, 1) := dk_27 (dk_at dksX10_roundOf_12 4 rfl rfl)
theorem dX10_roundOf_285 : decode cX10_roundOf 285 = .ok (.iadd, 1) := dk_96 (dk_at dksX10_roundOf_12 5 rfl rfl)
theorem dX10_roundOf_286 : decode cX10_roundOf 286 = .ok (.iaload, 1) := dk_46 (dk_at dksX10_roundOf_12 6 rfl rfl)
theorem dX10_roundOf_287 : decode cX10_roundOf 287 = .ok (.istore_n 3, 1) := dk_62 (dk_at dksX10_roundOf_12 7 rfl rfl)
theorem dX10_roundOf_288 : decode cX10_roundOf 288 = .ok (.iload_n 2, 1) := dk_28 (dk_at dksX10_roundOf_12 8 rfl rfl)
theorem dX10_roundOf_289 : decode cX10_roundOf 289 = .ok (.ifCond .ne 23, 3) := dk_154 0 23 (dk_at dksX10_roundOf_12 9 rfl rfl)
theorem dX10_roundOf_292 : decode cX10_roundOf 292 = .ok (.aload_n 0, 1) := dk_42 (dk_at dksX10_roundOf_12 12 rfl rfl)
theorem dX10_roundOf_293 : decode cX10_roundOf 293 = .ok (.getfield 131, 3) := dk_180 0 131 (dk_at dksX10_roundOf_12 13 rfl rfl)
theorem dX10_roundOf_296 : decode cX10_roundOf 296 = .ok (.bipush 7, 2) := dk_16 7 (dk_at dksX10_roundOf_12 16 rfl rfl)
theorem dX10_roundOf_298 : decode cX10_roundOf 298 = .ok (.aload_n 0, 1) := dk_42 (dk_at dksX10_roundOf_12 18 rfl rfl)
theorem dX10_roundOf_299 : decode cX10_roundOf 299 = .ok (.getfield 137, 3) := dk_180 0 137 (dk_at dksX10_roundOf_12 19 rfl rfl)
theorem dX10_roundOf_302 : decode cX10_roundOf 302 = .ok (.bipush 15, 2) := dk_16 15 (dk_at dksX10_roundOf_12 22 rfl rfl)
theorem dX10_roundOf_304 : decode cX10_roundOf 304 = .ok (.iload_n 1, 1) := dk_27 (dk_at dksX10_roundOf_13 0 rfl rfl)
theorem dX10_roundOf_305 : decode cX10_roundOf 305 = .ok (.iadd, 1) := dk_96 (dk_at dksX10_roundOf_13 1 rfl rfl)
theorem dX10_roundOf_306 : decode cX10_roundOf 306 = .ok (.iaload, 1) := dk_46 (dk_at dksX10_roundOf_13 2 rfl rfl)
theorem dX10_roundOf_307 : decode cX10_roundOf 307 = .ok (.imul, 1) := dk_104 (dk_at dksX10_roundOf_13 3 rfl rfl)
theorem dX10_roundOf_308 : decode cX10_roundOf 308 = .ok (.iload_n 3, 1) := dk_29 (dk_at dksX10_roundOf_13 4 rfl rfl)
theorem dX10_roundOf_309 : decode cX10_roundOf 309 = .ok (.iadd, 1) := dk_96 (dk_at dksX10_roundOf_13 5 rfl rfl)
theorem dX10_roundOf_310 : decode cX10_roundOf 310 = .ok (.iaload, 1) := dk_46 (dk_at dksX10_roundOf_13 6 rfl rfl)
theorem dX10_roundOf_311 : decode cX10_roundOf 311 = .ok (.ireturn, 1) := dk_172 (dk_at dksX10_roundOf_13 7 rfl rfl)
theorem dX10_roundOf_312 : decode cX10_roundOf 312 = .ok (.sipush 999, 3) := dk_17 3 231 (dk_at dksX10_roundOf_13 8 rfl rfl)
theorem dX10_roundOf_315 : decode cX10_roundOf 315 = .ok (.istore 4, 2) := dk_54 4 (dk_at dksX10_roundOf_13 11 rfl rfl)
theorem dX10_roundOf_317 : decode cX10_roundOf 317 = .ok (.iconst 0, 1) := dk_3 (dk_at dksX10_roundOf_13 13 rfl rfl)
theorem dX10_roundOf_318 : decode cX10_roundOf 318 = .ok (.istore 5, 2) := dk_54 5 (dk_at dksX10_roundOf_13 14 rfl rfl)
theorem dX10_roundOf_320 : decode cX10_roundOf 320 = .ok (.iload 5, 2) := dk_21 5 (dk_at dksX10_roundOf_13 16 rfl rfl)
theorem dX10_roundOf_322 : decode cX10_roundOf 322 = .ok (.bipush 7, 2) := dk_16 7 (dk_at dksX10_roundOf_13 18 rfl rfl)
theorem dX10_roundOf_324 : decode cX10_roundOf 324 = .ok (.if_icmp .ge 66, 3) := dk_162 0 66 (dk_at dksX10_roundOf_13 20 rfl rfl)
theorem dX10_roundOf_327 : decode cX10_roundOf 327 = .ok (.aload_n 0, 1) := dk_42 (dk_at dksX10_roundOf_13 23 rfl rfl)
theorem dX10_roundOf_328 : decode cX10_roundOf 328 = .ok (.getfield 143, 3) := dk_180 0 143 (dk_at dksX10_roundOf_14 0 rfl rfl)
theorem dX10_roundOf_331 : decode cX10_roundOf 331 = .ok (.bipush 7, 2) := dk_16 7 (dk_at dksX10_roundOf_14 3 rfl rfl)
theorem dX10_roundOf_333 : decode cX10_roundOf 333 = .ok (.iload_n 2, 1) := dk_28 (dk_at dksX10_roundOf_14 5 rfl rfl)
theorem dX10_roundOf_334 : decode cX10_roundOf 334 = .ok (.imul, 1) := dk_104 (dk_at dksX10_roundOf_14 6 rfl rfl)
theorem dX10_roundOf_335 : decode cX10_roundOf 335 = .ok (.iload 5, 2) := dk_21 5 (dk_at dksX10_roundOf_14 7 rfl rfl)
theorem dX10_roundOf_337 : decode cX10_roundOf 337 = .ok (.iadd, 1) := dk_96 (dk_at dksX10_roundOf_14 9 rfl rfl)
theorem dX10_roundOf_338 : decode cX10_roundOf 338 = .ok (.iaload, 1) := dk_46 (dk_at dksX10_roundOf_14 10 rfl rfl)
theorem dX10_roundOf_339 : decode cX10_roundOf 339 = .ok (.aload_n 0, 1) := dk_42 (dk_at dksX10_roundOf_14 11 rfl rfl)
theorem dX10_roundOf_340 : decode cX10_roundOf 340 = .ok (.getfield 131, 3) := dk_180 0 131 (dk_at dksX10_roundOf_14 12 rfl rfl)
theorem dX10_roundOf_343 : decode cX10_roundOf 343 = .ok (.bipush 7, 2) := dk_16 7 (dk_at dksX10_roundOf_14 15 rfl rfl)
theorem dX10_roundOf_345 : decode cX10_roundOf 345 = .ok (.iload 5, 2) := dk_21 5 (dk_at dksX10_roundOf_14 17 rfl rfl)
theorem dX10_roundOf_347 : decode cX10_roundOf 347 = .ok (.imul, 1) := dk_104 (dk_at dksX10_roundOf_14 19 rfl rfl)
theorem dX10_roundOf_348 : decode cX10_roundOf 348 = .ok (.iload_n 3, 1) := dk_29 (dk_at dksX10_roundOf_14 20 rfl rfl)
theorem dX10_roundOf_349 : decode cX10_roundOf 349 = .ok (.iadd, 1) := dk_96 (dk_at dksX10_roundOf_14 21 rfl rfl)
theorem dX10_roundOf_350 : decode cX10_roundOf 350 = .ok (.iaload, 1) := dk_46 (dk_at dksX10_roundOf_14 22 rfl rfl)
theorem dX10_roundOf_351 : decode cX10_roundOf 351 = .ok (.iadd, 1) := dk_96 (dk_at dksX10_roundOf_14 23 rfl rfl)
theorem dX10_roundOf_352 : decode cX10_roundOf 352 = .ok (.iload 4, 2) := dk_21 4 (dk_at dksX10_roundOf_15 0 rfl rfl)
theorem dX10_roundOf_354 : decode cX10_roundOf 354 = .ok (.if_icmp .ge 30, 3) := dk_162 0 30 (dk_at dksX10_roundOf_15 2 rfl rfl)
theorem dX10_roundOf_357 : decode cX10_roundOf 357 = .ok (.aload_n 0, 1) := dk_42 (dk_at dksX10_roundOf_15 5 rfl rfl)
theorem dX10_roundOf_358 : decode cX10_roundOf 358 = .ok (.getfield 143, 3) := dk_180 0 143 (dk_at dksX10_roundOf_15 6 rfl rfl)
theorem dX10_roundOf_361 : decode cX10_roundOf 361 = .ok (.bipush 7, 2) := dk_16 7 (dk_at dksX10_roundOf_15 9 rfl rfl)
theorem dX10_roundOf_363 : decode cX10_roundOf 363 = .ok (.iload_n 2, 1) := dk_28 (dk_at dksX10_roundOf_15 11 rfl rfl)
theorem dX10_roundOf_364 : decode cX10_roundOf 364 = .ok (.imul, 1) := dk_104 (dk_at dksX10_roundOf_15 12 rfl rfl)
theorem dX10_roundOf_365 : decode cX10_roundOf 365 = .ok (.iload 5, 2) := dk_21 5 (dk_at dksX10_roundOf_15 13 rfl rfl)
theorem dX10_roundOf_367 : decode cX10_roundOf 367 = .ok (.iadd, 1) := dk_96 (dk_at dksX10_roundOf_15 15 rfl rfl)
theorem dX10_roundOf_368 : decode cX10_roundOf 368 = .ok (.iaload, 1) := dk_46 (dk_at dksX10_roundOf_15 16 rfl rfl)
theorem dX10_roundOf_369 : decode cX10_roundOf 369 = .ok (.aload_n 0, 1) := dk_42 (dk_at dksX10_roundOf_15 17 rfl rfl)
theorem dX10_roundOf_370 : decode cX10_roundOf 370 = .ok (.getfield 131, 3) := dk_180 0 131 (dk_at dksX10_roundOf_15 18 rfl rfl)
theorem dX10_roundOf_373 : decode cX10_roundOf 373 = .ok (.bipush 7, 2) := dk_16 7 (dk_at dksX10_roundOf_15 21 rfl rfl)
theorem dX10_roundOf_375 : decode cX10_roundOf 375 = .ok (.iload 5, 2) := dk_21 5 (dk_at dksX10_roundOf_16 0 rfl rfl)
theorem dX10_roundOf_377 : decode cX10_roundOf 377 = .ok (.imul, 1) := dk_104 (dk_at dksX10_roundOf_16 2 rfl rfl)
theorem dX10_roundOf_378 : decode cX10_roundOf 378 = .ok (.iload_n 3, 1) := dk_29 (dk_at dksX10_roundOf_16 3 rfl rfl)
theorem dX10_roundOf_379 : decode cX10_roundOf 379 = .ok (.iadd, 1) := dk_96 (dk_at dksX10_roundOf_16 4 rfl rfl)
theorem dX10_roundOf_380 : decode cX10_roundOf 380 = .ok (.iaload, 1) := dk_46 (dk_at dksX10_roundOf_16 5 rfl rfl)
theorem dX10_roundOf_381 : decode cX10_roundOf 381 = .ok (.iadd, 1) := dk_96 (dk_at dksX10_roundOf_16 6 rfl rfl)
theorem dX10_roundOf_382 : decode cX10_roundOf 382 = .ok (.istore 4, 2) := dk_54 4 (dk_at dksX10_roundOf_16 7 rfl rfl)
theorem dX10_roundOf_384 : decode cX10_roundOf 384 = .ok (.iinc 5 1, 3) := dk_132 5 1 (dk_at dksX10_roundOf_16 9 rfl rfl)
theorem dX10_roundOf_387 : decode cX10_roundOf 387 = .ok (.goto (-67), 3) := dk_167 255 189 (dk_at dksX10_roundOf_16 12 rfl rfl)
theorem dX10_roundOf_390 : decode cX10_roundOf 390 = .ok (.iload 4, 2) := dk_21 4 (dk_at dksX10_roundOf_16 15 rfl rfl)
theorem dX10_roundOf_392 : decode cX10_roundOf 392 = .ok (.ireturn, 1) := dk_172 (dk_at dksX10_roundOf_16 17 rfl rfl)
abbrev cX10_minds : ByteArray := prog_21_method_86_code
def yX10_minds : MethodName := ⟨RX10, "minds", "(I)I"⟩
def dkwX10_minds_0 : List UInt8 := [42, 27, 182, 1, 153, 154, 0, 5, 2, 172, 42, 182, 1, 144, 42, 27, 182, 1, 109, 172]
abbrev dktX10_minds_0 : List UInt8 := dkwX10_minds_0 ++ []
theorem dksX10_minds_0 : cX10_minds.data.toList.drop 0 = dktX10_minds_0 := by decide +kernel
theorem dX10_minds_0 : decode cX10_minds 0 = .ok (.aload_n 0, 1) := dk_42 (dk_at dksX10_minds_0 0 rfl rfl)
theorem dX10_minds_1 : decode cX10_minds 1 = .ok (.iload_n 1, 1) := dk_27 (dk_at dksX10_minds_0 1 rfl rfl)
theorem dX10_minds_2 : decode cX10_minds 2 = .ok (.invokevirtual 409, 3) := dk_182 1 153 (dk_at dksX10_minds_0 2 rfl rfl)
theorem dX10_minds_5 : decode cX10_minds 5 = .ok (.ifCond .ne 5, 3) := dk_154 0 5 (dk_at dksX10_minds_0 5 rfl rfl)
theorem dX10_minds_8 : decode cX10_minds 8 = .ok (.iconst (-1), 1) := dk_2 (dk_at dksX10_minds_0 8 rfl rfl)
theorem dX10_minds_9 : decode cX10_minds 9 = .ok (.ireturn, 1) := dk_172 (dk_at dksX10_minds_0 9 rfl rfl)
theorem dX10_minds_10 : decode cX10_minds 10 = .ok (.aload_n 0, 1) := dk_42 (dk_at dksX10_minds_0 10 rfl rfl)
theorem dX10_minds_11 : decode cX10_minds 11 = .ok (.invokevirtual 400, 3) := dk_182 1 144 (dk_at dksX10_minds_0 11 rfl rfl)
theorem dX10_minds_14 : decode cX10_minds 14 = .ok (.aload_n 0, 1) := dk_42 (dk_at dksX10_minds_0 14 rfl rfl)
theorem dX10_minds_15 : decode cX10_minds 15 = .ok (.iload_n 1, 1) := dk_27 (dk_at dksX10_minds_0 15 rfl rfl)
theorem dX10_minds_16 : decode cX10_minds 16 = .ok (.invokevirtual 365, 3) := dk_182 1 109 (dk_at dksX10_minds_0 16 rfl rfl)
theorem dX10_minds_19 : decode cX10_minds 19 = .ok (.ireturn, 1) := dk_172 (dk_at dksX10_minds_0 19 rfl rfl)
abbrev cX10_feeding : ByteArray := prog_21_method_87_code
def yX10_feeding : MethodName := ⟨RX10, "feeding", "(I)I"⟩
def dkwX10_feeding_3 : List UInt8 := [28, 172]
abbrev dktX10_feeding_3 : List UInt8 := dkwX10_feeding_3 ++ []
def dkwX10_feeding_2 : List UInt8 := [104, 96, 27, 96, 46, 100, 54, 4, 21, 4, 158, 0, 8, 28, 21, 4, 96, 61, 132, 3, 1, 167, 255, 201]
abbrev dktX10_feeding_2 : List UInt8 := dkwX10_feeding_2 ++ dktX10_feeding_3
def dkwX10_feeding_1 : List UInt8 := [162, 0, 48, 42, 180, 0, 134, 16, 55, 7, 29, 104, 96, 27, 96, 46, 42, 180, 0, 134, 16, 35, 7, 29]
abbrev dktX10_feeding_1 : List UInt8 := dkwX10_feeding_1 ++ dktX10_feeding_2
def dkwX10_feeding_0 : List UInt8 := [42, 27, 182, 1, 156, 154, 0, 5, 2, 172, 3, 61, 3, 62, 29, 42, 180, 0, 55, 42, 180, 0, 242, 46]
abbrev dktX10_feeding_0 : List UInt8 := dkwX10_feeding_0 ++ dktX10_feeding_1
theorem dksX10_feeding_0 : cX10_feeding.data.toList.drop 0 = dktX10_feeding_0 := by decide +kernel
theorem dksX10_feeding_1 : cX10_feeding.data.toList.drop 24 = dktX10_feeding_1 := dk_seg dksX10_feeding_0 24 rfl rfl
theorem dksX10_feeding_2 : cX10_feeding.data.toList.drop 48 = dktX10_feeding_2 := dk_seg dksX10_feeding_1 24 rfl rfl
theorem dksX10_feeding_3 : cX10_feeding.data.toList.drop 72 = dktX10_feeding_3 := dk_seg dksX10_feeding_2 24 rfl rfl
theorem dX10_feeding_0 : decode cX10_feeding 0 = .ok (.aload_n 0, 1) := dk_42 (dk_at dksX10_feeding_0 0 rfl rfl)
theorem dX10_feeding_1 : decode cX10_feeding 1 = .ok (.iload_n 1, 1) := dk_27 (dk_at dksX10_feeding_0 1 rfl rfl)
theorem dX10_feeding_2 : decode cX10_feeding 2 = .ok (.invokevirtual 412, 3) := dk_182 1 156 (dk_at dksX10_feeding_0 2 rfl rfl)
theorem dX10_feeding_5 : decode cX10_feeding 5 = .ok (.ifCond .ne 5, 3) := dk_154 0 5 (dk_at dksX10_feeding_0 5 rfl rfl)
theorem dX10_feeding_8 : decode cX10_feeding 8 = .ok (.iconst (-1), 1) := dk_2 (dk_at dksX10_feeding_0 8 rfl rfl)
theorem dX10_feeding_9 : decode cX10_feeding 9 = .ok (.ireturn, 1) := dk_172 (dk_at dksX10_feeding_0 9 rfl rfl)
theorem dX10_feeding_10 : decode cX10_feeding 10 = .ok (.iconst 0, 1) := dk_3 (dk_at dksX10_feeding_0 10 rfl rfl)
theorem dX10_feeding_11 : decode cX10_feeding 11 = .ok (.istore_n 2, 1) := dk_61 (dk_at dksX10_feeding_0 11 rfl rfl)
theorem dX10_feeding_12 : decode cX10_feeding 12 = .ok (.iconst 0, 1) := dk_3 (dk_at dksX10_feeding_0 12 rfl rfl)
theorem dX10_feeding_13 : decode cX10_feeding 13 = .ok (.istore_n 3, 1) := dk_62 (dk_at dksX10_feeding_0 13 rfl rfl)
theorem dX10_feeding_14 : decode cX10_feeding 14 = .ok (.iload_n 3, 1) := dk_29 (dk_at dksX10_feeding_0 14 rfl rfl)
theorem dX10_feeding_15 : decode cX10_feeding 15 = .ok (.aload_n 0, 1) := dk_42 (dk_at dksX10_feeding_0 15 rfl rfl)
theorem dX10_feeding_16 : decode cX10_feeding 16 = .ok (.getfield 55, 3) := dk_180 0 55 (dk_at dksX10_feeding_0 16 rfl rfl)
theorem dX10_feeding_19 : decode cX10_feeding 19 = .ok (.aload_n 0, 1) := dk_42 (dk_at dksX10_feeding_0 19 rfl rfl)
theorem dX10_feeding_20 : decode cX10_feeding 20 = .ok (.getfield 242, 3) := dk_180 0 242 (dk_at dksX10_feeding_0 20 rfl rfl)
theorem dX10_feeding_23 : decode cX10_feeding 23 = .ok (.iaload, 1) := dk_46 (dk_at dksX10_feeding_0 23 rfl rfl)
theorem dX10_feeding_24 : decode cX10_feeding 24 = .ok (.if_icmp .ge 48, 3) := dk_162 0 48 (dk_at dksX10_feeding_1 0 rfl rfl)
theorem dX10_feeding_27 : decode cX10_feeding 27 = .ok (.aload_n 0, 1) := dk_42 (dk_at dksX10_feeding_1 3 rfl rfl)
theorem dX10_feeding_28 : decode cX10_feeding 28 = .ok (.getfield 134, 3) := dk_180 0 134 (dk_at dksX10_feeding_1 4 rfl rfl)
theorem dX10_feeding_31 : decode cX10_feeding 31 = .ok (.bipush 55, 2) := dk_16 55 (dk_at dksX10_feeding_1 7 rfl rfl)
theorem dX10_feeding_33 : decode cX10_feeding 33 = .ok (.iconst 4, 1) := dk_7 (dk_at dksX10_feeding_1 9 rfl rfl)
theorem dX10_feeding_34 : decode cX10_feeding 34 = .ok (.iload_n 3, 1) := dk_29 (dk_at dksX10_feeding_1 10 rfl rfl)
theorem dX10_feeding_35 : decode cX10_feeding 35 = .ok (.imul, 1) := dk_104 (dk_at dksX10_feeding_1 11 rfl rfl)
theorem dX10_feeding_36 : decode cX10_feeding 36 = .ok (.iadd, 1) := dk_96 (dk_at dksX10_feeding_1 12 rfl rfl)
theorem dX10_feeding_37 : decode cX10_feeding 37 = .ok (.iload_n 1, 1) := dk_27 (dk_at dksX10_feeding_1 13 rfl rfl)
theorem dX10_feeding_38 : decode cX10_feeding 38 = .ok (.iadd, 1) := dk_96 (dk_at dksX10_feeding_1 14 rfl rfl)
theorem dX10_feeding_39 : decode cX10_feeding 39 = .ok (.iaload, 1) := dk_46 (dk_at dksX10_feeding_1 15 rfl rfl)
theorem dX10_feeding_40 : decode cX10_feeding 40 = .ok (.aload_n 0, 1) := dk_42 (dk_at dksX10_feeding_1 16 rfl rfl)
theorem dX10_feeding_41 : decode cX10_feeding 41 = .ok (.getfield 134, 3) := dk_180 0 134 (dk_at dksX10_feeding_1 17 rfl rfl)
theorem dX10_feeding_44 : decode cX10_feeding 44 = .ok (.bipush 35, 2) := dk_16 35 (dk_at dksX10_feeding_1 20 rfl rfl)
theorem dX10_feeding_46 : decode cX10_feeding 46 = .ok (.iconst 4, 1) := dk_7 (dk_at dksX10_feeding_1 22 rfl rfl)
theorem dX10_feeding_47 : decode cX10_feeding 47 = .ok (.iload_n 3, 1) := dk_29 (dk_at dksX10_feeding_1 23 rfl rfl)
theorem dX10_feeding_48 : decode cX10_feeding 48 = .ok (.imul, 1) := dk_104 (dk_at dksX10_feeding_2 0 rfl rfl)
theorem dX10_feeding_49 : decode cX10_feeding 49 = .ok (.iadd, 1) := dk_96 (dk_at dksX10_feeding_2 1 rfl rfl)
theorem dX10_feeding_50 : decode cX10_feeding 50 = .ok (.iload_n 1, 1) := dk_27 (dk_at dksX10_feeding_2 2 rfl rfl)
theorem dX10_feeding_51 : decode cX10_feeding 51 = .ok (.iadd, 1) := dk_96 (dk_at dksX10_feeding_2 3 rfl rfl)
theorem dX10_feeding_52 : decode cX10_feeding 52 = .ok (.iaload, 1) := dk_46 (dk_at dksX10_feeding_2 4 rfl rfl)
theorem dX10_feeding_53 : decode cX10_feeding 53 = .ok (.isub, 1) := dk_100 (dk_at dksX10_feeding_2 5 rfl rfl)
theorem dX10_feeding_54 : decode cX10_feeding 54 = .ok (.istore 4, 2) := dk_54 4 (dk_at dksX10_feeding_2 6 rfl rfl)
theorem dX10_feeding_56 : decode cX10_feeding 56 = .ok (.iload 4, 2) := dk_21 4 (dk_at dksX10_feeding_2 8 rfl rfl)
theorem dX10_feeding_58 : decode cX10_feeding 58 = .ok (.ifCond .le 8, 3) := dk_158 0 8 (dk_at dksX10_feeding_2 10 rfl rfl)
theorem dX10_feeding_61 : decode cX10_feeding 61 = .ok (.iload_n 2, 1) := dk_28 (dk_at dksX10_feeding_2 13 rfl rfl)
theorem dX10_feeding_62 : decode cX10_feeding 62 = .ok (.iload 4, 2) := dk_21 4 (dk_at dksX10_feeding_2 14 rfl rfl)
theorem dX10_feeding_64 : decode cX10_feeding 64 = .ok (.iadd, 1) := dk_96 (dk_at dksX10_feeding_2 16 rfl rfl)
theorem dX10_feeding_65 : decode cX10_feeding 65 = .ok (.istore_n 2, 1) := dk_61 (dk_at dksX10_feeding_2 17 rfl rfl)
theorem dX10_feeding_66 : decode cX10_feeding 66 = .ok (.iinc 3 1, 3) := dk_132 3 1 (dk_at dksX10_feeding_2 18 rfl rfl)
theorem dX10_feeding_69 : decode cX10_feeding 69 = .ok (.goto (-55), 3) := dk_167 255 201 (dk_at dksX10_feeding_2 21 rfl rfl)
theorem dX10_feeding_72 : decode cX10_feeding 72 = .ok (.iload_n 2, 1) := dk_28 (dk_at dksX10_feeding_3 0 rfl rfl)
theorem dX10_feeding_73 : decode cX10_feeding 73 = .ok (.ireturn, 1) := dk_172 (dk_at dksX10_feeding_3 1 rfl rfl)
abbrev cX10_safe : ByteArray := prog_21_method_90_code
def yX10_safe : MethodName := ⟨RX10, "safe", "(I)I"⟩
def dkwX10_safe_0 : List UInt8 := [42, 27, 182, 1, 156, 153, 0, 11, 42, 27, 182, 1, 178, 167, 0, 4, 2, 172]
abbrev dktX10_safe_0 : List UInt8 := dkwX10_safe_0 ++ []
theorem dksX10_safe_0 : cX10_safe.data.toList.drop 0 = dktX10_safe_0 := by decide +kernel
theorem dX10_safe_0 : decode cX10_safe 0 = .ok (.aload_n 0, 1) := dk_42 (dk_at dksX10_safe_0 0 rfl rfl)
theorem dX10_safe_1 : decode cX10_safe 1 = .ok (.iload_n 1, 1) := dk_27 (dk_at dksX10_safe_0 1 rfl rfl)
theorem dX10_safe_2 : decode cX10_safe 2 = .ok (.invokevirtual 412, 3) := dk_182 1 156 (dk_at dksX10_safe_0 2 rfl rfl)
theorem dX10_safe_5 : decode cX10_safe 5 = .ok (.ifCond .eq 11, 3) := dk_153 0 11 (dk_at dksX10_safe_0 5 rfl rfl)
theorem dX10_safe_8 : decode cX10_safe 8 = .ok (.aload_n 0, 1) := dk_42 (dk_at dksX10_safe_0 8 rfl rfl)
theorem dX10_safe_9 : decode cX10_safe 9 = .ok (.iload_n 1, 1) := dk_27 (dk_at dksX10_safe_0 9 rfl rfl)
theorem dX10_safe_10 : decode cX10_safe 10 = .ok (.invokevirtual 434, 3) := dk_182 1 178 (dk_at dksX10_safe_0 10 rfl rfl)
theorem dX10_safe_13 : decode cX10_safe 13 = .ok (.goto 4, 3) := dk_167 0 4 (dk_at dksX10_safe_0 13 rfl rfl)
theorem dX10_safe_16 : decode cX10_safe 16 = .ok (.iconst (-1), 1) := dk_2 (dk_at dksX10_safe_0 16 rfl rfl)
theorem dX10_safe_17 : decode cX10_safe 17 = .ok (.ireturn, 1) := dk_172 (dk_at dksX10_safe_0 17 rfl rfl)
abbrev cX10_safeBits : ByteArray := prog_21_method_89_code
def yX10_safeBits : MethodName := ⟨RX10, "safeBits", "(I)I"⟩
def dkwX10_safeBits_2 : List UInt8 := [154, 0, 9, 28, 4, 29, 120, 128, 61, 132, 3, 1, 167, 255, 204, 28, 172]
abbrev dktX10_safeBits_2 : List UInt8 := dkwX10_safeBits_2 ++ []
def dkwX10_safeBits_1 : List UInt8 := [180, 0, 137, 16, 15, 27, 96, 29, 79, 42, 182, 1, 175, 42, 180, 0, 137, 16, 27, 27, 96, 46]
abbrev dktX10_safeBits_1 : List UInt8 := dkwX10_safeBits_1 ++ dktX10_safeBits_2
def dkwX10_safeBits_0 : List UInt8 := [3, 61, 3, 62, 29, 42, 180, 0, 46, 42, 180, 0, 242, 46, 162, 0, 45, 42, 182, 1, 144, 42]
abbrev dktX10_safeBits_0 : List UInt8 := dkwX10_safeBits_0 ++ dktX10_safeBits_1
theorem dksX10_safeBits_0 : cX10_safeBits.data.toList.drop 0 = dktX10_safeBits_0 := by decide +kernel
theorem dksX10_safeBits_1 : cX10_safeBits.data.toList.drop 22 = dktX10_safeBits_1 := dk_seg dksX10_safeBits_0 22 rfl rfl
theorem dksX10_safeBits_2 : cX10_safeBits.data.toList.drop 44 = dktX10_safeBits_2 := dk_seg dksX10_safeBits_1 22 rfl rfl
theorem dX10_safeBits_0 : decode cX10_safeBits 0 = .ok (.iconst 0, 1) := dk_3 (dk_at dksX10_safeBits_0 0 rfl rfl)
theorem dX10_safeBits_1 : decode cX10_safeBits 1 = .ok (.istore_n 2, 1) := dk_61 (dk_at dksX10_safeBits_0 1 rfl rfl)
theorem dX10_safeBits_2 : decode cX10_safeBits 2 = .ok (.iconst 0, 1) := dk_3 (dk_at dksX10_safeBits_0 2 rfl rfl)
theorem dX10_safeBits_3 : decode cX10_safeBits 3 = .ok (.istore_n 3, 1) := dk_62 (dk_at dksX10_safeBits_0 3 rfl rfl)
theorem dX10_safeBits_4 : decode cX10_safeBits 4 = .ok (.iload_n 3, 1) := dk_29 (dk_at dksX10_safeBits_0 4 rfl rfl)
theorem dX10_safeBits_5 : decode cX10_safeBits 5 = .ok (.aload_n 0, 1) := dk_42 (dk_at dksX10_safeBits_0 5 rfl rfl)
theorem dX10_safeBits_6 : decode cX10_safeBits 6 = .ok (.getfield 46, 3) := dk_180 0 46 (dk_at dksX10_safeBits_0 6 rfl rfl)
theorem dX10_safeBits_9 : decode cX10_safeBits 9 = .ok (.aload_n 0, 1) := dk_42 (dk_at dksX10_safeBits_0 9 rfl rfl)
theorem dX10_safeBits_10 : decode cX10_safeBits 10 = .ok (.getfield 242, 3) := dk_180 0 242 (dk_at dksX10_safeBits_0 10 rfl rfl)
theorem dX10_safeBits_13 : decode cX10_safeBits 13 = .ok (.iaload, 1) := dk_46 (dk_at dksX10_safeBits_0 13 rfl rfl)
theorem dX10_safeBits_14 : decode cX10_safeBits 14 = .ok (.if_icmp .ge 45, 3) := dk_162 0 45 (dk_at dksX10_safeBits_0 14 rfl rfl)
theorem dX10_safeBits_17 : decode cX10_safeBits 17 = .ok (.aload_n 0, 1) := dk_42 (dk_at dksX10_safeBits_0 17 rfl rfl)
theorem dX10_safeBits_18 : decode cX10_safeBits 18 = .ok (.invokevirtual 400, 3) := dk_182 1 144 (dk_at dksX10_safeBits_0 18 rfl rfl)
theorem dX10_safeBits_21 : decode cX10_safeBits 21 = .ok (.aload_n 0, 1) := dk_42 (dk_at dksX10_safeBits_0 21 rfl rfl)
theorem dX10_safeBits_22 : decode cX10_safeBits 22 = .ok (.getfield 137, 3) := dk_180 0 137 (dk_at dksX10_safeBits_1 0 rfl rfl)
theorem dX10_safeBits_25 : decode cX10_safeBits 25 = .ok (.bipush 15, 2) := dk_16 15 (dk_at dksX10_safeBits_1 3 rfl rfl)
theorem dX10_safeBits_27 : decode cX10_safeBits 27 = .ok (.iload_n 1, 1) := dk_27 (dk_at dksX10_safeBits_1 5 rfl rfl)
theorem dX10_safeBits_28 : decode cX10_safeBits 28 = .ok (.iadd, 1) := dk_96 (dk_at dksX10_safeBits_1 6 rfl rfl)
theorem dX10_safeBits_29 : decode cX10_safeBits 29 = .ok (.iload_n 3, 1) := dk_29 (dk_at dksX10_safeBits_1 7 rfl rfl)
theorem dX10_safeBits_30 : decode cX10_safeBits 30 = .ok (.iastore, 1) := dk_79 (dk_at dksX10_safeBits_1 8 rfl rfl)
theorem dX10_safeBits_31 : decode cX10_safeBits 31 = .ok (.aload_n 0, 1) := dk_42 (dk_at dksX10_safeBits_1 9 rfl rfl)
theorem dX10_safeBits_32 : decode cX10_safeBits 32 = .ok (.invokevirtual 431, 3) := dk_182 1 175 (dk_at dksX10_safeBits_1 10 rfl rfl)
theorem dX10_safeBits_35 : decode cX10_safeBits 35 = .ok (.aload_n 0, 1) := dk_42 (dk_at dksX10_safeBits_1 13 rfl rfl)
theorem dX10_safeBits_36 : decode cX10_safeBits 36 = .ok (.getfield 137, 3) := dk_180 0 137 (dk_at dksX10_safeBits_1 14 rfl rfl)
theorem dX10_safeBits_39 : decode cX10_safeBits 39 = .ok (.bipush 27, 2) := dk_16 27 (dk_at dksX10_safeBits_1 17 rfl rfl)
theorem dX10_safeBits_41 : decode cX10_safeBits 41 = .ok (.iload_n 1, 1) := dk_27 (dk_at dksX10_safeBits_1 19 rfl rfl)
theorem dX10_safeBits_42 : decode cX10_safeBits 42 = .ok (.iadd, 1) := dk_96 (dk_at dksX10_safeBits_1 20 rfl rfl)
theorem dX10_safeBits_43 : decode cX10_safeBits 43 = .ok (.iaload, 1) := dk_46 (dk_at dksX10_safeBits_1 21 rfl rfl)
theorem dX10_safeBits_44 : decode cX10_safeBits 44 = .ok (.ifCond .ne 9, 3) := dk_154 0 9 (dk_at dksX10_safeBits_2 0 rfl rfl)
theorem dX10_safeBits_47 : decode cX10_safeBits 47 = .ok (.iload_n 2, 1) := dk_28 (dk_at dksX10_safeBits_2 3 rfl rfl)
theorem dX10_safeBits_48 : decode cX10_safeBits 48 = .ok (.iconst 1, 1) := dk_4 (dk_at dksX10_safeBits_2 4 rfl rfl)
theorem dX10_safeBits_49 : decode cX10_safeBits 49 = .ok (.iload_n 3, 1) := dk_29 (dk_at dksX10_safeBits_2 5 rfl rfl)
theorem dX10_safeBits_50 : decode cX10_safeBits 50 = .ok (.ishl, 1) := dk_120 (dk_at dksX10_safeBits_2 6 rfl rfl)
theorem dX10_safeBits_51 : decode cX10_safeBits 51 = .ok (.ior, 1) := dk_128 (dk_at dksX10_safeBits_2 7 rfl rfl)
theorem dX10_safeBits_52 : decode cX10_safeBits 52 = .ok (.istore_n 2, 1) := dk_61 (dk_at dksX10_safeBits_2 8 rfl rfl)
theorem dX10_safeBits_53 : decode cX10_safeBits 53 = .ok (.iinc 3 1, 3) := dk_132 3 1 (dk_at dksX10_safeBits_2 9 rfl rfl)
theorem dX10_safeBits_56 : decode cX10_safeBits 56 = .ok (.goto (-52), 3) := dk_167 255 204 (dk_at dksX10_safeBits_2 12 rfl rfl)
theorem dX10_safeBits_59 : decode cX10_safeBits 59 = .ok (.iload_n 2, 1) := dk_28 (dk_at dksX10_safeBits_2 15 rfl rfl)
theorem dX10_safeBits_60 : decode cX10_safeBits 60 = .ok (.ireturn, 1) := dk_172 (dk_at dksX10_safeBits_2 16 rfl rfl)
abbrev cX10_nextHour : ByteArray := prog_21_method_88_code
def yX10_nextHour : MethodName := ⟨RX10, "nextHour", "()V"⟩
def dkwX10_nextHour_2 : List UInt8 := [180, 0, 88, 42, 180, 0, 242, 46, 42, 180, 0, 85, 42, 180, 0, 242, 46, 100, 182, 1, 166, 177]
abbrev dktX10_nextHour_2 : List UInt8 := dkwX10_nextHour_2 ++ []
def dkwX10_nextHour_1 : List UInt8 := [162, 0, 20, 42, 180, 0, 137, 16, 19, 27, 96, 16, 254, 79, 132, 1, 1, 167, 255, 237, 42, 42]
abbrev dktX10_nextHour_1 : List UInt8 := dkwX10_nextHour_1 ++ dktX10_nextHour_2
def dkwX10_nextHour_0 : List UInt8 := [42, 180, 0, 137, 16, 76, 92, 46, 42, 182, 1, 169, 96, 79, 42, 182, 1, 129, 3, 60, 27, 7]
abbrev dktX10_nextHour_0 : List UInt8 := dkwX10_nextHour_0 ++ dktX10_nextHour_1
theorem dksX10_nextHour_0 : cX10_nextHour.data.toList.drop 0 = dktX10_nextHour_0 := by decide +kernel
theorem dksX10_nextHour_1 : cX10_nextHour.data.toList.drop 22 = dktX10_nextHour_1 := dk_seg dksX10_nextHour_0 22 rfl rfl
theorem dksX10_nextHour_2 : cX10_nextHour.data.toList.drop 44 = dktX10_nextHour_2 := dk_seg dksX10_nextHour_1 22 rfl rfl
theorem dX10_nextHour_0 : decode cX10_nextHour 0 = .ok (.aload_n 0, 1) := dk_42 (dk_at dksX10_nextHour_0 0 rfl rfl)
theorem dX10_nextHour_1 : decode cX10_nextHour 1 = .ok (.getfield 137, 3) := dk_180 0 137 (dk_at dksX10_nextHour_0 1 rfl rfl)
theorem dX10_nextHour_4 : decode cX10_nextHour 4 = .ok (.bipush 76, 2) := dk_16 76 (dk_at dksX10_nextHour_0 4 rfl rfl)
theorem dX10_nextHour_6 : decode cX10_nextHour 6 = .ok (.dup2, 1) := dk_92 (dk_at dksX10_nextHour_0 6 rfl rfl)
theorem dX10_nextHour_7 : decode cX10_nextHour 7 = .ok (.iaload, 1) := dk_46 (dk_at dksX10_nextHour_0 7 rfl rfl)
theorem dX10_nextHour_8 : decode cX10_nextHour 8 = .ok (.aload_n 0, 1) := dk_42 (dk_at dksX10_nextHour_0 8 rfl rfl)
theorem dX10_nextHour_9 : decode cX10_nextHour 9 = .ok (.invokevirtual 425, 3) := dk_182 1 169 (dk_at dksX10_nextHour_0 9 rfl rfl)
theorem dX10_nextHour_12 : decode cX10_nextHour 12 = .ok (.iadd, 1) := dk_96 (dk_at dksX10_nextHour_0 12 rfl rfl)
theorem dX10_nextHour_13 : decode cX10_nextHour 13 = .ok (.iastore, 1) := dk_79 (dk_at dksX10_nextHour_0 13 rfl rfl)
theorem dX10_nextHour_14 : decode cX10_nextHour 14 = .ok (.aload_n 0, 1) := dk_42 (dk_at dksX10_nextHour_0 14 rfl rfl)
theorem dX10_nextHour_15 : decode cX10_nextHour 15 = .ok (.invokevirtual 385, 3) := dk_182 1 129 (dk_at dksX10_nextHour_0 15 rfl rfl)
theorem dX10_nextHour_18 : decode cX10_nextHour 18 = .ok (.iconst 0, 1) := dk_3 (dk_at dksX10_nextHour_0 18 rfl rfl)
theorem dX10_nextHour_19 : decode cX10_nextHour 19 = .ok (.istore_n 1, 1) := dk_60 (dk_at dksX10_nextHour_0 19 rfl rfl)
theorem dX10_nextHour_20 : decode cX10_nextHour 20 = .ok (.iload_n 1, 1) := dk_27 (dk_at dksX10_nextHour_0 20 rfl rfl)
theorem dX10_nextHour_21 : decode cX10_nextHour 21 = .ok (.iconst 4, 1) := dk_7 (dk_at dksX10_nextHour_0 21 rfl rfl)
theorem dX10_nextHour_22 : decode cX10_nextHour 22 = .ok (.if_icmp .ge 20, 3) := dk_162 0 20 (dk_at dksX10_nextHour_1 0 rfl rfl)
theorem dX10_nextHour_25 : decode cX10_nextHour 25 = .ok (.aload_n 0, 1) := dk_42 (dk_at dksX10_nextHour_1 3 rfl rfl)
theorem dX10_nextHour_26 : decode cX10_nextHour 26 = .ok (.getfield 137, 3) := dk_180 0 137 (dk_at dksX10_nextHour_1 4 rfl rfl)
theorem dX10_nextHour_29 : decode cX10_nextHour 29 = .ok (.bipush 19, 2) := dk_16 19 (dk_at dksX10_nextHour_1 7 rfl rfl)
theorem dX10_nextHour_31 : decode cX10_nextHour 31 = .ok (.iload_n 1, 1) := dk_27 (dk_at dksX10_nextHour_1 9 rfl rfl)
theorem dX10_nextHour_32 : decode cX10_nextHour 32 = .ok (.iadd, 1) := dk_96 (dk_at dksX10_nextHour_1 10 rfl rfl)
theorem dX10_nextHour_33 : decode cX10_nextHour 33 = .ok (.bipush (-2), 2) := dk_16 254 (dk_at dksX10_nextHour_1 11 rfl rfl)
theorem dX10_nextHour_35 : decode cX10_nextHour 35 = .ok (.iastore, 1) := dk_79 (dk_at dksX10_nextHour_1 13 rfl rfl)
theorem dX10_nextHour_36 : decode cX10_nextHour 36 = .ok (.iinc 1 1, 3) := dk_132 1 1 (dk_at dksX10_nextHour_1 14 rfl rfl)
theorem dX10_nextHour_39 : decode cX10_nextHour 39 = .ok (.goto (-19), 3) := dk_167 255 237 (dk_at dksX10_nextHour_1 17 rfl rfl)
theorem dX10_nextHour_42 : decode cX10_nextHour 42 = .ok (.aload_n 0, 1) := dk_42 (dk_at dksX10_nextHour_1 20 rfl rfl)
theorem dX10_nextHour_43 : decode cX10_nextHour 43 = .ok (.aload_n 0, 1) := dk_42 (dk_at dksX10_nextHour_1 21 rfl rfl)
theorem dX10_nextHour_44 : decode cX10_nextHour 44 = .ok (.getfield 88, 3) := dk_180 0 88 (dk_at dksX10_nextHour_2 0 rfl rfl)
theorem dX10_nextHour_47 : decode cX10_nextHour 47 = .ok (.aload_n 0, 1) := dk_42 (dk_at dksX10_nextHour_2 3 rfl rfl)
theorem dX10_nextHour_48 : decode cX10_nextHour 48 = .ok (.getfield 242, 3) := dk_180 0 242 (dk_at dksX10_nextHour_2 4 rfl rfl)
theorem dX10_nextHour_51 : decode cX10_nextHour 51 = .ok (.iaload, 1) := dk_46 (dk_at dksX10_nextHour_2 7 rfl rfl)
theorem dX10_nextHour_52 : decode cX10_nextHour 52 = .ok (.aload_n 0, 1) := dk_42 (dk_at dksX10_nextHour_2 8 rfl rfl)
theorem dX10_nextHour_53 : decode cX10_nextHour 53 = .ok (.getfield 85, 3) := dk_180 0 85 (dk_at dksX10_nextHour_2 9 rfl rfl)
theorem dX10_nextHour_56 : decode cX10_nextHour 56 = .ok (.aload_n 0, 1) := dk_42 (dk_at dksX10_nextHour_2 12 rfl rfl)
theorem dX10_nextHour_57 : decode cX10_nextHour 57 = .ok (.getfield 242, 3) := dk_180 0 242 (dk_at dksX10_nextHour_2 13 rfl rfl)
theorem dX10_nextHour_60 : decode cX10_nextHour 60 = .ok (.iaload, 1) := dk_46 (dk_at dksX10_nextHour_2 16 rfl rfl)
theorem dX10_nextHour_61 : decode cX10_nextHour 61 = .ok (.isub, 1) := dk_100 (dk_at dksX10_nextHour_2 17 rfl rfl)
theorem dX10_nextHour_62 : decode cX10_nextHour 62 = .ok (.invokevirtual 422, 3) := dk_182 1 166 (dk_at dksX10_nextHour_2 18 rfl rfl)
theorem dX10_nextHour_65 : decode cX10_nextHour 65 = .ok (.return_, 1) := dk_177 (dk_at dksX10_nextHour_2 21 rfl rfl)
abbrev cX10_refuge : ByteArray := prog_21_method_91_code
def yX10_refuge : MethodName := ⟨RX10, "refuge", "(II)I"⟩
def dkwX10_refuge_5 : List UInt8 := [167, 0, 5, 21, 5, 172]
abbrev dktX10_refuge_5 : List UInt8 := dkwX10_refuge_5 ++ []
def dkwX10_refuge_4 : List UInt8 := [54, 4, 21, 7, 54, 5, 132, 6, 1, 167, 255, 190, 21, 4, 155, 0, 7, 28, 154, 0, 8, 21, 4]
abbrev dktX10_refuge_4 : List UInt8 := dkwX10_refuge_4 ++ dktX10_refuge_5
def dkwX10_refuge_3 : List UInt8 := [54, 7, 29, 21, 6, 122, 4, 126, 153, 0, 21, 21, 7, 21, 5, 161, 0, 6, 167, 0, 11, 21, 6]
abbrev dktX10_refuge_3 : List UInt8 := dkwX10_refuge_3 ++ dktX10_refuge_4
def dkwX10_refuge_2 : List UInt8 := [162, 0, 58, 42, 180, 0, 131, 16, 7, 42, 180, 0, 134, 16, 15, 27, 96, 46, 104, 21, 6, 96, 46]
abbrev dktX10_refuge_2 : List UInt8 := dkwX10_refuge_2 ++ dktX10_refuge_3
def dkwX10_refuge_1 : List UInt8 := [62, 16, 254, 54, 4, 16, 99, 54, 5, 3, 54, 6, 21, 6, 42, 180, 0, 46, 42, 180, 0, 242, 46]
abbrev dktX10_refuge_1 : List UInt8 := dkwX10_refuge_1 ++ dktX10_refuge_2
def dkwX10_refuge_0 : List UInt8 := [42, 27, 182, 1, 156, 153, 0, 12, 28, 3, 4, 184, 1, 78, 154, 0, 5, 2, 172, 42, 27, 182, 1, 178]
abbrev dktX10_refuge_0 : List UInt8 := dkwX10_refuge_0 ++ dktX10_refuge_1
theorem dksX10_refuge_0 : cX10_refuge.data.toList.drop 0 = dktX10_refuge_0 := by decide +kernel
theorem dksX10_refuge_1 : cX10_refuge.data.toList.drop 24 = dktX10_refuge_1 := dk_seg dksX10_refuge_0 24 rfl rfl
theorem dksX10_refuge_2 : cX10_refuge.data.toList.drop 47 = dktX10_refuge_2 := dk_seg dksX10_refuge_1 23 rfl rfl
theorem dksX10_refuge_3 : cX10_refuge.data.toList.drop 70 = dktX10_refuge_3 := dk_seg dksX10_refuge_2 23 rfl rfl
theorem dksX10_refuge_4 : cX10_refuge.data.toList.drop 93 = dktX10_refuge_4 := dk_seg dksX10_refuge_3 23 rfl rfl
theorem dksX10_refuge_5 : cX10_refuge.data.toList.drop 116 = dktX10_refuge_5 := dk_seg dksX10_refuge_4 23 rfl rfl
theorem dX10_refuge_0 : decode cX10_refuge 0 = .ok (.aload_n 0, 1) := dk_42 (dk_at dksX10_refuge_0 0 rfl rfl)
theorem dX10_refuge_1 : decode cX10_refuge 1 = .ok (.iload_n 1, 1) := dk_27 (dk_at dksX10_refuge_0 1 rfl rfl)
theorem dX10_refuge_2 : decode cX10_refuge 2 = .ok (.invokevirtual 412, 3) := dk_182 1 156 (dk_at dksX10_refuge_0 2 rfl rfl)
theorem dX10_refuge_5 : decode cX10_refuge 5 = .ok (.ifCond .eq 12, 3) := dk_153 0 12 (dk_at dksX10_refuge_0 5 rfl rfl)
theorem dX10_refuge_8 : decode cX10_refuge 8 = .ok (.iload_n 2, 1) := dk_28 (dk_at dksX10_refuge_0 8 rfl rfl)
theorem dX10_refuge_9 : decode cX10_refuge 9 = .ok (.iconst 0, 1) := dk_3 (dk_at dksX10_refuge_0 9 rfl rfl)
theorem dX10_refuge_10 : decode cX10_refuge 10 = .ok (.iconst 1, 1) := dk_4 (dk_at dksX10_refuge_0 10 rfl rfl)
theorem dX10_refuge_11 : decode cX10_refuge 11 = .ok (.invokestatic 334, 3) := dk_184 1 78 (dk_at dksX10_refuge_0 11 rfl rfl)
theorem dX10_refuge_14 : decode cX10_refuge 14 = .ok (.ifCond .ne 5, 3) := dk_154 0 5 (dk_at dksX10_refuge_0 14 rfl rfl)
theorem dX10_refuge_17 : decode cX10_refuge 17 = .ok (.iconst (-1), 1) := dk_2 (dk_at dksX10_refuge_0 17 rfl rfl)
theorem dX10_refuge_18 : decode cX10_refuge 18 = .ok (.ireturn, 1) := dk_172 (dk_at dksX10_refuge_0 18 rfl rfl)
theorem dX10_refuge_19 : decode cX10_refuge 19 = .ok (.aload_n 0, 1) := dk_42 (dk_at dksX10_refuge_0 19 rfl rfl)
theorem dX10_refuge_20 : decode cX10_refuge 20 = .ok (.iload_n 1, 1) := dk_27 (dk_at dksX10_refuge_0 20 rfl rfl)
theorem dX10_refuge_21 : decode cX10_refuge 21 = .ok (.invokevirtual 434, 3) := dk_182 1 178 (dk_at dksX10_refuge_0 21 rfl rfl)
theorem dX10_refuge_24 : decode cX10_refuge 24 = .ok (.istore_n 3, 1) := dk_62 (dk_at dksX10_refuge_1 0 rfl rfl)
theorem dX10_refuge_25 : decode cX10_refuge 25 = .ok (.bipush (-2), 2) := dk_16 254 (dk_at dksX10_refuge_1 1 rfl rfl)
theorem dX10_refuge_27 : decode cX10_refuge 27 = .ok (.istore 4, 2) := dk_54 4 (dk_at dksX10_refuge_1 3 rfl rfl)
theorem dX10_refuge_29 : decode cX10_refuge 29 = .ok (.bipush 99, 2) := dk_16 99 (dk_at dksX10_refuge_1 5 rfl rfl)
theorem dX10_refuge_31 : decode cX10_refuge 31 = .ok (.istore 5, 2) := dk_54 5 (dk_at dksX10_refuge_1 7 rfl rfl)
theorem dX10_refuge_33 : decode cX10_refuge 33 = .ok (.iconst 0, 1) := dk_3 (dk_at dksX10_refuge_1 9 rfl rfl)
theorem dX10_refuge_34 : decode cX10_refuge 34 = .ok (.istore 6, 2) := dk_54 6 (dk_at dksX10_refuge_1 10 rfl rfl)
theorem dX10_refuge_36 : decode cX10_refuge 36 = .ok (.iload 6, 2) := dk_21 6 (dk_at dksX10_refuge_1 12 rfl rfl)
theorem dX10_refuge_38 : decode cX10_refuge 38 = .ok (.aload_n 0, 1) := dk_42 (dk_at dksX10_refuge_1 14 rfl rfl)
theorem dX10_refuge_39 : decode cX10_refuge 39 = .ok (.getfield 46, 3) := dk_180 0 46 (dk_at dksX10_refuge_1 15 rfl rfl)
theorem dX10_refuge_42 : decode cX10_refuge 42 = .ok (.aload_n 0, 1) := dk_42 (dk_at dksX10_refuge_1 18 rfl rfl)
theorem dX10_refuge_43 : decode cX10_refuge 43 = .ok (.getfield 242, 3) := dk_180 0 242 (dk_at dksX10_refuge_1 19 rfl rfl)
theorem dX10_refuge_46 : decode cX10_refuge 46 = .ok (.iaload, 1) := dk_46 (dk_at dksX10_refuge_1 22 rfl rfl)
theorem dX10_refuge_47 : decode cX10_refuge 47 = .ok (.if_icmp .ge 58, 3) := dk_162 0 58 (dk_at dksX10_refuge_2 0 rfl rfl)
theorem dX10_refuge_50 : decode cX10_refuge 50 = .ok (.aload_n 0, 1) := dk_42 (dk_at dksX10_refuge_2 3 rfl rfl)
theorem dX10_refuge_51 : decode cX10_refuge 51 = .ok (.getfield 131, 3) := dk_180 0 131 (dk_at dksX10_refuge_2 4 rfl rfl)
theorem dX10_refuge_54 : decode cX10_refuge 54 = .ok (.bipush 7, 2) := dk_16 7 (dk_at dksX10_refuge_2 7 rfl rfl)
theorem dX10_refuge_56 : decode cX10_refuge 56 = .ok (.aload_n 0, 1) := dk_42 (dk_at dksX10_refuge_2 9 rfl rfl)
theorem dX10_refuge_57 : decode cX10_refuge 57 = .ok (.getfield 134, 3) := dk_180 0 134 (dk_at dksX10_refuge_2 10 rfl rfl)
theorem dX10_refuge_60 : decode cX10_refuge 60 = .ok (.bipush 15, 2) := dk_16 15 (dk_at dksX10_refuge_2 13 rfl rfl)
theorem dX10_refuge_62 : decode cX10_refuge 62 = .ok (.iload_n 1, 1) := dk_27 (dk_at dksX10_refuge_2 15 rfl rfl)
theorem dX10_refuge_63 : decode cX10_refuge 63 = .ok (.iadd, 1) := dk_96 (dk_at dksX10_refuge_2 16 rfl rfl)
theorem dX10_refuge_64 : decode cX10_refuge 64 = .ok (.iaload, 1) := dk_46 (dk_at dksX10_refuge_2 17 rfl rfl)
theorem dX10_refuge_65 : decode cX10_refuge 65 = .ok (.imul, 1) := dk_104 (dk_at dksX10_refuge_2 18 rfl rfl)
theorem dX10_refuge_66 : decode cX10_refuge 66 = .ok (.iload 6, 2) := dk_21 6 (dk_at dksX10_refuge_2 19 rfl rfl)
theorem dX10_refuge_68 : decode cX10_refuge 68 = .ok (.iadd, 1) := dk_96 (dk_at dksX10_refuge_2 21 rfl rfl)
theorem dX10_refuge_69 : decode cX10_refuge 69 = .ok (.iaload, 1) := dk_46 (dk_at dksX10_refuge_2 22 rfl rfl)
theorem dX10_refuge_70 : decode cX10_refuge 70 = .ok (.istore 7, 2) := dk_54 7 (dk_at dksX10_refuge_3 0 rfl rfl)
theorem dX10_refuge_72 : decode cX10_refuge 72 = .ok (.iload_n 3, 1) := dk_29 (dk_at dksX10_refuge_3 2 rfl rfl)
theorem dX10_refuge_73 : decode cX10_refuge 73 = .ok (.iload 6, 2) := dk_21 6 (dk_at dksX10_refuge_3 3 rfl rfl)
theorem dX10_refuge_75 : decode cX10_refuge 75 = .ok (.ishr, 1) := dk_122 (dk_at dksX10_refuge_3 5 rfl rfl)
theorem dX10_refuge_76 : decode cX10_refuge 76 = .ok (.iconst 1, 1) := dk_4 (dk_at dksX10_refuge_3 6 rfl rfl)
theorem dX10_refuge_77 : decode cX10_refuge 77 = .ok (.iand, 1) := dk_126 (dk_at dksX10_refuge_3 7 rfl rfl)
theorem dX10_refuge_78 : decode cX10_refuge 78 = .ok (.ifCond .eq 21, 3) := dk_153 0 21 (dk_at dksX10_refuge_3 8 rfl rfl)
theorem dX10_refuge_81 : decode cX10_refuge 81 = .ok (.iload 7, 2) := dk_21 7 (dk_at dksX10_refuge_3 11 rfl rfl)
theorem dX10_refuge_83 : decode cX10_refuge 83 = .ok (.iload 5, 2) := dk_21 5 (dk_at dksX10_refuge_3 13 rfl rfl)
theorem dX10_refuge_85 : decode cX10_refuge 85 = .ok (.if_icmp .lt 6, 3) := dk_161 0 6 (dk_at dksX10_refuge_3 15 rfl rfl)
theorem dX10_refuge_88 : decode cX10_refuge 88 = .ok (.goto 11, 3) := dk_167 0 11 (dk_at dksX10_refuge_3 18 rfl rfl)
theorem dX10_refuge_91 : decode cX10_refuge 91 = .ok (.iload 6, 2) := dk_21 6 (dk_at dksX10_refuge_3 21 rfl rfl)
theorem dX10_refuge_93 : decode cX10_refuge 93 = .ok (.istore 4, 2) := dk_54 4 (dk_at dksX10_refuge_4 0 rfl rfl)
theorem dX10_refuge_95 : decode cX10_refuge 95 = .ok (.iload 7, 2) := dk_21 7 (dk_at dksX10_refuge_4 2 rfl rfl)
theorem dX10_refuge_97 : decode cX10_refuge 97 = .ok (.istore 5, 2) := dk_54 5 (dk_at dksX10_refuge_4 4 rfl rfl)
theorem dX10_refuge_99 : decode cX10_refuge 99 = .ok (.iinc 6 1, 3) := dk_132 6 1 (dk_at dksX10_refuge_4 6 rfl rfl)
theorem dX10_refuge_102 : decode cX10_refuge 102 = .ok (.goto (-66), 3) := dk_167 255 190 (dk_at dksX10_refuge_4 9 rfl rfl)
theorem dX10_refuge_105 : decode cX10_refuge 105 = .ok (.iload 4, 2) := dk_21 4 (dk_at dksX10_refuge_4 12 rfl rfl)
theorem dX10_refuge_107 : decode cX10_refuge 107 = .ok (.ifCond .lt 7, 3) := dk_155 0 7 (dk_at dksX10_refuge_4 14 rfl rfl)
theorem dX10_refuge_110 : decode cX10_refuge 110 = .ok (.iload_n 2, 1) := dk_28 (dk_at dksX10_refuge_4 17 rfl rfl)
theorem dX10_refuge_111 : decode cX10_refuge 111 = .ok (.ifCond .ne 8, 3) := dk_154 0 8 (dk_at dksX10_refuge_4 18 rfl rfl)
theorem dX10_refuge_114 : decode cX10_refuge 114 = .ok (.iload 4, 2) := dk_21 4 (dk_at dksX10_refuge_4 21 rfl rfl)
theorem dX10_refuge_116 : decode cX10_refuge 116 = .ok (.goto 5, 3) := dk_167 0 5 (dk_at dksX10_refuge_5 0 rfl rfl)
theorem dX10_refuge_119 : decode cX10_refuge 119 = .ok (.iload 5, 2) := dk_21 5 (dk_at dksX10_refuge_5 3 rfl rfl)
theorem dX10_refuge_121 : decode cX10_refuge 121 = .ok (.ireturn, 1) := dk_172 (dk_at dksX10_refuge_5 5 rfl rfl)
abbrev cX10_loses : ByteArray := prog_21_method_92_code
def yX10_loses : MethodName := ⟨RX10, "loses", "(I)I"⟩
def dkwX10_loses_1 : List UInt8 := [27, 96, 46, 42, 180, 0, 137, 16, 23, 27, 96, 46, 100, 172]
abbrev dktX10_loses_1 : List UInt8 := dkwX10_loses_1 ++ []
def dkwX10_loses_0 : List UInt8 := [42, 27, 182, 1, 156, 154, 0, 5, 2, 172, 42, 182, 1, 144, 42, 182, 1, 175, 42, 180, 0, 134, 16, 23]
abbrev dktX10_loses_0 : List UInt8 := dkwX10_loses_0 ++ dktX10_loses_1
theorem dksX10_loses_0 : cX10_loses.data.toList.drop 0 = dktX10_loses_0 := by decide +kernel
theorem dksX10_loses_1 : cX10_loses.data.toList.drop 24 = dktX10_loses_1 := dk_seg dksX10_loses_0 24 rfl rfl
theorem dX10_loses_0 : decode cX10_loses 0 = .ok (.aload_n 0, 1) := dk_42 (dk_at dksX10_loses_0 0 rfl rfl)
theorem dX10_loses_1 : decode cX10_loses 1 = .ok (.iload_n 1, 1) := dk_27 (dk_at dksX10_loses_0 1 rfl rfl)
theorem dX10_loses_2 : decode cX10_loses 2 = .ok (.invokevirtual 412, 3) := dk_182 1 156 (dk_at dksX10_loses_0 2 rfl rfl)
theorem dX10_loses_5 : decode cX10_loses 5 = .ok (.ifCond .ne 5, 3) := dk_154 0 5 (dk_at dksX10_loses_0 5 rfl rfl)
theorem dX10_loses_8 : decode cX10_loses 8 = .ok (.iconst (-1), 1) := dk_2 (dk_at dksX10_loses_0 8 rfl rfl)
theorem dX10_loses_9 : decode cX10_loses 9 = .ok (.ireturn, 1) := dk_172 (dk_at dksX10_loses_0 9 rfl rfl)
theorem dX10_loses_10 : decode cX10_loses 10 = .ok (.aload_n 0, 1) := dk_42 (dk_at dksX10_loses_0 10 rfl rfl)
theorem dX10_loses_11 : decode cX10_loses 11 = .ok (.invokevirtual 400, 3) := dk_182 1 144 (dk_at dksX10_loses_0 11 rfl rfl)
theorem dX10_loses_14 : decode cX10_loses 14 = .ok (.aload_n 0, 1) := dk_42 (dk_at dksX10_loses_0 14 rfl rfl)
theorem dX10_loses_15 : decode cX10_loses 15 = .ok (.invokevirtual 431, 3) := dk_182 1 175 (dk_at dksX10_loses_0 15 rfl rfl)
theorem dX10_loses_18 : decode cX10_loses 18 = .ok (.aload_n 0, 1) := dk_42 (dk_at dksX10_loses_0 18 rfl rfl)
theorem dX10_loses_19 : decode cX10_loses 19 = .ok (.getfield 134, 3) := dk_180 0 134 (dk_at dksX10_loses_0 19 rfl rfl)
theorem dX10_loses_22 : decode cX10_loses 22 = .ok (.bipush 23, 2) := dk_16 23 (dk_at dksX10_loses_0 22 rfl rfl)
theorem dX10_loses_24 : decode cX10_loses 24 = .ok (.iload_n 1, 1) := dk_27 (dk_at dksX10_loses_1 0 rfl rfl)
theorem dX10_loses_25 : decode cX10_loses 25 = .ok (.iadd, 1) := dk_96 (dk_at dksX10_loses_1 1 rfl rfl)
theorem dX10_loses_26 : decode cX10_loses 26 = .ok (.iaload, 1) := dk_46 (dk_at dksX10_loses_1 2 rfl rfl)
theorem dX10_loses_27 : decode cX10_loses 27 = .ok (.aload_n 0, 1) := dk_42 (dk_at dksX10_loses_1 3 rfl rfl)
theorem dX10_loses_28 : decode cX10_loses 28 = .ok (.getfield 137, 3) := dk_180 0 137 (dk_at dksX10_loses_1 4 rfl rfl)
theorem dX10_loses_31 : decode cX10_loses 31 = .ok (.bipush 23, 2) := dk_16 23 (dk_at dksX10_loses_1 7 rfl rfl)
theorem dX10_loses_33 : decode cX10_loses 33 = .ok (.iload_n 1, 1) := dk_27 (dk_at dksX10_loses_1 9 rfl rfl)
theorem dX10_loses_34 : decode cX10_loses 34 = .ok (.iadd, 1) := dk_96 (dk_at dksX10_loses_1 10 rfl rfl)
theorem dX10_loses_35 : decode cX10_loses 35 = .ok (.iaload, 1) := dk_46 (dk_at dksX10_loses_1 11 rfl rfl)
theorem dX10_loses_36 : decode cX10_loses 36 = .ok (.isub, 1) := dk_100 (dk_at dksX10_loses_1 12 rfl rfl)
theorem dX10_loses_37 : decode cX10_loses 37 = .ok (.ireturn, 1) := dk_172 (dk_at dksX10_loses_1 13 rfl rfl)
abbrev cX10_fetched : ByteArray := prog_21_method_93_code
def yX10_fetched : MethodName := ⟨RX10, "fetched", "()I"⟩
def dkwX10_fetched_1 : List UInt8 := [172]
abbrev dktX10_fetched_1 : List UInt8 := dkwX10_fetched_1 ++ []
def dkwX10_fetched_0 : List UInt8 := [42, 182, 1, 144, 42, 182, 1, 175, 42, 16, 27, 42, 180, 0, 67, 42, 180, 0, 242, 46, 4, 182, 1, 147]
abbrev dktX10_fetched_0 : List UInt8 := dkwX10_fetched_0 ++ dktX10_fetched_1
theorem dksX10_fetched_0 : cX10_fetched.data.toList.drop 0 = dktX10_fetched_0 := by decide +kernel
theorem dksX10_fetched_1 : cX10_fetched.data.toList.drop 24 = dktX10_fetched_1 := dk_seg dksX10_fetched_0 24 rfl rfl
theorem dX10_fetched_0 : decode cX10_fetched 0 = .ok (.aload_n 0, 1) := dk_42 (dk_at dksX10_fetched_0 0 rfl rfl)
theorem dX10_fetched_1 : decode cX10_fetched 1 = .ok (.invokevirtual 400, 3) := dk_182 1 144 (dk_at dksX10_fetched_0 1 rfl rfl)
theorem dX10_fetched_4 : decode cX10_fetched 4 = .ok (.aload_n 0, 1) := dk_42 (dk_at dksX10_fetched_0 4 rfl rfl)
theorem dX10_fetched_5 : decode cX10_fetched 5 = .ok (.invokevirtual 431, 3) := dk_182 1 175 (dk_at dksX10_fetched_0 5 rfl rfl)
theorem dX10_fetched_8 : decode cX10_fetched 8 = .ok (.aload_n 0, 1) := dk_42 (dk_at dksX10_fetched_0 8 rfl rfl)
theorem dX10_fetched_9 : decode cX10_fetched 9 = .ok (.bipush 27, 2) := dk_16 27 (dk_at dksX10_fetched_0 9 rfl rfl)
theorem dX10_fetched_11 : decode cX10_fetched 11 = .ok (.aload_n 0, 1) := dk_42 (dk_at dksX10_fetched_0 11 rfl rfl)
theorem dX10_fetched_12 : decode cX10_fetched 12 = .ok (.getfield 67, 3) := dk_180 0 67 (dk_at dksX10_fetched_0 12 rfl rfl)
theorem dX10_fetched_15 : decode cX10_fetched 15 = .ok (.aload_n 0, 1) := dk_42 (dk_at dksX10_fetched_0 15 rfl rfl)
theorem dX10_fetched_16 : decode cX10_fetched 16 = .ok (.getfield 242, 3) := dk_180 0 242 (dk_at dksX10_fetched_0 16 rfl rfl)
theorem dX10_fetched_19 : decode cX10_fetched 19 = .ok (.iaload, 1) := dk_46 (dk_at dksX10_fetched_0 19 rfl rfl)
theorem dX10_fetched_20 : decode cX10_fetched 20 = .ok (.iconst 1, 1) := dk_4 (dk_at dksX10_fetched_0 20 rfl rfl)
theorem dX10_fetched_21 : decode cX10_fetched 21 = .ok (.invokevirtual 403, 3) := dk_182 1 147 (dk_at dksX10_fetched_0 21 rfl rfl)
theorem dX10_fetched_24 : decode cX10_fetched 24 = .ok (.ireturn, 1) := dk_172 (dk_at dksX10_fetched_1 0 rfl rfl)
abbrev cX10_held : ByteArray := prog_21_method_94_code
def yX10_held : MethodName := ⟨RX10, "held", "(I)I"⟩
def dkwX10_held_3 : List UInt8 := [21, 4, 61, 21, 5, 62, 132, 4, 1, 167, 255, 198, 28, 172]
abbrev dktX10_held_3 : List UInt8 := dkwX10_held_3 ++ []
def dkwX10_held_2 : List UInt8 := [180, 0, 242, 104, 21, 4, 96, 46, 104, 27, 96, 46, 54, 5, 21, 5, 29, 161, 0, 6, 167, 0, 9]
abbrev dktX10_held_2 : List UInt8 := dkwX10_held_2 ++ dktX10_held_3
def dkwX10_held_1 : List UInt8 := [180, 0, 55, 42, 180, 0, 242, 46, 162, 0, 50, 42, 180, 0, 131, 16, 7, 42, 180, 0, 58, 8, 42]
abbrev dktX10_held_1 : List UInt8 := dkwX10_held_1 ++ dktX10_held_2
def dkwX10_held_0 : List UInt8 := [42, 27, 182, 1, 141, 154, 0, 5, 2, 172, 16, 254, 61, 16, 99, 62, 3, 54, 4, 21, 4, 42]
abbrev dktX10_held_0 : List UInt8 := dkwX10_held_0 ++ dktX10_held_1
theorem dksX10_held_0 : cX10_held.data.toList.drop 0 = dktX10_held_0 := by decide +kernel
theorem dksX10_held_1 : cX10_held.data.toList.drop 22 = dktX10_held_1 := dk_seg dksX10_held_0 22 rfl rfl
theorem dksX10_held_2 : cX10_held.data.toList.drop 45 = dktX10_held_2 := dk_seg dksX10_held_1 23 rfl rfl
theorem dksX10_held_3 : cX10_held.data.toList.drop 68 = dktX10_held_3 := dk_seg dksX10_held_2 23 rfl rfl
theorem dX10_held_0 : decode cX10_held 0 = .ok (.aload_n 0, 1) := dk_42 (dk_at dksX10_held_0 0 rfl rfl)
theorem dX10_held_1 : decode cX10_held 1 = .ok (.iload_n 1, 1) := dk_27 (dk_at dksX10_held_0 1 rfl rfl)
theorem dX10_held_2 : decode cX10_held 2 = .ok (.invokevirtual 397, 3) := dk_182 1 141 (dk_at dksX10_held_0 2 rfl rfl)
theorem dX10_held_5 : decode cX10_held 5 = .ok (.ifCond .ne 5, 3) := dk_154 0 5 (dk_at dksX10_held_0 5 rfl rfl)
theorem dX10_held_8 : decode cX10_held 8 = .ok (.iconst (-1), 1) := dk_2 (dk_at dksX10_held_0 8 rfl rfl)
theorem dX10_held_9 : decode cX10_held 9 = .ok (.ireturn, 1) := dk_172 (dk_at dksX10_held_0 9 rfl rfl)
theorem dX10_held_10 : decode cX10_held 10 = .ok (.bipush (-2), 2) := dk_16 254 (dk_at dksX10_held_0 10 rfl rfl)
theorem dX10_held_12 : decode cX10_held 12 = .ok (.istore_n 2, 1) := dk_61 (dk_at dksX10_held_0 12 rfl rfl)
theorem dX10_held_13 : decode cX10_held 13 = .ok (.bipush 99, 2) := dk_16 99 (dk_at dksX10_held_0 13 rfl rfl)
theorem dX10_held_15 : decode cX10_held 15 = .ok (.istore_n 3, 1) := dk_62 (dk_at dksX10_held_0 15 rfl rfl)
theorem dX10_held_16 : decode cX10_held 16 = .ok (.iconst 0, 1) := dk_3 (dk_at dksX10_held_0 16 rfl rfl)
theorem dX10_held_17 : decode cX10_held 17 = .ok (.istore 4, 2) := dk_54 4 (dk_at dksX10_held_0 17 rfl rfl)
theorem dX10_held_19 : decode cX10_held 19 = .ok (.iload 4, 2) := dk_21 4 (dk_at dksX10_held_0 19 rfl rfl)
theorem dX10_held_21 : decode cX10_held 21 = .ok (.aload_n 0, 1) := dk_42 (dk_at dksX10_held_0 21 rfl rfl)
theorem dX10_held_22 : decode cX10_held 22 = .ok (.getfield 55, 3) := dk_180 0 55 (dk_at dksX10_held_1 0 rfl rfl)
theorem dX10_held_25 : decode cX10_held 25 = .ok (.aload_n 0, 1) := dk_42 (dk_at dksX10_held_1 3 rfl rfl)
theorem dX10_held_26 : decode cX10_held 26 = .ok (.getfield 242, 3) := dk_180 0 242 (dk_at dksX10_held_1 4 rfl rfl)
theorem dX10_held_29 : decode cX10_held 29 = .ok (.iaload, 1) := dk_46 (dk_at dksX10_held_1 7 rfl rfl)
theorem dX10_held_30 : decode cX10_held 30 = .ok (.if_icmp .ge 50, 3) := dk_162 0 50 (dk_at dksX10_held_1 8 rfl rfl)
theorem dX10_held_33 : decode cX10_held 33 = .ok (.aload_n 0, 1) := dk_42 (dk_at dksX10_held_1 11 rfl rfl)
theorem dX10_held_34 : decode cX10_held 34 = .ok (.getfield 131, 3) := dk_180 0 131 (dk_at dksX10_held_1 12 rfl rfl)
theorem dX10_held_37 : decode cX10_held 37 = .ok (.bipush 7, 2) := dk_16 7 (dk_at dksX10_held_1 15 rfl rfl)
theorem dX10_held_39 : decode cX10_held 39 = .ok (.aload_n 0, 1) := dk_42 (dk_at dksX10_held_1 17 rfl rfl)
theorem dX10_held_40 : decode cX10_held 40 = .ok (.getfield 58, 3) := dk_180 0 58 (dk_at dksX10_held_1 18 rfl rfl)
theorem dX10_held_43 : decode cX10_held 43 = .ok (.iconst 5, 1) := dk_8 (dk_at dksX10_held_1 21 rfl rfl)
theorem dX10_held_44 : decode cX10_held 44 = .ok (.aload_n 0, 1) := dk_42 (dk_at dksX10_held_1 22 rfl rfl)
theorem dX10_held_45 : decode cX10_held 45 = .ok (.getfield 242, 3) := dk_180 0 242 (dk_at dksX10_held_2 0 rfl rfl)
theorem dX10_held_48 : decode cX10_held 48 = .ok (.imul, 1) := dk_104 (dk_at dksX10_held_2 3 rfl rfl)
theorem dX10_held_49 : decode cX10_held 49 = .ok (.iload 4, 2) := dk_21 4 (dk_at dksX10_held_2 4 rfl rfl)
theorem dX10_held_51 : decode cX10_held 51 = .ok (.iadd, 1) := dk_96 (dk_at dksX10_held_2 6 rfl rfl)
theorem dX10_held_52 : decode cX10_held 52 = .ok (.iaload, 1) := dk_46 (dk_at dksX10_held_2 7 rfl rfl)
theorem dX10_held_53 : decode cX10_held 53 = .ok (.imul, 1) := dk_104 (dk_at dksX10_held_2 8 rfl rfl)
theorem dX10_held_54 : decode cX10_held 54 = .ok (.iload_n 1, 1) := dk_27 (dk_at dksX10_held_2 9 rfl rfl)
theorem dX10_held_55 : decode cX10_held 55 = .ok (.iadd, 1) := dk_96 (dk_at dksX10_held_2 10 rfl rfl)
theorem dX10_held_56 : decode cX10_held 56 = .ok (.iaload, 1) := dk_46 (dk_at dksX10_held_2 11 rfl rfl)
theorem dX10_held_57 : decode cX10_held 57 = .ok (.istore 5, 2) := dk_54 5 (dk_at dksX10_held_2 12 rfl rfl)
theorem dX10_held_59 : decode cX10_held 59 = .ok (.iload 5, 2) := dk_21 5 (dk_at dksX10_held_2 14 rfl rfl)
theorem dX10_held_61 : decode cX10_held 61 = .ok (.iload_n 3, 1) := dk_29 (dk_at dksX10_held_2 16 rfl rfl)
theorem dX10_held_62 : decode cX10_held 62 = .ok (.if_icmp .lt 6, 3) := dk_161 0 6 (dk_at dksX10_held_2 17 rfl rfl)
theorem dX10_held_65 : decode cX10_held 65 = .ok (.goto 9, 3) := dk_167 0 9 (dk_at dksX10_held_2 20 rfl rfl)
theorem dX10_held_68 : decode cX10_held 68 = .ok (.iload 4, 2) := dk_21 4 (dk_at dksX10_held_3 0 rfl rfl)
theorem dX10_held_70 : decode cX10_held 70 = .ok (.istore_n 2, 1) := dk_61 (dk_at dksX10_held_3 2 rfl rfl)
theorem dX10_held_71 : decode cX10_held 71 = .ok (.iload 5, 2) := dk_21 5 (dk_at dksX10_held_3 3 rfl rfl)
theorem dX10_held_73 : decode cX10_held 73 = .ok (.istore_n 3, 1) := dk_62 (dk_at dksX10_held_3 5 rfl rfl)
theorem dX10_held_74 : decode cX10_held 74 = .ok (.iinc 4 1, 3) := dk_132 4 1 (dk_at dksX10_held_3 6 rfl rfl)
theorem dX10_held_77 : decode cX10_held 77 = .ok (.goto (-58), 3) := dk_167 255 198 (dk_at dksX10_held_3 9 rfl rfl)
theorem dX10_held_80 : decode cX10_held 80 = .ok (.iload_n 2, 1) := dk_28 (dk_at dksX10_held_3 12 rfl rfl)
theorem dX10_held_81 : decode cX10_held 81 = .ok (.ireturn, 1) := dk_172 (dk_at dksX10_held_3 13 rfl rfl)
abbrev cX10_grudge : ByteArray := prog_21_method_95_code
def yX10_grudge : MethodName := ⟨RX10, "grudge", "(II)I"⟩
def dkwX10_grudge_2 : List UInt8 := [132, 3, 1, 167, 255, 230, 16, 254, 172]
abbrev dktX10_grudge_2 : List UInt8 := dkwX10_grudge_2 ++ []
def dkwX10_grudge_1 : List UInt8 := [29, 16, 99, 163, 0, 26, 42, 27, 28, 182, 1, 112, 154, 0, 5, 29, 172, 42, 27, 28, 182, 1, 135]
abbrev dktX10_grudge_1 : List UInt8 := dkwX10_grudge_1 ++ dktX10_grudge_2
def dkwX10_grudge_0 : List UInt8 := [42, 27, 182, 1, 153, 153, 0, 11, 42, 28, 182, 1, 156, 154, 0, 5, 2, 172, 42, 182, 1, 144, 3, 62]
abbrev dktX10_grudge_0 : List UInt8 := dkwX10_grudge_0 ++ dktX10_grudge_1
theorem dksX10_grudge_0 : cX10_grudge.data.toList.drop 0 = dktX10_grudge_0 := by decide +kernel
theorem dksX10_grudge_1 : cX10_grudge.data.toList.drop 24 = dktX10_grudge_1 := dk_seg dksX10_grudge_0 24 rfl rfl
theorem dksX10_grudge_2 : cX10_grudge.data.toList.drop 47 = dktX10_grudge_2 := dk_seg dksX10_grudge_1 23 rfl rfl
theorem dX10_grudge_0 : decode cX10_grudge 0 = .ok (.aload_n 0, 1) := dk_42 (dk_at dksX10_grudge_0 0 rfl rfl)
theorem dX10_grudge_1 : decode cX10_grudge 1 = .ok (.iload_n 1, 1) := dk_27 (dk_at dksX10_grudge_0 1 rfl rfl)
theorem dX10_grudge_2 : decode cX10_grudge 2 = .ok (.invokevirtual 409, 3) := dk_182 1 153 (dk_at dksX10_grudge_0 2 rfl rfl)
theorem dX10_grudge_5 : decode cX10_grudge 5 = .ok (.ifCond .eq 11, 3) := dk_153 0 11 (dk_at dksX10_grudge_0 5 rfl rfl)
theorem dX10_grudge_8 : decode cX10_grudge 8 = .ok (.aload_n 0, 1) := dk_42 (dk_at dksX10_grudge_0 8 rfl rfl)
theorem dX10_grudge_9 : decode cX10_grudge 9 = .ok (.iload_n 2, 1) := dk_28 (dk_at dksX10_grudge_0 9 rfl rfl)
theorem dX10_grudge_10 : decode cX10_grudge 10 = .ok (.invokevirtual 412, 3) := dk_182 1 156 (dk_at dksX10_grudge_0 10 rfl rfl)
theorem dX10_grudge_13 : decode cX10_grudge 13 = .ok (.ifCond .ne 5, 3) := dk_154 0 5 (dk_at dksX10_grudge_0 13 rfl rfl)
theorem dX10_grudge_16 : decode cX10_grudge 16 = .ok (.iconst (-1), 1) := dk_2 (dk_at dksX10_grudge_0 16 rfl rfl)
theorem dX10_grudge_17 : decode cX10_grudge 17 = .ok (.ireturn, 1) := dk_172 (dk_at dksX10_grudge_0 17 rfl rfl)
theorem dX10_grudge_18 : decode cX10_grudge 18 = .ok (.aload_n 0, 1) := dk_42 (dk_at dksX10_grudge_0 18 rfl rfl)
theorem dX10_grudge_19 : decode cX10_grudge 19 = .ok (.invokevirtual 400, 3) := dk_182 1 144 (dk_at dksX10_grudge_0 19 rfl rfl)
theorem dX10_grudge_22 : decode cX10_grudge 22 = .ok (.iconst 0, 1) := dk_3 (dk_at dksX10_grudge_0 22 rfl rfl)
theorem dX10_grudge_23 : decode cX10_grudge 23 = .ok (.istore_n 3, 1) := dk_62 (dk_at dksX10_grudge_0 23 rfl rfl)
theorem dX10_grudge_24 : decode cX10_grudge 24 = .ok (.iload_n 3, 1) := dk_29 (dk_at dksX10_grudge_1 0 rfl rfl)
theorem dX10_grudge_25 : decode cX10_grudge 25 = .ok (.bipush 99, 2) := dk_16 99 (dk_at dksX10_grudge_1 1 rfl rfl)
theorem dX10_grudge_27 : decode cX10_grudge 27 = .ok (.if_icmp .gt 26, 3) := dk_163 0 26 (dk_at dksX10_grudge_1 3 rfl rfl)
theorem dX10_grudge_30 : decode cX10_grudge 30 = .ok (.aload_n 0, 1) := dk_42 (dk_at dksX10_grudge_1 6 rfl rfl)
theorem dX10_grudge_31 : decode cX10_grudge 31 = .ok (.iload_n 1, 1) := dk_27 (dk_at dksX10_grudge_1 7 rfl rfl)
theorem dX10_grudge_32 : decode cX10_grudge 32 = .ok (.iload_n 2, 1) := dk_28 (dk_at dksX10_grudge_1 8 rfl rfl)
theorem dX10_grudge_33 : decode cX10_grudge 33 = .ok (.invokevirtual 368, 3) := dk_182 1 112 (dk_at dksX10_grudge_1 9 rfl rfl)
theorem dX10_grudge_36 : decode cX10_grudge 36 = .ok (.ifCond .ne 5, 3) := dk_154 0 5 (dk_at dksX10_grudge_1 12 rfl rfl)
theorem dX10_grudge_39 : decode cX10_grudge 39 = .ok (.iload_n 3, 1) := dk_29 (dk_at dksX10_grudge_1 15 rfl rfl)
theorem dX10_grudge_40 : decode cX10_grudge 40 = .ok (.ireturn, 1) := dk_172 (dk_at dksX10_grudge_1 16 rfl rfl)
theorem dX10_grudge_41 : decode cX10_grudge 41 = .ok (.aload_n 0, 1) := dk_42 (dk_at dksX10_grudge_1 17 rfl rfl)
theorem dX10_grudge_42 : decode cX10_grudge 42 = .ok (.iload_n 1, 1) := dk_27 (dk_at dksX10_grudge_1 18 rfl rfl)
theorem dX10_grudge_43 : decode cX10_grudge 43 = .ok (.iload_n 2, 1) := dk_28 (dk_at dksX10_grudge_1 19 rfl rfl)
theorem dX10_grudge_44 : decode cX10_grudge 44 = .ok (.invokevirtual 391, 3) := dk_182 1 135 (dk_at dksX10_grudge_1 20 rfl rfl)
theorem dX10_grudge_47 : decode cX10_grudge 47 = .ok (.iinc 3 1, 3) := dk_132 3 1 (dk_at dksX10_grudge_2 0 rfl rfl)
theorem dX10_grudge_50 : decode cX10_grudge 50 = .ok (.goto (-26), 3) := dk_167 255 230 (dk_at dksX10_grudge_2 3 rfl rfl)
theorem dX10_grudge_53 : decode cX10_grudge 53 = .ok (.bipush (-2), 2) := dk_16 254 (dk_at dksX10_grudge_2 6 rfl rfl)
theorem dX10_grudge_55 : decode cX10_grudge 55 = .ok (.ireturn, 1) := dk_172 (dk_at dksX10_grudge_2 8 rfl rfl)
abbrev cX10_share : ByteArray := prog_21_method_96_code
def yX10_share : MethodName := ⟨RX10, "share", "(I)I"⟩
def dkwX10_share_3 : List UInt8 := [29, 42, 27, 182, 1, 181, 104, 28, 108, 172]
abbrev dktX10_share_3 : List UInt8 := dkwX10_share_3 ++ []
def dkwX10_share_2 : List UInt8 := [180, 0, 137, 8, 21, 4, 96, 46, 96, 62, 132, 4, 1, 167, 255, 218, 28, 154, 0, 7, 3, 167, 0, 12]
abbrev dktX10_share_2 : List UInt8 := dkwX10_share_2 ++ dktX10_share_3
def dkwX10_share_1 : List UInt8 := [180, 0, 55, 42, 180, 0, 242, 46, 162, 0, 30, 28, 42, 21, 4, 182, 1, 181, 96, 61, 29, 42]
abbrev dktX10_share_1 : List UInt8 := dkwX10_share_1 ++ dktX10_share_2
def dkwX10_share_0 : List UInt8 := [42, 27, 182, 1, 153, 154, 0, 5, 2, 172, 42, 182, 1, 144, 3, 61, 3, 62, 3, 54, 4, 21, 4, 42]
abbrev dktX10_share_0 : List UInt8 := dkwX10_share_0 ++ dktX10_share_1
theorem dksX10_share_0 : cX10_share.data.toList.drop 0 = dktX10_share_0 := by decide +kernel
theorem dksX10_share_1 : cX10_share.data.toList.drop 24 = dktX10_share_1 := dk_seg dksX10_share_0 24 rfl rfl
theorem dksX10_share_2 : cX10_share.data.toList.drop 46 = dktX10_share_2 := dk_seg dksX10_share_1 22 rfl rfl
theorem dksX10_share_3 : cX10_share.data.toList.drop 70 = dktX10_share_3 := dk_seg dksX10_share_2 24 rfl rfl
theorem dX10_share_0 : decode cX10_share 0 = .ok (.aload_n 0, 1) := dk_42 (dk_at dksX10_share_0 0 rfl rfl)
theorem dX10_share_1 : decode cX10_share 1 = .ok (.iload_n 1, 1) := dk_27 (dk_at dksX10_share_0 1 rfl rfl)
theorem dX10_share_2 : decode cX10_share 2 = .ok (.invokevirtual 409, 3) := dk_182 1 153 (dk_at dksX10_share_0 2 rfl rfl)
theorem dX10_share_5 : decode cX10_share 5 = .ok (.ifCond .ne 5, 3) := dk_154 0 5 (dk_at dksX10_share_0 5 rfl rfl)
theorem dX10_share_8 : decode cX10_share 8 = .ok (.iconst (-1), 1) := dk_2 (dk_at dksX10_share_0 8 rfl rfl)
theorem dX10_share_9 : decode cX10_share 9 = .ok (.ireturn, 1) := dk_172 (dk_at dksX10_share_0 9 rfl rfl)
theorem dX10_share_10 : decode cX10_share 10 = .ok (.aload_n 0, 1) := dk_42 (dk_at dksX10_share_0 10 rfl rfl)
theorem dX10_share_11 : decode cX10_share 11 = .ok (.invokevirtual 400, 3) := dk_182 1 144 (dk_at dksX10_share_0 11 rfl rfl)
theorem dX10_share_14 : decode cX10_share 14 = .ok (.iconst 0, 1) := dk_3 (dk_at dksX10_share_0 14 rfl rfl)
theorem dX10_share_15 : decode cX10_share 15 = .ok (.istore_n 2, 1) := dk_61 (dk_at dksX10_share_0 15 rfl rfl)
theorem dX10_share_16 : decode cX10_share 16 = .ok (.iconst 0, 1) := dk_3 (dk_at dksX10_share_0 16 rfl rfl)
theorem dX10_share_17 : decode cX10_share 17 = .ok (.istore_n 3, 1) := dk_62 (dk_at dksX10_share_0 17 rfl rfl)
theorem dX10_share_18 : decode cX10_share 18 = .ok (.iconst 0, 1) := dk_3 (dk_at dksX10_share_0 18 rfl rfl)
theorem dX10_share_19 : decode cX10_share 19 = .ok (.istore 4, 2) := dk_54 4 (dk_at dksX10_share_0 19 rfl rfl)
theorem dX10_share_21 : decode cX10_share 21 = .ok (.iload 4, 2) := dk_21 4 (dk_at dksX10_share_0 21 rfl rfl)
theorem dX10_share_23 : decode cX10_share 23 = .ok (.aload_n 0, 1) := dk_42 (dk_at dksX10_share_0 23 rfl rfl)
theorem dX10_share_24 : decode cX10_share 24 = .ok (.getfield 55, 3) := dk_180 0 55 (dk_at dksX10_share_1 0 rfl rfl)
theorem dX10_share_27 : decode cX10_share 27 = .ok (.aload_n 0, 1) := dk_42 (dk_at dksX10_share_1 3 rfl rfl)
theorem dX10_share_28 : decode cX10_share 28 = .ok (.getfield 242, 3) := dk_180 0 242 (dk_at dksX10_share_1 4 rfl rfl)
theorem dX10_share_31 : decode cX10_share 31 = .ok (.iaload, 1) := dk_46 (dk_at dksX10_share_1 7 rfl rfl)
theorem dX10_share_32 : decode cX10_share 32 = .ok (.if_icmp .ge 30, 3) := dk_162 0 30 (dk_at dksX10_share_1 8 rfl rfl)
theorem dX10_share_35 : decode cX10_share 35 = .ok (.iload_n 2, 1) := dk_28 (dk_at dksX10_share_1 11 rfl rfl)
theorem dX10_share_36 : decode cX10_share 36 = .ok (.aload_n 0, 1) := dk_42 (dk_at dksX10_share_1 12 rfl rfl)
theorem dX10_share_37 : decode cX10_share 37 = .ok (.iload 4, 2) := dk_21 4 (dk_at dksX10_share_1 13 rfl rfl)
theorem dX10_share_39 : decode cX10_share 39 = .ok (.invokevirtual 437, 3) := dk_182 1 181 (dk_at dksX10_share_1 15 rfl rfl)
theorem dX10_share_42 : decode cX10_share 42 = .ok (.iadd, 1) := dk_96 (dk_at dksX10_share_1 18 rfl rfl)
theorem dX10_share_43 : decode cX10_share 43 = .ok (.istore_n 2, 1) := dk_61 (dk_at dksX10_share_1 19 rfl rfl)
theorem dX10_share_44 : decode cX10_share 44 = .ok (.iload_n 3, 1) := dk_29 (dk_at dksX10_share_1 20 rfl rfl)
theorem dX10_share_45 : decode cX10_share 45 = .ok (.aload_n 0, 1) := dk_42 (dk_at dksX10_share_1 21 rfl rfl)
theorem dX10_share_46 : decode cX10_share 46 = .ok (.getfield 137, 3) := dk_180 0 137 (dk_at dksX10_share_2 0 rfl rfl)
theorem dX10_share_49 : decode cX10_share 49 = .ok (.iconst 5, 1) := dk_8 (dk_at dksX10_share_2 3 rfl rfl)
theorem dX10_share_50 : decode cX10_share 50 = .ok (.iload 4, 2) := dk_21 4 (dk_at dksX10_share_2 4 rfl rfl)
theorem dX10_share_52 : decode cX10_share 52 = .ok (.iadd, 1) := dk_96 (dk_at dksX10_share_2 6 rfl rfl)
theorem dX10_share_53 : decode cX10_share 53 = .ok (.iaload, 1) := dk_46 (dk_at dksX10_share_2 7 rfl rfl)
theorem dX10_share_54 : decode cX10_share 54 = .ok (.iadd, 1) := dk_96 (dk_at dksX10_share_2 8 rfl rfl)
theorem dX10_share_55 : decode cX10_share 55 = .ok (.istore_n 3, 1) := dk_62 (dk_at dksX10_share_2 9 rfl rfl)
theorem dX10_share_56 : decode cX10_share 56 = .ok (.iinc 4 1, 3) := dk_132 4 1 (dk_at dksX10_share_2 10 rfl rfl)
theorem dX10_share_59 : decode cX10_share 59 = .ok (.goto (-38), 3) := dk_167 255 218 (dk_at dksX10_share_2 13 rfl rfl)
theorem dX10_share_62 : decode cX10_share 62 = .ok (.iload_n 2, 1) := dk_28 (dk_at dksX10_share_2 16 rfl rfl)
theorem dX10_share_63 : decode cX10_share 63 = .ok (.ifCond .ne 7, 3) := dk_154 0 7 (dk_at dksX10_share_2 17 rfl rfl)
theorem dX10_share_66 : decode cX10_share 66 = .ok (.iconst 0, 1) := dk_3 (dk_at dksX10_share_2 20 rfl rfl)
theorem dX10_share_67 : decode cX10_share 67 = .ok (.goto 12, 3) := dk_167 0 12 (dk_at dksX10_share_2 21 rfl rfl)
theorem dX10_share_70 : decode cX10_share 70 = .ok (.iload_n 3, 1) := dk_29 (dk_at dksX10_share_3 0 rfl rfl)
theorem dX10_share_71 : decode cX10_share 71 = .ok (.aload_n 0, 1) := dk_42 (dk_at dksX10_share_3 1 rfl rfl)
theorem dX10_share_72 : decode cX10_share 72 = .ok (.iload_n 1, 1) := dk_27 (dk_at dksX10_share_3 2 rfl rfl)
theorem dX10_share_73 : decode cX10_share 73 = .ok (.invokevirtual 437, 3) := dk_182 1 181 (dk_at dksX10_share_3 3 rfl rfl)
theorem dX10_share_76 : decode cX10_share 76 = .ok (.imul, 1) := dk_104 (dk_at dksX10_share_3 6 rfl rfl)
theorem dX10_share_77 : decode cX10_share 77 = .ok (.iload_n 2, 1) := dk_28 (dk_at dksX10_share_3 7 rfl rfl)
theorem dX10_share_78 : decode cX10_share 78 = .ok (.idiv, 1) := dk_108 (dk_at dksX10_share_3 8 rfl rfl)
theorem dX10_share_79 : decode cX10_share 79 = .ok (.ireturn, 1) := dk_172 (dk_at dksX10_share_3 9 rfl rfl)
abbrev cX10_duesOf : ByteArray := prog_21_method_59_code
def yX10_duesOf : MethodName := ⟨RX10, "duesOf", "(I)I"⟩
def dkwX10_duesOf_0 : List UInt8 := [42, 27, 182, 1, 91, 42, 6, 42, 180, 0, 125, 16, 8, 46, 182, 1, 97, 3, 16, 99, 184, 1, 100, 172]
abbrev dktX10_duesOf_0 : List UInt8 := dkwX10_duesOf_0 ++ []
theorem dksX10_duesOf_0 : cX10_duesOf.data.toList.drop 0 = dktX10_duesOf_0 := by decide +kernel
theorem dX10_duesOf_0 : decode cX10_duesOf 0 = .ok (.aload_n 0, 1) := dk_42 (dk_at dksX10_duesOf_0 0 rfl rfl)
theorem dX10_duesOf_1 : decode cX10_duesOf 1 = .ok (.iload_n 1, 1) := dk_27 (dk_at dksX10_duesOf_0 1 rfl rfl)
theorem dX10_duesOf_2 : decode cX10_duesOf 2 = .ok (.invokevirtual 347, 3) := dk_182 1 91 (dk_at dksX10_duesOf_0 2 rfl rfl)
theorem dX10_duesOf_5 : decode cX10_duesOf 5 = .ok (.aload_n 0, 1) := dk_42 (dk_at dksX10_duesOf_0 5 rfl rfl)
theorem dX10_duesOf_6 : decode cX10_duesOf 6 = .ok (.iconst 3, 1) := dk_6 (dk_at dksX10_duesOf_0 6 rfl rfl)
theorem dX10_duesOf_7 : decode cX10_duesOf 7 = .ok (.aload_n 0, 1) := dk_42 (dk_at dksX10_duesOf_0 7 rfl rfl)
theorem dX10_duesOf_8 : decode cX10_duesOf 8 = .ok (.getfield 125, 3) := dk_180 0 125 (dk_at dksX10_duesOf_0 8 rfl rfl)
theorem dX10_duesOf_11 : decode cX10_duesOf 11 = .ok (.bipush 8, 2) := dk_16 8 (dk_at dksX10_duesOf_0 11 rfl rfl)
theorem dX10_duesOf_13 : decode cX10_duesOf 13 = .ok (.iaload, 1) := dk_46 (dk_at dksX10_duesOf_0 13 rfl rfl)
theorem dX10_duesOf_14 : decode cX10_duesOf 14 = .ok (.invokevirtual 353, 3) := dk_182 1 97 (dk_at dksX10_duesOf_0 14 rfl rfl)
theorem dX10_duesOf_17 : decode cX10_duesOf 17 = .ok (.iconst 0, 1) := dk_3 (dk_at dksX10_duesOf_0 17 rfl rfl)
theorem dX10_duesOf_18 : decode cX10_duesOf 18 = .ok (.bipush 99, 2) := dk_16 99 (dk_at dksX10_duesOf_0 18 rfl rfl)
theorem dX10_duesOf_20 : decode cX10_duesOf 20 = .ok (.invokestatic 356, 3) := dk_184 1 100 (dk_at dksX10_duesOf_0 20 rfl rfl)
theorem dX10_duesOf_23 : decode cX10_duesOf 23 = .ok (.ireturn, 1) := dk_172 (dk_at dksX10_duesOf_0 23 rfl rfl)
abbrev cX10_then : ByteArray := prog_21_method_98_code
def yX10_then : MethodName := ⟨RX10, "then", "(III)I"⟩
def dkwX10_then_4 : List UInt8 := [16, 27, 27, 96, 46, 172, 42, 27, 2, 182, 1, 150, 172]
abbrev dktX10_then_4 : List UInt8 := dkwX10_then_4 ++ []
def dkwX10_then_3 : List UInt8 := [42, 180, 0, 137, 16, 15, 27, 96, 46, 172, 42, 180, 0, 137, 16, 23, 27, 96, 46, 172, 42, 180, 0, 137]
abbrev dktX10_then_3 : List UInt8 := dkwX10_then_3 ++ dktX10_then_4
def dkwX10_then_2 : List UInt8 := [170, 0, 0, 0, 0, 0, 0, 58, 0, 0, 0, 0, 0, 0, 0, 2, 0, 0, 0, 28, 0, 0, 0, 38, 0, 0, 0, 48]
abbrev dktX10_then_2 : List UInt8 := dkwX10_then_2 ++ dktX10_then_3
def dkwX10_then_1 : List UInt8 := [2, 172, 42, 182, 1, 144, 42, 28, 182, 1, 166, 29]
abbrev dktX10_then_1 : List UInt8 := dkwX10_then_1 ++ dktX10_then_2
def dkwX10_then_0 : List UInt8 := [42, 27, 182, 1, 156, 153, 0, 19, 28, 184, 1, 184, 153, 0, 12, 29, 3, 6, 184, 1, 78, 154, 0, 5]
abbrev dktX10_then_0 : List UInt8 := dkwX10_then_0 ++ dktX10_then_1
theorem dksX10_then_0 : cX10_then.data.toList.drop 0 = dktX10_then_0 := by decide +kernel
theorem dksX10_then_1 : cX10_then.data.toList.drop 24 = dktX10_then_1 := dk_seg dksX10_then_0 24 rfl rfl
theorem dksX10_then_2 : cX10_then.data.toList.drop 36 = dktX10_then_2 := dk_seg dksX10_then_1 12 rfl rfl
theorem dksX10_then_3 : cX10_then.data.toList.drop 64 = dktX10_then_3 := dk_seg dksX10_then_2 28 rfl rfl
theorem dksX10_then_4 : cX10_then.data.toList.drop 88 = dktX10_then_4 := dk_seg dksX10_then_3 24 rfl rfl
theorem dX10_then_0 : decode cX10_then 0 = .ok (.aload_n 0, 1) := dk_42 (dk_at dksX10_then_0 0 rfl rfl)
theorem dX10_then_1 : decode cX10_then 1 = .ok (.iload_n 1, 1) := dk_27 (dk_at dksX10_then_0 1 rfl rfl)
theorem dX10_then_2 : decode cX10_then 2 = .ok (.invokevirtual 412, 3) := dk_182 1 156 (dk_at dksX10_then_0 2 rfl rfl)
theorem dX10_then_5 : decode cX10_then 5 = .ok (.ifCond .eq 19, 3) := dk_153 0 19 (dk_at dksX10_then_0 5 rfl rfl)
theorem dX10_then_8 : decode cX10_then 8 = .ok (.iload_n 2, 1) := dk_28 (dk_at dksX10_then_0 8 rfl rfl)
theorem dX10_then_9 : decode cX10_then 9 = .ok (.invokestatic 440, 3) := dk_184 1 184 (dk_at dksX10_then_0 9 rfl rfl)
theorem dX10_then_12 : decode cX10_then 12 = .ok (.ifCond .eq 12, 3) := dk_153 0 12 (dk_at dksX10_then_0 12 rfl rfl)
theorem dX10_then_15 : decode cX10_then 15 = .ok (.iload_n 3, 1) := dk_29 (dk_at dksX10_then_0 15 rfl rfl)
theorem dX10_then_16 : decode cX10_then 16 = .ok (.iconst 0, 1) := dk_3 (dk_at dksX10_then_0 16 rfl rfl)
theorem dX10_then_17 : decode cX10_then 17 = .ok (.iconst 3, 1) := dk_6 (dk_at dksX10_then_0 17 rfl rfl)
theorem dX10_then_18 : decode cX10_then 18 = .ok (.invokestatic 334, 3) := dk_184 1 78 (dk_at dksX10_then_0 18 rfl rfl)
theorem dX10_then_21 : decode cX10_then 21 = .ok (.ifCond .ne 5, 3) := dk_154 0 5 (dk_at dksX10_then_0 21 rfl rfl)
theorem dX10_then_24 : decode cX10_then 24 = .ok (.iconst (-1), 1) := dk_2 (dk_at dksX10_then_1 0 rfl rfl)
theorem dX10_then_25 : decode cX10_then 25 = .ok (.ireturn, 1) := dk_172 (dk_at dksX10_then_1 1 rfl rfl)
theorem dX10_then_26 : decode cX10_then 26 = .ok (.aload_n 0, 1) := dk_42 (dk_at dksX10_then_1 2 rfl rfl)
theorem dX10_then_27 : decode cX10_then 27 = .ok (.invokevirtual 400, 3) := dk_182 1 144 (dk_at dksX10_then_1 3 rfl rfl)
theorem dX10_then_30 : decode cX10_then 30 = .ok (.aload_n 0, 1) := dk_42 (dk_at dksX10_then_1 6 rfl rfl)
theorem dX10_then_31 : decode cX10_then 31 = .ok (.iload_n 2, 1) := dk_28 (dk_at dksX10_then_1 7 rfl rfl)
theorem dX10_then_32 : decode cX10_then 32 = .ok (.invokevirtual 422, 3) := dk_182 1 166 (dk_at dksX10_then_1 8 rfl rfl)
theorem dX10_then_35 : decode cX10_then 35 = .ok (.iload_n 3, 1) := dk_29 (dk_at dksX10_then_1 11 rfl rfl)
theorem dX10_then_36 : decode cX10_then 36 = .ok (.tableswitch 58 0 2 #[28, 38, 48], 28) := by decide +kernel
theorem dX10_then_64 : decode cX10_then 64 = .ok (.aload_n 0, 1) := dk_42 (dk_at dksX10_then_3 0 rfl rfl)
theorem dX10_then_65 : decode cX10_then 65 = .ok (.getfield 137, 3) := dk_180 0 137 (dk_at dksX10_then_3 1 rfl rfl)
theorem dX10_then_68 : decode cX10_then 68 = .ok (.bipush 15, 2) := dk_16 15 (dk_at dksX10_then_3 4 rfl rfl)
theorem dX10_then_70 : decode cX10_then 70 = .ok (.iload_n 1, 1) := dk_27 (dk_at dksX10_then_3 6 rfl rfl)
theorem dX10_then_71 : decode cX10_then 71 = .ok (.iadd, 1) := dk_96 (dk_at dksX10_then_3 7 rfl rfl)
theorem dX10_then_72 : decode cX10_then 72 = .ok (.iaload, 1) := dk_46 (dk_at dksX10_then_3 8 rfl rfl)
theorem dX10_then_73 : decode cX10_then 73 = .ok (.ireturn, 1) := dk_172 (dk_at dksX10_then_3 9 rfl rfl)
theorem dX10_then_74 : decode cX10_then 74 = .ok (.aload_n 0, 1) := dk_42 (dk_at dksX10_then_3 10 rfl rfl)
theorem dX10_then_75 : decode cX10_then 75 = .ok (.getfield 137, 3) := dk_180 0 137 (dk_at dksX10_then_3 11 rfl rfl)
theorem dX10_then_78 : decode cX10_then 78 = .ok (.bipush 23, 2) := dk_16 23 (dk_at dksX10_then_3 14 rfl rfl)
theorem dX10_then_80 : decode cX10_then 80 = .ok (.iload_n 1, 1) := dk_27 (dk_at dksX10_then_3 16 rfl rfl)
theorem dX10_then_81 : decode cX10_then 81 = .ok (.iadd, 1) := dk_96 (dk_at dksX10_then_3 17 rfl rfl)
theorem dX10_then_82 : decode cX10_then 82 = .ok (.iaload, 1) := dk_46 (dk_at dksX10_then_3 18 rfl rfl)
theorem dX10_then_83 : decode cX10_then 83 = .ok (.ireturn, 1) := dk_172 (dk_at dksX10_then_3 19 rfl rfl)
theorem dX10_then_84 : decode cX10_then 84 = .ok (.aload_n 0, 1) := dk_42 (dk_at dksX10_then_3 20 rfl rfl)
theorem dX10_then_85 : decode cX10_then 85 = .ok (.getfield 137, 3) := dk_180 0 137 (dk_at dksX10_then_3 21 rfl rfl)
theorem dX10_then_88 : decode cX10_then 88 = .ok (.bipush 27, 2) := dk_16 27 (dk_at dksX10_then_4 0 rfl rfl)
theorem dX10_then_90 : decode cX10_then 90 = .ok (.iload_n 1, 1) := dk_27 (dk_at dksX10_then_4 2 rfl rfl)
theorem dX10_then_91 : decode cX10_then 91 = .ok (.iadd, 1) := dk_96 (dk_at dksX10_then_4 3 rfl rfl)
theorem dX10_then_92 : decode cX10_then 92 = .ok (.iaload, 1) := dk_46 (dk_at dksX10_then_4 4 rfl rfl)
theorem dX10_then_93 : decode cX10_then 93 = .ok (.ireturn, 1) := dk_172 (dk_at dksX10_then_4 5 rfl rfl)
theorem dX10_then_94 : decode cX10_then 94 = .ok (.aload_n 0, 1) := dk_42 (dk_at dksX10_then_4 6 rfl rfl)
theorem dX10_then_95 : decode cX10_then 95 = .ok (.iload_n 1, 1) := dk_27 (dk_at dksX10_then_4 7 rfl rfl)
theorem dX10_then_96 : decode cX10_then 96 = .ok (.iconst (-1), 1) := dk_2 (dk_at dksX10_then_4 8 rfl rfl)
theorem dX10_then_97 : decode cX10_then 97 = .ok (.invokevirtual 406, 3) := dk_182 1 150 (dk_at dksX10_then_4 9 rfl rfl)
theorem dX10_then_100 : decode cX10_then 100 = .ok (.ireturn, 1) := dk_172 (dk_at dksX10_then_4 12 rfl rfl)
abbrev cX10_isLong : ByteArray := prog_21_method_97_code
def yX10_isLong : MethodName := ⟨RX10, "isLong", "(I)Z"⟩
def dkwX10_isLong_0 : List UInt8 := [26, 3, 17, 5, 160, 184, 1, 78, 172]
abbrev dktX10_isLong_0 : List UInt8 := dkwX10_isLong_0 ++ []
theorem dksX10_isLong_0 : cX10_isLong.data.toList.drop 0 = dktX10_isLong_0 := by decide +kernel
theorem dX10_isLong_0 : decode cX10_isLong 0 = .ok (.iload_n 0, 1) := dk_26 (dk_at dksX10_isLong_0 0 rfl rfl)
theorem dX10_isLong_1 : decode cX10_isLong 1 = .ok (.iconst 0, 1) := dk_3 (dk_at dksX10_isLong_0 1 rfl rfl)
theorem dX10_isLong_2 : decode cX10_isLong 2 = .ok (.sipush 1440, 3) := dk_17 5 160 (dk_at dksX10_isLong_0 2 rfl rfl)
theorem dX10_isLong_5 : decode cX10_isLong 5 = .ok (.invokestatic 334, 3) := dk_184 1 78 (dk_at dksX10_isLong_0 5 rfl rfl)
theorem dX10_isLong_8 : decode cX10_isLong 8 = .ok (.ireturn, 1) := dk_172 (dk_at dksX10_isLong_0 8 rfl rfl)
abbrev cX10_dogIn : ByteArray := prog_21_method_99_code
def yX10_dogIn : MethodName := ⟨RX10, "dogIn", "(II)I"⟩
def dkwX10_dogIn_1 : List UInt8 := [182, 1, 166, 42, 180, 0, 137, 27, 46, 172]
abbrev dktX10_dogIn_1 : List UInt8 := dkwX10_dogIn_1 ++ []
def dkwX10_dogIn_0 : List UInt8 := [42, 27, 182, 1, 153, 153, 0, 10, 28, 184, 1, 184, 154, 0, 5, 2, 172, 42, 182, 1, 144, 42, 28]
abbrev dktX10_dogIn_0 : List UInt8 := dkwX10_dogIn_0 ++ dktX10_dogIn_1
theorem dksX10_dogIn_0 : cX10_dogIn.data.toList.drop 0 = dktX10_dogIn_0 := by decide +kernel
theorem dksX10_dogIn_1 : cX10_dogIn.data.toList.drop 23 = dktX10_dogIn_1 := dk_seg dksX10_dogIn_0 23 rfl rfl
theorem dX10_dogIn_0 : decode cX10_dogIn 0 = .ok (.aload_n 0, 1) := dk_42 (dk_at dksX10_dogIn_0 0 rfl rfl)
theorem dX10_dogIn_1 : decode cX10_dogIn 1 = .ok (.iload_n 1, 1) := dk_27 (dk_at dksX10_dogIn_0 1 rfl rfl)
theorem dX10_dogIn_2 : decode cX10_dogIn 2 = .ok (.invokevirtual 409, 3) := dk_182 1 153 (dk_at dksX10_dogIn_0 2 rfl rfl)
theorem dX10_dogIn_5 : decode cX10_dogIn 5 = .ok (.ifCond .eq 10, 3) := dk_153 0 10 (dk_at dksX10_dogIn_0 5 rfl rfl)
theorem dX10_dogIn_8 : decode cX10_dogIn 8 = .ok (.iload_n 2, 1) := dk_28 (dk_at dksX10_dogIn_0 8 rfl rfl)
theorem dX10_dogIn_9 : decode cX10_dogIn 9 = .ok (.invokestatic 440, 3) := dk_184 1 184 (dk_at dksX10_dogIn_0 9 rfl rfl)
theorem dX10_dogIn_12 : decode cX10_dogIn 12 = .ok (.ifCond .ne 5, 3) := dk_154 0 5 (dk_at dksX10_dogIn_0 12 rfl rfl)
theorem dX10_dogIn_15 : decode cX10_dogIn 15 = .ok (.iconst (-1), 1) := dk_2 (dk_at dksX10_dogIn_0 15 rfl rfl)
theorem dX10_dogIn_16 : decode cX10_dogIn 16 = .ok (.ireturn, 1) := dk_172 (dk_at dksX10_dogIn_0 16 rfl rfl)
theorem dX10_dogIn_17 : decode cX10_dogIn 17 = .ok (.aload_n 0, 1) := dk_42 (dk_at dksX10_dogIn_0 17 rfl rfl)
theorem dX10_dogIn_18 : decode cX10_dogIn 18 = .ok (.invokevirtual 400, 3) := dk_182 1 144 (dk_at dksX10_dogIn_0 18 rfl rfl)
theorem dX10_dogIn_21 : decode cX10_dogIn 21 = .ok (.aload_n 0, 1) := dk_42 (dk_at dksX10_dogIn_0 21 rfl rfl)
theorem dX10_dogIn_22 : decode cX10_dogIn 22 = .ok (.iload_n 2, 1) := dk_28 (dk_at dksX10_dogIn_0 22 rfl rfl)
theorem dX10_dogIn_23 : decode cX10_dogIn 23 = .ok (.invokevirtual 422, 3) := dk_182 1 166 (dk_at dksX10_dogIn_1 0 rfl rfl)
theorem dX10_dogIn_26 : decode cX10_dogIn 26 = .ok (.aload_n 0, 1) := dk_42 (dk_at dksX10_dogIn_1 3 rfl rfl)
theorem dX10_dogIn_27 : decode cX10_dogIn 27 = .ok (.getfield 137, 3) := dk_180 0 137 (dk_at dksX10_dogIn_1 4 rfl rfl)
theorem dX10_dogIn_30 : decode cX10_dogIn 30 = .ok (.iload_n 1, 1) := dk_27 (dk_at dksX10_dogIn_1 7 rfl rfl)
theorem dX10_dogIn_31 : decode cX10_dogIn 31 = .ok (.iaload, 1) := dk_46 (dk_at dksX10_dogIn_1 8 rfl rfl)
theorem dX10_dogIn_32 : decode cX10_dogIn 32 = .ok (.ireturn, 1) := dk_172 (dk_at dksX10_dogIn_1 9 rfl rfl)
abbrev cX10_first : ByteArray := prog_21_method_100_code
def yX10_first : MethodName := ⟨RX10, "first", "(I)I"⟩
def dkwX10_first_4 : List UInt8 := [167, 255, 178, 16, 254, 172]
abbrev dktX10_first_4 : List UInt8 := dkwX10_first_4 ++ []
def dkwX10_first_3 : List UInt8 := [96, 46, 164, 0, 13, 27, 154, 0, 7, 29, 167, 0, 4, 28, 172, 132, 3, 1, 167, 255, 197, 132, 2, 1]
abbrev dktX10_first_3 : List UInt8 := dkwX10_first_3 ++ dktX10_first_4
def dkwX10_first_2 : List UInt8 := [16, 27, 29, 96, 46, 154, 0, 34, 42, 180, 0, 137, 16, 31, 29, 96, 46, 42, 180, 0, 134, 16, 31, 29]
abbrev dktX10_first_2 : List UInt8 := dkwX10_first_2 ++ dktX10_first_3
def dkwX10_first_1 : List UInt8 := [42, 182, 1, 138, 3, 62, 29, 42, 180, 0, 67, 42, 180, 0, 242, 46, 162, 0, 52, 42, 180, 0, 134]
abbrev dktX10_first_1 : List UInt8 := dkwX10_first_1 ++ dktX10_first_2
def dkwX10_first_0 : List UInt8 := [27, 3, 4, 184, 1, 78, 154, 0, 5, 2, 172, 42, 182, 1, 144, 4, 61, 28, 17, 5, 160, 163, 0, 77]
abbrev dktX10_first_0 : List UInt8 := dkwX10_first_0 ++ dktX10_first_1
theorem dksX10_first_0 : cX10_first.data.toList.drop 0 = dktX10_first_0 := by decide +kernel
theorem dksX10_first_1 : cX10_first.data.toList.drop 24 = dktX10_first_1 := dk_seg dksX10_first_0 24 rfl rfl
theorem dksX10_first_2 : cX10_first.data.toList.drop 47 = dktX10_first_2 := dk_seg dksX10_first_1 23 rfl rfl
theorem dksX10_first_3 : cX10_first.data.toList.drop 71 = dktX10_first_3 := dk_seg dksX10_first_2 24 rfl rfl
theorem dksX10_first_4 : cX10_first.data.toList.drop 95 = dktX10_first_4 := dk_seg dksX10_first_3 24 rfl rfl
theorem dX10_first_0 : decode cX10_first 0 = .ok (.iload_n 1, 1) := dk_27 (dk_at dksX10_first_0 0 rfl rfl)
theorem dX10_first_1 : decode cX10_first 1 = .ok (.iconst 0, 1) := dk_3 (dk_at dksX10_first_0 1 rfl rfl)
theorem dX10_first_2 : decode cX10_first 2 = .ok (.iconst 1, 1) := dk_4 (dk_at dksX10_first_0 2 rfl rfl)
theorem dX10_first_3 : decode cX10_first 3 = .ok (.invokestatic 334, 3) := dk_184 1 78 (dk_at dksX10_first_0 3 rfl rfl)
theorem dX10_first_6 : decode cX10_first 6 = .ok (.ifCond .ne 5, 3) := dk_154 0 5 (dk_at dksX10_first_0 6 rfl rfl)
theorem dX10_first_9 : decode cX10_first 9 = .ok (.iconst (-1), 1) := dk_2 (dk_at dksX10_first_0 9 rfl rfl)
theorem dX10_first_10 : decode cX10_first 10 = .ok (.ireturn, 1) := dk_172 (dk_at dksX10_first_0 10 rfl rfl)
theorem dX10_first_11 : decode cX10_first 11 = .ok (.aload_n 0, 1) := dk_42 (dk_at dksX10_first_0 11 rfl rfl)
theorem dX10_first_12 : decode cX10_first 12 = .ok (.invokevirtual 400, 3) := dk_182 1 144 (dk_at dksX10_first_0 12 rfl rfl)
theorem dX10_first_15 : decode cX10_first 15 = .ok (.iconst 1, 1) := dk_4 (dk_at dksX10_first_0 15 rfl rfl)
theorem dX10_first_16 : decode cX10_first 16 = .ok (.istore_n 2, 1) := dk_61 (dk_at dksX10_first_0 16 rfl rfl)
theorem dX10_first_17 : decode cX10_first 17 = .ok (.iload_n 2, 1) := dk_28 (dk_at dksX10_first_0 17 rfl rfl)
theorem dX10_first_18 : decode cX10_first 18 = .ok (.sipush 1440, 3) := dk_17 5 160 (dk_at dksX10_first_0 18 rfl rfl)
theorem dX10_first_21 : decode cX10_first 21 = .ok (.if_icmp .gt 77, 3) := dk_163 0 77 (dk_at dksX10_first_0 21 rfl rfl)
theorem dX10_first_24 : decode cX10_first 24 = .ok (.aload_n 0, 1) := dk_42 (dk_at dksX10_first_1 0 rfl rfl)
theorem dX10_first_25 : decode cX10_first 25 = .ok (.invokevirtual 394, 3) := dk_182 1 138 (dk_at dksX10_first_1 1 rfl rfl)
theorem dX10_first_28 : decode cX10_first 28 = .ok (.iconst 0, 1) := dk_3 (dk_at dksX10_first_1 4 rfl rfl)
theorem dX10_first_29 : decode cX10_first 29 = .ok (.istore_n 3, 1) := dk_62 (dk_at dksX10_first_1 5 rfl rfl)
theorem dX10_first_30 : decode cX10_first 30 = .ok (.iload_n 3, 1) := dk_29 (dk_at dksX10_first_1 6 rfl rfl)
theorem dX10_first_31 : decode cX10_first 31 = .ok (.aload_n 0, 1) := dk_42 (dk_at dksX10_first_1 7 rfl rfl)
theorem dX10_first_32 : decode cX10_first 32 = .ok (.getfield 67, 3) := dk_180 0 67 (dk_at dksX10_first_1 8 rfl rfl)
theorem dX10_first_35 : decode cX10_first 35 = .ok (.aload_n 0, 1) := dk_42 (dk_at dksX10_first_1 11 rfl rfl)
theorem dX10_first_36 : decode cX10_first 36 = .ok (.getfield 242, 3) := dk_180 0 242 (dk_at dksX10_first_1 12 rfl rfl)
theorem dX10_first_39 : decode cX10_first 39 = .ok (.iaload, 1) := dk_46 (dk_at dksX10_first_1 15 rfl rfl)
theorem dX10_first_40 : decode cX10_first 40 = .ok (.if_icmp .ge 52, 3) := dk_162 0 52 (dk_at dksX10_first_1 16 rfl rfl)
theorem dX10_first_43 : decode cX10_first 43 = .ok (.aload_n 0, 1) := dk_42 (dk_at dksX10_first_1 19 rfl rfl)
theorem dX10_first_44 : decode cX10_first 44 = .ok (.getfield 134, 3) := dk_180 0 134 (dk_at dksX10_first_1 20 rfl rfl)
theorem dX10_first_47 : decode cX10_first 47 = .ok (.bipush 27, 2) := dk_16 27 (dk_at dksX10_first_2 0 rfl rfl)
theorem dX10_first_49 : decode cX10_first 49 = .ok (.iload_n 3, 1) := dk_29 (dk_at dksX10_first_2 2 rfl rfl)
theorem dX10_first_50 : decode cX10_first 50 = .ok (.iadd, 1) := dk_96 (dk_at dksX10_first_2 3 rfl rfl)
theorem dX10_first_51 : decode cX10_first 51 = .ok (.iaload, 1) := dk_46 (dk_at dksX10_first_2 4 rfl rfl)
theorem dX10_first_52 : decode cX10_first 52 = .ok (.ifCond .ne 34, 3) := dk_154 0 34 (dk_at dksX10_first_2 5 rfl rfl)
theorem dX10_first_55 : decode cX10_first 55 = .ok (.aload_n 0, 1) := dk_42 (dk_at dksX10_first_2 8 rfl rfl)
theorem dX10_first_56 : decode cX10_first 56 = .ok (.getfield 137, 3) := dk_180 0 137 (dk_at dksX10_first_2 9 rfl rfl)
theorem dX10_first_59 : decode cX10_first 59 = .ok (.bipush 31, 2) := dk_16 31 (dk_at dksX10_first_2 12 rfl rfl)
theorem dX10_first_61 : decode cX10_first 61 = .ok (.iload_n 3, 1) := dk_29 (dk_at dksX10_first_2 14 rfl rfl)
theorem dX10_first_62 : decode cX10_first 62 = .ok (.iadd, 1) := dk_96 (dk_at dksX10_first_2 15 rfl rfl)
theorem dX10_first_63 : decode cX10_first 63 = .ok (.iaload, 1) := dk_46 (dk_at dksX10_first_2 16 rfl rfl)
theorem dX10_first_64 : decode cX10_first 64 = .ok (.aload_n 0, 1) := dk_42 (dk_at dksX10_first_2 17 rfl rfl)
theorem dX10_first_65 : decode cX10_first 65 = .ok (.getfield 134, 3) := dk_180 0 134 (dk_at dksX10_first_2 18 rfl rfl)
theorem dX10_first_68 : decode cX10_first 68 = .ok (.bipush 31, 2) := dk_16 31 (dk_at dksX10_first_2 21 rfl rfl)
theorem dX10_first_70 : decode cX10_first 70 = .ok (.iload_n 3, 1) := dk_29 (dk_at dksX10_first_2 23 rfl rfl)
theorem dX10_first_71 : decode cX10_first 71 = .ok (.iadd, 1) := dk_96 (dk_at dksX10_first_3 0 rfl rfl)
theorem dX10_first_72 : decode cX10_first 72 = .ok (.iaload, 1) := dk_46 (dk_at dksX10_first_3 1 rfl rfl)
theorem dX10_first_73 : decode cX10_first 73 = .ok (.if_icmp .le 13, 3) := dk_164 0 13 (dk_at dksX10_first_3 2 rfl rfl)
theorem dX10_first_76 : decode cX10_first 76 = .ok (.iload_n 1, 1) := dk_27 (dk_at dksX10_first_3 5 rfl rfl)
theorem dX10_first_77 : decode cX10_first 77 = .ok (.ifCond .ne 7, 3) := dk_154 0 7 (dk_at dksX10_first_3 6 rfl rfl)
theorem dX10_first_80 : decode cX10_first 80 = .ok (.iload_n 3, 1) := dk_29 (dk_at dksX10_first_3 9 rfl rfl)
theorem dX10_first_81 : decode cX10_first 81 = .ok (.goto 4, 3) := dk_167 0 4 (dk_at dksX10_first_3 10 rfl rfl)
theorem dX10_first_84 : decode cX10_first 84 = .ok (.iload_n 2, 1) := dk_28 (dk_at dksX10_first_3 13 rfl rfl)
theorem dX10_first_85 : decode cX10_first 85 = .ok (.ireturn, 1) := dk_172 (dk_at dksX10_first_3 14 rfl rfl)
theorem dX10_first_86 : decode cX10_first 86 = .ok (.iinc 3 1, 3) := dk_132 3 1 (dk_at dksX10_first_3 15 rfl rfl)
theorem dX10_first_89 : decode cX10_first 89 = .ok (.goto (-59), 3) := dk_167 255 197 (dk_at dksX10_first_3 18 rfl rfl)
theorem dX10_first_92 : decode cX10_first 92 = .ok (.iinc 2 1, 3) := dk_132 2 1 (dk_at dksX10_first_3 21 rfl rfl)
theorem dX10_first_95 : decode cX10_first 95 = .ok (.goto (-78), 3) := dk_167 255 178 (dk_at dksX10_first_4 0 rfl rfl)
theorem dX10_first_98 : decode cX10_first 98 = .ok (.bipush (-2), 2) := dk_16 254 (dk_at dksX10_first_4 3 rfl rfl)
theorem dX10_first_100 : decode cX10_first 100 = .ok (.ireturn, 1) := dk_172 (dk_at dksX10_first_4 5 rfl rfl)
abbrev cX10_tell : ByteArray := prog_21_method_101_code
def yX10_tell : MethodName := ⟨RX10, "tell", "(IZ)I"⟩
def dkwX10_tell_2 : List UInt8 := [181, 1, 10, 42, 180, 1, 10, 4, 100, 172]
abbrev dktX10_tell_2 : List UInt8 := dkwX10_tell_2 ++ []
def dkwX10_tell_1 : List UInt8 := [180, 1, 10, 27, 79, 42, 180, 0, 149, 42, 180, 1, 10, 28, 84, 42, 89, 180, 1, 10, 4, 96]
abbrev dktX10_tell_1 : List UInt8 := dkwX10_tell_1 ++ dktX10_tell_2
def dkwX10_tell_0 : List UInt8 := [42, 180, 1, 10, 16, 20, 159, 0, 11, 42, 27, 182, 1, 156, 154, 0, 5, 2, 172, 42, 180, 0, 146, 42]
abbrev dktX10_tell_0 : List UInt8 := dkwX10_tell_0 ++ dktX10_tell_1
theorem dksX10_tell_0 : cX10_tell.data.toList.drop 0 = dktX10_tell_0 := by decide +kernel
theorem dksX10_tell_1 : cX10_tell.data.toList.drop 24 = dktX10_tell_1 := dk_seg dksX10_tell_0 24 rfl rfl
theorem dksX10_tell_2 : cX10_tell.data.toList.drop 46 = dktX10_tell_2 := dk_seg dksX10_tell_1 22 rfl rfl
theorem dX10_tell_0 : decode cX10_tell 0 = .ok (.aload_n 0, 1) := dk_42 (dk_at dksX10_tell_0 0 rfl rfl)
theorem dX10_tell_1 : decode cX10_tell 1 = .ok (.getfield 266, 3) := dk_180 1 10 (dk_at dksX10_tell_0 1 rfl rfl)
theorem dX10_tell_4 : decode cX10_tell 4 = .ok (.bipush 20, 2) := dk_16 20 (dk_at dksX10_tell_0 4 rfl rfl)
theorem dX10_tell_6 : decode cX10_tell 6 = .ok (.if_icmp .eq 11, 3) := dk_159 0 11 (dk_at dksX10_tell_0 6 rfl rfl)
theorem dX10_tell_9 : decode cX10_tell 9 = .ok (.aload_n 0, 1) := dk_42 (dk_at dksX10_tell_0 9 rfl rfl)
theorem dX10_tell_10 : decode cX10_tell 10 = .ok (.iload_n 1, 1) := dk_27 (dk_at dksX10_tell_0 10 rfl rfl)
theorem dX10_tell_11 : decode cX10_tell 11 = .ok (.invokevirtual 412, 3) := dk_182 1 156 (dk_at dksX10_tell_0 11 rfl rfl)
theorem dX10_tell_14 : decode cX10_tell 14 = .ok (.ifCond .ne 5, 3) := dk_154 0 5 (dk_at dksX10_tell_0 14 rfl rfl)
theorem dX10_tell_17 : decode cX10_tell 17 = .ok (.iconst (-1), 1) := dk_2 (dk_at dksX10_tell_0 17 rfl rfl)
theorem dX10_tell_18 : decode cX10_tell 18 = .ok (.ireturn, 1) := dk_172 (dk_at dksX10_tell_0 18 rfl rfl)
theorem dX10_tell_19 : decode cX10_tell 19 = .ok (.aload_n 0, 1) := dk_42 (dk_at dksX10_tell_0 19 rfl rfl)
theorem dX10_tell_20 : decode cX10_tell 20 = .ok (.getfield 146, 3) := dk_180 0 146 (dk_at dksX10_tell_0 20 rfl rfl)
theorem dX10_tell_23 : decode cX10_tell 23 = .ok (.aload_n 0, 1) := dk_42 (dk_at dksX10_tell_0 23 rfl rfl)
theorem dX10_tell_24 : decode cX10_tell 24 = .ok (.getfield 266, 3) := dk_180 1 10 (dk_at dksX10_tell_1 0 rfl rfl)
theorem dX10_tell_27 : decode cX10_tell 27 = .ok (.iload_n 1, 1) := dk_27 (dk_at dksX10_tell_1 3 rfl rfl)
theorem dX10_tell_28 : decode cX10_tell 28 = .ok (.iastore, 1) := dk_79 (dk_at dksX10_tell_1 4 rfl rfl)
theorem dX10_tell_29 : decode cX10_tell 29 = .ok (.aload_n 0, 1) := dk_42 (dk_at dksX10_tell_1 5 rfl rfl)
theorem dX10_tell_30 : decode cX10_tell 30 = .ok (.getfield 149, 3) := dk_180 0 149 (dk_at dksX10_tell_1 6 rfl rfl)
theorem dX10_tell_33 : decode cX10_tell 33 = .ok (.aload_n 0, 1) := dk_42 (dk_at dksX10_tell_1 9 rfl rfl)
theorem dX10_tell_34 : decode cX10_tell 34 = .ok (.getfield 266, 3) := dk_180 1 10 (dk_at dksX10_tell_1 10 rfl rfl)
theorem dX10_tell_37 : decode cX10_tell 37 = .ok (.iload_n 2, 1) := dk_28 (dk_at dksX10_tell_1 13 rfl rfl)
theorem dX10_tell_38 : decode cX10_tell 38 = .ok (.bastore, 1) := dk_84 (dk_at dksX10_tell_1 14 rfl rfl)
theorem dX10_tell_39 : decode cX10_tell 39 = .ok (.aload_n 0, 1) := dk_42 (dk_at dksX10_tell_1 15 rfl rfl)
theorem dX10_tell_40 : decode cX10_tell 40 = .ok (.dup, 1) := dk_89 (dk_at dksX10_tell_1 16 rfl rfl)
theorem dX10_tell_41 : decode cX10_tell 41 = .ok (.getfield 266, 3) := dk_180 1 10 (dk_at dksX10_tell_1 17 rfl rfl)
theorem dX10_tell_44 : decode cX10_tell 44 = .ok (.iconst 1, 1) := dk_4 (dk_at dksX10_tell_1 20 rfl rfl)
theorem dX10_tell_45 : decode cX10_tell 45 = .ok (.iadd, 1) := dk_96 (dk_at dksX10_tell_1 21 rfl rfl)
theorem dX10_tell_46 : decode cX10_tell 46 = .ok (.putfield 266, 3) := dk_181 1 10 (dk_at dksX10_tell_2 0 rfl rfl)
theorem dX10_tell_49 : decode cX10_tell 49 = .ok (.aload_n 0, 1) := dk_42 (dk_at dksX10_tell_2 3 rfl rfl)
theorem dX10_tell_50 : decode cX10_tell 50 = .ok (.getfield 266, 3) := dk_180 1 10 (dk_at dksX10_tell_2 4 rfl rfl)
theorem dX10_tell_53 : decode cX10_tell 53 = .ok (.iconst 1, 1) := dk_4 (dk_at dksX10_tell_2 7 rfl rfl)
theorem dX10_tell_54 : decode cX10_tell 54 = .ok (.isub, 1) := dk_100 (dk_at dksX10_tell_2 8 rfl rfl)
theorem dX10_tell_55 : decode cX10_tell 55 = .ok (.ireturn, 1) := dk_172 (dk_at dksX10_tell_2 9 rfl rfl)
abbrev cX10_forget : ByteArray := prog_21_method_102_code
def yX10_forget : MethodName := ⟨RX10, "forget", "()I"⟩
def dkwX10_forget_0 : List UInt8 := [42, 180, 1, 10, 60, 42, 3, 181, 1, 10, 27, 172]
abbrev dktX10_forget_0 : List UInt8 := dkwX10_forget_0 ++ []
theorem dksX10_forget_0 : cX10_forget.data.toList.drop 0 = dktX10_forget_0 := by decide +kernel
theorem dX10_forget_0 : decode cX10_forget 0 = .ok (.aload_n 0, 1) := dk_42 (dk_at dksX10_forget_0 0 rfl rfl)
theorem dX10_forget_1 : decode cX10_forget 1 = .ok (.getfield 266, 3) := dk_180 1 10 (dk_at dksX10_forget_0 1 rfl rfl)
theorem dX10_forget_4 : decode cX10_forget 4 = .ok (.istore_n 1, 1) := dk_60 (dk_at dksX10_forget_0 4 rfl rfl)
theorem dX10_forget_5 : decode cX10_forget 5 = .ok (.aload_n 0, 1) := dk_42 (dk_at dksX10_forget_0 5 rfl rfl)
theorem dX10_forget_6 : decode cX10_forget 6 = .ok (.iconst 0, 1) := dk_3 (dk_at dksX10_forget_0 6 rfl rfl)
theorem dX10_forget_7 : decode cX10_forget 7 = .ok (.putfield 266, 3) := dk_181 1 10 (dk_at dksX10_forget_0 7 rfl rfl)
theorem dX10_forget_10 : decode cX10_forget 10 = .ok (.iload_n 1, 1) := dk_27 (dk_at dksX10_forget_0 10 rfl rfl)
theorem dX10_forget_11 : decode cX10_forget 11 = .ok (.ireturn, 1) := dk_172 (dk_at dksX10_forget_0 11 rfl rfl)
abbrev cX10_kicks : ByteArray := prog_21_method_105_code
def yX10_kicks : MethodName := ⟨RX10, "kicks", "(I)I"⟩
def dkwX10_kicks_2 : List UInt8 := [167, 255, 227, 28, 172]
abbrev dktX10_kicks_2 : List UInt8 := dkwX10_kicks_2 ++ []
def dkwX10_kicks_1 : List UInt8 := [42, 29, 182, 1, 187, 153, 0, 15, 42, 29, 27, 182, 1, 190, 153, 0, 6, 132, 2, 1, 132, 3, 1]
abbrev dktX10_kicks_1 : List UInt8 := dkwX10_kicks_1 ++ dktX10_kicks_2
def dkwX10_kicks_0 : List UInt8 := [27, 3, 42, 180, 1, 10, 184, 1, 78, 154, 0, 5, 2, 172, 3, 61, 3, 62, 29, 16, 20, 162, 0, 29]
abbrev dktX10_kicks_0 : List UInt8 := dkwX10_kicks_0 ++ dktX10_kicks_1
theorem dksX10_kicks_0 : cX10_kicks.data.toList.drop 0 = dktX10_kicks_0 := by decide +kernel
theorem dksX10_kicks_1 : cX10_kicks.data.toList.drop 24 = dktX10_kicks_1 := dk_seg dksX10_kicks_0 24 rfl rfl
theorem dksX10_kicks_2 : cX10_kicks.data.toList.drop 47 = dktX10_kicks_2 := dk_seg dksX10_kicks_1 23 rfl rfl
theorem dX10_kicks_0 : decode cX10_kicks 0 = .ok (.iload_n 1, 1) := dk_27 (dk_at dksX10_kicks_0 0 rfl rfl)
theorem dX10_kicks_1 : decode cX10_kicks 1 = .ok (.iconst 0, 1) := dk_3 (dk_at dksX10_kicks_0 1 rfl rfl)
theorem dX10_kicks_2 : decode cX10_kicks 2 = .ok (.aload_n 0, 1) := dk_42 (dk_at dksX10_kicks_0 2 rfl rfl)
theorem dX10_kicks_3 : decode cX10_kicks 3 = .ok (.getfield 266, 3) := dk_180 1 10 (dk_at dksX10_kicks_0 3 rfl rfl)
theorem dX10_kicks_6 : decode cX10_kicks 6 = .ok (.invokestatic 334, 3) := dk_184 1 78 (dk_at dksX10_kicks_0 6 rfl rfl)
theorem dX10_kicks_9 : decode cX10_kicks 9 = .ok (.ifCond .ne 5, 3) := dk_154 0 5 (dk_at dksX10_kicks_0 9 rfl rfl)
theorem dX10_kicks_12 : decode cX10_kicks 12 = .ok (.iconst (-1), 1) := dk_2 (dk_at dksX10_kicks_0 12 rfl rfl)
theorem dX10_kicks_13 : decode cX10_kicks 13 = .ok (.ireturn, 1) := dk_172 (dk_at dksX10_kicks_0 13 rfl rfl)
theorem dX10_kicks_14 : decode cX10_kicks 14 = .ok (.iconst 0, 1) := dk_3 (dk_at dksX10_kicks_0 14 rfl rfl)
theorem dX10_kicks_15 : decode cX10_kicks 15 = .ok (.istore_n 2, 1) := dk_61 (dk_at dksX10_kicks_0 15 rfl rfl)
theorem dX10_kicks_16 : decode cX10_kicks 16 = .ok (.iconst 0, 1) := dk_3 (dk_at dksX10_kicks_0 16 rfl rfl)
theorem dX10_kicks_17 : decode cX10_kicks 17 = .ok (.istore_n 3, 1) := dk_62 (dk_at dksX10_kicks_0 17 rfl rfl)
theorem dX10_kicks_18 : decode cX10_kicks 18 = .ok (.iload_n 3, 1) := dk_29 (dk_at dksX10_kicks_0 18 rfl rfl)
theorem dX10_kicks_19 : decode cX10_kicks 19 = .ok (.bipush 20, 2) := dk_16 20 (dk_at dksX10_kicks_0 19 rfl rfl)
theorem dX10_kicks_21 : decode cX10_kicks 21 = .ok (.if_icmp .ge 29, 3) := dk_162 0 29 (dk_at dksX10_kicks_0 21 rfl rfl)
theorem dX10_kicks_24 : decode cX10_kicks 24 = .ok (.aload_n 0, 1) := dk_42 (dk_at dksX10_kicks_1 0 rfl rfl)
theorem dX10_kicks_25 : decode cX10_kicks 25 = .ok (.iload_n 3, 1) := dk_29 (dk_at dksX10_kicks_1 1 rfl rfl)
theorem dX10_kicks_26 : decode cX10_kicks 26 = .ok (.invokevirtual 443, 3) := dk_182 1 187 (dk_at dksX10_kicks_1 2 rfl rfl)
theorem dX10_kicks_29 : decode cX10_kicks 29 = .ok (.ifCond .eq 15, 3) := dk_153 0 15 (dk_at dksX10_kicks_1 5 rfl rfl)
theorem dX10_kicks_32 : decode cX10_kicks 32 = .ok (.aload_n 0, 1) := dk_42 (dk_at dksX10_kicks_1 8 rfl rfl)
theorem dX10_kicks_33 : decode cX10_kicks 33 = .ok (.iload_n 3, 1) := dk_29 (dk_at dksX10_kicks_1 9 rfl rfl)
theorem dX10_kicks_34 : decode cX10_kicks 34 = .ok (.iload_n 1, 1) := dk_27 (dk_at dksX10_kicks_1 10 rfl rfl)
theorem dX10_kicks_35 : decode cX10_kicks 35 = .ok (.invokevirtual 446, 3) := dk_182 1 190 (dk_at dksX10_kicks_1 11 rfl rfl)
theorem dX10_kicks_38 : decode cX10_kicks 38 = .ok (.ifCond .eq 6, 3) := dk_153 0 6 (dk_at dksX10_kicks_1 14 rfl rfl)
theorem dX10_kicks_41 : decode cX10_kicks 41 = .ok (.iinc 2 1, 3) := dk_132 2 1 (dk_at dksX10_kicks_1 17 rfl rfl)
theorem dX10_kicks_44 : decode cX10_kicks 44 = .ok (.iinc 3 1, 3) := dk_132 3 1 (dk_at dksX10_kicks_1 20 rfl rfl)
theorem dX10_kicks_47 : decode cX10_kicks 47 = .ok (.goto (-29), 3) := dk_167 255 227 (dk_at dksX10_kicks_2 0 rfl rfl)
theorem dX10_kicks_50 : decode cX10_kicks 50 = .ok (.iload_n 2, 1) := dk_28 (dk_at dksX10_kicks_2 3 rfl rfl)
theorem dX10_kicks_51 : decode cX10_kicks 51 = .ok (.ireturn, 1) := dk_172 (dk_at dksX10_kicks_2 4 rfl rfl)
abbrev cX10_isPair : ByteArray := prog_21_method_104_code
def yX10_isPair : MethodName := ⟨RX10, "isPair", "(I)Z"⟩
def dkwX10_isPair_1 : List UInt8 := [3, 172]
abbrev dktX10_isPair_1 : List UInt8 := dkwX10_isPair_1 ++ []
def dkwX10_isPair_0 : List UInt8 := [42, 27, 7, 108, 182, 1, 153, 153, 0, 17, 42, 27, 7, 112, 182, 1, 156, 153, 0, 7, 4, 167, 0, 4]
abbrev dktX10_isPair_0 : List UInt8 := dkwX10_isPair_0 ++ dktX10_isPair_1
theorem dksX10_isPair_0 : cX10_isPair.data.toList.drop 0 = dktX10_isPair_0 := by decide +kernel
theorem dksX10_isPair_1 : cX10_isPair.data.toList.drop 24 = dktX10_isPair_1 := dk_seg dksX10_isPair_0 24 rfl rfl
theorem dX10_isPair_0 : decode cX10_isPair 0 = .ok (.aload_n 0, 1) := dk_42 (dk_at dksX10_isPair_0 0 rfl rfl)
theorem dX10_isPair_1 : decode cX10_isPair 1 = .ok (.iload_n 1, 1) := dk_27 (dk_at dksX10_isPair_0 1 rfl rfl)
theorem dX10_isPair_2 : decode cX10_isPair 2 = .ok (.iconst 4, 1) := dk_7 (dk_at dksX10_isPair_0 2 rfl rfl)
theorem dX10_isPair_3 : decode cX10_isPair 3 = .ok (.idiv, 1) := dk_108 (dk_at dksX10_isPair_0 3 rfl rfl)
theorem dX10_isPair_4 : decode cX10_isPair 4 = .ok (.invokevirtual 409, 3) := dk_182 1 153 (dk_at dksX10_isPair_0 4 rfl rfl)
theorem dX10_isPair_7 : decode cX10_isPair 7 = .ok (.ifCond .eq 17, 3) := dk_153 0 17 (dk_at dksX10_isPair_0 7 rfl rfl)
theorem dX10_isPair_10 : decode cX10_isPair 10 = .ok (.aload_n 0, 1) := dk_42 (dk_at dksX10_isPair_0 10 rfl rfl)
theorem dX10_isPair_11 : decode cX10_isPair 11 = .ok (.iload_n 1, 1) := dk_27 (dk_at dksX10_isPair_0 11 rfl rfl)
theorem dX10_isPair_12 : decode cX10_isPair 12 = .ok (.iconst 4, 1) := dk_7 (dk_at dksX10_isPair_0 12 rfl rfl)
theorem dX10_isPair_13 : decode cX10_isPair 13 = .ok (.irem, 1) := dk_112 (dk_at dksX10_isPair_0 13 rfl rfl)
theorem dX10_isPair_14 : decode cX10_isPair 14 = .ok (.invokevirtual 412, 3) := dk_182 1 156 (dk_at dksX10_isPair_0 14 rfl rfl)
theorem dX10_isPair_17 : decode cX10_isPair 17 = .ok (.ifCond .eq 7, 3) := dk_153 0 7 (dk_at dksX10_isPair_0 17 rfl rfl)
theorem dX10_isPair_20 : decode cX10_isPair 20 = .ok (.iconst 1, 1) := dk_4 (dk_at dksX10_isPair_0 20 rfl rfl)
theorem dX10_isPair_21 : decode cX10_isPair 21 = .ok (.goto 4, 3) := dk_167 0 4 (dk_at dksX10_isPair_0 21 rfl rfl)
theorem dX10_isPair_24 : decode cX10_isPair 24 = .ok (.iconst 0, 1) := dk_3 (dk_at dksX10_isPair_1 0 rfl rfl)
theorem dX10_isPair_25 : decode cX10_isPair 25 = .ok (.ireturn, 1) := dk_172 (dk_at dksX10_isPair_1 1 rfl rfl)
abbrev cX10_isSo : ByteArray := prog_21_method_103_code
def yX10_isSo : MethodName := ⟨RX10, "isSo", "(II)Z"⟩
def dkwX10_isSo_3 : List UInt8 := [159, 0, 5, 3, 172, 132, 3, 1, 167, 255, 214, 4, 172]
abbrev dktX10_isSo_3 : List UInt8 := dkwX10_isSo_3 ++ []
def dkwX10_isSo_2 : List UInt8 := [42, 180, 0, 146, 29, 46, 96, 46, 4, 160, 0, 7, 4, 167, 0, 4, 3, 42, 180, 0, 149, 29, 51]
abbrev dktX10_isSo_2 : List UInt8 := dkwX10_isSo_2 ++ dktX10_isSo_3
def dkwX10_isSo_1 : List UInt8 := [17, 3, 231, 184, 1, 100, 79, 42, 182, 1, 175, 3, 62, 29, 28, 162, 0, 43, 42, 180, 0, 137, 16, 27]
abbrev dktX10_isSo_1 : List UInt8 := dkwX10_isSo_1 ++ dktX10_isSo_2
def dkwX10_isSo_0 : List UInt8 := [42, 182, 1, 144, 42, 180, 0, 137, 16, 55, 27, 96, 42, 180, 0, 137, 16, 55, 27, 96, 46, 4, 96, 3]
abbrev dktX10_isSo_0 : List UInt8 := dkwX10_isSo_0 ++ dktX10_isSo_1
theorem dksX10_isSo_0 : cX10_isSo.data.toList.drop 0 = dktX10_isSo_0 := by decide +kernel
theorem dksX10_isSo_1 : cX10_isSo.data.toList.drop 24 = dktX10_isSo_1 := dk_seg dksX10_isSo_0 24 rfl rfl
theorem dksX10_isSo_2 : cX10_isSo.data.toList.drop 48 = dktX10_isSo_2 := dk_seg dksX10_isSo_1 24 rfl rfl
theorem dksX10_isSo_3 : cX10_isSo.data.toList.drop 71 = dktX10_isSo_3 := dk_seg dksX10_isSo_2 23 rfl rfl
theorem dX10_isSo_0 : decode cX10_isSo 0 = .ok (.aload_n 0, 1) := dk_42 (dk_at dksX10_isSo_0 0 rfl rfl)
theorem dX10_isSo_1 : decode cX10_isSo 1 = .ok (.invokevirtual 400, 3) := dk_182 1 144 (dk_at dksX10_isSo_0 1 rfl rfl)
theorem dX10_isSo_4 : decode cX10_isSo 4 = .ok (.aload_n 0, 1) := dk_42 (dk_at dksX10_isSo_0 4 rfl rfl)
theorem dX10_isSo_5 : decode cX10_isSo 5 = .ok (.getfield 137, 3) := dk_180 0 137 (dk_at dksX10_isSo_0 5 rfl rfl)
theorem dX10_isSo_8 : decode cX10_isSo 8 = .ok (.bipush 55, 2) := dk_16 55 (dk_at dksX10_isSo_0 8 rfl rfl)
theorem dX10_isSo_10 : decode cX10_isSo 10 = .ok (.iload_n 1, 1) := dk_27 (dk_at dksX10_isSo_0 10 rfl rfl)
theorem dX10_isSo_11 : decode cX10_isSo 11 = .ok (.iadd, 1) := dk_96 (dk_at dksX10_isSo_0 11 rfl rfl)
theorem dX10_isSo_12 : decode cX10_isSo 12 = .ok (.aload_n 0, 1) := dk_42 (dk_at dksX10_isSo_0 12 rfl rfl)
theorem dX10_isSo_13 : decode cX10_isSo 13 = .ok (.getfield 137, 3) := dk_180 0 137 (dk_at dksX10_isSo_0 13 rfl rfl)
theorem dX10_isSo_16 : decode cX10_isSo 16 = .ok (.bipush 55, 2) := dk_16 55 (dk_at dksX10_isSo_0 16 rfl rfl)
theorem dX10_isSo_18 : decode cX10_isSo 18 = .ok (.iload_n 1, 1) := dk_27 (dk_at dksX10_isSo_0 18 rfl rfl)
theorem dX10_isSo_19 : decode cX10_isSo 19 = .ok (.iadd, 1) := dk_96 (dk_at dksX10_isSo_0 19 rfl rfl)
theorem dX10_isSo_20 : decode cX10_isSo 20 = .ok (.iaload, 1) := dk_46 (dk_at dksX10_isSo_0 20 rfl rfl)
theorem dX10_isSo_21 : decode cX10_isSo 21 = .ok (.iconst 1, 1) := dk_4 (dk_at dksX10_isSo_0 21 rfl rfl)
theorem dX10_isSo_22 : decode cX10_isSo 22 = .ok (.iadd, 1) := dk_96 (dk_at dksX10_isSo_0 22 rfl rfl)
theorem dX10_isSo_23 : decode cX10_isSo 23 = .ok (.iconst 0, 1) := dk_3 (dk_at dksX10_isSo_0 23 rfl rfl)
theorem dX10_isSo_24 : decode cX10_isSo 24 = .ok (.sipush 999, 3) := dk_17 3 231 (dk_at dksX10_isSo_1 0 rfl rfl)
theorem dX10_isSo_27 : decode cX10_isSo 27 = .ok (.invokestatic 356, 3) := dk_184 1 100 (dk_at dksX10_isSo_1 3 rfl rfl)
theorem dX10_isSo_30 : decode cX10_isSo 30 = .ok (.iastore, 1) := dk_79 (dk_at dksX10_isSo_1 6 rfl rfl)
theorem dX10_isSo_31 : decode cX10_isSo 31 = .ok (.aload_n 0, 1) := dk_42 (dk_at dksX10_isSo_1 7 rfl rfl)
theorem dX10_isSo_32 : decode cX10_isSo 32 = .ok (.invokevirtual 431, 3) := dk_182 1 175 (dk_at dksX10_isSo_1 8 rfl rfl)
theorem dX10_isSo_35 : decode cX10_isSo 35 = .ok (.iconst 0, 1) := dk_3 (dk_at dksX10_isSo_1 11 rfl rfl)
theorem dX10_isSo_36 : decode cX10_isSo 36 = .ok (.istore_n 3, 1) := dk_62 (dk_at dksX10_isSo_1 12 rfl rfl)
theorem dX10_isSo_37 : decode cX10_isSo 37 = .ok (.iload_n 3, 1) := dk_29 (dk_at dksX10_isSo_1 13 rfl rfl)
theorem dX10_isSo_38 : decode cX10_isSo 38 = .ok (.iload_n 2, 1) := dk_28 (dk_at dksX10_isSo_1 14 rfl rfl)
theorem dX10_isSo_39 : decode cX10_isSo 39 = .ok (.if_icmp .ge 43, 3) := dk_162 0 43 (dk_at dksX10_isSo_1 15 rfl rfl)
theorem dX10_isSo_42 : decode cX10_isSo 42 = .ok (.aload_n 0, 1) := dk_42 (dk_at dksX10_isSo_1 18 rfl rfl)
theorem dX10_isSo_43 : decode cX10_isSo 43 = .ok (.getfield 137, 3) := dk_180 0 137 (dk_at dksX10_isSo_1 19 rfl rfl)
theorem dX10_isSo_46 : decode cX10_isSo 46 = .ok (.bipush 27, 2) := dk_16 27 (dk_at dksX10_isSo_1 22 rfl rfl)
theorem dX10_isSo_48 : decode cX10_isSo 48 = .ok (.aload_n 0, 1) := dk_42 (dk_at dksX10_isSo_2 0 rfl rfl)
theorem dX10_isSo_49 : decode cX10_isSo 49 = .ok (.getfield 146, 3) := dk_180 0 146 (dk_at dksX10_isSo_2 1 rfl rfl)
theorem dX10_isSo_52 : decode cX10_isSo 52 = .ok (.iload_n 3, 1) := dk_29 (dk_at dksX10_isSo_2 4 rfl rfl)
theorem dX10_isSo_53 : decode cX10_isSo 53 = .ok (.iaload, 1) := dk_46 (dk_at dksX10_isSo_2 5 rfl rfl)
theorem dX10_isSo_54 : decode cX10_isSo 54 = .ok (.iadd, 1) := dk_96 (dk_at dksX10_isSo_2 6 rfl rfl)
theorem dX10_isSo_55 : decode cX10_isSo 55 = .ok (.iaload, 1) := dk_46 (dk_at dksX10_isSo_2 7 rfl rfl)
theorem dX10_isSo_56 : decode cX10_isSo 56 = .ok (.iconst 1, 1) := dk_4 (dk_at dksX10_isSo_2 8 rfl rfl)
theorem dX10_isSo_57 : decode cX10_isSo 57 = .ok (.if_icmp .ne 7, 3) := dk_160 0 7 (dk_at dksX10_isSo_2 9 rfl rfl)
theorem dX10_isSo_60 : decode cX10_isSo 60 = .ok (.iconst 1, 1) := dk_4 (dk_at dksX10_isSo_2 12 rfl rfl)
theorem dX10_isSo_61 : decode cX10_isSo 61 = .ok (.goto 4, 3) := dk_167 0 4 (dk_at dksX10_isSo_2 13 rfl rfl)
theorem dX10_isSo_64 : decode cX10_isSo 64 = .ok (.iconst 0, 1) := dk_3 (dk_at dksX10_isSo_2 16 rfl rfl)
theorem dX10_isSo_65 : decode cX10_isSo 65 = .ok (.aload_n 0, 1) := dk_42 (dk_at dksX10_isSo_2 17 rfl rfl)
theorem dX10_isSo_66 : decode cX10_isSo 66 = .ok (.getfield 149, 3) := dk_180 0 149 (dk_at dksX10_isSo_2 18 rfl rfl)
theorem dX10_isSo_69 : decode cX10_isSo 69 = .ok (.iload_n 3, 1) := dk_29 (dk_at dksX10_isSo_2 21 rfl rfl)
theorem dX10_isSo_70 : decode cX10_isSo 70 = .ok (.baload, 1) := dk_51 (dk_at dksX10_isSo_2 22 rfl rfl)
theorem dX10_isSo_71 : decode cX10_isSo 71 = .ok (.if_icmp .eq 5, 3) := dk_159 0 5 (dk_at dksX10_isSo_3 0 rfl rfl)
theorem dX10_isSo_74 : decode cX10_isSo 74 = .ok (.iconst 0, 1) := dk_3 (dk_at dksX10_isSo_3 3 rfl rfl)
theorem dX10_isSo_75 : decode cX10_isSo 75 = .ok (.ireturn, 1) := dk_172 (dk_at dksX10_isSo_3 4 rfl rfl)
theorem dX10_isSo_76 : decode cX10_isSo 76 = .ok (.iinc 3 1, 3) := dk_132 3 1 (dk_at dksX10_isSo_3 5 rfl rfl)
theorem dX10_isSo_79 : decode cX10_isSo 79 = .ok (.goto (-42), 3) := dk_167 255 214 (dk_at dksX10_isSo_3 8 rfl rfl)
theorem dX10_isSo_82 : decode cX10_isSo 82 = .ok (.iconst 1, 1) := dk_4 (dk_at dksX10_isSo_3 11 rfl rfl)
theorem dX10_isSo_83 : decode cX10_isSo 83 = .ok (.ireturn, 1) := dk_172 (dk_at dksX10_isSo_3 12 rfl rfl)
abbrev cX10_sure : ByteArray := prog_21_method_106_code
def yX10_sure : MethodName := ⟨RX10, "sure", "(I)I"⟩
def dkwX10_sure_3 : List UInt8 := [172]
abbrev dktX10_sure_3 : List UInt8 := dkwX10_sure_3 ++ []
def dkwX10_sure_2 : List UInt8 := [155, 0, 6, 16, 254, 172, 16, 10, 29, 7, 108, 104, 29, 7, 112, 96, 61, 132, 3, 1, 167, 255, 209, 28]
abbrev dktX10_sure_2 : List UInt8 := dkwX10_sure_2 ++ dktX10_sure_3
def dkwX10_sure_1 : List UInt8 := [162, 0, 47, 42, 29, 182, 1, 187, 153, 0, 33, 42, 29, 27, 182, 1, 190, 154, 0, 6, 167, 0, 21, 28]
abbrev dktX10_sure_1 : List UInt8 := dkwX10_sure_1 ++ dktX10_sure_2
def dkwX10_sure_0 : List UInt8 := [27, 3, 42, 180, 1, 10, 184, 1, 78, 154, 0, 5, 2, 172, 16, 254, 61, 3, 62, 29, 16, 20]
abbrev dktX10_sure_0 : List UInt8 := dkwX10_sure_0 ++ dktX10_sure_1
theorem dksX10_sure_0 : cX10_sure.data.toList.drop 0 = dktX10_sure_0 := by decide +kernel
theorem dksX10_sure_1 : cX10_sure.data.toList.drop 22 = dktX10_sure_1 := dk_seg dksX10_sure_0 22 rfl rfl
theorem dksX10_sure_2 : cX10_sure.data.toList.drop 46 = dktX10_sure_2 := dk_seg dksX10_sure_1 24 rfl rfl
theorem dksX10_sure_3 : cX10_sure.data.toList.drop 70 = dktX10_sure_3 := dk_seg dksX10_sure_2 24 rfl rfl
theorem dX10_sure_0 : decode cX10_sure 0 = .ok (.iload_n 1, 1) := dk_27 (dk_at dksX10_sure_0 0 rfl rfl)
theorem dX10_sure_1 : decode cX10_sure 1 = .ok (.iconst 0, 1) := dk_3 (dk_at dksX10_sure_0 1 rfl rfl)
theorem dX10_sure_2 : decode cX10_sure 2 = .ok (.aload_n 0, 1) := dk_42 (dk_at dksX10_sure_0 2 rfl rfl)
theorem dX10_sure_3 : decode cX10_sure 3 = .ok (.getfield 266, 3) := dk_180 1 10 (dk_at dksX10_sure_0 3 rfl rfl)
theorem dX10_sure_6 : decode cX10_sure 6 = .ok (.invokestatic 334, 3) := dk_184 1 78 (dk_at dksX10_sure_0 6 rfl rfl)
theorem dX10_sure_9 : decode cX10_sure 9 = .ok (.ifCond .ne 5, 3) := dk_154 0 5 (dk_at dksX10_sure_0 9 rfl rfl)
theorem dX10_sure_12 : decode cX10_sure 12 = .ok (.iconst (-1), 1) := dk_2 (dk_at dksX10_sure_0 12 rfl rfl)
theorem dX10_sure_13 : decode cX10_sure 13 = .ok (.ireturn, 1) := dk_172 (dk_at dksX10_sure_0 13 rfl rfl)
theorem dX10_sure_14 : decode cX10_sure 14 = .ok (.bipush (-2), 2) := dk_16 254 (dk_at dksX10_sure_0 14 rfl rfl)
theorem dX10_sure_16 : decode cX10_sure 16 = .ok (.istore_n 2, 1) := dk_61 (dk_at dksX10_sure_0 16 rfl rfl)
theorem dX10_sure_17 : decode cX10_sure 17 = .ok (.iconst 0, 1) := dk_3 (dk_at dksX10_sure_0 17 rfl rfl)
theorem dX10_sure_18 : decode cX10_sure 18 = .ok (.istore_n 3, 1) := dk_62 (dk_at dksX10_sure_0 18 rfl rfl)
theorem dX10_sure_19 : decode cX10_sure 19 = .ok (.iload_n 3, 1) := dk_29 (dk_at dksX10_sure_0 19 rfl rfl)
theorem dX10_sure_20 : decode cX10_sure 20 = .ok (.bipush 20, 2) := dk_16 20 (dk_at dksX10_sure_0 20 rfl rfl)
theorem dX10_sure_22 : decode cX10_sure 22 = .ok (.if_icmp .ge 47, 3) := dk_162 0 47 (dk_at dksX10_sure_1 0 rfl rfl)
theorem dX10_sure_25 : decode cX10_sure 25 = .ok (.aload_n 0, 1) := dk_42 (dk_at dksX10_sure_1 3 rfl rfl)
theorem dX10_sure_26 : decode cX10_sure 26 = .ok (.iload_n 3, 1) := dk_29 (dk_at dksX10_sure_1 4 rfl rfl)
theorem dX10_sure_27 : decode cX10_sure 27 = .ok (.invokevirtual 443, 3) := dk_182 1 187 (dk_at dksX10_sure_1 5 rfl rfl)
theorem dX10_sure_30 : decode cX10_sure 30 = .ok (.ifCond .eq 33, 3) := dk_153 0 33 (dk_at dksX10_sure_1 8 rfl rfl)
theorem dX10_sure_33 : decode cX10_sure 33 = .ok (.aload_n 0, 1) := dk_42 (dk_at dksX10_sure_1 11 rfl rfl)
theorem dX10_sure_34 : decode cX10_sure 34 = .ok (.iload_n 3, 1) := dk_29 (dk_at dksX10_sure_1 12 rfl rfl)
theorem dX10_sure_35 : decode cX10_sure 35 = .ok (.iload_n 1, 1) := dk_27 (dk_at dksX10_sure_1 13 rfl rfl)
theorem dX10_sure_36 : decode cX10_sure 36 = .ok (.invokevirtual 446, 3) := dk_182 1 190 (dk_at dksX10_sure_1 14 rfl rfl)
theorem dX10_sure_39 : decode cX10_sure 39 = .ok (.ifCond .ne 6, 3) := dk_154 0 6 (dk_at dksX10_sure_1 17 rfl rfl)
theorem dX10_sure_42 : decode cX10_sure 42 = .ok (.goto 21, 3) := dk_167 0 21 (dk_at dksX10_sure_1 20 rfl rfl)
theorem dX10_sure_45 : decode cX10_sure 45 = .ok (.iload_n 2, 1) := dk_28 (dk_at dksX10_sure_1 23 rfl rfl)
theorem dX10_sure_46 : decode cX10_sure 46 = .ok (.ifCond .lt 6, 3) := dk_155 0 6 (dk_at dksX10_sure_2 0 rfl rfl)
theorem dX10_sure_49 : decode cX10_sure 49 = .ok (.bipush (-2), 2) := dk_16 254 (dk_at dksX10_sure_2 3 rfl rfl)
theorem dX10_sure_51 : decode cX10_sure 51 = .ok (.ireturn, 1) := dk_172 (dk_at dksX10_sure_2 5 rfl rfl)
theorem dX10_sure_52 : decode cX10_sure 52 = .ok (.bipush 10, 2) := dk_16 10 (dk_at dksX10_sure_2 6 rfl rfl)
theorem dX10_sure_54 : decode cX10_sure 54 = .ok (.iload_n 3, 1) := dk_29 (dk_at dksX10_sure_2 8 rfl rfl)
theorem dX10_sure_55 : decode cX10_sure 55 = .ok (.iconst 4, 1) := dk_7 (dk_at dksX10_sure_2 9 rfl rfl)
theorem dX10_sure_56 : decode cX10_sure 56 = .ok (.idiv, 1) := dk_108 (dk_at dksX10_sure_2 10 rfl rfl)
theorem dX10_sure_57 : decode cX10_sure 57 = .ok (.imul, 1) := dk_104 (dk_at dksX10_sure_2 11 rfl rfl)
theorem dX10_sure_58 : decode cX10_sure 58 = .ok (.iload_n 3, 1) := dk_29 (dk_at dksX10_sure_2 12 rfl rfl)
theorem dX10_sure_59 : decode cX10_sure 59 = .ok (.iconst 4, 1) := dk_7 (dk_at dksX10_sure_2 13 rfl rfl)
theorem dX10_sure_60 : decode cX10_sure 60 = .ok (.irem, 1) := dk_112 (dk_at dksX10_sure_2 14 rfl rfl)
theorem dX10_sure_61 : decode cX10_sure 61 = .ok (.iadd, 1) := dk_96 (dk_at dksX10_sure_2 15 rfl rfl)
theorem dX10_sure_62 : decode cX10_sure 62 = .ok (.istore_n 2, 1) := dk_61 (dk_at dksX10_sure_2 16 rfl rfl)
theorem dX10_sure_63 : decode cX10_sure 63 = .ok (.iinc 3 1, 3) := dk_132 3 1 (dk_at dksX10_sure_2 17 rfl rfl)
theorem dX10_sure_66 : decode cX10_sure 66 = .ok (.goto (-47), 3) := dk_167 255 209 (dk_at dksX10_sure_2 20 rfl rfl)
theorem dX10_sure_69 : decode cX10_sure 69 = .ok (.iload_n 2, 1) := dk_28 (dk_at dksX10_sure_2 23 rfl rfl)
theorem dX10_sure_70 : decode cX10_sure 70 = .ok (.ireturn, 1) := dk_172 (dk_at dksX10_sure_3 0 rfl rfl)
abbrev cX10_ask : ByteArray := prog_21_method_107_code
def yX10_ask : MethodName := ⟨RX10, "ask", "(I)I"⟩
def dkwX10_ask_9 : List UInt8 := [172]
abbrev dktX10_ask_9 : List UInt8 := dkwX10_ask_9 ++ []
def dkwX10_ask_8 : List UInt8 := [21, 6, 21, 4, 161, 0, 6, 167, 0, 10, 21, 5, 62, 21, 6, 54, 4, 132, 5, 1, 167, 255, 174, 29]
abbrev dktX10_ask_8 : List UInt8 := dkwX10_ask_8 ++ dktX10_ask_9
def dkwX10_ask_7 : List UInt8 := [180, 0, 152, 21, 5, 46, 167, 0, 12, 28, 42, 180, 0, 152, 21, 5, 46, 100, 54, 6, 29, 155, 0, 13]
abbrev dktX10_ask_7 : List UInt8 := dkwX10_ask_7 ++ dktX10_ask_8
def dkwX10_ask_6 : List UInt8 := [158, 0, 70, 42, 180, 0, 152, 21, 5, 46, 28, 42, 180, 0, 152, 21, 5, 46, 100, 164, 0, 13, 42]
abbrev dktX10_ask_6 : List UInt8 := dkwX10_ask_6 ++ dktX10_ask_7
def dkwX10_ask_5 : List UInt8 := [16, 254, 62, 3, 54, 4, 3, 54, 5, 21, 5, 42, 180, 0, 67, 42, 180, 0, 242, 46, 162, 0, 74, 28]
abbrev dktX10_ask_5 : List UInt8 := dkwX10_ask_5 ++ dktX10_ask_6
def dkwX10_ask_4 : List UInt8 := [180, 0, 137, 16, 27, 21, 4, 96, 46, 96, 79, 132, 4, 1, 167, 255, 219, 132, 3, 1, 167, 255, 181]
abbrev dktX10_ask_4 : List UInt8 := dkwX10_ask_4 ++ dktX10_ask_5
def dkwX10_ask_3 : List UInt8 := [21, 4, 42, 180, 0, 67, 42, 180, 0, 242, 46, 162, 0, 29, 42, 180, 0, 152, 21, 4, 92, 46, 42]
abbrev dktX10_ask_3 : List UInt8 := dkwX10_ask_3 ++ dktX10_ask_4
def dkwX10_ask_2 : List UInt8 := [182, 1, 187, 153, 0, 61, 42, 29, 27, 182, 1, 190, 154, 0, 6, 167, 0, 49, 132, 2, 1, 3, 54, 4]
abbrev dktX10_ask_2 : List UInt8 := dkwX10_ask_2 ++ dktX10_ask_3
def dkwX10_ask_1 : List UInt8 := [180, 0, 152, 29, 3, 79, 132, 3, 1, 167, 255, 241, 3, 62, 29, 16, 20, 162, 0, 75, 42, 29]
abbrev dktX10_ask_1 : List UInt8 := dkwX10_ask_1 ++ dktX10_ask_2
def dkwX10_ask_0 : List UInt8 := [27, 3, 42, 180, 1, 10, 184, 1, 78, 154, 0, 5, 2, 172, 3, 61, 3, 62, 29, 7, 162, 0, 16, 42]
abbrev dktX10_ask_0 : List UInt8 := dkwX10_ask_0 ++ dktX10_ask_1
theorem dksX10_ask_0 : cX10_ask.data.toList.drop 0 = dktX10_ask_0 := by decide +kernel
theorem dksX10_ask_1 : cX10_ask.data.toList.drop 24 = dktX10_ask_1 := dk_seg dksX10_ask_0 24 rfl rfl
theorem dksX10_ask_2 : cX10_ask.data.toList.drop 46 = dktX10_ask_2 := dk_seg dksX10_ask_1 22 rfl rfl
theorem dksX10_ask_3 : cX10_ask.data.toList.drop 70 = dktX10_ask_3 := dk_seg dksX10_ask_2 24 rfl rfl
theorem dksX10_ask_4 : cX10_ask.data.toList.drop 93 = dktX10_ask_4 := dk_seg dksX10_ask_3 23 rfl rfl
theorem dksX10_ask_5 : cX10_ask.data.toList.drop 116 = dktX10_ask_5 := dk_seg dksX10_ask_4 23 rfl rfl
theorem dksX10_ask_6 : cX10_ask.data.toList.drop 140 = dktX10_ask_6 := dk_seg dksX10_ask_5 24 rfl rfl
theorem dksX10_ask_7 : cX10_ask.data.toList.drop 163 = dktX10_ask_7 := dk_seg dksX10_ask_6 23 rfl rfl
theorem dksX10_ask_8 : cX10_ask.data.toList.drop 187 = dktX10_ask_8 := dk_seg dksX10_ask_7 24 rfl rfl
theorem dksX10_ask_9 : cX10_ask.data.toList.drop 211 = dktX10_ask_9 := dk_seg dksX10_ask_8 24 rfl rfl
theorem dX10_ask_0 : decode cX10_ask 0 = .ok (.iload_n 1, 1) := dk_27 (dk_at dksX10_ask_0 0 rfl rfl)
theorem dX10_ask_1 : decode cX10_ask 1 = .ok (.iconst 0, 1) := dk_3 (dk_at dksX10_ask_0 1 rfl rfl)
theorem dX10_ask_2 : decode cX10_ask 2 = .ok (.aload_n 0, 1) := dk_42 (dk_at dksX10_ask_0 2 rfl rfl)
theorem dX10_ask_3 : decode cX10_ask 3 = .ok (.getfield 266, 3) := dk_180 1 10 (dk_at dksX10_ask_0 3 rfl rfl)
theorem dX10_ask_6 : decode cX10_ask 6 = .ok (.invokestatic 334, 3) := dk_184 1 78 (dk_at dksX10_ask_0 6 rfl rfl)
theorem dX10_ask_9 : decode cX10_ask 9 = .ok (.ifCond .ne 5, 3) := dk_154 0 5 (dk_at dksX10_ask_0 9 rfl rfl)
theorem dX10_ask_12 : decode cX10_ask 12 = .ok (.iconst (-1), 1) := dk_2 (dk_at dksX10_ask_0 12 rfl rfl)
theorem dX10_ask_13 : decode cX10_ask 13 = .ok (.ireturn, 1) := dk_172 (dk_at dksX10_ask_0 13 rfl rfl)
theorem dX10_ask_14 : decode cX10_ask 14 = .ok (.iconst 0, 1) := dk_3 (dk_at dksX10_ask_0 14 rfl rfl)
theorem dX10_ask_15 : decode cX10_ask 15 = .ok (.istore_n 2, 1) := dk_61 (dk_at dksX10_ask_0 15 rfl rfl)
theorem dX10_ask_16 : decode cX10_ask 16 = .ok (.iconst 0, 1) := dk_3 (dk_at dksX10_ask_0 16 rfl rfl)
theorem dX10_ask_17 : decode cX10_ask 17 = .ok (.istore_n 3, 1) := dk_62 (dk_at dksX10_ask_0 17 rfl rfl)
theorem dX10_ask_18 : decode cX10_ask 18 = .ok (.iload_n 3, 1) := dk_29 (dk_at dksX10_ask_0 18 rfl rfl)
theorem dX10_ask_19 : decode cX10_ask 19 = .ok (.iconst 4, 1) := dk_7 (dk_at dksX10_ask_0 19 rfl rfl)
theorem dX10_ask_20 : decode cX10_ask 20 = .ok (.if_icmp .ge 16, 3) := dk_162 0 16 (dk_at dksX10_ask_0 20 rfl rfl)
theorem dX10_ask_23 : decode cX10_ask 23 = .ok (.aload_n 0, 1) := dk_42 (dk_at dksX10_ask_0 23 rfl rfl)
theorem dX10_ask_24 : decode cX10_ask 24 = .ok (.getfield 152, 3) := dk_180 0 152 (dk_at dksX10_ask_1 0 rfl rfl)
theorem dX10_ask_27 : decode cX10_ask 27 = .ok (.iload_n 3, 1) := dk_29 (dk_at dksX10_ask_1 3 rfl rfl)
theorem dX10_ask_28 : decode cX10_ask 28 = .ok (.iconst 0, 1) := dk_3 (dk_at dksX10_ask_1 4 rfl rfl)
theorem dX10_ask_29 : decode cX10_ask 29 = .ok (.iastore, 1) := dk_79 (dk_at dksX10_ask_1 5 rfl rfl)
theorem dX10_ask_30 : decode cX10_ask 30 = .ok (.iinc 3 1, 3) := dk_132 3 1 (dk_at dksX10_ask_1 6 rfl rfl)
theorem dX10_ask_33 : decode cX10_ask 33 = .ok (.goto (-15), 3) := dk_167 255 241 (dk_at dksX10_ask_1 9 rfl rfl)
theorem dX10_ask_36 : decode cX10_ask 36 = .ok (.iconst 0, 1) := dk_3 (dk_at dksX10_ask_1 12 rfl rfl)
theorem dX10_ask_37 : decode cX10_ask 37 = .ok (.istore_n 3, 1) := dk_62 (dk_at dksX10_ask_1 13 rfl rfl)
theorem dX10_ask_38 : decode cX10_ask 38 = .ok (.iload_n 3, 1) := dk_29 (dk_at dksX10_ask_1 14 rfl rfl)
theorem dX10_ask_39 : decode cX10_ask 39 = .ok (.bipush 20, 2) := dk_16 20 (dk_at dksX10_ask_1 15 rfl rfl)
theorem dX10_ask_41 : decode cX10_ask 41 = .ok (.if_icmp .ge 75, 3) := dk_162 0 75 (dk_at dksX10_ask_1 17 rfl rfl)
theorem dX10_ask_44 : decode cX10_ask 44 = .ok (.aload_n 0, 1) := dk_42 (dk_at dksX10_ask_1 20 rfl rfl)
theorem dX10_ask_45 : decode cX10_ask 45 = .ok (.iload_n 3, 1) := dk_29 (dk_at dksX10_ask_1 21 rfl rfl)
theorem dX10_ask_46 : decode cX10_ask 46 = .ok (.invokevirtual 443, 3) := dk_182 1 187 (dk_at dksX10_ask_2 0 rfl rfl)
theorem dX10_ask_49 : decode cX10_ask 49 = .ok (.ifCond .eq 61, 3) := dk_153 0 61 (dk_at dksX10_ask_2 3 rfl rfl)
theorem dX10_ask_52 : decode cX10_ask 52 = .ok (.aload_n 0, 1) := dk_42 (dk_at dksX10_ask_2 6 rfl rfl)
theorem dX10_ask_53 : decode cX10_ask 53 = .ok (.iload_n 3, 1) := dk_29 (dk_at dksX10_ask_2 7 rfl rfl)
theorem dX10_ask_54 : decode cX10_ask 54 = .ok (.iload_n 1, 1) := dk_27 (dk_at dksX10_ask_2 8 rfl rfl)
theorem dX10_ask_55 : decode cX10_ask 55 = .ok (.invokevirtual 446, 3) := dk_182 1 190 (dk_at dksX10_ask_2 9 rfl rfl)
theorem dX10_ask_58 : decode cX10_ask 58 = .ok (.ifCond .ne 6, 3) := dk_154 0 6 (dk_at dksX10_ask_2 12 rfl rfl)
theorem dX10_ask_61 : decode cX10_ask 61 = .ok (.goto 49, 3) := dk_167 0 49 (dk_at dksX10_ask_2 15 rfl rfl)
theorem dX10_ask_64 : decode cX10_ask 64 = .ok (.iinc 2 1, 3) := dk_132 2 1 (dk_at dksX10_ask_2 18 rfl rfl)
theorem dX10_ask_67 : decode cX10_ask 67 = .ok (.iconst 0, 1) := dk_3 (dk_at dksX10_ask_2 21 rfl rfl)
theorem dX10_ask_68 : decode cX10_ask 68 = .ok (.istore 4, 2) := dk_54 4 (dk_at dksX10_ask_2 22 rfl rfl)
theorem dX10_ask_70 : decode cX10_ask 70 = .ok (.iload 4, 2) := dk_21 4 (dk_at dksX10_ask_3 0 rfl rfl)
theorem dX10_ask_72 : decode cX10_ask 72 = .ok (.aload_n 0, 1) := dk_42 (dk_at dksX10_ask_3 2 rfl rfl)
theorem dX10_ask_73 : decode cX10_ask 73 = .ok (.getfield 67, 3) := dk_180 0 67 (dk_at dksX10_ask_3 3 rfl rfl)
theorem dX10_ask_76 : decode cX10_ask 76 = .ok (.aload_n 0, 1) := dk_42 (dk_at dksX10_ask_3 6 rfl rfl)
theorem dX10_ask_77 : decode cX10_ask 77 = .ok (.getfield 242, 3) := dk_180 0 242 (dk_at dksX10_ask_3 7 rfl rfl)
theorem dX10_ask_80 : decode cX10_ask 80 = .ok (.iaload, 1) := dk_46 (dk_at dksX10_ask_3 10 rfl rfl)
theorem dX10_ask_81 : decode cX10_ask 81 = .ok (.if_icmp .ge 29, 3) := dk_162 0 29 (dk_at dksX10_ask_3 11 rfl rfl)
theorem dX10_ask_84 : decode cX10_ask 84 = .ok (.aload_n 0, 1) := dk_42 (dk_at dksX10_ask_3 14 rfl rfl)
theorem dX10_ask_85 : decode cX10_ask 85 = .ok (.getfield 152, 3) := dk_180 0 152 (dk_at dksX10_ask_3 15 rfl rfl)
theorem dX10_ask_88 : decode cX10_ask 88 = .ok (.iload 4, 2) := dk_21 4 (dk_at dksX10_ask_3 18 rfl rfl)
theorem dX10_ask_90 : decode cX10_ask 90 = .ok (.dup2, 1) := dk_92 (dk_at dksX10_ask_3 20 rfl rfl)
theorem dX10_ask_91 : decode cX10_ask 91 = .ok (.iaload, 1) := dk_46 (dk_at dksX10_ask_3 21 rfl rfl)
theorem dX10_ask_92 : decode cX10_ask 92 = .ok (.aload_n 0, 1) := dk_42 (dk_at dksX10_ask_3 22 rfl rfl)
theorem dX10_ask_93 : decode cX10_ask 93 = .ok (.getfield 137, 3) := dk_180 0 137 (dk_at dksX10_ask_4 0 rfl rfl)
theorem dX10_ask_96 : decode cX10_ask 96 = .ok (.bipush 27, 2) := dk_16 27 (dk_at dksX10_ask_4 3 rfl rfl)
theorem dX10_ask_98 : decode cX10_ask 98 = .ok (.iload 4, 2) := dk_21 4 (dk_at dksX10_ask_4 5 rfl rfl)
theorem dX10_ask_100 : decode cX10_ask 100 = .ok (.iadd, 1) := dk_96 (dk_at dksX10_ask_4 7 rfl rfl)
theorem dX10_ask_101 : decode cX10_ask 101 = .ok (.iaload, 1) := dk_46 (dk_at dksX10_ask_4 8 rfl rfl)
theorem dX10_ask_102 : decode cX10_ask 102 = .ok (.iadd, 1) := dk_96 (dk_at dksX10_ask_4 9 rfl rfl)
theorem dX10_ask_103 : decode cX10_ask 103 = .ok (.iastore, 1) := dk_79 (dk_at dksX10_ask_4 10 rfl rfl)
theorem dX10_ask_104 : decode cX10_ask 104 = .ok (.iinc 4 1, 3) := dk_132 4 1 (dk_at dksX10_ask_4 11 rfl rfl)
theorem dX10_ask_107 : decode cX10_ask 107 = .ok (.goto (-37), 3) := dk_167 255 219 (dk_at dksX10_ask_4 14 rfl rfl)
theorem dX10_ask_110 : decode cX10_ask 110 = .ok (.iinc 3 1, 3) := dk_132 3 1 (dk_at dksX10_ask_4 17 rfl rfl)
theorem dX10_ask_113 : decode cX10_ask 113 = .ok (.goto (-75), 3) := dk_167 255 181 (dk_at dksX10_ask_4 20 rfl rfl)
theorem dX10_ask_116 : decode cX10_ask 116 = .ok (.bipush (-2), 2) := dk_16 254 (dk_at dksX10_ask_5 0 rfl rfl)
theorem dX10_ask_118 : decode cX10_ask 118 = .ok (.istore_n 3, 1) := dk_62 (dk_at dksX10_ask_5 2 rfl rfl)
theorem dX10_ask_119 : decode cX10_ask 119 = .ok (.iconst 0, 1) := dk_3 (dk_at dksX10_ask_5 3 rfl rfl)
theorem dX10_ask_120 : decode cX10_ask 120 = .ok (.istore 4, 2) := dk_54 4 (dk_at dksX10_ask_5 4 rfl rfl)
theorem dX10_ask_122 : decode cX10_ask 122 = .ok (.iconst 0, 1) := dk_3 (dk_at dksX10_ask_5 6 rfl rfl)
theorem dX10_ask_123 : decode cX10_ask 123 = .ok (.istore 5, 2) := dk_54 5 (dk_at dksX10_ask_5 7 rfl rfl)
theorem dX10_ask_125 : decode cX10_ask 125 = .ok (.iload 5, 2) := dk_21 5 (dk_at dksX10_ask_5 9 rfl rfl)
theorem dX10_ask_127 : decode cX10_ask 127 = .ok (.aload_n 0, 1) := dk_42 (dk_at dksX10_ask_5 11 rfl rfl)
theorem dX10_ask_128 : decode cX10_ask 128 = .ok (.getfield 67, 3) := dk_180 0 67 (dk_at dksX10_ask_5 12 rfl rfl)
theorem dX10_ask_131 : decode cX10_ask 131 = .ok (.aload_n 0, 1) := dk_42 (dk_at dksX10_ask_5 15 rfl rfl)
theorem dX10_ask_132 : decode cX10_ask 132 = .ok (.getfield 242, 3) := dk_180 0 242 (dk_at dksX10_ask_5 16 rfl rfl)
theorem dX10_ask_135 : decode cX10_ask 135 = .ok (.iaload, 1) := dk_46 (dk_at dksX10_ask_5 19 rfl rfl)
theorem dX10_ask_136 : decode cX10_ask 136 = .ok (.if_icmp .ge 74, 3) := dk_162 0 74 (dk_at dksX10_ask_5 20 rfl rfl)
theorem dX10_ask_139 : decode cX10_ask 139 = .ok (.iload_n 2, 1) := dk_28 (dk_at dksX10_ask_5 23 rfl rfl)
theorem dX10_ask_140 : decode cX10_ask 140 = .ok (.ifCond .le 70, 3) := dk_158 0 70 (dk_at dksX10_ask_6 0 rfl rfl)
theorem dX10_ask_143 : decode cX10_ask 143 = .ok (.aload_n 0, 1) := dk_42 (dk_at dksX10_ask_6 3 rfl rfl)
theorem dX10_ask_144 : decode cX10_ask 144 = .ok (.getfield 152, 3) := dk_180 0 152 (dk_at dksX10_ask_6 4 rfl rfl)
theorem dX10_ask_147 : decode cX10_ask 147 = .ok (.iload 5, 2) := dk_21 5 (dk_at dksX10_ask_6 7 rfl rfl)
theorem dX10_ask_149 : decode cX10_ask 149 = .ok (.iaload, 1) := dk_46 (dk_at dksX10_ask_6 9 rfl rfl)
theorem dX10_ask_150 : decode cX10_ask 150 = .ok (.iload_n 2, 1) := dk_28 (dk_at dksX10_ask_6 10 rfl rfl)
theorem dX10_ask_151 : decode cX10_ask 151 = .ok (.aload_n 0, 1) := dk_42 (dk_at dksX10_ask_6 11 rfl rfl)
theorem dX10_ask_152 : decode cX10_ask 152 = .ok (.getfield 152, 3) := dk_180 0 152 (dk_at dksX10_ask_6 12 rfl rfl)
theorem dX10_ask_155 : decode cX10_ask 155 = .ok (.iload 5, 2) := dk_21 5 (dk_at dksX10_ask_6 15 rfl rfl)
theorem dX10_ask_157 : decode cX10_ask 157 = .ok (.iaload, 1) := dk_46 (dk_at dksX10_ask_6 17 rfl rfl)
theorem dX10_ask_158 : decode cX10_ask 158 = .ok (.isub, 1) := dk_100 (dk_at dksX10_ask_6 18 rfl rfl)
theorem dX10_ask_159 : decode cX10_ask 159 = .ok (.if_icmp .le 13, 3) := dk_164 0 13 (dk_at dksX10_ask_6 19 rfl rfl)
theorem dX10_ask_162 : decode cX10_ask 162 = .ok (.aload_n 0, 1) := dk_42 (dk_at dksX10_ask_6 22 rfl rfl)
theorem dX10_ask_163 : decode cX10_ask 163 = .ok (.getfield 152, 3) := dk_180 0 152 (dk_at dksX10_ask_7 0 rfl rfl)
theorem dX10_ask_166 : decode cX10_ask 166 = .ok (.iload 5, 2) := dk_21 5 (dk_at dksX10_ask_7 3 rfl rfl)
theorem dX10_ask_168 : decode cX10_ask 168 = .ok (.iaload, 1) := dk_46 (dk_at dksX10_ask_7 5 rfl rfl)
theorem dX10_ask_169 : decode cX10_ask 169 = .ok (.goto 12, 3) := dk_167 0 12 (dk_at dksX10_ask_7 6 rfl rfl)
theorem dX10_ask_172 : decode cX10_ask 172 = .ok (.iload_n 2, 1) := dk_28 (dk_at dksX10_ask_7 9 rfl rfl)
theorem dX10_ask_173 : decode cX10_ask 173 = .ok (.aload_n 0, 1) := dk_42 (dk_at dksX10_ask_7 10 rfl rfl)
theorem dX10_ask_174 : decode cX10_ask 174 = .ok (.getfield 152, 3) := dk_180 0 152 (dk_at dksX10_ask_7 11 rfl rfl)
theorem dX10_ask_177 : decode cX10_ask 177 = .ok (.iload 5, 2) := dk_21 5 (dk_at dksX10_ask_7 14 rfl rfl)
theorem dX10_ask_179 : decode cX10_ask 179 = .ok (.iaload, 1) := dk_46 (dk_at dksX10_ask_7 16 rfl rfl)
theorem dX10_ask_180 : decode cX10_ask 180 = .ok (.isub, 1) := dk_100 (dk_at dksX10_ask_7 17 rfl rfl)
theorem dX10_ask_181 : decode cX10_ask 181 = .ok (.istore 6, 2) := dk_54 6 (dk_at dksX10_ask_7 18 rfl rfl)
theorem dX10_ask_183 : decode cX10_ask 183 = .ok (.iload_n 3, 1) := dk_29 (dk_at dksX10_ask_7 20 rfl rfl)
theorem dX10_ask_184 : decode cX10_ask 184 = .ok (.ifCond .lt 13, 3) := dk_155 0 13 (dk_at dksX10_ask_7 21 rfl rfl)
theorem dX10_ask_187 : decode cX10_ask 187 = .ok (.iload 6, 2) := dk_21 6 (dk_at dksX10_ask_8 0 rfl rfl)
theorem dX10_ask_189 : decode cX10_ask 189 = .ok (.iload 4, 2) := dk_21 4 (dk_at dksX10_ask_8 2 rfl rfl)
theorem dX10_ask_191 : decode cX10_ask 191 = .ok (.if_icmp .lt 6, 3) := dk_161 0 6 (dk_at dksX10_ask_8 4 rfl rfl)
theorem dX10_ask_194 : decode cX10_ask 194 = .ok (.goto 10, 3) := dk_167 0 10 (dk_at dksX10_ask_8 7 rfl rfl)
theorem dX10_ask_197 : decode cX10_ask 197 = .ok (.iload 5, 2) := dk_21 5 (dk_at dksX10_ask_8 10 rfl rfl)
theorem dX10_ask_199 : decode cX10_ask 199 = .ok (.istore_n 3, 1) := dk_62 (dk_at dksX10_ask_8 12 rfl rfl)
theorem dX10_ask_200 : decode cX10_ask 200 = .ok (.iload 6, 2) := dk_21 6 (dk_at dksX10_ask_8 13 rfl rfl)
theorem dX10_ask_202 : decode cX10_ask 202 = .ok (.istore 4, 2) := dk_54 4 (dk_at dksX10_ask_8 15 rfl rfl)
theorem dX10_ask_204 : decode cX10_ask 204 = .ok (.iinc 5 1, 3) := dk_132 5 1 (dk_at dksX10_ask_8 17 rfl rfl)
theorem dX10_ask_207 : decode cX10_ask 207 = .ok (.goto (-82), 3) := dk_167 255 174 (dk_at dksX10_ask_8 20 rfl rfl)
theorem dX10_ask_210 : decode cX10_ask 210 = .ok (.iload_n 3, 1) := dk_29 (dk_at dksX10_ask_8 23 rfl rfl)
theorem dX10_ask_211 : decode cX10_ask 211 = .ok (.ireturn, 1) := dk_172 (dk_at dksX10_ask_9 0 rfl rfl)
abbrev cX10_hold : ByteArray := prog_21_method_108_code
def yX10_hold : MethodName := ⟨RX10, "hold", "(I)Z"⟩
def dkwX10_hold_2 : List UInt8 := [167, 255, 230, 4, 172]
abbrev dktX10_hold_2 : List UInt8 := dkwX10_hold_2 ++ []
def dkwX10_hold_1 : List UInt8 := [162, 0, 26, 42, 180, 0, 158, 16, 77, 27, 104, 28, 96, 42, 180, 0, 134, 28, 46, 79, 132, 2, 1]
abbrev dktX10_hold_1 : List UInt8 := dkwX10_hold_1 ++ dktX10_hold_2
def dkwX10_hold_0 : List UInt8 := [27, 3, 5, 184, 1, 78, 154, 0, 5, 3, 172, 42, 180, 0, 155, 27, 4, 84, 3, 61, 28, 16, 77]
abbrev dktX10_hold_0 : List UInt8 := dkwX10_hold_0 ++ dktX10_hold_1
theorem dksX10_hold_0 : cX10_hold.data.toList.drop 0 = dktX10_hold_0 := by decide +kernel
theorem dksX10_hold_1 : cX10_hold.data.toList.drop 23 = dktX10_hold_1 := dk_seg dksX10_hold_0 23 rfl rfl
theorem dksX10_hold_2 : cX10_hold.data.toList.drop 46 = dktX10_hold_2 := dk_seg dksX10_hold_1 23 rfl rfl
theorem dX10_hold_0 : decode cX10_hold 0 = .ok (.iload_n 1, 1) := dk_27 (dk_at dksX10_hold_0 0 rfl rfl)
theorem dX10_hold_1 : decode cX10_hold 1 = .ok (.iconst 0, 1) := dk_3 (dk_at dksX10_hold_0 1 rfl rfl)
theorem dX10_hold_2 : decode cX10_hold 2 = .ok (.iconst 2, 1) := dk_5 (dk_at dksX10_hold_0 2 rfl rfl)
theorem dX10_hold_3 : decode cX10_hold 3 = .ok (.invokestatic 334, 3) := dk_184 1 78 (dk_at dksX10_hold_0 3 rfl rfl)
theorem dX10_hold_6 : decode cX10_hold 6 = .ok (.ifCond .ne 5, 3) := dk_154 0 5 (dk_at dksX10_hold_0 6 rfl rfl)
theorem dX10_hold_9 : decode cX10_hold 9 = .ok (.iconst 0, 1) := dk_3 (dk_at dksX10_hold_0 9 rfl rfl)
theorem dX10_hold_10 : decode cX10_hold 10 = .ok (.ireturn, 1) := dk_172 (dk_at dksX10_hold_0 10 rfl rfl)
theorem dX10_hold_11 : decode cX10_hold 11 = .ok (.aload_n 0, 1) := dk_42 (dk_at dksX10_hold_0 11 rfl rfl)
theorem dX10_hold_12 : decode cX10_hold 12 = .ok (.getfield 155, 3) := dk_180 0 155 (dk_at dksX10_hold_0 12 rfl rfl)
theorem dX10_hold_15 : decode cX10_hold 15 = .ok (.iload_n 1, 1) := dk_27 (dk_at dksX10_hold_0 15 rfl rfl)
theorem dX10_hold_16 : decode cX10_hold 16 = .ok (.iconst 1, 1) := dk_4 (dk_at dksX10_hold_0 16 rfl rfl)
theorem dX10_hold_17 : decode cX10_hold 17 = .ok (.bastore, 1) := dk_84 (dk_at dksX10_hold_0 17 rfl rfl)
theorem dX10_hold_18 : decode cX10_hold 18 = .ok (.iconst 0, 1) := dk_3 (dk_at dksX10_hold_0 18 rfl rfl)
theorem dX10_hold_19 : decode cX10_hold 19 = .ok (.istore_n 2, 1) := dk_61 (dk_at dksX10_hold_0 19 rfl rfl)
theorem dX10_hold_20 : decode cX10_hold 20 = .ok (.iload_n 2, 1) := dk_28 (dk_at dksX10_hold_0 20 rfl rfl)
theorem dX10_hold_21 : decode cX10_hold 21 = .ok (.bipush 77, 2) := dk_16 77 (dk_at dksX10_hold_0 21 rfl rfl)
theorem dX10_hold_23 : decode cX10_hold 23 = .ok (.if_icmp .ge 26, 3) := dk_162 0 26 (dk_at dksX10_hold_1 0 rfl rfl)
theorem dX10_hold_26 : decode cX10_hold 26 = .ok (.aload_n 0, 1) := dk_42 (dk_at dksX10_hold_1 3 rfl rfl)
theorem dX10_hold_27 : decode cX10_hold 27 = .ok (.getfield 158, 3) := dk_180 0 158 (dk_at dksX10_hold_1 4 rfl rfl)
theorem dX10_hold_30 : decode cX10_hold 30 = .ok (.bipush 77, 2) := dk_16 77 (dk_at dksX10_hold_1 7 rfl rfl)
theorem dX10_hold_32 : decode cX10_hold 32 = .ok (.iload_n 1, 1) := dk_27 (dk_at dksX10_hold_1 9 rfl rfl)
theorem dX10_hold_33 : decode cX10_hold 33 = .ok (.imul, 1) := dk_104 (dk_at dksX10_hold_1 10 rfl rfl)
theorem dX10_hold_34 : decode cX10_hold 34 = .ok (.iload_n 2, 1) := dk_28 (dk_at dksX10_hold_1 11 rfl rfl)
theorem dX10_hold_35 : decode cX10_hold 35 = .ok (.iadd, 1) := dk_96 (dk_at dksX10_hold_1 12 rfl rfl)
theorem dX10_hold_36 : decode cX10_hold 36 = .ok (.aload_n 0, 1) := dk_42 (dk_at dksX10_hold_1 13 rfl rfl)
theorem dX10_hold_37 : decode cX10_hold 37 = .ok (.getfield 134, 3) := dk_180 0 134 (dk_at dksX10_hold_1 14 rfl rfl)
theorem dX10_hold_40 : decode cX10_hold 40 = .ok (.iload_n 2, 1) := dk_28 (dk_at dksX10_hold_1 17 rfl rfl)
theorem dX10_hold_41 : decode cX10_hold 41 = .ok (.iaload, 1) := dk_46 (dk_at dksX10_hold_1 18 rfl rfl)
theorem dX10_hold_42 : decode cX10_hold 42 = .ok (.iastore, 1) := dk_79 (dk_at dksX10_hold_1 19 rfl rfl)
theorem dX10_hold_43 : decode cX10_hold 43 = .ok (.iinc 2 1, 3) := dk_132 2 1 (dk_at dksX10_hold_1 20 rfl rfl)
theorem dX10_hold_46 : decode cX10_hold 46 = .ok (.goto (-26), 3) := dk_167 255 230 (dk_at dksX10_hold_2 0 rfl rfl)
theorem dX10_hold_49 : decode cX10_hold 49 = .ok (.iconst 1, 1) := dk_4 (dk_at dksX10_hold_2 3 rfl rfl)
theorem dX10_hold_50 : decode cX10_hold 50 = .ok (.ireturn, 1) := dk_172 (dk_at dksX10_hold_2 4 rfl rfl)
abbrev cX10_restore : ByteArray := prog_21_method_109_code
def yX10_restore : MethodName := ⟨RX10, "restore", "(I)Z"⟩
def dkwX10_restore_2 : List UInt8 := [132, 2, 1, 167, 255, 230, 42, 3, 181, 1, 7, 4, 172]
abbrev dktX10_restore_2 : List UInt8 := dkwX10_restore_2 ++ []
def dkwX10_restore_1 : List UInt8 := [16, 77, 162, 0, 26, 42, 180, 0, 134, 28, 42, 180, 0, 158, 16, 77, 27, 104, 28, 96, 46, 79]
abbrev dktX10_restore_1 : List UInt8 := dkwX10_restore_1 ++ dktX10_restore_2
def dkwX10_restore_0 : List UInt8 := [27, 3, 5, 184, 1, 78, 153, 0, 12, 42, 180, 0, 155, 27, 51, 154, 0, 5, 3, 172, 3, 61, 28]
abbrev dktX10_restore_0 : List UInt8 := dkwX10_restore_0 ++ dktX10_restore_1
theorem dksX10_restore_0 : cX10_restore.data.toList.drop 0 = dktX10_restore_0 := by decide +kernel
theorem dksX10_restore_1 : cX10_restore.data.toList.drop 23 = dktX10_restore_1 := dk_seg dksX10_restore_0 23 rfl rfl
theorem dksX10_restore_2 : cX10_restore.data.toList.drop 45 = dktX10_restore_2 := dk_seg dksX10_restore_1 22 rfl rfl
theorem dX10_restore_0 : decode cX10_restore 0 = .ok (.iload_n 1, 1) := dk_27 (dk_at dksX10_restore_0 0 rfl rfl)
theorem dX10_restore_1 : decode cX10_restore 1 = .ok (.iconst 0, 1) := dk_3 (dk_at dksX10_restore_0 1 rfl rfl)
theorem dX10_restore_2 : decode cX10_restore 2 = .ok (.iconst 2, 1) := dk_5 (dk_at dksX10_restore_0 2 rfl rfl)
theorem dX10_restore_3 : decode cX10_restore 3 = .ok (.invokestatic 334, 3) := dk_184 1 78 (dk_at dksX10_restore_0 3 rfl rfl)
theorem dX10_restore_6 : decode cX10_restore 6 = .ok (.ifCond .eq 12, 3) := dk_153 0 12 (dk_at dksX10_restore_0 6 rfl rfl)
theorem dX10_restore_9 : decode cX10_restore 9 = .ok (.aload_n 0, 1) := dk_42 (dk_at dksX10_restore_0 9 rfl rfl)
theorem dX10_restore_10 : decode cX10_restore 10 = .ok (.getfield 155, 3) := dk_180 0 155 (dk_at dksX10_restore_0 10 rfl rfl)
theorem dX10_restore_13 : decode cX10_restore 13 = .ok (.iload_n 1, 1) := dk_27 (dk_at dksX10_restore_0 13 rfl rfl)
theorem dX10_restore_14 : decode cX10_restore 14 = .ok (.baload, 1) := dk_51 (dk_at dksX10_restore_0 14 rfl rfl)
theorem dX10_restore_15 : decode cX10_restore 15 = .ok (.ifCond .ne 5, 3) := dk_154 0 5 (dk_at dksX10_restore_0 15 rfl rfl)
theorem dX10_restore_18 : decode cX10_restore 18 = .ok (.iconst 0, 1) := dk_3 (dk_at dksX10_restore_0 18 rfl rfl)
theorem dX10_restore_19 : decode cX10_restore 19 = .ok (.ireturn, 1) := dk_172 (dk_at dksX10_restore_0 19 rfl rfl)
theorem dX10_restore_20 : decode cX10_restore 20 = .ok (.iconst 0, 1) := dk_3 (dk_at dksX10_restore_0 20 rfl rfl)
theorem dX10_restore_21 : decode cX10_restore 21 = .ok (.istore_n 2, 1) := dk_61 (dk_at dksX10_restore_0 21 rfl rfl)
theorem dX10_restore_22 : decode cX10_restore 22 = .ok (.iload_n 2, 1) := dk_28 (dk_at dksX10_restore_0 22 rfl rfl)
theorem dX10_restore_23 : decode cX10_restore 23 = .ok (.bipush 77, 2) := dk_16 77 (dk_at dksX10_restore_1 0 rfl rfl)
theorem dX10_restore_25 : decode cX10_restore 25 = .ok (.if_icmp .ge 26, 3) := dk_162 0 26 (dk_at dksX10_restore_1 2 rfl rfl)
theorem dX10_restore_28 : decode cX10_restore 28 = .ok (.aload_n 0, 1) := dk_42 (dk_at dksX10_restore_1 5 rfl rfl)
theorem dX10_restore_29 : decode cX10_restore 29 = .ok (.getfield 134, 3) := dk_180 0 134 (dk_at dksX10_restore_1 6 rfl rfl)
theorem dX10_restore_32 : decode cX10_restore 32 = .ok (.iload_n 2, 1) := dk_28 (dk_at dksX10_restore_1 9 rfl rfl)
theorem dX10_restore_33 : decode cX10_restore 33 = .ok (.aload_n 0, 1) := dk_42 (dk_at dksX10_restore_1 10 rfl rfl)
theorem dX10_restore_34 : decode cX10_restore 34 = .ok (.getfield 158, 3) := dk_180 0 158 (dk_at dksX10_restore_1 11 rfl rfl)
theorem dX10_restore_37 : decode cX10_restore 37 = .ok (.bipush 77, 2) := dk_16 77 (dk_at dksX10_restore_1 14 rfl rfl)
theorem dX10_restore_39 : decode cX10_restore 39 = .ok (.iload_n 1, 1) := dk_27 (dk_at dksX10_restore_1 16 rfl rfl)
theorem dX10_restore_40 : decode cX10_restore 40 = .ok (.imul, 1) := dk_104 (dk_at dksX10_restore_1 17 rfl rfl)
theorem dX10_restore_41 : decode cX10_restore 41 = .ok (.iload_n 2, 1) := dk_28 (dk_at dksX10_restore_1 18 rfl rfl)
theorem dX10_restore_42 : decode cX10_restore 42 = .ok (.iadd, 1) := dk_96 (dk_at dksX10_restore_1 19 rfl rfl)
theorem dX10_restore_43 : decode cX10_restore 43 = .ok (.iaload, 1) := dk_46 (dk_at dksX10_restore_1 20 rfl rfl)
theorem dX10_restore_44 : decode cX10_restore 44 = .ok (.iastore, 1) := dk_79 (dk_at dksX10_restore_1 21 rfl rfl)
theorem dX10_restore_45 : decode cX10_restore 45 = .ok (.iinc 2 1, 3) := dk_132 2 1 (dk_at dksX10_restore_2 0 rfl rfl)
theorem dX10_restore_48 : decode cX10_restore 48 = .ok (.goto (-26), 3) := dk_167 255 230 (dk_at dksX10_restore_2 3 rfl rfl)
theorem dX10_restore_51 : decode cX10_restore 51 = .ok (.aload_n 0, 1) := dk_42 (dk_at dksX10_restore_2 6 rfl rfl)
theorem dX10_restore_52 : decode cX10_restore 52 = .ok (.iconst 0, 1) := dk_3 (dk_at dksX10_restore_2 7 rfl rfl)
theorem dX10_restore_53 : decode cX10_restore 53 = .ok (.putfield 263, 3) := dk_181 1 7 (dk_at dksX10_restore_2 8 rfl rfl)
theorem dX10_restore_56 : decode cX10_restore 56 = .ok (.iconst 1, 1) := dk_4 (dk_at dksX10_restore_2 11 rfl rfl)
theorem dX10_restore_57 : decode cX10_restore 57 = .ok (.ireturn, 1) := dk_172 (dk_at dksX10_restore_2 12 rfl rfl)
abbrev cX10_count : ByteArray := prog_21_method_111_code
def yX10_count : MethodName := ⟨RX10, "count", "(I)I"⟩
def dkwX10_count_10 : List UInt8 := [182, 1, 193, 172, 42, 16, 55, 16, 20, 182, 1, 193, 172, 2, 172]
abbrev dktX10_count_10 : List UInt8 := dkwX10_count_10 ++ []
def dkwX10_count_9 : List UInt8 := [96, 172, 42, 16, 31, 7, 182, 1, 193, 172, 42, 16, 23, 7, 182, 1, 193, 172, 42, 16, 10, 8]
abbrev dktX10_count_9 : List UInt8 := dkwX10_count_9 ++ dktX10_count_10
def dkwX10_count_8 : List UInt8 := [51, 153, 0, 7, 4, 167, 0, 4, 3, 96, 42, 180, 0, 155, 5, 51, 153, 0, 7, 4, 167, 0, 4, 3]
abbrev dktX10_count_8 : List UInt8 := dkwX10_count_8 ++ dktX10_count_9
def dkwX10_count_7 : List UInt8 := [42, 180, 1, 10, 172, 42, 180, 0, 155, 3, 51, 153, 0, 7, 4, 167, 0, 4, 3, 42, 180, 0, 155, 4]
abbrev dktX10_count_7 : List UInt8 := dkwX10_count_7 ++ dktX10_count_8
def dkwX10_count_6 : List UInt8 := [180, 0, 137, 16, 75, 46, 172, 42, 8, 8, 182, 1, 193, 172, 42, 180, 0, 175, 172, 42, 180, 1, 7, 172]
abbrev dktX10_count_6 : List UInt8 := dkwX10_count_6 ++ dktX10_count_7
def dkwX10_count_5 : List UInt8 := [16, 76, 46, 172, 42, 16, 27, 42, 180, 0, 67, 42, 180, 0, 242, 46, 4, 182, 1, 147, 172, 42]
abbrev dktX10_count_5 : List UInt8 := dkwX10_count_5 ++ dktX10_count_6
def dkwX10_count_4 : List UInt8 := [46, 172, 42, 182, 1, 82, 172, 42, 182, 1, 125, 153, 0, 7, 4, 167, 0, 4, 3, 172, 42, 180, 0, 137]
abbrev dktX10_count_4 : List UInt8 := dkwX10_count_4 ++ dktX10_count_5
def dkwX10_count_3 : List UInt8 := [42, 180, 0, 242, 46, 172, 42, 180, 0, 67, 42, 180, 0, 242, 46, 172, 42, 180, 0, 76, 42, 180, 0, 242]
abbrev dktX10_count_3 : List UInt8 := dkwX10_count_3 ++ dktX10_count_4
def dkwX10_count_2 : List UInt8 := [42, 180, 0, 46, 42, 180, 0, 242, 46, 172, 42, 180, 0, 52, 42, 180, 0, 242, 46, 172, 42, 180, 0, 55]
abbrev dktX10_count_2 : List UInt8 := dkwX10_count_2 ++ dktX10_count_3
def dkwX10_count_1 : List UInt8 := [170, 0, 0, 0, 0, 1, 36, 0, 0, 0, 0, 0, 0, 0, 18, 0, 0, 0, 91, 0, 0, 0, 101, 0, 0, 0, 111, 0, 0, 0, 121, 0, 0, 0, 131, 0, 0, 0, 141, 0, 0, 0, 146, 0, 0, 0, 159, 0, 0, 0, 167, 0, 0, 0, 184, 0, 0, 0, 192, 0, 0, 0, 199, 0, 0, 0, 204, 0, 0, 0, 209, 0, 0, 0, 214, 0, 0, 1, 3, 0, 0, 1, 11, 0, 0, 1, 19, 0, 0, 1, 27]
abbrev dktX10_count_1 : List UInt8 := dkwX10_count_1 ++ dktX10_count_2
def dkwX10_count_0 : List UInt8 := [42, 182, 1, 144, 27]
abbrev dktX10_count_0 : List UInt8 := dkwX10_count_0 ++ dktX10_count_1
theorem dksX10_count_0 : cX10_count.data.toList.drop 0 = dktX10_count_0 := by decide +kernel
theorem dksX10_count_1 : cX10_count.data.toList.drop 5 = dktX10_count_1 := dk_seg dksX10_count_0 5 rfl rfl
theorem dksX10_count_2 : cX10_count.data.toList.drop 96 = dktX10_count_2 := dk_seg dksX10_count_1 91 rfl rfl
theorem dksX10_count_3 : cX10_count.data.toList.drop 120 = dktX10_count_3 := dk_seg dksX10_count_2 24 rfl rfl
theorem dksX10_count_4 : cX10_count.data.toList.drop 144 = dktX10_count_4 := dk_seg dksX10_count_3 24 rfl rfl
theorem dksX10_count_5 : cX10_count.data.toList.drop 168 = dktX10_count_5 := dk_seg dksX10_count_4 24 rfl rfl
theorem dksX10_count_6 : cX10_count.data.toList.drop 190 = dktX10_count_6 := dk_seg dksX10_count_5 22 rfl rfl
theorem dksX10_count_7 : cX10_count.data.toList.drop 214 = dktX10_count_7 := dk_seg dksX10_count_6 24 rfl rfl
theorem dksX10_count_8 : cX10_count.data.toList.drop 238 = dktX10_count_8 := dk_seg dksX10_count_7 24 rfl rfl
theorem dksX10_count_9 : cX10_count.data.toList.drop 262 = dktX10_count_9 := dk_seg dksX10_count_8 24 rfl rfl
theorem dksX10_count_10 : cX10_count.data.toList.drop 284 = dktX10_count_10 := dk_seg dksX10_count_9 22 rfl rfl
theorem dX10_count_0 : decode cX10_count 0 = .ok (.aload_n 0, 1) := dk_42 (dk_at dksX10_count_0 0 rfl rfl)
theorem dX10_count_1 : decode cX10_count 1 = .ok (.invokevirtual 400, 3) := dk_182 1 144 (dk_at dksX10_count_0 1 rfl rfl)
theorem dX10_count_4 : decode cX10_count 4 = .ok (.iload_n 1, 1) := dk_27 (dk_at dksX10_count_0 4 rfl rfl)
theorem dX10_count_5 : decode cX10_count 5 = .ok (.tableswitch 292 0 18 #[91, 101, 111, 121, 131, 141, 146, 159, 167, 184, 192, 199, 204, 209, 214, 259, 267, 275, 283], 91) := by decide +kernel
theorem dX10_count_96 : decode cX10_count 96 = .ok (.aload_n 0, 1) := dk_42 (dk_at dksX10_count_2 0 rfl rfl)
theorem dX10_count_97 : decode cX10_count 97 = .ok (.getfield 46, 3) := dk_180 0 46 (dk_at dksX10_count_2 1 rfl rfl)
theorem dX10_count_100 : decode cX10_count 100 = .ok (.aload_n 0, 1) := dk_42 (dk_at dksX10_count_2 4 rfl rfl)
theorem dX10_count_101 : decode cX10_count 101 = .ok (.getfield 242, 3) := dk_180 0 242 (dk_at dksX10_count_2 5 rfl rfl)
theorem dX10_count_104 : decode cX10_count 104 = .ok (.iaload, 1) := dk_46 (dk_at dksX10_count_2 8 rfl rfl)
theorem dX10_count_105 : decode cX10_count 105 = .ok (.ireturn, 1) := dk_172 (dk_at dksX10_count_2 9 rfl rfl)
theorem dX10_count_106 : decode cX10_count 106 = .ok (.aload_n 0, 1) := dk_42 (dk_at dksX10_count_2 10 rfl rfl)
theorem dX10_count_107 : decode cX10_count 107 = .ok (.getfield 52, 3) := dk_180 0 52 (dk_at dksX10_count_2 11 rfl rfl)
theorem dX10_count_110 : decode cX10_count 110 = .ok (.aload_n 0, 1) := dk_42 (dk_at dksX10_count_2 14 rfl rfl)
theorem dX10_count_111 : decode cX10_count 111 = .ok (.getfield 242, 3) := dk_180 0 242 (dk_at dksX10_count_2 15 rfl rfl)
theorem dX10_count_114 : decode cX10_count 114 = .ok (.iaload, 1) := dk_46 (dk_at dksX10_count_2 18 rfl rfl)
theorem dX10_count_115 : decode cX10_count 115 = .ok (.ireturn, 1) := dk_172 (dk_at dksX10_count_2 19 rfl rfl)
theorem dX10_count_116 : decode cX10_count 116 = .ok (.aload_n 0, 1) := dk_42 (dk_at dksX10_count_2 20 rfl rfl)
theorem dX10_count_117 : decode cX10_count 117 = .ok (.getfield 55, 3) := dk_180 0 55 (dk_at dksX10_count_2 21 rfl rfl)
theorem dX10_count_120 : decode cX10_count 120 = .ok (.aload_n 0, 1) := dk_42 (dk_at dksX10_count_3 0 rfl rfl)
theorem dX10_count_121 : decode cX10_count 121 = .ok (.getfield 242, 3) := dk_180 0 242 (dk_at dksX10_count_3 1 rfl rfl)
theorem dX10_count_124 : decode cX10_count 124 = .ok (.iaload, 1) := dk_46 (dk_at dksX10_count_3 4 rfl rfl)
theorem dX10_count_125 : decode cX10_count 125 = .ok (.ireturn, 1) := dk_172 (dk_at dksX10_count_3 5 rfl rfl)
theorem dX10_count_126 : decode cX10_count 126 = .ok (.aload_n 0, 1) := dk_42 (dk_at dksX10_count_3 6 rfl rfl)
theorem dX10_count_127 : decode cX10_count 127 = .ok (.getfield 67, 3) := dk_180 0 67 (dk_at dksX10_count_3 7 rfl rfl)
theorem dX10_count_130 : decode cX10_count 130 = .ok (.aload_n 0, 1) := dk_42 (dk_at dksX10_count_3 10 rfl rfl)
theorem dX10_count_131 : decode cX10_count 131 = .ok (.getfield 242, 3) := dk_180 0 242 (dk_at dksX10_count_3 11 rfl rfl)
theorem dX10_count_134 : decode cX10_count 134 = .ok (.iaload, 1) := dk_46 (dk_at dksX10_count_3 14 rfl rfl)
theorem dX10_count_135 : decode cX10_count 135 = .ok (.ireturn, 1) := dk_172 (dk_at dksX10_count_3 15 rfl rfl)
theorem dX10_count_136 : decode cX10_count 136 = .ok (.aload_n 0, 1) := dk_42 (dk_at dksX10_count_3 16 rfl rfl)
theorem dX10_count_137 : decode cX10_count 137 = .ok (.getfield 76, 3) := dk_180 0 76 (dk_at dksX10_count_3 17 rfl rfl)
theorem dX10_count_140 : decode cX10_count 140 = .ok (.aload_n 0, 1) := dk_42 (dk_at dksX10_count_3 20 rfl rfl)
theorem dX10_count_141 : decode cX10_count 141 = .ok (.getfield 242, 3) := dk_180 0 242 (dk_at dksX10_count_3 21 rfl rfl)
theorem dX10_count_144 : decode cX10_count 144 = .ok (.iaload, 1) := dk_46 (dk_at dksX10_count_4 0 rfl rfl)
theorem dX10_count_145 : decode cX10_count 145 = .ok (.ireturn, 1) := dk_172 (dk_at dksX10_count_4 1 rfl rfl)
theorem dX10_count_146 : decode cX10_count 146 = .ok (.aload_n 0, 1) := dk_42 (dk_at dksX10_count_4 2 rfl rfl)
theorem dX10_count_147 : decode cX10_count 147 = .ok (.invokevirtual 338, 3) := dk_182 1 82 (dk_at dksX10_count_4 3 rfl rfl)
theorem dX10_count_150 : decode cX10_count 150 = .ok (.ireturn, 1) := dk_172 (dk_at dksX10_count_4 6 rfl rfl)
theorem dX10_count_151 : decode cX10_count 151 = .ok (.aload_n 0, 1) := dk_42 (dk_at dksX10_count_4 7 rfl rfl)
theorem dX10_count_152 : decode cX10_count 152 = .ok (.invokevirtual 381, 3) := dk_182 1 125 (dk_at dksX10_count_4 8 rfl rfl)
theorem dX10_count_155 : decode cX10_count 155 = .ok (.ifCond .eq 7, 3) := dk_153 0 7 (dk_at dksX10_count_4 11 rfl rfl)
theorem dX10_count_158 : decode cX10_count 158 = .ok (.iconst 1, 1) := dk_4 (dk_at dksX10_count_4 14 rfl rfl)
theorem dX10_count_159 : decode cX10_count 159 = .ok (.goto 4, 3) := dk_167 0 4 (dk_at dksX10_count_4 15 rfl rfl)
theorem dX10_count_162 : decode cX10_count 162 = .ok (.iconst 0, 1) := dk_3 (dk_at dksX10_count_4 18 rfl rfl)
theorem dX10_count_163 : decode cX10_count 163 = .ok (.ireturn, 1) := dk_172 (dk_at dksX10_count_4 19 rfl rfl)
theorem dX10_count_164 : decode cX10_count 164 = .ok (.aload_n 0, 1) := dk_42 (dk_at dksX10_count_4 20 rfl rfl)
theorem dX10_count_165 : decode cX10_count 165 = .ok (.getfield 137, 3) := dk_180 0 137 (dk_at dksX10_count_4 21 rfl rfl)
theorem dX10_count_168 : decode cX10_count 168 = .ok (.bipush 76, 2) := dk_16 76 (dk_at dksX10_count_5 0 rfl rfl)
theorem dX10_count_170 : decode cX10_count 170 = .ok (.iaload, 1) := dk_46 (dk_at dksX10_count_5 2 rfl rfl)
theorem dX10_count_171 : decode cX10_count 171 = .ok (.ireturn, 1) := dk_172 (dk_at dksX10_count_5 3 rfl rfl)
theorem dX10_count_172 : decode cX10_count 172 = .ok (.aload_n 0, 1) := dk_42 (dk_at dksX10_count_5 4 rfl rfl)
theorem dX10_count_173 : decode cX10_count 173 = .ok (.bipush 27, 2) := dk_16 27 (dk_at dksX10_count_5 5 rfl rfl)
theorem dX10_count_175 : decode cX10_count 175 = .ok (.aload_n 0, 1) := dk_42 (dk_at dksX10_count_5 7 rfl rfl)
theorem dX10_count_176 : decode cX10_count 176 = .ok (.getfield 67, 3) := dk_180 0 67 (dk_at dksX10_count_5 8 rfl rfl)
theorem dX10_count_179 : decode cX10_count 179 = .ok (.aload_n 0, 1) := dk_42 (dk_at dksX10_count_5 11 rfl rfl)
theorem dX10_count_180 : decode cX10_count 180 = .ok (.getfield 242, 3) := dk_180 0 242 (dk_at dksX10_count_5 12 rfl rfl)
theorem dX10_count_183 : decode cX10_count 183 = .ok (.iaload, 1) := dk_46 (dk_at dksX10_count_5 15 rfl rfl)
theorem dX10_count_184 : decode cX10_count 184 = .ok (.iconst 1, 1) := dk_4 (dk_at dksX10_count_5 16 rfl rfl)
theorem dX10_count_185 : decode cX10_count 185 = .ok (.invokevirtual 403, 3) := dk_182 1 147 (dk_at dksX10_count_5 17 rfl rfl)
theorem dX10_count_188 : decode cX10_count 188 = .ok (.ireturn, 1) := dk_172 (dk_at dksX10_count_5 20 rfl rfl)
theorem dX10_count_189 : decode cX10_count 189 = .ok (.aload_n 0, 1) := dk_42 (dk_at dksX10_count_5 21 rfl rfl)
theorem dX10_count_190 : decode cX10_count 190 = .ok (.getfield 137, 3) := dk_180 0 137 (dk_at dksX10_count_6 0 rfl rfl)
theorem dX10_count_193 : decode cX10_count 193 = .ok (.bipush 75, 2) := dk_16 75 (dk_at dksX10_count_6 3 rfl rfl)
theorem dX10_count_195 : decode cX10_count 195 = .ok (.iaload, 1) := dk_46 (dk_at dksX10_count_6 5 rfl rfl)
theorem dX10_count_196 : decode cX10_count 196 = .ok (.ireturn, 1) := dk_172 (dk_at dksX10_count_6 6 rfl rfl)
theorem dX10_count_197 : decode cX10_count 197 = .ok (.aload_n 0, 1) := dk_42 (dk_at dksX10_count_6 7 rfl rfl)
theorem dX10_count_198 : decode cX10_count 198 = .ok (.iconst 5, 1) := dk_8 (dk_at dksX10_count_6 8 rfl rfl)
theorem dX10_count_199 : decode cX10_count 199 = .ok (.iconst 5, 1) := dk_8 (dk_at dksX10_count_6 9 rfl rfl)
theorem dX10_count_200 : decode cX10_count 200 = .ok (.invokevirtual 449, 3) := dk_182 1 193 (dk_at dksX10_count_6 10 rfl rfl)
theorem dX10_count_203 : decode cX10_count 203 = .ok (.ireturn, 1) := dk_172 (dk_at dksX10_count_6 13 rfl rfl)
theorem dX10_count_204 : decode cX10_count 204 = .ok (.aload_n 0, 1) := dk_42 (dk_at dksX10_count_6 14 rfl rfl)
theorem dX10_count_205 : decode cX10_count 205 = .ok (.getfield 175, 3) := dk_180 0 175 (dk_at dksX10_count_6 15 rfl rfl)
theorem dX10_count_208 : decode cX10_count 208 = .ok (.ireturn, 1) := dk_172 (dk_at dksX10_count_6 18 rfl rfl)
theorem dX10_count_209 : decode cX10_count 209 = .ok (.aload_n 0, 1) := dk_42 (dk_at dksX10_count_6 19 rfl rfl)
theorem dX10_count_210 : decode cX10_count 210 = .ok (.getfield 263, 3) := dk_180 1 7 (dk_at dksX10_count_6 20 rfl rfl)
theorem dX10_count_213 : decode cX10_count 213 = .ok (.ireturn, 1) := dk_172 (dk_at dksX10_count_6 23 rfl rfl)
theorem dX10_count_214 : decode cX10_count 214 = .ok (.aload_n 0, 1) := dk_42 (dk_at dksX10_count_7 0 rfl rfl)
theorem dX10_count_215 : decode cX10_count 215 = .ok (.getfield 266, 3) := dk_180 1 10 (dk_at dksX10_count_7 1 rfl rfl)
theorem dX10_count_218 : decode cX10_count 218 = .ok (.ireturn, 1) := dk_172 (dk_at dksX10_count_7 4 rfl rfl)
theorem dX10_count_219 : decode cX10_count 219 = .ok (.aload_n 0, 1) := dk_42 (dk_at dksX10_count_7 5 rfl rfl)
theorem dX10_count_220 : decode cX10_count 220 = .ok (.getfield 155, 3) := dk_180 0 155 (dk_at dksX10_count_7 6 rfl rfl)
theorem dX10_count_223 : decode cX10_count 223 = .ok (.iconst 0, 1) := dk_3 (dk_at dksX10_count_7 9 rfl rfl)
theorem dX10_count_224 : decode cX10_count 224 = .ok (.baload, 1) := dk_51 (dk_at dksX10_count_7 10 rfl rfl)
theorem dX10_count_225 : decode cX10_count 225 = .ok (.ifCond .eq 7, 3) := dk_153 0 7 (dk_at dksX10_count_7 11 rfl rfl)
theorem dX10_count_228 : decode cX10_count 228 = .ok (.iconst 1, 1) := dk_4 (dk_at dksX10_count_7 14 rfl rfl)
theorem dX10_count_229 : decode cX10_count 229 = .ok (.goto 4, 3) := dk_167 0 4 (dk_at dksX10_count_7 15 rfl rfl)
theorem dX10_count_232 : decode cX10_count 232 = .ok (.iconst 0, 1) := dk_3 (dk_at dksX10_count_7 18 rfl rfl)
theorem dX10_count_233 : decode cX10_count 233 = .ok (.aload_n 0, 1) := dk_42 (dk_at dksX10_count_7 19 rfl rfl)
theorem dX10_count_234 : decode cX10_count 234 = .ok (.getfield 155, 3) := dk_180 0 155 (dk_at dksX10_count_7 20 rfl rfl)
theorem dX10_count_237 : decode cX10_count 237 = .ok (.iconst 1, 1) := dk_4 (dk_at dksX10_count_7 23 rfl rfl)
theorem dX10_count_238 : decode cX10_count 238 = .ok (.baload, 1) := dk_51 (dk_at dksX10_count_8 0 rfl rfl)
theorem dX10_count_239 : decode cX10_count 239 = .ok (.ifCond .eq 7, 3) := dk_153 0 7 (dk_at dksX10_count_8 1 rfl rfl)
theorem dX10_count_242 : decode cX10_count 242 = .ok (.iconst 1, 1) := dk_4 (dk_at dksX10_count_8 4 rfl rfl)
theorem dX10_count_243 : decode cX10_count 243 = .ok (.goto 4, 3) := dk_167 0 4 (dk_at dksX10_count_8 5 rfl rfl)
theorem dX10_count_246 : decode cX10_count 246 = .ok (.iconst 0, 1) := dk_3 (dk_at dksX10_count_8 8 rfl rfl)
theorem dX10_count_247 : decode cX10_count 247 = .ok (.iadd, 1) := dk_96 (dk_at dksX10_count_8 9 rfl rfl)
theorem dX10_count_248 : decode cX10_count 248 = .ok (.aload_n 0, 1) := dk_42 (dk_at dksX10_count_8 10 rfl rfl)
theorem dX10_count_249 : decode cX10_count 249 = .ok (.getfield 155, 3) := dk_180 0 155 (dk_at dksX10_count_8 11 rfl rfl)
theorem dX10_count_252 : decode cX10_count 252 = .ok (.iconst 2, 1) := dk_5 (dk_at dksX10_count_8 14 rfl rfl)
theorem dX10_count_253 : decode cX10_count 253 = .ok (.baload, 1) := dk_51 (dk_at dksX10_count_8 15 rfl rfl)
theorem dX10_count_254 : decode cX10_count 254 = .ok (.ifCond .eq 7, 3) := dk_153 0 7 (dk_at dksX10_count_8 16 rfl rfl)
theorem dX10_count_257 : decode cX10_count 257 = .ok (.iconst 1, 1) := dk_4 (dk_at dksX10_count_8 19 rfl rfl)
theorem dX10_count_258 : decode cX10_count 258 = .ok (.goto 4, 3) := dk_167 0 4 (dk_at dksX10_count_8 20 rfl rfl)
theorem dX10_count_261 : decode cX10_count 261 = .ok (.iconst 0, 1) := dk_3 (dk_at dksX10_count_8 23 rfl rfl)
theorem dX10_count_262 : decode cX10_count 262 = .ok (.iadd, 1) := dk_96 (dk_at dksX10_count_9 0 rfl rfl)
theorem dX10_count_263 : decode cX10_count 263 = .ok (.ireturn, 1) := dk_172 (dk_at dksX10_count_9 1 rfl rfl)
theorem dX10_count_264 : decode cX10_count 264 = .ok (.aload_n 0, 1) := dk_42 (dk_at dksX10_count_9 2 rfl rfl)
theorem dX10_count_265 : decode cX10_count 265 = .ok (.bipush 31, 2) := dk_16 31 (dk_at dksX10_count_9 3 rfl rfl)
theorem dX10_count_267 : decode cX10_count 267 = .ok (.iconst 4, 1) := dk_7 (dk_at dksX10_count_9 5 rfl rfl)
theorem dX10_count_268 : decode cX10_count 268 = .ok (.invokevirtual 449, 3) := dk_182 1 193 (dk_at dksX10_count_9 6 rfl rfl)
theorem dX10_count_271 : decode cX10_count 271 = .ok (.ireturn, 1) := dk_172 (dk_at dksX10_count_9 9 rfl rfl)
theorem dX10_count_272 : decode cX10_count 272 = .ok (.aload_n 0, 1) := dk_42 (dk_at dksX10_count_9 10 rfl rfl)
theorem dX10_count_273 : decode cX10_count 273 = .ok (.bipush 23, 2) := dk_16 23 (dk_at dksX10_count_9 11 rfl rfl)
theorem dX10_count_275 : decode cX10_count 275 = .ok (.iconst 4, 1) := dk_7 (dk_at dksX10_count_9 13 rfl rfl)
theorem dX10_count_276 : decode cX10_count 276 = .ok (.invokevirtual 449, 3) := dk_182 1 193 (dk_at dksX10_count_9 14 rfl rfl)
theorem dX10_count_279 : decode cX10_count 279 = .ok (.ireturn, 1) := dk_172 (dk_at dksX10_count_9 17 rfl rfl)
theorem dX10_count_280 : decode cX10_count 280 = .ok (.aload_n 0, 1) := dk_42 (dk_at dksX10_count_9 18 rfl rfl)
theorem dX10_count_281 : decode cX10_count 281 = .ok (.bipush 10, 2) := dk_16 10 (dk_at dksX10_count_9 19 rfl rfl)
theorem dX10_count_283 : decode cX10_count 283 = .ok (.iconst 5, 1) := dk_8 (dk_at dksX10_count_9 21 rfl rfl)
theorem dX10_count_284 : decode cX10_count 284 = .ok (.invokevirtual 449, 3) := dk_182 1 193 (dk_at dksX10_count_10 0 rfl rfl)
theorem dX10_count_287 : decode cX10_count 287 = .ok (.ireturn, 1) := dk_172 (dk_at dksX10_count_10 3 rfl rfl)
theorem dX10_count_288 : decode cX10_count 288 = .ok (.aload_n 0, 1) := dk_42 (dk_at dksX10_count_10 4 rfl rfl)
theorem dX10_count_289 : decode cX10_count 289 = .ok (.bipush 55, 2) := dk_16 55 (dk_at dksX10_count_10 5 rfl rfl)
theorem dX10_count_291 : decode cX10_count 291 = .ok (.bipush 20, 2) := dk_16 20 (dk_at dksX10_count_10 7 rfl rfl)
theorem dX10_count_293 : decode cX10_count 293 = .ok (.invokevirtual 449, 3) := dk_182 1 193 (dk_at dksX10_count_10 9 rfl rfl)
theorem dX10_count_296 : decode cX10_count 296 = .ok (.ireturn, 1) := dk_172 (dk_at dksX10_count_10 12 rfl rfl)
theorem dX10_count_297 : decode cX10_count 297 = .ok (.iconst (-1), 1) := dk_2 (dk_at dksX10_count_10 13 rfl rfl)
theorem dX10_count_298 : decode cX10_count 298 = .ok (.ireturn, 1) := dk_172 (dk_at dksX10_count_10 14 rfl rfl)
abbrev cX10_sumNow : ByteArray := prog_21_method_110_code
def yX10_sumNow : MethodName := ⟨RX10, "sumNow", "(II)I"⟩
def dkwX10_sumNow_1 : List UInt8 := [132, 4, 1, 167, 255, 235, 29, 172]
abbrev dktX10_sumNow_1 : List UInt8 := dkwX10_sumNow_1 ++ []
def dkwX10_sumNow_0 : List UInt8 := [3, 62, 27, 54, 4, 21, 4, 27, 28, 96, 162, 0, 19, 29, 42, 180, 0, 134, 21, 4, 46, 96, 62]
abbrev dktX10_sumNow_0 : List UInt8 := dkwX10_sumNow_0 ++ dktX10_sumNow_1
theorem dksX10_sumNow_0 : cX10_sumNow.data.toList.drop 0 = dktX10_sumNow_0 := by decide +kernel
theorem dksX10_sumNow_1 : cX10_sumNow.data.toList.drop 23 = dktX10_sumNow_1 := dk_seg dksX10_sumNow_0 23 rfl rfl
theorem dX10_sumNow_0 : decode cX10_sumNow 0 = .ok (.iconst 0, 1) := dk_3 (dk_at dksX10_sumNow_0 0 rfl rfl)
theorem dX10_sumNow_1 : decode cX10_sumNow 1 = .ok (.istore_n 3, 1) := dk_62 (dk_at dksX10_sumNow_0 1 rfl rfl)
theorem dX10_sumNow_2 : decode cX10_sumNow 2 = .ok (.iload_n 1, 1) := dk_27 (dk_at dksX10_sumNow_0 2 rfl rfl)
theorem dX10_sumNow_3 : decode cX10_sumNow 3 = .ok (.istore 4, 2) := dk_54 4 (dk_at dksX10_sumNow_0 3 rfl rfl)
theorem dX10_sumNow_5 : decode cX10_sumNow 5 = .ok (.iload 4, 2) := dk_21 4 (dk_at dksX10_sumNow_0 5 rfl rfl)
theorem dX10_sumNow_7 : decode cX10_sumNow 7 = .ok (.iload_n 1, 1) := dk_27 (dk_at dksX10_sumNow_0 7 rfl rfl)
theorem dX10_sumNow_8 : decode cX10_sumNow 8 = .ok (.iload_n 2, 1) := dk_28 (dk_at dksX10_sumNow_0 8 rfl rfl)
theorem dX10_sumNow_9 : decode cX10_sumNow 9 = .ok (.iadd, 1) := dk_96 (dk_at dksX10_sumNow_0 9 rfl rfl)
theorem dX10_sumNow_10 : decode cX10_sumNow 10 = .ok (.if_icmp .ge 19, 3) := dk_162 0 19 (dk_at dksX10_sumNow_0 10 rfl rfl)
theorem dX10_sumNow_13 : decode cX10_sumNow 13 = .ok (.iload_n 3, 1) := dk_29 (dk_at dksX10_sumNow_0 13 rfl rfl)
theorem dX10_sumNow_14 : decode cX10_sumNow 14 = .ok (.aload_n 0, 1) := dk_42 (dk_at dksX10_sumNow_0 14 rfl rfl)
theorem dX10_sumNow_15 : decode cX10_sumNow 15 = .ok (.getfield 134, 3) := dk_180 0 134 (dk_at dksX10_sumNow_0 15 rfl rfl)
theorem dX10_sumNow_18 : decode cX10_sumNow 18 = .ok (.iload 4, 2) := dk_21 4 (dk_at dksX10_sumNow_0 18 rfl rfl)
theorem dX10_sumNow_20 : decode cX10_sumNow 20 = .ok (.iaload, 1) := dk_46 (dk_at dksX10_sumNow_0 20 rfl rfl)
theorem dX10_sumNow_21 : decode cX10_sumNow 21 = .ok (.iadd, 1) := dk_96 (dk_at dksX10_sumNow_0 21 rfl rfl)
theorem dX10_sumNow_22 : decode cX10_sumNow 22 = .ok (.istore_n 3, 1) := dk_62 (dk_at dksX10_sumNow_0 22 rfl rfl)
theorem dX10_sumNow_23 : decode cX10_sumNow 23 = .ok (.iinc 4 1, 3) := dk_132 4 1 (dk_at dksX10_sumNow_1 0 rfl rfl)
theorem dX10_sumNow_26 : decode cX10_sumNow 26 = .ok (.goto (-21), 3) := dk_167 255 235 (dk_at dksX10_sumNow_1 3 rfl rfl)
theorem dX10_sumNow_29 : decode cX10_sumNow 29 = .ok (.iload_n 3, 1) := dk_29 (dk_at dksX10_sumNow_1 6 rfl rfl)
theorem dX10_sumNow_30 : decode cX10_sumNow 30 = .ok (.ireturn, 1) := dk_172 (dk_at dksX10_sumNow_1 7 rfl rfl)
theorem q139 : (Jvm.Cond.initialized "DogsHourModel") ∈ lw_all := lw_g (lw_at lw_m1 19 rfl) rfl
theorem q1090 : (Jvm.Cond.selects "DogsHourModel" ({ cls := "java/lang/Object", name := "getClass", desc := "()Ljava/lang/Class;" } : Jvm.MethodName) ({ cls := "java/lang/Object", name := "getClass", desc := "()Ljava/lang/Class;" } : Jvm.MethodName)) ∈ lw_all := lw_g (lw_at lw_m5 10 rfl) rfl
theorem q1524 : (Jvm.Cond.instantiable "DogsHourModel" (67 : Nat)) ∈ lw_all := lw_g (lw_at lw_m6 204 rfl) rfl
theorem q1526 : (Jvm.Cond.instanceMethod ({ cls := "DogsHourModel", name := "<init>", desc := "()V" } : Jvm.MethodName)) ∈ lw_all := lw_g (lw_at lw_m6 206 rfl) rfl
theorem q1527 : (Jvm.Cond.code ({ cls := "DogsHourModel", name := "<init>", desc := "()V" } : Jvm.MethodName) prog_21_method_2_code (1 : Nat) (Option.none : Option Jvm.ClassFile.FieldType)) ∈ lw_all := lw_g (lw_at lw_m6 207 rfl) rfl
theorem q1528 : (Jvm.Cond.methodLink "DogsHourModel" (7 : Nat) ({ cls := "java/lang/Object", name := "<init>", desc := "()V" } : Jvm.MethodName)) ∈ lw_all := lw_g (lw_at lw_m6 208 rfl) rfl
theorem q1529 : (Jvm.Cond.methodLink "DogsHourModel" (161 : Nat) ({ cls := "DogsHourModel", name := "plain", desc := "(I)V" } : Jvm.MethodName)) ∈ lw_all := lw_g (lw_at lw_m6 209 rfl) rfl
theorem q1530 : (Jvm.Cond.privateMethod ({ cls := "DogsHourModel", name := "plain", desc := "(I)V" } : Jvm.MethodName)) ∈ lw_tbl := lw_at lw_m6 210 rfl
theorem q1531 : (Jvm.Cond.instanceMethod ({ cls := "DogsHourModel", name := "plain", desc := "(I)V" } : Jvm.MethodName)) ∈ lw_all := lw_g (lw_at lw_m6 211 rfl) rfl
theorem q1532 : (Jvm.Cond.code ({ cls := "DogsHourModel", name := "plain", desc := "(I)V" } : Jvm.MethodName) prog_21_method_19_code (3 : Nat) (Option.none : Option Jvm.ClassFile.FieldType)) ∈ lw_all := lw_g (lw_at lw_m6 212 rfl) rfl
theorem q1533 : (Jvm.Cond.methodLink "DogsHourModel" (165 : Nat) ({ cls := "DogsHourModel", name := "word", desc := "(IIIIIII)J" } : Jvm.MethodName)) ∈ lw_all := lw_g (lw_at lw_m6 213 rfl) rfl
theorem q1534 : (Jvm.Cond.static ({ cls := "DogsHourModel", name := "word", desc := "(IIIIIII)J" } : Jvm.MethodName)) ∈ lw_all := lw_g (lw_at lw_m6 214 rfl) rfl
theorem q1535 : (Jvm.Cond.code ({ cls := "DogsHourModel", name := "word", desc := "(IIIIIII)J" } : Jvm.MethodName) prog_21_method_10_code (7 : Nat) (Option.some Jvm.ClassFile.FieldType.long)) ∈ lw_all := lw_g (lw_at lw_m6 215 rfl) rfl
theorem q1536 : (Jvm.Cond.methodLink "DogsHourModel" (186 : Nat) ({ cls := "DogsHourModel", name := "appends", desc := "(JI)J" } : Jvm.MethodName)) ∈ lw_all := lw_g (lw_at lw_m6 216 rfl) rfl
theorem q1537 : (Jvm.Cond.static ({ cls := "DogsHourModel", name := "appends", desc := "(JI)J" } : Jvm.MethodName)) ∈ lw_all := lw_g (lw_at lw_m6 217 rfl) rfl
theorem q1538 : (Jvm.Cond.code ({ cls := "DogsHourModel", name := "appends", desc := "(JI)J" } : Jvm.MethodName) prog_21_method_9_code (3 : Nat) (Option.some Jvm.ClassFile.FieldType.long)) ∈ lw_all := lw_g (lw_at lw_m6 218 rfl) rfl
theorem q1539 : (Jvm.Cond.constantLong "DogsHourModel" (184 : Nat) (27 : Int64)) ∈ lw_all := lw_g (lw_at lw_m6 219 rfl) rfl
theorem q1540 : (Jvm.Cond.methodLink "DogsHourModel" (169 : Nat) ({ cls := "DogsHourModel", name := "begins", desc := "()V" } : Jvm.MethodName)) ∈ lw_all := lw_g (lw_at lw_m6 220 rfl) rfl
theorem q1541 : (Jvm.Cond.privateMethod ({ cls := "DogsHourModel", name := "begins", desc := "()V" } : Jvm.MethodName)) ∈ lw_tbl := lw_at lw_m6 221 rfl
theorem q1542 : (Jvm.Cond.instanceMethod ({ cls := "DogsHourModel", name := "begins", desc := "()V" } : Jvm.MethodName)) ∈ lw_all := lw_g (lw_at lw_m6 222 rfl) rfl
theorem q1543 : (Jvm.Cond.code ({ cls := "DogsHourModel", name := "begins", desc := "()V" } : Jvm.MethodName) prog_21_method_47_code (2 : Nat) (Option.none : Option Jvm.ClassFile.FieldType)) ∈ lw_all := lw_g (lw_at lw_m6 223 rfl) rfl
theorem q1544 : (Jvm.Cond.methodLink "DogsHourModel" (172 : Nat) ({ cls := "DogsHourModel", name := "keepsRow", desc := "()V" } : Jvm.MethodName)) ∈ lw_all := lw_g (lw_at lw_m6 224 rfl) rfl
theorem q1545 : (Jvm.Cond.privateMethod ({ cls := "DogsHourModel", name := "keepsRow", desc := "()V" } : Jvm.MethodName)) ∈ lw_tbl := lw_at lw_m6 225 rfl
theorem q1546 : (Jvm.Cond.instanceMethod ({ cls := "DogsHourModel", name := "keepsRow", desc := "()V" } : Jvm.MethodName)) ∈ lw_all := lw_g (lw_at lw_m6 226 rfl) rfl
theorem q1547 : (Jvm.Cond.code ({ cls := "DogsHourModel", name := "keepsRow", desc := "()V" } : Jvm.MethodName) prog_21_method_48_code (2 : Nat) (Option.none : Option Jvm.ClassFile.FieldType)) ∈ lw_all := lw_g (lw_at lw_m6 227 rfl) rfl
theorem q1548 : (Jvm.Cond.fieldLink "DogsHourModel" (13 : Nat) "DogsHourModel" "tape" "[B") ∈ lw_all := lw_g (lw_at lw_m6 228 rfl) rfl
theorem q1549 : (Jvm.Cond.fieldLink "DogsHourModel" (175 : Nat) "DogsHourModel" "taped" "I") ∈ lw_all := lw_g (lw_at lw_m6 229 rfl) rfl
theorem q1550 : (Jvm.Cond.fieldLink "DogsHourModel" (17 : Nat) "DogsHourModel" "text" "[B") ∈ lw_all := lw_g (lw_at lw_m6 230 rfl) rfl
theorem q1551 : (Jvm.Cond.fieldLink "DogsHourModel" (181 : Nat) "DogsHourModel" "size" "I") ∈ lw_all := lw_g (lw_at lw_m6 231 rfl) rfl
theorem q1552 : (Jvm.Cond.fieldLink "DogsHourModel" (20 : Nat) "DogsHourModel" "tKind" "[I") ∈ lw_all := lw_g (lw_at lw_m6 232 rfl) rfl
theorem q1553 : (Jvm.Cond.fieldLink "DogsHourModel" (24 : Nat) "DogsHourModel" "tPlace" "[I") ∈ lw_all := lw_g (lw_at lw_m6 233 rfl) rfl
theorem q1554 : (Jvm.Cond.fieldLink "DogsHourModel" (27 : Nat) "DogsHourModel" "tValue" "[I") ∈ lw_all := lw_g (lw_at lw_m6 234 rfl) rfl
theorem q1555 : (Jvm.Cond.fieldLink "DogsHourModel" (30 : Nat) "DogsHourModel" "tName" "[J") ∈ lw_all := lw_g (lw_at lw_m6 235 rfl) rfl
theorem q1556 : (Jvm.Cond.fieldLink "DogsHourModel" (34 : Nat) "DogsHourModel" "keys" "[J") ∈ lw_all := lw_g (lw_at lw_m6 236 rfl) rfl
theorem q1557 : (Jvm.Cond.fieldLink "DogsHourModel" (190 : Nat) "DogsHourModel" "tokens" "I") ∈ lw_all := lw_g (lw_at lw_m6 237 rfl) rfl
theorem q1558 : (Jvm.Cond.fieldLink "DogsHourModel" (215 : Nat) "DogsHourModel" "t" "I") ∈ lw_all := lw_g (lw_at lw_m6 238 rfl) rfl
theorem q1559 : (Jvm.Cond.fieldLink "DogsHourModel" (239 : Nat) "DogsHourModel" "open" "I") ∈ lw_all := lw_g (lw_at lw_m6 239 rfl) rfl
theorem q1560 : (Jvm.Cond.fieldLink "DogsHourModel" (212 : Nat) "DogsHourModel" "fault" "I") ∈ lw_all := lw_g (lw_at lw_m7 0 rfl) rfl
theorem q1561 : (Jvm.Cond.fieldLink "DogsHourModel" (218 : Nat) "DogsHourModel" "faultPlace" "I") ∈ lw_all := lw_g (lw_at lw_m7 1 rfl) rfl
theorem q1562 : (Jvm.Cond.fieldLink "DogsHourModel" (221 : Nat) "DogsHourModel" "worst" "I") ∈ lw_all := lw_g (lw_at lw_m7 2 rfl) rfl
theorem q1563 : (Jvm.Cond.fieldLink "DogsHourModel" (224 : Nat) "DogsHourModel" "worstPlace" "I") ∈ lw_all := lw_g (lw_at lw_m7 3 rfl) rfl
theorem q1564 : (Jvm.Cond.fieldLink "DogsHourModel" (37 : Nat) "DogsHourModel" "place" "I") ∈ lw_all := lw_g (lw_at lw_m7 4 rfl) rfl
theorem q1565 : (Jvm.Cond.fieldLink "DogsHourModel" (242 : Nat) "DogsHourModel" "live" "I") ∈ lw_all := lw_g (lw_at lw_m7 5 rfl) rfl
theorem q1566 : (Jvm.Cond.fieldLink "DogsHourModel" (245 : Nat) "DogsHourModel" "side" "I") ∈ lw_all := lw_g (lw_at lw_m7 6 rfl) rfl
theorem q1567 : (Jvm.Cond.fieldLink "DogsHourModel" (248 : Nat) "DogsHourModel" "names" "I") ∈ lw_all := lw_g (lw_at lw_m7 7 rfl) rfl
theorem q1568 : (Jvm.Cond.fieldLink "DogsHourModel" (40 : Nat) "DogsHourModel" "nameOf" "[J") ∈ lw_all := lw_g (lw_at lw_m7 8 rfl) rfl
theorem q1569 : (Jvm.Cond.fieldLink "DogsHourModel" (43 : Nat) "DogsHourModel" "nameAt" "[I") ∈ lw_all := lw_g (lw_at lw_m7 9 rfl) rfl
theorem q1570 : (Jvm.Cond.fieldLink "DogsHourModel" (46 : Nat) "DogsHourModel" "places" "[I") ∈ lw_all := lw_g (lw_at lw_m7 10 rfl) rfl
theorem q1571 : (Jvm.Cond.fieldLink "DogsHourModel" (49 : Nat) "DogsHourModel" "nextTo" "[I") ∈ lw_all := lw_g (lw_at lw_m7 11 rfl) rfl
theorem q1572 : (Jvm.Cond.fieldLink "DogsHourModel" (52 : Nat) "DogsHourModel" "paths" "[I") ∈ lw_all := lw_g (lw_at lw_m7 12 rfl) rfl
theorem q1573 : (Jvm.Cond.fieldLink "DogsHourModel" (55 : Nat) "DogsHourModel" "dogs" "[I") ∈ lw_all := lw_g (lw_at lw_m7 13 rfl) rfl
theorem q1574 : (Jvm.Cond.fieldLink "DogsHourModel" (58 : Nat) "DogsHourModel" "kennelOf" "[I") ∈ lw_all := lw_g (lw_at lw_m7 14 rfl) rfl
theorem q1575 : (Jvm.Cond.fieldLink "DogsHourModel" (61 : Nat) "DogsHourModel" "biteOf" "[I") ∈ lw_all := lw_g (lw_at lw_m7 15 rfl) rfl
theorem q1576 : (Jvm.Cond.fieldLink "DogsHourModel" (64 : Nat) "DogsHourModel" "hungerOf" "[I") ∈ lw_all := lw_g (lw_at lw_m7 16 rfl) rfl
theorem q1577 : (Jvm.Cond.fieldLink "DogsHourModel" (67 : Nat) "DogsHourModel" "people" "[I") ∈ lw_all := lw_g (lw_at lw_m7 17 rfl) rfl
theorem q1578 : (Jvm.Cond.fieldLink "DogsHourModel" (70 : Nat) "DogsHourModel" "homeOf" "[I") ∈ lw_all := lw_g (lw_at lw_m7 18 rfl) rfl
theorem q1579 : (Jvm.Cond.fieldLink "DogsHourModel" (73 : Nat) "DogsHourModel" "pocketTold" "[I") ∈ lw_all := lw_g (lw_at lw_m7 19 rfl) rfl
theorem q1580 : (Jvm.Cond.fieldLink "DogsHourModel" (76 : Nat) "DogsHourModel" "errands" "[I") ∈ lw_all := lw_g (lw_at lw_m7 20 rfl) rfl
theorem q1581 : (Jvm.Cond.fieldLink "DogsHourModel" (79 : Nat) "DogsHourModel" "whoGoes" "[I") ∈ lw_all := lw_g (lw_at lw_m7 21 rfl) rfl
theorem q1582 : (Jvm.Cond.fieldLink "DogsHourModel" (82 : Nat) "DogsHourModel" "whereTo" "[I") ∈ lw_all := lw_g (lw_at lw_m7 22 rfl) rfl
theorem q1583 : (Jvm.Cond.fieldLink "DogsHourModel" (85 : Nat) "DogsHourModel" "hourFrom" "[I") ∈ lw_all := lw_g (lw_at lw_m7 23 rfl) rfl
theorem q1584 : (Jvm.Cond.fieldLink "DogsHourModel" (88 : Nat) "DogsHourModel" "hourTill" "[I") ∈ lw_all := lw_g (lw_at lw_m7 24 rfl) rfl
theorem q1585 : (Jvm.Cond.fieldLink "DogsHourModel" (91 : Nat) "DogsHourModel" "startsAt" "[I") ∈ lw_all := lw_g (lw_at lw_m7 25 rfl) rfl
theorem q1586 : (Jvm.Cond.fieldLink "DogsHourModel" (94 : Nat) "DogsHourModel" "lawFirst" "[I") ∈ lw_all := lw_g (lw_at lw_m7 26 rfl) rfl
theorem q1587 : (Jvm.Cond.fieldLink "DogsHourModel" (97 : Nat) "DogsHourModel" "lawLast" "[I") ∈ lw_all := lw_g (lw_at lw_m7 27 rfl) rfl
theorem q1588 : (Jvm.Cond.fieldLink "DogsHourModel" (251 : Nat) "DogsHourModel" "branches" "I") ∈ lw_all := lw_g (lw_at lw_m7 28 rfl) rfl
theorem q1589 : (Jvm.Cond.fieldLink "DogsHourModel" (100 : Nat) "DogsHourModel" "hasTest" "[Z") ∈ lw_all := lw_g (lw_at lw_m7 29 rfl) rfl
theorem q1590 : (Jvm.Cond.fieldLink "DogsHourModel" (104 : Nat) "DogsHourModel" "testFrom" "[I") ∈ lw_all := lw_g (lw_at lw_m7 30 rfl) rfl
theorem q1591 : (Jvm.Cond.fieldLink "DogsHourModel" (107 : Nat) "DogsHourModel" "testMid" "[I") ∈ lw_all := lw_g (lw_at lw_m7 31 rfl) rfl
theorem q1592 : (Jvm.Cond.fieldLink "DogsHourModel" (110 : Nat) "DogsHourModel" "testTo" "[I") ∈ lw_all := lw_g (lw_at lw_m7 32 rfl) rfl
theorem q1593 : (Jvm.Cond.fieldLink "DogsHourModel" (113 : Nat) "DogsHourModel" "termTo" "[I") ∈ lw_all := lw_g (lw_at lw_m7 33 rfl) rfl
theorem q1594 : (Jvm.Cond.fieldLink "DogsHourModel" (254 : Nat) "DogsHourModel" "codes" "I") ∈ lw_all := lw_g (lw_at lw_m7 34 rfl) rfl
theorem q1595 : (Jvm.Cond.fieldLink "DogsHourModel" (116 : Nat) "DogsHourModel" "code" "[I") ∈ lw_all := lw_g (lw_at lw_m7 35 rfl) rfl
theorem q1596 : (Jvm.Cond.fieldLink "DogsHourModel" (119 : Nat) "DogsHourModel" "codeInt" "[I") ∈ lw_all := lw_g (lw_at lw_m7 36 rfl) rfl
theorem q1597 : (Jvm.Cond.fieldLink "DogsHourModel" (122 : Nat) "DogsHourModel" "waits" "[I") ∈ lw_all := lw_g (lw_at lw_m7 37 rfl) rfl
theorem q1598 : (Jvm.Cond.fieldLink "DogsHourModel" (317 : Nat) "DogsHourModel" "waiting" "I") ∈ lw_all := lw_g (lw_at lw_m7 38 rfl) rfl
theorem q1599 : (Jvm.Cond.fieldLink "DogsHourModel" (125 : Nat) "DogsHourModel" "variables" "[I") ∈ lw_all := lw_g (lw_at lw_m7 39 rfl) rfl
theorem q1600 : (Jvm.Cond.fieldLink "DogsHourModel" (128 : Nat) "DogsHourModel" "pile" "[I") ∈ lw_all := lw_g (lw_at lw_m7 40 rfl) rfl
theorem q1601 : (Jvm.Cond.fieldLink "DogsHourModel" (330 : Nat) "DogsHourModel" "isBroken" "Z") ∈ lw_all := lw_g (lw_at lw_m7 41 rfl) rfl
theorem q1602 : (Jvm.Cond.fieldLink "DogsHourModel" (131 : Nat) "DogsHourModel" "steps" "[I") ∈ lw_all := lw_g (lw_at lw_m7 42 rfl) rfl
theorem q1603 : (Jvm.Cond.fieldLink "DogsHourModel" (134 : Nat) "DogsHourModel" "now" "[I") ∈ lw_all := lw_g (lw_at lw_m7 43 rfl) rfl
theorem q1604 : (Jvm.Cond.fieldLink "DogsHourModel" (137 : Nat) "DogsHourModel" "row" "[I") ∈ lw_all := lw_g (lw_at lw_m7 44 rfl) rfl
theorem q1605 : (Jvm.Cond.fieldLink "DogsHourModel" (263 : Nat) "DogsHourModel" "undos" "I") ∈ lw_all := lw_g (lw_at lw_m7 45 rfl) rfl
theorem q1606 : (Jvm.Cond.fieldLink "DogsHourModel" (140 : Nat) "DogsHourModel" "history" "[I") ∈ lw_all := lw_g (lw_at lw_m7 46 rfl) rfl
theorem q1607 : (Jvm.Cond.fieldLink "DogsHourModel" (143 : Nat) "DogsHourModel" "roundBy" "[I") ∈ lw_all := lw_g (lw_at lw_m7 47 rfl) rfl
theorem q1608 : (Jvm.Cond.fieldLink "DogsHourModel" (266 : Nat) "DogsHourModel" "tolds" "I") ∈ lw_all := lw_g (lw_at lw_m7 48 rfl) rfl
theorem q1609 : (Jvm.Cond.fieldLink "DogsHourModel" (146 : Nat) "DogsHourModel" "toldWho" "[I") ∈ lw_all := lw_g (lw_at lw_m7 49 rfl) rfl
theorem q1610 : (Jvm.Cond.fieldLink "DogsHourModel" (149 : Nat) "DogsHourModel" "toldWas" "[Z") ∈ lw_all := lw_g (lw_at lw_m7 50 rfl) rfl
theorem q1611 : (Jvm.Cond.fieldLink "DogsHourModel" (152 : Nat) "DogsHourModel" "fetchedBy" "[I") ∈ lw_all := lw_g (lw_at lw_m7 51 rfl) rfl
theorem q1612 : (Jvm.Cond.fieldLink "DogsHourModel" (155 : Nat) "DogsHourModel" "isHeld" "[Z") ∈ lw_all := lw_g (lw_at lw_m7 52 rfl) rfl
theorem q1613 : (Jvm.Cond.fieldLink "DogsHourModel" (158 : Nat) "DogsHourModel" "heldRows" "[I") ∈ lw_all := lw_g (lw_at lw_m7 53 rfl) rfl
theorem q1614 : (Jvm.Cond.lays "DogsHourModel" "DogsHourModel" "thrown" "I") ∈ lw_all := lw_g (lw_at lw_m7 54 rfl) rfl
theorem q1615 : (Jvm.Cond.soleField "DogsHourModel" "thrown") ∈ lw_all := lw_g (lw_at lw_m7 55 rfl) rfl
theorem q1616 : (Jvm.Cond.laysFinal "DogsHourModel" "DogsHourModel" "tape" "[B") ∈ lw_all := lw_g (lw_at lw_m7 56 rfl) rfl
theorem q1617 : (Jvm.Cond.soleField "DogsHourModel" "tape") ∈ lw_all := lw_g (lw_at lw_m7 57 rfl) rfl
theorem q1618 : (Jvm.Cond.lays "DogsHourModel" "DogsHourModel" "taped" "I") ∈ lw_all := lw_g (lw_at lw_m7 58 rfl) rfl
theorem q1619 : (Jvm.Cond.soleField "DogsHourModel" "taped") ∈ lw_all := lw_g (lw_at lw_m7 59 rfl) rfl
theorem q1620 : (Jvm.Cond.laysFinal "DogsHourModel" "DogsHourModel" "text" "[B") ∈ lw_all := lw_g (lw_at lw_m7 60 rfl) rfl
theorem q1621 : (Jvm.Cond.soleField "DogsHourModel" "text") ∈ lw_all := lw_g (lw_at lw_m7 61 rfl) rfl
theorem q1622 : (Jvm.Cond.lays "DogsHourModel" "DogsHourModel" "size" "I") ∈ lw_all := lw_g (lw_at lw_m7 62 rfl) rfl
theorem q1623 : (Jvm.Cond.soleField "DogsHourModel" "size") ∈ lw_all := lw_g (lw_at lw_m7 63 rfl) rfl
theorem q1624 : (Jvm.Cond.laysFinal "DogsHourModel" "DogsHourModel" "tKind" "[I") ∈ lw_all := lw_g (lw_at lw_m7 64 rfl) rfl
theorem q1625 : (Jvm.Cond.soleField "DogsHourModel" "tKind") ∈ lw_all := lw_g (lw_at lw_m7 65 rfl) rfl
theorem q1626 : (Jvm.Cond.laysFinal "DogsHourModel" "DogsHourModel" "tPlace" "[I") ∈ lw_all := lw_g (lw_at lw_m7 66 rfl) rfl
theorem q1627 : (Jvm.Cond.soleField "DogsHourModel" "tPlace") ∈ lw_all := lw_g (lw_at lw_m7 67 rfl) rfl
theorem q1628 : (Jvm.Cond.laysFinal "DogsHourModel" "DogsHourModel" "tValue" "[I") ∈ lw_all := lw_g (lw_at lw_m7 68 rfl) rfl
theorem q1629 : (Jvm.Cond.soleField "DogsHourModel" "tValue") ∈ lw_all := lw_g (lw_at lw_m7 69 rfl) rfl
theorem q1630 : (Jvm.Cond.laysFinal "DogsHourModel" "DogsHourModel" "tName" "[J") ∈ lw_all := lw_g (lw_at lw_m7 70 rfl) rfl
theorem q1631 : (Jvm.Cond.soleField "DogsHourModel" "tName") ∈ lw_all := lw_g (lw_at lw_m7 71 rfl) rfl
theorem q1632 : (Jvm.Cond.laysFinal "DogsHourModel" "DogsHourModel" "keys" "[J") ∈ lw_all := lw_g (lw_at lw_m7 72 rfl) rfl
theorem q1633 : (Jvm.Cond.soleField "DogsHourModel" "keys") ∈ lw_all := lw_g (lw_at lw_m7 73 rfl) rfl
theorem q1634 : (Jvm.Cond.lays "DogsHourModel" "DogsHourModel" "tokens" "I") ∈ lw_all := lw_g (lw_at lw_m7 74 rfl) rfl
theorem q1635 : (Jvm.Cond.soleField "DogsHourModel" "tokens") ∈ lw_all := lw_g (lw_at lw_m7 75 rfl) rfl
theorem q1636 : (Jvm.Cond.lays "DogsHourModel" "DogsHourModel" "t" "I") ∈ lw_all := lw_g (lw_at lw_m7 76 rfl) rfl
theorem q1637 : (Jvm.Cond.soleField "DogsHourModel" "t") ∈ lw_all := lw_g (lw_at lw_m7 77 rfl) rfl
theorem q1638 : (Jvm.Cond.lays "DogsHourModel" "DogsHourModel" "open" "I") ∈ lw_all := lw_g (lw_at lw_m7 78 rfl) rfl
theorem q1639 : (Jvm.Cond.soleField "DogsHourModel" "open") ∈ lw_all := lw_g (lw_at lw_m7 79 rfl) rfl
theorem q1640 : (Jvm.Cond.lays "DogsHourModel" "DogsHourModel" "fault" "I") ∈ lw_all := lw_g (lw_at lw_m7 80 rfl) rfl
theorem q1641 : (Jvm.Cond.soleField "DogsHourModel" "fault") ∈ lw_all := lw_g (lw_at lw_m7 81 rfl) rfl
theorem q1642 : (Jvm.Cond.lays "DogsHourModel" "DogsHourModel" "faultPlace" "I") ∈ lw_all := lw_g (lw_at lw_m7 82 rfl) rfl
theorem q1643 : (Jvm.Cond.soleField "DogsHourModel" "faultPlace") ∈ lw_all := lw_g (lw_at lw_m7 83 rfl) rfl
theorem q1644 : (Jvm.Cond.lays "DogsHourModel" "DogsHourModel" "worst" "I") ∈ lw_all := lw_g (lw_at lw_m7 84 rfl) rfl
theorem q1645 : (Jvm.Cond.soleField "DogsHourModel" "worst") ∈ lw_all := lw_g (lw_at lw_m7 85 rfl) rfl
theorem q1646 : (Jvm.Cond.lays "DogsHourModel" "DogsHourModel" "worstPlace" "I") ∈ lw_all := lw_g (lw_at lw_m7 86 rfl) rfl
theorem q1647 : (Jvm.Cond.soleField "DogsHourModel" "worstPlace") ∈ lw_all := lw_g (lw_at lw_m7 87 rfl) rfl
theorem q1648 : (Jvm.Cond.lays "DogsHourModel" "DogsHourModel" "place" "I") ∈ lw_all := lw_g (lw_at lw_m7 88 rfl) rfl
theorem q1649 : (Jvm.Cond.soleField "DogsHourModel" "place") ∈ lw_all := lw_g (lw_at lw_m7 89 rfl) rfl
theorem q1650 : (Jvm.Cond.lays "DogsHourModel" "DogsHourModel" "live" "I") ∈ lw_all := lw_g (lw_at lw_m7 90 rfl) rfl
theorem q1651 : (Jvm.Cond.soleField "DogsHourModel" "live") ∈ lw_all := lw_g (lw_at lw_m7 91 rfl) rfl
theorem q1652 : (Jvm.Cond.lays "DogsHourModel" "DogsHourModel" "side" "I") ∈ lw_all := lw_g (lw_at lw_m7 92 rfl) rfl
theorem q1653 : (Jvm.Cond.soleField "DogsHourModel" "side") ∈ lw_all := lw_g (lw_at lw_m7 93 rfl) rfl
theorem q1654 : (Jvm.Cond.lays "DogsHourModel" "DogsHourModel" "names" "I") ∈ lw_all := lw_g (lw_at lw_m7 94 rfl) rfl
theorem q1655 : (Jvm.Cond.soleField "DogsHourModel" "names") ∈ lw_all := lw_g (lw_at lw_m7 95 rfl) rfl
theorem q1656 : (Jvm.Cond.laysFinal "DogsHourModel" "DogsHourModel" "nameOf" "[J") ∈ lw_all := lw_g (lw_at lw_m7 96 rfl) rfl
theorem q1657 : (Jvm.Cond.soleField "DogsHourModel" "nameOf") ∈ lw_all := lw_g (lw_at lw_m7 97 rfl) rfl
theorem q1658 : (Jvm.Cond.laysFinal "DogsHourModel" "DogsHourModel" "nameAt" "[I") ∈ lw_all := lw_g (lw_at lw_m7 98 rfl) rfl
theorem q1659 : (Jvm.Cond.soleField "DogsHourModel" "nameAt") ∈ lw_all := lw_g (lw_at lw_m7 99 rfl) rfl
theorem q1660 : (Jvm.Cond.laysFinal "DogsHourModel" "DogsHourModel" "places" "[I") ∈ lw_all := lw_g (lw_at lw_m7 100 rfl) rfl
theorem q1661 : (Jvm.Cond.soleField "DogsHourModel" "places") ∈ lw_all := lw_g (lw_at lw_m7 101 rfl) rfl
theorem q1662 : (Jvm.Cond.laysFinal "DogsHourModel" "DogsHourModel" "nextTo" "[I") ∈ lw_all := lw_g (lw_at lw_m7 102 rfl) rfl
theorem q1663 : (Jvm.Cond.soleField "DogsHourModel" "nextTo") ∈ lw_all := lw_g (lw_at lw_m7 103 rfl) rfl
theorem q1664 : (Jvm.Cond.laysFinal "DogsHourModel" "DogsHourModel" "paths" "[I") ∈ lw_all := lw_g (lw_at lw_m7 104 rfl) rfl
theorem q1665 : (Jvm.Cond.soleField "DogsHourModel" "paths") ∈ lw_all := lw_g (lw_at lw_m7 105 rfl) rfl
theorem q1666 : (Jvm.Cond.laysFinal "DogsHourModel" "DogsHourModel" "dogs" "[I") ∈ lw_all := lw_g (lw_at lw_m7 106 rfl) rfl
theorem q1667 : (Jvm.Cond.soleField "DogsHourModel" "dogs") ∈ lw_all := lw_g (lw_at lw_m7 107 rfl) rfl
theorem q1668 : (Jvm.Cond.laysFinal "DogsHourModel" "DogsHourModel" "kennelOf" "[I") ∈ lw_all := lw_g (lw_at lw_m7 108 rfl) rfl
theorem q1669 : (Jvm.Cond.soleField "DogsHourModel" "kennelOf") ∈ lw_all := lw_g (lw_at lw_m7 109 rfl) rfl
theorem q1670 : (Jvm.Cond.laysFinal "DogsHourModel" "DogsHourModel" "biteOf" "[I") ∈ lw_all := lw_g (lw_at lw_m7 110 rfl) rfl
theorem q1671 : (Jvm.Cond.soleField "DogsHourModel" "biteOf") ∈ lw_all := lw_g (lw_at lw_m7 111 rfl) rfl
theorem q1672 : (Jvm.Cond.laysFinal "DogsHourModel" "DogsHourModel" "hungerOf" "[I") ∈ lw_all := lw_g (lw_at lw_m7 112 rfl) rfl
theorem q1673 : (Jvm.Cond.soleField "DogsHourModel" "hungerOf") ∈ lw_all := lw_g (lw_at lw_m7 113 rfl) rfl
theorem q1674 : (Jvm.Cond.laysFinal "DogsHourModel" "DogsHourModel" "people" "[I") ∈ lw_all := lw_g (lw_at lw_m7 114 rfl) rfl
theorem q1675 : (Jvm.Cond.soleField "DogsHourModel" "people") ∈ lw_all := lw_g (lw_at lw_m7 115 rfl) rfl
theorem q1676 : (Jvm.Cond.laysFinal "DogsHourModel" "DogsHourModel" "homeOf" "[I") ∈ lw_all := lw_g (lw_at lw_m7 116 rfl) rfl
theorem q1677 : (Jvm.Cond.soleField "DogsHourModel" "homeOf") ∈ lw_all := lw_g (lw_at lw_m7 117 rfl) rfl
theorem q1678 : (Jvm.Cond.laysFinal "DogsHourModel" "DogsHourModel" "pocketTold" "[I") ∈ lw_all := lw_g (lw_at lw_m7 118 rfl) rfl
theorem q1679 : (Jvm.Cond.soleField "DogsHourModel" "pocketTold") ∈ lw_all := lw_g (lw_at lw_m7 119 rfl) rfl
theorem q1680 : (Jvm.Cond.laysFinal "DogsHourModel" "DogsHourModel" "errands" "[I") ∈ lw_all := lw_g (lw_at lw_m7 120 rfl) rfl
theorem q1681 : (Jvm.Cond.soleField "DogsHourModel" "errands") ∈ lw_all := lw_g (lw_at lw_m7 121 rfl) rfl
theorem q1682 : (Jvm.Cond.laysFinal "DogsHourModel" "DogsHourModel" "whoGoes" "[I") ∈ lw_all := lw_g (lw_at lw_m7 122 rfl) rfl
theorem q1683 : (Jvm.Cond.soleField "DogsHourModel" "whoGoes") ∈ lw_all := lw_g (lw_at lw_m7 123 rfl) rfl
theorem q1684 : (Jvm.Cond.laysFinal "DogsHourModel" "DogsHourModel" "whereTo" "[I") ∈ lw_all := lw_g (lw_at lw_m7 124 rfl) rfl
theorem q1685 : (Jvm.Cond.soleField "DogsHourModel" "whereTo") ∈ lw_all := lw_g (lw_at lw_m7 125 rfl) rfl
theorem q1686 : (Jvm.Cond.laysFinal "DogsHourModel" "DogsHourModel" "hourFrom" "[I") ∈ lw_all := lw_g (lw_at lw_m7 126 rfl) rfl
theorem q1687 : (Jvm.Cond.soleField "DogsHourModel" "hourFrom") ∈ lw_all := lw_g (lw_at lw_m7 127 rfl) rfl
theorem q1688 : (Jvm.Cond.laysFinal "DogsHourModel" "DogsHourModel" "hourTill" "[I") ∈ lw_all := lw_g (lw_at lw_m7 128 rfl) rfl
theorem q1689 : (Jvm.Cond.soleField "DogsHourModel" "hourTill") ∈ lw_all := lw_g (lw_at lw_m7 129 rfl) rfl
theorem q1690 : (Jvm.Cond.laysFinal "DogsHourModel" "DogsHourModel" "startsAt" "[I") ∈ lw_all := lw_g (lw_at lw_m7 130 rfl) rfl
theorem q1691 : (Jvm.Cond.soleField "DogsHourModel" "startsAt") ∈ lw_all := lw_g (lw_at lw_m7 131 rfl) rfl
theorem q1692 : (Jvm.Cond.laysFinal "DogsHourModel" "DogsHourModel" "lawFirst" "[I") ∈ lw_all := lw_g (lw_at lw_m7 132 rfl) rfl
theorem q1693 : (Jvm.Cond.soleField "DogsHourModel" "lawFirst") ∈ lw_all := lw_g (lw_at lw_m7 133 rfl) rfl
theorem q1694 : (Jvm.Cond.laysFinal "DogsHourModel" "DogsHourModel" "lawLast" "[I") ∈ lw_all := lw_g (lw_at lw_m7 134 rfl) rfl
theorem q1695 : (Jvm.Cond.soleField "DogsHourModel" "lawLast") ∈ lw_all := lw_g (lw_at lw_m7 135 rfl) rfl
theorem q1696 : (Jvm.Cond.lays "DogsHourModel" "DogsHourModel" "branches" "I") ∈ lw_all := lw_g (lw_at lw_m7 136 rfl) rfl
theorem q1697 : (Jvm.Cond.soleField "DogsHourModel" "branches") ∈ lw_all := lw_g (lw_at lw_m7 137 rfl) rfl
theorem q1698 : (Jvm.Cond.laysFinal "DogsHourModel" "DogsHourModel" "hasTest" "[Z") ∈ lw_all := lw_g (lw_at lw_m7 138 rfl) rfl
theorem q1699 : (Jvm.Cond.soleField "DogsHourModel" "hasTest") ∈ lw_all := lw_g (lw_at lw_m7 139 rfl) rfl
theorem q1700 : (Jvm.Cond.laysFinal "DogsHourModel" "DogsHourModel" "testFrom" "[I") ∈ lw_all := lw_g (lw_at lw_m7 140 rfl) rfl
theorem q1701 : (Jvm.Cond.soleField "DogsHourModel" "testFrom") ∈ lw_all := lw_g (lw_at lw_m7 141 rfl) rfl
theorem q1702 : (Jvm.Cond.laysFinal "DogsHourModel" "DogsHourModel" "testMid" "[I") ∈ lw_all := lw_g (lw_at lw_m7 142 rfl) rfl
theorem q1703 : (Jvm.Cond.soleField "DogsHourModel" "testMid") ∈ lw_all := lw_g (lw_at lw_m7 143 rfl) rfl
theorem q1704 : (Jvm.Cond.laysFinal "DogsHourModel" "DogsHourModel" "testTo" "[I") ∈ lw_all := lw_g (lw_at lw_m7 144 rfl) rfl
theorem q1705 : (Jvm.Cond.soleField "DogsHourModel" "testTo") ∈ lw_all := lw_g (lw_at lw_m7 145 rfl) rfl
theorem q1706 : (Jvm.Cond.laysFinal "DogsHourModel" "DogsHourModel" "termTo" "[I") ∈ lw_all := lw_g (lw_at lw_m7 146 rfl) rfl
theorem q1707 : (Jvm.Cond.soleField "DogsHourModel" "termTo") ∈ lw_all := lw_g (lw_at lw_m7 147 rfl) rfl
theorem q1708 : (Jvm.Cond.lays "DogsHourModel" "DogsHourModel" "codes" "I") ∈ lw_all := lw_g (lw_at lw_m7 148 rfl) rfl
theorem q1709 : (Jvm.Cond.soleField "DogsHourModel" "codes") ∈ lw_all := lw_g (lw_at lw_m7 149 rfl) rfl
theorem q1710 : (Jvm.Cond.laysFinal "DogsHourModel" "DogsHourModel" "code" "[I") ∈ lw_all := lw_g (lw_at lw_m7 150 rfl) rfl
theorem q1711 : (Jvm.Cond.soleField "DogsHourModel" "code") ∈ lw_all := lw_g (lw_at lw_m7 151 rfl) rfl
theorem q1712 : (Jvm.Cond.laysFinal "DogsHourModel" "DogsHourModel" "codeInt" "[I") ∈ lw_all := lw_g (lw_at lw_m7 152 rfl) rfl
theorem q1713 : (Jvm.Cond.soleField "DogsHourModel" "codeInt") ∈ lw_all := lw_g (lw_at lw_m7 153 rfl) rfl
theorem q1714 : (Jvm.Cond.laysFinal "DogsHourModel" "DogsHourModel" "waits" "[I") ∈ lw_all := lw_g (lw_at lw_m7 154 rfl) rfl
theorem q1715 : (Jvm.Cond.soleField "DogsHourModel" "waits") ∈ lw_all := lw_g (lw_at lw_m7 155 rfl) rfl
theorem q1716 : (Jvm.Cond.lays "DogsHourModel" "DogsHourModel" "waiting" "I") ∈ lw_all := lw_g (lw_at lw_m7 156 rfl) rfl
theorem q1717 : (Jvm.Cond.soleField "DogsHourModel" "waiting") ∈ lw_all := lw_g (lw_at lw_m7 157 rfl) rfl
theorem q1718 : (Jvm.Cond.laysFinal "DogsHourModel" "DogsHourModel" "variables" "[I") ∈ lw_all := lw_g (lw_at lw_m7 158 rfl) rfl
theorem q1719 : (Jvm.Cond.soleField "DogsHourModel" "variables") ∈ lw_all := lw_g (lw_at lw_m7 159 rfl) rfl
theorem q1720 : (Jvm.Cond.laysFinal "DogsHourModel" "DogsHourModel" "pile" "[I") ∈ lw_all := lw_g (lw_at lw_m7 160 rfl) rfl
theorem q1721 : (Jvm.Cond.soleField "DogsHourModel" "pile") ∈ lw_all := lw_g (lw_at lw_m7 161 rfl) rfl
theorem q1722 : (Jvm.Cond.lays "DogsHourModel" "DogsHourModel" "isBroken" "Z") ∈ lw_all := lw_g (lw_at lw_m7 162 rfl) rfl
theorem q1723 : (Jvm.Cond.soleField "DogsHourModel" "isBroken") ∈ lw_all := lw_g (lw_at lw_m7 163 rfl) rfl
theorem q1724 : (Jvm.Cond.laysFinal "DogsHourModel" "DogsHourModel" "steps" "[I") ∈ lw_all := lw_g (lw_at lw_m7 164 rfl) rfl
theorem q1725 : (Jvm.Cond.soleField "DogsHourModel" "steps") ∈ lw_all := lw_g (lw_at lw_m7 165 rfl) rfl
theorem q1726 : (Jvm.Cond.laysFinal "DogsHourModel" "DogsHourModel" "now" "[I") ∈ lw_all := lw_g (lw_at lw_m7 166 rfl) rfl
theorem q1727 : (Jvm.Cond.soleField "DogsHourModel" "now") ∈ lw_all := lw_g (lw_at lw_m7 167 rfl) rfl
theorem q1728 : (Jvm.Cond.laysFinal "DogsHourModel" "DogsHourModel" "row" "[I") ∈ lw_all := lw_g (lw_at lw_m7 168 rfl) rfl
theorem q1729 : (Jvm.Cond.soleField "DogsHourModel" "row") ∈ lw_all := lw_g (lw_at lw_m7 169 rfl) rfl
theorem q1730 : (Jvm.Cond.lays "DogsHourModel" "DogsHourModel" "undos" "I") ∈ lw_all := lw_g (lw_at lw_m7 170 rfl) rfl
theorem q1731 : (Jvm.Cond.soleField "DogsHourModel" "undos") ∈ lw_all := lw_g (lw_at lw_m7 171 rfl) rfl
theorem q1732 : (Jvm.Cond.laysFinal "DogsHourModel" "DogsHourModel" "history" "[I") ∈ lw_all := lw_g (lw_at lw_m7 172 rfl) rfl
theorem q1733 : (Jvm.Cond.soleField "DogsHourModel" "history") ∈ lw_all := lw_g (lw_at lw_m7 173 rfl) rfl
theorem q1734 : (Jvm.Cond.laysFinal "DogsHourModel" "DogsHourModel" "roundBy" "[I") ∈ lw_all := lw_g (lw_at lw_m7 174 rfl) rfl
theorem q1735 : (Jvm.Cond.soleField "DogsHourModel" "roundBy") ∈ lw_all := lw_g (lw_at lw_m7 175 rfl) rfl
theorem q1736 : (Jvm.Cond.lays "DogsHourModel" "DogsHourModel" "tolds" "I") ∈ lw_all := lw_g (lw_at lw_m7 176 rfl) rfl
theorem q1737 : (Jvm.Cond.soleField "DogsHourModel" "tolds") ∈ lw_all := lw_g (lw_at lw_m7 177 rfl) rfl
theorem q1738 : (Jvm.Cond.laysFinal "DogsHourModel" "DogsHourModel" "toldWho" "[I") ∈ lw_all := lw_g (lw_at lw_m7 178 rfl) rfl
theorem q1739 : (Jvm.Cond.soleField "DogsHourModel" "toldWho") ∈ lw_all := lw_g (lw_at lw_m7 179 rfl) rfl
theorem q1740 : (Jvm.Cond.laysFinal "DogsHourModel" "DogsHourModel" "toldWas" "[Z") ∈ lw_all := lw_g (lw_at lw_m7 180 rfl) rfl
theorem q1741 : (Jvm.Cond.soleField "DogsHourModel" "toldWas") ∈ lw_all := lw_g (lw_at lw_m7 181 rfl) rfl
theorem q1742 : (Jvm.Cond.laysFinal "DogsHourModel" "DogsHourModel" "fetchedBy" "[I") ∈ lw_all := lw_g (lw_at lw_m7 182 rfl) rfl
theorem q1743 : (Jvm.Cond.soleField "DogsHourModel" "fetchedBy") ∈ lw_all := lw_g (lw_at lw_m7 183 rfl) rfl
theorem q1744 : (Jvm.Cond.laysFinal "DogsHourModel" "DogsHourModel" "isHeld" "[Z") ∈ lw_all := lw_g (lw_at lw_m7 184 rfl) rfl
theorem q1745 : (Jvm.Cond.soleField "DogsHourModel" "isHeld") ∈ lw_all := lw_g (lw_at lw_m7 185 rfl) rfl
theorem q1746 : (Jvm.Cond.laysFinal "DogsHourModel" "DogsHourModel" "heldRows" "[I") ∈ lw_all := lw_g (lw_at lw_m7 186 rfl) rfl
theorem q1747 : (Jvm.Cond.soleField "DogsHourModel" "heldRows") ∈ lw_all := lw_g (lw_at lw_m7 187 rfl) rfl
theorem q1748 : (Jvm.Cond.superclass "DogsHourModel" "java/lang/Object") ∈ lw_all := lw_g (lw_at lw_m7 188 rfl) rfl
theorem q1751 : (Jvm.Cond.instanceMethod ({ cls := "DogsHourModel", name := "feed", desc := "(IIIII)I" } : Jvm.MethodName)) ∈ lw_all := lw_g (lw_at lw_m7 191 rfl) rfl
theorem q1752 : (Jvm.Cond.selects "DogsHourModel" ({ cls := "DogsHourModel", name := "feed", desc := "(IIIII)I" } : Jvm.MethodName) ({ cls := "DogsHourModel", name := "feed", desc := "(IIIII)I" } : Jvm.MethodName)) ∈ lw_all := lw_g (lw_at lw_m7 192 rfl) rfl
theorem q1753 : (Jvm.Cond.code ({ cls := "DogsHourModel", name := "feed", desc := "(IIIII)I" } : Jvm.MethodName) prog_21_method_3_code (6 : Nat) (Option.some Jvm.ClassFile.FieldType.int)) ∈ lw_all := lw_g (lw_at lw_m7 193 rfl) rfl
theorem q1754 : (Jvm.Cond.methodLink "DogsHourModel" (178 : Nat) ({ cls := "DogsHourModel", name := "put", desc := "(I)V" } : Jvm.MethodName)) ∈ lw_all := lw_g (lw_at lw_m7 194 rfl) rfl
theorem q1755 : (Jvm.Cond.privateMethod ({ cls := "DogsHourModel", name := "put", desc := "(I)V" } : Jvm.MethodName)) ∈ lw_tbl := lw_at lw_m7 195 rfl
theorem q1756 : (Jvm.Cond.instanceMethod ({ cls := "DogsHourModel", name := "put", desc := "(I)V" } : Jvm.MethodName)) ∈ lw_all := lw_g (lw_at lw_m7 196 rfl) rfl
theorem q1757 : (Jvm.Cond.code ({ cls := "DogsHourModel", name := "put", desc := "(I)V" } : Jvm.MethodName) prog_21_method_4_code (3 : Nat) (Option.none : Option Jvm.ClassFile.FieldType)) ∈ lw_all := lw_g (lw_at lw_m7 197 rfl) rfl
theorem q1759 : (Jvm.Cond.instanceMethod ({ cls := "DogsHourModel", name := "back", desc := "(I)I" } : Jvm.MethodName)) ∈ lw_all := lw_g (lw_at lw_m7 199 rfl) rfl
theorem q1760 : (Jvm.Cond.selects "DogsHourModel" ({ cls := "DogsHourModel", name := "back", desc := "(I)I" } : Jvm.MethodName) ({ cls := "DogsHourModel", name := "back", desc := "(I)I" } : Jvm.MethodName)) ∈ lw_all := lw_g (lw_at lw_m7 200 rfl) rfl
theorem q1761 : (Jvm.Cond.code ({ cls := "DogsHourModel", name := "back", desc := "(I)I" } : Jvm.MethodName) prog_21_method_5_code (2 : Nat) (Option.some Jvm.ClassFile.FieldType.int)) ∈ lw_all := lw_g (lw_at lw_m7 201 rfl) rfl
theorem q1763 : (Jvm.Cond.instanceMethod ({ cls := "DogsHourModel", name := "read", desc := "()I" } : Jvm.MethodName)) ∈ lw_all := lw_g (lw_at lw_m7 203 rfl) rfl
theorem q1764 : (Jvm.Cond.selects "DogsHourModel" ({ cls := "DogsHourModel", name := "read", desc := "()I" } : Jvm.MethodName) ({ cls := "DogsHourModel", name := "read", desc := "()I" } : Jvm.MethodName)) ∈ lw_all := lw_g (lw_at lw_m7 204 rfl) rfl
theorem q1765 : (Jvm.Cond.code ({ cls := "DogsHourModel", name := "read", desc := "()I" } : Jvm.MethodName) prog_21_method_20_code (2 : Nat) (Option.some Jvm.ClassFile.FieldType.int)) ∈ lw_all := lw_g (lw_at lw_m7 205 rfl) rfl
theorem q1766 : (Jvm.Cond.methodLink "DogsHourModel" (236 : Nat) ({ cls := "DogsHourModel", name := "cut", desc := "()V" } : Jvm.MethodName)) ∈ lw_all := lw_g (lw_at lw_m7 206 rfl) rfl
theorem q1767 : (Jvm.Cond.privateMethod ({ cls := "DogsHourModel", name := "cut", desc := "()V" } : Jvm.MethodName)) ∈ lw_tbl := lw_at lw_m7 207 rfl
theorem q1768 : (Jvm.Cond.instanceMethod ({ cls := "DogsHourModel", name := "cut", desc := "()V" } : Jvm.MethodName)) ∈ lw_all := lw_g (lw_at lw_m7 208 rfl) rfl
theorem q1769 : (Jvm.Cond.code ({ cls := "DogsHourModel", name := "cut", desc := "()V" } : Jvm.MethodName) prog_21_method_12_code (8 : Nat) (Option.none : Option Jvm.ClassFile.FieldType)) ∈ lw_all := lw_g (lw_at lw_m7 209 rfl) rfl
theorem q1770 : (Jvm.Cond.methodLink "DogsHourModel" (193 : Nat) ({ cls := "DogsHourModel", name := "byteAt", desc := "(I)I" } : Jvm.MethodName)) ∈ lw_all := lw_g (lw_at lw_m7 210 rfl) rfl
theorem q1771 : (Jvm.Cond.privateMethod ({ cls := "DogsHourModel", name := "byteAt", desc := "(I)I" } : Jvm.MethodName)) ∈ lw_tbl := lw_at lw_m7 211 rfl
theorem q1772 : (Jvm.Cond.instanceMethod ({ cls := "DogsHourModel", name := "byteAt", desc := "(I)I" } : Jvm.MethodName)) ∈ lw_all := lw_g (lw_at lw_m7 212 rfl) rfl
theorem q1773 : (Jvm.Cond.code ({ cls := "DogsHourModel", name := "byteAt", desc := "(I)I" } : Jvm.MethodName) prog_21_method_6_code (2 : Nat) (Option.some Jvm.ClassFile.FieldType.int)) ∈ lw_all := lw_g (lw_at lw_m7 213 rfl) rfl
theorem q1774 : (Jvm.Cond.methodLink "DogsHourModel" (197 : Nat) ({ cls := "DogsHourModel", name := "token", desc := "(IIIJ)V" } : Jvm.MethodName)) ∈ lw_all := lw_g (lw_at lw_m7 214 rfl) rfl
theorem q1775 : (Jvm.Cond.privateMethod ({ cls := "DogsHourModel", name := "token", desc := "(IIIJ)V" } : Jvm.MethodName)) ∈ lw_tbl := lw_at lw_m7 215 rfl
theorem q1776 : (Jvm.Cond.instanceMethod ({ cls := "DogsHourModel", name := "token", desc := "(IIIJ)V" } : Jvm.MethodName)) ∈ lw_all := lw_g (lw_at lw_m7 216 rfl) rfl
theorem q1777 : (Jvm.Cond.code ({ cls := "DogsHourModel", name := "token", desc := "(IIIJ)V" } : Jvm.MethodName) prog_21_method_11_code (6 : Nat) (Option.none : Option Jvm.ClassFile.FieldType)) ∈ lw_all := lw_g (lw_at lw_m7 217 rfl) rfl
theorem q1778 : (Jvm.Cond.methodLink "DogsHourModel" (201 : Nat) ({ cls := "DogsHourModel", name := "isLetter", desc := "(I)Z" } : Jvm.MethodName)) ∈ lw_all := lw_g (lw_at lw_m7 218 rfl) rfl
theorem q1779 : (Jvm.Cond.static ({ cls := "DogsHourModel", name := "isLetter", desc := "(I)Z" } : Jvm.MethodName)) ∈ lw_all := lw_g (lw_at lw_m7 219 rfl) rfl
theorem q1780 : (Jvm.Cond.code ({ cls := "DogsHourModel", name := "isLetter", desc := "(I)Z" } : Jvm.MethodName) prog_21_method_8_code (1 : Nat) (Option.some Jvm.ClassFile.FieldType.boolean)) ∈ lw_all := lw_g (lw_at lw_m7 220 rfl) rfl
theorem q1781 : (Jvm.Cond.methodLink "DogsHourModel" (205 : Nat) ({ cls := "DogsHourModel", name := "isDigit", desc := "(I)Z" } : Jvm.MethodName)) ∈ lw_all := lw_g (lw_at lw_m7 221 rfl) rfl
theorem q1782 : (Jvm.Cond.static ({ cls := "DogsHourModel", name := "isDigit", desc := "(I)Z" } : Jvm.MethodName)) ∈ lw_all := lw_g (lw_at lw_m7 222 rfl) rfl
theorem q1783 : (Jvm.Cond.code ({ cls := "DogsHourModel", name := "isDigit", desc := "(I)Z" } : Jvm.MethodName) prog_21_method_7_code (1 : Nat) (Option.some Jvm.ClassFile.FieldType.boolean)) ∈ lw_all := lw_g (lw_at lw_m7 223 rfl) rfl
theorem q1784 : (Jvm.Cond.methodLink "DogsHourModel" (208 : Nat) ({ cls := "DogsHourModel", name := "sign", desc := "(III)I" } : Jvm.MethodName)) ∈ lw_all := lw_g (lw_at lw_m7 224 rfl) rfl
theorem q1785 : (Jvm.Cond.privateMethod ({ cls := "DogsHourModel", name := "sign", desc := "(III)I" } : Jvm.MethodName)) ∈ lw_tbl := lw_at lw_m7 225 rfl
theorem q1786 : (Jvm.Cond.instanceMethod ({ cls := "DogsHourModel", name := "sign", desc := "(III)I" } : Jvm.MethodName)) ∈ lw_all := lw_g (lw_at lw_m7 226 rfl) rfl
theorem q1787 : (Jvm.Cond.code ({ cls := "DogsHourModel", name := "sign", desc := "(III)I" } : Jvm.MethodName) prog_21_method_13_code (5 : Nat) (Option.some Jvm.ClassFile.FieldType.int)) ∈ lw_all := lw_g (lw_at lw_m7 227 rfl) rfl
theorem q1788 : (Jvm.Cond.methodLink "DogsHourModel" (230 : Nat) ({ cls := "DogsHourModel", name := "is", desc := "(I)Z" } : Jvm.MethodName)) ∈ lw_all := lw_g (lw_at lw_m7 228 rfl) rfl
theorem q1789 : (Jvm.Cond.privateMethod ({ cls := "DogsHourModel", name := "is", desc := "(I)Z" } : Jvm.MethodName)) ∈ lw_tbl := lw_at lw_m7 229 rfl
theorem q1790 : (Jvm.Cond.instanceMethod ({ cls := "DogsHourModel", name := "is", desc := "(I)Z" } : Jvm.MethodName)) ∈ lw_all := lw_g (lw_at lw_m7 230 rfl) rfl
theorem q1791 : (Jvm.Cond.code ({ cls := "DogsHourModel", name := "is", desc := "(I)Z" } : Jvm.MethodName) prog_21_method_14_code (2 : Nat) (Option.some Jvm.ClassFile.FieldType.boolean)) ∈ lw_all := lw_g (lw_at lw_m7 231 rfl) rfl
theorem q1792 : (Jvm.Cond.methodLink "DogsHourModel" (257 : Nat) ({ cls := "DogsHourModel", name := "tellOne", desc := "()V" } : Jvm.MethodName)) ∈ lw_all := lw_g (lw_at lw_m7 232 rfl) rfl
theorem q1793 : (Jvm.Cond.privateMethod ({ cls := "DogsHourModel", name := "tellOne", desc := "()V" } : Jvm.MethodName)) ∈ lw_tbl := lw_at lw_m7 233 rfl
theorem q1794 : (Jvm.Cond.instanceMethod ({ cls := "DogsHourModel", name := "tellOne", desc := "()V" } : Jvm.MethodName)) ∈ lw_all := lw_g (lw_at lw_m7 234 rfl) rfl
theorem q1795 : (Jvm.Cond.code ({ cls := "DogsHourModel", name := "tellOne", desc := "()V" } : Jvm.MethodName) prog_21_method_23_code (2 : Nat) (Option.none : Option Jvm.ClassFile.FieldType)) ∈ lw_all := lw_g (lw_at lw_m7 235 rfl) rfl
theorem q1796 : (Jvm.Cond.methodLink "DogsHourModel" (269 : Nat) ({ cls := "DogsHourModel", name := "roomFor", desc := "(II)V" } : Jvm.MethodName)) ∈ lw_all := lw_g (lw_at lw_m7 236 rfl) rfl
theorem q1797 : (Jvm.Cond.privateMethod ({ cls := "DogsHourModel", name := "roomFor", desc := "(II)V" } : Jvm.MethodName)) ∈ lw_tbl := lw_at lw_m7 237 rfl
theorem q1798 : (Jvm.Cond.instanceMethod ({ cls := "DogsHourModel", name := "roomFor", desc := "(II)V" } : Jvm.MethodName)) ∈ lw_all := lw_g (lw_at lw_m7 238 rfl) rfl
theorem q1799 : (Jvm.Cond.code ({ cls := "DogsHourModel", name := "roomFor", desc := "(II)V" } : Jvm.MethodName) prog_21_method_22_code (3 : Nat) (Option.none : Option Jvm.ClassFile.FieldType)) ∈ lw_all := lw_g (lw_at lw_m7 239 rfl) rfl
theorem q1800 : (Jvm.Cond.methodLink "DogsHourModel" (227 : Nat) ({ cls := "DogsHourModel", name := "fail", desc := "(I)V" } : Jvm.MethodName)) ∈ lw_all := lw_g (lw_at lw_m8 0 rfl) rfl
theorem q1801 : (Jvm.Cond.privateMethod ({ cls := "DogsHourModel", name := "fail", desc := "(I)V" } : Jvm.MethodName)) ∈ lw_tbl := lw_at lw_m8 1 rfl
theorem q1802 : (Jvm.Cond.instanceMethod ({ cls := "DogsHourModel", name := "fail", desc := "(I)V" } : Jvm.MethodName)) ∈ lw_all := lw_g (lw_at lw_m8 2 rfl) rfl
theorem q1803 : (Jvm.Cond.code ({ cls := "DogsHourModel", name := "fail", desc := "(I)V" } : Jvm.MethodName) prog_21_method_15_code (2 : Nat) (Option.none : Option Jvm.ClassFile.FieldType)) ∈ lw_all := lw_g (lw_at lw_m8 3 rfl) rfl
theorem q1804 : (Jvm.Cond.methodLink "DogsHourModel" (233 : Nat) ({ cls := "DogsHourModel", name := "goesOn", desc := "()V" } : Jvm.MethodName)) ∈ lw_all := lw_g (lw_at lw_m8 4 rfl) rfl
theorem q1805 : (Jvm.Cond.privateMethod ({ cls := "DogsHourModel", name := "goesOn", desc := "()V" } : Jvm.MethodName)) ∈ lw_tbl := lw_at lw_m8 5 rfl
theorem q1806 : (Jvm.Cond.instanceMethod ({ cls := "DogsHourModel", name := "goesOn", desc := "()V" } : Jvm.MethodName)) ∈ lw_all := lw_g (lw_at lw_m8 6 rfl) rfl
theorem q1807 : (Jvm.Cond.code ({ cls := "DogsHourModel", name := "goesOn", desc := "()V" } : Jvm.MethodName) prog_21_method_17_code (1 : Nat) (Option.none : Option Jvm.ClassFile.FieldType)) ∈ lw_all := lw_g (lw_at lw_m8 7 rfl) rfl
theorem q1808 : (Jvm.Cond.methodLink "DogsHourModel" (273 : Nat) ({ cls := "DogsHourModel", name := "named", desc := "()I" } : Jvm.MethodName)) ∈ lw_all := lw_g (lw_at lw_m8 8 rfl) rfl
theorem q1809 : (Jvm.Cond.privateMethod ({ cls := "DogsHourModel", name := "named", desc := "()I" } : Jvm.MethodName)) ∈ lw_tbl := lw_at lw_m8 9 rfl
theorem q1810 : (Jvm.Cond.instanceMethod ({ cls := "DogsHourModel", name := "named", desc := "()I" } : Jvm.MethodName)) ∈ lw_all := lw_g (lw_at lw_m8 10 rfl) rfl
theorem q1811 : (Jvm.Cond.code ({ cls := "DogsHourModel", name := "named", desc := "()I" } : Jvm.MethodName) prog_21_method_24_code (3 : Nat) (Option.some Jvm.ClassFile.FieldType.int)) ∈ lw_all := lw_g (lw_at lw_m8 11 rfl) rfl
theorem q1812 : (Jvm.Cond.methodLink "DogsHourModel" (299 : Nat) ({ cls := "DogsHourModel", name := "must", desc := "(I)V" } : Jvm.MethodName)) ∈ lw_all := lw_g (lw_at lw_m8 12 rfl) rfl
theorem q1813 : (Jvm.Cond.privateMethod ({ cls := "DogsHourModel", name := "must", desc := "(I)V" } : Jvm.MethodName)) ∈ lw_tbl := lw_at lw_m8 13 rfl
theorem q1814 : (Jvm.Cond.instanceMethod ({ cls := "DogsHourModel", name := "must", desc := "(I)V" } : Jvm.MethodName)) ∈ lw_all := lw_g (lw_at lw_m8 14 rfl) rfl
theorem q1815 : (Jvm.Cond.code ({ cls := "DogsHourModel", name := "must", desc := "(I)V" } : Jvm.MethodName) prog_21_method_18_code (2 : Nat) (Option.none : Option Jvm.ClassFile.FieldType)) ∈ lw_all := lw_g (lw_at lw_m8 15 rfl) rfl
theorem q1816 : (Jvm.Cond.methodLink "DogsHourModel" (296 : Nat) ({ cls := "DogsHourModel", name := "wrong", desc := "(II)V" } : Jvm.MethodName)) ∈ lw_all := lw_g (lw_at lw_m8 16 rfl) rfl
theorem q1817 : (Jvm.Cond.privateMethod ({ cls := "DogsHourModel", name := "wrong", desc := "(II)V" } : Jvm.MethodName)) ∈ lw_tbl := lw_at lw_m8 17 rfl
theorem q1818 : (Jvm.Cond.instanceMethod ({ cls := "DogsHourModel", name := "wrong", desc := "(II)V" } : Jvm.MethodName)) ∈ lw_all := lw_g (lw_at lw_m8 18 rfl) rfl
theorem q1819 : (Jvm.Cond.code ({ cls := "DogsHourModel", name := "wrong", desc := "(II)V" } : Jvm.MethodName) prog_21_method_16_code (4 : Nat) (Option.none : Option Jvm.ClassFile.FieldType)) ∈ lw_all := lw_g (lw_at lw_m8 19 rfl) rfl
theorem q1820 : (Jvm.Cond.methodLink "DogsHourModel" (277 : Nat) ({ cls := "DogsHourModel", name := "ends", desc := "(II)V" } : Jvm.MethodName)) ∈ lw_all := lw_g (lw_at lw_m8 20 rfl) rfl
theorem q1821 : (Jvm.Cond.privateMethod ({ cls := "DogsHourModel", name := "ends", desc := "(II)V" } : Jvm.MethodName)) ∈ lw_tbl := lw_at lw_m8 21 rfl
theorem q1822 : (Jvm.Cond.instanceMethod ({ cls := "DogsHourModel", name := "ends", desc := "(II)V" } : Jvm.MethodName)) ∈ lw_all := lw_g (lw_at lw_m8 22 rfl) rfl
theorem q1823 : (Jvm.Cond.code ({ cls := "DogsHourModel", name := "ends", desc := "(II)V" } : Jvm.MethodName) prog_21_method_25_code (3 : Nat) (Option.none : Option Jvm.ClassFile.FieldType)) ∈ lw_all := lw_g (lw_at lw_m8 23 rfl) rfl
theorem q1824 : (Jvm.Cond.methodLink "DogsHourModel" (280 : Nat) ({ cls := "DogsHourModel", name := "tellPath", desc := "()V" } : Jvm.MethodName)) ∈ lw_all := lw_g (lw_at lw_m8 24 rfl) rfl
theorem q1825 : (Jvm.Cond.privateMethod ({ cls := "DogsHourModel", name := "tellPath", desc := "()V" } : Jvm.MethodName)) ∈ lw_tbl := lw_at lw_m8 25 rfl
theorem q1826 : (Jvm.Cond.instanceMethod ({ cls := "DogsHourModel", name := "tellPath", desc := "()V" } : Jvm.MethodName)) ∈ lw_all := lw_g (lw_at lw_m8 26 rfl) rfl
theorem q1827 : (Jvm.Cond.code ({ cls := "DogsHourModel", name := "tellPath", desc := "()V" } : Jvm.MethodName) prog_21_method_29_code (5 : Nat) (Option.none : Option Jvm.ClassFile.FieldType)) ∈ lw_all := lw_g (lw_at lw_m8 27 rfl) rfl
theorem q1828 : (Jvm.Cond.methodLink "DogsHourModel" (308 : Nat) ({ cls := "DogsHourModel", name := "knownPlace", desc := "()I" } : Jvm.MethodName)) ∈ lw_all := lw_g (lw_at lw_m8 28 rfl) rfl
theorem q1829 : (Jvm.Cond.privateMethod ({ cls := "DogsHourModel", name := "knownPlace", desc := "()I" } : Jvm.MethodName)) ∈ lw_tbl := lw_at lw_m8 29 rfl
theorem q1830 : (Jvm.Cond.instanceMethod ({ cls := "DogsHourModel", name := "knownPlace", desc := "()I" } : Jvm.MethodName)) ∈ lw_all := lw_g (lw_at lw_m8 30 rfl) rfl
theorem q1831 : (Jvm.Cond.code ({ cls := "DogsHourModel", name := "knownPlace", desc := "()I" } : Jvm.MethodName) prog_21_method_27_code (1 : Nat) (Option.some Jvm.ClassFile.FieldType.int)) ∈ lw_all := lw_g (lw_at lw_m8 31 rfl) rfl
theorem q1832 : (Jvm.Cond.methodLink "DogsHourModel" (305 : Nat) ({ cls := "DogsHourModel", name := "known", desc := "(II)I" } : Jvm.MethodName)) ∈ lw_all := lw_g (lw_at lw_m8 32 rfl) rfl
theorem q1833 : (Jvm.Cond.privateMethod ({ cls := "DogsHourModel", name := "known", desc := "(II)I" } : Jvm.MethodName)) ∈ lw_tbl := lw_at lw_m8 33 rfl
theorem q1834 : (Jvm.Cond.instanceMethod ({ cls := "DogsHourModel", name := "known", desc := "(II)I" } : Jvm.MethodName)) ∈ lw_all := lw_g (lw_at lw_m8 34 rfl) rfl
theorem q1835 : (Jvm.Cond.code ({ cls := "DogsHourModel", name := "known", desc := "(II)I" } : Jvm.MethodName) prog_21_method_26_code (5 : Nat) (Option.some Jvm.ClassFile.FieldType.int)) ∈ lw_all := lw_g (lw_at lw_m8 35 rfl) rfl
theorem q1836 : (Jvm.Cond.methodLink "DogsHourModel" (283 : Nat) ({ cls := "DogsHourModel", name := "tellDog", desc := "()V" } : Jvm.MethodName)) ∈ lw_all := lw_g (lw_at lw_m8 36 rfl) rfl
theorem q1837 : (Jvm.Cond.privateMethod ({ cls := "DogsHourModel", name := "tellDog", desc := "()V" } : Jvm.MethodName)) ∈ lw_tbl := lw_at lw_m8 37 rfl
theorem q1838 : (Jvm.Cond.instanceMethod ({ cls := "DogsHourModel", name := "tellDog", desc := "()V" } : Jvm.MethodName)) ∈ lw_all := lw_g (lw_at lw_m8 38 rfl) rfl
theorem q1839 : (Jvm.Cond.code ({ cls := "DogsHourModel", name := "tellDog", desc := "()V" } : Jvm.MethodName) prog_21_method_30_code (3 : Nat) (Option.none : Option Jvm.ClassFile.FieldType)) ∈ lw_all := lw_g (lw_at lw_m8 39 rfl) rfl
theorem q1840 : (Jvm.Cond.methodLink "DogsHourModel" (292 : Nat) ({ cls := "DogsHourModel", name := "bounded", desc := "(II)I" } : Jvm.MethodName)) ∈ lw_all := lw_g (lw_at lw_m8 40 rfl) rfl
theorem q1841 : (Jvm.Cond.privateMethod ({ cls := "DogsHourModel", name := "bounded", desc := "(II)I" } : Jvm.MethodName)) ∈ lw_tbl := lw_at lw_m8 41 rfl
theorem q1842 : (Jvm.Cond.instanceMethod ({ cls := "DogsHourModel", name := "bounded", desc := "(II)I" } : Jvm.MethodName)) ∈ lw_all := lw_g (lw_at lw_m8 42 rfl) rfl
theorem q1843 : (Jvm.Cond.code ({ cls := "DogsHourModel", name := "bounded", desc := "(II)I" } : Jvm.MethodName) prog_21_method_28_code (4 : Nat) (Option.some Jvm.ClassFile.FieldType.int)) ∈ lw_all := lw_g (lw_at lw_m8 43 rfl) rfl
theorem q1844 : (Jvm.Cond.methodLink "DogsHourModel" (286 : Nat) ({ cls := "DogsHourModel", name := "tellPerson", desc := "()V" } : Jvm.MethodName)) ∈ lw_all := lw_g (lw_at lw_m8 44 rfl) rfl
theorem q1845 : (Jvm.Cond.privateMethod ({ cls := "DogsHourModel", name := "tellPerson", desc := "()V" } : Jvm.MethodName)) ∈ lw_tbl := lw_at lw_m8 45 rfl
theorem q1846 : (Jvm.Cond.instanceMethod ({ cls := "DogsHourModel", name := "tellPerson", desc := "()V" } : Jvm.MethodName)) ∈ lw_all := lw_g (lw_at lw_m8 46 rfl) rfl
theorem q1847 : (Jvm.Cond.code ({ cls := "DogsHourModel", name := "tellPerson", desc := "()V" } : Jvm.MethodName) prog_21_method_31_code (3 : Nat) (Option.none : Option Jvm.ClassFile.FieldType)) ∈ lw_all := lw_g (lw_at lw_m8 47 rfl) rfl
theorem q1848 : (Jvm.Cond.methodLink "DogsHourModel" (289 : Nat) ({ cls := "DogsHourModel", name := "tellErrand", desc := "()V" } : Jvm.MethodName)) ∈ lw_all := lw_g (lw_at lw_m8 48 rfl) rfl
theorem q1849 : (Jvm.Cond.privateMethod ({ cls := "DogsHourModel", name := "tellErrand", desc := "()V" } : Jvm.MethodName)) ∈ lw_tbl := lw_at lw_m8 49 rfl
theorem q1850 : (Jvm.Cond.instanceMethod ({ cls := "DogsHourModel", name := "tellErrand", desc := "()V" } : Jvm.MethodName)) ∈ lw_all := lw_g (lw_at lw_m8 50 rfl) rfl
theorem q1851 : (Jvm.Cond.code ({ cls := "DogsHourModel", name := "tellErrand", desc := "()V" } : Jvm.MethodName) prog_21_method_32_code (6 : Nat) (Option.none : Option Jvm.ClassFile.FieldType)) ∈ lw_all := lw_g (lw_at lw_m8 51 rfl) rfl
theorem q1852 : (Jvm.Cond.methodLink "DogsHourModel" (302 : Nat) ({ cls := "DogsHourModel", name := "tellLaw", desc := "(I)V" } : Jvm.MethodName)) ∈ lw_all := lw_g (lw_at lw_m8 52 rfl) rfl
theorem q1853 : (Jvm.Cond.privateMethod ({ cls := "DogsHourModel", name := "tellLaw", desc := "(I)V" } : Jvm.MethodName)) ∈ lw_tbl := lw_at lw_m8 53 rfl
theorem q1854 : (Jvm.Cond.instanceMethod ({ cls := "DogsHourModel", name := "tellLaw", desc := "(I)V" } : Jvm.MethodName)) ∈ lw_all := lw_g (lw_at lw_m8 54 rfl) rfl
theorem q1855 : (Jvm.Cond.code ({ cls := "DogsHourModel", name := "tellLaw", desc := "(I)V" } : Jvm.MethodName) prog_21_method_33_code (4 : Nat) (Option.none : Option Jvm.ClassFile.FieldType)) ∈ lw_all := lw_g (lw_at lw_m8 55 rfl) rfl
theorem q1856 : (Jvm.Cond.methodLink "DogsHourModel" (311 : Nat) ({ cls := "DogsHourModel", name := "expression", desc := "()V" } : Jvm.MethodName)) ∈ lw_all := lw_g (lw_at lw_m8 56 rfl) rfl
theorem q1857 : (Jvm.Cond.privateMethod ({ cls := "DogsHourModel", name := "expression", desc := "()V" } : Jvm.MethodName)) ∈ lw_tbl := lw_at lw_m8 57 rfl
theorem q1858 : (Jvm.Cond.instanceMethod ({ cls := "DogsHourModel", name := "expression", desc := "()V" } : Jvm.MethodName)) ∈ lw_all := lw_g (lw_at lw_m8 58 rfl) rfl
theorem q1859 : (Jvm.Cond.code ({ cls := "DogsHourModel", name := "expression", desc := "()V" } : Jvm.MethodName) prog_21_method_37_code (3 : Nat) (Option.none : Option Jvm.ClassFile.FieldType)) ∈ lw_all := lw_g (lw_at lw_m8 59 rfl) rfl
theorem q1860 : (Jvm.Cond.methodLink "DogsHourModel" (323 : Nat) ({ cls := "DogsHourModel", name := "unit", desc := "()V" } : Jvm.MethodName)) ∈ lw_all := lw_g (lw_at lw_m8 60 rfl) rfl
theorem q1861 : (Jvm.Cond.privateMethod ({ cls := "DogsHourModel", name := "unit", desc := "()V" } : Jvm.MethodName)) ∈ lw_tbl := lw_at lw_m8 61 rfl
theorem q1862 : (Jvm.Cond.instanceMethod ({ cls := "DogsHourModel", name := "unit", desc := "()V" } : Jvm.MethodName)) ∈ lw_all := lw_g (lw_at lw_m8 62 rfl) rfl
theorem q1863 : (Jvm.Cond.code ({ cls := "DogsHourModel", name := "unit", desc := "()V" } : Jvm.MethodName) prog_21_method_38_code (1 : Nat) (Option.none : Option Jvm.ClassFile.FieldType)) ∈ lw_all := lw_g (lw_at lw_m8 63 rfl) rfl
theorem q1864 : (Jvm.Cond.methodLink "DogsHourModel" (320 : Nat) ({ cls := "DogsHourModel", name := "emit", desc := "(II)V" } : Jvm.MethodName)) ∈ lw_all := lw_g (lw_at lw_m8 64 rfl) rfl
theorem q1865 : (Jvm.Cond.privateMethod ({ cls := "DogsHourModel", name := "emit", desc := "(II)V" } : Jvm.MethodName)) ∈ lw_tbl := lw_at lw_m8 65 rfl
theorem q1866 : (Jvm.Cond.instanceMethod ({ cls := "DogsHourModel", name := "emit", desc := "(II)V" } : Jvm.MethodName)) ∈ lw_all := lw_g (lw_at lw_m8 66 rfl) rfl
theorem q1867 : (Jvm.Cond.code ({ cls := "DogsHourModel", name := "emit", desc := "(II)V" } : Jvm.MethodName) prog_21_method_35_code (3 : Nat) (Option.none : Option Jvm.ClassFile.FieldType)) ∈ lw_all := lw_g (lw_at lw_m8 67 rfl) rfl
theorem q1868 : (Jvm.Cond.methodLink "DogsHourModel" (326 : Nat) ({ cls := "DogsHourModel", name := "comesOut", desc := "(Z)V" } : Jvm.MethodName)) ∈ lw_all := lw_g (lw_at lw_m8 68 rfl) rfl
theorem q1869 : (Jvm.Cond.privateMethod ({ cls := "DogsHourModel", name := "comesOut", desc := "(Z)V" } : Jvm.MethodName)) ∈ lw_tbl := lw_at lw_m8 69 rfl
theorem q1870 : (Jvm.Cond.instanceMethod ({ cls := "DogsHourModel", name := "comesOut", desc := "(Z)V" } : Jvm.MethodName)) ∈ lw_all := lw_g (lw_at lw_m8 70 rfl) rfl
theorem q1871 : (Jvm.Cond.code ({ cls := "DogsHourModel", name := "comesOut", desc := "(Z)V" } : Jvm.MethodName) prog_21_method_36_code (3 : Nat) (Option.none : Option Jvm.ClassFile.FieldType)) ∈ lw_all := lw_g (lw_at lw_m8 71 rfl) rfl
theorem q1872 : (Jvm.Cond.methodLink "DogsHourModel" (314 : Nat) ({ cls := "DogsHourModel", name := "term", desc := "()V" } : Jvm.MethodName)) ∈ lw_all := lw_g (lw_at lw_m8 72 rfl) rfl
theorem q1873 : (Jvm.Cond.privateMethod ({ cls := "DogsHourModel", name := "term", desc := "()V" } : Jvm.MethodName)) ∈ lw_tbl := lw_at lw_m8 73 rfl
theorem q1874 : (Jvm.Cond.instanceMethod ({ cls := "DogsHourModel", name := "term", desc := "()V" } : Jvm.MethodName)) ∈ lw_all := lw_g (lw_at lw_m8 74 rfl) rfl
theorem q1875 : (Jvm.Cond.code ({ cls := "DogsHourModel", name := "term", desc := "()V" } : Jvm.MethodName) prog_21_method_34_code (1 : Nat) (Option.none : Option Jvm.ClassFile.FieldType)) ∈ lw_all := lw_g (lw_at lw_m8 75 rfl) rfl
theorem q1876 : (Jvm.Cond.methodLink "DogsHourModel" (260 : Nat) ({ cls := "DogsHourModel", name := "fillsSteps", desc := "()V" } : Jvm.MethodName)) ∈ lw_all := lw_g (lw_at lw_m8 76 rfl) rfl
theorem q1877 : (Jvm.Cond.privateMethod ({ cls := "DogsHourModel", name := "fillsSteps", desc := "()V" } : Jvm.MethodName)) ∈ lw_tbl := lw_at lw_m8 77 rfl
theorem q1878 : (Jvm.Cond.instanceMethod ({ cls := "DogsHourModel", name := "fillsSteps", desc := "()V" } : Jvm.MethodName)) ∈ lw_all := lw_g (lw_at lw_m8 78 rfl) rfl
theorem q1879 : (Jvm.Cond.code ({ cls := "DogsHourModel", name := "fillsSteps", desc := "()V" } : Jvm.MethodName) prog_21_method_40_code (3 : Nat) (Option.none : Option Jvm.ClassFile.FieldType)) ∈ lw_all := lw_g (lw_at lw_m8 79 rfl) rfl
theorem q1881 : (Jvm.Cond.instanceMethod ({ cls := "DogsHourModel", name := "place", desc := "()I" } : Jvm.MethodName)) ∈ lw_all := lw_g (lw_at lw_m8 81 rfl) rfl
theorem q1882 : (Jvm.Cond.selects "DogsHourModel" ({ cls := "DogsHourModel", name := "place", desc := "()I" } : Jvm.MethodName) ({ cls := "DogsHourModel", name := "place", desc := "()I" } : Jvm.MethodName)) ∈ lw_all := lw_g (lw_at lw_m8 82 rfl) rfl
theorem q1883 : (Jvm.Cond.code ({ cls := "DogsHourModel", name := "place", desc := "()I" } : Jvm.MethodName) prog_21_method_21_code (1 : Nat) (Option.some Jvm.ClassFile.FieldType.int)) ∈ lw_all := lw_g (lw_at lw_m8 83 rfl) rfl
theorem q1885 : (Jvm.Cond.instanceMethod ({ cls := "DogsHourModel", name := "spot", desc := "(II)I" } : Jvm.MethodName)) ∈ lw_all := lw_g (lw_at lw_m8 85 rfl) rfl
theorem q1886 : (Jvm.Cond.selects "DogsHourModel" ({ cls := "DogsHourModel", name := "spot", desc := "(II)I" } : Jvm.MethodName) ({ cls := "DogsHourModel", name := "spot", desc := "(II)I" } : Jvm.MethodName)) ∈ lw_all := lw_g (lw_at lw_m8 86 rfl) rfl
theorem q1887 : (Jvm.Cond.code ({ cls := "DogsHourModel", name := "spot", desc := "(II)I" } : Jvm.MethodName) prog_21_method_70_code (3 : Nat) (Option.some Jvm.ClassFile.FieldType.int)) ∈ lw_all := lw_g (lw_at lw_m8 87 rfl) rfl
theorem q1888 : (Jvm.Cond.methodLink "DogsHourModel" (397 : Nat) ({ cls := "DogsHourModel", name := "isPlace", desc := "(I)Z" } : Jvm.MethodName)) ∈ lw_all := lw_g (lw_at lw_m8 88 rfl) rfl
theorem q1889 : (Jvm.Cond.privateMethod ({ cls := "DogsHourModel", name := "isPlace", desc := "(I)Z" } : Jvm.MethodName)) ∈ lw_tbl := lw_at lw_m8 89 rfl
theorem q1890 : (Jvm.Cond.instanceMethod ({ cls := "DogsHourModel", name := "isPlace", desc := "(I)Z" } : Jvm.MethodName)) ∈ lw_all := lw_g (lw_at lw_m8 90 rfl) rfl
theorem q1891 : (Jvm.Cond.code ({ cls := "DogsHourModel", name := "isPlace", desc := "(I)Z" } : Jvm.MethodName) prog_21_method_44_code (2 : Nat) (Option.some Jvm.ClassFile.FieldType.boolean)) ∈ lw_all := lw_g (lw_at lw_m8 91 rfl) rfl
theorem q1892 : (Jvm.Cond.methodLink "DogsHourModel" (334 : Nat) ({ cls := "DogsHourModel", name := "in", desc := "(III)Z" } : Jvm.MethodName)) ∈ lw_all := lw_g (lw_at lw_m8 92 rfl) rfl
theorem q1893 : (Jvm.Cond.static ({ cls := "DogsHourModel", name := "in", desc := "(III)Z" } : Jvm.MethodName)) ∈ lw_all := lw_g (lw_at lw_m8 93 rfl) rfl
theorem q1894 : (Jvm.Cond.code ({ cls := "DogsHourModel", name := "in", desc := "(III)Z" } : Jvm.MethodName) prog_21_method_42_code (3 : Nat) (Option.some Jvm.ClassFile.FieldType.boolean)) ∈ lw_all := lw_g (lw_at lw_m8 94 rfl) rfl
theorem q1895 : (Jvm.Cond.methodLink "DogsHourModel" (400 : Nat) ({ cls := "DogsHourModel", name := "copies", desc := "()V" } : Jvm.MethodName)) ∈ lw_all := lw_g (lw_at lw_m8 95 rfl) rfl
theorem q1896 : (Jvm.Cond.privateMethod ({ cls := "DogsHourModel", name := "copies", desc := "()V" } : Jvm.MethodName)) ∈ lw_tbl := lw_at lw_m8 96 rfl
theorem q1897 : (Jvm.Cond.instanceMethod ({ cls := "DogsHourModel", name := "copies", desc := "()V" } : Jvm.MethodName)) ∈ lw_all := lw_g (lw_at lw_m8 97 rfl) rfl
theorem q1898 : (Jvm.Cond.code ({ cls := "DogsHourModel", name := "copies", desc := "()V" } : Jvm.MethodName) prog_21_method_49_code (2 : Nat) (Option.none : Option Jvm.ClassFile.FieldType)) ∈ lw_all := lw_g (lw_at lw_m8 98 rfl) rfl
theorem q1899 : (Jvm.Cond.methodLink "DogsHourModel" (403 : Nat) ({ cls := "DogsHourModel", name := "bitsOf", desc := "(III)I" } : Jvm.MethodName)) ∈ lw_all := lw_g (lw_at lw_m8 99 rfl) rfl
theorem q1900 : (Jvm.Cond.privateMethod ({ cls := "DogsHourModel", name := "bitsOf", desc := "(III)I" } : Jvm.MethodName)) ∈ lw_tbl := lw_at lw_m8 100 rfl
theorem q1901 : (Jvm.Cond.instanceMethod ({ cls := "DogsHourModel", name := "bitsOf", desc := "(III)I" } : Jvm.MethodName)) ∈ lw_all := lw_g (lw_at lw_m8 101 rfl) rfl
theorem q1902 : (Jvm.Cond.code ({ cls := "DogsHourModel", name := "bitsOf", desc := "(III)I" } : Jvm.MethodName) prog_21_method_69_code (6 : Nat) (Option.some Jvm.ClassFile.FieldType.int)) ∈ lw_all := lw_g (lw_at lw_m8 102 rfl) rfl
theorem q1903 : (Jvm.Cond.methodLink "DogsHourModel" (406 : Nat) ({ cls := "DogsHourModel", name := "errandsLeft", desc := "(II)I" } : Jvm.MethodName)) ∈ lw_all := lw_g (lw_at lw_m8 103 rfl) rfl
theorem q1904 : (Jvm.Cond.privateMethod ({ cls := "DogsHourModel", name := "errandsLeft", desc := "(II)I" } : Jvm.MethodName)) ∈ lw_tbl := lw_at lw_m8 104 rfl
theorem q1905 : (Jvm.Cond.instanceMethod ({ cls := "DogsHourModel", name := "errandsLeft", desc := "(II)I" } : Jvm.MethodName)) ∈ lw_all := lw_g (lw_at lw_m8 105 rfl) rfl
theorem q1906 : (Jvm.Cond.code ({ cls := "DogsHourModel", name := "errandsLeft", desc := "(II)I" } : Jvm.MethodName) prog_21_method_68_code (5 : Nat) (Option.some Jvm.ClassFile.FieldType.int)) ∈ lw_all := lw_g (lw_at lw_m8 106 rfl) rfl
theorem q1908 : (Jvm.Cond.instanceMethod ({ cls := "DogsHourModel", name := "dog", desc := "(II)I" } : Jvm.MethodName)) ∈ lw_all := lw_g (lw_at lw_m8 108 rfl) rfl
theorem q1909 : (Jvm.Cond.selects "DogsHourModel" ({ cls := "DogsHourModel", name := "dog", desc := "(II)I" } : Jvm.MethodName) ({ cls := "DogsHourModel", name := "dog", desc := "(II)I" } : Jvm.MethodName)) ∈ lw_all := lw_g (lw_at lw_m8 109 rfl) rfl
theorem q1910 : (Jvm.Cond.code ({ cls := "DogsHourModel", name := "dog", desc := "(II)I" } : Jvm.MethodName) prog_21_method_71_code (3 : Nat) (Option.some Jvm.ClassFile.FieldType.int)) ∈ lw_all := lw_g (lw_at lw_m8 110 rfl) rfl
theorem q1911 : (Jvm.Cond.methodLink "DogsHourModel" (409 : Nat) ({ cls := "DogsHourModel", name := "isDog", desc := "(I)Z" } : Jvm.MethodName)) ∈ lw_all := lw_g (lw_at lw_m8 111 rfl) rfl
theorem q1912 : (Jvm.Cond.privateMethod ({ cls := "DogsHourModel", name := "isDog", desc := "(I)Z" } : Jvm.MethodName)) ∈ lw_tbl := lw_at lw_m8 112 rfl
theorem q1913 : (Jvm.Cond.instanceMethod ({ cls := "DogsHourModel", name := "isDog", desc := "(I)Z" } : Jvm.MethodName)) ∈ lw_all := lw_g (lw_at lw_m8 113 rfl) rfl
theorem q1914 : (Jvm.Cond.code ({ cls := "DogsHourModel", name := "isDog", desc := "(I)Z" } : Jvm.MethodName) prog_21_method_45_code (2 : Nat) (Option.some Jvm.ClassFile.FieldType.boolean)) ∈ lw_all := lw_g (lw_at lw_m8 114 rfl) rfl
theorem q1916 : (Jvm.Cond.instanceMethod ({ cls := "DogsHourModel", name := "person", desc := "(II)I" } : Jvm.MethodName)) ∈ lw_all := lw_g (lw_at lw_m8 116 rfl) rfl
theorem q1917 : (Jvm.Cond.selects "DogsHourModel" ({ cls := "DogsHourModel", name := "person", desc := "(II)I" } : Jvm.MethodName) ({ cls := "DogsHourModel", name := "person", desc := "(II)I" } : Jvm.MethodName)) ∈ lw_all := lw_g (lw_at lw_m8 117 rfl) rfl
theorem q1918 : (Jvm.Cond.code ({ cls := "DogsHourModel", name := "person", desc := "(II)I" } : Jvm.MethodName) prog_21_method_72_code (3 : Nat) (Option.some Jvm.ClassFile.FieldType.int)) ∈ lw_all := lw_g (lw_at lw_m8 118 rfl) rfl
theorem q1919 : (Jvm.Cond.methodLink "DogsHourModel" (412 : Nat) ({ cls := "DogsHourModel", name := "isPerson", desc := "(I)Z" } : Jvm.MethodName)) ∈ lw_all := lw_g (lw_at lw_m8 119 rfl) rfl
theorem q1920 : (Jvm.Cond.privateMethod ({ cls := "DogsHourModel", name := "isPerson", desc := "(I)Z" } : Jvm.MethodName)) ∈ lw_tbl := lw_at lw_m8 120 rfl
theorem q1921 : (Jvm.Cond.instanceMethod ({ cls := "DogsHourModel", name := "isPerson", desc := "(I)Z" } : Jvm.MethodName)) ∈ lw_all := lw_g (lw_at lw_m8 121 rfl) rfl
theorem q1922 : (Jvm.Cond.code ({ cls := "DogsHourModel", name := "isPerson", desc := "(I)Z" } : Jvm.MethodName) prog_21_method_46_code (2 : Nat) (Option.some Jvm.ClassFile.FieldType.boolean)) ∈ lw_all := lw_g (lw_at lw_m8 122 rfl) rfl
theorem q1924 : (Jvm.Cond.instanceMethod ({ cls := "DogsHourModel", name := "mind", desc := "(III)I" } : Jvm.MethodName)) ∈ lw_all := lw_g (lw_at lw_m8 124 rfl) rfl
theorem q1925 : (Jvm.Cond.selects "DogsHourModel" ({ cls := "DogsHourModel", name := "mind", desc := "(III)I" } : Jvm.MethodName) ({ cls := "DogsHourModel", name := "mind", desc := "(III)I" } : Jvm.MethodName)) ∈ lw_all := lw_g (lw_at lw_m8 125 rfl) rfl
theorem q1926 : (Jvm.Cond.code ({ cls := "DogsHourModel", name := "mind", desc := "(III)I" } : Jvm.MethodName) prog_21_method_73_code (4 : Nat) (Option.some Jvm.ClassFile.FieldType.int)) ∈ lw_all := lw_g (lw_at lw_m8 126 rfl) rfl
theorem q1927 : (Jvm.Cond.constant "DogsHourModel" (415 : Nat) (-100000 : Int32)) ∈ lw_all := lw_g (lw_at lw_m8 127 rfl) rfl
theorem q1928 : (Jvm.Cond.methodLink "DogsHourModel" (359 : Nat) ({ cls := "DogsHourModel", name := "wantsOf", desc := "(II)I" } : Jvm.MethodName)) ∈ lw_all := lw_g (lw_at lw_m8 128 rfl) rfl
theorem q1929 : (Jvm.Cond.privateMethod ({ cls := "DogsHourModel", name := "wantsOf", desc := "(II)I" } : Jvm.MethodName)) ∈ lw_tbl := lw_at lw_m8 129 rfl
theorem q1930 : (Jvm.Cond.instanceMethod ({ cls := "DogsHourModel", name := "wantsOf", desc := "(II)I" } : Jvm.MethodName)) ∈ lw_all := lw_g (lw_at lw_m8 130 rfl) rfl
theorem q1931 : (Jvm.Cond.code ({ cls := "DogsHourModel", name := "wantsOf", desc := "(II)I" } : Jvm.MethodName) prog_21_method_56_code (3 : Nat) (Option.some Jvm.ClassFile.FieldType.int)) ∈ lw_all := lw_g (lw_at lw_m8 131 rfl) rfl
theorem q1932 : (Jvm.Cond.methodLink "DogsHourModel" (347 : Nat) ({ cls := "DogsHourModel", name := "looksAtDog", desc := "(I)V" } : Jvm.MethodName)) ∈ lw_all := lw_g (lw_at lw_m8 132 rfl) rfl
theorem q1933 : (Jvm.Cond.privateMethod ({ cls := "DogsHourModel", name := "looksAtDog", desc := "(I)V" } : Jvm.MethodName)) ∈ lw_tbl := lw_at lw_m8 133 rfl
theorem q1934 : (Jvm.Cond.instanceMethod ({ cls := "DogsHourModel", name := "looksAtDog", desc := "(I)V" } : Jvm.MethodName)) ∈ lw_all := lw_g (lw_at lw_m8 134 rfl) rfl
theorem q1935 : (Jvm.Cond.code ({ cls := "DogsHourModel", name := "looksAtDog", desc := "(I)V" } : Jvm.MethodName) prog_21_method_54_code (3 : Nat) (Option.none : Option Jvm.ClassFile.FieldType)) ∈ lw_all := lw_g (lw_at lw_m8 135 rfl) rfl
theorem q1936 : (Jvm.Cond.methodLink "DogsHourModel" (338 : Nat) ({ cls := "DogsHourModel", name := "minuteNow", desc := "()I" } : Jvm.MethodName)) ∈ lw_all := lw_g (lw_at lw_m8 136 rfl) rfl
theorem q1937 : (Jvm.Cond.privateMethod ({ cls := "DogsHourModel", name := "minuteNow", desc := "()I" } : Jvm.MethodName)) ∈ lw_tbl := lw_at lw_m8 137 rfl
theorem q1938 : (Jvm.Cond.instanceMethod ({ cls := "DogsHourModel", name := "minuteNow", desc := "()I" } : Jvm.MethodName)) ∈ lw_all := lw_g (lw_at lw_m8 138 rfl) rfl
theorem q1939 : (Jvm.Cond.code ({ cls := "DogsHourModel", name := "minuteNow", desc := "()I" } : Jvm.MethodName) prog_21_method_50_code (1 : Nat) (Option.some Jvm.ClassFile.FieldType.int)) ∈ lw_all := lw_g (lw_at lw_m8 139 rfl) rfl
theorem q1940 : (Jvm.Cond.methodLink "DogsHourModel" (350 : Nat) ({ cls := "DogsHourModel", name := "looks", desc := "(II)V" } : Jvm.MethodName)) ∈ lw_all := lw_g (lw_at lw_m8 140 rfl) rfl
theorem q1941 : (Jvm.Cond.privateMethod ({ cls := "DogsHourModel", name := "looks", desc := "(II)V" } : Jvm.MethodName)) ∈ lw_tbl := lw_at lw_m8 141 rfl
theorem q1942 : (Jvm.Cond.instanceMethod ({ cls := "DogsHourModel", name := "looks", desc := "(II)V" } : Jvm.MethodName)) ∈ lw_all := lw_g (lw_at lw_m8 142 rfl) rfl
theorem q1943 : (Jvm.Cond.code ({ cls := "DogsHourModel", name := "looks", desc := "(II)V" } : Jvm.MethodName) prog_21_method_53_code (4 : Nat) (Option.none : Option Jvm.ClassFile.FieldType)) ∈ lw_all := lw_g (lw_at lw_m8 143 rfl) rfl
theorem q1944 : (Jvm.Cond.methodLink "DogsHourModel" (341 : Nat) ({ cls := "DogsHourModel", name := "farTo", desc := "(II)I" } : Jvm.MethodName)) ∈ lw_all := lw_g (lw_at lw_m8 144 rfl) rfl
theorem q1945 : (Jvm.Cond.privateMethod ({ cls := "DogsHourModel", name := "farTo", desc := "(II)I" } : Jvm.MethodName)) ∈ lw_tbl := lw_at lw_m8 145 rfl
theorem q1946 : (Jvm.Cond.instanceMethod ({ cls := "DogsHourModel", name := "farTo", desc := "(II)I" } : Jvm.MethodName)) ∈ lw_all := lw_g (lw_at lw_m8 146 rfl) rfl
theorem q1947 : (Jvm.Cond.code ({ cls := "DogsHourModel", name := "farTo", desc := "(II)I" } : Jvm.MethodName) prog_21_method_52_code (3 : Nat) (Option.some Jvm.ClassFile.FieldType.int)) ∈ lw_all := lw_g (lw_at lw_m8 147 rfl) rfl
theorem q1948 : (Jvm.Cond.methodLink "DogsHourModel" (353 : Nat) ({ cls := "DogsHourModel", name := "asks", desc := "(II)I" } : Jvm.MethodName)) ∈ lw_all := lw_g (lw_at lw_m8 148 rfl) rfl
theorem q1949 : (Jvm.Cond.privateMethod ({ cls := "DogsHourModel", name := "asks", desc := "(II)I" } : Jvm.MethodName)) ∈ lw_tbl := lw_at lw_m8 149 rfl
theorem q1950 : (Jvm.Cond.instanceMethod ({ cls := "DogsHourModel", name := "asks", desc := "(II)I" } : Jvm.MethodName)) ∈ lw_all := lw_g (lw_at lw_m8 150 rfl) rfl
theorem q1951 : (Jvm.Cond.code ({ cls := "DogsHourModel", name := "asks", desc := "(II)I" } : Jvm.MethodName) prog_21_method_55_code (7 : Nat) (Option.some Jvm.ClassFile.FieldType.int)) ∈ lw_all := lw_g (lw_at lw_m8 151 rfl) rfl
theorem q1952 : (Jvm.Cond.methodLink "DogsHourModel" (344 : Nat) ({ cls := "DogsHourModel", name := "termOf", desc := "(II)I" } : Jvm.MethodName)) ∈ lw_all := lw_g (lw_at lw_m8 152 rfl) rfl
theorem q1953 : (Jvm.Cond.privateMethod ({ cls := "DogsHourModel", name := "termOf", desc := "(II)I" } : Jvm.MethodName)) ∈ lw_tbl := lw_at lw_m8 153 rfl
theorem q1954 : (Jvm.Cond.instanceMethod ({ cls := "DogsHourModel", name := "termOf", desc := "(II)I" } : Jvm.MethodName)) ∈ lw_all := lw_g (lw_at lw_m8 154 rfl) rfl
theorem q1955 : (Jvm.Cond.code ({ cls := "DogsHourModel", name := "termOf", desc := "(II)I" } : Jvm.MethodName) prog_21_method_39_code (8 : Nat) (Option.some Jvm.ClassFile.FieldType.int)) ∈ lw_all := lw_g (lw_at lw_m8 155 rfl) rfl
theorem q1956 : (Jvm.Cond.methodLink "DogsHourModel" (372 : Nat) ({ cls := "DogsHourModel", name := "takesOf", desc := "(II)I" } : Jvm.MethodName)) ∈ lw_all := lw_g (lw_at lw_m8 156 rfl) rfl
theorem q1957 : (Jvm.Cond.privateMethod ({ cls := "DogsHourModel", name := "takesOf", desc := "(II)I" } : Jvm.MethodName)) ∈ lw_tbl := lw_at lw_m8 157 rfl
theorem q1958 : (Jvm.Cond.instanceMethod ({ cls := "DogsHourModel", name := "takesOf", desc := "(II)I" } : Jvm.MethodName)) ∈ lw_all := lw_g (lw_at lw_m8 158 rfl) rfl
theorem q1959 : (Jvm.Cond.code ({ cls := "DogsHourModel", name := "takesOf", desc := "(II)I" } : Jvm.MethodName) prog_21_method_57_code (3 : Nat) (Option.some Jvm.ClassFile.FieldType.int)) ∈ lw_all := lw_g (lw_at lw_m8 159 rfl) rfl
theorem q1960 : (Jvm.Cond.methodLink "DogsHourModel" (356 : Nat) ({ cls := "DogsHourModel", name := "within", desc := "(III)I" } : Jvm.MethodName)) ∈ lw_all := lw_g (lw_at lw_m8 160 rfl) rfl
theorem q1961 : (Jvm.Cond.static ({ cls := "DogsHourModel", name := "within", desc := "(III)I" } : Jvm.MethodName)) ∈ lw_all := lw_g (lw_at lw_m8 161 rfl) rfl
theorem q1962 : (Jvm.Cond.code ({ cls := "DogsHourModel", name := "within", desc := "(III)I" } : Jvm.MethodName) prog_21_method_43_code (3 : Nat) (Option.some Jvm.ClassFile.FieldType.int)) ∈ lw_all := lw_g (lw_at lw_m8 162 rfl) rfl
theorem q1963 : (Jvm.Cond.methodLink "DogsHourModel" (375 : Nat) ({ cls := "DogsHourModel", name := "fadesOf", desc := "(II)I" } : Jvm.MethodName)) ∈ lw_all := lw_g (lw_at lw_m8 163 rfl) rfl
theorem q1964 : (Jvm.Cond.privateMethod ({ cls := "DogsHourModel", name := "fadesOf", desc := "(II)I" } : Jvm.MethodName)) ∈ lw_tbl := lw_at lw_m8 164 rfl
theorem q1965 : (Jvm.Cond.instanceMethod ({ cls := "DogsHourModel", name := "fadesOf", desc := "(II)I" } : Jvm.MethodName)) ∈ lw_all := lw_g (lw_at lw_m8 165 rfl) rfl
theorem q1966 : (Jvm.Cond.code ({ cls := "DogsHourModel", name := "fadesOf", desc := "(II)I" } : Jvm.MethodName) prog_21_method_58_code (3 : Nat) (Option.some Jvm.ClassFile.FieldType.int)) ∈ lw_all := lw_g (lw_at lw_m8 166 rfl) rfl
theorem q1968 : (Jvm.Cond.instanceMethod ({ cls := "DogsHourModel", name := "go", desc := "(II)Z" } : Jvm.MethodName)) ∈ lw_all := lw_g (lw_at lw_m8 168 rfl) rfl
theorem q1969 : (Jvm.Cond.selects "DogsHourModel" ({ cls := "DogsHourModel", name := "go", desc := "(II)Z" } : Jvm.MethodName) ({ cls := "DogsHourModel", name := "go", desc := "(II)Z" } : Jvm.MethodName)) ∈ lw_all := lw_g (lw_at lw_m8 169 rfl) rfl
theorem q1970 : (Jvm.Cond.code ({ cls := "DogsHourModel", name := "go", desc := "(II)Z" } : Jvm.MethodName) prog_21_method_75_code (4 : Nat) (Option.some Jvm.ClassFile.FieldType.boolean)) ∈ lw_all := lw_g (lw_at lw_m8 170 rfl) rfl
theorem q1971 : (Jvm.Cond.methodLink "DogsHourModel" (416 : Nat) ({ cls := "DogsHourModel", name := "records", desc := "()V" } : Jvm.MethodName)) ∈ lw_all := lw_g (lw_at lw_m8 171 rfl) rfl
theorem q1972 : (Jvm.Cond.privateMethod ({ cls := "DogsHourModel", name := "records", desc := "()V" } : Jvm.MethodName)) ∈ lw_tbl := lw_at lw_m8 172 rfl
theorem q1973 : (Jvm.Cond.instanceMethod ({ cls := "DogsHourModel", name := "records", desc := "()V" } : Jvm.MethodName)) ∈ lw_all := lw_g (lw_at lw_m8 173 rfl) rfl
theorem q1974 : (Jvm.Cond.code ({ cls := "DogsHourModel", name := "records", desc := "()V" } : Jvm.MethodName) prog_21_method_74_code (2 : Nat) (Option.none : Option Jvm.ClassFile.FieldType)) ∈ lw_all := lw_g (lw_at lw_m8 174 rfl) rfl
theorem q1976 : (Jvm.Cond.instanceMethod ({ cls := "DogsHourModel", name := "give", desc := "(III)I" } : Jvm.MethodName)) ∈ lw_all := lw_g (lw_at lw_m8 176 rfl) rfl
theorem q1977 : (Jvm.Cond.selects "DogsHourModel" ({ cls := "DogsHourModel", name := "give", desc := "(III)I" } : Jvm.MethodName) ({ cls := "DogsHourModel", name := "give", desc := "(III)I" } : Jvm.MethodName)) ∈ lw_all := lw_g (lw_at lw_m8 177 rfl) rfl
theorem q1978 : (Jvm.Cond.code ({ cls := "DogsHourModel", name := "give", desc := "(III)I" } : Jvm.MethodName) prog_21_method_77_code (5 : Nat) (Option.some Jvm.ClassFile.FieldType.int)) ∈ lw_all := lw_g (lw_at lw_m8 178 rfl) rfl
theorem q1979 : (Jvm.Cond.methodLink "DogsHourModel" (419 : Nat) ({ cls := "DogsHourModel", name := "isWith", desc := "(II)Z" } : Jvm.MethodName)) ∈ lw_all := lw_g (lw_at lw_m8 179 rfl) rfl
theorem q1980 : (Jvm.Cond.privateMethod ({ cls := "DogsHourModel", name := "isWith", desc := "(II)Z" } : Jvm.MethodName)) ∈ lw_tbl := lw_at lw_m8 180 rfl
theorem q1981 : (Jvm.Cond.instanceMethod ({ cls := "DogsHourModel", name := "isWith", desc := "(II)Z" } : Jvm.MethodName)) ∈ lw_all := lw_g (lw_at lw_m8 181 rfl) rfl
theorem q1982 : (Jvm.Cond.code ({ cls := "DogsHourModel", name := "isWith", desc := "(II)Z" } : Jvm.MethodName) prog_21_method_76_code (3 : Nat) (Option.some Jvm.ClassFile.FieldType.boolean)) ∈ lw_all := lw_g (lw_at lw_m8 182 rfl) rfl
theorem q1984 : (Jvm.Cond.instanceMethod ({ cls := "DogsHourModel", name := "kick", desc := "(II)I" } : Jvm.MethodName)) ∈ lw_all := lw_g (lw_at lw_m8 184 rfl) rfl
theorem q1985 : (Jvm.Cond.selects "DogsHourModel" ({ cls := "DogsHourModel", name := "kick", desc := "(II)I" } : Jvm.MethodName) ({ cls := "DogsHourModel", name := "kick", desc := "(II)I" } : Jvm.MethodName)) ∈ lw_all := lw_g (lw_at lw_m8 185 rfl) rfl
theorem q1986 : (Jvm.Cond.code ({ cls := "DogsHourModel", name := "kick", desc := "(II)I" } : Jvm.MethodName) prog_21_method_78_code (4 : Nat) (Option.some Jvm.ClassFile.FieldType.int)) ∈ lw_all := lw_g (lw_at lw_m8 186 rfl) rfl
theorem q1988 : (Jvm.Cond.instanceMethod ({ cls := "DogsHourModel", name := "minutes", desc := "(I)I" } : Jvm.MethodName)) ∈ lw_all := lw_g (lw_at lw_m8 188 rfl) rfl
theorem q1989 : (Jvm.Cond.selects "DogsHourModel" ({ cls := "DogsHourModel", name := "minutes", desc := "(I)I" } : Jvm.MethodName) ({ cls := "DogsHourModel", name := "minutes", desc := "(I)I" } : Jvm.MethodName)) ∈ lw_all := lw_g (lw_at lw_m8 189 rfl) rfl
theorem q1990 : (Jvm.Cond.code ({ cls := "DogsHourModel", name := "minutes", desc := "(I)I" } : Jvm.MethodName) prog_21_method_79_code (2 : Nat) (Option.some Jvm.ClassFile.FieldType.int)) ∈ lw_all := lw_g (lw_at lw_m8 190 rfl) rfl
theorem q1991 : (Jvm.Cond.methodLink "DogsHourModel" (422 : Nat) ({ cls := "DogsHourModel", name := "goes", desc := "(I)V" } : Jvm.MethodName)) ∈ lw_all := lw_g (lw_at lw_m8 191 rfl) rfl
theorem q1992 : (Jvm.Cond.privateMethod ({ cls := "DogsHourModel", name := "goes", desc := "(I)V" } : Jvm.MethodName)) ∈ lw_tbl := lw_at lw_m8 192 rfl
theorem q1993 : (Jvm.Cond.instanceMethod ({ cls := "DogsHourModel", name := "goes", desc := "(I)V" } : Jvm.MethodName)) ∈ lw_all := lw_g (lw_at lw_m8 193 rfl) rfl
theorem q1994 : (Jvm.Cond.code ({ cls := "DogsHourModel", name := "goes", desc := "(I)V" } : Jvm.MethodName) prog_21_method_67_code (3 : Nat) (Option.none : Option Jvm.ClassFile.FieldType)) ∈ lw_all := lw_g (lw_at lw_m8 194 rfl) rfl
theorem q1995 : (Jvm.Cond.methodLink "DogsHourModel" (394 : Nat) ({ cls := "DogsHourModel", name := "minuteGoes", desc := "()V" } : Jvm.MethodName)) ∈ lw_all := lw_g (lw_at lw_m8 195 rfl) rfl
theorem q1996 : (Jvm.Cond.privateMethod ({ cls := "DogsHourModel", name := "minuteGoes", desc := "()V" } : Jvm.MethodName)) ∈ lw_tbl := lw_at lw_m8 196 rfl
theorem q1997 : (Jvm.Cond.instanceMethod ({ cls := "DogsHourModel", name := "minuteGoes", desc := "()V" } : Jvm.MethodName)) ∈ lw_all := lw_g (lw_at lw_m8 197 rfl) rfl
theorem q1998 : (Jvm.Cond.code ({ cls := "DogsHourModel", name := "minuteGoes", desc := "()V" } : Jvm.MethodName) prog_21_method_66_code (3 : Nat) (Option.none : Option Jvm.ClassFile.FieldType)) ∈ lw_all := lw_g (lw_at lw_m8 198 rfl) rfl
theorem q1999 : (Jvm.Cond.methodLink "DogsHourModel" (378 : Nat) ({ cls := "DogsHourModel", name := "personGoes", desc := "(I)V" } : Jvm.MethodName)) ∈ lw_all := lw_g (lw_at lw_m8 199 rfl) rfl
theorem q2000 : (Jvm.Cond.privateMethod ({ cls := "DogsHourModel", name := "personGoes", desc := "(I)V" } : Jvm.MethodName)) ∈ lw_tbl := lw_at lw_m8 200 rfl
theorem q2001 : (Jvm.Cond.instanceMethod ({ cls := "DogsHourModel", name := "personGoes", desc := "(I)V" } : Jvm.MethodName)) ∈ lw_all := lw_g (lw_at lw_m8 201 rfl) rfl
theorem q2002 : (Jvm.Cond.code ({ cls := "DogsHourModel", name := "personGoes", desc := "(I)V" } : Jvm.MethodName) prog_21_method_62_code (4 : Nat) (Option.none : Option Jvm.ClassFile.FieldType)) ∈ lw_all := lw_g (lw_at lw_m8 202 rfl) rfl
theorem q2003 : (Jvm.Cond.methodLink "DogsHourModel" (362 : Nat) ({ cls := "DogsHourModel", name := "stepTo", desc := "(II)I" } : Jvm.MethodName)) ∈ lw_all := lw_g (lw_at lw_m8 203 rfl) rfl
theorem q2004 : (Jvm.Cond.privateMethod ({ cls := "DogsHourModel", name := "stepTo", desc := "(II)I" } : Jvm.MethodName)) ∈ lw_tbl := lw_at lw_m8 204 rfl
theorem q2005 : (Jvm.Cond.instanceMethod ({ cls := "DogsHourModel", name := "stepTo", desc := "(II)I" } : Jvm.MethodName)) ∈ lw_all := lw_g (lw_at lw_m8 205 rfl) rfl
theorem q2006 : (Jvm.Cond.code ({ cls := "DogsHourModel", name := "stepTo", desc := "(II)I" } : Jvm.MethodName) prog_21_method_41_code (6 : Nat) (Option.some Jvm.ClassFile.FieldType.int)) ∈ lw_all := lw_g (lw_at lw_m8 206 rfl) rfl
theorem q2007 : (Jvm.Cond.methodLink "DogsHourModel" (381 : Nat) ({ cls := "DogsHourModel", name := "isHour", desc := "()Z" } : Jvm.MethodName)) ∈ lw_all := lw_g (lw_at lw_m8 207 rfl) rfl
theorem q2008 : (Jvm.Cond.privateMethod ({ cls := "DogsHourModel", name := "isHour", desc := "()Z" } : Jvm.MethodName)) ∈ lw_tbl := lw_at lw_m8 208 rfl
theorem q2009 : (Jvm.Cond.instanceMethod ({ cls := "DogsHourModel", name := "isHour", desc := "()Z" } : Jvm.MethodName)) ∈ lw_all := lw_g (lw_at lw_m8 209 rfl) rfl
theorem q2010 : (Jvm.Cond.code ({ cls := "DogsHourModel", name := "isHour", desc := "()Z" } : Jvm.MethodName) prog_21_method_51_code (1 : Nat) (Option.some Jvm.ClassFile.FieldType.boolean)) ∈ lw_all := lw_g (lw_at lw_m8 210 rfl) rfl
theorem q2011 : (Jvm.Cond.methodLink "DogsHourModel" (385 : Nat) ({ cls := "DogsHourModel", name := "dogsRest", desc := "()V" } : Jvm.MethodName)) ∈ lw_all := lw_g (lw_at lw_m8 211 rfl) rfl
theorem q2012 : (Jvm.Cond.privateMethod ({ cls := "DogsHourModel", name := "dogsRest", desc := "()V" } : Jvm.MethodName)) ∈ lw_tbl := lw_at lw_m8 212 rfl
theorem q2013 : (Jvm.Cond.instanceMethod ({ cls := "DogsHourModel", name := "dogsRest", desc := "()V" } : Jvm.MethodName)) ∈ lw_all := lw_g (lw_at lw_m8 213 rfl) rfl
theorem q2014 : (Jvm.Cond.code ({ cls := "DogsHourModel", name := "dogsRest", desc := "()V" } : Jvm.MethodName) prog_21_method_64_code (2 : Nat) (Option.none : Option Jvm.ClassFile.FieldType)) ∈ lw_all := lw_g (lw_at lw_m8 214 rfl) rfl
theorem q2015 : (Jvm.Cond.methodLink "DogsHourModel" (388 : Nat) ({ cls := "DogsHourModel", name := "dogGoes", desc := "(I)V" } : Jvm.MethodName)) ∈ lw_all := lw_g (lw_at lw_m8 215 rfl) rfl
theorem q2016 : (Jvm.Cond.privateMethod ({ cls := "DogsHourModel", name := "dogGoes", desc := "(I)V" } : Jvm.MethodName)) ∈ lw_tbl := lw_at lw_m8 216 rfl
theorem q2017 : (Jvm.Cond.instanceMethod ({ cls := "DogsHourModel", name := "dogGoes", desc := "(I)V" } : Jvm.MethodName)) ∈ lw_all := lw_g (lw_at lw_m8 217 rfl) rfl
theorem q2018 : (Jvm.Cond.code ({ cls := "DogsHourModel", name := "dogGoes", desc := "(I)V" } : Jvm.MethodName) prog_21_method_63_code (4 : Nat) (Option.none : Option Jvm.ClassFile.FieldType)) ∈ lw_all := lw_g (lw_at lw_m8 218 rfl) rfl
theorem q2019 : (Jvm.Cond.methodLink "DogsHourModel" (365 : Nat) ({ cls := "DogsHourModel", name := "mindsNow", desc := "(I)I" } : Jvm.MethodName)) ∈ lw_all := lw_g (lw_at lw_m8 219 rfl) rfl
theorem q2020 : (Jvm.Cond.privateMethod ({ cls := "DogsHourModel", name := "mindsNow", desc := "(I)I" } : Jvm.MethodName)) ∈ lw_tbl := lw_at lw_m8 220 rfl
theorem q2021 : (Jvm.Cond.instanceMethod ({ cls := "DogsHourModel", name := "mindsNow", desc := "(I)I" } : Jvm.MethodName)) ∈ lw_all := lw_g (lw_at lw_m8 221 rfl) rfl
theorem q2022 : (Jvm.Cond.code ({ cls := "DogsHourModel", name := "mindsNow", desc := "(I)I" } : Jvm.MethodName) prog_21_method_61_code (6 : Nat) (Option.some Jvm.ClassFile.FieldType.int)) ∈ lw_all := lw_g (lw_at lw_m8 222 rfl) rfl
theorem q2023 : (Jvm.Cond.methodLink "DogsHourModel" (368 : Nat) ({ cls := "DogsHourModel", name := "bearsGrudge", desc := "(II)Z" } : Jvm.MethodName)) ∈ lw_all := lw_g (lw_at lw_m8 223 rfl) rfl
theorem q2024 : (Jvm.Cond.privateMethod ({ cls := "DogsHourModel", name := "bearsGrudge", desc := "(II)Z" } : Jvm.MethodName)) ∈ lw_tbl := lw_at lw_m8 224 rfl
theorem q2025 : (Jvm.Cond.instanceMethod ({ cls := "DogsHourModel", name := "bearsGrudge", desc := "(II)Z" } : Jvm.MethodName)) ∈ lw_all := lw_g (lw_at lw_m8 225 rfl) rfl
theorem q2026 : (Jvm.Cond.code ({ cls := "DogsHourModel", name := "bearsGrudge", desc := "(II)Z" } : Jvm.MethodName) prog_21_method_60_code (3 : Nat) (Option.some Jvm.ClassFile.FieldType.boolean)) ∈ lw_all := lw_g (lw_at lw_m8 226 rfl) rfl
theorem q2027 : (Jvm.Cond.methodLink "DogsHourModel" (391 : Nat) ({ cls := "DogsHourModel", name := "fades", desc := "(II)V" } : Jvm.MethodName)) ∈ lw_all := lw_g (lw_at lw_m8 227 rfl) rfl
theorem q2028 : (Jvm.Cond.privateMethod ({ cls := "DogsHourModel", name := "fades", desc := "(II)V" } : Jvm.MethodName)) ∈ lw_tbl := lw_at lw_m8 228 rfl
theorem q2029 : (Jvm.Cond.instanceMethod ({ cls := "DogsHourModel", name := "fades", desc := "(II)V" } : Jvm.MethodName)) ∈ lw_all := lw_g (lw_at lw_m8 229 rfl) rfl
theorem q2030 : (Jvm.Cond.code ({ cls := "DogsHourModel", name := "fades", desc := "(II)V" } : Jvm.MethodName) prog_21_method_65_code (5 : Nat) (Option.none : Option Jvm.ClassFile.FieldType)) ∈ lw_all := lw_g (lw_at lw_m8 230 rfl) rfl
theorem q2032 : (Jvm.Cond.instanceMethod ({ cls := "DogsHourModel", name := "undo", desc := "()Z" } : Jvm.MethodName)) ∈ lw_all := lw_g (lw_at lw_m8 232 rfl) rfl
theorem q2033 : (Jvm.Cond.selects "DogsHourModel" ({ cls := "DogsHourModel", name := "undo", desc := "()Z" } : Jvm.MethodName) ({ cls := "DogsHourModel", name := "undo", desc := "()Z" } : Jvm.MethodName)) ∈ lw_all := lw_g (lw_at lw_m8 233 rfl) rfl
theorem q2034 : (Jvm.Cond.code ({ cls := "DogsHourModel", name := "undo", desc := "()Z" } : Jvm.MethodName) prog_21_method_80_code (2 : Nat) (Option.some Jvm.ClassFile.FieldType.boolean)) ∈ lw_all := lw_g (lw_at lw_m8 234 rfl) rfl
theorem q2036 : (Jvm.Cond.instanceMethod ({ cls := "DogsHourModel", name := "far", desc := "(II)I" } : Jvm.MethodName)) ∈ lw_all := lw_g (lw_at lw_m8 236 rfl) rfl
theorem q2037 : (Jvm.Cond.selects "DogsHourModel" ({ cls := "DogsHourModel", name := "far", desc := "(II)I" } : Jvm.MethodName) ({ cls := "DogsHourModel", name := "far", desc := "(II)I" } : Jvm.MethodName)) ∈ lw_all := lw_g (lw_at lw_m8 237 rfl) rfl
theorem q2038 : (Jvm.Cond.code ({ cls := "DogsHourModel", name := "far", desc := "(II)I" } : Jvm.MethodName) prog_21_method_81_code (3 : Nat) (Option.some Jvm.ClassFile.FieldType.int)) ∈ lw_all := lw_g (lw_at lw_m8 238 rfl) rfl
theorem q2040 : (Jvm.Cond.instanceMethod ({ cls := "DogsHourModel", name := "till", desc := "()I" } : Jvm.MethodName)) ∈ lw_all := lw_g (lw_at lw_m9 0 rfl) rfl
theorem q2041 : (Jvm.Cond.selects "DogsHourModel" ({ cls := "DogsHourModel", name := "till", desc := "()I" } : Jvm.MethodName) ({ cls := "DogsHourModel", name := "till", desc := "()I" } : Jvm.MethodName)) ∈ lw_all := lw_g (lw_at lw_m9 1 rfl) rfl
theorem q2042 : (Jvm.Cond.code ({ cls := "DogsHourModel", name := "till", desc := "()I" } : Jvm.MethodName) prog_21_method_83_code (1 : Nat) (Option.some Jvm.ClassFile.FieldType.int)) ∈ lw_all := lw_g (lw_at lw_m9 2 rfl) rfl
theorem q2043 : (Jvm.Cond.methodLink "DogsHourModel" (425 : Nat) ({ cls := "DogsHourModel", name := "tillNext", desc := "()I" } : Jvm.MethodName)) ∈ lw_all := lw_g (lw_at lw_m9 3 rfl) rfl
theorem q2044 : (Jvm.Cond.privateMethod ({ cls := "DogsHourModel", name := "tillNext", desc := "()I" } : Jvm.MethodName)) ∈ lw_tbl := lw_at lw_m9 4 rfl
theorem q2045 : (Jvm.Cond.instanceMethod ({ cls := "DogsHourModel", name := "tillNext", desc := "()I" } : Jvm.MethodName)) ∈ lw_all := lw_g (lw_at lw_m9 5 rfl) rfl
theorem q2046 : (Jvm.Cond.code ({ cls := "DogsHourModel", name := "tillNext", desc := "()I" } : Jvm.MethodName) prog_21_method_82_code (2 : Nat) (Option.some Jvm.ClassFile.FieldType.int)) ∈ lw_all := lw_g (lw_at lw_m9 6 rfl) rfl
theorem q2048 : (Jvm.Cond.instanceMethod ({ cls := "DogsHourModel", name := "round", desc := "(II)I" } : Jvm.MethodName)) ∈ lw_all := lw_g (lw_at lw_m9 8 rfl) rfl
theorem q2049 : (Jvm.Cond.selects "DogsHourModel" ({ cls := "DogsHourModel", name := "round", desc := "(II)I" } : Jvm.MethodName) ({ cls := "DogsHourModel", name := "round", desc := "(II)I" } : Jvm.MethodName)) ∈ lw_all := lw_g (lw_at lw_m9 9 rfl) rfl
theorem q2050 : (Jvm.Cond.code ({ cls := "DogsHourModel", name := "round", desc := "(II)I" } : Jvm.MethodName) prog_21_method_85_code (4 : Nat) (Option.some Jvm.ClassFile.FieldType.int)) ∈ lw_all := lw_g (lw_at lw_m9 10 rfl) rfl
theorem q2051 : (Jvm.Cond.methodLink "DogsHourModel" (428 : Nat) ({ cls := "DogsHourModel", name := "roundOf", desc := "(I)I" } : Jvm.MethodName)) ∈ lw_all := lw_g (lw_at lw_m9 11 rfl) rfl
theorem q2052 : (Jvm.Cond.privateMethod ({ cls := "DogsHourModel", name := "roundOf", desc := "(I)I" } : Jvm.MethodName)) ∈ lw_tbl := lw_at lw_m9 12 rfl
theorem q2053 : (Jvm.Cond.instanceMethod ({ cls := "DogsHourModel", name := "roundOf", desc := "(I)I" } : Jvm.MethodName)) ∈ lw_all := lw_g (lw_at lw_m9 13 rfl) rfl
theorem q2054 : (Jvm.Cond.code ({ cls := "DogsHourModel", name := "roundOf", desc := "(I)I" } : Jvm.MethodName) prog_21_method_84_code (7 : Nat) (Option.some Jvm.ClassFile.FieldType.int)) ∈ lw_all := lw_g (lw_at lw_m9 14 rfl) rfl
theorem q2056 : (Jvm.Cond.instanceMethod ({ cls := "DogsHourModel", name := "minds", desc := "(I)I" } : Jvm.MethodName)) ∈ lw_all := lw_g (lw_at lw_m9 16 rfl) rfl
theorem q2057 : (Jvm.Cond.selects "DogsHourModel" ({ cls := "DogsHourModel", name := "minds", desc := "(I)I" } : Jvm.MethodName) ({ cls := "DogsHourModel", name := "minds", desc := "(I)I" } : Jvm.MethodName)) ∈ lw_all := lw_g (lw_at lw_m9 17 rfl) rfl
theorem q2058 : (Jvm.Cond.code ({ cls := "DogsHourModel", name := "minds", desc := "(I)I" } : Jvm.MethodName) prog_21_method_86_code (2 : Nat) (Option.some Jvm.ClassFile.FieldType.int)) ∈ lw_all := lw_g (lw_at lw_m9 18 rfl) rfl
theorem q2060 : (Jvm.Cond.instanceMethod ({ cls := "DogsHourModel", name := "feeding", desc := "(I)I" } : Jvm.MethodName)) ∈ lw_all := lw_g (lw_at lw_m9 20 rfl) rfl
theorem q2061 : (Jvm.Cond.selects "DogsHourModel" ({ cls := "DogsHourModel", name := "feeding", desc := "(I)I" } : Jvm.MethodName) ({ cls := "DogsHourModel", name := "feeding", desc := "(I)I" } : Jvm.MethodName)) ∈ lw_all := lw_g (lw_at lw_m9 21 rfl) rfl
theorem q2062 : (Jvm.Cond.code ({ cls := "DogsHourModel", name := "feeding", desc := "(I)I" } : Jvm.MethodName) prog_21_method_87_code (5 : Nat) (Option.some Jvm.ClassFile.FieldType.int)) ∈ lw_all := lw_g (lw_at lw_m9 22 rfl) rfl
theorem q2064 : (Jvm.Cond.instanceMethod ({ cls := "DogsHourModel", name := "safe", desc := "(I)I" } : Jvm.MethodName)) ∈ lw_all := lw_g (lw_at lw_m9 24 rfl) rfl
theorem q2065 : (Jvm.Cond.selects "DogsHourModel" ({ cls := "DogsHourModel", name := "safe", desc := "(I)I" } : Jvm.MethodName) ({ cls := "DogsHourModel", name := "safe", desc := "(I)I" } : Jvm.MethodName)) ∈ lw_all := lw_g (lw_at lw_m9 25 rfl) rfl
theorem q2066 : (Jvm.Cond.code ({ cls := "DogsHourModel", name := "safe", desc := "(I)I" } : Jvm.MethodName) prog_21_method_90_code (2 : Nat) (Option.some Jvm.ClassFile.FieldType.int)) ∈ lw_all := lw_g (lw_at lw_m9 26 rfl) rfl
theorem q2067 : (Jvm.Cond.methodLink "DogsHourModel" (434 : Nat) ({ cls := "DogsHourModel", name := "safeBits", desc := "(I)I" } : Jvm.MethodName)) ∈ lw_all := lw_g (lw_at lw_m9 27 rfl) rfl
theorem q2068 : (Jvm.Cond.privateMethod ({ cls := "DogsHourModel", name := "safeBits", desc := "(I)I" } : Jvm.MethodName)) ∈ lw_tbl := lw_at lw_m9 28 rfl
theorem q2069 : (Jvm.Cond.instanceMethod ({ cls := "DogsHourModel", name := "safeBits", desc := "(I)I" } : Jvm.MethodName)) ∈ lw_all := lw_g (lw_at lw_m9 29 rfl) rfl
theorem q2070 : (Jvm.Cond.code ({ cls := "DogsHourModel", name := "safeBits", desc := "(I)I" } : Jvm.MethodName) prog_21_method_89_code (4 : Nat) (Option.some Jvm.ClassFile.FieldType.int)) ∈ lw_all := lw_g (lw_at lw_m9 30 rfl) rfl
theorem q2071 : (Jvm.Cond.methodLink "DogsHourModel" (431 : Nat) ({ cls := "DogsHourModel", name := "nextHour", desc := "()V" } : Jvm.MethodName)) ∈ lw_all := lw_g (lw_at lw_m9 31 rfl) rfl
theorem q2072 : (Jvm.Cond.privateMethod ({ cls := "DogsHourModel", name := "nextHour", desc := "()V" } : Jvm.MethodName)) ∈ lw_tbl := lw_at lw_m9 32 rfl
theorem q2073 : (Jvm.Cond.instanceMethod ({ cls := "DogsHourModel", name := "nextHour", desc := "()V" } : Jvm.MethodName)) ∈ lw_all := lw_g (lw_at lw_m9 33 rfl) rfl
theorem q2074 : (Jvm.Cond.code ({ cls := "DogsHourModel", name := "nextHour", desc := "()V" } : Jvm.MethodName) prog_21_method_88_code (2 : Nat) (Option.none : Option Jvm.ClassFile.FieldType)) ∈ lw_all := lw_g (lw_at lw_m9 34 rfl) rfl
theorem q2076 : (Jvm.Cond.instanceMethod ({ cls := "DogsHourModel", name := "refuge", desc := "(II)I" } : Jvm.MethodName)) ∈ lw_all := lw_g (lw_at lw_m9 36 rfl) rfl
theorem q2077 : (Jvm.Cond.selects "DogsHourModel" ({ cls := "DogsHourModel", name := "refuge", desc := "(II)I" } : Jvm.MethodName) ({ cls := "DogsHourModel", name := "refuge", desc := "(II)I" } : Jvm.MethodName)) ∈ lw_all := lw_g (lw_at lw_m9 37 rfl) rfl
theorem q2078 : (Jvm.Cond.code ({ cls := "DogsHourModel", name := "refuge", desc := "(II)I" } : Jvm.MethodName) prog_21_method_91_code (8 : Nat) (Option.some Jvm.ClassFile.FieldType.int)) ∈ lw_all := lw_g (lw_at lw_m9 38 rfl) rfl
theorem q2080 : (Jvm.Cond.instanceMethod ({ cls := "DogsHourModel", name := "loses", desc := "(I)I" } : Jvm.MethodName)) ∈ lw_all := lw_g (lw_at lw_m9 40 rfl) rfl
theorem q2081 : (Jvm.Cond.selects "DogsHourModel" ({ cls := "DogsHourModel", name := "loses", desc := "(I)I" } : Jvm.MethodName) ({ cls := "DogsHourModel", name := "loses", desc := "(I)I" } : Jvm.MethodName)) ∈ lw_all := lw_g (lw_at lw_m9 41 rfl) rfl
theorem q2082 : (Jvm.Cond.code ({ cls := "DogsHourModel", name := "loses", desc := "(I)I" } : Jvm.MethodName) prog_21_method_92_code (2 : Nat) (Option.some Jvm.ClassFile.FieldType.int)) ∈ lw_all := lw_g (lw_at lw_m9 42 rfl) rfl
theorem q2084 : (Jvm.Cond.instanceMethod ({ cls := "DogsHourModel", name := "fetched", desc := "()I" } : Jvm.MethodName)) ∈ lw_all := lw_g (lw_at lw_m9 44 rfl) rfl
theorem q2085 : (Jvm.Cond.selects "DogsHourModel" ({ cls := "DogsHourModel", name := "fetched", desc := "()I" } : Jvm.MethodName) ({ cls := "DogsHourModel", name := "fetched", desc := "()I" } : Jvm.MethodName)) ∈ lw_all := lw_g (lw_at lw_m9 45 rfl) rfl
theorem q2086 : (Jvm.Cond.code ({ cls := "DogsHourModel", name := "fetched", desc := "()I" } : Jvm.MethodName) prog_21_method_93_code (1 : Nat) (Option.some Jvm.ClassFile.FieldType.int)) ∈ lw_all := lw_g (lw_at lw_m9 46 rfl) rfl
theorem q2088 : (Jvm.Cond.instanceMethod ({ cls := "DogsHourModel", name := "held", desc := "(I)I" } : Jvm.MethodName)) ∈ lw_all := lw_g (lw_at lw_m9 48 rfl) rfl
theorem q2089 : (Jvm.Cond.selects "DogsHourModel" ({ cls := "DogsHourModel", name := "held", desc := "(I)I" } : Jvm.MethodName) ({ cls := "DogsHourModel", name := "held", desc := "(I)I" } : Jvm.MethodName)) ∈ lw_all := lw_g (lw_at lw_m9 49 rfl) rfl
theorem q2090 : (Jvm.Cond.code ({ cls := "DogsHourModel", name := "held", desc := "(I)I" } : Jvm.MethodName) prog_21_method_94_code (6 : Nat) (Option.some Jvm.ClassFile.FieldType.int)) ∈ lw_all := lw_g (lw_at lw_m9 50 rfl) rfl
theorem q2092 : (Jvm.Cond.instanceMethod ({ cls := "DogsHourModel", name := "grudge", desc := "(II)I" } : Jvm.MethodName)) ∈ lw_all := lw_g (lw_at lw_m9 52 rfl) rfl
theorem q2093 : (Jvm.Cond.selects "DogsHourModel" ({ cls := "DogsHourModel", name := "grudge", desc := "(II)I" } : Jvm.MethodName) ({ cls := "DogsHourModel", name := "grudge", desc := "(II)I" } : Jvm.MethodName)) ∈ lw_all := lw_g (lw_at lw_m9 53 rfl) rfl
theorem q2094 : (Jvm.Cond.code ({ cls := "DogsHourModel", name := "grudge", desc := "(II)I" } : Jvm.MethodName) prog_21_method_95_code (4 : Nat) (Option.some Jvm.ClassFile.FieldType.int)) ∈ lw_all := lw_g (lw_at lw_m9 54 rfl) rfl
theorem q2096 : (Jvm.Cond.instanceMethod ({ cls := "DogsHourModel", name := "share", desc := "(I)I" } : Jvm.MethodName)) ∈ lw_all := lw_g (lw_at lw_m9 56 rfl) rfl
theorem q2097 : (Jvm.Cond.selects "DogsHourModel" ({ cls := "DogsHourModel", name := "share", desc := "(I)I" } : Jvm.MethodName) ({ cls := "DogsHourModel", name := "share", desc := "(I)I" } : Jvm.MethodName)) ∈ lw_all := lw_g (lw_at lw_m9 57 rfl) rfl
theorem q2098 : (Jvm.Cond.code ({ cls := "DogsHourModel", name := "share", desc := "(I)I" } : Jvm.MethodName) prog_21_method_96_code (5 : Nat) (Option.some Jvm.ClassFile.FieldType.int)) ∈ lw_all := lw_g (lw_at lw_m9 58 rfl) rfl
theorem q2099 : (Jvm.Cond.methodLink "DogsHourModel" (437 : Nat) ({ cls := "DogsHourModel", name := "duesOf", desc := "(I)I" } : Jvm.MethodName)) ∈ lw_all := lw_g (lw_at lw_m9 59 rfl) rfl
theorem q2100 : (Jvm.Cond.privateMethod ({ cls := "DogsHourModel", name := "duesOf", desc := "(I)I" } : Jvm.MethodName)) ∈ lw_tbl := lw_at lw_m9 60 rfl
theorem q2101 : (Jvm.Cond.instanceMethod ({ cls := "DogsHourModel", name := "duesOf", desc := "(I)I" } : Jvm.MethodName)) ∈ lw_all := lw_g (lw_at lw_m9 61 rfl) rfl
theorem q2102 : (Jvm.Cond.code ({ cls := "DogsHourModel", name := "duesOf", desc := "(I)I" } : Jvm.MethodName) prog_21_method_59_code (2 : Nat) (Option.some Jvm.ClassFile.FieldType.int)) ∈ lw_all := lw_g (lw_at lw_m9 62 rfl) rfl
theorem q2104 : (Jvm.Cond.instanceMethod ({ cls := "DogsHourModel", name := "then", desc := "(III)I" } : Jvm.MethodName)) ∈ lw_all := lw_g (lw_at lw_m9 64 rfl) rfl
theorem q2105 : (Jvm.Cond.selects "DogsHourModel" ({ cls := "DogsHourModel", name := "then", desc := "(III)I" } : Jvm.MethodName) ({ cls := "DogsHourModel", name := "then", desc := "(III)I" } : Jvm.MethodName)) ∈ lw_all := lw_g (lw_at lw_m9 65 rfl) rfl
theorem q2106 : (Jvm.Cond.code ({ cls := "DogsHourModel", name := "then", desc := "(III)I" } : Jvm.MethodName) prog_21_method_98_code (4 : Nat) (Option.some Jvm.ClassFile.FieldType.int)) ∈ lw_all := lw_g (lw_at lw_m9 66 rfl) rfl
theorem q2107 : (Jvm.Cond.methodLink "DogsHourModel" (440 : Nat) ({ cls := "DogsHourModel", name := "isLong", desc := "(I)Z" } : Jvm.MethodName)) ∈ lw_all := lw_g (lw_at lw_m9 67 rfl) rfl
theorem q2108 : (Jvm.Cond.static ({ cls := "DogsHourModel", name := "isLong", desc := "(I)Z" } : Jvm.MethodName)) ∈ lw_all := lw_g (lw_at lw_m9 68 rfl) rfl
theorem q2109 : (Jvm.Cond.code ({ cls := "DogsHourModel", name := "isLong", desc := "(I)Z" } : Jvm.MethodName) prog_21_method_97_code (1 : Nat) (Option.some Jvm.ClassFile.FieldType.boolean)) ∈ lw_all := lw_g (lw_at lw_m9 69 rfl) rfl
theorem q2111 : (Jvm.Cond.instanceMethod ({ cls := "DogsHourModel", name := "dogIn", desc := "(II)I" } : Jvm.MethodName)) ∈ lw_all := lw_g (lw_at lw_m9 71 rfl) rfl
theorem q2112 : (Jvm.Cond.selects "DogsHourModel" ({ cls := "DogsHourModel", name := "dogIn", desc := "(II)I" } : Jvm.MethodName) ({ cls := "DogsHourModel", name := "dogIn", desc := "(II)I" } : Jvm.MethodName)) ∈ lw_all := lw_g (lw_at lw_m9 72 rfl) rfl
theorem q2113 : (Jvm.Cond.code ({ cls := "DogsHourModel", name := "dogIn", desc := "(II)I" } : Jvm.MethodName) prog_21_method_99_code (3 : Nat) (Option.some Jvm.ClassFile.FieldType.int)) ∈ lw_all := lw_g (lw_at lw_m9 73 rfl) rfl
theorem q2115 : (Jvm.Cond.instanceMethod ({ cls := "DogsHourModel", name := "first", desc := "(I)I" } : Jvm.MethodName)) ∈ lw_all := lw_g (lw_at lw_m9 75 rfl) rfl
theorem q2116 : (Jvm.Cond.selects "DogsHourModel" ({ cls := "DogsHourModel", name := "first", desc := "(I)I" } : Jvm.MethodName) ({ cls := "DogsHourModel", name := "first", desc := "(I)I" } : Jvm.MethodName)) ∈ lw_all := lw_g (lw_at lw_m9 76 rfl) rfl
theorem q2117 : (Jvm.Cond.code ({ cls := "DogsHourModel", name := "first", desc := "(I)I" } : Jvm.MethodName) prog_21_method_100_code (4 : Nat) (Option.some Jvm.ClassFile.FieldType.int)) ∈ lw_all := lw_g (lw_at lw_m9 77 rfl) rfl
theorem q2119 : (Jvm.Cond.instanceMethod ({ cls := "DogsHourModel", name := "tell", desc := "(IZ)I" } : Jvm.MethodName)) ∈ lw_all := lw_g (lw_at lw_m9 79 rfl) rfl
theorem q2120 : (Jvm.Cond.selects "DogsHourModel" ({ cls := "DogsHourModel", name := "tell", desc := "(IZ)I" } : Jvm.MethodName) ({ cls := "DogsHourModel", name := "tell", desc := "(IZ)I" } : Jvm.MethodName)) ∈ lw_all := lw_g (lw_at lw_m9 80 rfl) rfl
theorem q2121 : (Jvm.Cond.code ({ cls := "DogsHourModel", name := "tell", desc := "(IZ)I" } : Jvm.MethodName) prog_21_method_101_code (3 : Nat) (Option.some Jvm.ClassFile.FieldType.int)) ∈ lw_all := lw_g (lw_at lw_m9 81 rfl) rfl
theorem q2123 : (Jvm.Cond.instanceMethod ({ cls := "DogsHourModel", name := "forget", desc := "()I" } : Jvm.MethodName)) ∈ lw_all := lw_g (lw_at lw_m9 83 rfl) rfl
theorem q2124 : (Jvm.Cond.selects "DogsHourModel" ({ cls := "DogsHourModel", name := "forget", desc := "()I" } : Jvm.MethodName) ({ cls := "DogsHourModel", name := "forget", desc := "()I" } : Jvm.MethodName)) ∈ lw_all := lw_g (lw_at lw_m9 84 rfl) rfl
theorem q2125 : (Jvm.Cond.code ({ cls := "DogsHourModel", name := "forget", desc := "()I" } : Jvm.MethodName) prog_21_method_102_code (2 : Nat) (Option.some Jvm.ClassFile.FieldType.int)) ∈ lw_all := lw_g (lw_at lw_m9 85 rfl) rfl
theorem q2127 : (Jvm.Cond.instanceMethod ({ cls := "DogsHourModel", name := "kicks", desc := "(I)I" } : Jvm.MethodName)) ∈ lw_all := lw_g (lw_at lw_m9 87 rfl) rfl
theorem q2128 : (Jvm.Cond.selects "DogsHourModel" ({ cls := "DogsHourModel", name := "kicks", desc := "(I)I" } : Jvm.MethodName) ({ cls := "DogsHourModel", name := "kicks", desc := "(I)I" } : Jvm.MethodName)) ∈ lw_all := lw_g (lw_at lw_m9 88 rfl) rfl
theorem q2129 : (Jvm.Cond.code ({ cls := "DogsHourModel", name := "kicks", desc := "(I)I" } : Jvm.MethodName) prog_21_method_105_code (4 : Nat) (Option.some Jvm.ClassFile.FieldType.int)) ∈ lw_all := lw_g (lw_at lw_m9 89 rfl) rfl
theorem q2130 : (Jvm.Cond.methodLink "DogsHourModel" (443 : Nat) ({ cls := "DogsHourModel", name := "isPair", desc := "(I)Z" } : Jvm.MethodName)) ∈ lw_all := lw_g (lw_at lw_m9 90 rfl) rfl
theorem q2131 : (Jvm.Cond.privateMethod ({ cls := "DogsHourModel", name := "isPair", desc := "(I)Z" } : Jvm.MethodName)) ∈ lw_tbl := lw_at lw_m9 91 rfl
theorem q2132 : (Jvm.Cond.instanceMethod ({ cls := "DogsHourModel", name := "isPair", desc := "(I)Z" } : Jvm.MethodName)) ∈ lw_all := lw_g (lw_at lw_m9 92 rfl) rfl
theorem q2133 : (Jvm.Cond.code ({ cls := "DogsHourModel", name := "isPair", desc := "(I)Z" } : Jvm.MethodName) prog_21_method_104_code (2 : Nat) (Option.some Jvm.ClassFile.FieldType.boolean)) ∈ lw_all := lw_g (lw_at lw_m9 93 rfl) rfl
theorem q2134 : (Jvm.Cond.methodLink "DogsHourModel" (446 : Nat) ({ cls := "DogsHourModel", name := "isSo", desc := "(II)Z" } : Jvm.MethodName)) ∈ lw_all := lw_g (lw_at lw_m9 94 rfl) rfl
theorem q2135 : (Jvm.Cond.privateMethod ({ cls := "DogsHourModel", name := "isSo", desc := "(II)Z" } : Jvm.MethodName)) ∈ lw_tbl := lw_at lw_m9 95 rfl
theorem q2136 : (Jvm.Cond.instanceMethod ({ cls := "DogsHourModel", name := "isSo", desc := "(II)Z" } : Jvm.MethodName)) ∈ lw_all := lw_g (lw_at lw_m9 96 rfl) rfl
theorem q2137 : (Jvm.Cond.code ({ cls := "DogsHourModel", name := "isSo", desc := "(II)Z" } : Jvm.MethodName) prog_21_method_103_code (4 : Nat) (Option.some Jvm.ClassFile.FieldType.boolean)) ∈ lw_all := lw_g (lw_at lw_m9 97 rfl) rfl
theorem q2139 : (Jvm.Cond.instanceMethod ({ cls := "DogsHourModel", name := "sure", desc := "(I)I" } : Jvm.MethodName)) ∈ lw_all := lw_g (lw_at lw_m9 99 rfl) rfl
theorem q2140 : (Jvm.Cond.selects "DogsHourModel" ({ cls := "DogsHourModel", name := "sure", desc := "(I)I" } : Jvm.MethodName) ({ cls := "DogsHourModel", name := "sure", desc := "(I)I" } : Jvm.MethodName)) ∈ lw_all := lw_g (lw_at lw_m9 100 rfl) rfl
theorem q2141 : (Jvm.Cond.code ({ cls := "DogsHourModel", name := "sure", desc := "(I)I" } : Jvm.MethodName) prog_21_method_106_code (4 : Nat) (Option.some Jvm.ClassFile.FieldType.int)) ∈ lw_all := lw_g (lw_at lw_m9 101 rfl) rfl
theorem q2143 : (Jvm.Cond.instanceMethod ({ cls := "DogsHourModel", name := "ask", desc := "(I)I" } : Jvm.MethodName)) ∈ lw_all := lw_g (lw_at lw_m9 103 rfl) rfl
theorem q2144 : (Jvm.Cond.selects "DogsHourModel" ({ cls := "DogsHourModel", name := "ask", desc := "(I)I" } : Jvm.MethodName) ({ cls := "DogsHourModel", name := "ask", desc := "(I)I" } : Jvm.MethodName)) ∈ lw_all := lw_g (lw_at lw_m9 104 rfl) rfl
theorem q2145 : (Jvm.Cond.code ({ cls := "DogsHourModel", name := "ask", desc := "(I)I" } : Jvm.MethodName) prog_21_method_107_code (7 : Nat) (Option.some Jvm.ClassFile.FieldType.int)) ∈ lw_all := lw_g (lw_at lw_m9 105 rfl) rfl
theorem q2147 : (Jvm.Cond.instanceMethod ({ cls := "DogsHourModel", name := "hold", desc := "(I)Z" } : Jvm.MethodName)) ∈ lw_all := lw_g (lw_at lw_m9 107 rfl) rfl
theorem q2148 : (Jvm.Cond.selects "DogsHourModel" ({ cls := "DogsHourModel", name := "hold", desc := "(I)Z" } : Jvm.MethodName) ({ cls := "DogsHourModel", name := "hold", desc := "(I)Z" } : Jvm.MethodName)) ∈ lw_all := lw_g (lw_at lw_m9 108 rfl) rfl
theorem q2149 : (Jvm.Cond.code ({ cls := "DogsHourModel", name := "hold", desc := "(I)Z" } : Jvm.MethodName) prog_21_method_108_code (3 : Nat) (Option.some Jvm.ClassFile.FieldType.boolean)) ∈ lw_all := lw_g (lw_at lw_m9 109 rfl) rfl
theorem q2151 : (Jvm.Cond.instanceMethod ({ cls := "DogsHourModel", name := "restore", desc := "(I)Z" } : Jvm.MethodName)) ∈ lw_all := lw_g (lw_at lw_m9 111 rfl) rfl
theorem q2152 : (Jvm.Cond.selects "DogsHourModel" ({ cls := "DogsHourModel", name := "restore", desc := "(I)Z" } : Jvm.MethodName) ({ cls := "DogsHourModel", name := "restore", desc := "(I)Z" } : Jvm.MethodName)) ∈ lw_all := lw_g (lw_at lw_m9 112 rfl) rfl
theorem q2153 : (Jvm.Cond.code ({ cls := "DogsHourModel", name := "restore", desc := "(I)Z" } : Jvm.MethodName) prog_21_method_109_code (3 : Nat) (Option.some Jvm.ClassFile.FieldType.boolean)) ∈ lw_all := lw_g (lw_at lw_m9 113 rfl) rfl
theorem q2155 : (Jvm.Cond.instanceMethod ({ cls := "DogsHourModel", name := "count", desc := "(I)I" } : Jvm.MethodName)) ∈ lw_all := lw_g (lw_at lw_m9 115 rfl) rfl
theorem q2156 : (Jvm.Cond.selects "DogsHourModel" ({ cls := "DogsHourModel", name := "count", desc := "(I)I" } : Jvm.MethodName) ({ cls := "DogsHourModel", name := "count", desc := "(I)I" } : Jvm.MethodName)) ∈ lw_all := lw_g (lw_at lw_m9 116 rfl) rfl
theorem q2157 : (Jvm.Cond.code ({ cls := "DogsHourModel", name := "count", desc := "(I)I" } : Jvm.MethodName) prog_21_method_111_code (2 : Nat) (Option.some Jvm.ClassFile.FieldType.int)) ∈ lw_all := lw_g (lw_at lw_m9 117 rfl) rfl
theorem q2158 : (Jvm.Cond.methodLink "DogsHourModel" (449 : Nat) ({ cls := "DogsHourModel", name := "sumNow", desc := "(II)I" } : Jvm.MethodName)) ∈ lw_all := lw_g (lw_at lw_m9 118 rfl) rfl
theorem q2159 : (Jvm.Cond.privateMethod ({ cls := "DogsHourModel", name := "sumNow", desc := "(II)I" } : Jvm.MethodName)) ∈ lw_tbl := lw_at lw_m9 119 rfl
theorem q2160 : (Jvm.Cond.instanceMethod ({ cls := "DogsHourModel", name := "sumNow", desc := "(II)I" } : Jvm.MethodName)) ∈ lw_all := lw_g (lw_at lw_m9 120 rfl) rfl
theorem q2161 : (Jvm.Cond.code ({ cls := "DogsHourModel", name := "sumNow", desc := "(II)I" } : Jvm.MethodName) prog_21_method_110_code (5 : Nat) (Option.some Jvm.ClassFile.FieldType.int)) ∈ lw_all := lw_g (lw_at lw_m9 121 rfl) rfl
theorem q2185 : (Jvm.Cond.castable "DogsHourModel" "java/lang/Object") ∈ lw_tbl := lw_at lw_m9 145 rfl
theorem in_X10 : ∀ w ∈ wsX100, w ∈ lw_all := lw_in wsX100 [1614, 1616, 1618, 1620, 1622, 1624, 1626, 1628, 1630, 1632, 1634, 1636, 1638, 1640, 1642, 1644, 1646, 1648, 1650, 1652, 1654, 1656, 1658, 1660, 1662, 1664, 1666, 1668, 1670, 1672, 1674, 1676, 1678, 1680, 1682, 1684, 1686, 1688, 1690, 1692, 1694, 1696, 1698, 1700, 1702, 1704, 1706, 1708, 1710, 1712, 1714, 1716, 1718, 1720, 1722, 1724, 1726, 1728, 1730, 1732, 1734, 1736, 1738, 1740, 1742, 1744, 1746] (by decide +kernel) (by decide +kernel)
