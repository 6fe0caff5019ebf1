/-! DoughBorderModel -/
set_option maxRecDepth 100000
def RX3 : String := "DoughBorderModel"
def TX3 : u_T := fun k => match k with
  | 0 => ("DoughBorderModel", "thrown", "I", false)
  | 1 => ("DoughBorderModel", "scalar", "[I", true)
  | 2 => ("DoughBorderModel", "line", "[I", true)
  | 3 => ("DoughBorderModel", "dough", "[I", true)
  | 4 => ("DoughBorderModel", "salted", "[I", true)
  | 5 => ("DoughBorderModel", "warmth", "[I", true)
  | 6 => ("DoughBorderModel", "at", "[I", true)
  | 7 => ("DoughBorderModel", "place", "[I", true)
  | 8 => ("DoughBorderModel", "whose", "[I", true)
  | 9 => ("DoughBorderModel", "crossed", "[I", true)
  | 10 => ("DoughBorderModel", "wantOf", "[I", true)
  | 11 => ("DoughBorderModel", "wantSide", "[I", true)
  | 12 => ("DoughBorderModel", "logNight", "[I", true)
  | 13 => ("DoughBorderModel", "logMile", "[I", true)
  | 14 => ("DoughBorderModel", "logDough", "[I", true)
  | 15 => ("DoughBorderModel", "toldDough", "[I", true)
  | 16 => ("DoughBorderModel", "toldBaked", "[I", true)
  | 17 => ("DoughBorderModel", "newScalar", "[I", true)
  | 18 => ("DoughBorderModel", "newLine", "[I", true)
  | 19 => ("DoughBorderModel", "newDough", "[I", true)
  | 20 => ("DoughBorderModel", "newSalt", "[I", true)
  | 21 => ("DoughBorderModel", "newWarmth", "[I", true)
  | 22 => ("DoughBorderModel", "newAt", "[I", true)
  | 23 => ("DoughBorderModel", "newPlace", "[I", true)
  | 24 => ("DoughBorderModel", "newWhose", "[I", true)
  | 25 => ("DoughBorderModel", "newWantOf", "[I", true)
  | 26 => ("DoughBorderModel", "newWantSide", "[I", true)
  | 27 => ("DoughBorderModel", "taped", "I", false)
  | 28 => ("DoughBorderModel", "p", "I", false)
  | 29 => ("DoughBorderModel", "fault", "I", false)
  | 30 => ("DoughBorderModel", "slot", "I", false)
  | 31 => ("DoughBorderModel", "rules", "I", false)
  | 32 => ("DoughBorderModel", "entries", "I", false)
  | 33 => ("DoughBorderModel", "deep", "I", false)
  | 34 => ("DoughBorderModel", "counted", "I", false)
  | 35 => ("DoughBorderModel", "opened", "I", false)
  | 36 => ("DoughBorderModel", "words", "I", false)
  | 37 => ("DoughBorderModel", "tape", "[B", true)
  | 38 => ("DoughBorderModel", "sort", "[I", true)
  | 39 => ("DoughBorderModel", "number", "[I", true)
  | 40 => ("DoughBorderModel", "clauses", "[I", true)
  | 41 => ("DoughBorderModel", "sumAt", "[I", true)
  | 42 => ("DoughBorderModel", "testAt", "[I", true)
  | 43 => ("DoughBorderModel", "endAt", "[I", true)
  | 44 => ("DoughBorderModel", "open", "[I", true)
  | 45 => ("DoughBorderModel", "asked", "[J", true)
  | 46 => ("DoughBorderModel", "stack", "[J", true)
  | 47 => ("DoughBorderModel", "creeps", "[I", true)
  | 48 => ("DoughBorderModel", "lay", "[I", true)
  | 49 => ("DoughBorderModel", "past", "[I", true)
  | 50 => ("DoughBorderModel", "ring", "[I", true)
  | 51 => ("DoughBorderModel", "pastMany", "I", false)
  | 52 => ("DoughBorderModel", "pastAt", "I", false)
  | 53 => ("DoughBorderModel", "takesBack", "Z", false)
  | 54 => ("DoughBorderModel", "choice", "[I", true)
  | 55 => ("DoughBorderModel", "bestChoice", "[I", true)
  | 56 => ("DoughBorderModel", "dukeRows", "[I", true)
  | 57 => ("DoughBorderModel", "tried", "[I", true)
  | 58 => ("DoughBorderModel", "worth", "[I", true)
  | 59 => ("DoughBorderModel", "firstPush", "I", false)
  | 60 => ("DoughBorderModel", "course", "[I", true)
  | 61 => ("DoughBorderModel", "isSlice", "Z", false)
  | 62 => ("DoughBorderModel", "alike", "[I", true)
  | 63 => ("DoughBorderModel", "lineWas", "[I", true)
  | 64 => ("DoughBorderModel", "images", "[I", true)
  | 65 => ("DoughBorderModel", "isMade", "[Z", true)
  | 66 => ("DoughBorderModel", "imageAt", "I", false)
  | _ => ("DoughBorderModel", "goesBack", "Z", false)
def tyX3 : Nat → FieldType := fun k => match k with
  | 0 => .int
  | 1 => .array .int
  | 2 => .array .int
  | 3 => .array .int
  | 4 => .array .int
  | 5 => .array .int
  | 6 => .array .int
  | 7 => .array .int
  | 8 => .array .int
  | 9 => .array .int
  | 10 => .array .int
  | 11 => .array .int
  | 12 => .array .int
  | 13 => .array .int
  | 14 => .array .int
  | 15 => .array .int
  | 16 => .array .int
  | 17 => .array .int
  | 18 => .array .int
  | 19 => .array .int
  | 20 => .array .int
  | 21 => .array .int
  | 22 => .array .int
  | 23 => .array .int
  | 24 => .array .int
  | 25 => .array .int
  | 26 => .array .int
  | 27 => .int
  | 28 => .int
  | 29 => .int
  | 30 => .int
  | 31 => .int
  | 32 => .int
  | 33 => .int
  | 34 => .int
  | 35 => .int
  | 36 => .int
  | 37 => .array .byte
  | 38 => .array .int
  | 39 => .array .int
  | 40 => .array .int
  | 41 => .array .int
  | 42 => .array .int
  | 43 => .array .int
  | 44 => .array .int
  | 45 => .array .long
  | 46 => .array .long
  | 47 => .array .int
  | 48 => .array .int
  | 49 => .array .int
  | 50 => .array .int
  | 51 => .int
  | 52 => .int
  | 53 => .boolean
  | 54 => .array .int
  | 55 => .array .int
  | 56 => .array .int
  | 57 => .array .int
  | 58 => .array .int
  | 59 => .int
  | 60 => .array .int
  | 61 => .boolean
  | 62 => .array .int
  | 63 => .array .int
  | 64 => .array .int
  | 65 => .array .boolean
  | 66 => .int
  | _ => .boolean
abbrev wsX30 : List Cond := u_ws RX3 TX3 68
set_option maxRecDepth 100000 in
theorem nmX3 : ∀ a, a < 68 → ∀ b, b < 68 → a ≠ b → (TX3 a).2.1 ≠ (TX3 b).2.1 := by decide +kernel
set_option maxRecDepth 100000 in
theorem tyX3_ok : ∀ k, k < 68 → parseFieldDescriptor (TX3 k).2.2.1 = some (tyX3 k) := by decide +kernel
abbrev cX3_init : ByteArray := prog_17_method_1_code
def yX3_init : MethodName := ⟨RX3, "<init>", "()V"⟩
def dkwX3_init_18 : List UInt8 := [16, 10, 188, 10, 181, 0, 157, 42, 17, 21, 124, 188, 10, 181, 0, 160, 42, 7, 188, 4, 181, 0, 163, 177]
abbrev dktX3_init_18 : List UInt8 := dkwX3_init_18 ++ []
def dkwX3_init_17 : List UInt8 := [188, 10, 181, 0, 148, 42, 17, 1, 54, 188, 10, 181, 0, 151, 42, 17, 3, 232, 188, 10, 181, 0, 154, 42]
abbrev dktX3_init_17 : List UInt8 := dkwX3_init_17 ++ dktX3_init_18
def dkwX3_init_16 : List UInt8 := [6, 188, 10, 181, 0, 139, 42, 16, 84, 188, 10, 181, 0, 142, 42, 8, 188, 10, 181, 0, 145, 42, 8]
abbrev dktX3_init_16 : List UInt8 := dkwX3_init_16 ++ dktX3_init_17
def dkwX3_init_15 : List UInt8 := [42, 17, 3, 32, 188, 10, 181, 0, 130, 42, 4, 188, 10, 181, 0, 133, 42, 6, 188, 10, 181, 0, 136, 42]
abbrev dktX3_init_15 : List UInt8 := dkwX3_init_15 ++ dktX3_init_16
def dkwX3_init_14 : List UInt8 := [17, 1, 44, 188, 11, 181, 0, 121, 42, 16, 10, 188, 10, 181, 0, 124, 42, 16, 8, 188, 10, 181, 0, 127]
abbrev dktX3_init_14 : List UInt8 := dkwX3_init_14 ++ dktX3_init_15
def dkwX3_init_13 : List UInt8 := [188, 10, 181, 0, 111, 42, 17, 1, 146, 188, 10, 181, 0, 114, 42, 16, 12, 188, 11, 181, 0, 117, 42]
abbrev dktX3_init_13 : List UInt8 := dkwX3_init_13 ++ dktX3_init_14
def dkwX3_init_12 : List UInt8 := [188, 10, 181, 0, 102, 42, 16, 72, 188, 10, 181, 0, 105, 42, 16, 72, 188, 10, 181, 0, 108, 42, 16, 72]
abbrev dktX3_init_12 : List UInt8 := dkwX3_init_12 ++ dktX3_init_13
def dkwX3_init_11 : List UInt8 := [181, 0, 92, 42, 17, 7, 8, 188, 10, 181, 0, 96, 42, 17, 7, 8, 188, 10, 181, 0, 99, 42, 16, 6]
abbrev dktX3_init_11 : List UInt8 := dkwX3_init_11 ++ dktX3_init_12
def dkwX3_init_10 : List UInt8 := [181, 0, 82, 42, 16, 8, 188, 10, 181, 0, 85, 42, 16, 12, 181, 0, 88, 42, 17, 1, 144, 188, 8]
abbrev dktX3_init_10 : List UInt8 := dkwX3_init_10 ++ dktX3_init_11
def dkwX3_init_9 : List UInt8 := [181, 0, 73, 42, 16, 8, 188, 10, 181, 0, 76, 42, 16, 8, 188, 10, 181, 0, 79, 42, 16, 8, 188, 10]
abbrev dktX3_init_9 : List UInt8 := dkwX3_init_9 ++ dktX3_init_10
def dkwX3_init_8 : List UInt8 := [181, 0, 64, 42, 16, 10, 188, 10, 181, 0, 67, 42, 16, 100, 188, 10, 181, 0, 70, 42, 16, 8, 188, 10]
abbrev dktX3_init_8 : List UInt8 := dkwX3_init_8 ++ dktX3_init_9
def dkwX3_init_7 : List UInt8 := [181, 0, 55, 42, 8, 188, 10, 181, 0, 58, 42, 16, 10, 188, 10, 181, 0, 61, 42, 16, 10, 188, 10]
abbrev dktX3_init_7 : List UInt8 := dkwX3_init_7 ++ dktX3_init_8
def dkwX3_init_6 : List UInt8 := [181, 0, 46, 42, 16, 10, 188, 10, 181, 0, 49, 42, 16, 10, 188, 10, 181, 0, 52, 42, 4, 188, 10]
abbrev dktX3_init_6 : List UInt8 := dkwX3_init_6 ++ dktX3_init_7
def dkwX3_init_5 : List UInt8 := [181, 0, 37, 42, 16, 8, 188, 10, 181, 0, 40, 42, 16, 10, 188, 10, 181, 0, 43, 42, 16, 10, 188, 10]
abbrev dktX3_init_5 : List UInt8 := dkwX3_init_5 ++ dktX3_init_6
def dkwX3_init_4 : List UInt8 := [181, 0, 28, 42, 16, 8, 188, 10, 181, 0, 31, 42, 16, 8, 188, 10, 181, 0, 34, 42, 16, 8, 188, 10]
abbrev dktX3_init_4 : List UInt8 := dkwX3_init_4 ++ dktX3_init_5
def dkwX3_init_3 : List UInt8 := [181, 0, 19, 42, 16, 100, 188, 10, 181, 0, 22, 42, 16, 8, 188, 10, 181, 0, 25, 42, 16, 8, 188, 10]
abbrev dktX3_init_3 : List UInt8 := dkwX3_init_3 ++ dktX3_init_4
def dkwX3_init_2 : List UInt8 := [181, 0, 9, 42, 16, 10, 188, 10, 181, 0, 13, 42, 16, 10, 188, 10, 181, 0, 16, 42, 16, 10, 188, 10]
abbrev dktX3_init_2 : List UInt8 := dkwX3_init_2 ++ dktX3_init_3
def dkwX3_init_1 : List UInt8 := [79, 89, 7, 3, 79, 89, 8, 3, 79, 89, 16, 6, 3, 79, 89, 16, 7, 3, 79, 89, 16, 8, 2, 79]
abbrev dktX3_init_1 : List UInt8 := dkwX3_init_1 ++ dktX3_init_2
def dkwX3_init_0 : List UInt8 := [42, 183, 0, 3, 42, 16, 9, 188, 10, 89, 3, 3, 79, 89, 4, 3, 79, 89, 5, 3, 79, 89, 6, 3]
abbrev dktX3_init_0 : List UInt8 := dkwX3_init_0 ++ dktX3_init_1
theorem dksX3_init_0 : cX3_init.data.toList.drop 0 = dktX3_init_0 := by decide +kernel
theorem dksX3_init_1 : cX3_init.data.toList.drop 24 = dktX3_init_1 := dk_seg dksX3_init_0 24 rfl rfl
theorem dksX3_init_2 : cX3_init.data.toList.drop 48 = dktX3_init_2 := dk_seg dksX3_init_1 24 rfl rfl
theorem dksX3_init_3 : cX3_init.data.toList.drop 72 = dktX3_init_3 := dk_seg dksX3_init_2 24 rfl rfl
theorem dksX3_init_4 : cX3_init.data.toList.drop 96 = dktX3_init_4 := dk_seg dksX3_init_3 24 rfl rfl
theorem dksX3_init_5 : cX3_init.data.toList.drop 120 = dktX3_init_5 := dk_seg dksX3_init_4 24 rfl rfl
theorem dksX3_init_6 : cX3_init.data.toList.drop 144 = dktX3_init_6 := dk_seg dksX3_init_5 24 rfl rfl
theorem dksX3_init_7 : cX3_init.data.toList.drop 167 = dktX3_init_7 := dk_seg dksX3_init_6 23 rfl rfl
theorem dksX3_init_8 : cX3_init.data.toList.drop 190 = dktX3_init_8 := dk_seg dksX3_init_7 23 rfl rfl
theorem dksX3_init_9 : cX3_init.data.toList.drop 214 = dktX3_init_9 := dk_seg dksX3_init_8 24 rfl rfl
theorem dksX3_init_10 : cX3_init.data.toList.drop 238 = dktX3_init_10 := dk_seg dksX3_init_9 24 rfl rfl
theorem dksX3_init_11 : cX3_init.data.toList.drop 261 = dktX3_init_11 := dk_seg dksX3_init_10 23 rfl rfl
theorem dksX3_init_12 : cX3_init.data.toList.drop 285 = dktX3_init_12 := dk_seg dksX3_init_11 24 rfl rfl
theorem dksX3_init_13 : cX3_init.data.toList.drop 309 = dktX3_init_13 := dk_seg dksX3_init_12 24 rfl rfl
theorem dksX3_init_14 : cX3_init.data.toList.drop 332 = dktX3_init_14 := dk_seg dksX3_init_13 23 rfl rfl
theorem dksX3_init_15 : cX3_init.data.toList.drop 356 = dktX3_init_15 := dk_seg dksX3_init_14 24 rfl rfl
theorem dksX3_init_16 : cX3_init.data.toList.drop 380 = dktX3_init_16 := dk_seg dksX3_init_15 24 rfl rfl
theorem dksX3_init_17 : cX3_init.data.toList.drop 403 = dktX3_init_17 := dk_seg dksX3_init_16 23 rfl rfl
theorem dksX3_init_18 : cX3_init.data.toList.drop 427 = dktX3_init_18 := dk_seg dksX3_init_17 24 rfl rfl
theorem dX3_init_0 : decode cX3_init 0 = .ok (.aload_n 0, 1) := dk_42 (dk_at dksX3_init_0 0 rfl rfl)
theorem dX3_init_1 : decode cX3_init 1 = .ok (.invokespecial 3, 3) := dk_183 0 3 (dk_at dksX3_init_0 1 rfl rfl)
theorem dX3_init_4 : decode cX3_init 4 = .ok (.aload_n 0, 1) := dk_42 (dk_at dksX3_init_0 4 rfl rfl)
theorem dX3_init_5 : decode cX3_init 5 = .ok (.bipush 9, 2) := dk_16 9 (dk_at dksX3_init_0 5 rfl rfl)
theorem dX3_init_7 : decode cX3_init 7 = .ok (.newarray .int, 2) := dk_188_10 (dk_at dksX3_init_0 7 rfl rfl)
theorem dX3_init_9 : decode cX3_init 9 = .ok (.dup, 1) := dk_89 (dk_at dksX3_init_0 9 rfl rfl)
theorem dX3_init_10 : decode cX3_init 10 = .ok (.iconst 0, 1) := dk_3 (dk_at dksX3_init_0 10 rfl rfl)
theorem dX3_init_11 : decode cX3_init 11 = .ok (.iconst 0, 1) := dk_3 (dk_at dksX3_init_0 11 rfl rfl)
theorem dX3_init_12 : decode cX3_init 12 = .ok (.iastore, 1) := dk_79 (dk_at dksX3_init_0 12 rfl rfl)
theorem dX3_init_13 : decode cX3_init 13 = .ok (.dup, 1) := dk_89 (dk_at dksX3_init_0 13 rfl rfl)
theorem dX3_init_14 : decode cX3_init 14 = .ok (.iconst 1, 1) := dk_4 (dk_at dksX3_init_0 14 rfl rfl)
theorem dX3_init_15 : decode cX3_init 15 = .ok (.iconst 0, 1) := dk_3 (dk_at dksX3_init_0 15 rfl rfl)
theorem dX3_init_16 : decode cX3_init 16 = .ok (.iastore, 1) := dk_79 (dk_at dksX3_init_0 16 rfl rfl)
theorem dX3_init_17 : decode cX3_init 17 = .ok (.dup, 1) := dk_89 (dk_at dksX3_init_0 17 rfl rfl)
theorem dX3_init_18 : decode cX3_init 18 = .ok (.iconst 2, 1) := dk_5 (dk_at dksX3_init_0 18 rfl rfl)
theorem dX3_init_19 : decode cX3_init 19 = .ok (.iconst 0, 1) := dk_3 (dk_at dksX3_init_0 19 rfl rfl)
theorem dX3_init_20 : decode cX3_init 20 = .ok (.iastore, 1) := dk_79 (dk_at dksX3_init_0 20 rfl rfl)
theorem dX3_init_21 : decode cX3_init 21 = .ok (.dup, 1) := dk_89 (dk_at dksX3_init_0 21 rfl rfl)
theorem dX3_init_22 : decode cX3_init 22 = .ok (.iconst 3, 1) := dk_6 (dk_at dksX3_init_0 22 rfl rfl)
theorem dX3_init_23 : decode cX3_init 23 = .ok (.iconst 0, 1) := dk_3 (dk_at dksX3_init_0 23 rfl rfl)
theorem dX3_init_24 : decode cX3_init 24 = .ok (.iastore, 1) := dk_79 (dk_at dksX3_init_1 0 rfl rfl)
theorem dX3_init_25 : decode cX3_init 25 = .ok (.dup, 1) := dk_89 (dk_at dksX3_init_1 1 rfl rfl)
theorem dX3_init_26 : decode cX3_init 26 = .ok (.iconst 4, 1) := dk_7 (dk_at dksX3_init_1 2 rfl rfl)
theorem dX3_init_27 : decode cX3_init 27 = .ok (.iconst 0, 1) := dk_3 (dk_at dksX3_init_1 3 rfl rfl)
theorem dX3_init_28 : decode cX3_init 28 = .ok (.iastore, 1) := dk_79 (dk_at dksX3_init_1 4 rfl rfl)
theorem dX3_init_29 : decode cX3_init 29 = .ok (.dup, 1) := dk_89 (dk_at dksX3_init_1 5 rfl rfl)
theorem dX3_init_30 : decode cX3_init 30 = .ok (.iconst 5, 1) := dk_8 (dk_at dksX3_init_1 6 rfl rfl)
theorem dX3_init_31 : decode cX3_init 31 = .ok (.iconst 0, 1) := dk_3 (dk_at dksX3_init_1 7 rfl rfl)
theorem dX3_init_32 : decode cX3_init 32 = .ok (.iastore, 1) := dk_79 (dk_at dksX3_init_1 8 rfl rfl)
theorem dX3_init_33 : decode cX3_init 33 = .ok (.dup, 1) := dk_89 (dk_at dksX3_init_1 9 rfl rfl)
theorem dX3_init_34 : decode cX3_init 34 = .ok (.bipush 6, 2) := dk_16 6 (dk_at dksX3_init_1 10 rfl rfl)
theorem dX3_init_36 : decode cX3_init 36 = .ok (.iconst 0, 1) := dk_3 (dk_at dksX3_init_1 12 rfl rfl)
theorem dX3_init_37 : decode cX3_init 37 = .ok (.iastore, 1) := dk_79 (dk_at dksX3_init_1 13 rfl rfl)
theorem dX3_init_38 : decode cX3_init 38 = .ok (.dup, 1) := dk_89 (dk_at dksX3_init_1 14 rfl rfl)
theorem dX3_init_39 : decode cX3_init 39 = .ok (.bipush 7, 2) := dk_16 7 (dk_at dksX3_init_1 15 rfl rfl)
theorem dX3_init_41 : decode cX3_init 41 = .ok (.iconst 0, 1) := dk_3 (dk_at dksX3_init_1 17 rfl rfl)
theorem dX3_init_42 : decode cX3_init 42 = .ok (.iastore, 1) := dk_79 (dk_at dksX3_init_1 18 rfl rfl)
theorem dX3_init_43 : decode cX3_init 43 = .ok (.dup, 1) := dk_89 (dk_at dksX3_init_1 19 rfl rfl)
theorem dX3_init_44 : decode cX3_init 44 = .ok (.bipush 8, 2) := dk_16 8 (dk_at dksX3_init_1 20 rfl rfl)
theorem dX3_init_46 : decode cX3_init 46 = .ok (.iconst (-1), 1) := dk_2 (dk_at dksX3_init_1 22 rfl rfl)
theorem dX3_init_47 : decode cX3_init 47 = .ok (.iastore, 1) := dk_79 (dk_at dksX3_init_1 23 rfl rfl)
theorem dX3_init_48 : decode cX3_init 48 = .ok (.putfield 9, 3) := dk_181 0 9 (dk_at dksX3_init_2 0 rfl rfl)
theorem dX3_init_51 : decode cX3_init 51 = .ok (.aload_n 0, 1) := dk_42 (dk_at dksX3_init_2 3 rfl rfl)
theorem dX3_init_52 : decode cX3_init 52 = .ok (.bipush 10, 2) := dk_16 10 (dk_at dksX3_init_2 4 rfl rfl)
theorem dX3_init_54 : decode cX3_init 54 = .ok (.newarray .int, 2) := dk_188_10 (dk_at dksX3_init_2 6 rfl rfl)
theorem dX3_init_56 : decode cX3_init 56 = .ok (.putfield 13, 3) := dk_181 0 13 (dk_at dksX3_init_2 8 rfl rfl)
theorem dX3_init_59 : decode cX3_init 59 = .ok (.aload_n 0, 1) := dk_42 (dk_at dksX3_init_2 11 rfl rfl)
theorem dX3_init_60 : decode cX3_init 60 = .ok (.bipush 10, 2) := dk_16 10 (dk_at dksX3_init_2 12 rfl rfl)
theorem dX3_init_62 : decode cX3_init 62 = .ok (.newarray .int, 2) := dk_188_10 (dk_at dksX3_init_2 14 rfl rfl)
theorem dX3_init_64 : decode cX3_init 64 = .ok (.putfield 16, 3) := dk_181 0 16 (dk_at dksX3_init_2 16 rfl rfl)
theorem dX3_init_67 : decode cX3_init 67 = .ok (.aload_n 0, 1) := dk_42 (dk_at dksX3_init_2 19 rfl rfl)
theorem dX3_init_68 : decode cX3_init 68 = .ok (.bipush 10, 2) := dk_16 10 (dk_at dksX3_init_2 20 rfl rfl)
theorem dX3_init_70 : decode cX3_init 70 = .ok (.newarray .int, 2) := dk_188_10 (dk_at dksX3_init_2 22 rfl rfl)
theorem dX3_init_72 : decode cX3_init 72 = .ok (.putfield 19, 3) := dk_181 0 19 (dk_at dksX3_init_3 0 rfl rfl)
theorem dX3_init_75 : decode cX3_init 75 = .ok (.aload_n 0, 1) := dk_42 (dk_at dksX3_init_3 3 rfl rfl)
theorem dX3_init_76 : decode cX3_init 76 = .ok (.bipush 100, 2) := dk_16 100 (dk_at dksX3_init_3 4 rfl rfl)
theorem dX3_init_78 : decode cX3_init 78 = .ok (.newarray .int, 2) := dk_188_10 (dk_at dksX3_init_3 6 rfl rfl)
theorem dX3_init_80 : decode cX3_init 80 = .ok (.putfield 22, 3) := dk_181 0 22 (dk_at dksX3_init_3 8 rfl rfl)
theorem dX3_init_83 : decode cX3_init 83 = .ok (.aload_n 0, 1) := dk_42 (dk_at dksX3_init_3 11 rfl rfl)
theorem dX3_init_84 : decode cX3_init 84 = .ok (.bipush 8, 2) := dk_16 8 (dk_at dksX3_init_3 12 rfl rfl)
theorem dX3_init_86 : decode cX3_init 86 = .ok (.newarray .int, 2) := dk_188_10 (dk_at dksX3_init_3 14 rfl rfl)
theorem dX3_init_88 : decode cX3_init 88 = .ok (.putfield 25, 3) := dk_181 0 25 (dk_at dksX3_init_3 16 rfl rfl)
theorem dX3_init_91 : decode cX3_init 91 = .ok (.aload_n 0, 1) := dk_42 (dk_at dksX3_init_3 19 rfl rfl)
theorem dX3_init_92 : decode cX3_init 92 = .ok (.bipush 8, 2) := dk_16 8 (dk_at dksX3_init_3 20 rfl rfl)
theorem dX3_init_94 : decode cX3_init 94 = .ok (.newarray .int, 2) := dk_188_10 (dk_at dksX3_init_3 22 rfl rfl)
theorem dX3_init_96 : decode cX3_init 96 = .ok (.putfield 28, 3) := dk_181 0 28 (dk_at dksX3_init_4 0 rfl rfl)
theorem dX3_init_99 : decode cX3_init 99 = .ok (.aload_n 0, 1) := dk_42 (dk_at dksX3_init_4 3 rfl rfl)
theorem dX3_init_100 : decode cX3_init 100 = .ok (.bipush 8, 2) := dk_16 8 (dk_at dksX3_init_4 4 rfl rfl)
theorem dX3_init_102 : decode cX3_init 102 = .ok (.newarray .int, 2) := dk_188_10 (dk_at dksX3_init_4 6 rfl rfl)
theorem dX3_init_104 : decode cX3_init 104 = .ok (.putfield 31, 3) := dk_181 0 31 (dk_at dksX3_init_4 8 rfl rfl)
theorem dX3_init_107 : decode cX3_init 107 = .ok (.aload_n 0, 1) := dk_42 (dk_at dksX3_init_4 11 rfl rfl)
theorem dX3_init_108 : decode cX3_init 108 = .ok (.bipush 8, 2) := dk_16 8 (dk_at dksX3_init_4 12 rfl rfl)
theorem dX3_init_110 : decode cX3_init 110 = .ok (.newarray .int, 2) := dk_188_10 (dk_at dksX3_init_4 14 rfl rfl)
theorem dX3_init_112 : decode cX3_init 112 = .ok (.putfield 34, 3) := dk_181 0 34 (dk_at dksX3_init_4 16 rfl rfl)
theorem dX3_init_115 : decode cX3_init 115 = .ok (.aload_n 0, 1) := dk_42 (dk_at dksX3_init_4 19 rfl rfl)
theorem dX3_init_116 : decode cX3_init 116 = .ok (.bipush 8, 2) := dk_16 8 (dk_at dksX3_init_4 20 rfl rfl)
theorem dX3_init_118 : decode cX3_init 118 = .ok (.newarray .int, 2) := dk_188_10 (dk_at dksX3_init_4 22 rfl rfl)
theorem dX3_init_120 : decode cX3_init 120 = .ok (.putfield 37, 3) := dk_181 0 37 (dk_at dksX3_init_5 0 rfl rfl)
theorem dX3_init_123 : decode cX3_init 123 = .ok (.aload_n 0, 1) := dk_42 (dk_at dksX3_init_5 3 rfl rfl)
theorem dX3_init_124 : decode cX3_init 124 = .ok (.bipush 8, 2) := dk_16 8 (dk_at dksX3_init_5 4 rfl rfl)
theorem dX3_init_126 : decode cX3_init 126 = .ok (.newarray .int, 2) := dk_188_10 (dk_at dksX3_init_5 6 rfl rfl)
theorem dX3_init_128 : decode cX3_init 128 = .ok (.putfield 40, 3) := dk_181 0 40 (dk_at dksX3_init_5 8 rfl rfl)
theorem dX3_init_131 : decode cX3_init 131 = .ok (.aload_n 0, 1) := dk_42 (dk_at dksX3_init_5 11 rfl rfl)
theorem dX3_init_132 : decode cX3_init 132 = .ok (.bipush 10, 2) := dk_16 10 (dk_at dksX3_init_5 12 rfl rfl)
theorem dX3_init_134 : decode cX3_init 134 = .ok (.newarray .int, 2) := dk_188_10 (dk_at dksX3_init_5 14 rfl rfl)
theorem dX3_init_136 : decode cX3_init 136 = .ok (.putfield 43, 3) := dk_181 0 43 (dk_at dksX3_init_5 16 rfl rfl)
theorem dX3_init_139 : decode cX3_init 139 = .ok (.aload_n 0, 1) := dk_42 (dk_at dksX3_init_5 19 rfl rfl)
theorem dX3_init_140 : decode cX3_init 140 = .ok (.bipush 10, 2) := dk_16 10 (dk_at dksX3_init_5 20 rfl rfl)
theorem dX3_init_142 : decode cX3_init 142 = .ok (.newarray .int, 2) := dk_188_10 (dk_at dksX3_init_5 22 rfl rfl)
theorem dX3_init_144 : decode cX3_init 144 = .ok (.putfield 46, 3) := dk_181 0 46 (dk_at dksX3_init_6 0 rfl rfl)
theorem dX3_init_147 : decode cX3_init 147 = .ok (.aload_n 0, 1) := dk_42 (dk_at dksX3_init_6 3 rfl rfl)
theorem dX3_init_148 : decode cX3_init 148 = .ok (.bipush 10, 2) := dk_16 10 (dk_at dksX3_init_6 4 rfl rfl)
theorem dX3_init_150 : decode cX3_init 150 = .ok (.newarray .int, 2) := dk_188_10 (dk_at dksX3_init_6 6 rfl rfl)
theorem dX3_init_152 : decode cX3_init 152 = .ok (.putfield 49, 3) := dk_181 0 49 (dk_at dksX3_init_6 8 rfl rfl)
theorem dX3_init_155 : decode cX3_init 155 = .ok (.aload_n 0, 1) := dk_42 (dk_at dksX3_init_6 11 rfl rfl)
theorem dX3_init_156 : decode cX3_init 156 = .ok (.bipush 10, 2) := dk_16 10 (dk_at dksX3_init_6 12 rfl rfl)
theorem dX3_init_158 : decode cX3_init 158 = .ok (.newarray .int, 2) := dk_188_10 (dk_at dksX3_init_6 14 rfl rfl)
theorem dX3_init_160 : decode cX3_init 160 = .ok (.putfield 52, 3) := dk_181 0 52 (dk_at dksX3_init_6 16 rfl rfl)
theorem dX3_init_163 : decode cX3_init 163 = .ok (.aload_n 0, 1) := dk_42 (dk_at dksX3_init_6 19 rfl rfl)
theorem dX3_init_164 : decode cX3_init 164 = .ok (.iconst 1, 1) := dk_4 (dk_at dksX3_init_6 20 rfl rfl)
theorem dX3_init_165 : decode cX3_init 165 = .ok (.newarray .int, 2) := dk_188_10 (dk_at dksX3_init_6 21 rfl rfl)
theorem dX3_init_167 : decode cX3_init 167 = .ok (.putfield 55, 3) := dk_181 0 55 (dk_at dksX3_init_7 0 rfl rfl)
theorem dX3_init_170 : decode cX3_init 170 = .ok (.aload_n 0, 1) := dk_42 (dk_at dksX3_init_7 3 rfl rfl)
theorem dX3_init_171 : decode cX3_init 171 = .ok (.iconst 5, 1) := dk_8 (dk_at dksX3_init_7 4 rfl rfl)
theorem dX3_init_172 : decode cX3_init 172 = .ok (.newarray .int, 2) := dk_188_10 (dk_at dksX3_init_7 5 rfl rfl)
theorem dX3_init_174 : decode cX3_init 174 = .ok (.putfield 58, 3) := dk_181 0 58 (dk_at dksX3_init_7 7 rfl rfl)
theorem dX3_init_177 : decode cX3_init 177 = .ok (.aload_n 0, 1) := dk_42 (dk_at dksX3_init_7 10 rfl rfl)
theorem dX3_init_178 : decode cX3_init 178 = .ok (.bipush 10, 2) := dk_16 10 (dk_at dksX3_init_7 11 rfl rfl)
theorem dX3_init_180 : decode cX3_init 180 = .ok (.newarray .int, 2) := dk_188_10 (dk_at dksX3_init_7 13 rfl rfl)
theorem dX3_init_182 : decode cX3_init 182 = .ok (.putfield 61, 3) := dk_181 0 61 (dk_at dksX3_init_7 15 rfl rfl)
theorem dX3_init_185 : decode cX3_init 185 = .ok (.aload_n 0, 1) := dk_42 (dk_at dksX3_init_7 18 rfl rfl)
theorem dX3_init_186 : decode cX3_init 186 = .ok (.bipush 10, 2) := dk_16 10 (dk_at dksX3_init_7 19 rfl rfl)
theorem dX3_init_188 : decode cX3_init 188 = .ok (.newarray .int, 2) := dk_188_10 (dk_at dksX3_init_7 21 rfl rfl)
theorem dX3_init_190 : decode cX3_init 190 = .ok (.putfield 64, 3) := dk_181 0 64 (dk_at dksX3_init_8 0 rfl rfl)
theorem dX3_init_193 : decode cX3_init 193 = .ok (.aload_n 0, 1) := dk_42 (dk_at dksX3_init_8 3 rfl rfl)
theorem dX3_init_194 : decode cX3_init 194 = .ok (.bipush 10, 2) := dk_16 10 (dk_at dksX3_init_8 4 rfl rfl)
theorem dX3_init_196 : decode cX3_init 196 = .ok (.newarray .int, 2) := dk_188_10 (dk_at dksX3_init_8 6 rfl rfl)
theorem dX3_init_198 : decode cX3_init 198 = .ok (.putfield 67, 3) := dk_181 0 67 (dk_at dksX3_init_8 8 rfl rfl)
theorem dX3_init_201 : decode cX3_init 201 = .ok (.aload_n 0, 1) := dk_42 (dk_at dksX3_init_8 11 rfl rfl)
theorem dX3_init_202 : decode cX3_init 202 = .ok (.bipush 100, 2) := dk_16 100 (dk_at dksX3_init_8 12 rfl rfl)
theorem dX3_init_204 : decode cX3_init 204 = .ok (.newarray .int, 2) := dk_188_10 (dk_at dksX3_init_8 14 rfl rfl)
theorem dX3_init_206 : decode cX3_init 206 = .ok (.putfield 70, 3) := dk_181 0 70 (dk_at dksX3_init_8 16 rfl rfl)
theorem dX3_init_209 : decode cX3_init 209 = .ok (.aload_n 0, 1) := dk_42 (dk_at dksX3_init_8 19 rfl rfl)
theorem dX3_init_210 : decode cX3_init 210 = .ok (.bipush 8, 2) := dk_16 8 (dk_at dksX3_init_8 20 rfl rfl)
theorem dX3_init_212 : decode cX3_init 212 = .ok (.newarray .int, 2) := dk_188_10 (dk_at dksX3_init_8 22 rfl rfl)
theorem dX3_init_214 : decode cX3_init 214 = .ok (.putfield 73, 3) := dk_181 0 73 (dk_at dksX3_init_9 0 rfl rfl)
theorem dX3_init_217 : decode cX3_init 217 = .ok (.aload_n 0, 1) := dk_42 (dk_at dksX3_init_9 3 rfl rfl)
theorem dX3_init_218 : decode cX3_init 218 = .ok (.bipush 8, 2) := dk_16 8 (dk_at dksX3_init_9 4 rfl rfl)
theorem dX3_init_220 : decode cX3_init 220 = .ok (.newarray .int, 2) := dk_188_10 (dk_at dksX3_init_9 6 rfl rfl)
theorem dX3_init_222 : decode cX3_init 222 = .ok (.putfield 76, 3) := dk_181 0 76 (dk_at dksX3_init_9 8 rfl rfl)
theorem dX3_init_225 : decode cX3_init 225 = .ok (.aload_n 0, 1) := dk_42 (dk_at dksX3_init_9 11 rfl rfl)
theorem dX3_init_226 : decode cX3_init 226 = .ok (.bipush 8, 2) := dk_16 8 (dk_at dksX3_init_9 12 rfl rfl)
theorem dX3_init_228 : decode cX3_init 228 = .ok (.newarray .int, 2) := dk_188_10 (dk_at dksX3_init_9 14 rfl rfl)
theorem dX3_init_230 : decode cX3_init 230 = .ok (.putfield 79, 3) := dk_181 0 79 (dk_at dksX3_init_9 16 rfl rfl)
theorem dX3_init_233 : decode cX3_init 233 = .ok (.aload_n 0, 1) := dk_42 (dk_at dksX3_init_9 19 rfl rfl)
theorem dX3_init_234 : decode cX3_init 234 = .ok (.bipush 8, 2) := dk_16 8 (dk_at dksX3_init_9 20 rfl rfl)
theorem dX3_init_236 : decode cX3_init 236 = .ok (.newarray .int, 2) := dk_188_10 (dk_at dksX3_init_9 22 rfl rfl)
theorem dX3_init_238 : decode cX3_init 238 = .ok (.putfield 82, 3) := dk_181 0 82 (dk_at dksX3_init_10 0 rfl rfl)
theorem dX3_init_241 : decode cX3_init 241 = .ok (.aload_n 0, 1) := dk_42 (dk_at dksX3_init_10 3 rfl rfl)
theorem dX3_init_242 : decode cX3_init 242 = .ok (.bipush 8, 2) := dk_16 8 (dk_at dksX3_init_10 4 rfl rfl)
theorem dX3_init_244 : decode cX3_init 244 = .ok (.newarray .int, 2) := dk_188_10 (dk_at dksX3_init_10 6 rfl rfl)
theorem dX3_init_246 : decode cX3_init 246 = .ok (.putfield 85, 3) := dk_181 0 85 (dk_at dksX3_init_10 8 rfl rfl)
theorem dX3_init_249 : decode cX3_init 249 = .ok (.aload_n 0, 1) := dk_42 (dk_at dksX3_init_10 11 rfl rfl)
theorem dX3_init_250 : decode cX3_init 250 = .ok (.bipush 12, 2) := dk_16 12 (dk_at dksX3_init_10 12 rfl rfl)
theorem dX3_init_252 : decode cX3_init 252 = .ok (.putfield 88, 3) := dk_181 0 88 (dk_at dksX3_init_10 14 rfl rfl)
theorem dX3_init_255 : decode cX3_init 255 = .ok (.aload_n 0, 1) := dk_42 (dk_at dksX3_init_10 17 rfl rfl)
theorem dX3_init_256 : decode cX3_init 256 = .ok (.sipush 400, 3) := dk_17 1 144 (dk_at dksX3_init_10 18 rfl rfl)
theorem dX3_init_259 : decode cX3_init 259 = .ok (.newarray .byte, 2) := dk_188_8 (dk_at dksX3_init_10 21 rfl rfl)
theorem dX3_init_261 : decode cX3_init 261 = .ok (.putfield 92, 3) := dk_181 0 92 (dk_at dksX3_init_11 0 rfl rfl)
theorem dX3_init_264 : decode cX3_init 264 = .ok (.aload_n 0, 1) := dk_42 (dk_at dksX3_init_11 3 rfl rfl)
theorem dX3_init_265 : decode cX3_init 265 = .ok (.sipush 1800, 3) := dk_17 7 8 (dk_at dksX3_init_11 4 rfl rfl)
theorem dX3_init_268 : decode cX3_init 268 = .ok (.newarray .int, 2) := dk_188_10 (dk_at dksX3_init_11 7 rfl rfl)
theorem dX3_init_270 : decode cX3_init 270 = .ok (.putfield 96, 3) := dk_181 0 96 (dk_at dksX3_init_11 9 rfl rfl)
theorem dX3_init_273 : decode cX3_init 273 = .ok (.aload_n 0, 1) := dk_42 (dk_at dksX3_init_11 12 rfl rfl)
theorem dX3_init_274 : decode cX3_init 274 = .ok (.sipush 1800, 3) := dk_17 7 8 (dk_at dksX3_init_11 13 rfl rfl)
theorem dX3_init_277 : decode cX3_init 277 = .ok (.newarray .int, 2) := dk_188_10 (dk_at dksX3_init_11 16 rfl rfl)
theorem dX3_init_279 : decode cX3_init 279 = .ok (.putfield 99, 3) := dk_181 0 99 (dk_at dksX3_init_11 18 rfl rfl)
theorem dX3_init_282 : decode cX3_init 282 = .ok (.aload_n 0, 1) := dk_42 (dk_at dksX3_init_11 21 rfl rfl)
theorem dX3_init_283 : decode cX3_init 283 = .ok (.bipush 6, 2) := dk_16 6 (dk_at dksX3_init_11 22 rfl rfl)
theorem dX3_init_285 : decode cX3_init 285 = .ok (.newarray .int, 2) := dk_188_10 (dk_at dksX3_init_12 0 rfl rfl)
theorem dX3_init_287 : decode cX3_init 287 = .ok (.putfield 102, 3) := dk_181 0 102 (dk_at dksX3_init_12 2 rfl rfl)
theorem dX3_init_290 : decode cX3_init 290 = .ok (.aload_n 0, 1) := dk_42 (dk_at dksX3_init_12 5 rfl rfl)
theorem dX3_init_291 : decode cX3_init 291 = .ok (.bipush 72, 2) := dk_16 72 (dk_at dksX3_init_12 6 rfl rfl)
theorem dX3_init_293 : decode cX3_init 293 = .ok (.newarray .int, 2) := dk_188_10 (dk_at dksX3_init_12 8 rfl rfl)
theorem dX3_init_295 : decode cX3_init 295 = .ok (.putfield 105, 3) := dk_181 0 105 (dk_at dksX3_init_12 10 rfl rfl)
theorem dX3_init_298 : decode cX3_init 298 = .ok (.aload_n 0, 1) := dk_42 (dk_at dksX3_init_12 13 rfl rfl)
theorem dX3_init_299 : decode cX3_init 299 = .ok (.bipush 72, 2) := dk_16 72 (dk_at dksX3_init_12 14 rfl rfl)
theorem dX3_init_301 : decode cX3_init 301 = .ok (.newarray .int, 2) := dk_188_10 (dk_at dksX3_init_12 16 rfl rfl)
theorem dX3_init_303 : decode cX3_init 303 = .ok (.putfield 108, 3) := dk_181 0 108 (dk_at dksX3_init_12 18 rfl rfl)
theorem dX3_init_306 : decode cX3_init 306 = .ok (.aload_n 0, 1) := dk_42 (dk_at dksX3_init_12 21 rfl rfl)
theorem dX3_init_307 : decode cX3_init 307 = .ok (.bipush 72, 2) := dk_16 72 (dk_at dksX3_init_12 22 rfl rfl)
theorem dX3_init_309 : decode cX3_init 309 = .ok (.newarray .int, 2) := dk_188_10 (dk_at dksX3_init_13 0 rfl rfl)
theorem dX3_init_311 : decode cX3_init 311 = .ok (.putfield 111, 3) := dk_181 0 111 (dk_at dksX3_init_13 2 rfl rfl)
theorem dX3_init_314 : decode cX3_init 314 = .ok (.aload_n 0, 1) := dk_42 (dk_at dksX3_init_13 5 rfl rfl)
theorem dX3_init_315 : decode cX3_init 315 = .ok (.sipush 402, 3) := dk_17 1 146 (dk_at dksX3_init_13 6 rfl rfl)
theorem dX3_init_318 : decode cX3_init 318 = .ok (.newarray .int, 2) := dk_188_10 (dk_at dksX3_init_13 9 rfl rfl)
theorem dX3_init_320 : decode cX3_init 320 = .ok (.putfield 114, 3) := dk_181 0 114 (dk_at dksX3_init_13 11 rfl rfl)
theorem dX3_init_323 : decode cX3_init 323 = .ok (.aload_n 0, 1) := dk_42 (dk_at dksX3_init_13 14 rfl rfl)
theorem dX3_init_324 : decode cX3_init 324 = .ok (.bipush 12, 2) := dk_16 12 (dk_at dksX3_init_13 15 rfl rfl)
theorem dX3_init_326 : decode cX3_init 326 = .ok (.newarray .long, 2) := dk_188_11 (dk_at dksX3_init_13 17 rfl rfl)
theorem dX3_init_328 : decode cX3_init 328 = .ok (.putfield 117, 3) := dk_181 0 117 (dk_at dksX3_init_13 19 rfl rfl)
theorem dX3_init_331 : decode cX3_init 331 = .ok (.aload_n 0, 1) := dk_42 (dk_at dksX3_init_13 22 rfl rfl)
theorem dX3_init_332 : decode cX3_init 332 = .ok (.sipush 300, 3) := dk_17 1 44 (dk_at dksX3_init_14 0 rfl rfl)
theorem dX3_init_335 : decode cX3_init 335 = .ok (.newarray .long, 2) := dk_188_11 (dk_at dksX3_init_14 3 rfl rfl)
theorem dX3_init_337 : decode cX3_init 337 = .ok (.putfield 121, 3) := dk_181 0 121 (dk_at dksX3_init_14 5 rfl rfl)
theorem dX3_init_340 : decode cX3_init 340 = .ok (.aload_n 0, 1) := dk_42 (dk_at dksX3_init_14 8 rfl rfl)
theorem dX3_init_341 : decode cX3_init 341 = .ok (.bipush 10, 2) := dk_16 10 (dk_at dksX3_init_14 9 rfl rfl)
theorem dX3_init_343 : decode cX3_init 343 = .ok (.newarray .int, 2) := dk_188_10 (dk_at dksX3_init_14 11 rfl rfl)
theorem dX3_init_345 : decode cX3_init 345 = .ok (.putfield 124, 3) := dk_181 0 124 (dk_at dksX3_init_14 13 rfl rfl)
theorem dX3_init_348 : decode cX3_init 348 = .ok (.aload_n 0, 1) := dk_42 (dk_at dksX3_init_14 16 rfl rfl)
theorem dX3_init_349 : decode cX3_init 349 = .ok (.bipush 8, 2) := dk_16 8 (dk_at dksX3_init_14 17 rfl rfl)
theorem dX3_init_351 : decode cX3_init 351 = .ok (.newarray .int, 2) := dk_188_10 (dk_at dksX3_init_14 19 rfl rfl)
theorem dX3_init_353 : decode cX3_init 353 = .ok (.putfield 127, 3) := dk_181 0 127 (dk_at dksX3_init_14 21 rfl rfl)
theorem dX3_init_356 : decode cX3_init 356 = .ok (.aload_n 0, 1) := dk_42 (dk_at dksX3_init_15 0 rfl rfl)
theorem dX3_init_357 : decode cX3_init 357 = .ok (.sipush 800, 3) := dk_17 3 32 (dk_at dksX3_init_15 1 rfl rfl)
theorem dX3_init_360 : decode cX3_init 360 = .ok (.newarray .int, 2) := dk_188_10 (dk_at dksX3_init_15 4 rfl rfl)
theorem dX3_init_362 : decode cX3_init 362 = .ok (.putfield 130, 3) := dk_181 0 130 (dk_at dksX3_init_15 6 rfl rfl)
theorem dX3_init_365 : decode cX3_init 365 = .ok (.aload_n 0, 1) := dk_42 (dk_at dksX3_init_15 9 rfl rfl)
theorem dX3_init_366 : decode cX3_init 366 = .ok (.iconst 1, 1) := dk_4 (dk_at dksX3_init_15 10 rfl rfl)
theorem dX3_init_367 : decode cX3_init 367 = .ok (.newarray .int, 2) := dk_188_10 (dk_at dksX3_init_15 11 rfl rfl)
theorem dX3_init_369 : decode cX3_init 369 = .ok (.putfield 133, 3) := dk_181 0 133 (dk_at dksX3_init_15 13 rfl rfl)
theorem dX3_init_372 : decode cX3_init 372 = .ok (.aload_n 0, 1) := dk_42 (dk_at dksX3_init_15 16 rfl rfl)
theorem dX3_init_373 : decode cX3_init 373 = .ok (.iconst 3, 1) := dk_6 (dk_at dksX3_init_15 17 rfl rfl)
theorem dX3_init_374 : decode cX3_init 374 = .ok (.newarray .int, 2) := dk_188_10 (dk_at dksX3_init_15 18 rfl rfl)
theorem dX3_init_376 : decode cX3_init 376 = .ok (.putfield 136, 3) := dk_181 0 136 (dk_at dksX3_init_15 20 rfl rfl)
theorem dX3_init_379 : decode cX3_init 379 = .ok (.aload_n 0, 1) := dk_42 (dk_at dksX3_init_15 23 rfl rfl)
theorem dX3_init_380 : decode cX3_init 380 = .ok (.iconst 3, 1) := dk_6 (dk_at dksX3_init_16 0 rfl rfl)
theorem dX3_init_381 : decode cX3_init 381 = .ok (.newarray .int, 2) := dk_188_10 (dk_at dksX3_init_16 1 rfl rfl)
theorem dX3_init_383 : decode cX3_init 383 = .ok (.putfield 139, 3) := dk_181 0 139 (dk_at dksX3_init_16 3 rfl rfl)
theorem dX3_init_386 : decode cX3_init 386 = .ok (.aload_n 0, 1) := dk_42 (dk_at dksX3_init_16 6 rfl rfl)
theorem dX3_init_387 : decode cX3_init 387 = .ok (.bipush 84, 2) := dk_16 84 (dk_at dksX3_init_16 7 rfl rfl)
theorem dX3_init_389 : decode cX3_init 389 = .ok (.newarray .int, 2) := dk_188_10 (dk_at dksX3_init_16 9 rfl rfl)
theorem dX3_init_391 : decode cX3_init 391 = .ok (.putfield 142, 3) := dk_181 0 142 (dk_at dksX3_init_16 11 rfl rfl)
theorem dX3_init_394 : decode cX3_init 394 = .ok (.aload_n 0, 1) := dk_42 (dk_at dksX3_init_16 14 rfl rfl)
theorem dX3_init_395 : decode cX3_init 395 = .ok (.iconst 5, 1) := dk_8 (dk_at dksX3_init_16 15 rfl rfl)
theorem dX3_init_396 : decode cX3_init 396 = .ok (.newarray .int, 2) := dk_188_10 (dk_at dksX3_init_16 16 rfl rfl)
theorem dX3_init_398 : decode cX3_init 398 = .ok (.putfield 145, 3) := dk_181 0 145 (dk_at dksX3_init_16 18 rfl rfl)
theorem dX3_init_401 : decode cX3_init 401 = .ok (.aload_n 0, 1) := dk_42 (dk_at dksX3_init_16 21 rfl rfl)
theorem dX3_init_402 : decode cX3_init 402 = .ok (.iconst 5, 1) := dk_8 (dk_at dksX3_init_16 22 rfl rfl)
theorem dX3_init_403 : decode cX3_init 403 = .ok (.newarray .int, 2) := dk_188_10 (dk_at dksX3_init_17 0 rfl rfl)
theorem dX3_init_405 : decode cX3_init 405 = .ok (.putfield 148, 3) := dk_181 0 148 (dk_at dksX3_init_17 2 rfl rfl)
theorem dX3_init_408 : decode cX3_init 408 = .ok (.aload_n 0, 1) := dk_42 (dk_at dksX3_init_17 5 rfl rfl)
theorem dX3_init_409 : decode cX3_init 409 = .ok (.sipush 310, 3) := dk_17 1 54 (dk_at dksX3_init_17 6 rfl rfl)
theorem dX3_init_412 : decode cX3_init 412 = .ok (.newarray .int, 2) := dk_188_10 (dk_at dksX3_init_17 9 rfl rfl)
theorem dX3_init_414 : decode cX3_init 414 = .ok (.putfield 151, 3) := dk_181 0 151 (dk_at dksX3_init_17 11 rfl rfl)
theorem dX3_init_417 : decode cX3_init 417 = .ok (.aload_n 0, 1) := dk_42 (dk_at dksX3_init_17 14 rfl rfl)
theorem dX3_init_418 : decode cX3_init 418 = .ok (.sipush 1000, 3) := dk_17 3 232 (dk_at dksX3_init_17 15 rfl rfl)
theorem dX3_init_421 : decode cX3_init 421 = .ok (.newarray .int, 2) := dk_188_10 (dk_at dksX3_init_17 18 rfl rfl)
theorem dX3_init_423 : decode cX3_init 423 = .ok (.putfield 154, 3) := dk_181 0 154 (dk_at dksX3_init_17 20 rfl rfl)
theorem dX3_init_426 : decode cX3_init 426 = .ok (.aload_n 0, 1) := dk_42 (dk_at dksX3_init_17 23 rfl rfl)
theorem dX3_init_427 : decode cX3_init 427 = .ok (.bipush 10, 2) := dk_16 10 (dk_at dksX3_init_18 0 rfl rfl)
theorem dX3_init_429 : decode cX3_init 429 = .ok (.newarray .int, 2) := dk_188_10 (dk_at dksX3_init_18 2 rfl rfl)
theorem dX3_init_431 : decode cX3_init 431 = .ok (.putfield 157, 3) := dk_181 0 157 (dk_at dksX3_init_18 4 rfl rfl)
theorem dX3_init_434 : decode cX3_init 434 = .ok (.aload_n 0, 1) := dk_42 (dk_at dksX3_init_18 7 rfl rfl)
theorem dX3_init_435 : decode cX3_init 435 = .ok (.sipush 5500, 3) := dk_17 21 124 (dk_at dksX3_init_18 8 rfl rfl)
theorem dX3_init_438 : decode cX3_init 438 = .ok (.newarray .int, 2) := dk_188_10 (dk_at dksX3_init_18 11 rfl rfl)
theorem dX3_init_440 : decode cX3_init 440 = .ok (.putfield 160, 3) := dk_181 0 160 (dk_at dksX3_init_18 13 rfl rfl)
theorem dX3_init_443 : decode cX3_init 443 = .ok (.aload_n 0, 1) := dk_42 (dk_at dksX3_init_18 16 rfl rfl)
theorem dX3_init_444 : decode cX3_init 444 = .ok (.iconst 4, 1) := dk_7 (dk_at dksX3_init_18 17 rfl rfl)
theorem dX3_init_445 : decode cX3_init 445 = .ok (.newarray .boolean, 2) := dk_188_4 (dk_at dksX3_init_18 18 rfl rfl)
theorem dX3_init_447 : decode cX3_init 447 = .ok (.putfield 163, 3) := dk_181 0 163 (dk_at dksX3_init_18 20 rfl rfl)
theorem dX3_init_450 : decode cX3_init 450 = .ok (.return_, 1) := dk_177 (dk_at dksX3_init_18 23 rfl rfl)
abbrev cX3_feed : ByteArray := prog_17_method_12_code
def yX3_feed : MethodName := ⟨RX3, "feed", "(IIIII)I"⟩
def dkwX3_feed_2 : List UInt8 := [172]
abbrev dktX3_feed_2 : List UInt8 := dkwX3_feed_2 ++ []
def dkwX3_feed_1 : List UInt8 := [182, 0, 188, 42, 29, 182, 0, 188, 42, 21, 4, 182, 0, 188, 42, 21, 5, 182, 0, 188, 42, 180, 0, 185]
abbrev dktX3_feed_1 : List UInt8 := dkwX3_feed_1 ++ dktX3_feed_2
def dkwX3_feed_0 : List UInt8 := [42, 180, 0, 185, 16, 20, 96, 17, 1, 144, 164, 0, 5, 2, 172, 42, 27, 182, 0, 188, 42, 28]
abbrev dktX3_feed_0 : List UInt8 := dkwX3_feed_0 ++ dktX3_feed_1
theorem dksX3_feed_0 : cX3_feed.data.toList.drop 0 = dktX3_feed_0 := by decide +kernel
theorem dksX3_feed_1 : cX3_feed.data.toList.drop 22 = dktX3_feed_1 := dk_seg dksX3_feed_0 22 rfl rfl
theorem dksX3_feed_2 : cX3_feed.data.toList.drop 46 = dktX3_feed_2 := dk_seg dksX3_feed_1 24 rfl rfl
theorem dX3_feed_0 : decode cX3_feed 0 = .ok (.aload_n 0, 1) := dk_42 (dk_at dksX3_feed_0 0 rfl rfl)
theorem dX3_feed_1 : decode cX3_feed 1 = .ok (.getfield 185, 3) := dk_180 0 185 (dk_at dksX3_feed_0 1 rfl rfl)
theorem dX3_feed_4 : decode cX3_feed 4 = .ok (.bipush 20, 2) := dk_16 20 (dk_at dksX3_feed_0 4 rfl rfl)
theorem dX3_feed_6 : decode cX3_feed 6 = .ok (.iadd, 1) := dk_96 (dk_at dksX3_feed_0 6 rfl rfl)
theorem dX3_feed_7 : decode cX3_feed 7 = .ok (.sipush 400, 3) := dk_17 1 144 (dk_at dksX3_feed_0 7 rfl rfl)
theorem dX3_feed_10 : decode cX3_feed 10 = .ok (.if_icmp .le 5, 3) := dk_164 0 5 (dk_at dksX3_feed_0 10 rfl rfl)
theorem dX3_feed_13 : decode cX3_feed 13 = .ok (.iconst (-1), 1) := dk_2 (dk_at dksX3_feed_0 13 rfl rfl)
theorem dX3_feed_14 : decode cX3_feed 14 = .ok (.ireturn, 1) := dk_172 (dk_at dksX3_feed_0 14 rfl rfl)
theorem dX3_feed_15 : decode cX3_feed 15 = .ok (.aload_n 0, 1) := dk_42 (dk_at dksX3_feed_0 15 rfl rfl)
theorem dX3_feed_16 : decode cX3_feed 16 = .ok (.iload_n 1, 1) := dk_27 (dk_at dksX3_feed_0 16 rfl rfl)
theorem dX3_feed_17 : decode cX3_feed 17 = .ok (.invokevirtual 188, 3) := dk_182 0 188 (dk_at dksX3_feed_0 17 rfl rfl)
theorem dX3_feed_20 : decode cX3_feed 20 = .ok (.aload_n 0, 1) := dk_42 (dk_at dksX3_feed_0 20 rfl rfl)
theorem dX3_feed_21 : decode cX3_feed 21 = .ok (.iload_n 2, 1) := dk_28 (dk_at dksX3_feed_0 21 rfl rfl)
theorem dX3_feed_22 : decode cX3_feed 22 = .ok (.invokevirtual 188, 3) := dk_182 0 188 (dk_at dksX3_feed_1 0 rfl rfl)
theorem dX3_feed_25 : decode cX3_feed 25 = .ok (.aload_n 0, 1) := dk_42 (dk_at dksX3_feed_1 3 rfl rfl)
theorem dX3_feed_26 : decode cX3_feed 26 = .ok (.iload_n 3, 1) := dk_29 (dk_at dksX3_feed_1 4 rfl rfl)
theorem dX3_feed_27 : decode cX3_feed 27 = .ok (.invokevirtual 188, 3) := dk_182 0 188 (dk_at dksX3_feed_1 5 rfl rfl)
theorem dX3_feed_30 : decode cX3_feed 30 = .ok (.aload_n 0, 1) := dk_42 (dk_at dksX3_feed_1 8 rfl rfl)
theorem dX3_feed_31 : decode cX3_feed 31 = .ok (.iload 4, 2) := dk_21 4 (dk_at dksX3_feed_1 9 rfl rfl)
theorem dX3_feed_33 : decode cX3_feed 33 = .ok (.invokevirtual 188, 3) := dk_182 0 188 (dk_at dksX3_feed_1 11 rfl rfl)
theorem dX3_feed_36 : decode cX3_feed 36 = .ok (.aload_n 0, 1) := dk_42 (dk_at dksX3_feed_1 14 rfl rfl)
theorem dX3_feed_37 : decode cX3_feed 37 = .ok (.iload 5, 2) := dk_21 5 (dk_at dksX3_feed_1 15 rfl rfl)
theorem dX3_feed_39 : decode cX3_feed 39 = .ok (.invokevirtual 188, 3) := dk_182 0 188 (dk_at dksX3_feed_1 17 rfl rfl)
theorem dX3_feed_42 : decode cX3_feed 42 = .ok (.aload_n 0, 1) := dk_42 (dk_at dksX3_feed_1 20 rfl rfl)
theorem dX3_feed_43 : decode cX3_feed 43 = .ok (.getfield 185, 3) := dk_180 0 185 (dk_at dksX3_feed_1 21 rfl rfl)
theorem dX3_feed_46 : decode cX3_feed 46 = .ok (.ireturn, 1) := dk_172 (dk_at dksX3_feed_2 0 rfl rfl)
abbrev cX3_put : ByteArray := prog_17_method_13_code
def yX3_put : MethodName := ⟨RX3, "put", "(I)V"⟩
def dkwX3_put_1 : List UInt8 := [180, 0, 185, 4, 96, 181, 0, 185, 132, 2, 248, 167, 255, 226, 177]
abbrev dktX3_put_1 : List UInt8 := dkwX3_put_1 ++ []
def dkwX3_put_0 : List UInt8 := [16, 24, 61, 28, 155, 0, 32, 42, 180, 0, 92, 42, 180, 0, 185, 27, 28, 122, 145, 84, 42, 89]
abbrev dktX3_put_0 : List UInt8 := dkwX3_put_0 ++ dktX3_put_1
theorem dksX3_put_0 : cX3_put.data.toList.drop 0 = dktX3_put_0 := by decide +kernel
theorem dksX3_put_1 : cX3_put.data.toList.drop 22 = dktX3_put_1 := dk_seg dksX3_put_0 22 rfl rfl
theorem dX3_put_0 : decode cX3_put 0 = .ok (.bipush 24, 2) := dk_16 24 (dk_at dksX3_put_0 0 rfl rfl)
theorem dX3_put_2 : decode cX3_put 2 = .ok (.istore_n 2, 1) := dk_61 (dk_at dksX3_put_0 2 rfl rfl)
theorem dX3_put_3 : decode cX3_put 3 = .ok (.iload_n 2, 1) := dk_28 (dk_at dksX3_put_0 3 rfl rfl)
theorem dX3_put_4 : decode cX3_put 4 = .ok (.ifCond .lt 32, 3) := dk_155 0 32 (dk_at dksX3_put_0 4 rfl rfl)
theorem dX3_put_7 : decode cX3_put 7 = .ok (.aload_n 0, 1) := dk_42 (dk_at dksX3_put_0 7 rfl rfl)
theorem dX3_put_8 : decode cX3_put 8 = .ok (.getfield 92, 3) := dk_180 0 92 (dk_at dksX3_put_0 8 rfl rfl)
theorem dX3_put_11 : decode cX3_put 11 = .ok (.aload_n 0, 1) := dk_42 (dk_at dksX3_put_0 11 rfl rfl)
theorem dX3_put_12 : decode cX3_put 12 = .ok (.getfield 185, 3) := dk_180 0 185 (dk_at dksX3_put_0 12 rfl rfl)
theorem dX3_put_15 : decode cX3_put 15 = .ok (.iload_n 1, 1) := dk_27 (dk_at dksX3_put_0 15 rfl rfl)
theorem dX3_put_16 : decode cX3_put 16 = .ok (.iload_n 2, 1) := dk_28 (dk_at dksX3_put_0 16 rfl rfl)
theorem dX3_put_17 : decode cX3_put 17 = .ok (.ishr, 1) := dk_122 (dk_at dksX3_put_0 17 rfl rfl)
theorem dX3_put_18 : decode cX3_put 18 = .ok (.i2b, 1) := dk_145 (dk_at dksX3_put_0 18 rfl rfl)
theorem dX3_put_19 : decode cX3_put 19 = .ok (.bastore, 1) := dk_84 (dk_at dksX3_put_0 19 rfl rfl)
theorem dX3_put_20 : decode cX3_put 20 = .ok (.aload_n 0, 1) := dk_42 (dk_at dksX3_put_0 20 rfl rfl)
theorem dX3_put_21 : decode cX3_put 21 = .ok (.dup, 1) := dk_89 (dk_at dksX3_put_0 21 rfl rfl)
theorem dX3_put_22 : decode cX3_put 22 = .ok (.getfield 185, 3) := dk_180 0 185 (dk_at dksX3_put_1 0 rfl rfl)
theorem dX3_put_25 : decode cX3_put 25 = .ok (.iconst 1, 1) := dk_4 (dk_at dksX3_put_1 3 rfl rfl)
theorem dX3_put_26 : decode cX3_put 26 = .ok (.iadd, 1) := dk_96 (dk_at dksX3_put_1 4 rfl rfl)
theorem dX3_put_27 : decode cX3_put 27 = .ok (.putfield 185, 3) := dk_181 0 185 (dk_at dksX3_put_1 5 rfl rfl)
theorem dX3_put_30 : decode cX3_put 30 = .ok (.iinc 2 (-8), 3) := dk_132 2 248 (dk_at dksX3_put_1 8 rfl rfl)
theorem dX3_put_33 : decode cX3_put 33 = .ok (.goto (-30), 3) := dk_167 255 226 (dk_at dksX3_put_1 11 rfl rfl)
theorem dX3_put_36 : decode cX3_put 36 = .ok (.return_, 1) := dk_177 (dk_at dksX3_put_1 14 rfl rfl)
abbrev cX3_end : ByteArray := prog_17_method_14_code
def yX3_end : MethodName := ⟨RX3, "end", "(I)I"⟩
def dkwX3_end_0 : List UInt8 := [27, 155, 0, 11, 27, 42, 180, 0, 185, 164, 0, 5, 2, 172, 42, 27, 181, 0, 185, 27, 172]
abbrev dktX3_end_0 : List UInt8 := dkwX3_end_0 ++ []
theorem dksX3_end_0 : cX3_end.data.toList.drop 0 = dktX3_end_0 := by decide +kernel
theorem dX3_end_0 : decode cX3_end 0 = .ok (.iload_n 1, 1) := dk_27 (dk_at dksX3_end_0 0 rfl rfl)
theorem dX3_end_1 : decode cX3_end 1 = .ok (.ifCond .lt 11, 3) := dk_155 0 11 (dk_at dksX3_end_0 1 rfl rfl)
theorem dX3_end_4 : decode cX3_end 4 = .ok (.iload_n 1, 1) := dk_27 (dk_at dksX3_end_0 4 rfl rfl)
theorem dX3_end_5 : decode cX3_end 5 = .ok (.aload_n 0, 1) := dk_42 (dk_at dksX3_end_0 5 rfl rfl)
theorem dX3_end_6 : decode cX3_end 6 = .ok (.getfield 185, 3) := dk_180 0 185 (dk_at dksX3_end_0 6 rfl rfl)
theorem dX3_end_9 : decode cX3_end 9 = .ok (.if_icmp .le 5, 3) := dk_164 0 5 (dk_at dksX3_end_0 9 rfl rfl)
theorem dX3_end_12 : decode cX3_end 12 = .ok (.iconst (-1), 1) := dk_2 (dk_at dksX3_end_0 12 rfl rfl)
theorem dX3_end_13 : decode cX3_end 13 = .ok (.ireturn, 1) := dk_172 (dk_at dksX3_end_0 13 rfl rfl)
theorem dX3_end_14 : decode cX3_end 14 = .ok (.aload_n 0, 1) := dk_42 (dk_at dksX3_end_0 14 rfl rfl)
theorem dX3_end_15 : decode cX3_end 15 = .ok (.iload_n 1, 1) := dk_27 (dk_at dksX3_end_0 15 rfl rfl)
theorem dX3_end_16 : decode cX3_end 16 = .ok (.putfield 185, 3) := dk_181 0 185 (dk_at dksX3_end_0 16 rfl rfl)
theorem dX3_end_19 : decode cX3_end 19 = .ok (.iload_n 1, 1) := dk_27 (dk_at dksX3_end_0 19 rfl rfl)
theorem dX3_end_20 : decode cX3_end 20 = .ok (.ireturn, 1) := dk_172 (dk_at dksX3_end_0 20 rfl rfl)
abbrev cX3_strip : ByteArray := prog_17_method_47_code
def yX3_strip : MethodName := ⟨RX3, "strip", "()I"⟩
def dkwX3_strip_9 : List UInt8 := [180, 0, 9, 5, 46, 172]
abbrev dktX3_strip_9 : List UInt8 := dkwX3_strip_9 ++ []
def dkwX3_strip_8 : List UInt8 := [162, 0, 16, 42, 180, 0, 34, 27, 3, 79, 132, 1, 1, 167, 255, 240, 42, 3, 181, 1, 105, 42]
abbrev dktX3_strip_8 : List UInt8 := dkwX3_strip_8 ++ dktX3_strip_9
def dkwX3_strip_7 : List UInt8 := [180, 0, 40, 184, 1, 101, 42, 180, 0, 55, 3, 42, 180, 0, 9, 7, 46, 79, 3, 60, 27, 16, 8]
abbrev dktX3_strip_7 : List UInt8 := dkwX3_strip_7 ++ dktX3_strip_8
def dkwX3_strip_6 : List UInt8 := [180, 0, 31, 184, 1, 101, 42, 180, 0, 82, 42, 180, 0, 37, 184, 1, 101, 42, 180, 0, 85, 42]
abbrev dktX3_strip_6 : List UInt8 := dkwX3_strip_6 ++ dktX3_strip_7
def dkwX3_strip_5 : List UInt8 := [180, 0, 25, 184, 1, 101, 42, 180, 0, 76, 42, 180, 0, 28, 184, 1, 101, 42, 180, 0, 79, 42]
abbrev dktX3_strip_5 : List UInt8 := dkwX3_strip_5 ++ dktX3_strip_6
def dkwX3_strip_4 : List UInt8 := [180, 0, 19, 184, 1, 101, 42, 180, 0, 70, 42, 180, 0, 22, 184, 1, 101, 42, 180, 0, 73, 42]
abbrev dktX3_strip_4 : List UInt8 := dkwX3_strip_4 ++ dktX3_strip_5
def dkwX3_strip_3 : List UInt8 := [180, 0, 16, 184, 1, 101, 42, 180, 0, 64, 42, 180, 0, 52, 184, 1, 101, 42, 180, 0, 67, 42]
abbrev dktX3_strip_3 : List UInt8 := dkwX3_strip_3 ++ dktX3_strip_4
def dkwX3_strip_2 : List UInt8 := [132, 1, 1, 167, 255, 226, 42, 180, 0, 61, 42, 180, 0, 13, 184, 1, 101, 42, 180, 0, 64, 42]
abbrev dktX3_strip_2 : List UInt8 := dkwX3_strip_2 ++ dktX3_strip_3
def dkwX3_strip_1 : List UInt8 := [162, 0, 30, 42, 180, 0, 9, 27, 27, 8, 162, 0, 12, 42, 180, 0, 58, 27, 46, 167, 0, 4, 3, 79]
abbrev dktX3_strip_1 : List UInt8 := dkwX3_strip_1 ++ dktX3_strip_2
def dkwX3_strip_0 : List UInt8 := [42, 182, 1, 98, 42, 180, 0, 214, 158, 0, 11, 16, 254, 42, 180, 0, 214, 100, 172, 3, 60, 27, 16, 7]
abbrev dktX3_strip_0 : List UInt8 := dkwX3_strip_0 ++ dktX3_strip_1
theorem dksX3_strip_0 : cX3_strip.data.toList.drop 0 = dktX3_strip_0 := by decide +kernel
theorem dksX3_strip_1 : cX3_strip.data.toList.drop 24 = dktX3_strip_1 := dk_seg dksX3_strip_0 24 rfl rfl
theorem dksX3_strip_2 : cX3_strip.data.toList.drop 48 = dktX3_strip_2 := dk_seg dksX3_strip_1 24 rfl rfl
theorem dksX3_strip_3 : cX3_strip.data.toList.drop 70 = dktX3_strip_3 := dk_seg dksX3_strip_2 22 rfl rfl
theorem dksX3_strip_4 : cX3_strip.data.toList.drop 92 = dktX3_strip_4 := dk_seg dksX3_strip_3 22 rfl rfl
theorem dksX3_strip_5 : cX3_strip.data.toList.drop 114 = dktX3_strip_5 := dk_seg dksX3_strip_4 22 rfl rfl
theorem dksX3_strip_6 : cX3_strip.data.toList.drop 136 = dktX3_strip_6 := dk_seg dksX3_strip_5 22 rfl rfl
theorem dksX3_strip_7 : cX3_strip.data.toList.drop 158 = dktX3_strip_7 := dk_seg dksX3_strip_6 22 rfl rfl
theorem dksX3_strip_8 : cX3_strip.data.toList.drop 181 = dktX3_strip_8 := dk_seg dksX3_strip_7 23 rfl rfl
theorem dksX3_strip_9 : cX3_strip.data.toList.drop 203 = dktX3_strip_9 := dk_seg dksX3_strip_8 22 rfl rfl
theorem dX3_strip_0 : decode cX3_strip 0 = .ok (.aload_n 0, 1) := dk_42 (dk_at dksX3_strip_0 0 rfl rfl)
theorem dX3_strip_1 : decode cX3_strip 1 = .ok (.invokevirtual 354, 3) := dk_182 1 98 (dk_at dksX3_strip_0 1 rfl rfl)
theorem dX3_strip_4 : decode cX3_strip 4 = .ok (.aload_n 0, 1) := dk_42 (dk_at dksX3_strip_0 4 rfl rfl)
theorem dX3_strip_5 : decode cX3_strip 5 = .ok (.getfield 214, 3) := dk_180 0 214 (dk_at dksX3_strip_0 5 rfl rfl)
theorem dX3_strip_8 : decode cX3_strip 8 = .ok (.ifCond .le 11, 3) := dk_158 0 11 (dk_at dksX3_strip_0 8 rfl rfl)
theorem dX3_strip_11 : decode cX3_strip 11 = .ok (.bipush (-2), 2) := dk_16 254 (dk_at dksX3_strip_0 11 rfl rfl)
theorem dX3_strip_13 : decode cX3_strip 13 = .ok (.aload_n 0, 1) := dk_42 (dk_at dksX3_strip_0 13 rfl rfl)
theorem dX3_strip_14 : decode cX3_strip 14 = .ok (.getfield 214, 3) := dk_180 0 214 (dk_at dksX3_strip_0 14 rfl rfl)
theorem dX3_strip_17 : decode cX3_strip 17 = .ok (.isub, 1) := dk_100 (dk_at dksX3_strip_0 17 rfl rfl)
theorem dX3_strip_18 : decode cX3_strip 18 = .ok (.ireturn, 1) := dk_172 (dk_at dksX3_strip_0 18 rfl rfl)
theorem dX3_strip_19 : decode cX3_strip 19 = .ok (.iconst 0, 1) := dk_3 (dk_at dksX3_strip_0 19 rfl rfl)
theorem dX3_strip_20 : decode cX3_strip 20 = .ok (.istore_n 1, 1) := dk_60 (dk_at dksX3_strip_0 20 rfl rfl)
theorem dX3_strip_21 : decode cX3_strip 21 = .ok (.iload_n 1, 1) := dk_27 (dk_at dksX3_strip_0 21 rfl rfl)
theorem dX3_strip_22 : decode cX3_strip 22 = .ok (.bipush 7, 2) := dk_16 7 (dk_at dksX3_strip_0 22 rfl rfl)
theorem dX3_strip_24 : decode cX3_strip 24 = .ok (.if_icmp .ge 30, 3) := dk_162 0 30 (dk_at dksX3_strip_1 0 rfl rfl)
theorem dX3_strip_27 : decode cX3_strip 27 = .ok (.aload_n 0, 1) := dk_42 (dk_at dksX3_strip_1 3 rfl rfl)
theorem dX3_strip_28 : decode cX3_strip 28 = .ok (.getfield 9, 3) := dk_180 0 9 (dk_at dksX3_strip_1 4 rfl rfl)
theorem dX3_strip_31 : decode cX3_strip 31 = .ok (.iload_n 1, 1) := dk_27 (dk_at dksX3_strip_1 7 rfl rfl)
theorem dX3_strip_32 : decode cX3_strip 32 = .ok (.iload_n 1, 1) := dk_27 (dk_at dksX3_strip_1 8 rfl rfl)
theorem dX3_strip_33 : decode cX3_strip 33 = .ok (.iconst 5, 1) := dk_8 (dk_at dksX3_strip_1 9 rfl rfl)
theorem dX3_strip_34 : decode cX3_strip 34 = .ok (.if_icmp .ge 12, 3) := dk_162 0 12 (dk_at dksX3_strip_1 10 rfl rfl)
theorem dX3_strip_37 : decode cX3_strip 37 = .ok (.aload_n 0, 1) := dk_42 (dk_at dksX3_strip_1 13 rfl rfl)
theorem dX3_strip_38 : decode cX3_strip 38 = .ok (.getfield 58, 3) := dk_180 0 58 (dk_at dksX3_strip_1 14 rfl rfl)
theorem dX3_strip_41 : decode cX3_strip 41 = .ok (.iload_n 1, 1) := dk_27 (dk_at dksX3_strip_1 17 rfl rfl)
theorem dX3_strip_42 : decode cX3_strip 42 = .ok (.iaload, 1) := dk_46 (dk_at dksX3_strip_1 18 rfl rfl)
theorem dX3_strip_43 : decode cX3_strip 43 = .ok (.goto 4, 3) := dk_167 0 4 (dk_at dksX3_strip_1 19 rfl rfl)
theorem dX3_strip_46 : decode cX3_strip 46 = .ok (.iconst 0, 1) := dk_3 (dk_at dksX3_strip_1 22 rfl rfl)
theorem dX3_strip_47 : decode cX3_strip 47 = .ok (.iastore, 1) := dk_79 (dk_at dksX3_strip_1 23 rfl rfl)
theorem dX3_strip_48 : decode cX3_strip 48 = .ok (.iinc 1 1, 3) := dk_132 1 1 (dk_at dksX3_strip_2 0 rfl rfl)
theorem dX3_strip_51 : decode cX3_strip 51 = .ok (.goto (-30), 3) := dk_167 255 226 (dk_at dksX3_strip_2 3 rfl rfl)
theorem dX3_strip_54 : decode cX3_strip 54 = .ok (.aload_n 0, 1) := dk_42 (dk_at dksX3_strip_2 6 rfl rfl)
theorem dX3_strip_55 : decode cX3_strip 55 = .ok (.getfield 61, 3) := dk_180 0 61 (dk_at dksX3_strip_2 7 rfl rfl)
theorem dX3_strip_58 : decode cX3_strip 58 = .ok (.aload_n 0, 1) := dk_42 (dk_at dksX3_strip_2 10 rfl rfl)
theorem dX3_strip_59 : decode cX3_strip 59 = .ok (.getfield 13, 3) := dk_180 0 13 (dk_at dksX3_strip_2 11 rfl rfl)
theorem dX3_strip_62 : decode cX3_strip 62 = .ok (.invokestatic 357, 3) := dk_184 1 101 (dk_at dksX3_strip_2 14 rfl rfl)
theorem dX3_strip_65 : decode cX3_strip 65 = .ok (.aload_n 0, 1) := dk_42 (dk_at dksX3_strip_2 17 rfl rfl)
theorem dX3_strip_66 : decode cX3_strip 66 = .ok (.getfield 64, 3) := dk_180 0 64 (dk_at dksX3_strip_2 18 rfl rfl)
theorem dX3_strip_69 : decode cX3_strip 69 = .ok (.aload_n 0, 1) := dk_42 (dk_at dksX3_strip_2 21 rfl rfl)
theorem dX3_strip_70 : decode cX3_strip 70 = .ok (.getfield 16, 3) := dk_180 0 16 (dk_at dksX3_strip_3 0 rfl rfl)
theorem dX3_strip_73 : decode cX3_strip 73 = .ok (.invokestatic 357, 3) := dk_184 1 101 (dk_at dksX3_strip_3 3 rfl rfl)
theorem dX3_strip_76 : decode cX3_strip 76 = .ok (.aload_n 0, 1) := dk_42 (dk_at dksX3_strip_3 6 rfl rfl)
theorem dX3_strip_77 : decode cX3_strip 77 = .ok (.getfield 64, 3) := dk_180 0 64 (dk_at dksX3_strip_3 7 rfl rfl)
theorem dX3_strip_80 : decode cX3_strip 80 = .ok (.aload_n 0, 1) := dk_42 (dk_at dksX3_strip_3 10 rfl rfl)
theorem dX3_strip_81 : decode cX3_strip 81 = .ok (.getfield 52, 3) := dk_180 0 52 (dk_at dksX3_strip_3 11 rfl rfl)
theorem dX3_strip_84 : decode cX3_strip 84 = .ok (.invokestatic 357, 3) := dk_184 1 101 (dk_at dksX3_strip_3 14 rfl rfl)
theorem dX3_strip_87 : decode cX3_strip 87 = .ok (.aload_n 0, 1) := dk_42 (dk_at dksX3_strip_3 17 rfl rfl)
theorem dX3_strip_88 : decode cX3_strip 88 = .ok (.getfield 67, 3) := dk_180 0 67 (dk_at dksX3_strip_3 18 rfl rfl)
theorem dX3_strip_91 : decode cX3_strip 91 = .ok (.aload_n 0, 1) := dk_42 (dk_at dksX3_strip_3 21 rfl rfl)
theorem dX3_strip_92 : decode cX3_strip 92 = .ok (.getfield 19, 3) := dk_180 0 19 (dk_at dksX3_strip_4 0 rfl rfl)
theorem dX3_strip_95 : decode cX3_strip 95 = .ok (.invokestatic 357, 3) := dk_184 1 101 (dk_at dksX3_strip_4 3 rfl rfl)
theorem dX3_strip_98 : decode cX3_strip 98 = .ok (.aload_n 0, 1) := dk_42 (dk_at dksX3_strip_4 6 rfl rfl)
theorem dX3_strip_99 : decode cX3_strip 99 = .ok (.getfield 70, 3) := dk_180 0 70 (dk_at dksX3_strip_4 7 rfl rfl)
theorem dX3_strip_102 : decode cX3_strip 102 = .ok (.aload_n 0, 1) := dk_42 (dk_at dksX3_strip_4 10 rfl rfl)
theorem dX3_strip_103 : decode cX3_strip 103 = .ok (.getfield 22, 3) := dk_180 0 22 (dk_at dksX3_strip_4 11 rfl rfl)
theorem dX3_strip_106 : decode cX3_strip 106 = .ok (.invokestatic 357, 3) := dk_184 1 101 (dk_at dksX3_strip_4 14 rfl rfl)
theorem dX3_strip_109 : decode cX3_strip 109 = .ok (.aload_n 0, 1) := dk_42 (dk_at dksX3_strip_4 17 rfl rfl)
theorem dX3_strip_110 : decode cX3_strip 110 = .ok (.getfield 73, 3) := dk_180 0 73 (dk_at dksX3_strip_4 18 rfl rfl)
theorem dX3_strip_113 : decode cX3_strip 113 = .ok (.aload_n 0, 1) := dk_42 (dk_at dksX3_strip_4 21 rfl rfl)
theorem dX3_strip_114 : decode cX3_strip 114 = .ok (.getfield 25, 3) := dk_180 0 25 (dk_at dksX3_strip_5 0 rfl rfl)
theorem dX3_strip_117 : decode cX3_strip 117 = .ok (.invokestatic 357, 3) := dk_184 1 101 (dk_at dksX3_strip_5 3 rfl rfl)
theorem dX3_strip_120 : decode cX3_strip 120 = .ok (.aload_n 0, 1) := dk_42 (dk_at dksX3_strip_5 6 rfl rfl)
theorem dX3_strip_121 : decode cX3_strip 121 = .ok (.getfield 76, 3) := dk_180 0 76 (dk_at dksX3_strip_5 7 rfl rfl)
theorem dX3_strip_124 : decode cX3_strip 124 = .ok (.aload_n 0, 1) := dk_42 (dk_at dksX3_strip_5 10 rfl rfl)
theorem dX3_strip_125 : decode cX3_strip 125 = .ok (.getfield 28, 3) := dk_180 0 28 (dk_at dksX3_strip_5 11 rfl rfl)
theorem dX3_strip_128 : decode cX3_strip 128 = .ok (.invokestatic 357, 3) := dk_184 1 101 (dk_at dksX3_strip_5 14 rfl rfl)
theorem dX3_strip_131 : decode cX3_strip 131 = .ok (.aload_n 0, 1) := dk_42 (dk_at dksX3_strip_5 17 rfl rfl)
theorem dX3_strip_132 : decode cX3_strip 132 = .ok (.getfield 79, 3) := dk_180 0 79 (dk_at dksX3_strip_5 18 rfl rfl)
theorem dX3_strip_135 : decode cX3_strip 135 = .ok (.aload_n 0, 1) := dk_42 (dk_at dksX3_strip_5 21 rfl rfl)
theorem dX3_strip_136 : decode cX3_strip 136 = .ok (.getfield 31, 3) := dk_180 0 31 (dk_at dksX3_strip_6 0 rfl rfl)
theorem dX3_strip_139 : decode cX3_strip 139 = .ok (.invokestatic 357, 3) := dk_184 1 101 (dk_at dksX3_strip_6 3 rfl rfl)
theorem dX3_strip_142 : decode cX3_strip 142 = .ok (.aload_n 0, 1) := dk_42 (dk_at dksX3_strip_6 6 rfl rfl)
theorem dX3_strip_143 : decode cX3_strip 143 = .ok (.getfield 82, 3) := dk_180 0 82 (dk_at dksX3_strip_6 7 rfl rfl)
theorem dX3_strip_146 : decode cX3_strip 146 = .ok (.aload_n 0, 1) := dk_42 (dk_at dksX3_strip_6 10 rfl rfl)
theorem dX3_strip_147 : decode cX3_strip 147 = .ok (.getfield 37, 3) := dk_180 0 37 (dk_at dksX3_strip_6 11 rfl rfl)
theorem dX3_strip_150 : decode cX3_strip 150 = .ok (.invokestatic 357, 3) := dk_184 1 101 (dk_at dksX3_strip_6 14 rfl rfl)
theorem dX3_strip_153 : decode cX3_strip 153 = .ok (.aload_n 0, 1) := dk_42 (dk_at dksX3_strip_6 17 rfl rfl)
theorem dX3_strip_154 : decode cX3_strip 154 = .ok (.getfield 85, 3) := dk_180 0 85 (dk_at dksX3_strip_6 18 rfl rfl)
theorem dX3_strip_157 : decode cX3_strip 157 = .ok (.aload_n 0, 1) := dk_42 (dk_at dksX3_strip_6 21 rfl rfl)
theorem dX3_strip_158 : decode cX3_strip 158 = .ok (.getfield 40, 3) := dk_180 0 40 (dk_at dksX3_strip_7 0 rfl rfl)
theorem dX3_strip_161 : decode cX3_strip 161 = .ok (.invokestatic 357, 3) := dk_184 1 101 (dk_at dksX3_strip_7 3 rfl rfl)
theorem dX3_strip_164 : decode cX3_strip 164 = .ok (.aload_n 0, 1) := dk_42 (dk_at dksX3_strip_7 6 rfl rfl)
theorem dX3_strip_165 : decode cX3_strip 165 = .ok (.getfield 55, 3) := dk_180 0 55 (dk_at dksX3_strip_7 7 rfl rfl)
theorem dX3_strip_168 : decode cX3_strip 168 = .ok (.iconst 0, 1) := dk_3 (dk_at dksX3_strip_7 10 rfl rfl)
theorem dX3_strip_169 : decode cX3_strip 169 = .ok (.aload_n 0, 1) := dk_42 (dk_at dksX3_strip_7 11 rfl rfl)
theorem dX3_strip_170 : decode cX3_strip 170 = .ok (.getfield 9, 3) := dk_180 0 9 (dk_at dksX3_strip_7 12 rfl rfl)
theorem dX3_strip_173 : decode cX3_strip 173 = .ok (.iconst 4, 1) := dk_7 (dk_at dksX3_strip_7 15 rfl rfl)
theorem dX3_strip_174 : decode cX3_strip 174 = .ok (.iaload, 1) := dk_46 (dk_at dksX3_strip_7 16 rfl rfl)
theorem dX3_strip_175 : decode cX3_strip 175 = .ok (.iastore, 1) := dk_79 (dk_at dksX3_strip_7 17 rfl rfl)
theorem dX3_strip_176 : decode cX3_strip 176 = .ok (.iconst 0, 1) := dk_3 (dk_at dksX3_strip_7 18 rfl rfl)
theorem dX3_strip_177 : decode cX3_strip 177 = .ok (.istore_n 1, 1) := dk_60 (dk_at dksX3_strip_7 19 rfl rfl)
theorem dX3_strip_178 : decode cX3_strip 178 = .ok (.iload_n 1, 1) := dk_27 (dk_at dksX3_strip_7 20 rfl rfl)
theorem dX3_strip_179 : decode cX3_strip 179 = .ok (.bipush 8, 2) := dk_16 8 (dk_at dksX3_strip_7 21 rfl rfl)
theorem dX3_strip_181 : decode cX3_strip 181 = .ok (.if_icmp .ge 16, 3) := dk_162 0 16 (dk_at dksX3_strip_8 0 rfl rfl)
theorem dX3_strip_184 : decode cX3_strip 184 = .ok (.aload_n 0, 1) := dk_42 (dk_at dksX3_strip_8 3 rfl rfl)
theorem dX3_strip_185 : decode cX3_strip 185 = .ok (.getfield 34, 3) := dk_180 0 34 (dk_at dksX3_strip_8 4 rfl rfl)
theorem dX3_strip_188 : decode cX3_strip 188 = .ok (.iload_n 1, 1) := dk_27 (dk_at dksX3_strip_8 7 rfl rfl)
theorem dX3_strip_189 : decode cX3_strip 189 = .ok (.iconst 0, 1) := dk_3 (dk_at dksX3_strip_8 8 rfl rfl)
theorem dX3_strip_190 : decode cX3_strip 190 = .ok (.iastore, 1) := dk_79 (dk_at dksX3_strip_8 9 rfl rfl)
theorem dX3_strip_191 : decode cX3_strip 191 = .ok (.iinc 1 1, 3) := dk_132 1 1 (dk_at dksX3_strip_8 10 rfl rfl)
theorem dX3_strip_194 : decode cX3_strip 194 = .ok (.goto (-16), 3) := dk_167 255 240 (dk_at dksX3_strip_8 13 rfl rfl)
theorem dX3_strip_197 : decode cX3_strip 197 = .ok (.aload_n 0, 1) := dk_42 (dk_at dksX3_strip_8 16 rfl rfl)
theorem dX3_strip_198 : decode cX3_strip 198 = .ok (.iconst 0, 1) := dk_3 (dk_at dksX3_strip_8 17 rfl rfl)
theorem dX3_strip_199 : decode cX3_strip 199 = .ok (.putfield 361, 3) := dk_181 1 105 (dk_at dksX3_strip_8 18 rfl rfl)
theorem dX3_strip_202 : decode cX3_strip 202 = .ok (.aload_n 0, 1) := dk_42 (dk_at dksX3_strip_8 21 rfl rfl)
theorem dX3_strip_203 : decode cX3_strip 203 = .ok (.getfield 9, 3) := dk_180 0 9 (dk_at dksX3_strip_9 0 rfl rfl)
theorem dX3_strip_206 : decode cX3_strip 206 = .ok (.iconst 2, 1) := dk_5 (dk_at dksX3_strip_9 3 rfl rfl)
theorem dX3_strip_207 : decode cX3_strip 207 = .ok (.iaload, 1) := dk_46 (dk_at dksX3_strip_9 4 rfl rfl)
theorem dX3_strip_208 : decode cX3_strip 208 = .ok (.ireturn, 1) := dk_172 (dk_at dksX3_strip_9 5 rfl rfl)
abbrev cX3_readsAll : ByteArray := prog_17_method_46_code
def yX3_readsAll : MethodName := ⟨RX3, "readsAll", "()V"⟩
def dkwX3_readsAll_4 : List UInt8 := [132, 1, 1, 42, 182, 1, 95, 61, 167, 255, 239, 42, 3, 181, 0, 185, 177]
abbrev dktX3_readsAll_4 : List UInt8 := dkwX3_readsAll_4 ++ []
def dkwX3_readsAll_3 : List UInt8 := [27, 3, 79, 132, 1, 1, 167, 255, 240, 3, 60, 4, 61, 28, 153, 0, 19, 42, 27, 182, 1, 92]
abbrev dktX3_readsAll_3 : List UInt8 := dkwX3_readsAll_3 ++ dktX3_readsAll_4
def dkwX3_readsAll_2 : List UInt8 := [180, 0, 67, 27, 3, 79, 132, 1, 1, 167, 255, 225, 3, 60, 27, 16, 100, 162, 0, 16, 42, 180, 0, 70]
abbrev dktX3_readsAll_2 : List UInt8 := dkwX3_readsAll_2 ++ dktX3_readsAll_3
def dkwX3_readsAll_1 : List UInt8 := [3, 60, 27, 16, 10, 162, 0, 31, 42, 180, 0, 61, 27, 3, 79, 42, 180, 0, 64, 27, 16, 10, 79, 42]
abbrev dktX3_readsAll_1 : List UInt8 := dkwX3_readsAll_1 ++ dktX3_readsAll_2
def dkwX3_readsAll_0 : List UInt8 := [42, 182, 1, 89, 3, 60, 27, 8, 162, 0, 16, 42, 180, 0, 58, 27, 3, 79, 132, 1, 1, 167, 255, 241]
abbrev dktX3_readsAll_0 : List UInt8 := dkwX3_readsAll_0 ++ dktX3_readsAll_1
theorem dksX3_readsAll_0 : cX3_readsAll.data.toList.drop 0 = dktX3_readsAll_0 := by decide +kernel
theorem dksX3_readsAll_1 : cX3_readsAll.data.toList.drop 24 = dktX3_readsAll_1 := dk_seg dksX3_readsAll_0 24 rfl rfl
theorem dksX3_readsAll_2 : cX3_readsAll.data.toList.drop 48 = dktX3_readsAll_2 := dk_seg dksX3_readsAll_1 24 rfl rfl
theorem dksX3_readsAll_3 : cX3_readsAll.data.toList.drop 72 = dktX3_readsAll_3 := dk_seg dksX3_readsAll_2 24 rfl rfl
theorem dksX3_readsAll_4 : cX3_readsAll.data.toList.drop 94 = dktX3_readsAll_4 := dk_seg dksX3_readsAll_3 22 rfl rfl
theorem dX3_readsAll_0 : decode cX3_readsAll 0 = .ok (.aload_n 0, 1) := dk_42 (dk_at dksX3_readsAll_0 0 rfl rfl)
theorem dX3_readsAll_1 : decode cX3_readsAll 1 = .ok (.invokevirtual 345, 3) := dk_182 1 89 (dk_at dksX3_readsAll_0 1 rfl rfl)
theorem dX3_readsAll_4 : decode cX3_readsAll 4 = .ok (.iconst 0, 1) := dk_3 (dk_at dksX3_readsAll_0 4 rfl rfl)
theorem dX3_readsAll_5 : decode cX3_readsAll 5 = .ok (.istore_n 1, 1) := dk_60 (dk_at dksX3_readsAll_0 5 rfl rfl)
theorem dX3_readsAll_6 : decode cX3_readsAll 6 = .ok (.iload_n 1, 1) := dk_27 (dk_at dksX3_readsAll_0 6 rfl rfl)
theorem dX3_readsAll_7 : decode cX3_readsAll 7 = .ok (.iconst 5, 1) := dk_8 (dk_at dksX3_readsAll_0 7 rfl rfl)
theorem dX3_readsAll_8 : decode cX3_readsAll 8 = .ok (.if_icmp .ge 16, 3) := dk_162 0 16 (dk_at dksX3_readsAll_0 8 rfl rfl)
theorem dX3_readsAll_11 : decode cX3_readsAll 11 = .ok (.aload_n 0, 1) := dk_42 (dk_at dksX3_readsAll_0 11 rfl rfl)
theorem dX3_readsAll_12 : decode cX3_readsAll 12 = .ok (.getfield 58, 3) := dk_180 0 58 (dk_at dksX3_readsAll_0 12 rfl rfl)
theorem dX3_readsAll_15 : decode cX3_readsAll 15 = .ok (.iload_n 1, 1) := dk_27 (dk_at dksX3_readsAll_0 15 rfl rfl)
theorem dX3_readsAll_16 : decode cX3_readsAll 16 = .ok (.iconst 0, 1) := dk_3 (dk_at dksX3_readsAll_0 16 rfl rfl)
theorem dX3_readsAll_17 : decode cX3_readsAll 17 = .ok (.iastore, 1) := dk_79 (dk_at dksX3_readsAll_0 17 rfl rfl)
theorem dX3_readsAll_18 : decode cX3_readsAll 18 = .ok (.iinc 1 1, 3) := dk_132 1 1 (dk_at dksX3_readsAll_0 18 rfl rfl)
theorem dX3_readsAll_21 : decode cX3_readsAll 21 = .ok (.goto (-15), 3) := dk_167 255 241 (dk_at dksX3_readsAll_0 21 rfl rfl)
theorem dX3_readsAll_24 : decode cX3_readsAll 24 = .ok (.iconst 0, 1) := dk_3 (dk_at dksX3_readsAll_1 0 rfl rfl)
theorem dX3_readsAll_25 : decode cX3_readsAll 25 = .ok (.istore_n 1, 1) := dk_60 (dk_at dksX3_readsAll_1 1 rfl rfl)
theorem dX3_readsAll_26 : decode cX3_readsAll 26 = .ok (.iload_n 1, 1) := dk_27 (dk_at dksX3_readsAll_1 2 rfl rfl)
theorem dX3_readsAll_27 : decode cX3_readsAll 27 = .ok (.bipush 10, 2) := dk_16 10 (dk_at dksX3_readsAll_1 3 rfl rfl)
theorem dX3_readsAll_29 : decode cX3_readsAll 29 = .ok (.if_icmp .ge 31, 3) := dk_162 0 31 (dk_at dksX3_readsAll_1 5 rfl rfl)
theorem dX3_readsAll_32 : decode cX3_readsAll 32 = .ok (.aload_n 0, 1) := dk_42 (dk_at dksX3_readsAll_1 8 rfl rfl)
theorem dX3_readsAll_33 : decode cX3_readsAll 33 = .ok (.getfield 61, 3) := dk_180 0 61 (dk_at dksX3_readsAll_1 9 rfl rfl)
theorem dX3_readsAll_36 : decode cX3_readsAll 36 = .ok (.iload_n 1, 1) := dk_27 (dk_at dksX3_readsAll_1 12 rfl rfl)
theorem dX3_readsAll_37 : decode cX3_readsAll 37 = .ok (.iconst 0, 1) := dk_3 (dk_at dksX3_readsAll_1 13 rfl rfl)
theorem dX3_readsAll_38 : decode cX3_readsAll 38 = .ok (.iastore, 1) := dk_79 (dk_at dksX3_readsAll_1 14 rfl rfl)
theorem dX3_readsAll_39 : decode cX3_readsAll 39 = .ok (.aload_n 0, 1) := dk_42 (dk_at dksX3_readsAll_1 15 rfl rfl)
theorem dX3_readsAll_40 : decode cX3_readsAll 40 = .ok (.getfield 64, 3) := dk_180 0 64 (dk_at dksX3_readsAll_1 16 rfl rfl)
theorem dX3_readsAll_43 : decode cX3_readsAll 43 = .ok (.iload_n 1, 1) := dk_27 (dk_at dksX3_readsAll_1 19 rfl rfl)
theorem dX3_readsAll_44 : decode cX3_readsAll 44 = .ok (.bipush 10, 2) := dk_16 10 (dk_at dksX3_readsAll_1 20 rfl rfl)
theorem dX3_readsAll_46 : decode cX3_readsAll 46 = .ok (.iastore, 1) := dk_79 (dk_at dksX3_readsAll_1 22 rfl rfl)
theorem dX3_readsAll_47 : decode cX3_readsAll 47 = .ok (.aload_n 0, 1) := dk_42 (dk_at dksX3_readsAll_1 23 rfl rfl)
theorem dX3_readsAll_48 : decode cX3_readsAll 48 = .ok (.getfield 67, 3) := dk_180 0 67 (dk_at dksX3_readsAll_2 0 rfl rfl)
theorem dX3_readsAll_51 : decode cX3_readsAll 51 = .ok (.iload_n 1, 1) := dk_27 (dk_at dksX3_readsAll_2 3 rfl rfl)
theorem dX3_readsAll_52 : decode cX3_readsAll 52 = .ok (.iconst 0, 1) := dk_3 (dk_at dksX3_readsAll_2 4 rfl rfl)
theorem dX3_readsAll_53 : decode cX3_readsAll 53 = .ok (.iastore, 1) := dk_79 (dk_at dksX3_readsAll_2 5 rfl rfl)
theorem dX3_readsAll_54 : decode cX3_readsAll 54 = .ok (.iinc 1 1, 3) := dk_132 1 1 (dk_at dksX3_readsAll_2 6 rfl rfl)
theorem dX3_readsAll_57 : decode cX3_readsAll 57 = .ok (.goto (-31), 3) := dk_167 255 225 (dk_at dksX3_readsAll_2 9 rfl rfl)
theorem dX3_readsAll_60 : decode cX3_readsAll 60 = .ok (.iconst 0, 1) := dk_3 (dk_at dksX3_readsAll_2 12 rfl rfl)
theorem dX3_readsAll_61 : decode cX3_readsAll 61 = .ok (.istore_n 1, 1) := dk_60 (dk_at dksX3_readsAll_2 13 rfl rfl)
theorem dX3_readsAll_62 : decode cX3_readsAll 62 = .ok (.iload_n 1, 1) := dk_27 (dk_at dksX3_readsAll_2 14 rfl rfl)
theorem dX3_readsAll_63 : decode cX3_readsAll 63 = .ok (.bipush 100, 2) := dk_16 100 (dk_at dksX3_readsAll_2 15 rfl rfl)
theorem dX3_readsAll_65 : decode cX3_readsAll 65 = .ok (.if_icmp .ge 16, 3) := dk_162 0 16 (dk_at dksX3_readsAll_2 17 rfl rfl)
theorem dX3_readsAll_68 : decode cX3_readsAll 68 = .ok (.aload_n 0, 1) := dk_42 (dk_at dksX3_readsAll_2 20 rfl rfl)
theorem dX3_readsAll_69 : decode cX3_readsAll 69 = .ok (.getfield 70, 3) := dk_180 0 70 (dk_at dksX3_readsAll_2 21 rfl rfl)
theorem dX3_readsAll_72 : decode cX3_readsAll 72 = .ok (.iload_n 1, 1) := dk_27 (dk_at dksX3_readsAll_3 0 rfl rfl)
theorem dX3_readsAll_73 : decode cX3_readsAll 73 = .ok (.iconst 0, 1) := dk_3 (dk_at dksX3_readsAll_3 1 rfl rfl)
theorem dX3_readsAll_74 : decode cX3_readsAll 74 = .ok (.iastore, 1) := dk_79 (dk_at dksX3_readsAll_3 2 rfl rfl)
theorem dX3_readsAll_75 : decode cX3_readsAll 75 = .ok (.iinc 1 1, 3) := dk_132 1 1 (dk_at dksX3_readsAll_3 3 rfl rfl)
theorem dX3_readsAll_78 : decode cX3_readsAll 78 = .ok (.goto (-16), 3) := dk_167 255 240 (dk_at dksX3_readsAll_3 6 rfl rfl)
theorem dX3_readsAll_81 : decode cX3_readsAll 81 = .ok (.iconst 0, 1) := dk_3 (dk_at dksX3_readsAll_3 9 rfl rfl)
theorem dX3_readsAll_82 : decode cX3_readsAll 82 = .ok (.istore_n 1, 1) := dk_60 (dk_at dksX3_readsAll_3 10 rfl rfl)
theorem dX3_readsAll_83 : decode cX3_readsAll 83 = .ok (.iconst 1, 1) := dk_4 (dk_at dksX3_readsAll_3 11 rfl rfl)
theorem dX3_readsAll_84 : decode cX3_readsAll 84 = .ok (.istore_n 2, 1) := dk_61 (dk_at dksX3_readsAll_3 12 rfl rfl)
theorem dX3_readsAll_85 : decode cX3_readsAll 85 = .ok (.iload_n 2, 1) := dk_28 (dk_at dksX3_readsAll_3 13 rfl rfl)
theorem dX3_readsAll_86 : decode cX3_readsAll 86 = .ok (.ifCond .eq 19, 3) := dk_153 0 19 (dk_at dksX3_readsAll_3 14 rfl rfl)
theorem dX3_readsAll_89 : decode cX3_readsAll 89 = .ok (.aload_n 0, 1) := dk_42 (dk_at dksX3_readsAll_3 17 rfl rfl)
theorem dX3_readsAll_90 : decode cX3_readsAll 90 = .ok (.iload_n 1, 1) := dk_27 (dk_at dksX3_readsAll_3 18 rfl rfl)
theorem dX3_readsAll_91 : decode cX3_readsAll 91 = .ok (.invokevirtual 348, 3) := dk_182 1 92 (dk_at dksX3_readsAll_3 19 rfl rfl)
theorem dX3_readsAll_94 : decode cX3_readsAll 94 = .ok (.iinc 1 1, 3) := dk_132 1 1 (dk_at dksX3_readsAll_4 0 rfl rfl)
theorem dX3_readsAll_97 : decode cX3_readsAll 97 = .ok (.aload_n 0, 1) := dk_42 (dk_at dksX3_readsAll_4 3 rfl rfl)
theorem dX3_readsAll_98 : decode cX3_readsAll 98 = .ok (.invokevirtual 351, 3) := dk_182 1 95 (dk_at dksX3_readsAll_4 4 rfl rfl)
theorem dX3_readsAll_101 : decode cX3_readsAll 101 = .ok (.istore_n 2, 1) := dk_61 (dk_at dksX3_readsAll_4 7 rfl rfl)
theorem dX3_readsAll_102 : decode cX3_readsAll 102 = .ok (.goto (-17), 3) := dk_167 255 239 (dk_at dksX3_readsAll_4 8 rfl rfl)
theorem dX3_readsAll_105 : decode cX3_readsAll 105 = .ok (.aload_n 0, 1) := dk_42 (dk_at dksX3_readsAll_4 11 rfl rfl)
theorem dX3_readsAll_106 : decode cX3_readsAll 106 = .ok (.iconst 0, 1) := dk_3 (dk_at dksX3_readsAll_4 12 rfl rfl)
theorem dX3_readsAll_107 : decode cX3_readsAll 107 = .ok (.putfield 185, 3) := dk_181 0 185 (dk_at dksX3_readsAll_4 13 rfl rfl)
theorem dX3_readsAll_110 : decode cX3_readsAll 110 = .ok (.return_, 1) := dk_177 (dk_at dksX3_readsAll_4 16 rfl rfl)
abbrev cX3_starts : ByteArray := prog_17_method_45_code
def yX3_starts : MethodName := ⟨RX3, "starts", "()V"⟩
def dkwX3_starts_1 : List UInt8 := [181, 0, 250, 177]
abbrev dktX3_starts_1 : List UInt8 := dkwX3_starts_1 ++ []
def dkwX3_starts_0 : List UInt8 := [42, 3, 181, 0, 217, 42, 3, 181, 0, 214, 42, 3, 181, 0, 247, 42, 3, 181, 1, 32, 42, 3]
abbrev dktX3_starts_0 : List UInt8 := dkwX3_starts_0 ++ dktX3_starts_1
theorem dksX3_starts_0 : cX3_starts.data.toList.drop 0 = dktX3_starts_0 := by decide +kernel
theorem dksX3_starts_1 : cX3_starts.data.toList.drop 22 = dktX3_starts_1 := dk_seg dksX3_starts_0 22 rfl rfl
theorem dX3_starts_0 : decode cX3_starts 0 = .ok (.aload_n 0, 1) := dk_42 (dk_at dksX3_starts_0 0 rfl rfl)
theorem dX3_starts_1 : decode cX3_starts 1 = .ok (.iconst 0, 1) := dk_3 (dk_at dksX3_starts_0 1 rfl rfl)
theorem dX3_starts_2 : decode cX3_starts 2 = .ok (.putfield 217, 3) := dk_181 0 217 (dk_at dksX3_starts_0 2 rfl rfl)
theorem dX3_starts_5 : decode cX3_starts 5 = .ok (.aload_n 0, 1) := dk_42 (dk_at dksX3_starts_0 5 rfl rfl)
theorem dX3_starts_6 : decode cX3_starts 6 = .ok (.iconst 0, 1) := dk_3 (dk_at dksX3_starts_0 6 rfl rfl)
theorem dX3_starts_7 : decode cX3_starts 7 = .ok (.putfield 214, 3) := dk_181 0 214 (dk_at dksX3_starts_0 7 rfl rfl)
theorem dX3_starts_10 : decode cX3_starts 10 = .ok (.aload_n 0, 1) := dk_42 (dk_at dksX3_starts_0 10 rfl rfl)
theorem dX3_starts_11 : decode cX3_starts 11 = .ok (.iconst 0, 1) := dk_3 (dk_at dksX3_starts_0 11 rfl rfl)
theorem dX3_starts_12 : decode cX3_starts 12 = .ok (.putfield 247, 3) := dk_181 0 247 (dk_at dksX3_starts_0 12 rfl rfl)
theorem dX3_starts_15 : decode cX3_starts 15 = .ok (.aload_n 0, 1) := dk_42 (dk_at dksX3_starts_0 15 rfl rfl)
theorem dX3_starts_16 : decode cX3_starts 16 = .ok (.iconst 0, 1) := dk_3 (dk_at dksX3_starts_0 16 rfl rfl)
theorem dX3_starts_17 : decode cX3_starts 17 = .ok (.putfield 288, 3) := dk_181 1 32 (dk_at dksX3_starts_0 17 rfl rfl)
theorem dX3_starts_20 : decode cX3_starts 20 = .ok (.aload_n 0, 1) := dk_42 (dk_at dksX3_starts_0 20 rfl rfl)
theorem dX3_starts_21 : decode cX3_starts 21 = .ok (.iconst 0, 1) := dk_3 (dk_at dksX3_starts_0 21 rfl rfl)
theorem dX3_starts_22 : decode cX3_starts 22 = .ok (.putfield 250, 3) := dk_181 0 250 (dk_at dksX3_starts_1 0 rfl rfl)
theorem dX3_starts_25 : decode cX3_starts 25 = .ok (.return_, 1) := dk_177 (dk_at dksX3_starts_1 3 rfl rfl)
abbrev cX3_stripClause : ByteArray := prog_17_method_42_code
def yX3_stripClause : MethodName := ⟨RX3, "stripClause", "(I)V"⟩
def dkwX3_stripClause_3 : List UInt8 := [184, 1, 80, 182, 0, 228, 96, 181, 0, 217, 42, 29, 182, 1, 86, 177]
abbrev dktX3_stripClause_3 : List UInt8 := dkwX3_stripClause_3 ++ []
def dkwX3_stripClause_2 : List UInt8 := [177, 42, 29, 27, 182, 1, 83, 153, 0, 10, 42, 7, 28, 182, 0, 253, 177, 42, 89, 180, 0, 217, 29]
abbrev dktX3_stripClause_2 : List UInt8 := dkwX3_stripClause_2 ++ dktX3_stripClause_3
def dkwX3_stripClause_1 : List UInt8 := [182, 0, 240, 154, 0, 9, 132, 3, 1, 167, 255, 236, 29, 16, 6, 160, 0, 10, 42, 3, 28, 182, 0, 253]
abbrev dktX3_stripClause_1 : List UInt8 := dkwX3_stripClause_1 ++ dktX3_stripClause_2
def dkwX3_stripClause_0 : List UInt8 := [42, 182, 0, 237, 42, 180, 0, 217, 61, 3, 62, 29, 16, 6, 162, 0, 20, 42, 29, 184, 1, 80]
abbrev dktX3_stripClause_0 : List UInt8 := dkwX3_stripClause_0 ++ dktX3_stripClause_1
theorem dksX3_stripClause_0 : cX3_stripClause.data.toList.drop 0 = dktX3_stripClause_0 := by decide +kernel
theorem dksX3_stripClause_1 : cX3_stripClause.data.toList.drop 22 = dktX3_stripClause_1 := dk_seg dksX3_stripClause_0 22 rfl rfl
theorem dksX3_stripClause_2 : cX3_stripClause.data.toList.drop 46 = dktX3_stripClause_2 := dk_seg dksX3_stripClause_1 24 rfl rfl
theorem dksX3_stripClause_3 : cX3_stripClause.data.toList.drop 69 = dktX3_stripClause_3 := dk_seg dksX3_stripClause_2 23 rfl rfl
theorem dX3_stripClause_0 : decode cX3_stripClause 0 = .ok (.aload_n 0, 1) := dk_42 (dk_at dksX3_stripClause_0 0 rfl rfl)
theorem dX3_stripClause_1 : decode cX3_stripClause 1 = .ok (.invokevirtual 237, 3) := dk_182 0 237 (dk_at dksX3_stripClause_0 1 rfl rfl)
theorem dX3_stripClause_4 : decode cX3_stripClause 4 = .ok (.aload_n 0, 1) := dk_42 (dk_at dksX3_stripClause_0 4 rfl rfl)
theorem dX3_stripClause_5 : decode cX3_stripClause 5 = .ok (.getfield 217, 3) := dk_180 0 217 (dk_at dksX3_stripClause_0 5 rfl rfl)
theorem dX3_stripClause_8 : decode cX3_stripClause 8 = .ok (.istore_n 2, 1) := dk_61 (dk_at dksX3_stripClause_0 8 rfl rfl)
theorem dX3_stripClause_9 : decode cX3_stripClause 9 = .ok (.iconst 0, 1) := dk_3 (dk_at dksX3_stripClause_0 9 rfl rfl)
theorem dX3_stripClause_10 : decode cX3_stripClause 10 = .ok (.istore_n 3, 1) := dk_62 (dk_at dksX3_stripClause_0 10 rfl rfl)
theorem dX3_stripClause_11 : decode cX3_stripClause 11 = .ok (.iload_n 3, 1) := dk_29 (dk_at dksX3_stripClause_0 11 rfl rfl)
theorem dX3_stripClause_12 : decode cX3_stripClause 12 = .ok (.bipush 6, 2) := dk_16 6 (dk_at dksX3_stripClause_0 12 rfl rfl)
theorem dX3_stripClause_14 : decode cX3_stripClause 14 = .ok (.if_icmp .ge 20, 3) := dk_162 0 20 (dk_at dksX3_stripClause_0 14 rfl rfl)
theorem dX3_stripClause_17 : decode cX3_stripClause 17 = .ok (.aload_n 0, 1) := dk_42 (dk_at dksX3_stripClause_0 17 rfl rfl)
theorem dX3_stripClause_18 : decode cX3_stripClause 18 = .ok (.iload_n 3, 1) := dk_29 (dk_at dksX3_stripClause_0 18 rfl rfl)
theorem dX3_stripClause_19 : decode cX3_stripClause 19 = .ok (.invokestatic 336, 3) := dk_184 1 80 (dk_at dksX3_stripClause_0 19 rfl rfl)
theorem dX3_stripClause_22 : decode cX3_stripClause 22 = .ok (.invokevirtual 240, 3) := dk_182 0 240 (dk_at dksX3_stripClause_1 0 rfl rfl)
theorem dX3_stripClause_25 : decode cX3_stripClause 25 = .ok (.ifCond .ne 9, 3) := dk_154 0 9 (dk_at dksX3_stripClause_1 3 rfl rfl)
theorem dX3_stripClause_28 : decode cX3_stripClause 28 = .ok (.iinc 3 1, 3) := dk_132 3 1 (dk_at dksX3_stripClause_1 6 rfl rfl)
theorem dX3_stripClause_31 : decode cX3_stripClause 31 = .ok (.goto (-20), 3) := dk_167 255 236 (dk_at dksX3_stripClause_1 9 rfl rfl)
theorem dX3_stripClause_34 : decode cX3_stripClause 34 = .ok (.iload_n 3, 1) := dk_29 (dk_at dksX3_stripClause_1 12 rfl rfl)
theorem dX3_stripClause_35 : decode cX3_stripClause 35 = .ok (.bipush 6, 2) := dk_16 6 (dk_at dksX3_stripClause_1 13 rfl rfl)
theorem dX3_stripClause_37 : decode cX3_stripClause 37 = .ok (.if_icmp .ne 10, 3) := dk_160 0 10 (dk_at dksX3_stripClause_1 15 rfl rfl)
theorem dX3_stripClause_40 : decode cX3_stripClause 40 = .ok (.aload_n 0, 1) := dk_42 (dk_at dksX3_stripClause_1 18 rfl rfl)
theorem dX3_stripClause_41 : decode cX3_stripClause 41 = .ok (.iconst 0, 1) := dk_3 (dk_at dksX3_stripClause_1 19 rfl rfl)
theorem dX3_stripClause_42 : decode cX3_stripClause 42 = .ok (.iload_n 2, 1) := dk_28 (dk_at dksX3_stripClause_1 20 rfl rfl)
theorem dX3_stripClause_43 : decode cX3_stripClause 43 = .ok (.invokevirtual 253, 3) := dk_182 0 253 (dk_at dksX3_stripClause_1 21 rfl rfl)
theorem dX3_stripClause_46 : decode cX3_stripClause 46 = .ok (.return_, 1) := dk_177 (dk_at dksX3_stripClause_2 0 rfl rfl)
theorem dX3_stripClause_47 : decode cX3_stripClause 47 = .ok (.aload_n 0, 1) := dk_42 (dk_at dksX3_stripClause_2 1 rfl rfl)
theorem dX3_stripClause_48 : decode cX3_stripClause 48 = .ok (.iload_n 3, 1) := dk_29 (dk_at dksX3_stripClause_2 2 rfl rfl)
theorem dX3_stripClause_49 : decode cX3_stripClause 49 = .ok (.iload_n 1, 1) := dk_27 (dk_at dksX3_stripClause_2 3 rfl rfl)
theorem dX3_stripClause_50 : decode cX3_stripClause 50 = .ok (.invokevirtual 339, 3) := dk_182 1 83 (dk_at dksX3_stripClause_2 4 rfl rfl)
theorem dX3_stripClause_53 : decode cX3_stripClause 53 = .ok (.ifCond .eq 10, 3) := dk_153 0 10 (dk_at dksX3_stripClause_2 7 rfl rfl)
theorem dX3_stripClause_56 : decode cX3_stripClause 56 = .ok (.aload_n 0, 1) := dk_42 (dk_at dksX3_stripClause_2 10 rfl rfl)
theorem dX3_stripClause_57 : decode cX3_stripClause 57 = .ok (.iconst 4, 1) := dk_7 (dk_at dksX3_stripClause_2 11 rfl rfl)
theorem dX3_stripClause_58 : decode cX3_stripClause 58 = .ok (.iload_n 2, 1) := dk_28 (dk_at dksX3_stripClause_2 12 rfl rfl)
theorem dX3_stripClause_59 : decode cX3_stripClause 59 = .ok (.invokevirtual 253, 3) := dk_182 0 253 (dk_at dksX3_stripClause_2 13 rfl rfl)
theorem dX3_stripClause_62 : decode cX3_stripClause 62 = .ok (.return_, 1) := dk_177 (dk_at dksX3_stripClause_2 16 rfl rfl)
theorem dX3_stripClause_63 : decode cX3_stripClause 63 = .ok (.aload_n 0, 1) := dk_42 (dk_at dksX3_stripClause_2 17 rfl rfl)
theorem dX3_stripClause_64 : decode cX3_stripClause 64 = .ok (.dup, 1) := dk_89 (dk_at dksX3_stripClause_2 18 rfl rfl)
theorem dX3_stripClause_65 : decode cX3_stripClause 65 = .ok (.getfield 217, 3) := dk_180 0 217 (dk_at dksX3_stripClause_2 19 rfl rfl)
theorem dX3_stripClause_68 : decode cX3_stripClause 68 = .ok (.iload_n 3, 1) := dk_29 (dk_at dksX3_stripClause_2 22 rfl rfl)
theorem dX3_stripClause_69 : decode cX3_stripClause 69 = .ok (.invokestatic 336, 3) := dk_184 1 80 (dk_at dksX3_stripClause_3 0 rfl rfl)
theorem dX3_stripClause_72 : decode cX3_stripClause 72 = .ok (.invokevirtual 228, 3) := dk_182 0 228 (dk_at dksX3_stripClause_3 3 rfl rfl)
theorem dX3_stripClause_75 : decode cX3_stripClause 75 = .ok (.iadd, 1) := dk_96 (dk_at dksX3_stripClause_3 6 rfl rfl)
theorem dX3_stripClause_76 : decode cX3_stripClause 76 = .ok (.putfield 217, 3) := dk_181 0 217 (dk_at dksX3_stripClause_3 7 rfl rfl)
theorem dX3_stripClause_79 : decode cX3_stripClause 79 = .ok (.aload_n 0, 1) := dk_42 (dk_at dksX3_stripClause_3 10 rfl rfl)
theorem dX3_stripClause_80 : decode cX3_stripClause 80 = .ok (.iload_n 3, 1) := dk_29 (dk_at dksX3_stripClause_3 11 rfl rfl)
theorem dX3_stripClause_81 : decode cX3_stripClause 81 = .ok (.invokevirtual 342, 3) := dk_182 1 86 (dk_at dksX3_stripClause_3 12 rfl rfl)
theorem dX3_stripClause_84 : decode cX3_stripClause 84 = .ok (.return_, 1) := dk_177 (dk_at dksX3_stripClause_3 15 rfl rfl)
abbrev cX3_blanks : ByteArray := prog_17_method_18_code
def yX3_blanks : MethodName := ⟨RX3, "blanks", "()V"⟩
def dkwX3_blanks_0 : List UInt8 := [42, 182, 0, 220, 16, 32, 160, 0, 16, 42, 89, 180, 0, 217, 4, 96, 181, 0, 217, 167, 255, 237, 177]
abbrev dktX3_blanks_0 : List UInt8 := dkwX3_blanks_0 ++ []
theorem dksX3_blanks_0 : cX3_blanks.data.toList.drop 0 = dktX3_blanks_0 := by decide +kernel
theorem dX3_blanks_0 : decode cX3_blanks 0 = .ok (.aload_n 0, 1) := dk_42 (dk_at dksX3_blanks_0 0 rfl rfl)
theorem dX3_blanks_1 : decode cX3_blanks 1 = .ok (.invokevirtual 220, 3) := dk_182 0 220 (dk_at dksX3_blanks_0 1 rfl rfl)
theorem dX3_blanks_4 : decode cX3_blanks 4 = .ok (.bipush 32, 2) := dk_16 32 (dk_at dksX3_blanks_0 4 rfl rfl)
theorem dX3_blanks_6 : decode cX3_blanks 6 = .ok (.if_icmp .ne 16, 3) := dk_160 0 16 (dk_at dksX3_blanks_0 6 rfl rfl)
theorem dX3_blanks_9 : decode cX3_blanks 9 = .ok (.aload_n 0, 1) := dk_42 (dk_at dksX3_blanks_0 9 rfl rfl)
theorem dX3_blanks_10 : decode cX3_blanks 10 = .ok (.dup, 1) := dk_89 (dk_at dksX3_blanks_0 10 rfl rfl)
theorem dX3_blanks_11 : decode cX3_blanks 11 = .ok (.getfield 217, 3) := dk_180 0 217 (dk_at dksX3_blanks_0 11 rfl rfl)
theorem dX3_blanks_14 : decode cX3_blanks 14 = .ok (.iconst 1, 1) := dk_4 (dk_at dksX3_blanks_0 14 rfl rfl)
theorem dX3_blanks_15 : decode cX3_blanks 15 = .ok (.iadd, 1) := dk_96 (dk_at dksX3_blanks_0 15 rfl rfl)
theorem dX3_blanks_16 : decode cX3_blanks 16 = .ok (.putfield 217, 3) := dk_181 0 217 (dk_at dksX3_blanks_0 16 rfl rfl)
theorem dX3_blanks_19 : decode cX3_blanks 19 = .ok (.goto (-19), 3) := dk_167 255 237 (dk_at dksX3_blanks_0 19 rfl rfl)
theorem dX3_blanks_22 : decode cX3_blanks 22 = .ok (.return_, 1) := dk_177 (dk_at dksX3_blanks_0 22 rfl rfl)
abbrev cX3_sign : ByteArray := prog_17_method_17_code
def yX3_sign : MethodName := ⟨RX3, "sign", "()I"⟩
def dkwX3_sign_1 : List UInt8 := [167, 0, 4, 2, 172]
abbrev dktX3_sign_1 : List UInt8 := dkwX3_sign_1 ++ []
def dkwX3_sign_0 : List UInt8 := [42, 180, 0, 217, 42, 180, 0, 185, 162, 0, 19, 42, 180, 0, 92, 42, 180, 0, 217, 51, 17, 0, 255, 126]
abbrev dktX3_sign_0 : List UInt8 := dkwX3_sign_0 ++ dktX3_sign_1
theorem dksX3_sign_0 : cX3_sign.data.toList.drop 0 = dktX3_sign_0 := by decide +kernel
theorem dksX3_sign_1 : cX3_sign.data.toList.drop 24 = dktX3_sign_1 := dk_seg dksX3_sign_0 24 rfl rfl
theorem dX3_sign_0 : decode cX3_sign 0 = .ok (.aload_n 0, 1) := dk_42 (dk_at dksX3_sign_0 0 rfl rfl)
theorem dX3_sign_1 : decode cX3_sign 1 = .ok (.getfield 217, 3) := dk_180 0 217 (dk_at dksX3_sign_0 1 rfl rfl)
theorem dX3_sign_4 : decode cX3_sign 4 = .ok (.aload_n 0, 1) := dk_42 (dk_at dksX3_sign_0 4 rfl rfl)
theorem dX3_sign_5 : decode cX3_sign 5 = .ok (.getfield 185, 3) := dk_180 0 185 (dk_at dksX3_sign_0 5 rfl rfl)
theorem dX3_sign_8 : decode cX3_sign 8 = .ok (.if_icmp .ge 19, 3) := dk_162 0 19 (dk_at dksX3_sign_0 8 rfl rfl)
theorem dX3_sign_11 : decode cX3_sign 11 = .ok (.aload_n 0, 1) := dk_42 (dk_at dksX3_sign_0 11 rfl rfl)
theorem dX3_sign_12 : decode cX3_sign 12 = .ok (.getfield 92, 3) := dk_180 0 92 (dk_at dksX3_sign_0 12 rfl rfl)
theorem dX3_sign_15 : decode cX3_sign 15 = .ok (.aload_n 0, 1) := dk_42 (dk_at dksX3_sign_0 15 rfl rfl)
theorem dX3_sign_16 : decode cX3_sign 16 = .ok (.getfield 217, 3) := dk_180 0 217 (dk_at dksX3_sign_0 16 rfl rfl)
theorem dX3_sign_19 : decode cX3_sign 19 = .ok (.baload, 1) := dk_51 (dk_at dksX3_sign_0 19 rfl rfl)
theorem dX3_sign_20 : decode cX3_sign 20 = .ok (.sipush 255, 3) := dk_17 0 255 (dk_at dksX3_sign_0 20 rfl rfl)
theorem dX3_sign_23 : decode cX3_sign 23 = .ok (.iand, 1) := dk_126 (dk_at dksX3_sign_0 23 rfl rfl)
theorem dX3_sign_24 : decode cX3_sign 24 = .ok (.goto 4, 3) := dk_167 0 4 (dk_at dksX3_sign_1 0 rfl rfl)
theorem dX3_sign_27 : decode cX3_sign 27 = .ok (.iconst (-1), 1) := dk_2 (dk_at dksX3_sign_1 3 rfl rfl)
theorem dX3_sign_28 : decode cX3_sign 28 = .ok (.ireturn, 1) := dk_172 (dk_at dksX3_sign_1 4 rfl rfl)
abbrev cX3_stripWord : ByteArray := prog_17_method_35_code
def yX3_stripWord : MethodName := ⟨RX3, "stripWord", "(I)Ljava/lang/String;"⟩
def dkwX3_stripWord_2 : List UInt8 := [19, 1, 56, 176, 18, 192, 176, 18, 200, 176, 19, 1, 58, 176, 19, 1, 60, 176, 19, 1, 62, 176]
abbrev dktX3_stripWord_2 : List UInt8 := dkwX3_stripWord_2 ++ []
def dkwX3_stripWord_1 : List UInt8 := [170, 0, 0, 0, 0, 0, 53, 0, 0, 0, 0, 0, 0, 0, 4, 0, 0, 0, 35, 0, 0, 0, 39, 0, 0, 0, 42, 0, 0, 0, 45, 0, 0, 0, 49]
abbrev dktX3_stripWord_1 : List UInt8 := dkwX3_stripWord_1 ++ dktX3_stripWord_2
def dkwX3_stripWord_0 : List UInt8 := [26]
abbrev dktX3_stripWord_0 : List UInt8 := dkwX3_stripWord_0 ++ dktX3_stripWord_1
theorem dksX3_stripWord_0 : cX3_stripWord.data.toList.drop 0 = dktX3_stripWord_0 := by decide +kernel
theorem dksX3_stripWord_1 : cX3_stripWord.data.toList.drop 1 = dktX3_stripWord_1 := dk_seg dksX3_stripWord_0 1 rfl rfl
theorem dksX3_stripWord_2 : cX3_stripWord.data.toList.drop 36 = dktX3_stripWord_2 := dk_seg dksX3_stripWord_1 35 rfl rfl
theorem dX3_stripWord_0 : decode cX3_stripWord 0 = .ok (.iload_n 0, 1) := dk_26 (dk_at dksX3_stripWord_0 0 rfl rfl)
theorem dX3_stripWord_1 : decode cX3_stripWord 1 = .ok (.tableswitch 53 0 4 #[35, 39, 42, 45, 49], 35) := by decide +kernel
theorem dX3_stripWord_36 : decode cX3_stripWord 36 = .ok (.ldc_w 312, 3) := dk_19 1 56 (dk_at dksX3_stripWord_2 0 rfl rfl)
theorem dX3_stripWord_39 : decode cX3_stripWord 39 = .ok (.areturn, 1) := dk_176 (dk_at dksX3_stripWord_2 3 rfl rfl)
theorem dX3_stripWord_40 : decode cX3_stripWord 40 = .ok (.ldc 192, 2) := dk_18 192 (dk_at dksX3_stripWord_2 4 rfl rfl)
theorem dX3_stripWord_42 : decode cX3_stripWord 42 = .ok (.areturn, 1) := dk_176 (dk_at dksX3_stripWord_2 6 rfl rfl)
theorem dX3_stripWord_43 : decode cX3_stripWord 43 = .ok (.ldc 200, 2) := dk_18 200 (dk_at dksX3_stripWord_2 7 rfl rfl)
theorem dX3_stripWord_45 : decode cX3_stripWord 45 = .ok (.areturn, 1) := dk_176 (dk_at dksX3_stripWord_2 9 rfl rfl)
theorem dX3_stripWord_46 : decode cX3_stripWord 46 = .ok (.ldc_w 314, 3) := dk_19 1 58 (dk_at dksX3_stripWord_2 10 rfl rfl)
theorem dX3_stripWord_49 : decode cX3_stripWord 49 = .ok (.areturn, 1) := dk_176 (dk_at dksX3_stripWord_2 13 rfl rfl)
theorem dX3_stripWord_50 : decode cX3_stripWord 50 = .ok (.ldc_w 316, 3) := dk_19 1 60 (dk_at dksX3_stripWord_2 14 rfl rfl)
theorem dX3_stripWord_53 : decode cX3_stripWord 53 = .ok (.areturn, 1) := dk_176 (dk_at dksX3_stripWord_2 17 rfl rfl)
theorem dX3_stripWord_54 : decode cX3_stripWord 54 = .ok (.ldc_w 318, 3) := dk_19 1 62 (dk_at dksX3_stripWord_2 18 rfl rfl)
theorem dX3_stripWord_57 : decode cX3_stripWord 57 = .ok (.areturn, 1) := dk_176 (dk_at dksX3_stripWord_2 21 rfl rfl)
abbrev cX3_stood : ByteArray := prog_17_method_20_code
def yX3_stood : MethodName := ⟨RX3, "stood", "(Ljava/lang/String;)Z"⟩
def dkwX3_stood_4 : List UInt8 := [160, 0, 7, 4, 167, 0, 4, 3, 62, 132, 4, 1, 167, 255, 213, 29, 172]
abbrev dktX3_stood_4 : List UInt8 := dkwX3_stood_4 ++ []
def dkwX3_stood_3 : List UInt8 := [29, 153, 0, 36, 42, 180, 0, 92, 42, 180, 0, 217, 21, 4, 96, 51, 43, 21, 4, 182, 0, 233]
abbrev dktX3_stood_3 : List UInt8 := dkwX3_stood_3 ++ dktX3_stood_4
def dkwX3_stood_2 : List UInt8 := [182, 0, 228, 160, 0, 7, 4, 167, 0, 4, 3, 62, 3, 54, 4, 21, 4, 43, 182, 0, 228, 162, 0, 40]
abbrev dktX3_stood_2 : List UInt8 := dkwX3_stood_2 ++ dktX3_stood_3
def dkwX3_stood_1 : List UInt8 := [42, 180, 0, 92, 28, 51, 16, 122, 163, 0, 9, 132, 2, 1, 167, 255, 223, 28, 42, 180, 0, 217, 100, 43]
abbrev dktX3_stood_1 : List UInt8 := dkwX3_stood_1 ++ dktX3_stood_2
def dkwX3_stood_0 : List UInt8 := [42, 180, 0, 217, 61, 28, 42, 180, 0, 185, 162, 0, 31, 42, 180, 0, 92, 28, 51, 16, 97, 161, 0, 20]
abbrev dktX3_stood_0 : List UInt8 := dkwX3_stood_0 ++ dktX3_stood_1
theorem dksX3_stood_0 : cX3_stood.data.toList.drop 0 = dktX3_stood_0 := by decide +kernel
theorem dksX3_stood_1 : cX3_stood.data.toList.drop 24 = dktX3_stood_1 := dk_seg dksX3_stood_0 24 rfl rfl
theorem dksX3_stood_2 : cX3_stood.data.toList.drop 48 = dktX3_stood_2 := dk_seg dksX3_stood_1 24 rfl rfl
theorem dksX3_stood_3 : cX3_stood.data.toList.drop 72 = dktX3_stood_3 := dk_seg dksX3_stood_2 24 rfl rfl
theorem dksX3_stood_4 : cX3_stood.data.toList.drop 94 = dktX3_stood_4 := dk_seg dksX3_stood_3 22 rfl rfl
theorem dX3_stood_0 : decode cX3_stood 0 = .ok (.aload_n 0, 1) := dk_42 (dk_at dksX3_stood_0 0 rfl rfl)
theorem dX3_stood_1 : decode cX3_stood 1 = .ok (.getfield 217, 3) := dk_180 0 217 (dk_at dksX3_stood_0 1 rfl rfl)
theorem dX3_stood_4 : decode cX3_stood 4 = .ok (.istore_n 2, 1) := dk_61 (dk_at dksX3_stood_0 4 rfl rfl)
theorem dX3_stood_5 : decode cX3_stood 5 = .ok (.iload_n 2, 1) := dk_28 (dk_at dksX3_stood_0 5 rfl rfl)
theorem dX3_stood_6 : decode cX3_stood 6 = .ok (.aload_n 0, 1) := dk_42 (dk_at dksX3_stood_0 6 rfl rfl)
theorem dX3_stood_7 : decode cX3_stood 7 = .ok (.getfield 185, 3) := dk_180 0 185 (dk_at dksX3_stood_0 7 rfl rfl)
theorem dX3_stood_10 : decode cX3_stood 10 = .ok (.if_icmp .ge 31, 3) := dk_162 0 31 (dk_at dksX3_stood_0 10 rfl rfl)
theorem dX3_stood_13 : decode cX3_stood 13 = .ok (.aload_n 0, 1) := dk_42 (dk_at dksX3_stood_0 13 rfl rfl)
theorem dX3_stood_14 : decode cX3_stood 14 = .ok (.getfield 92, 3) := dk_180 0 92 (dk_at dksX3_stood_0 14 rfl rfl)
theorem dX3_stood_17 : decode cX3_stood 17 = .ok (.iload_n 2, 1) := dk_28 (dk_at dksX3_stood_0 17 rfl rfl)
theorem dX3_stood_18 : decode cX3_stood 18 = .ok (.baload, 1) := dk_51 (dk_at dksX3_stood_0 18 rfl rfl)
theorem dX3_stood_19 : decode cX3_stood 19 = .ok (.bipush 97, 2) := dk_16 97 (dk_at dksX3_stood_0 19 rfl rfl)
theorem dX3_stood_21 : decode cX3_stood 21 = .ok (.if_icmp .lt 20, 3) := dk_161 0 20 (dk_at dksX3_stood_0 21 rfl rfl)
theorem dX3_stood_24 : decode cX3_stood 24 = .ok (.aload_n 0, 1) := dk_42 (dk_at dksX3_stood_1 0 rfl rfl)
theorem dX3_stood_25 : decode cX3_stood 25 = .ok (.getfield 92, 3) := dk_180 0 92 (dk_at dksX3_stood_1 1 rfl rfl)
theorem dX3_stood_28 : decode cX3_stood 28 = .ok (.iload_n 2, 1) := dk_28 (dk_at dksX3_stood_1 4 rfl rfl)
theorem dX3_stood_29 : decode cX3_stood 29 = .ok (.baload, 1) := dk_51 (dk_at dksX3_stood_1 5 rfl rfl)
theorem dX3_stood_30 : decode cX3_stood 30 = .ok (.bipush 122, 2) := dk_16 122 (dk_at dksX3_stood_1 6 rfl rfl)
theorem dX3_stood_32 : decode cX3_stood 32 = .ok (.if_icmp .gt 9, 3) := dk_163 0 9 (dk_at dksX3_stood_1 8 rfl rfl)
theorem dX3_stood_35 : decode cX3_stood 35 = .ok (.iinc 2 1, 3) := dk_132 2 1 (dk_at dksX3_stood_1 11 rfl rfl)
theorem dX3_stood_38 : decode cX3_stood 38 = .ok (.goto (-33), 3) := dk_167 255 223 (dk_at dksX3_stood_1 14 rfl rfl)
theorem dX3_stood_41 : decode cX3_stood 41 = .ok (.iload_n 2, 1) := dk_28 (dk_at dksX3_stood_1 17 rfl rfl)
theorem dX3_stood_42 : decode cX3_stood 42 = .ok (.aload_n 0, 1) := dk_42 (dk_at dksX3_stood_1 18 rfl rfl)
theorem dX3_stood_43 : decode cX3_stood 43 = .ok (.getfield 217, 3) := dk_180 0 217 (dk_at dksX3_stood_1 19 rfl rfl)
theorem dX3_stood_46 : decode cX3_stood 46 = .ok (.isub, 1) := dk_100 (dk_at dksX3_stood_1 22 rfl rfl)
theorem dX3_stood_47 : decode cX3_stood 47 = .ok (.aload_n 1, 1) := dk_43 (dk_at dksX3_stood_1 23 rfl rfl)
theorem dX3_stood_48 : decode cX3_stood 48 = .ok (.invokevirtual 228, 3) := dk_182 0 228 (dk_at dksX3_stood_2 0 rfl rfl)
theorem dX3_stood_51 : decode cX3_stood 51 = .ok (.if_icmp .ne 7, 3) := dk_160 0 7 (dk_at dksX3_stood_2 3 rfl rfl)
theorem dX3_stood_54 : decode cX3_stood 54 = .ok (.iconst 1, 1) := dk_4 (dk_at dksX3_stood_2 6 rfl rfl)
theorem dX3_stood_55 : decode cX3_stood 55 = .ok (.goto 4, 3) := dk_167 0 4 (dk_at dksX3_stood_2 7 rfl rfl)
theorem dX3_stood_58 : decode cX3_stood 58 = .ok (.iconst 0, 1) := dk_3 (dk_at dksX3_stood_2 10 rfl rfl)
theorem dX3_stood_59 : decode cX3_stood 59 = .ok (.istore_n 3, 1) := dk_62 (dk_at dksX3_stood_2 11 rfl rfl)
theorem dX3_stood_60 : decode cX3_stood 60 = .ok (.iconst 0, 1) := dk_3 (dk_at dksX3_stood_2 12 rfl rfl)
theorem dX3_stood_61 : decode cX3_stood 61 = .ok (.istore 4, 2) := dk_54 4 (dk_at dksX3_stood_2 13 rfl rfl)
theorem dX3_stood_63 : decode cX3_stood 63 = .ok (.iload 4, 2) := dk_21 4 (dk_at dksX3_stood_2 15 rfl rfl)
theorem dX3_stood_65 : decode cX3_stood 65 = .ok (.aload_n 1, 1) := dk_43 (dk_at dksX3_stood_2 17 rfl rfl)
theorem dX3_stood_66 : decode cX3_stood 66 = .ok (.invokevirtual 228, 3) := dk_182 0 228 (dk_at dksX3_stood_2 18 rfl rfl)
theorem dX3_stood_69 : decode cX3_stood 69 = .ok (.if_icmp .ge 40, 3) := dk_162 0 40 (dk_at dksX3_stood_2 21 rfl rfl)
theorem dX3_stood_72 : decode cX3_stood 72 = .ok (.iload_n 3, 1) := dk_29 (dk_at dksX3_stood_3 0 rfl rfl)
theorem dX3_stood_73 : decode cX3_stood 73 = .ok (.ifCond .eq 36, 3) := dk_153 0 36 (dk_at dksX3_stood_3 1 rfl rfl)
theorem dX3_stood_76 : decode cX3_stood 76 = .ok (.aload_n 0, 1) := dk_42 (dk_at dksX3_stood_3 4 rfl rfl)
theorem dX3_stood_77 : decode cX3_stood 77 = .ok (.getfield 92, 3) := dk_180 0 92 (dk_at dksX3_stood_3 5 rfl rfl)
theorem dX3_stood_80 : decode cX3_stood 80 = .ok (.aload_n 0, 1) := dk_42 (dk_at dksX3_stood_3 8 rfl rfl)
theorem dX3_stood_81 : decode cX3_stood 81 = .ok (.getfield 217, 3) := dk_180 0 217 (dk_at dksX3_stood_3 9 rfl rfl)
theorem dX3_stood_84 : decode cX3_stood 84 = .ok (.iload 4, 2) := dk_21 4 (dk_at dksX3_stood_3 12 rfl rfl)
theorem dX3_stood_86 : decode cX3_stood 86 = .ok (.iadd, 1) := dk_96 (dk_at dksX3_stood_3 14 rfl rfl)
theorem dX3_stood_87 : decode cX3_stood 87 = .ok (.baload, 1) := dk_51 (dk_at dksX3_stood_3 15 rfl rfl)
theorem dX3_stood_88 : decode cX3_stood 88 = .ok (.aload_n 1, 1) := dk_43 (dk_at dksX3_stood_3 16 rfl rfl)
theorem dX3_stood_89 : decode cX3_stood 89 = .ok (.iload 4, 2) := dk_21 4 (dk_at dksX3_stood_3 17 rfl rfl)
theorem dX3_stood_91 : decode cX3_stood 91 = .ok (.invokevirtual 233, 3) := dk_182 0 233 (dk_at dksX3_stood_3 19 rfl rfl)
theorem dX3_stood_94 : decode cX3_stood 94 = .ok (.if_icmp .ne 7, 3) := dk_160 0 7 (dk_at dksX3_stood_4 0 rfl rfl)
theorem dX3_stood_97 : decode cX3_stood 97 = .ok (.iconst 1, 1) := dk_4 (dk_at dksX3_stood_4 3 rfl rfl)
theorem dX3_stood_98 : decode cX3_stood 98 = .ok (.goto 4, 3) := dk_167 0 4 (dk_at dksX3_stood_4 4 rfl rfl)
theorem dX3_stood_101 : decode cX3_stood 101 = .ok (.iconst 0, 1) := dk_3 (dk_at dksX3_stood_4 7 rfl rfl)
theorem dX3_stood_102 : decode cX3_stood 102 = .ok (.istore_n 3, 1) := dk_62 (dk_at dksX3_stood_4 8 rfl rfl)
theorem dX3_stood_103 : decode cX3_stood 103 = .ok (.iinc 4 1, 3) := dk_132 4 1 (dk_at dksX3_stood_4 9 rfl rfl)
theorem dX3_stood_106 : decode cX3_stood 106 = .ok (.goto (-43), 3) := dk_167 255 213 (dk_at dksX3_stood_4 12 rfl rfl)
theorem dX3_stood_109 : decode cX3_stood 109 = .ok (.iload_n 3, 1) := dk_29 (dk_at dksX3_stood_4 15 rfl rfl)
theorem dX3_stood_110 : decode cX3_stood 110 = .ok (.ireturn, 1) := dk_172 (dk_at dksX3_stood_4 16 rfl rfl)
abbrev cX3_fails : ByteArray := prog_17_method_16_code
def yX3_fails : MethodName := ⟨RX3, "fails", "(II)V"⟩
def dkwX3_fails_1 : List UInt8 := [181, 0, 214, 177]
abbrev dktX3_fails_1 : List UInt8 := dkwX3_fails_1 ++ []
def dkwX3_fails_0 : List UInt8 := [42, 42, 180, 0, 214, 154, 0, 14, 4, 16, 8, 28, 104, 96, 27, 96, 167, 0, 7, 42, 180, 0, 214]
abbrev dktX3_fails_0 : List UInt8 := dkwX3_fails_0 ++ dktX3_fails_1
theorem dksX3_fails_0 : cX3_fails.data.toList.drop 0 = dktX3_fails_0 := by decide +kernel
theorem dksX3_fails_1 : cX3_fails.data.toList.drop 23 = dktX3_fails_1 := dk_seg dksX3_fails_0 23 rfl rfl
theorem dX3_fails_0 : decode cX3_fails 0 = .ok (.aload_n 0, 1) := dk_42 (dk_at dksX3_fails_0 0 rfl rfl)
theorem dX3_fails_1 : decode cX3_fails 1 = .ok (.aload_n 0, 1) := dk_42 (dk_at dksX3_fails_0 1 rfl rfl)
theorem dX3_fails_2 : decode cX3_fails 2 = .ok (.getfield 214, 3) := dk_180 0 214 (dk_at dksX3_fails_0 2 rfl rfl)
theorem dX3_fails_5 : decode cX3_fails 5 = .ok (.ifCond .ne 14, 3) := dk_154 0 14 (dk_at dksX3_fails_0 5 rfl rfl)
theorem dX3_fails_8 : decode cX3_fails 8 = .ok (.iconst 1, 1) := dk_4 (dk_at dksX3_fails_0 8 rfl rfl)
theorem dX3_fails_9 : decode cX3_fails 9 = .ok (.bipush 8, 2) := dk_16 8 (dk_at dksX3_fails_0 9 rfl rfl)
theorem dX3_fails_11 : decode cX3_fails 11 = .ok (.iload_n 2, 1) := dk_28 (dk_at dksX3_fails_0 11 rfl rfl)
theorem dX3_fails_12 : decode cX3_fails 12 = .ok (.imul, 1) := dk_104 (dk_at dksX3_fails_0 12 rfl rfl)
theorem dX3_fails_13 : decode cX3_fails 13 = .ok (.iadd, 1) := dk_96 (dk_at dksX3_fails_0 13 rfl rfl)
theorem dX3_fails_14 : decode cX3_fails 14 = .ok (.iload_n 1, 1) := dk_27 (dk_at dksX3_fails_0 14 rfl rfl)
theorem dX3_fails_15 : decode cX3_fails 15 = .ok (.iadd, 1) := dk_96 (dk_at dksX3_fails_0 15 rfl rfl)
theorem dX3_fails_16 : decode cX3_fails 16 = .ok (.goto 7, 3) := dk_167 0 7 (dk_at dksX3_fails_0 16 rfl rfl)
theorem dX3_fails_19 : decode cX3_fails 19 = .ok (.aload_n 0, 1) := dk_42 (dk_at dksX3_fails_0 19 rfl rfl)
theorem dX3_fails_20 : decode cX3_fails 20 = .ok (.getfield 214, 3) := dk_180 0 214 (dk_at dksX3_fails_0 20 rfl rfl)
theorem dX3_fails_23 : decode cX3_fails 23 = .ok (.putfield 214, 3) := dk_181 0 214 (dk_at dksX3_fails_1 0 rfl rfl)
theorem dX3_fails_26 : decode cX3_fails 26 = .ok (.return_, 1) := dk_177 (dk_at dksX3_fails_1 3 rfl rfl)
abbrev cX3_isFull : ByteArray := prog_17_method_41_code
def yX3_isFull : MethodName := ⟨RX3, "isFull", "(II)Z"⟩
def dkwX3_isFull_4 : List UInt8 := [16, 8, 160, 0, 7, 4, 167, 0, 4, 3, 172, 3, 172]
abbrev dktX3_isFull_4 : List UInt8 := dkwX3_isFull_4 ++ []
def dkwX3_isFull_3 : List UInt8 := [42, 180, 0, 58, 5, 46, 16, 8, 160, 0, 7, 4, 167, 0, 4, 3, 172, 42, 180, 0, 58, 6, 46]
abbrev dktX3_isFull_3 : List UInt8 := dkwX3_isFull_3 ++ dktX3_isFull_4
def dkwX3_isFull_2 : List UInt8 := [171, 0, 0, 0, 0, 60, 0, 0, 0, 2, 0, 0, 0, 4, 0, 0, 0, 26, 0, 0, 0, 5, 0, 0, 0, 43]
abbrev dktX3_isFull_2 : List UInt8 := dkwX3_isFull_2 ++ dktX3_isFull_3
def dkwX3_isFull_1 : List UInt8 := [159, 0, 5, 4, 172, 27]
abbrev dktX3_isFull_1 : List UInt8 := dkwX3_isFull_1 ++ dktX3_isFull_2
def dkwX3_isFull_0 : List UInt8 := [28, 16, 40, 159, 0, 24, 27, 154, 0, 7, 4, 167, 0, 4, 3, 28, 154, 0, 7, 4, 167, 0, 4, 3]
abbrev dktX3_isFull_0 : List UInt8 := dkwX3_isFull_0 ++ dktX3_isFull_1
theorem dksX3_isFull_0 : cX3_isFull.data.toList.drop 0 = dktX3_isFull_0 := by decide +kernel
theorem dksX3_isFull_1 : cX3_isFull.data.toList.drop 24 = dktX3_isFull_1 := dk_seg dksX3_isFull_0 24 rfl rfl
theorem dksX3_isFull_2 : cX3_isFull.data.toList.drop 30 = dktX3_isFull_2 := dk_seg dksX3_isFull_1 6 rfl rfl
theorem dksX3_isFull_3 : cX3_isFull.data.toList.drop 56 = dktX3_isFull_3 := dk_seg dksX3_isFull_2 26 rfl rfl
theorem dksX3_isFull_4 : cX3_isFull.data.toList.drop 79 = dktX3_isFull_4 := dk_seg dksX3_isFull_3 23 rfl rfl
theorem dX3_isFull_0 : decode cX3_isFull 0 = .ok (.iload_n 2, 1) := dk_28 (dk_at dksX3_isFull_0 0 rfl rfl)
theorem dX3_isFull_1 : decode cX3_isFull 1 = .ok (.bipush 40, 2) := dk_16 40 (dk_at dksX3_isFull_0 1 rfl rfl)
theorem dX3_isFull_3 : decode cX3_isFull 3 = .ok (.if_icmp .eq 24, 3) := dk_159 0 24 (dk_at dksX3_isFull_0 3 rfl rfl)
theorem dX3_isFull_6 : decode cX3_isFull 6 = .ok (.iload_n 1, 1) := dk_27 (dk_at dksX3_isFull_0 6 rfl rfl)
theorem dX3_isFull_7 : decode cX3_isFull 7 = .ok (.ifCond .ne 7, 3) := dk_154 0 7 (dk_at dksX3_isFull_0 7 rfl rfl)
theorem dX3_isFull_10 : decode cX3_isFull 10 = .ok (.iconst 1, 1) := dk_4 (dk_at dksX3_isFull_0 10 rfl rfl)
theorem dX3_isFull_11 : decode cX3_isFull 11 = .ok (.goto 4, 3) := dk_167 0 4 (dk_at dksX3_isFull_0 11 rfl rfl)
theorem dX3_isFull_14 : decode cX3_isFull 14 = .ok (.iconst 0, 1) := dk_3 (dk_at dksX3_isFull_0 14 rfl rfl)
theorem dX3_isFull_15 : decode cX3_isFull 15 = .ok (.iload_n 2, 1) := dk_28 (dk_at dksX3_isFull_0 15 rfl rfl)
theorem dX3_isFull_16 : decode cX3_isFull 16 = .ok (.ifCond .ne 7, 3) := dk_154 0 7 (dk_at dksX3_isFull_0 16 rfl rfl)
theorem dX3_isFull_19 : decode cX3_isFull 19 = .ok (.iconst 1, 1) := dk_4 (dk_at dksX3_isFull_0 19 rfl rfl)
theorem dX3_isFull_20 : decode cX3_isFull 20 = .ok (.goto 4, 3) := dk_167 0 4 (dk_at dksX3_isFull_0 20 rfl rfl)
theorem dX3_isFull_23 : decode cX3_isFull 23 = .ok (.iconst 0, 1) := dk_3 (dk_at dksX3_isFull_0 23 rfl rfl)
theorem dX3_isFull_24 : decode cX3_isFull 24 = .ok (.if_icmp .eq 5, 3) := dk_159 0 5 (dk_at dksX3_isFull_1 0 rfl rfl)
theorem dX3_isFull_27 : decode cX3_isFull 27 = .ok (.iconst 1, 1) := dk_4 (dk_at dksX3_isFull_1 3 rfl rfl)
theorem dX3_isFull_28 : decode cX3_isFull 28 = .ok (.ireturn, 1) := dk_172 (dk_at dksX3_isFull_1 4 rfl rfl)
theorem dX3_isFull_29 : decode cX3_isFull 29 = .ok (.iload_n 1, 1) := dk_27 (dk_at dksX3_isFull_1 5 rfl rfl)
theorem dX3_isFull_30 : decode cX3_isFull 30 = .ok (.lookupswitch 60 #[(4, 26), (5, 43)], 26) := by decide +kernel
theorem dX3_isFull_56 : decode cX3_isFull 56 = .ok (.aload_n 0, 1) := dk_42 (dk_at dksX3_isFull_3 0 rfl rfl)
theorem dX3_isFull_57 : decode cX3_isFull 57 = .ok (.getfield 58, 3) := dk_180 0 58 (dk_at dksX3_isFull_3 1 rfl rfl)
theorem dX3_isFull_60 : decode cX3_isFull 60 = .ok (.iconst 2, 1) := dk_5 (dk_at dksX3_isFull_3 4 rfl rfl)
theorem dX3_isFull_61 : decode cX3_isFull 61 = .ok (.iaload, 1) := dk_46 (dk_at dksX3_isFull_3 5 rfl rfl)
theorem dX3_isFull_62 : decode cX3_isFull 62 = .ok (.bipush 8, 2) := dk_16 8 (dk_at dksX3_isFull_3 6 rfl rfl)
theorem dX3_isFull_64 : decode cX3_isFull 64 = .ok (.if_icmp .ne 7, 3) := dk_160 0 7 (dk_at dksX3_isFull_3 8 rfl rfl)
theorem dX3_isFull_67 : decode cX3_isFull 67 = .ok (.iconst 1, 1) := dk_4 (dk_at dksX3_isFull_3 11 rfl rfl)
theorem dX3_isFull_68 : decode cX3_isFull 68 = .ok (.goto 4, 3) := dk_167 0 4 (dk_at dksX3_isFull_3 12 rfl rfl)
theorem dX3_isFull_71 : decode cX3_isFull 71 = .ok (.iconst 0, 1) := dk_3 (dk_at dksX3_isFull_3 15 rfl rfl)
theorem dX3_isFull_72 : decode cX3_isFull 72 = .ok (.ireturn, 1) := dk_172 (dk_at dksX3_isFull_3 16 rfl rfl)
theorem dX3_isFull_73 : decode cX3_isFull 73 = .ok (.aload_n 0, 1) := dk_42 (dk_at dksX3_isFull_3 17 rfl rfl)
theorem dX3_isFull_74 : decode cX3_isFull 74 = .ok (.getfield 58, 3) := dk_180 0 58 (dk_at dksX3_isFull_3 18 rfl rfl)
theorem dX3_isFull_77 : decode cX3_isFull 77 = .ok (.iconst 3, 1) := dk_6 (dk_at dksX3_isFull_3 21 rfl rfl)
theorem dX3_isFull_78 : decode cX3_isFull 78 = .ok (.iaload, 1) := dk_46 (dk_at dksX3_isFull_3 22 rfl rfl)
theorem dX3_isFull_79 : decode cX3_isFull 79 = .ok (.bipush 8, 2) := dk_16 8 (dk_at dksX3_isFull_4 0 rfl rfl)
theorem dX3_isFull_81 : decode cX3_isFull 81 = .ok (.if_icmp .ne 7, 3) := dk_160 0 7 (dk_at dksX3_isFull_4 2 rfl rfl)
theorem dX3_isFull_84 : decode cX3_isFull 84 = .ok (.iconst 1, 1) := dk_4 (dk_at dksX3_isFull_4 5 rfl rfl)
theorem dX3_isFull_85 : decode cX3_isFull 85 = .ok (.goto 4, 3) := dk_167 0 4 (dk_at dksX3_isFull_4 6 rfl rfl)
theorem dX3_isFull_88 : decode cX3_isFull 88 = .ok (.iconst 0, 1) := dk_3 (dk_at dksX3_isFull_4 9 rfl rfl)
theorem dX3_isFull_89 : decode cX3_isFull 89 = .ok (.ireturn, 1) := dk_172 (dk_at dksX3_isFull_4 10 rfl rfl)
theorem dX3_isFull_90 : decode cX3_isFull 90 = .ok (.iconst 0, 1) := dk_3 (dk_at dksX3_isFull_4 11 rfl rfl)
theorem dX3_isFull_91 : decode cX3_isFull 91 = .ok (.ireturn, 1) := dk_172 (dk_at dksX3_isFull_4 12 rfl rfl)
abbrev cX3_stripPart : ByteArray := prog_17_method_40_code
def yX3_stripPart : MethodName := ⟨RX3, "stripPart", "(I)V"⟩
def dkwX3_stripPart_7 : List UInt8 := [42, 180, 0, 58, 6, 92, 46, 4, 96, 79, 177]
abbrev dktX3_stripPart_7 : List UInt8 := dkwX3_stripPart_7 ++ []
def dkwX3_stripPart_6 : List UInt8 := [42, 180, 0, 58, 5, 46, 4, 100, 182, 1, 64, 79, 42, 180, 0, 85, 28, 42, 3, 4, 182, 1, 64, 79]
abbrev dktX3_stripPart_6 : List UInt8 := dkwX3_stripPart_6 ++ dktX3_stripPart_7
def dkwX3_stripPart_5 : List UInt8 := [167, 0, 58, 42, 182, 1, 77, 167, 0, 51, 42, 180, 0, 58, 6, 46, 61, 42, 180, 0, 82, 28, 42, 3]
abbrev dktX3_stripPart_5 : List UInt8 := dkwX3_stripPart_5 ++ dktX3_stripPart_6
def dkwX3_stripPart_4 : List UInt8 := [180, 0, 58, 7, 92, 46, 42, 180, 0, 214, 154, 0, 9, 4, 28, 120, 167, 0, 4, 3, 128, 79]
abbrev dktX3_stripPart_4 : List UInt8 := dkwX3_stripPart_4 ++ dktX3_stripPart_5
def dkwX3_stripPart_3 : List UInt8 := [79, 167, 0, 103, 42, 182, 1, 71, 167, 0, 96, 42, 182, 1, 74, 167, 0, 89, 42, 182, 1, 68, 61, 42]
abbrev dktX3_stripPart_3 : List UInt8 := dkwX3_stripPart_3 ++ dktX3_stripPart_4
def dkwX3_stripPart_2 : List UInt8 := [42, 180, 0, 58, 3, 42, 5, 16, 10, 182, 1, 64, 79, 42, 180, 0, 58, 4, 42, 3, 6, 182, 1, 64]
abbrev dktX3_stripPart_2 : List UInt8 := dkwX3_stripPart_2 ++ dktX3_stripPart_3
def dkwX3_stripPart_1 : List UInt8 := [170, 0, 0, 0, 0, 0, 115, 0, 0, 0, 0, 0, 0, 0, 4, 0, 0, 0, 35, 0, 0, 0, 63, 0, 0, 0, 70, 0, 0, 0, 77, 0, 0, 0, 108]
abbrev dktX3_stripPart_1 : List UInt8 := dkwX3_stripPart_1 ++ dktX3_stripPart_2
def dkwX3_stripPart_0 : List UInt8 := [27]
abbrev dktX3_stripPart_0 : List UInt8 := dkwX3_stripPart_0 ++ dktX3_stripPart_1
theorem dksX3_stripPart_0 : cX3_stripPart.data.toList.drop 0 = dktX3_stripPart_0 := by decide +kernel
theorem dksX3_stripPart_1 : cX3_stripPart.data.toList.drop 1 = dktX3_stripPart_1 := dk_seg dksX3_stripPart_0 1 rfl rfl
theorem dksX3_stripPart_2 : cX3_stripPart.data.toList.drop 36 = dktX3_stripPart_2 := dk_seg dksX3_stripPart_1 35 rfl rfl
theorem dksX3_stripPart_3 : cX3_stripPart.data.toList.drop 60 = dktX3_stripPart_3 := dk_seg dksX3_stripPart_2 24 rfl rfl
theorem dksX3_stripPart_4 : cX3_stripPart.data.toList.drop 84 = dktX3_stripPart_4 := dk_seg dksX3_stripPart_3 24 rfl rfl
theorem dksX3_stripPart_5 : cX3_stripPart.data.toList.drop 106 = dktX3_stripPart_5 := dk_seg dksX3_stripPart_4 22 rfl rfl
theorem dksX3_stripPart_6 : cX3_stripPart.data.toList.drop 130 = dktX3_stripPart_6 := dk_seg dksX3_stripPart_5 24 rfl rfl
theorem dksX3_stripPart_7 : cX3_stripPart.data.toList.drop 154 = dktX3_stripPart_7 := dk_seg dksX3_stripPart_6 24 rfl rfl
theorem dX3_stripPart_0 : decode cX3_stripPart 0 = .ok (.iload_n 1, 1) := dk_27 (dk_at dksX3_stripPart_0 0 rfl rfl)
theorem dX3_stripPart_1 : decode cX3_stripPart 1 = .ok (.tableswitch 115 0 4 #[35, 63, 70, 77, 108], 35) := by decide +kernel
theorem dX3_stripPart_36 : decode cX3_stripPart 36 = .ok (.aload_n 0, 1) := dk_42 (dk_at dksX3_stripPart_2 0 rfl rfl)
theorem dX3_stripPart_37 : decode cX3_stripPart 37 = .ok (.getfield 58, 3) := dk_180 0 58 (dk_at dksX3_stripPart_2 1 rfl rfl)
theorem dX3_stripPart_40 : decode cX3_stripPart 40 = .ok (.iconst 0, 1) := dk_3 (dk_at dksX3_stripPart_2 4 rfl rfl)
theorem dX3_stripPart_41 : decode cX3_stripPart 41 = .ok (.aload_n 0, 1) := dk_42 (dk_at dksX3_stripPart_2 5 rfl rfl)
theorem dX3_stripPart_42 : decode cX3_stripPart 42 = .ok (.iconst 2, 1) := dk_5 (dk_at dksX3_stripPart_2 6 rfl rfl)
theorem dX3_stripPart_43 : decode cX3_stripPart 43 = .ok (.bipush 10, 2) := dk_16 10 (dk_at dksX3_stripPart_2 7 rfl rfl)
theorem dX3_stripPart_45 : decode cX3_stripPart 45 = .ok (.invokevirtual 320, 3) := dk_182 1 64 (dk_at dksX3_stripPart_2 9 rfl rfl)
theorem dX3_stripPart_48 : decode cX3_stripPart 48 = .ok (.iastore, 1) := dk_79 (dk_at dksX3_stripPart_2 12 rfl rfl)
theorem dX3_stripPart_49 : decode cX3_stripPart 49 = .ok (.aload_n 0, 1) := dk_42 (dk_at dksX3_stripPart_2 13 rfl rfl)
theorem dX3_stripPart_50 : decode cX3_stripPart 50 = .ok (.getfield 58, 3) := dk_180 0 58 (dk_at dksX3_stripPart_2 14 rfl rfl)
theorem dX3_stripPart_53 : decode cX3_stripPart 53 = .ok (.iconst 1, 1) := dk_4 (dk_at dksX3_stripPart_2 17 rfl rfl)
theorem dX3_stripPart_54 : decode cX3_stripPart 54 = .ok (.aload_n 0, 1) := dk_42 (dk_at dksX3_stripPart_2 18 rfl rfl)
theorem dX3_stripPart_55 : decode cX3_stripPart 55 = .ok (.iconst 0, 1) := dk_3 (dk_at dksX3_stripPart_2 19 rfl rfl)
theorem dX3_stripPart_56 : decode cX3_stripPart 56 = .ok (.iconst 3, 1) := dk_6 (dk_at dksX3_stripPart_2 20 rfl rfl)
theorem dX3_stripPart_57 : decode cX3_stripPart 57 = .ok (.invokevirtual 320, 3) := dk_182 1 64 (dk_at dksX3_stripPart_2 21 rfl rfl)
theorem dX3_stripPart_60 : decode cX3_stripPart 60 = .ok (.iastore, 1) := dk_79 (dk_at dksX3_stripPart_3 0 rfl rfl)
theorem dX3_stripPart_61 : decode cX3_stripPart 61 = .ok (.goto 103, 3) := dk_167 0 103 (dk_at dksX3_stripPart_3 1 rfl rfl)
theorem dX3_stripPart_64 : decode cX3_stripPart 64 = .ok (.aload_n 0, 1) := dk_42 (dk_at dksX3_stripPart_3 4 rfl rfl)
theorem dX3_stripPart_65 : decode cX3_stripPart 65 = .ok (.invokevirtual 327, 3) := dk_182 1 71 (dk_at dksX3_stripPart_3 5 rfl rfl)
theorem dX3_stripPart_68 : decode cX3_stripPart 68 = .ok (.goto 96, 3) := dk_167 0 96 (dk_at dksX3_stripPart_3 8 rfl rfl)
theorem dX3_stripPart_71 : decode cX3_stripPart 71 = .ok (.aload_n 0, 1) := dk_42 (dk_at dksX3_stripPart_3 11 rfl rfl)
theorem dX3_stripPart_72 : decode cX3_stripPart 72 = .ok (.invokevirtual 330, 3) := dk_182 1 74 (dk_at dksX3_stripPart_3 12 rfl rfl)
theorem dX3_stripPart_75 : decode cX3_stripPart 75 = .ok (.goto 89, 3) := dk_167 0 89 (dk_at dksX3_stripPart_3 15 rfl rfl)
theorem dX3_stripPart_78 : decode cX3_stripPart 78 = .ok (.aload_n 0, 1) := dk_42 (dk_at dksX3_stripPart_3 18 rfl rfl)
theorem dX3_stripPart_79 : decode cX3_stripPart 79 = .ok (.invokevirtual 324, 3) := dk_182 1 68 (dk_at dksX3_stripPart_3 19 rfl rfl)
theorem dX3_stripPart_82 : decode cX3_stripPart 82 = .ok (.istore_n 2, 1) := dk_61 (dk_at dksX3_stripPart_3 22 rfl rfl)
theorem dX3_stripPart_83 : decode cX3_stripPart 83 = .ok (.aload_n 0, 1) := dk_42 (dk_at dksX3_stripPart_3 23 rfl rfl)
theorem dX3_stripPart_84 : decode cX3_stripPart 84 = .ok (.getfield 58, 3) := dk_180 0 58 (dk_at dksX3_stripPart_4 0 rfl rfl)
theorem dX3_stripPart_87 : decode cX3_stripPart 87 = .ok (.iconst 4, 1) := dk_7 (dk_at dksX3_stripPart_4 3 rfl rfl)
theorem dX3_stripPart_88 : decode cX3_stripPart 88 = .ok (.dup2, 1) := dk_92 (dk_at dksX3_stripPart_4 4 rfl rfl)
theorem dX3_stripPart_89 : decode cX3_stripPart 89 = .ok (.iaload, 1) := dk_46 (dk_at dksX3_stripPart_4 5 rfl rfl)
theorem dX3_stripPart_90 : decode cX3_stripPart 90 = .ok (.aload_n 0, 1) := dk_42 (dk_at dksX3_stripPart_4 6 rfl rfl)
theorem dX3_stripPart_91 : decode cX3_stripPart 91 = .ok (.getfield 214, 3) := dk_180 0 214 (dk_at dksX3_stripPart_4 7 rfl rfl)
theorem dX3_stripPart_94 : decode cX3_stripPart 94 = .ok (.ifCond .ne 9, 3) := dk_154 0 9 (dk_at dksX3_stripPart_4 10 rfl rfl)
theorem dX3_stripPart_97 : decode cX3_stripPart 97 = .ok (.iconst 1, 1) := dk_4 (dk_at dksX3_stripPart_4 13 rfl rfl)
theorem dX3_stripPart_98 : decode cX3_stripPart 98 = .ok (.iload_n 2, 1) := dk_28 (dk_at dksX3_stripPart_4 14 rfl rfl)
theorem dX3_stripPart_99 : decode cX3_stripPart 99 = .ok (.ishl, 1) := dk_120 (dk_at dksX3_stripPart_4 15 rfl rfl)
theorem dX3_stripPart_100 : decode cX3_stripPart 100 = .ok (.goto 4, 3) := dk_167 0 4 (dk_at dksX3_stripPart_4 16 rfl rfl)
theorem dX3_stripPart_103 : decode cX3_stripPart 103 = .ok (.iconst 0, 1) := dk_3 (dk_at dksX3_stripPart_4 19 rfl rfl)
theorem dX3_stripPart_104 : decode cX3_stripPart 104 = .ok (.ior, 1) := dk_128 (dk_at dksX3_stripPart_4 20 rfl rfl)
theorem dX3_stripPart_105 : decode cX3_stripPart 105 = .ok (.iastore, 1) := dk_79 (dk_at dksX3_stripPart_4 21 rfl rfl)
theorem dX3_stripPart_106 : decode cX3_stripPart 106 = .ok (.goto 58, 3) := dk_167 0 58 (dk_at dksX3_stripPart_5 0 rfl rfl)
theorem dX3_stripPart_109 : decode cX3_stripPart 109 = .ok (.aload_n 0, 1) := dk_42 (dk_at dksX3_stripPart_5 3 rfl rfl)
theorem dX3_stripPart_110 : decode cX3_stripPart 110 = .ok (.invokevirtual 333, 3) := dk_182 1 77 (dk_at dksX3_stripPart_5 4 rfl rfl)
theorem dX3_stripPart_113 : decode cX3_stripPart 113 = .ok (.goto 51, 3) := dk_167 0 51 (dk_at dksX3_stripPart_5 7 rfl rfl)
theorem dX3_stripPart_116 : decode cX3_stripPart 116 = .ok (.aload_n 0, 1) := dk_42 (dk_at dksX3_stripPart_5 10 rfl rfl)
theorem dX3_stripPart_117 : decode cX3_stripPart 117 = .ok (.getfield 58, 3) := dk_180 0 58 (dk_at dksX3_stripPart_5 11 rfl rfl)
theorem dX3_stripPart_120 : decode cX3_stripPart 120 = .ok (.iconst 3, 1) := dk_6 (dk_at dksX3_stripPart_5 14 rfl rfl)
theorem dX3_stripPart_121 : decode cX3_stripPart 121 = .ok (.iaload, 1) := dk_46 (dk_at dksX3_stripPart_5 15 rfl rfl)
theorem dX3_stripPart_122 : decode cX3_stripPart 122 = .ok (.istore_n 2, 1) := dk_61 (dk_at dksX3_stripPart_5 16 rfl rfl)
theorem dX3_stripPart_123 : decode cX3_stripPart 123 = .ok (.aload_n 0, 1) := dk_42 (dk_at dksX3_stripPart_5 17 rfl rfl)
theorem dX3_stripPart_124 : decode cX3_stripPart 124 = .ok (.getfield 82, 3) := dk_180 0 82 (dk_at dksX3_stripPart_5 18 rfl rfl)
theorem dX3_stripPart_127 : decode cX3_stripPart 127 = .ok (.iload_n 2, 1) := dk_28 (dk_at dksX3_stripPart_5 21 rfl rfl)
theorem dX3_stripPart_128 : decode cX3_stripPart 128 = .ok (.aload_n 0, 1) := dk_42 (dk_at dksX3_stripPart_5 22 rfl rfl)
theorem dX3_stripPart_129 : decode cX3_stripPart 129 = .ok (.iconst 0, 1) := dk_3 (dk_at dksX3_stripPart_5 23 rfl rfl)
theorem dX3_stripPart_130 : decode cX3_stripPart 130 = .ok (.aload_n 0, 1) := dk_42 (dk_at dksX3_stripPart_6 0 rfl rfl)
theorem dX3_stripPart_131 : decode cX3_stripPart 131 = .ok (.getfield 58, 3) := dk_180 0 58 (dk_at dksX3_stripPart_6 1 rfl rfl)
theorem dX3_stripPart_134 : decode cX3_stripPart 134 = .ok (.iconst 2, 1) := dk_5 (dk_at dksX3_stripPart_6 4 rfl rfl)
theorem dX3_stripPart_135 : decode cX3_stripPart 135 = .ok (.iaload, 1) := dk_46 (dk_at dksX3_stripPart_6 5 rfl rfl)
theorem dX3_stripPart_136 : decode cX3_stripPart 136 = .ok (.iconst 1, 1) := dk_4 (dk_at dksX3_stripPart_6 6 rfl rfl)
theorem dX3_stripPart_137 : decode cX3_stripPart 137 = .ok (.isub, 1) := dk_100 (dk_at dksX3_stripPart_6 7 rfl rfl)
theorem dX3_stripPart_138 : decode cX3_stripPart 138 = .ok (.invokevirtual 320, 3) := dk_182 1 64 (dk_at dksX3_stripPart_6 8 rfl rfl)
theorem dX3_stripPart_141 : decode cX3_stripPart 141 = .ok (.iastore, 1) := dk_79 (dk_at dksX3_stripPart_6 11 rfl rfl)
theorem dX3_stripPart_142 : decode cX3_stripPart 142 = .ok (.aload_n 0, 1) := dk_42 (dk_at dksX3_stripPart_6 12 rfl rfl)
theorem dX3_stripPart_143 : decode cX3_stripPart 143 = .ok (.getfield 85, 3) := dk_180 0 85 (dk_at dksX3_stripPart_6 13 rfl rfl)
theorem dX3_stripPart_146 : decode cX3_stripPart 146 = .ok (.iload_n 2, 1) := dk_28 (dk_at dksX3_stripPart_6 16 rfl rfl)
theorem dX3_stripPart_147 : decode cX3_stripPart 147 = .ok (.aload_n 0, 1) := dk_42 (dk_at dksX3_stripPart_6 17 rfl rfl)
theorem dX3_stripPart_148 : decode cX3_stripPart 148 = .ok (.iconst 0, 1) := dk_3 (dk_at dksX3_stripPart_6 18 rfl rfl)
theorem dX3_stripPart_149 : decode cX3_stripPart 149 = .ok (.iconst 1, 1) := dk_4 (dk_at dksX3_stripPart_6 19 rfl rfl)
theorem dX3_stripPart_150 : decode cX3_stripPart 150 = .ok (.invokevirtual 320, 3) := dk_182 1 64 (dk_at dksX3_stripPart_6 20 rfl rfl)
theorem dX3_stripPart_153 : decode cX3_stripPart 153 = .ok (.iastore, 1) := dk_79 (dk_at dksX3_stripPart_6 23 rfl rfl)
theorem dX3_stripPart_154 : decode cX3_stripPart 154 = .ok (.aload_n 0, 1) := dk_42 (dk_at dksX3_stripPart_7 0 rfl rfl)
theorem dX3_stripPart_155 : decode cX3_stripPart 155 = .ok (.getfield 58, 3) := dk_180 0 58 (dk_at dksX3_stripPart_7 1 rfl rfl)
theorem dX3_stripPart_158 : decode cX3_stripPart 158 = .ok (.iconst 3, 1) := dk_6 (dk_at dksX3_stripPart_7 4 rfl rfl)
theorem dX3_stripPart_159 : decode cX3_stripPart 159 = .ok (.dup2, 1) := dk_92 (dk_at dksX3_stripPart_7 5 rfl rfl)
theorem dX3_stripPart_160 : decode cX3_stripPart 160 = .ok (.iaload, 1) := dk_46 (dk_at dksX3_stripPart_7 6 rfl rfl)
theorem dX3_stripPart_161 : decode cX3_stripPart 161 = .ok (.iconst 1, 1) := dk_4 (dk_at dksX3_stripPart_7 7 rfl rfl)
theorem dX3_stripPart_162 : decode cX3_stripPart 162 = .ok (.iadd, 1) := dk_96 (dk_at dksX3_stripPart_7 8 rfl rfl)
theorem dX3_stripPart_163 : decode cX3_stripPart 163 = .ok (.iastore, 1) := dk_79 (dk_at dksX3_stripPart_7 9 rfl rfl)
theorem dX3_stripPart_164 : decode cX3_stripPart 164 = .ok (.return_, 1) := dk_177 (dk_at dksX3_stripPart_7 10 rfl rfl)
abbrev cX3_amount : ByteArray := prog_17_method_34_code
def yX3_amount : MethodName := ⟨RX3, "amount", "(II)I"⟩
def dkwX3_amount_2 : List UInt8 := [154, 0, 9, 42, 4, 29, 182, 0, 253, 21, 4, 172]
abbrev dktX3_amount_2 : List UInt8 := dkwX3_amount_2 ++ []
def dkwX3_amount_1 : List UInt8 := [167, 0, 4, 3, 54, 4, 42, 180, 0, 214, 154, 0, 22, 21, 4, 133, 27, 133, 28, 133, 184, 0, 170]
abbrev dktX3_amount_1 : List UInt8 := dkwX3_amount_1 ++ dktX3_amount_2
def dkwX3_amount_0 : List UInt8 := [42, 182, 0, 237, 42, 180, 0, 217, 62, 42, 180, 0, 214, 154, 0, 13, 42, 19, 1, 5, 182, 1, 6]
abbrev dktX3_amount_0 : List UInt8 := dkwX3_amount_0 ++ dktX3_amount_1
theorem dksX3_amount_0 : cX3_amount.data.toList.drop 0 = dktX3_amount_0 := by decide +kernel
theorem dksX3_amount_1 : cX3_amount.data.toList.drop 23 = dktX3_amount_1 := dk_seg dksX3_amount_0 23 rfl rfl
theorem dksX3_amount_2 : cX3_amount.data.toList.drop 46 = dktX3_amount_2 := dk_seg dksX3_amount_1 23 rfl rfl
theorem dX3_amount_0 : decode cX3_amount 0 = .ok (.aload_n 0, 1) := dk_42 (dk_at dksX3_amount_0 0 rfl rfl)
theorem dX3_amount_1 : decode cX3_amount 1 = .ok (.invokevirtual 237, 3) := dk_182 0 237 (dk_at dksX3_amount_0 1 rfl rfl)
theorem dX3_amount_4 : decode cX3_amount 4 = .ok (.aload_n 0, 1) := dk_42 (dk_at dksX3_amount_0 4 rfl rfl)
theorem dX3_amount_5 : decode cX3_amount 5 = .ok (.getfield 217, 3) := dk_180 0 217 (dk_at dksX3_amount_0 5 rfl rfl)
theorem dX3_amount_8 : decode cX3_amount 8 = .ok (.istore_n 3, 1) := dk_62 (dk_at dksX3_amount_0 8 rfl rfl)
theorem dX3_amount_9 : decode cX3_amount 9 = .ok (.aload_n 0, 1) := dk_42 (dk_at dksX3_amount_0 9 rfl rfl)
theorem dX3_amount_10 : decode cX3_amount 10 = .ok (.getfield 214, 3) := dk_180 0 214 (dk_at dksX3_amount_0 10 rfl rfl)
theorem dX3_amount_13 : decode cX3_amount 13 = .ok (.ifCond .ne 13, 3) := dk_154 0 13 (dk_at dksX3_amount_0 13 rfl rfl)
theorem dX3_amount_16 : decode cX3_amount 16 = .ok (.aload_n 0, 1) := dk_42 (dk_at dksX3_amount_0 16 rfl rfl)
theorem dX3_amount_17 : decode cX3_amount 17 = .ok (.ldc_w 261, 3) := dk_19 1 5 (dk_at dksX3_amount_0 17 rfl rfl)
theorem dX3_amount_20 : decode cX3_amount 20 = .ok (.invokevirtual 262, 3) := dk_182 1 6 (dk_at dksX3_amount_0 20 rfl rfl)
theorem dX3_amount_23 : decode cX3_amount 23 = .ok (.goto 4, 3) := dk_167 0 4 (dk_at dksX3_amount_1 0 rfl rfl)
theorem dX3_amount_26 : decode cX3_amount 26 = .ok (.iconst 0, 1) := dk_3 (dk_at dksX3_amount_1 3 rfl rfl)
theorem dX3_amount_27 : decode cX3_amount 27 = .ok (.istore 4, 2) := dk_54 4 (dk_at dksX3_amount_1 4 rfl rfl)
theorem dX3_amount_29 : decode cX3_amount 29 = .ok (.aload_n 0, 1) := dk_42 (dk_at dksX3_amount_1 6 rfl rfl)
theorem dX3_amount_30 : decode cX3_amount 30 = .ok (.getfield 214, 3) := dk_180 0 214 (dk_at dksX3_amount_1 7 rfl rfl)
theorem dX3_amount_33 : decode cX3_amount 33 = .ok (.ifCond .ne 22, 3) := dk_154 0 22 (dk_at dksX3_amount_1 10 rfl rfl)
theorem dX3_amount_36 : decode cX3_amount 36 = .ok (.iload 4, 2) := dk_21 4 (dk_at dksX3_amount_1 13 rfl rfl)
theorem dX3_amount_38 : decode cX3_amount 38 = .ok (.i2l, 1) := dk_133 (dk_at dksX3_amount_1 15 rfl rfl)
theorem dX3_amount_39 : decode cX3_amount 39 = .ok (.iload_n 1, 1) := dk_27 (dk_at dksX3_amount_1 16 rfl rfl)
theorem dX3_amount_40 : decode cX3_amount 40 = .ok (.i2l, 1) := dk_133 (dk_at dksX3_amount_1 17 rfl rfl)
theorem dX3_amount_41 : decode cX3_amount 41 = .ok (.iload_n 2, 1) := dk_28 (dk_at dksX3_amount_1 18 rfl rfl)
theorem dX3_amount_42 : decode cX3_amount 42 = .ok (.i2l, 1) := dk_133 (dk_at dksX3_amount_1 19 rfl rfl)
theorem dX3_amount_43 : decode cX3_amount 43 = .ok (.invokestatic 170, 3) := dk_184 0 170 (dk_at dksX3_amount_1 20 rfl rfl)
theorem dX3_amount_46 : decode cX3_amount 46 = .ok (.ifCond .ne 9, 3) := dk_154 0 9 (dk_at dksX3_amount_2 0 rfl rfl)
theorem dX3_amount_49 : decode cX3_amount 49 = .ok (.aload_n 0, 1) := dk_42 (dk_at dksX3_amount_2 3 rfl rfl)
theorem dX3_amount_50 : decode cX3_amount 50 = .ok (.iconst 1, 1) := dk_4 (dk_at dksX3_amount_2 4 rfl rfl)
theorem dX3_amount_51 : decode cX3_amount 51 = .ok (.iload_n 3, 1) := dk_29 (dk_at dksX3_amount_2 5 rfl rfl)
theorem dX3_amount_52 : decode cX3_amount 52 = .ok (.invokevirtual 253, 3) := dk_182 0 253 (dk_at dksX3_amount_2 6 rfl rfl)
theorem dX3_amount_55 : decode cX3_amount 55 = .ok (.iload 4, 2) := dk_21 4 (dk_at dksX3_amount_2 9 rfl rfl)
theorem dX3_amount_57 : decode cX3_amount 57 = .ok (.ireturn, 1) := dk_172 (dk_at dksX3_amount_2 11 rfl rfl)
abbrev cX3_digits : ByteArray := prog_17_method_24_code
def yX3_digits : MethodName := ⟨RX3, "digits", "(I)I"⟩
def dkwX3_digits_4 : List UInt8 := [29, 172]
abbrev dktX3_digits_4 : List UInt8 := dkwX3_digits_4 ++ []
def dkwX3_digits_3 : List UInt8 := [167, 255, 212, 42, 180, 0, 217, 28, 100, 8, 163, 0, 8, 29, 27, 164, 0, 9, 42, 4, 28, 182, 0, 253]
abbrev dktX3_digits_3 : List UInt8 := dkwX3_digits_3 ++ dktX3_digits_4
def dkwX3_digits_2 : List UInt8 := [182, 0, 220, 96, 16, 48, 100, 167, 0, 4, 29, 62, 42, 89, 180, 0, 217, 4, 96, 181, 0, 217]
abbrev dktX3_digits_2 : List UInt8 := dkwX3_digits_2 ++ dktX3_digits_3
def dkwX3_digits_1 : List UInt8 := [62, 42, 182, 1, 1, 153, 0, 43, 42, 180, 0, 217, 28, 100, 8, 162, 0, 18, 16, 10, 29, 104, 42]
abbrev dktX3_digits_1 : List UInt8 := dkwX3_digits_1 ++ dktX3_digits_2
def dkwX3_digits_0 : List UInt8 := [42, 182, 1, 1, 154, 0, 14, 42, 3, 42, 180, 0, 217, 182, 0, 253, 3, 172, 42, 180, 0, 217, 61, 3]
abbrev dktX3_digits_0 : List UInt8 := dkwX3_digits_0 ++ dktX3_digits_1
theorem dksX3_digits_0 : cX3_digits.data.toList.drop 0 = dktX3_digits_0 := by decide +kernel
theorem dksX3_digits_1 : cX3_digits.data.toList.drop 24 = dktX3_digits_1 := dk_seg dksX3_digits_0 24 rfl rfl
theorem dksX3_digits_2 : cX3_digits.data.toList.drop 47 = dktX3_digits_2 := dk_seg dksX3_digits_1 23 rfl rfl
theorem dksX3_digits_3 : cX3_digits.data.toList.drop 69 = dktX3_digits_3 := dk_seg dksX3_digits_2 22 rfl rfl
theorem dksX3_digits_4 : cX3_digits.data.toList.drop 93 = dktX3_digits_4 := dk_seg dksX3_digits_3 24 rfl rfl
theorem dX3_digits_0 : decode cX3_digits 0 = .ok (.aload_n 0, 1) := dk_42 (dk_at dksX3_digits_0 0 rfl rfl)
theorem dX3_digits_1 : decode cX3_digits 1 = .ok (.invokevirtual 257, 3) := dk_182 1 1 (dk_at dksX3_digits_0 1 rfl rfl)
theorem dX3_digits_4 : decode cX3_digits 4 = .ok (.ifCond .ne 14, 3) := dk_154 0 14 (dk_at dksX3_digits_0 4 rfl rfl)
theorem dX3_digits_7 : decode cX3_digits 7 = .ok (.aload_n 0, 1) := dk_42 (dk_at dksX3_digits_0 7 rfl rfl)
theorem dX3_digits_8 : decode cX3_digits 8 = .ok (.iconst 0, 1) := dk_3 (dk_at dksX3_digits_0 8 rfl rfl)
theorem dX3_digits_9 : decode cX3_digits 9 = .ok (.aload_n 0, 1) := dk_42 (dk_at dksX3_digits_0 9 rfl rfl)
theorem dX3_digits_10 : decode cX3_digits 10 = .ok (.getfield 217, 3) := dk_180 0 217 (dk_at dksX3_digits_0 10 rfl rfl)
theorem dX3_digits_13 : decode cX3_digits 13 = .ok (.invokevirtual 253, 3) := dk_182 0 253 (dk_at dksX3_digits_0 13 rfl rfl)
theorem dX3_digits_16 : decode cX3_digits 16 = .ok (.iconst 0, 1) := dk_3 (dk_at dksX3_digits_0 16 rfl rfl)
theorem dX3_digits_17 : decode cX3_digits 17 = .ok (.ireturn, 1) := dk_172 (dk_at dksX3_digits_0 17 rfl rfl)
theorem dX3_digits_18 : decode cX3_digits 18 = .ok (.aload_n 0, 1) := dk_42 (dk_at dksX3_digits_0 18 rfl rfl)
theorem dX3_digits_19 : decode cX3_digits 19 = .ok (.getfield 217, 3) := dk_180 0 217 (dk_at dksX3_digits_0 19 rfl rfl)
theorem dX3_digits_22 : decode cX3_digits 22 = .ok (.istore_n 2, 1) := dk_61 (dk_at dksX3_digits_0 22 rfl rfl)
theorem dX3_digits_23 : decode cX3_digits 23 = .ok (.iconst 0, 1) := dk_3 (dk_at dksX3_digits_0 23 rfl rfl)
theorem dX3_digits_24 : decode cX3_digits 24 = .ok (.istore_n 3, 1) := dk_62 (dk_at dksX3_digits_1 0 rfl rfl)
theorem dX3_digits_25 : decode cX3_digits 25 = .ok (.aload_n 0, 1) := dk_42 (dk_at dksX3_digits_1 1 rfl rfl)
theorem dX3_digits_26 : decode cX3_digits 26 = .ok (.invokevirtual 257, 3) := dk_182 1 1 (dk_at dksX3_digits_1 2 rfl rfl)
theorem dX3_digits_29 : decode cX3_digits 29 = .ok (.ifCond .eq 43, 3) := dk_153 0 43 (dk_at dksX3_digits_1 5 rfl rfl)
theorem dX3_digits_32 : decode cX3_digits 32 = .ok (.aload_n 0, 1) := dk_42 (dk_at dksX3_digits_1 8 rfl rfl)
theorem dX3_digits_33 : decode cX3_digits 33 = .ok (.getfield 217, 3) := dk_180 0 217 (dk_at dksX3_digits_1 9 rfl rfl)
theorem dX3_digits_36 : decode cX3_digits 36 = .ok (.iload_n 2, 1) := dk_28 (dk_at dksX3_digits_1 12 rfl rfl)
theorem dX3_digits_37 : decode cX3_digits 37 = .ok (.isub, 1) := dk_100 (dk_at dksX3_digits_1 13 rfl rfl)
theorem dX3_digits_38 : decode cX3_digits 38 = .ok (.iconst 5, 1) := dk_8 (dk_at dksX3_digits_1 14 rfl rfl)
theorem dX3_digits_39 : decode cX3_digits 39 = .ok (.if_icmp .ge 18, 3) := dk_162 0 18 (dk_at dksX3_digits_1 15 rfl rfl)
theorem dX3_digits_42 : decode cX3_digits 42 = .ok (.bipush 10, 2) := dk_16 10 (dk_at dksX3_digits_1 18 rfl rfl)
theorem dX3_digits_44 : decode cX3_digits 44 = .ok (.iload_n 3, 1) := dk_29 (dk_at dksX3_digits_1 20 rfl rfl)
theorem dX3_digits_45 : decode cX3_digits 45 = .ok (.imul, 1) := dk_104 (dk_at dksX3_digits_1 21 rfl rfl)
theorem dX3_digits_46 : decode cX3_digits 46 = .ok (.aload_n 0, 1) := dk_42 (dk_at dksX3_digits_1 22 rfl rfl)
theorem dX3_digits_47 : decode cX3_digits 47 = .ok (.invokevirtual 220, 3) := dk_182 0 220 (dk_at dksX3_digits_2 0 rfl rfl)
theorem dX3_digits_50 : decode cX3_digits 50 = .ok (.iadd, 1) := dk_96 (dk_at dksX3_digits_2 3 rfl rfl)
theorem dX3_digits_51 : decode cX3_digits 51 = .ok (.bipush 48, 2) := dk_16 48 (dk_at dksX3_digits_2 4 rfl rfl)
theorem dX3_digits_53 : decode cX3_digits 53 = .ok (.isub, 1) := dk_100 (dk_at dksX3_digits_2 6 rfl rfl)
theorem dX3_digits_54 : decode cX3_digits 54 = .ok (.goto 4, 3) := dk_167 0 4 (dk_at dksX3_digits_2 7 rfl rfl)
theorem dX3_digits_57 : decode cX3_digits 57 = .ok (.iload_n 3, 1) := dk_29 (dk_at dksX3_digits_2 10 rfl rfl)
theorem dX3_digits_58 : decode cX3_digits 58 = .ok (.istore_n 3, 1) := dk_62 (dk_at dksX3_digits_2 11 rfl rfl)
theorem dX3_digits_59 : decode cX3_digits 59 = .ok (.aload_n 0, 1) := dk_42 (dk_at dksX3_digits_2 12 rfl rfl)
theorem dX3_digits_60 : decode cX3_digits 60 = .ok (.dup, 1) := dk_89 (dk_at dksX3_digits_2 13 rfl rfl)
theorem dX3_digits_61 : decode cX3_digits 61 = .ok (.getfield 217, 3) := dk_180 0 217 (dk_at dksX3_digits_2 14 rfl rfl)
theorem dX3_digits_64 : decode cX3_digits 64 = .ok (.iconst 1, 1) := dk_4 (dk_at dksX3_digits_2 17 rfl rfl)
theorem dX3_digits_65 : decode cX3_digits 65 = .ok (.iadd, 1) := dk_96 (dk_at dksX3_digits_2 18 rfl rfl)
theorem dX3_digits_66 : decode cX3_digits 66 = .ok (.putfield 217, 3) := dk_181 0 217 (dk_at dksX3_digits_2 19 rfl rfl)
theorem dX3_digits_69 : decode cX3_digits 69 = .ok (.goto (-44), 3) := dk_167 255 212 (dk_at dksX3_digits_3 0 rfl rfl)
theorem dX3_digits_72 : decode cX3_digits 72 = .ok (.aload_n 0, 1) := dk_42 (dk_at dksX3_digits_3 3 rfl rfl)
theorem dX3_digits_73 : decode cX3_digits 73 = .ok (.getfield 217, 3) := dk_180 0 217 (dk_at dksX3_digits_3 4 rfl rfl)
theorem dX3_digits_76 : decode cX3_digits 76 = .ok (.iload_n 2, 1) := dk_28 (dk_at dksX3_digits_3 7 rfl rfl)
theorem dX3_digits_77 : decode cX3_digits 77 = .ok (.isub, 1) := dk_100 (dk_at dksX3_digits_3 8 rfl rfl)
theorem dX3_digits_78 : decode cX3_digits 78 = .ok (.iconst 5, 1) := dk_8 (dk_at dksX3_digits_3 9 rfl rfl)
theorem dX3_digits_79 : decode cX3_digits 79 = .ok (.if_icmp .gt 8, 3) := dk_163 0 8 (dk_at dksX3_digits_3 10 rfl rfl)
theorem dX3_digits_82 : decode cX3_digits 82 = .ok (.iload_n 3, 1) := dk_29 (dk_at dksX3_digits_3 13 rfl rfl)
theorem dX3_digits_83 : decode cX3_digits 83 = .ok (.iload_n 1, 1) := dk_27 (dk_at dksX3_digits_3 14 rfl rfl)
theorem dX3_digits_84 : decode cX3_digits 84 = .ok (.if_icmp .le 9, 3) := dk_164 0 9 (dk_at dksX3_digits_3 15 rfl rfl)
theorem dX3_digits_87 : decode cX3_digits 87 = .ok (.aload_n 0, 1) := dk_42 (dk_at dksX3_digits_3 18 rfl rfl)
theorem dX3_digits_88 : decode cX3_digits 88 = .ok (.iconst 1, 1) := dk_4 (dk_at dksX3_digits_3 19 rfl rfl)
theorem dX3_digits_89 : decode cX3_digits 89 = .ok (.iload_n 2, 1) := dk_28 (dk_at dksX3_digits_3 20 rfl rfl)
theorem dX3_digits_90 : decode cX3_digits 90 = .ok (.invokevirtual 253, 3) := dk_182 0 253 (dk_at dksX3_digits_3 21 rfl rfl)
theorem dX3_digits_93 : decode cX3_digits 93 = .ok (.iload_n 3, 1) := dk_29 (dk_at dksX3_digits_4 0 rfl rfl)
theorem dX3_digits_94 : decode cX3_digits 94 = .ok (.ireturn, 1) := dk_172 (dk_at dksX3_digits_4 1 rfl rfl)
abbrev cX3_isDigit : ByteArray := prog_17_method_19_code
def yX3_isDigit : MethodName := ⟨RX3, "isDigit", "()Z"⟩
def dkwX3_isDigit_0 : List UInt8 := [42, 182, 0, 220, 133, 20, 0, 224, 20, 0, 226, 184, 0, 170, 172]
abbrev dktX3_isDigit_0 : List UInt8 := dkwX3_isDigit_0 ++ []
theorem dksX3_isDigit_0 : cX3_isDigit.data.toList.drop 0 = dktX3_isDigit_0 := by decide +kernel
theorem dX3_isDigit_0 : decode cX3_isDigit 0 = .ok (.aload_n 0, 1) := dk_42 (dk_at dksX3_isDigit_0 0 rfl rfl)
theorem dX3_isDigit_1 : decode cX3_isDigit 1 = .ok (.invokevirtual 220, 3) := dk_182 0 220 (dk_at dksX3_isDigit_0 1 rfl rfl)
theorem dX3_isDigit_4 : decode cX3_isDigit 4 = .ok (.i2l, 1) := dk_133 (dk_at dksX3_isDigit_0 4 rfl rfl)
theorem dX3_isDigit_5 : decode cX3_isDigit 5 = .ok (.ldc2_w 224, 3) := dk_20 0 224 (dk_at dksX3_isDigit_0 5 rfl rfl)
theorem dX3_isDigit_8 : decode cX3_isDigit 8 = .ok (.ldc2_w 226, 3) := dk_20 0 226 (dk_at dksX3_isDigit_0 8 rfl rfl)
theorem dX3_isDigit_11 : decode cX3_isDigit 11 = .ok (.invokestatic 170, 3) := dk_184 0 170 (dk_at dksX3_isDigit_0 11 rfl rfl)
theorem dX3_isDigit_14 : decode cX3_isDigit 14 = .ok (.ireturn, 1) := dk_172 (dk_at dksX3_isDigit_0 14 rfl rfl)
abbrev cX3_in : ByteArray := prog_17_method_3_code
def yX3_in : MethodName := ⟨RX3, "in", "(JJJ)Z"⟩
def dkwX3_in_0 : List UInt8 := [30, 32, 148, 155, 0, 14, 30, 22, 4, 148, 157, 0, 7, 4, 167, 0, 4, 3, 172]
abbrev dktX3_in_0 : List UInt8 := dkwX3_in_0 ++ []
theorem dksX3_in_0 : cX3_in.data.toList.drop 0 = dktX3_in_0 := by decide +kernel
theorem dX3_in_0 : decode cX3_in 0 = .ok (.lload_n 0, 1) := dk_30 (dk_at dksX3_in_0 0 rfl rfl)
theorem dX3_in_1 : decode cX3_in 1 = .ok (.lload_n 2, 1) := dk_32 (dk_at dksX3_in_0 1 rfl rfl)
theorem dX3_in_2 : decode cX3_in 2 = .ok (.lcmp, 1) := dk_148 (dk_at dksX3_in_0 2 rfl rfl)
theorem dX3_in_3 : decode cX3_in 3 = .ok (.ifCond .lt 14, 3) := dk_155 0 14 (dk_at dksX3_in_0 3 rfl rfl)
theorem dX3_in_6 : decode cX3_in 6 = .ok (.lload_n 0, 1) := dk_30 (dk_at dksX3_in_0 6 rfl rfl)
theorem dX3_in_7 : decode cX3_in 7 = .ok (.lload 4, 2) := dk_22 4 (dk_at dksX3_in_0 7 rfl rfl)
theorem dX3_in_9 : decode cX3_in 9 = .ok (.lcmp, 1) := dk_148 (dk_at dksX3_in_0 9 rfl rfl)
theorem dX3_in_10 : decode cX3_in 10 = .ok (.ifCond .gt 7, 3) := dk_157 0 7 (dk_at dksX3_in_0 10 rfl rfl)
theorem dX3_in_13 : decode cX3_in 13 = .ok (.iconst 1, 1) := dk_4 (dk_at dksX3_in_0 13 rfl rfl)
theorem dX3_in_14 : decode cX3_in 14 = .ok (.goto 4, 3) := dk_167 0 4 (dk_at dksX3_in_0 14 rfl rfl)
theorem dX3_in_17 : decode cX3_in 17 = .ok (.iconst 0, 1) := dk_3 (dk_at dksX3_in_0 17 rfl rfl)
theorem dX3_in_18 : decode cX3_in 18 = .ok (.ireturn, 1) := dk_172 (dk_at dksX3_in_0 18 rfl rfl)
abbrev cX3_readsMile : ByteArray := prog_17_method_37_code
def yX3_readsMile : MethodName := ⟨RX3, "readsMile", "()V"⟩
def dkwX3_readsMile_2 : List UInt8 := [42, 180, 0, 64, 27, 29, 79, 42, 180, 0, 67, 27, 21, 4, 79, 177]
abbrev dktX3_readsMile_2 : List UInt8 := dkwX3_readsMile_2 ++ []
def dkwX3_readsMile_1 : List UInt8 := [16, 9, 182, 1, 64, 54, 4, 42, 180, 0, 214, 154, 0, 28, 42, 180, 0, 61, 27, 28, 16, 20, 100, 79]
abbrev dktX3_readsMile_1 : List UInt8 := dkwX3_readsMile_1 ++ dktX3_readsMile_2
def dkwX3_readsMile_0 : List UInt8 := [42, 182, 1, 68, 60, 42, 3, 16, 40, 182, 1, 64, 61, 42, 3, 16, 99, 182, 1, 64, 62, 42, 3]
abbrev dktX3_readsMile_0 : List UInt8 := dkwX3_readsMile_0 ++ dktX3_readsMile_1
theorem dksX3_readsMile_0 : cX3_readsMile.data.toList.drop 0 = dktX3_readsMile_0 := by decide +kernel
theorem dksX3_readsMile_1 : cX3_readsMile.data.toList.drop 23 = dktX3_readsMile_1 := dk_seg dksX3_readsMile_0 23 rfl rfl
theorem dksX3_readsMile_2 : cX3_readsMile.data.toList.drop 47 = dktX3_readsMile_2 := dk_seg dksX3_readsMile_1 24 rfl rfl
theorem dX3_readsMile_0 : decode cX3_readsMile 0 = .ok (.aload_n 0, 1) := dk_42 (dk_at dksX3_readsMile_0 0 rfl rfl)
theorem dX3_readsMile_1 : decode cX3_readsMile 1 = .ok (.invokevirtual 324, 3) := dk_182 1 68 (dk_at dksX3_readsMile_0 1 rfl rfl)
theorem dX3_readsMile_4 : decode cX3_readsMile 4 = .ok (.istore_n 1, 1) := dk_60 (dk_at dksX3_readsMile_0 4 rfl rfl)
theorem dX3_readsMile_5 : decode cX3_readsMile 5 = .ok (.aload_n 0, 1) := dk_42 (dk_at dksX3_readsMile_0 5 rfl rfl)
theorem dX3_readsMile_6 : decode cX3_readsMile 6 = .ok (.iconst 0, 1) := dk_3 (dk_at dksX3_readsMile_0 6 rfl rfl)
theorem dX3_readsMile_7 : decode cX3_readsMile 7 = .ok (.bipush 40, 2) := dk_16 40 (dk_at dksX3_readsMile_0 7 rfl rfl)
theorem dX3_readsMile_9 : decode cX3_readsMile 9 = .ok (.invokevirtual 320, 3) := dk_182 1 64 (dk_at dksX3_readsMile_0 9 rfl rfl)
theorem dX3_readsMile_12 : decode cX3_readsMile 12 = .ok (.istore_n 2, 1) := dk_61 (dk_at dksX3_readsMile_0 12 rfl rfl)
theorem dX3_readsMile_13 : decode cX3_readsMile 13 = .ok (.aload_n 0, 1) := dk_42 (dk_at dksX3_readsMile_0 13 rfl rfl)
theorem dX3_readsMile_14 : decode cX3_readsMile 14 = .ok (.iconst 0, 1) := dk_3 (dk_at dksX3_readsMile_0 14 rfl rfl)
theorem dX3_readsMile_15 : decode cX3_readsMile 15 = .ok (.bipush 99, 2) := dk_16 99 (dk_at dksX3_readsMile_0 15 rfl rfl)
theorem dX3_readsMile_17 : decode cX3_readsMile 17 = .ok (.invokevirtual 320, 3) := dk_182 1 64 (dk_at dksX3_readsMile_0 17 rfl rfl)
theorem dX3_readsMile_20 : decode cX3_readsMile 20 = .ok (.istore_n 3, 1) := dk_62 (dk_at dksX3_readsMile_0 20 rfl rfl)
theorem dX3_readsMile_21 : decode cX3_readsMile 21 = .ok (.aload_n 0, 1) := dk_42 (dk_at dksX3_readsMile_0 21 rfl rfl)
theorem dX3_readsMile_22 : decode cX3_readsMile 22 = .ok (.iconst 0, 1) := dk_3 (dk_at dksX3_readsMile_0 22 rfl rfl)
theorem dX3_readsMile_23 : decode cX3_readsMile 23 = .ok (.bipush 9, 2) := dk_16 9 (dk_at dksX3_readsMile_1 0 rfl rfl)
theorem dX3_readsMile_25 : decode cX3_readsMile 25 = .ok (.invokevirtual 320, 3) := dk_182 1 64 (dk_at dksX3_readsMile_1 2 rfl rfl)
theorem dX3_readsMile_28 : decode cX3_readsMile 28 = .ok (.istore 4, 2) := dk_54 4 (dk_at dksX3_readsMile_1 5 rfl rfl)
theorem dX3_readsMile_30 : decode cX3_readsMile 30 = .ok (.aload_n 0, 1) := dk_42 (dk_at dksX3_readsMile_1 7 rfl rfl)
theorem dX3_readsMile_31 : decode cX3_readsMile 31 = .ok (.getfield 214, 3) := dk_180 0 214 (dk_at dksX3_readsMile_1 8 rfl rfl)
theorem dX3_readsMile_34 : decode cX3_readsMile 34 = .ok (.ifCond .ne 28, 3) := dk_154 0 28 (dk_at dksX3_readsMile_1 11 rfl rfl)
theorem dX3_readsMile_37 : decode cX3_readsMile 37 = .ok (.aload_n 0, 1) := dk_42 (dk_at dksX3_readsMile_1 14 rfl rfl)
theorem dX3_readsMile_38 : decode cX3_readsMile 38 = .ok (.getfield 61, 3) := dk_180 0 61 (dk_at dksX3_readsMile_1 15 rfl rfl)
theorem dX3_readsMile_41 : decode cX3_readsMile 41 = .ok (.iload_n 1, 1) := dk_27 (dk_at dksX3_readsMile_1 18 rfl rfl)
theorem dX3_readsMile_42 : decode cX3_readsMile 42 = .ok (.iload_n 2, 1) := dk_28 (dk_at dksX3_readsMile_1 19 rfl rfl)
theorem dX3_readsMile_43 : decode cX3_readsMile 43 = .ok (.bipush 20, 2) := dk_16 20 (dk_at dksX3_readsMile_1 20 rfl rfl)
theorem dX3_readsMile_45 : decode cX3_readsMile 45 = .ok (.isub, 1) := dk_100 (dk_at dksX3_readsMile_1 22 rfl rfl)
theorem dX3_readsMile_46 : decode cX3_readsMile 46 = .ok (.iastore, 1) := dk_79 (dk_at dksX3_readsMile_1 23 rfl rfl)
theorem dX3_readsMile_47 : decode cX3_readsMile 47 = .ok (.aload_n 0, 1) := dk_42 (dk_at dksX3_readsMile_2 0 rfl rfl)
theorem dX3_readsMile_48 : decode cX3_readsMile 48 = .ok (.getfield 64, 3) := dk_180 0 64 (dk_at dksX3_readsMile_2 1 rfl rfl)
theorem dX3_readsMile_51 : decode cX3_readsMile 51 = .ok (.iload_n 1, 1) := dk_27 (dk_at dksX3_readsMile_2 4 rfl rfl)
theorem dX3_readsMile_52 : decode cX3_readsMile 52 = .ok (.iload_n 3, 1) := dk_29 (dk_at dksX3_readsMile_2 5 rfl rfl)
theorem dX3_readsMile_53 : decode cX3_readsMile 53 = .ok (.iastore, 1) := dk_79 (dk_at dksX3_readsMile_2 6 rfl rfl)
theorem dX3_readsMile_54 : decode cX3_readsMile 54 = .ok (.aload_n 0, 1) := dk_42 (dk_at dksX3_readsMile_2 7 rfl rfl)
theorem dX3_readsMile_55 : decode cX3_readsMile 55 = .ok (.getfield 67, 3) := dk_180 0 67 (dk_at dksX3_readsMile_2 8 rfl rfl)
theorem dX3_readsMile_58 : decode cX3_readsMile 58 = .ok (.iload_n 1, 1) := dk_27 (dk_at dksX3_readsMile_2 11 rfl rfl)
theorem dX3_readsMile_59 : decode cX3_readsMile 59 = .ok (.iload 4, 2) := dk_21 4 (dk_at dksX3_readsMile_2 12 rfl rfl)
theorem dX3_readsMile_61 : decode cX3_readsMile 61 = .ok (.iastore, 1) := dk_79 (dk_at dksX3_readsMile_2 14 rfl rfl)
theorem dX3_readsMile_62 : decode cX3_readsMile 62 = .ok (.return_, 1) := dk_177 (dk_at dksX3_readsMile_2 15 rfl rfl)
abbrev cX3_oneMile : ByteArray := prog_17_method_36_code
def yX3_oneMile : MethodName := ⟨RX3, "oneMile", "()I"⟩
def dkwX3_oneMile_0 : List UInt8 := [42, 3, 42, 180, 0, 58, 3, 46, 4, 100, 182, 1, 64, 172]
abbrev dktX3_oneMile_0 : List UInt8 := dkwX3_oneMile_0 ++ []
theorem dksX3_oneMile_0 : cX3_oneMile.data.toList.drop 0 = dktX3_oneMile_0 := by decide +kernel
theorem dX3_oneMile_0 : decode cX3_oneMile 0 = .ok (.aload_n 0, 1) := dk_42 (dk_at dksX3_oneMile_0 0 rfl rfl)
theorem dX3_oneMile_1 : decode cX3_oneMile 1 = .ok (.iconst 0, 1) := dk_3 (dk_at dksX3_oneMile_0 1 rfl rfl)
theorem dX3_oneMile_2 : decode cX3_oneMile 2 = .ok (.aload_n 0, 1) := dk_42 (dk_at dksX3_oneMile_0 2 rfl rfl)
theorem dX3_oneMile_3 : decode cX3_oneMile 3 = .ok (.getfield 58, 3) := dk_180 0 58 (dk_at dksX3_oneMile_0 3 rfl rfl)
theorem dX3_oneMile_6 : decode cX3_oneMile 6 = .ok (.iconst 0, 1) := dk_3 (dk_at dksX3_oneMile_0 6 rfl rfl)
theorem dX3_oneMile_7 : decode cX3_oneMile 7 = .ok (.iaload, 1) := dk_46 (dk_at dksX3_oneMile_0 7 rfl rfl)
theorem dX3_oneMile_8 : decode cX3_oneMile 8 = .ok (.iconst 1, 1) := dk_4 (dk_at dksX3_oneMile_0 8 rfl rfl)
theorem dX3_oneMile_9 : decode cX3_oneMile 9 = .ok (.isub, 1) := dk_100 (dk_at dksX3_oneMile_0 9 rfl rfl)
theorem dX3_oneMile_10 : decode cX3_oneMile 10 = .ok (.invokevirtual 320, 3) := dk_182 1 64 (dk_at dksX3_oneMile_0 10 rfl rfl)
theorem dX3_oneMile_13 : decode cX3_oneMile 13 = .ok (.ireturn, 1) := dk_172 (dk_at dksX3_oneMile_0 13 rfl rfl)
abbrev cX3_readsWarm : ByteArray := prog_17_method_38_code
def yX3_readsWarm : MethodName := ⟨RX3, "readsWarm", "()V"⟩
def dkwX3_readsWarm_2 : List UInt8 := [132, 4, 1, 167, 255, 232, 177]
abbrev dktX3_readsWarm_2 : List UInt8 := dkwX3_readsWarm_2 ++ []
def dkwX3_readsWarm_1 : List UInt8 := [27, 54, 4, 21, 4, 28, 163, 0, 24, 42, 180, 0, 214, 154, 0, 17, 42, 180, 0, 70, 21, 4, 29, 79]
abbrev dktX3_readsWarm_1 : List UInt8 := dkwX3_readsWarm_1 ++ dktX3_readsWarm_2
def dkwX3_readsWarm_0 : List UInt8 := [42, 3, 16, 99, 182, 1, 64, 60, 42, 27, 16, 99, 182, 1, 64, 61, 42, 4, 16, 9, 182, 1, 64, 62]
abbrev dktX3_readsWarm_0 : List UInt8 := dkwX3_readsWarm_0 ++ dktX3_readsWarm_1
theorem dksX3_readsWarm_0 : cX3_readsWarm.data.toList.drop 0 = dktX3_readsWarm_0 := by decide +kernel
theorem dksX3_readsWarm_1 : cX3_readsWarm.data.toList.drop 24 = dktX3_readsWarm_1 := dk_seg dksX3_readsWarm_0 24 rfl rfl
theorem dksX3_readsWarm_2 : cX3_readsWarm.data.toList.drop 48 = dktX3_readsWarm_2 := dk_seg dksX3_readsWarm_1 24 rfl rfl
theorem dX3_readsWarm_0 : decode cX3_readsWarm 0 = .ok (.aload_n 0, 1) := dk_42 (dk_at dksX3_readsWarm_0 0 rfl rfl)
theorem dX3_readsWarm_1 : decode cX3_readsWarm 1 = .ok (.iconst 0, 1) := dk_3 (dk_at dksX3_readsWarm_0 1 rfl rfl)
theorem dX3_readsWarm_2 : decode cX3_readsWarm 2 = .ok (.bipush 99, 2) := dk_16 99 (dk_at dksX3_readsWarm_0 2 rfl rfl)
theorem dX3_readsWarm_4 : decode cX3_readsWarm 4 = .ok (.invokevirtual 320, 3) := dk_182 1 64 (dk_at dksX3_readsWarm_0 4 rfl rfl)
theorem dX3_readsWarm_7 : decode cX3_readsWarm 7 = .ok (.istore_n 1, 1) := dk_60 (dk_at dksX3_readsWarm_0 7 rfl rfl)
theorem dX3_readsWarm_8 : decode cX3_readsWarm 8 = .ok (.aload_n 0, 1) := dk_42 (dk_at dksX3_readsWarm_0 8 rfl rfl)
theorem dX3_readsWarm_9 : decode cX3_readsWarm 9 = .ok (.iload_n 1, 1) := dk_27 (dk_at dksX3_readsWarm_0 9 rfl rfl)
theorem dX3_readsWarm_10 : decode cX3_readsWarm 10 = .ok (.bipush 99, 2) := dk_16 99 (dk_at dksX3_readsWarm_0 10 rfl rfl)
theorem dX3_readsWarm_12 : decode cX3_readsWarm 12 = .ok (.invokevirtual 320, 3) := dk_182 1 64 (dk_at dksX3_readsWarm_0 12 rfl rfl)
theorem dX3_readsWarm_15 : decode cX3_readsWarm 15 = .ok (.istore_n 2, 1) := dk_61 (dk_at dksX3_readsWarm_0 15 rfl rfl)
theorem dX3_readsWarm_16 : decode cX3_readsWarm 16 = .ok (.aload_n 0, 1) := dk_42 (dk_at dksX3_readsWarm_0 16 rfl rfl)
theorem dX3_readsWarm_17 : decode cX3_readsWarm 17 = .ok (.iconst 1, 1) := dk_4 (dk_at dksX3_readsWarm_0 17 rfl rfl)
theorem dX3_readsWarm_18 : decode cX3_readsWarm 18 = .ok (.bipush 9, 2) := dk_16 9 (dk_at dksX3_readsWarm_0 18 rfl rfl)
theorem dX3_readsWarm_20 : decode cX3_readsWarm 20 = .ok (.invokevirtual 320, 3) := dk_182 1 64 (dk_at dksX3_readsWarm_0 20 rfl rfl)
theorem dX3_readsWarm_23 : decode cX3_readsWarm 23 = .ok (.istore_n 3, 1) := dk_62 (dk_at dksX3_readsWarm_0 23 rfl rfl)
theorem dX3_readsWarm_24 : decode cX3_readsWarm 24 = .ok (.iload_n 1, 1) := dk_27 (dk_at dksX3_readsWarm_1 0 rfl rfl)
theorem dX3_readsWarm_25 : decode cX3_readsWarm 25 = .ok (.istore 4, 2) := dk_54 4 (dk_at dksX3_readsWarm_1 1 rfl rfl)
theorem dX3_readsWarm_27 : decode cX3_readsWarm 27 = .ok (.iload 4, 2) := dk_21 4 (dk_at dksX3_readsWarm_1 3 rfl rfl)
theorem dX3_readsWarm_29 : decode cX3_readsWarm 29 = .ok (.iload_n 2, 1) := dk_28 (dk_at dksX3_readsWarm_1 5 rfl rfl)
theorem dX3_readsWarm_30 : decode cX3_readsWarm 30 = .ok (.if_icmp .gt 24, 3) := dk_163 0 24 (dk_at dksX3_readsWarm_1 6 rfl rfl)
theorem dX3_readsWarm_33 : decode cX3_readsWarm 33 = .ok (.aload_n 0, 1) := dk_42 (dk_at dksX3_readsWarm_1 9 rfl rfl)
theorem dX3_readsWarm_34 : decode cX3_readsWarm 34 = .ok (.getfield 214, 3) := dk_180 0 214 (dk_at dksX3_readsWarm_1 10 rfl rfl)
theorem dX3_readsWarm_37 : decode cX3_readsWarm 37 = .ok (.ifCond .ne 17, 3) := dk_154 0 17 (dk_at dksX3_readsWarm_1 13 rfl rfl)
theorem dX3_readsWarm_40 : decode cX3_readsWarm 40 = .ok (.aload_n 0, 1) := dk_42 (dk_at dksX3_readsWarm_1 16 rfl rfl)
theorem dX3_readsWarm_41 : decode cX3_readsWarm 41 = .ok (.getfield 70, 3) := dk_180 0 70 (dk_at dksX3_readsWarm_1 17 rfl rfl)
theorem dX3_readsWarm_44 : decode cX3_readsWarm 44 = .ok (.iload 4, 2) := dk_21 4 (dk_at dksX3_readsWarm_1 20 rfl rfl)
theorem dX3_readsWarm_46 : decode cX3_readsWarm 46 = .ok (.iload_n 3, 1) := dk_29 (dk_at dksX3_readsWarm_1 22 rfl rfl)
theorem dX3_readsWarm_47 : decode cX3_readsWarm 47 = .ok (.iastore, 1) := dk_79 (dk_at dksX3_readsWarm_1 23 rfl rfl)
theorem dX3_readsWarm_48 : decode cX3_readsWarm 48 = .ok (.iinc 4 1, 3) := dk_132 4 1 (dk_at dksX3_readsWarm_2 0 rfl rfl)
theorem dX3_readsWarm_51 : decode cX3_readsWarm 51 = .ok (.goto (-24), 3) := dk_167 255 232 (dk_at dksX3_readsWarm_2 3 rfl rfl)
theorem dX3_readsWarm_54 : decode cX3_readsWarm 54 = .ok (.return_, 1) := dk_177 (dk_at dksX3_readsWarm_2 6 rfl rfl)
abbrev cX3_readsVillage : ByteArray := prog_17_method_39_code
def yX3_readsVillage : MethodName := ⟨RX3, "readsVillage", "()V"⟩
def dkwX3_readsVillage_2 : List UInt8 := [180, 0, 58, 5, 92, 46, 4, 96, 79, 177]
abbrev dktX3_readsVillage_2 : List UInt8 := dkwX3_readsVillage_2 ++ []
def dkwX3_readsVillage_1 : List UInt8 := [16, 40, 182, 1, 64, 16, 20, 100, 79, 42, 180, 0, 79, 27, 42, 3, 4, 182, 1, 64, 79, 42]
abbrev dktX3_readsVillage_1 : List UInt8 := dkwX3_readsVillage_1 ++ dktX3_readsVillage_2
def dkwX3_readsVillage_0 : List UInt8 := [42, 180, 0, 58, 5, 46, 60, 42, 180, 0, 73, 27, 42, 182, 1, 68, 79, 42, 180, 0, 76, 27, 42, 3]
abbrev dktX3_readsVillage_0 : List UInt8 := dkwX3_readsVillage_0 ++ dktX3_readsVillage_1
theorem dksX3_readsVillage_0 : cX3_readsVillage.data.toList.drop 0 = dktX3_readsVillage_0 := by decide +kernel
theorem dksX3_readsVillage_1 : cX3_readsVillage.data.toList.drop 24 = dktX3_readsVillage_1 := dk_seg dksX3_readsVillage_0 24 rfl rfl
theorem dksX3_readsVillage_2 : cX3_readsVillage.data.toList.drop 46 = dktX3_readsVillage_2 := dk_seg dksX3_readsVillage_1 22 rfl rfl
theorem dX3_readsVillage_0 : decode cX3_readsVillage 0 = .ok (.aload_n 0, 1) := dk_42 (dk_at dksX3_readsVillage_0 0 rfl rfl)
theorem dX3_readsVillage_1 : decode cX3_readsVillage 1 = .ok (.getfield 58, 3) := dk_180 0 58 (dk_at dksX3_readsVillage_0 1 rfl rfl)
theorem dX3_readsVillage_4 : decode cX3_readsVillage 4 = .ok (.iconst 2, 1) := dk_5 (dk_at dksX3_readsVillage_0 4 rfl rfl)
theorem dX3_readsVillage_5 : decode cX3_readsVillage 5 = .ok (.iaload, 1) := dk_46 (dk_at dksX3_readsVillage_0 5 rfl rfl)
theorem dX3_readsVillage_6 : decode cX3_readsVillage 6 = .ok (.istore_n 1, 1) := dk_60 (dk_at dksX3_readsVillage_0 6 rfl rfl)
theorem dX3_readsVillage_7 : decode cX3_readsVillage 7 = .ok (.aload_n 0, 1) := dk_42 (dk_at dksX3_readsVillage_0 7 rfl rfl)
theorem dX3_readsVillage_8 : decode cX3_readsVillage 8 = .ok (.getfield 73, 3) := dk_180 0 73 (dk_at dksX3_readsVillage_0 8 rfl rfl)
theorem dX3_readsVillage_11 : decode cX3_readsVillage 11 = .ok (.iload_n 1, 1) := dk_27 (dk_at dksX3_readsVillage_0 11 rfl rfl)
theorem dX3_readsVillage_12 : decode cX3_readsVillage 12 = .ok (.aload_n 0, 1) := dk_42 (dk_at dksX3_readsVillage_0 12 rfl rfl)
theorem dX3_readsVillage_13 : decode cX3_readsVillage 13 = .ok (.invokevirtual 324, 3) := dk_182 1 68 (dk_at dksX3_readsVillage_0 13 rfl rfl)
theorem dX3_readsVillage_16 : decode cX3_readsVillage 16 = .ok (.iastore, 1) := dk_79 (dk_at dksX3_readsVillage_0 16 rfl rfl)
theorem dX3_readsVillage_17 : decode cX3_readsVillage 17 = .ok (.aload_n 0, 1) := dk_42 (dk_at dksX3_readsVillage_0 17 rfl rfl)
theorem dX3_readsVillage_18 : decode cX3_readsVillage 18 = .ok (.getfield 76, 3) := dk_180 0 76 (dk_at dksX3_readsVillage_0 18 rfl rfl)
theorem dX3_readsVillage_21 : decode cX3_readsVillage 21 = .ok (.iload_n 1, 1) := dk_27 (dk_at dksX3_readsVillage_0 21 rfl rfl)
theorem dX3_readsVillage_22 : decode cX3_readsVillage 22 = .ok (.aload_n 0, 1) := dk_42 (dk_at dksX3_readsVillage_0 22 rfl rfl)
theorem dX3_readsVillage_23 : decode cX3_readsVillage 23 = .ok (.iconst 0, 1) := dk_3 (dk_at dksX3_readsVillage_0 23 rfl rfl)
theorem dX3_readsVillage_24 : decode cX3_readsVillage 24 = .ok (.bipush 40, 2) := dk_16 40 (dk_at dksX3_readsVillage_1 0 rfl rfl)
theorem dX3_readsVillage_26 : decode cX3_readsVillage 26 = .ok (.invokevirtual 320, 3) := dk_182 1 64 (dk_at dksX3_readsVillage_1 2 rfl rfl)
theorem dX3_readsVillage_29 : decode cX3_readsVillage 29 = .ok (.bipush 20, 2) := dk_16 20 (dk_at dksX3_readsVillage_1 5 rfl rfl)
theorem dX3_readsVillage_31 : decode cX3_readsVillage 31 = .ok (.isub, 1) := dk_100 (dk_at dksX3_readsVillage_1 7 rfl rfl)
theorem dX3_readsVillage_32 : decode cX3_readsVillage 32 = .ok (.iastore, 1) := dk_79 (dk_at dksX3_readsVillage_1 8 rfl rfl)
theorem dX3_readsVillage_33 : decode cX3_readsVillage 33 = .ok (.aload_n 0, 1) := dk_42 (dk_at dksX3_readsVillage_1 9 rfl rfl)
theorem dX3_readsVillage_34 : decode cX3_readsVillage 34 = .ok (.getfield 79, 3) := dk_180 0 79 (dk_at dksX3_readsVillage_1 10 rfl rfl)
theorem dX3_readsVillage_37 : decode cX3_readsVillage 37 = .ok (.iload_n 1, 1) := dk_27 (dk_at dksX3_readsVillage_1 13 rfl rfl)
theorem dX3_readsVillage_38 : decode cX3_readsVillage 38 = .ok (.aload_n 0, 1) := dk_42 (dk_at dksX3_readsVillage_1 14 rfl rfl)
theorem dX3_readsVillage_39 : decode cX3_readsVillage 39 = .ok (.iconst 0, 1) := dk_3 (dk_at dksX3_readsVillage_1 15 rfl rfl)
theorem dX3_readsVillage_40 : decode cX3_readsVillage 40 = .ok (.iconst 1, 1) := dk_4 (dk_at dksX3_readsVillage_1 16 rfl rfl)
theorem dX3_readsVillage_41 : decode cX3_readsVillage 41 = .ok (.invokevirtual 320, 3) := dk_182 1 64 (dk_at dksX3_readsVillage_1 17 rfl rfl)
theorem dX3_readsVillage_44 : decode cX3_readsVillage 44 = .ok (.iastore, 1) := dk_79 (dk_at dksX3_readsVillage_1 20 rfl rfl)
theorem dX3_readsVillage_45 : decode cX3_readsVillage 45 = .ok (.aload_n 0, 1) := dk_42 (dk_at dksX3_readsVillage_1 21 rfl rfl)
theorem dX3_readsVillage_46 : decode cX3_readsVillage 46 = .ok (.getfield 58, 3) := dk_180 0 58 (dk_at dksX3_readsVillage_2 0 rfl rfl)
theorem dX3_readsVillage_49 : decode cX3_readsVillage 49 = .ok (.iconst 2, 1) := dk_5 (dk_at dksX3_readsVillage_2 3 rfl rfl)
theorem dX3_readsVillage_50 : decode cX3_readsVillage 50 = .ok (.dup2, 1) := dk_92 (dk_at dksX3_readsVillage_2 4 rfl rfl)
theorem dX3_readsVillage_51 : decode cX3_readsVillage 51 = .ok (.iaload, 1) := dk_46 (dk_at dksX3_readsVillage_2 5 rfl rfl)
theorem dX3_readsVillage_52 : decode cX3_readsVillage 52 = .ok (.iconst 1, 1) := dk_4 (dk_at dksX3_readsVillage_2 6 rfl rfl)
theorem dX3_readsVillage_53 : decode cX3_readsVillage 53 = .ok (.iadd, 1) := dk_96 (dk_at dksX3_readsVillage_2 7 rfl rfl)
theorem dX3_readsVillage_54 : decode cX3_readsVillage 54 = .ok (.iastore, 1) := dk_79 (dk_at dksX3_readsVillage_2 8 rfl rfl)
theorem dX3_readsVillage_55 : decode cX3_readsVillage 55 = .ok (.return_, 1) := dk_177 (dk_at dksX3_readsVillage_2 9 rfl rfl)
abbrev cX3_goesOn : ByteArray := prog_17_method_44_code
def yX3_goesOn : MethodName := ⟨RX3, "goesOn", "()Z"⟩
def dkwX3_goesOn_3 : List UInt8 := [181, 0, 217, 27, 172]
abbrev dktX3_goesOn_3 : List UInt8 := dkwX3_goesOn_3 ++ []
def dkwX3_goesOn_2 : List UInt8 := [42, 180, 0, 217, 42, 180, 0, 185, 162, 0, 7, 4, 167, 0, 4, 3, 60, 42, 89, 180, 0, 217, 4, 96]
abbrev dktX3_goesOn_2 : List UInt8 := dkwX3_goesOn_2 ++ dktX3_goesOn_3
def dkwX3_goesOn_1 : List UInt8 := [182, 0, 220, 16, 59, 159, 0, 12, 42, 3, 42, 180, 0, 217, 182, 0, 253, 42, 180, 0, 214, 154, 0, 18]
abbrev dktX3_goesOn_1 : List UInt8 := dkwX3_goesOn_1 ++ dktX3_goesOn_2
def dkwX3_goesOn_0 : List UInt8 := [42, 182, 0, 237, 42, 180, 0, 214, 154, 0, 32, 42, 180, 0, 217, 42, 180, 0, 185, 162, 0, 21, 42]
abbrev dktX3_goesOn_0 : List UInt8 := dkwX3_goesOn_0 ++ dktX3_goesOn_1
theorem dksX3_goesOn_0 : cX3_goesOn.data.toList.drop 0 = dktX3_goesOn_0 := by decide +kernel
theorem dksX3_goesOn_1 : cX3_goesOn.data.toList.drop 23 = dktX3_goesOn_1 := dk_seg dksX3_goesOn_0 23 rfl rfl
theorem dksX3_goesOn_2 : cX3_goesOn.data.toList.drop 47 = dktX3_goesOn_2 := dk_seg dksX3_goesOn_1 24 rfl rfl
theorem dksX3_goesOn_3 : cX3_goesOn.data.toList.drop 71 = dktX3_goesOn_3 := dk_seg dksX3_goesOn_2 24 rfl rfl
theorem dX3_goesOn_0 : decode cX3_goesOn 0 = .ok (.aload_n 0, 1) := dk_42 (dk_at dksX3_goesOn_0 0 rfl rfl)
theorem dX3_goesOn_1 : decode cX3_goesOn 1 = .ok (.invokevirtual 237, 3) := dk_182 0 237 (dk_at dksX3_goesOn_0 1 rfl rfl)
theorem dX3_goesOn_4 : decode cX3_goesOn 4 = .ok (.aload_n 0, 1) := dk_42 (dk_at dksX3_goesOn_0 4 rfl rfl)
theorem dX3_goesOn_5 : decode cX3_goesOn 5 = .ok (.getfield 214, 3) := dk_180 0 214 (dk_at dksX3_goesOn_0 5 rfl rfl)
theorem dX3_goesOn_8 : decode cX3_goesOn 8 = .ok (.ifCond .ne 32, 3) := dk_154 0 32 (dk_at dksX3_goesOn_0 8 rfl rfl)
theorem dX3_goesOn_11 : decode cX3_goesOn 11 = .ok (.aload_n 0, 1) := dk_42 (dk_at dksX3_goesOn_0 11 rfl rfl)
theorem dX3_goesOn_12 : decode cX3_goesOn 12 = .ok (.getfield 217, 3) := dk_180 0 217 (dk_at dksX3_goesOn_0 12 rfl rfl)
theorem dX3_goesOn_15 : decode cX3_goesOn 15 = .ok (.aload_n 0, 1) := dk_42 (dk_at dksX3_goesOn_0 15 rfl rfl)
theorem dX3_goesOn_16 : decode cX3_goesOn 16 = .ok (.getfield 185, 3) := dk_180 0 185 (dk_at dksX3_goesOn_0 16 rfl rfl)
theorem dX3_goesOn_19 : decode cX3_goesOn 19 = .ok (.if_icmp .ge 21, 3) := dk_162 0 21 (dk_at dksX3_goesOn_0 19 rfl rfl)
theorem dX3_goesOn_22 : decode cX3_goesOn 22 = .ok (.aload_n 0, 1) := dk_42 (dk_at dksX3_goesOn_0 22 rfl rfl)
theorem dX3_goesOn_23 : decode cX3_goesOn 23 = .ok (.invokevirtual 220, 3) := dk_182 0 220 (dk_at dksX3_goesOn_1 0 rfl rfl)
theorem dX3_goesOn_26 : decode cX3_goesOn 26 = .ok (.bipush 59, 2) := dk_16 59 (dk_at dksX3_goesOn_1 3 rfl rfl)
theorem dX3_goesOn_28 : decode cX3_goesOn 28 = .ok (.if_icmp .eq 12, 3) := dk_159 0 12 (dk_at dksX3_goesOn_1 5 rfl rfl)
theorem dX3_goesOn_31 : decode cX3_goesOn 31 = .ok (.aload_n 0, 1) := dk_42 (dk_at dksX3_goesOn_1 8 rfl rfl)
theorem dX3_goesOn_32 : decode cX3_goesOn 32 = .ok (.iconst 0, 1) := dk_3 (dk_at dksX3_goesOn_1 9 rfl rfl)
theorem dX3_goesOn_33 : decode cX3_goesOn 33 = .ok (.aload_n 0, 1) := dk_42 (dk_at dksX3_goesOn_1 10 rfl rfl)
theorem dX3_goesOn_34 : decode cX3_goesOn 34 = .ok (.getfield 217, 3) := dk_180 0 217 (dk_at dksX3_goesOn_1 11 rfl rfl)
theorem dX3_goesOn_37 : decode cX3_goesOn 37 = .ok (.invokevirtual 253, 3) := dk_182 0 253 (dk_at dksX3_goesOn_1 14 rfl rfl)
theorem dX3_goesOn_40 : decode cX3_goesOn 40 = .ok (.aload_n 0, 1) := dk_42 (dk_at dksX3_goesOn_1 17 rfl rfl)
theorem dX3_goesOn_41 : decode cX3_goesOn 41 = .ok (.getfield 214, 3) := dk_180 0 214 (dk_at dksX3_goesOn_1 18 rfl rfl)
theorem dX3_goesOn_44 : decode cX3_goesOn 44 = .ok (.ifCond .ne 18, 3) := dk_154 0 18 (dk_at dksX3_goesOn_1 21 rfl rfl)
theorem dX3_goesOn_47 : decode cX3_goesOn 47 = .ok (.aload_n 0, 1) := dk_42 (dk_at dksX3_goesOn_2 0 rfl rfl)
theorem dX3_goesOn_48 : decode cX3_goesOn 48 = .ok (.getfield 217, 3) := dk_180 0 217 (dk_at dksX3_goesOn_2 1 rfl rfl)
theorem dX3_goesOn_51 : decode cX3_goesOn 51 = .ok (.aload_n 0, 1) := dk_42 (dk_at dksX3_goesOn_2 4 rfl rfl)
theorem dX3_goesOn_52 : decode cX3_goesOn 52 = .ok (.getfield 185, 3) := dk_180 0 185 (dk_at dksX3_goesOn_2 5 rfl rfl)
theorem dX3_goesOn_55 : decode cX3_goesOn 55 = .ok (.if_icmp .ge 7, 3) := dk_162 0 7 (dk_at dksX3_goesOn_2 8 rfl rfl)
theorem dX3_goesOn_58 : decode cX3_goesOn 58 = .ok (.iconst 1, 1) := dk_4 (dk_at dksX3_goesOn_2 11 rfl rfl)
theorem dX3_goesOn_59 : decode cX3_goesOn 59 = .ok (.goto 4, 3) := dk_167 0 4 (dk_at dksX3_goesOn_2 12 rfl rfl)
theorem dX3_goesOn_62 : decode cX3_goesOn 62 = .ok (.iconst 0, 1) := dk_3 (dk_at dksX3_goesOn_2 15 rfl rfl)
theorem dX3_goesOn_63 : decode cX3_goesOn 63 = .ok (.istore_n 1, 1) := dk_60 (dk_at dksX3_goesOn_2 16 rfl rfl)
theorem dX3_goesOn_64 : decode cX3_goesOn 64 = .ok (.aload_n 0, 1) := dk_42 (dk_at dksX3_goesOn_2 17 rfl rfl)
theorem dX3_goesOn_65 : decode cX3_goesOn 65 = .ok (.dup, 1) := dk_89 (dk_at dksX3_goesOn_2 18 rfl rfl)
theorem dX3_goesOn_66 : decode cX3_goesOn 66 = .ok (.getfield 217, 3) := dk_180 0 217 (dk_at dksX3_goesOn_2 19 rfl rfl)
theorem dX3_goesOn_69 : decode cX3_goesOn 69 = .ok (.iconst 1, 1) := dk_4 (dk_at dksX3_goesOn_2 22 rfl rfl)
theorem dX3_goesOn_70 : decode cX3_goesOn 70 = .ok (.iadd, 1) := dk_96 (dk_at dksX3_goesOn_2 23 rfl rfl)
theorem dX3_goesOn_71 : decode cX3_goesOn 71 = .ok (.putfield 217, 3) := dk_181 0 217 (dk_at dksX3_goesOn_3 0 rfl rfl)
theorem dX3_goesOn_74 : decode cX3_goesOn 74 = .ok (.iload_n 1, 1) := dk_27 (dk_at dksX3_goesOn_3 3 rfl rfl)
theorem dX3_goesOn_75 : decode cX3_goesOn 75 = .ok (.ireturn, 1) := dk_172 (dk_at dksX3_goesOn_3 4 rfl rfl)
abbrev cX3_copies : ByteArray := prog_17_method_43_code
def yX3_copies : MethodName := ⟨RX3, "copies", "([I[I)V"⟩
def dkwX3_copies_0 : List UInt8 := [3, 61, 28, 42, 190, 162, 0, 15, 43, 28, 42, 28, 46, 79, 132, 2, 1, 167, 255, 241, 177]
abbrev dktX3_copies_0 : List UInt8 := dkwX3_copies_0 ++ []
theorem dksX3_copies_0 : cX3_copies.data.toList.drop 0 = dktX3_copies_0 := by decide +kernel
theorem dX3_copies_0 : decode cX3_copies 0 = .ok (.iconst 0, 1) := dk_3 (dk_at dksX3_copies_0 0 rfl rfl)
theorem dX3_copies_1 : decode cX3_copies 1 = .ok (.istore_n 2, 1) := dk_61 (dk_at dksX3_copies_0 1 rfl rfl)
theorem dX3_copies_2 : decode cX3_copies 2 = .ok (.iload_n 2, 1) := dk_28 (dk_at dksX3_copies_0 2 rfl rfl)
theorem dX3_copies_3 : decode cX3_copies 3 = .ok (.aload_n 0, 1) := dk_42 (dk_at dksX3_copies_0 3 rfl rfl)
theorem dX3_copies_4 : decode cX3_copies 4 = .ok (.arraylength, 1) := dk_190 (dk_at dksX3_copies_0 4 rfl rfl)
theorem dX3_copies_5 : decode cX3_copies 5 = .ok (.if_icmp .ge 15, 3) := dk_162 0 15 (dk_at dksX3_copies_0 5 rfl rfl)
theorem dX3_copies_8 : decode cX3_copies 8 = .ok (.aload_n 1, 1) := dk_43 (dk_at dksX3_copies_0 8 rfl rfl)
theorem dX3_copies_9 : decode cX3_copies 9 = .ok (.iload_n 2, 1) := dk_28 (dk_at dksX3_copies_0 9 rfl rfl)
theorem dX3_copies_10 : decode cX3_copies 10 = .ok (.aload_n 0, 1) := dk_42 (dk_at dksX3_copies_0 10 rfl rfl)
theorem dX3_copies_11 : decode cX3_copies 11 = .ok (.iload_n 2, 1) := dk_28 (dk_at dksX3_copies_0 11 rfl rfl)
theorem dX3_copies_12 : decode cX3_copies 12 = .ok (.iaload, 1) := dk_46 (dk_at dksX3_copies_0 12 rfl rfl)
theorem dX3_copies_13 : decode cX3_copies 13 = .ok (.iastore, 1) := dk_79 (dk_at dksX3_copies_0 13 rfl rfl)
theorem dX3_copies_14 : decode cX3_copies 14 = .ok (.iinc 2 1, 3) := dk_132 2 1 (dk_at dksX3_copies_0 14 rfl rfl)
theorem dX3_copies_17 : decode cX3_copies 17 = .ok (.goto (-15), 3) := dk_167 255 241 (dk_at dksX3_copies_0 17 rfl rfl)
theorem dX3_copies_20 : decode cX3_copies 20 = .ok (.return_, 1) := dk_177 (dk_at dksX3_copies_0 20 rfl rfl)
abbrev cX3_rule : ByteArray := prog_17_method_49_code
def yX3_rule : MethodName := ⟨RX3, "rule", "()I"⟩
def dkwX3_rule_4 : List UInt8 := [180, 0, 214, 100, 167, 0, 9, 42, 180, 1, 118, 4, 100, 172]
abbrev dktX3_rule_4 : List UInt8 := dkwX3_rule_4 ++ []
def dkwX3_rule_3 : List UInt8 := [154, 0, 7, 4, 167, 0, 4, 3, 96, 181, 1, 118, 42, 180, 0, 214, 158, 0, 13, 16, 254, 42]
abbrev dktX3_rule_3 : List UInt8 := dkwX3_rule_3 ++ dktX3_rule_4
def dkwX3_rule_2 : List UInt8 := [3, 181, 0, 185, 42, 180, 0, 102, 42, 180, 0, 244, 27, 79, 42, 89, 180, 1, 118, 42, 180, 0, 214]
abbrev dktX3_rule_2 : List UInt8 := dkwX3_rule_2 ++ dktX3_rule_3
def dkwX3_rule_1 : List UInt8 := [60, 4, 61, 28, 153, 0, 19, 42, 27, 182, 1, 121, 132, 1, 1, 42, 182, 1, 95, 61, 167, 255, 239, 42]
abbrev dktX3_rule_1 : List UInt8 := dkwX3_rule_1 ++ dktX3_rule_2
def dkwX3_rule_0 : List UInt8 := [42, 180, 1, 118, 16, 6, 160, 0, 5, 2, 172, 42, 42, 180, 1, 118, 181, 0, 244, 42, 182, 1, 89, 3]
abbrev dktX3_rule_0 : List UInt8 := dkwX3_rule_0 ++ dktX3_rule_1
theorem dksX3_rule_0 : cX3_rule.data.toList.drop 0 = dktX3_rule_0 := by decide +kernel
theorem dksX3_rule_1 : cX3_rule.data.toList.drop 24 = dktX3_rule_1 := dk_seg dksX3_rule_0 24 rfl rfl
theorem dksX3_rule_2 : cX3_rule.data.toList.drop 48 = dktX3_rule_2 := dk_seg dksX3_rule_1 24 rfl rfl
theorem dksX3_rule_3 : cX3_rule.data.toList.drop 71 = dktX3_rule_3 := dk_seg dksX3_rule_2 23 rfl rfl
theorem dksX3_rule_4 : cX3_rule.data.toList.drop 93 = dktX3_rule_4 := dk_seg dksX3_rule_3 22 rfl rfl
theorem dX3_rule_0 : decode cX3_rule 0 = .ok (.aload_n 0, 1) := dk_42 (dk_at dksX3_rule_0 0 rfl rfl)
theorem dX3_rule_1 : decode cX3_rule 1 = .ok (.getfield 374, 3) := dk_180 1 118 (dk_at dksX3_rule_0 1 rfl rfl)
theorem dX3_rule_4 : decode cX3_rule 4 = .ok (.bipush 6, 2) := dk_16 6 (dk_at dksX3_rule_0 4 rfl rfl)
theorem dX3_rule_6 : decode cX3_rule 6 = .ok (.if_icmp .ne 5, 3) := dk_160 0 5 (dk_at dksX3_rule_0 6 rfl rfl)
theorem dX3_rule_9 : decode cX3_rule 9 = .ok (.iconst (-1), 1) := dk_2 (dk_at dksX3_rule_0 9 rfl rfl)
theorem dX3_rule_10 : decode cX3_rule 10 = .ok (.ireturn, 1) := dk_172 (dk_at dksX3_rule_0 10 rfl rfl)
theorem dX3_rule_11 : decode cX3_rule 11 = .ok (.aload_n 0, 1) := dk_42 (dk_at dksX3_rule_0 11 rfl rfl)
theorem dX3_rule_12 : decode cX3_rule 12 = .ok (.aload_n 0, 1) := dk_42 (dk_at dksX3_rule_0 12 rfl rfl)
theorem dX3_rule_13 : decode cX3_rule 13 = .ok (.getfield 374, 3) := dk_180 1 118 (dk_at dksX3_rule_0 13 rfl rfl)
theorem dX3_rule_16 : decode cX3_rule 16 = .ok (.putfield 244, 3) := dk_181 0 244 (dk_at dksX3_rule_0 16 rfl rfl)
theorem dX3_rule_19 : decode cX3_rule 19 = .ok (.aload_n 0, 1) := dk_42 (dk_at dksX3_rule_0 19 rfl rfl)
theorem dX3_rule_20 : decode cX3_rule 20 = .ok (.invokevirtual 345, 3) := dk_182 1 89 (dk_at dksX3_rule_0 20 rfl rfl)
theorem dX3_rule_23 : decode cX3_rule 23 = .ok (.iconst 0, 1) := dk_3 (dk_at dksX3_rule_0 23 rfl rfl)
theorem dX3_rule_24 : decode cX3_rule 24 = .ok (.istore_n 1, 1) := dk_60 (dk_at dksX3_rule_1 0 rfl rfl)
theorem dX3_rule_25 : decode cX3_rule 25 = .ok (.iconst 1, 1) := dk_4 (dk_at dksX3_rule_1 1 rfl rfl)
theorem dX3_rule_26 : decode cX3_rule 26 = .ok (.istore_n 2, 1) := dk_61 (dk_at dksX3_rule_1 2 rfl rfl)
theorem dX3_rule_27 : decode cX3_rule 27 = .ok (.iload_n 2, 1) := dk_28 (dk_at dksX3_rule_1 3 rfl rfl)
theorem dX3_rule_28 : decode cX3_rule 28 = .ok (.ifCond .eq 19, 3) := dk_153 0 19 (dk_at dksX3_rule_1 4 rfl rfl)
theorem dX3_rule_31 : decode cX3_rule 31 = .ok (.aload_n 0, 1) := dk_42 (dk_at dksX3_rule_1 7 rfl rfl)
theorem dX3_rule_32 : decode cX3_rule 32 = .ok (.iload_n 1, 1) := dk_27 (dk_at dksX3_rule_1 8 rfl rfl)
theorem dX3_rule_33 : decode cX3_rule 33 = .ok (.invokevirtual 377, 3) := dk_182 1 121 (dk_at dksX3_rule_1 9 rfl rfl)
theorem dX3_rule_36 : decode cX3_rule 36 = .ok (.iinc 1 1, 3) := dk_132 1 1 (dk_at dksX3_rule_1 12 rfl rfl)
theorem dX3_rule_39 : decode cX3_rule 39 = .ok (.aload_n 0, 1) := dk_42 (dk_at dksX3_rule_1 15 rfl rfl)
theorem dX3_rule_40 : decode cX3_rule 40 = .ok (.invokevirtual 351, 3) := dk_182 1 95 (dk_at dksX3_rule_1 16 rfl rfl)
theorem dX3_rule_43 : decode cX3_rule 43 = .ok (.istore_n 2, 1) := dk_61 (dk_at dksX3_rule_1 19 rfl rfl)
theorem dX3_rule_44 : decode cX3_rule 44 = .ok (.goto (-17), 3) := dk_167 255 239 (dk_at dksX3_rule_1 20 rfl rfl)
theorem dX3_rule_47 : decode cX3_rule 47 = .ok (.aload_n 0, 1) := dk_42 (dk_at dksX3_rule_1 23 rfl rfl)
theorem dX3_rule_48 : decode cX3_rule 48 = .ok (.iconst 0, 1) := dk_3 (dk_at dksX3_rule_2 0 rfl rfl)
theorem dX3_rule_49 : decode cX3_rule 49 = .ok (.putfield 185, 3) := dk_181 0 185 (dk_at dksX3_rule_2 1 rfl rfl)
theorem dX3_rule_52 : decode cX3_rule 52 = .ok (.aload_n 0, 1) := dk_42 (dk_at dksX3_rule_2 4 rfl rfl)
theorem dX3_rule_53 : decode cX3_rule 53 = .ok (.getfield 102, 3) := dk_180 0 102 (dk_at dksX3_rule_2 5 rfl rfl)
theorem dX3_rule_56 : decode cX3_rule 56 = .ok (.aload_n 0, 1) := dk_42 (dk_at dksX3_rule_2 8 rfl rfl)
theorem dX3_rule_57 : decode cX3_rule 57 = .ok (.getfield 244, 3) := dk_180 0 244 (dk_at dksX3_rule_2 9 rfl rfl)
theorem dX3_rule_60 : decode cX3_rule 60 = .ok (.iload_n 1, 1) := dk_27 (dk_at dksX3_rule_2 12 rfl rfl)
theorem dX3_rule_61 : decode cX3_rule 61 = .ok (.iastore, 1) := dk_79 (dk_at dksX3_rule_2 13 rfl rfl)
theorem dX3_rule_62 : decode cX3_rule 62 = .ok (.aload_n 0, 1) := dk_42 (dk_at dksX3_rule_2 14 rfl rfl)
theorem dX3_rule_63 : decode cX3_rule 63 = .ok (.dup, 1) := dk_89 (dk_at dksX3_rule_2 15 rfl rfl)
theorem dX3_rule_64 : decode cX3_rule 64 = .ok (.getfield 374, 3) := dk_180 1 118 (dk_at dksX3_rule_2 16 rfl rfl)
theorem dX3_rule_67 : decode cX3_rule 67 = .ok (.aload_n 0, 1) := dk_42 (dk_at dksX3_rule_2 19 rfl rfl)
theorem dX3_rule_68 : decode cX3_rule 68 = .ok (.getfield 214, 3) := dk_180 0 214 (dk_at dksX3_rule_2 20 rfl rfl)
theorem dX3_rule_71 : decode cX3_rule 71 = .ok (.ifCond .ne 7, 3) := dk_154 0 7 (dk_at dksX3_rule_3 0 rfl rfl)
theorem dX3_rule_74 : decode cX3_rule 74 = .ok (.iconst 1, 1) := dk_4 (dk_at dksX3_rule_3 3 rfl rfl)
theorem dX3_rule_75 : decode cX3_rule 75 = .ok (.goto 4, 3) := dk_167 0 4 (dk_at dksX3_rule_3 4 rfl rfl)
theorem dX3_rule_78 : decode cX3_rule 78 = .ok (.iconst 0, 1) := dk_3 (dk_at dksX3_rule_3 7 rfl rfl)
theorem dX3_rule_79 : decode cX3_rule 79 = .ok (.iadd, 1) := dk_96 (dk_at dksX3_rule_3 8 rfl rfl)
theorem dX3_rule_80 : decode cX3_rule 80 = .ok (.putfield 374, 3) := dk_181 1 118 (dk_at dksX3_rule_3 9 rfl rfl)
theorem dX3_rule_83 : decode cX3_rule 83 = .ok (.aload_n 0, 1) := dk_42 (dk_at dksX3_rule_3 12 rfl rfl)
theorem dX3_rule_84 : decode cX3_rule 84 = .ok (.getfield 214, 3) := dk_180 0 214 (dk_at dksX3_rule_3 13 rfl rfl)
theorem dX3_rule_87 : decode cX3_rule 87 = .ok (.ifCond .le 13, 3) := dk_158 0 13 (dk_at dksX3_rule_3 16 rfl rfl)
theorem dX3_rule_90 : decode cX3_rule 90 = .ok (.bipush (-2), 2) := dk_16 254 (dk_at dksX3_rule_3 19 rfl rfl)
theorem dX3_rule_92 : decode cX3_rule 92 = .ok (.aload_n 0, 1) := dk_42 (dk_at dksX3_rule_3 21 rfl rfl)
theorem dX3_rule_93 : decode cX3_rule 93 = .ok (.getfield 214, 3) := dk_180 0 214 (dk_at dksX3_rule_4 0 rfl rfl)
theorem dX3_rule_96 : decode cX3_rule 96 = .ok (.isub, 1) := dk_100 (dk_at dksX3_rule_4 3 rfl rfl)
theorem dX3_rule_97 : decode cX3_rule 97 = .ok (.goto 9, 3) := dk_167 0 9 (dk_at dksX3_rule_4 4 rfl rfl)
theorem dX3_rule_100 : decode cX3_rule 100 = .ok (.aload_n 0, 1) := dk_42 (dk_at dksX3_rule_4 7 rfl rfl)
theorem dX3_rule_101 : decode cX3_rule 101 = .ok (.getfield 374, 3) := dk_180 1 118 (dk_at dksX3_rule_4 8 rfl rfl)
theorem dX3_rule_104 : decode cX3_rule 104 = .ok (.iconst 1, 1) := dk_4 (dk_at dksX3_rule_4 11 rfl rfl)
theorem dX3_rule_105 : decode cX3_rule 105 = .ok (.isub, 1) := dk_100 (dk_at dksX3_rule_4 12 rfl rfl)
theorem dX3_rule_106 : decode cX3_rule 106 = .ok (.ireturn, 1) := dk_172 (dk_at dksX3_rule_4 13 rfl rfl)
abbrev cX3_ruleClause : ByteArray := prog_17_method_48_code
def yX3_ruleClause : MethodName := ⟨RX3, "ruleClause", "(I)V"⟩
def dkwX3_ruleClause_4 : List UInt8 := [182, 1, 112, 153, 0, 7, 42, 182, 1, 115, 42, 180, 0, 111, 29, 42, 180, 0, 247, 79, 177]
abbrev dktX3_ruleClause_4 : List UInt8 := dkwX3_ruleClause_4 ++ []
def dkwX3_ruleClause_3 : List UInt8 := [182, 1, 26, 42, 180, 0, 108, 29, 42, 180, 0, 247, 79, 42, 180, 0, 214, 154, 0, 17, 42, 19, 1, 110]
abbrev dktX3_ruleClause_3 : List UInt8 := dkwX3_ruleClause_3 ++ dktX3_ruleClause_4
def dkwX3_ruleClause_2 : List UInt8 := [181, 0, 217, 16, 12, 42, 180, 0, 244, 104, 27, 96, 62, 42, 180, 0, 105, 29, 42, 180, 0, 247, 79, 42]
abbrev dktX3_ruleClause_2 : List UInt8 := dkwX3_ruleClause_2 ++ dktX3_ruleClause_3
def dkwX3_ruleClause_1 : List UInt8 := [182, 0, 253, 177, 27, 16, 12, 160, 0, 10, 42, 7, 28, 182, 0, 253, 177, 42, 89, 180, 0, 217, 8, 96]
abbrev dktX3_ruleClause_1 : List UInt8 := dkwX3_ruleClause_1 ++ dktX3_ruleClause_2
def dkwX3_ruleClause_0 : List UInt8 := [42, 182, 0, 237, 42, 180, 0, 217, 61, 42, 19, 1, 108, 182, 0, 240, 154, 0, 10, 42, 3, 28]
abbrev dktX3_ruleClause_0 : List UInt8 := dkwX3_ruleClause_0 ++ dktX3_ruleClause_1
theorem dksX3_ruleClause_0 : cX3_ruleClause.data.toList.drop 0 = dktX3_ruleClause_0 := by decide +kernel
theorem dksX3_ruleClause_1 : cX3_ruleClause.data.toList.drop 22 = dktX3_ruleClause_1 := dk_seg dksX3_ruleClause_0 22 rfl rfl
theorem dksX3_ruleClause_2 : cX3_ruleClause.data.toList.drop 46 = dktX3_ruleClause_2 := dk_seg dksX3_ruleClause_1 24 rfl rfl
theorem dksX3_ruleClause_3 : cX3_ruleClause.data.toList.drop 70 = dktX3_ruleClause_3 := dk_seg dksX3_ruleClause_2 24 rfl rfl
theorem dksX3_ruleClause_4 : cX3_ruleClause.data.toList.drop 94 = dktX3_ruleClause_4 := dk_seg dksX3_ruleClause_3 24 rfl rfl
theorem dX3_ruleClause_0 : decode cX3_ruleClause 0 = .ok (.aload_n 0, 1) := dk_42 (dk_at dksX3_ruleClause_0 0 rfl rfl)
theorem dX3_ruleClause_1 : decode cX3_ruleClause 1 = .ok (.invokevirtual 237, 3) := dk_182 0 237 (dk_at dksX3_ruleClause_0 1 rfl rfl)
theorem dX3_ruleClause_4 : decode cX3_ruleClause 4 = .ok (.aload_n 0, 1) := dk_42 (dk_at dksX3_ruleClause_0 4 rfl rfl)
theorem dX3_ruleClause_5 : decode cX3_ruleClause 5 = .ok (.getfield 217, 3) := dk_180 0 217 (dk_at dksX3_ruleClause_0 5 rfl rfl)
theorem dX3_ruleClause_8 : decode cX3_ruleClause 8 = .ok (.istore_n 2, 1) := dk_61 (dk_at dksX3_ruleClause_0 8 rfl rfl)
theorem dX3_ruleClause_9 : decode cX3_ruleClause 9 = .ok (.aload_n 0, 1) := dk_42 (dk_at dksX3_ruleClause_0 9 rfl rfl)
theorem dX3_ruleClause_10 : decode cX3_ruleClause 10 = .ok (.ldc_w 364, 3) := dk_19 1 108 (dk_at dksX3_ruleClause_0 10 rfl rfl)
theorem dX3_ruleClause_13 : decode cX3_ruleClause 13 = .ok (.invokevirtual 240, 3) := dk_182 0 240 (dk_at dksX3_ruleClause_0 13 rfl rfl)
theorem dX3_ruleClause_16 : decode cX3_ruleClause 16 = .ok (.ifCond .ne 10, 3) := dk_154 0 10 (dk_at dksX3_ruleClause_0 16 rfl rfl)
theorem dX3_ruleClause_19 : decode cX3_ruleClause 19 = .ok (.aload_n 0, 1) := dk_42 (dk_at dksX3_ruleClause_0 19 rfl rfl)
theorem dX3_ruleClause_20 : decode cX3_ruleClause 20 = .ok (.iconst 0, 1) := dk_3 (dk_at dksX3_ruleClause_0 20 rfl rfl)
theorem dX3_ruleClause_21 : decode cX3_ruleClause 21 = .ok (.iload_n 2, 1) := dk_28 (dk_at dksX3_ruleClause_0 21 rfl rfl)
theorem dX3_ruleClause_22 : decode cX3_ruleClause 22 = .ok (.invokevirtual 253, 3) := dk_182 0 253 (dk_at dksX3_ruleClause_1 0 rfl rfl)
theorem dX3_ruleClause_25 : decode cX3_ruleClause 25 = .ok (.return_, 1) := dk_177 (dk_at dksX3_ruleClause_1 3 rfl rfl)
theorem dX3_ruleClause_26 : decode cX3_ruleClause 26 = .ok (.iload_n 1, 1) := dk_27 (dk_at dksX3_ruleClause_1 4 rfl rfl)
theorem dX3_ruleClause_27 : decode cX3_ruleClause 27 = .ok (.bipush 12, 2) := dk_16 12 (dk_at dksX3_ruleClause_1 5 rfl rfl)
theorem dX3_ruleClause_29 : decode cX3_ruleClause 29 = .ok (.if_icmp .ne 10, 3) := dk_160 0 10 (dk_at dksX3_ruleClause_1 7 rfl rfl)
theorem dX3_ruleClause_32 : decode cX3_ruleClause 32 = .ok (.aload_n 0, 1) := dk_42 (dk_at dksX3_ruleClause_1 10 rfl rfl)
theorem dX3_ruleClause_33 : decode cX3_ruleClause 33 = .ok (.iconst 4, 1) := dk_7 (dk_at dksX3_ruleClause_1 11 rfl rfl)
theorem dX3_ruleClause_34 : decode cX3_ruleClause 34 = .ok (.iload_n 2, 1) := dk_28 (dk_at dksX3_ruleClause_1 12 rfl rfl)
theorem dX3_ruleClause_35 : decode cX3_ruleClause 35 = .ok (.invokevirtual 253, 3) := dk_182 0 253 (dk_at dksX3_ruleClause_1 13 rfl rfl)
theorem dX3_ruleClause_38 : decode cX3_ruleClause 38 = .ok (.return_, 1) := dk_177 (dk_at dksX3_ruleClause_1 16 rfl rfl)
theorem dX3_ruleClause_39 : decode cX3_ruleClause 39 = .ok (.aload_n 0, 1) := dk_42 (dk_at dksX3_ruleClause_1 17 rfl rfl)
theorem dX3_ruleClause_40 : decode cX3_ruleClause 40 = .ok (.dup, 1) := dk_89 (dk_at dksX3_ruleClause_1 18 rfl rfl)
theorem dX3_ruleClause_41 : decode cX3_ruleClause 41 = .ok (.getfield 217, 3) := dk_180 0 217 (dk_at dksX3_ruleClause_1 19 rfl rfl)
theorem dX3_ruleClause_44 : decode cX3_ruleClause 44 = .ok (.iconst 5, 1) := dk_8 (dk_at dksX3_ruleClause_1 22 rfl rfl)
theorem dX3_ruleClause_45 : decode cX3_ruleClause 45 = .ok (.iadd, 1) := dk_96 (dk_at dksX3_ruleClause_1 23 rfl rfl)
theorem dX3_ruleClause_46 : decode cX3_ruleClause 46 = .ok (.putfield 217, 3) := dk_181 0 217 (dk_at dksX3_ruleClause_2 0 rfl rfl)
theorem dX3_ruleClause_49 : decode cX3_ruleClause 49 = .ok (.bipush 12, 2) := dk_16 12 (dk_at dksX3_ruleClause_2 3 rfl rfl)
theorem dX3_ruleClause_51 : decode cX3_ruleClause 51 = .ok (.aload_n 0, 1) := dk_42 (dk_at dksX3_ruleClause_2 5 rfl rfl)
theorem dX3_ruleClause_52 : decode cX3_ruleClause 52 = .ok (.getfield 244, 3) := dk_180 0 244 (dk_at dksX3_ruleClause_2 6 rfl rfl)
theorem dX3_ruleClause_55 : decode cX3_ruleClause 55 = .ok (.imul, 1) := dk_104 (dk_at dksX3_ruleClause_2 9 rfl rfl)
theorem dX3_ruleClause_56 : decode cX3_ruleClause 56 = .ok (.iload_n 1, 1) := dk_27 (dk_at dksX3_ruleClause_2 10 rfl rfl)
theorem dX3_ruleClause_57 : decode cX3_ruleClause 57 = .ok (.iadd, 1) := dk_96 (dk_at dksX3_ruleClause_2 11 rfl rfl)
theorem dX3_ruleClause_58 : decode cX3_ruleClause 58 = .ok (.istore_n 3, 1) := dk_62 (dk_at dksX3_ruleClause_2 12 rfl rfl)
theorem dX3_ruleClause_59 : decode cX3_ruleClause 59 = .ok (.aload_n 0, 1) := dk_42 (dk_at dksX3_ruleClause_2 13 rfl rfl)
theorem dX3_ruleClause_60 : decode cX3_ruleClause 60 = .ok (.getfield 105, 3) := dk_180 0 105 (dk_at dksX3_ruleClause_2 14 rfl rfl)
theorem dX3_ruleClause_63 : decode cX3_ruleClause 63 = .ok (.iload_n 3, 1) := dk_29 (dk_at dksX3_ruleClause_2 17 rfl rfl)
theorem dX3_ruleClause_64 : decode cX3_ruleClause 64 = .ok (.aload_n 0, 1) := dk_42 (dk_at dksX3_ruleClause_2 18 rfl rfl)
theorem dX3_ruleClause_65 : decode cX3_ruleClause 65 = .ok (.getfield 247, 3) := dk_180 0 247 (dk_at dksX3_ruleClause_2 19 rfl rfl)
theorem dX3_ruleClause_68 : decode cX3_ruleClause 68 = .ok (.iastore, 1) := dk_79 (dk_at dksX3_ruleClause_2 22 rfl rfl)
theorem dX3_ruleClause_69 : decode cX3_ruleClause 69 = .ok (.aload_n 0, 1) := dk_42 (dk_at dksX3_ruleClause_2 23 rfl rfl)
theorem dX3_ruleClause_70 : decode cX3_ruleClause 70 = .ok (.invokevirtual 282, 3) := dk_182 1 26 (dk_at dksX3_ruleClause_3 0 rfl rfl)
theorem dX3_ruleClause_73 : decode cX3_ruleClause 73 = .ok (.aload_n 0, 1) := dk_42 (dk_at dksX3_ruleClause_3 3 rfl rfl)
theorem dX3_ruleClause_74 : decode cX3_ruleClause 74 = .ok (.getfield 108, 3) := dk_180 0 108 (dk_at dksX3_ruleClause_3 4 rfl rfl)
theorem dX3_ruleClause_77 : decode cX3_ruleClause 77 = .ok (.iload_n 3, 1) := dk_29 (dk_at dksX3_ruleClause_3 7 rfl rfl)
theorem dX3_ruleClause_78 : decode cX3_ruleClause 78 = .ok (.aload_n 0, 1) := dk_42 (dk_at dksX3_ruleClause_3 8 rfl rfl)
theorem dX3_ruleClause_79 : decode cX3_ruleClause 79 = .ok (.getfield 247, 3) := dk_180 0 247 (dk_at dksX3_ruleClause_3 9 rfl rfl)
theorem dX3_ruleClause_82 : decode cX3_ruleClause 82 = .ok (.iastore, 1) := dk_79 (dk_at dksX3_ruleClause_3 12 rfl rfl)
theorem dX3_ruleClause_83 : decode cX3_ruleClause 83 = .ok (.aload_n 0, 1) := dk_42 (dk_at dksX3_ruleClause_3 13 rfl rfl)
theorem dX3_ruleClause_84 : decode cX3_ruleClause 84 = .ok (.getfield 214, 3) := dk_180 0 214 (dk_at dksX3_ruleClause_3 14 rfl rfl)
theorem dX3_ruleClause_87 : decode cX3_ruleClause 87 = .ok (.ifCond .ne 17, 3) := dk_154 0 17 (dk_at dksX3_ruleClause_3 17 rfl rfl)
theorem dX3_ruleClause_90 : decode cX3_ruleClause 90 = .ok (.aload_n 0, 1) := dk_42 (dk_at dksX3_ruleClause_3 20 rfl rfl)
theorem dX3_ruleClause_91 : decode cX3_ruleClause 91 = .ok (.ldc_w 366, 3) := dk_19 1 110 (dk_at dksX3_ruleClause_3 21 rfl rfl)
theorem dX3_ruleClause_94 : decode cX3_ruleClause 94 = .ok (.invokevirtual 368, 3) := dk_182 1 112 (dk_at dksX3_ruleClause_4 0 rfl rfl)
theorem dX3_ruleClause_97 : decode cX3_ruleClause 97 = .ok (.ifCond .eq 7, 3) := dk_153 0 7 (dk_at dksX3_ruleClause_4 3 rfl rfl)
theorem dX3_ruleClause_100 : decode cX3_ruleClause 100 = .ok (.aload_n 0, 1) := dk_42 (dk_at dksX3_ruleClause_4 6 rfl rfl)
theorem dX3_ruleClause_101 : decode cX3_ruleClause 101 = .ok (.invokevirtual 371, 3) := dk_182 1 115 (dk_at dksX3_ruleClause_4 7 rfl rfl)
theorem dX3_ruleClause_104 : decode cX3_ruleClause 104 = .ok (.aload_n 0, 1) := dk_42 (dk_at dksX3_ruleClause_4 10 rfl rfl)
theorem dX3_ruleClause_105 : decode cX3_ruleClause 105 = .ok (.getfield 111, 3) := dk_180 0 111 (dk_at dksX3_ruleClause_4 11 rfl rfl)
theorem dX3_ruleClause_108 : decode cX3_ruleClause 108 = .ok (.iload_n 3, 1) := dk_29 (dk_at dksX3_ruleClause_4 14 rfl rfl)
theorem dX3_ruleClause_109 : decode cX3_ruleClause 109 = .ok (.aload_n 0, 1) := dk_42 (dk_at dksX3_ruleClause_4 15 rfl rfl)
theorem dX3_ruleClause_110 : decode cX3_ruleClause 110 = .ok (.getfield 247, 3) := dk_180 0 247 (dk_at dksX3_ruleClause_4 16 rfl rfl)
theorem dX3_ruleClause_113 : decode cX3_ruleClause 113 = .ok (.iastore, 1) := dk_79 (dk_at dksX3_ruleClause_4 19 rfl rfl)
theorem dX3_ruleClause_114 : decode cX3_ruleClause 114 = .ok (.return_, 1) := dk_177 (dk_at dksX3_ruleClause_4 20 rfl rfl)
abbrev cX3_sum : ByteArray := prog_17_method_27_code
def yX3_sum : MethodName := ⟨RX3, "sum", "()V"⟩
def dkwX3_sum_2 : List UInt8 := [180, 0, 217, 4, 96, 181, 0, 217, 42, 182, 1, 23, 42, 27, 3, 182, 1, 13, 167, 255, 196, 177]
abbrev dktX3_sum_2 : List UInt8 := dkwX3_sum_2 ++ []
def dkwX3_sum_1 : List UInt8 := [16, 45, 160, 0, 41, 42, 182, 0, 220, 16, 43, 160, 0, 7, 5, 167, 0, 4, 6, 60, 42, 89]
abbrev dktX3_sum_1 : List UInt8 := dkwX3_sum_1 ++ dktX3_sum_2
def dkwX3_sum_0 : List UInt8 := [42, 182, 1, 23, 42, 180, 0, 214, 154, 0, 59, 42, 182, 0, 220, 16, 43, 159, 0, 12, 42, 182, 0, 220]
abbrev dktX3_sum_0 : List UInt8 := dkwX3_sum_0 ++ dktX3_sum_1
theorem dksX3_sum_0 : cX3_sum.data.toList.drop 0 = dktX3_sum_0 := by decide +kernel
theorem dksX3_sum_1 : cX3_sum.data.toList.drop 24 = dktX3_sum_1 := dk_seg dksX3_sum_0 24 rfl rfl
theorem dksX3_sum_2 : cX3_sum.data.toList.drop 46 = dktX3_sum_2 := dk_seg dksX3_sum_1 22 rfl rfl
theorem dX3_sum_0 : decode cX3_sum 0 = .ok (.aload_n 0, 1) := dk_42 (dk_at dksX3_sum_0 0 rfl rfl)
theorem dX3_sum_1 : decode cX3_sum 1 = .ok (.invokevirtual 279, 3) := dk_182 1 23 (dk_at dksX3_sum_0 1 rfl rfl)
theorem dX3_sum_4 : decode cX3_sum 4 = .ok (.aload_n 0, 1) := dk_42 (dk_at dksX3_sum_0 4 rfl rfl)
theorem dX3_sum_5 : decode cX3_sum 5 = .ok (.getfield 214, 3) := dk_180 0 214 (dk_at dksX3_sum_0 5 rfl rfl)
theorem dX3_sum_8 : decode cX3_sum 8 = .ok (.ifCond .ne 59, 3) := dk_154 0 59 (dk_at dksX3_sum_0 8 rfl rfl)
theorem dX3_sum_11 : decode cX3_sum 11 = .ok (.aload_n 0, 1) := dk_42 (dk_at dksX3_sum_0 11 rfl rfl)
theorem dX3_sum_12 : decode cX3_sum 12 = .ok (.invokevirtual 220, 3) := dk_182 0 220 (dk_at dksX3_sum_0 12 rfl rfl)
theorem dX3_sum_15 : decode cX3_sum 15 = .ok (.bipush 43, 2) := dk_16 43 (dk_at dksX3_sum_0 15 rfl rfl)
theorem dX3_sum_17 : decode cX3_sum 17 = .ok (.if_icmp .eq 12, 3) := dk_159 0 12 (dk_at dksX3_sum_0 17 rfl rfl)
theorem dX3_sum_20 : decode cX3_sum 20 = .ok (.aload_n 0, 1) := dk_42 (dk_at dksX3_sum_0 20 rfl rfl)
theorem dX3_sum_21 : decode cX3_sum 21 = .ok (.invokevirtual 220, 3) := dk_182 0 220 (dk_at dksX3_sum_0 21 rfl rfl)
theorem dX3_sum_24 : decode cX3_sum 24 = .ok (.bipush 45, 2) := dk_16 45 (dk_at dksX3_sum_1 0 rfl rfl)
theorem dX3_sum_26 : decode cX3_sum 26 = .ok (.if_icmp .ne 41, 3) := dk_160 0 41 (dk_at dksX3_sum_1 2 rfl rfl)
theorem dX3_sum_29 : decode cX3_sum 29 = .ok (.aload_n 0, 1) := dk_42 (dk_at dksX3_sum_1 5 rfl rfl)
theorem dX3_sum_30 : decode cX3_sum 30 = .ok (.invokevirtual 220, 3) := dk_182 0 220 (dk_at dksX3_sum_1 6 rfl rfl)
theorem dX3_sum_33 : decode cX3_sum 33 = .ok (.bipush 43, 2) := dk_16 43 (dk_at dksX3_sum_1 9 rfl rfl)
theorem dX3_sum_35 : decode cX3_sum 35 = .ok (.if_icmp .ne 7, 3) := dk_160 0 7 (dk_at dksX3_sum_1 11 rfl rfl)
theorem dX3_sum_38 : decode cX3_sum 38 = .ok (.iconst 2, 1) := dk_5 (dk_at dksX3_sum_1 14 rfl rfl)
theorem dX3_sum_39 : decode cX3_sum 39 = .ok (.goto 4, 3) := dk_167 0 4 (dk_at dksX3_sum_1 15 rfl rfl)
theorem dX3_sum_42 : decode cX3_sum 42 = .ok (.iconst 3, 1) := dk_6 (dk_at dksX3_sum_1 18 rfl rfl)
theorem dX3_sum_43 : decode cX3_sum 43 = .ok (.istore_n 1, 1) := dk_60 (dk_at dksX3_sum_1 19 rfl rfl)
theorem dX3_sum_44 : decode cX3_sum 44 = .ok (.aload_n 0, 1) := dk_42 (dk_at dksX3_sum_1 20 rfl rfl)
theorem dX3_sum_45 : decode cX3_sum 45 = .ok (.dup, 1) := dk_89 (dk_at dksX3_sum_1 21 rfl rfl)
theorem dX3_sum_46 : decode cX3_sum 46 = .ok (.getfield 217, 3) := dk_180 0 217 (dk_at dksX3_sum_2 0 rfl rfl)
theorem dX3_sum_49 : decode cX3_sum 49 = .ok (.iconst 1, 1) := dk_4 (dk_at dksX3_sum_2 3 rfl rfl)
theorem dX3_sum_50 : decode cX3_sum 50 = .ok (.iadd, 1) := dk_96 (dk_at dksX3_sum_2 4 rfl rfl)
theorem dX3_sum_51 : decode cX3_sum 51 = .ok (.putfield 217, 3) := dk_181 0 217 (dk_at dksX3_sum_2 5 rfl rfl)
theorem dX3_sum_54 : decode cX3_sum 54 = .ok (.aload_n 0, 1) := dk_42 (dk_at dksX3_sum_2 8 rfl rfl)
theorem dX3_sum_55 : decode cX3_sum 55 = .ok (.invokevirtual 279, 3) := dk_182 1 23 (dk_at dksX3_sum_2 9 rfl rfl)
theorem dX3_sum_58 : decode cX3_sum 58 = .ok (.aload_n 0, 1) := dk_42 (dk_at dksX3_sum_2 12 rfl rfl)
theorem dX3_sum_59 : decode cX3_sum 59 = .ok (.iload_n 1, 1) := dk_27 (dk_at dksX3_sum_2 13 rfl rfl)
theorem dX3_sum_60 : decode cX3_sum 60 = .ok (.iconst 0, 1) := dk_3 (dk_at dksX3_sum_2 14 rfl rfl)
theorem dX3_sum_61 : decode cX3_sum 61 = .ok (.invokevirtual 269, 3) := dk_182 1 13 (dk_at dksX3_sum_2 15 rfl rfl)
theorem dX3_sum_64 : decode cX3_sum 64 = .ok (.goto (-60), 3) := dk_167 255 196 (dk_at dksX3_sum_2 18 rfl rfl)
theorem dX3_sum_67 : decode cX3_sum 67 = .ok (.return_, 1) := dk_177 (dk_at dksX3_sum_2 21 rfl rfl)
abbrev cX3_term : ByteArray := prog_17_method_26_code
def yX3_term : MethodName := ⟨RX3, "term", "()V"⟩
def dkwX3_term_4 : List UInt8 := [182, 0, 237, 167, 255, 167, 177]
abbrev dktX3_term_4 : List UInt8 := dkwX3_term_4 ++ []
def dkwX3_term_3 : List UInt8 := [60, 42, 89, 180, 0, 217, 4, 96, 181, 0, 217, 42, 182, 1, 20, 42, 27, 3, 182, 1, 13, 42]
abbrev dktX3_term_3 : List UInt8 := dkwX3_term_3 ++ dktX3_term_4
def dkwX3_term_2 : List UInt8 := [160, 0, 8, 16, 13, 167, 0, 19, 42, 182, 0, 220, 16, 47, 160, 0, 8, 16, 14, 167, 0, 5, 16, 15]
abbrev dktX3_term_2 : List UInt8 := dkwX3_term_2 ++ dktX3_term_3
def dkwX3_term_1 : List UInt8 := [42, 182, 0, 220, 16, 47, 159, 0, 12, 42, 182, 0, 220, 16, 37, 160, 0, 61, 42, 182, 0, 220, 16, 42]
abbrev dktX3_term_1 : List UInt8 := dkwX3_term_1 ++ dktX3_term_2
def dkwX3_term_0 : List UInt8 := [42, 182, 1, 20, 42, 182, 0, 237, 42, 180, 0, 214, 154, 0, 88, 42, 182, 0, 220, 16, 42, 159, 0, 21]
abbrev dktX3_term_0 : List UInt8 := dkwX3_term_0 ++ dktX3_term_1
theorem dksX3_term_0 : cX3_term.data.toList.drop 0 = dktX3_term_0 := by decide +kernel
theorem dksX3_term_1 : cX3_term.data.toList.drop 24 = dktX3_term_1 := dk_seg dksX3_term_0 24 rfl rfl
theorem dksX3_term_2 : cX3_term.data.toList.drop 48 = dktX3_term_2 := dk_seg dksX3_term_1 24 rfl rfl
theorem dksX3_term_3 : cX3_term.data.toList.drop 72 = dktX3_term_3 := dk_seg dksX3_term_2 24 rfl rfl
theorem dksX3_term_4 : cX3_term.data.toList.drop 94 = dktX3_term_4 := dk_seg dksX3_term_3 22 rfl rfl
theorem dX3_term_0 : decode cX3_term 0 = .ok (.aload_n 0, 1) := dk_42 (dk_at dksX3_term_0 0 rfl rfl)
theorem dX3_term_1 : decode cX3_term 1 = .ok (.invokevirtual 276, 3) := dk_182 1 20 (dk_at dksX3_term_0 1 rfl rfl)
theorem dX3_term_4 : decode cX3_term 4 = .ok (.aload_n 0, 1) := dk_42 (dk_at dksX3_term_0 4 rfl rfl)
theorem dX3_term_5 : decode cX3_term 5 = .ok (.invokevirtual 237, 3) := dk_182 0 237 (dk_at dksX3_term_0 5 rfl rfl)
theorem dX3_term_8 : decode cX3_term 8 = .ok (.aload_n 0, 1) := dk_42 (dk_at dksX3_term_0 8 rfl rfl)
theorem dX3_term_9 : decode cX3_term 9 = .ok (.getfield 214, 3) := dk_180 0 214 (dk_at dksX3_term_0 9 rfl rfl)
theorem dX3_term_12 : decode cX3_term 12 = .ok (.ifCond .ne 88, 3) := dk_154 0 88 (dk_at dksX3_term_0 12 rfl rfl)
theorem dX3_term_15 : decode cX3_term 15 = .ok (.aload_n 0, 1) := dk_42 (dk_at dksX3_term_0 15 rfl rfl)
theorem dX3_term_16 : decode cX3_term 16 = .ok (.invokevirtual 220, 3) := dk_182 0 220 (dk_at dksX3_term_0 16 rfl rfl)
theorem dX3_term_19 : decode cX3_term 19 = .ok (.bipush 42, 2) := dk_16 42 (dk_at dksX3_term_0 19 rfl rfl)
theorem dX3_term_21 : decode cX3_term 21 = .ok (.if_icmp .eq 21, 3) := dk_159 0 21 (dk_at dksX3_term_0 21 rfl rfl)
theorem dX3_term_24 : decode cX3_term 24 = .ok (.aload_n 0, 1) := dk_42 (dk_at dksX3_term_1 0 rfl rfl)
theorem dX3_term_25 : decode cX3_term 25 = .ok (.invokevirtual 220, 3) := dk_182 0 220 (dk_at dksX3_term_1 1 rfl rfl)
theorem dX3_term_28 : decode cX3_term 28 = .ok (.bipush 47, 2) := dk_16 47 (dk_at dksX3_term_1 4 rfl rfl)
theorem dX3_term_30 : decode cX3_term 30 = .ok (.if_icmp .eq 12, 3) := dk_159 0 12 (dk_at dksX3_term_1 6 rfl rfl)
theorem dX3_term_33 : decode cX3_term 33 = .ok (.aload_n 0, 1) := dk_42 (dk_at dksX3_term_1 9 rfl rfl)
theorem dX3_term_34 : decode cX3_term 34 = .ok (.invokevirtual 220, 3) := dk_182 0 220 (dk_at dksX3_term_1 10 rfl rfl)
theorem dX3_term_37 : decode cX3_term 37 = .ok (.bipush 37, 2) := dk_16 37 (dk_at dksX3_term_1 13 rfl rfl)
theorem dX3_term_39 : decode cX3_term 39 = .ok (.if_icmp .ne 61, 3) := dk_160 0 61 (dk_at dksX3_term_1 15 rfl rfl)
theorem dX3_term_42 : decode cX3_term 42 = .ok (.aload_n 0, 1) := dk_42 (dk_at dksX3_term_1 18 rfl rfl)
theorem dX3_term_43 : decode cX3_term 43 = .ok (.invokevirtual 220, 3) := dk_182 0 220 (dk_at dksX3_term_1 19 rfl rfl)
theorem dX3_term_46 : decode cX3_term 46 = .ok (.bipush 42, 2) := dk_16 42 (dk_at dksX3_term_1 22 rfl rfl)
theorem dX3_term_48 : decode cX3_term 48 = .ok (.if_icmp .ne 8, 3) := dk_160 0 8 (dk_at dksX3_term_2 0 rfl rfl)
theorem dX3_term_51 : decode cX3_term 51 = .ok (.bipush 13, 2) := dk_16 13 (dk_at dksX3_term_2 3 rfl rfl)
theorem dX3_term_53 : decode cX3_term 53 = .ok (.goto 19, 3) := dk_167 0 19 (dk_at dksX3_term_2 5 rfl rfl)
theorem dX3_term_56 : decode cX3_term 56 = .ok (.aload_n 0, 1) := dk_42 (dk_at dksX3_term_2 8 rfl rfl)
theorem dX3_term_57 : decode cX3_term 57 = .ok (.invokevirtual 220, 3) := dk_182 0 220 (dk_at dksX3_term_2 9 rfl rfl)
theorem dX3_term_60 : decode cX3_term 60 = .ok (.bipush 47, 2) := dk_16 47 (dk_at dksX3_term_2 12 rfl rfl)
theorem dX3_term_62 : decode cX3_term 62 = .ok (.if_icmp .ne 8, 3) := dk_160 0 8 (dk_at dksX3_term_2 14 rfl rfl)
theorem dX3_term_65 : decode cX3_term 65 = .ok (.bipush 14, 2) := dk_16 14 (dk_at dksX3_term_2 17 rfl rfl)
theorem dX3_term_67 : decode cX3_term 67 = .ok (.goto 5, 3) := dk_167 0 5 (dk_at dksX3_term_2 19 rfl rfl)
theorem dX3_term_70 : decode cX3_term 70 = .ok (.bipush 15, 2) := dk_16 15 (dk_at dksX3_term_2 22 rfl rfl)
theorem dX3_term_72 : decode cX3_term 72 = .ok (.istore_n 1, 1) := dk_60 (dk_at dksX3_term_3 0 rfl rfl)
theorem dX3_term_73 : decode cX3_term 73 = .ok (.aload_n 0, 1) := dk_42 (dk_at dksX3_term_3 1 rfl rfl)
theorem dX3_term_74 : decode cX3_term 74 = .ok (.dup, 1) := dk_89 (dk_at dksX3_term_3 2 rfl rfl)
theorem dX3_term_75 : decode cX3_term 75 = .ok (.getfield 217, 3) := dk_180 0 217 (dk_at dksX3_term_3 3 rfl rfl)
theorem dX3_term_78 : decode cX3_term 78 = .ok (.iconst 1, 1) := dk_4 (dk_at dksX3_term_3 6 rfl rfl)
theorem dX3_term_79 : decode cX3_term 79 = .ok (.iadd, 1) := dk_96 (dk_at dksX3_term_3 7 rfl rfl)
theorem dX3_term_80 : decode cX3_term 80 = .ok (.putfield 217, 3) := dk_181 0 217 (dk_at dksX3_term_3 8 rfl rfl)
theorem dX3_term_83 : decode cX3_term 83 = .ok (.aload_n 0, 1) := dk_42 (dk_at dksX3_term_3 11 rfl rfl)
theorem dX3_term_84 : decode cX3_term 84 = .ok (.invokevirtual 276, 3) := dk_182 1 20 (dk_at dksX3_term_3 12 rfl rfl)
theorem dX3_term_87 : decode cX3_term 87 = .ok (.aload_n 0, 1) := dk_42 (dk_at dksX3_term_3 15 rfl rfl)
theorem dX3_term_88 : decode cX3_term 88 = .ok (.iload_n 1, 1) := dk_27 (dk_at dksX3_term_3 16 rfl rfl)
theorem dX3_term_89 : decode cX3_term 89 = .ok (.iconst 0, 1) := dk_3 (dk_at dksX3_term_3 17 rfl rfl)
theorem dX3_term_90 : decode cX3_term 90 = .ok (.invokevirtual 269, 3) := dk_182 1 13 (dk_at dksX3_term_3 18 rfl rfl)
theorem dX3_term_93 : decode cX3_term 93 = .ok (.aload_n 0, 1) := dk_42 (dk_at dksX3_term_3 21 rfl rfl)
theorem dX3_term_94 : decode cX3_term 94 = .ok (.invokevirtual 237, 3) := dk_182 0 237 (dk_at dksX3_term_4 0 rfl rfl)
theorem dX3_term_97 : decode cX3_term 97 = .ok (.goto (-89), 3) := dk_167 255 167 (dk_at dksX3_term_4 3 rfl rfl)
theorem dX3_term_100 : decode cX3_term 100 = .ok (.return_, 1) := dk_177 (dk_at dksX3_term_4 6 rfl rfl)
abbrev cX3_value : ByteArray := prog_17_method_25_code
def yX3_value : MethodName := ⟨RX3, "value", "()V"⟩
def dkwX3_value_4 : List UInt8 := [181, 0, 217, 42, 4, 28, 182, 1, 13, 177]
abbrev dktX3_value_4 : List UInt8 := dkwX3_value_4 ++ []
def dkwX3_value_3 : List UInt8 := [3, 27, 182, 0, 253, 177, 42, 27, 182, 1, 10, 42, 89, 180, 0, 217, 28, 184, 1, 16, 182, 0, 228, 96]
abbrev dktX3_value_3 : List UInt8 := dkwX3_value_3 ++ dktX3_value_4
def dkwX3_value_2 : List UInt8 := [184, 1, 16, 182, 0, 240, 154, 0, 9, 132, 2, 1, 167, 255, 234, 28, 42, 180, 0, 88, 160, 0, 10, 42]
abbrev dktX3_value_2 : List UInt8 := dkwX3_value_2 ++ dktX3_value_3
def dkwX3_value_1 : List UInt8 := [42, 27, 182, 1, 10, 42, 3, 28, 182, 1, 13, 177, 3, 61, 28, 42, 180, 0, 88, 162, 0, 20, 42, 28]
abbrev dktX3_value_1 : List UInt8 := dkwX3_value_1 ++ dktX3_value_2
def dkwX3_value_0 : List UInt8 := [42, 182, 0, 237, 42, 180, 0, 217, 60, 42, 182, 1, 1, 153, 0, 23, 42, 19, 1, 5, 182, 1, 6, 61]
abbrev dktX3_value_0 : List UInt8 := dkwX3_value_0 ++ dktX3_value_1
theorem dksX3_value_0 : cX3_value.data.toList.drop 0 = dktX3_value_0 := by decide +kernel
theorem dksX3_value_1 : cX3_value.data.toList.drop 24 = dktX3_value_1 := dk_seg dksX3_value_0 24 rfl rfl
theorem dksX3_value_2 : cX3_value.data.toList.drop 48 = dktX3_value_2 := dk_seg dksX3_value_1 24 rfl rfl
theorem dksX3_value_3 : cX3_value.data.toList.drop 72 = dktX3_value_3 := dk_seg dksX3_value_2 24 rfl rfl
theorem dksX3_value_4 : cX3_value.data.toList.drop 96 = dktX3_value_4 := dk_seg dksX3_value_3 24 rfl rfl
theorem dX3_value_0 : decode cX3_value 0 = .ok (.aload_n 0, 1) := dk_42 (dk_at dksX3_value_0 0 rfl rfl)
theorem dX3_value_1 : decode cX3_value 1 = .ok (.invokevirtual 237, 3) := dk_182 0 237 (dk_at dksX3_value_0 1 rfl rfl)
theorem dX3_value_4 : decode cX3_value 4 = .ok (.aload_n 0, 1) := dk_42 (dk_at dksX3_value_0 4 rfl rfl)
theorem dX3_value_5 : decode cX3_value 5 = .ok (.getfield 217, 3) := dk_180 0 217 (dk_at dksX3_value_0 5 rfl rfl)
theorem dX3_value_8 : decode cX3_value 8 = .ok (.istore_n 1, 1) := dk_60 (dk_at dksX3_value_0 8 rfl rfl)
theorem dX3_value_9 : decode cX3_value 9 = .ok (.aload_n 0, 1) := dk_42 (dk_at dksX3_value_0 9 rfl rfl)
theorem dX3_value_10 : decode cX3_value 10 = .ok (.invokevirtual 257, 3) := dk_182 1 1 (dk_at dksX3_value_0 10 rfl rfl)
theorem dX3_value_13 : decode cX3_value 13 = .ok (.ifCond .eq 23, 3) := dk_153 0 23 (dk_at dksX3_value_0 13 rfl rfl)
theorem dX3_value_16 : decode cX3_value 16 = .ok (.aload_n 0, 1) := dk_42 (dk_at dksX3_value_0 16 rfl rfl)
theorem dX3_value_17 : decode cX3_value 17 = .ok (.ldc_w 261, 3) := dk_19 1 5 (dk_at dksX3_value_0 17 rfl rfl)
theorem dX3_value_20 : decode cX3_value 20 = .ok (.invokevirtual 262, 3) := dk_182 1 6 (dk_at dksX3_value_0 20 rfl rfl)
theorem dX3_value_23 : decode cX3_value 23 = .ok (.istore_n 2, 1) := dk_61 (dk_at dksX3_value_0 23 rfl rfl)
theorem dX3_value_24 : decode cX3_value 24 = .ok (.aload_n 0, 1) := dk_42 (dk_at dksX3_value_1 0 rfl rfl)
theorem dX3_value_25 : decode cX3_value 25 = .ok (.iload_n 1, 1) := dk_27 (dk_at dksX3_value_1 1 rfl rfl)
theorem dX3_value_26 : decode cX3_value 26 = .ok (.invokevirtual 266, 3) := dk_182 1 10 (dk_at dksX3_value_1 2 rfl rfl)
theorem dX3_value_29 : decode cX3_value 29 = .ok (.aload_n 0, 1) := dk_42 (dk_at dksX3_value_1 5 rfl rfl)
theorem dX3_value_30 : decode cX3_value 30 = .ok (.iconst 0, 1) := dk_3 (dk_at dksX3_value_1 6 rfl rfl)
theorem dX3_value_31 : decode cX3_value 31 = .ok (.iload_n 2, 1) := dk_28 (dk_at dksX3_value_1 7 rfl rfl)
theorem dX3_value_32 : decode cX3_value 32 = .ok (.invokevirtual 269, 3) := dk_182 1 13 (dk_at dksX3_value_1 8 rfl rfl)
theorem dX3_value_35 : decode cX3_value 35 = .ok (.return_, 1) := dk_177 (dk_at dksX3_value_1 11 rfl rfl)
theorem dX3_value_36 : decode cX3_value 36 = .ok (.iconst 0, 1) := dk_3 (dk_at dksX3_value_1 12 rfl rfl)
theorem dX3_value_37 : decode cX3_value 37 = .ok (.istore_n 2, 1) := dk_61 (dk_at dksX3_value_1 13 rfl rfl)
theorem dX3_value_38 : decode cX3_value 38 = .ok (.iload_n 2, 1) := dk_28 (dk_at dksX3_value_1 14 rfl rfl)
theorem dX3_value_39 : decode cX3_value 39 = .ok (.aload_n 0, 1) := dk_42 (dk_at dksX3_value_1 15 rfl rfl)
theorem dX3_value_40 : decode cX3_value 40 = .ok (.getfield 88, 3) := dk_180 0 88 (dk_at dksX3_value_1 16 rfl rfl)
theorem dX3_value_43 : decode cX3_value 43 = .ok (.if_icmp .ge 20, 3) := dk_162 0 20 (dk_at dksX3_value_1 19 rfl rfl)
theorem dX3_value_46 : decode cX3_value 46 = .ok (.aload_n 0, 1) := dk_42 (dk_at dksX3_value_1 22 rfl rfl)
theorem dX3_value_47 : decode cX3_value 47 = .ok (.iload_n 2, 1) := dk_28 (dk_at dksX3_value_1 23 rfl rfl)
theorem dX3_value_48 : decode cX3_value 48 = .ok (.invokestatic 272, 3) := dk_184 1 16 (dk_at dksX3_value_2 0 rfl rfl)
theorem dX3_value_51 : decode cX3_value 51 = .ok (.invokevirtual 240, 3) := dk_182 0 240 (dk_at dksX3_value_2 3 rfl rfl)
theorem dX3_value_54 : decode cX3_value 54 = .ok (.ifCond .ne 9, 3) := dk_154 0 9 (dk_at dksX3_value_2 6 rfl rfl)
theorem dX3_value_57 : decode cX3_value 57 = .ok (.iinc 2 1, 3) := dk_132 2 1 (dk_at dksX3_value_2 9 rfl rfl)
theorem dX3_value_60 : decode cX3_value 60 = .ok (.goto (-22), 3) := dk_167 255 234 (dk_at dksX3_value_2 12 rfl rfl)
theorem dX3_value_63 : decode cX3_value 63 = .ok (.iload_n 2, 1) := dk_28 (dk_at dksX3_value_2 15 rfl rfl)
theorem dX3_value_64 : decode cX3_value 64 = .ok (.aload_n 0, 1) := dk_42 (dk_at dksX3_value_2 16 rfl rfl)
theorem dX3_value_65 : decode cX3_value 65 = .ok (.getfield 88, 3) := dk_180 0 88 (dk_at dksX3_value_2 17 rfl rfl)
theorem dX3_value_68 : decode cX3_value 68 = .ok (.if_icmp .ne 10, 3) := dk_160 0 10 (dk_at dksX3_value_2 20 rfl rfl)
theorem dX3_value_71 : decode cX3_value 71 = .ok (.aload_n 0, 1) := dk_42 (dk_at dksX3_value_2 23 rfl rfl)
theorem dX3_value_72 : decode cX3_value 72 = .ok (.iconst 0, 1) := dk_3 (dk_at dksX3_value_3 0 rfl rfl)
theorem dX3_value_73 : decode cX3_value 73 = .ok (.iload_n 1, 1) := dk_27 (dk_at dksX3_value_3 1 rfl rfl)
theorem dX3_value_74 : decode cX3_value 74 = .ok (.invokevirtual 253, 3) := dk_182 0 253 (dk_at dksX3_value_3 2 rfl rfl)
theorem dX3_value_77 : decode cX3_value 77 = .ok (.return_, 1) := dk_177 (dk_at dksX3_value_3 5 rfl rfl)
theorem dX3_value_78 : decode cX3_value 78 = .ok (.aload_n 0, 1) := dk_42 (dk_at dksX3_value_3 6 rfl rfl)
theorem dX3_value_79 : decode cX3_value 79 = .ok (.iload_n 1, 1) := dk_27 (dk_at dksX3_value_3 7 rfl rfl)
theorem dX3_value_80 : decode cX3_value 80 = .ok (.invokevirtual 266, 3) := dk_182 1 10 (dk_at dksX3_value_3 8 rfl rfl)
theorem dX3_value_83 : decode cX3_value 83 = .ok (.aload_n 0, 1) := dk_42 (dk_at dksX3_value_3 11 rfl rfl)
theorem dX3_value_84 : decode cX3_value 84 = .ok (.dup, 1) := dk_89 (dk_at dksX3_value_3 12 rfl rfl)
theorem dX3_value_85 : decode cX3_value 85 = .ok (.getfield 217, 3) := dk_180 0 217 (dk_at dksX3_value_3 13 rfl rfl)
theorem dX3_value_88 : decode cX3_value 88 = .ok (.iload_n 2, 1) := dk_28 (dk_at dksX3_value_3 16 rfl rfl)
theorem dX3_value_89 : decode cX3_value 89 = .ok (.invokestatic 272, 3) := dk_184 1 16 (dk_at dksX3_value_3 17 rfl rfl)
theorem dX3_value_92 : decode cX3_value 92 = .ok (.invokevirtual 228, 3) := dk_182 0 228 (dk_at dksX3_value_3 20 rfl rfl)
theorem dX3_value_95 : decode cX3_value 95 = .ok (.iadd, 1) := dk_96 (dk_at dksX3_value_3 23 rfl rfl)
theorem dX3_value_96 : decode cX3_value 96 = .ok (.putfield 217, 3) := dk_181 0 217 (dk_at dksX3_value_4 0 rfl rfl)
theorem dX3_value_99 : decode cX3_value 99 = .ok (.aload_n 0, 1) := dk_42 (dk_at dksX3_value_4 3 rfl rfl)
theorem dX3_value_100 : decode cX3_value 100 = .ok (.iconst 1, 1) := dk_4 (dk_at dksX3_value_4 4 rfl rfl)
theorem dX3_value_101 : decode cX3_value 101 = .ok (.iload_n 2, 1) := dk_28 (dk_at dksX3_value_4 5 rfl rfl)
theorem dX3_value_102 : decode cX3_value 102 = .ok (.invokevirtual 269, 3) := dk_182 1 13 (dk_at dksX3_value_4 6 rfl rfl)
theorem dX3_value_105 : decode cX3_value 105 = .ok (.return_, 1) := dk_177 (dk_at dksX3_value_4 9 rfl rfl)
abbrev cX3_isCounted : ByteArray := prog_17_method_23_code
def yX3_isCounted : MethodName := ⟨RX3, "isCounted", "(I)V"⟩
def dkwX3_isCounted_1 : List UInt8 := [181, 0, 250, 177]
abbrev dktX3_isCounted_1 : List UInt8 := dkwX3_isCounted_1 ++ []
def dkwX3_isCounted_0 : List UInt8 := [42, 180, 0, 250, 16, 60, 160, 0, 9, 42, 6, 27, 182, 0, 253, 42, 89, 180, 0, 250, 4, 96]
abbrev dktX3_isCounted_0 : List UInt8 := dkwX3_isCounted_0 ++ dktX3_isCounted_1
theorem dksX3_isCounted_0 : cX3_isCounted.data.toList.drop 0 = dktX3_isCounted_0 := by decide +kernel
theorem dksX3_isCounted_1 : cX3_isCounted.data.toList.drop 22 = dktX3_isCounted_1 := dk_seg dksX3_isCounted_0 22 rfl rfl
theorem dX3_isCounted_0 : decode cX3_isCounted 0 = .ok (.aload_n 0, 1) := dk_42 (dk_at dksX3_isCounted_0 0 rfl rfl)
theorem dX3_isCounted_1 : decode cX3_isCounted 1 = .ok (.getfield 250, 3) := dk_180 0 250 (dk_at dksX3_isCounted_0 1 rfl rfl)
theorem dX3_isCounted_4 : decode cX3_isCounted 4 = .ok (.bipush 60, 2) := dk_16 60 (dk_at dksX3_isCounted_0 4 rfl rfl)
theorem dX3_isCounted_6 : decode cX3_isCounted 6 = .ok (.if_icmp .ne 9, 3) := dk_160 0 9 (dk_at dksX3_isCounted_0 6 rfl rfl)
theorem dX3_isCounted_9 : decode cX3_isCounted 9 = .ok (.aload_n 0, 1) := dk_42 (dk_at dksX3_isCounted_0 9 rfl rfl)
theorem dX3_isCounted_10 : decode cX3_isCounted 10 = .ok (.iconst 3, 1) := dk_6 (dk_at dksX3_isCounted_0 10 rfl rfl)
theorem dX3_isCounted_11 : decode cX3_isCounted 11 = .ok (.iload_n 1, 1) := dk_27 (dk_at dksX3_isCounted_0 11 rfl rfl)
theorem dX3_isCounted_12 : decode cX3_isCounted 12 = .ok (.invokevirtual 253, 3) := dk_182 0 253 (dk_at dksX3_isCounted_0 12 rfl rfl)
theorem dX3_isCounted_15 : decode cX3_isCounted 15 = .ok (.aload_n 0, 1) := dk_42 (dk_at dksX3_isCounted_0 15 rfl rfl)
theorem dX3_isCounted_16 : decode cX3_isCounted 16 = .ok (.dup, 1) := dk_89 (dk_at dksX3_isCounted_0 16 rfl rfl)
theorem dX3_isCounted_17 : decode cX3_isCounted 17 = .ok (.getfield 250, 3) := dk_180 0 250 (dk_at dksX3_isCounted_0 17 rfl rfl)
theorem dX3_isCounted_20 : decode cX3_isCounted 20 = .ok (.iconst 1, 1) := dk_4 (dk_at dksX3_isCounted_0 20 rfl rfl)
theorem dX3_isCounted_21 : decode cX3_isCounted 21 = .ok (.iadd, 1) := dk_96 (dk_at dksX3_isCounted_0 21 rfl rfl)
theorem dX3_isCounted_22 : decode cX3_isCounted 22 = .ok (.putfield 250, 3) := dk_181 0 250 (dk_at dksX3_isCounted_1 0 rfl rfl)
theorem dX3_isCounted_25 : decode cX3_isCounted 25 = .ok (.return_, 1) := dk_177 (dk_at dksX3_isCounted_1 3 rfl rfl)
abbrev cX3_entry : ByteArray := prog_17_method_22_code
def yX3_entry : MethodName := ⟨RX3, "entry", "(II)V"⟩
def dkwX3_entry_2 : List UInt8 := [180, 0, 247, 4, 96, 181, 0, 247, 177]
abbrev dktX3_entry_2 : List UInt8 := dkwX3_entry_2 ++ []
def dkwX3_entry_1 : List UInt8 := [27, 79, 42, 180, 0, 99, 17, 1, 44, 42, 180, 0, 244, 104, 42, 180, 0, 247, 96, 28, 79, 42, 89]
abbrev dktX3_entry_1 : List UInt8 := dkwX3_entry_1 ++ dktX3_entry_2
def dkwX3_entry_0 : List UInt8 := [42, 180, 0, 214, 154, 0, 51, 42, 180, 0, 96, 17, 1, 44, 42, 180, 0, 244, 104, 42, 180, 0, 247, 96]
abbrev dktX3_entry_0 : List UInt8 := dkwX3_entry_0 ++ dktX3_entry_1
theorem dksX3_entry_0 : cX3_entry.data.toList.drop 0 = dktX3_entry_0 := by decide +kernel
theorem dksX3_entry_1 : cX3_entry.data.toList.drop 24 = dktX3_entry_1 := dk_seg dksX3_entry_0 24 rfl rfl
theorem dksX3_entry_2 : cX3_entry.data.toList.drop 47 = dktX3_entry_2 := dk_seg dksX3_entry_1 23 rfl rfl
theorem dX3_entry_0 : decode cX3_entry 0 = .ok (.aload_n 0, 1) := dk_42 (dk_at dksX3_entry_0 0 rfl rfl)
theorem dX3_entry_1 : decode cX3_entry 1 = .ok (.getfield 214, 3) := dk_180 0 214 (dk_at dksX3_entry_0 1 rfl rfl)
theorem dX3_entry_4 : decode cX3_entry 4 = .ok (.ifCond .ne 51, 3) := dk_154 0 51 (dk_at dksX3_entry_0 4 rfl rfl)
theorem dX3_entry_7 : decode cX3_entry 7 = .ok (.aload_n 0, 1) := dk_42 (dk_at dksX3_entry_0 7 rfl rfl)
theorem dX3_entry_8 : decode cX3_entry 8 = .ok (.getfield 96, 3) := dk_180 0 96 (dk_at dksX3_entry_0 8 rfl rfl)
theorem dX3_entry_11 : decode cX3_entry 11 = .ok (.sipush 300, 3) := dk_17 1 44 (dk_at dksX3_entry_0 11 rfl rfl)
theorem dX3_entry_14 : decode cX3_entry 14 = .ok (.aload_n 0, 1) := dk_42 (dk_at dksX3_entry_0 14 rfl rfl)
theorem dX3_entry_15 : decode cX3_entry 15 = .ok (.getfield 244, 3) := dk_180 0 244 (dk_at dksX3_entry_0 15 rfl rfl)
theorem dX3_entry_18 : decode cX3_entry 18 = .ok (.imul, 1) := dk_104 (dk_at dksX3_entry_0 18 rfl rfl)
theorem dX3_entry_19 : decode cX3_entry 19 = .ok (.aload_n 0, 1) := dk_42 (dk_at dksX3_entry_0 19 rfl rfl)
theorem dX3_entry_20 : decode cX3_entry 20 = .ok (.getfield 247, 3) := dk_180 0 247 (dk_at dksX3_entry_0 20 rfl rfl)
theorem dX3_entry_23 : decode cX3_entry 23 = .ok (.iadd, 1) := dk_96 (dk_at dksX3_entry_0 23 rfl rfl)
theorem dX3_entry_24 : decode cX3_entry 24 = .ok (.iload_n 1, 1) := dk_27 (dk_at dksX3_entry_1 0 rfl rfl)
theorem dX3_entry_25 : decode cX3_entry 25 = .ok (.iastore, 1) := dk_79 (dk_at dksX3_entry_1 1 rfl rfl)
theorem dX3_entry_26 : decode cX3_entry 26 = .ok (.aload_n 0, 1) := dk_42 (dk_at dksX3_entry_1 2 rfl rfl)
theorem dX3_entry_27 : decode cX3_entry 27 = .ok (.getfield 99, 3) := dk_180 0 99 (dk_at dksX3_entry_1 3 rfl rfl)
theorem dX3_entry_30 : decode cX3_entry 30 = .ok (.sipush 300, 3) := dk_17 1 44 (dk_at dksX3_entry_1 6 rfl rfl)
theorem dX3_entry_33 : decode cX3_entry 33 = .ok (.aload_n 0, 1) := dk_42 (dk_at dksX3_entry_1 9 rfl rfl)
theorem dX3_entry_34 : decode cX3_entry 34 = .ok (.getfield 244, 3) := dk_180 0 244 (dk_at dksX3_entry_1 10 rfl rfl)
theorem dX3_entry_37 : decode cX3_entry 37 = .ok (.imul, 1) := dk_104 (dk_at dksX3_entry_1 13 rfl rfl)
theorem dX3_entry_38 : decode cX3_entry 38 = .ok (.aload_n 0, 1) := dk_42 (dk_at dksX3_entry_1 14 rfl rfl)
theorem dX3_entry_39 : decode cX3_entry 39 = .ok (.getfield 247, 3) := dk_180 0 247 (dk_at dksX3_entry_1 15 rfl rfl)
theorem dX3_entry_42 : decode cX3_entry 42 = .ok (.iadd, 1) := dk_96 (dk_at dksX3_entry_1 18 rfl rfl)
theorem dX3_entry_43 : decode cX3_entry 43 = .ok (.iload_n 2, 1) := dk_28 (dk_at dksX3_entry_1 19 rfl rfl)
theorem dX3_entry_44 : decode cX3_entry 44 = .ok (.iastore, 1) := dk_79 (dk_at dksX3_entry_1 20 rfl rfl)
theorem dX3_entry_45 : decode cX3_entry 45 = .ok (.aload_n 0, 1) := dk_42 (dk_at dksX3_entry_1 21 rfl rfl)
theorem dX3_entry_46 : decode cX3_entry 46 = .ok (.dup, 1) := dk_89 (dk_at dksX3_entry_1 22 rfl rfl)
theorem dX3_entry_47 : decode cX3_entry 47 = .ok (.getfield 247, 3) := dk_180 0 247 (dk_at dksX3_entry_2 0 rfl rfl)
theorem dX3_entry_50 : decode cX3_entry 50 = .ok (.iconst 1, 1) := dk_4 (dk_at dksX3_entry_2 3 rfl rfl)
theorem dX3_entry_51 : decode cX3_entry 51 = .ok (.iadd, 1) := dk_96 (dk_at dksX3_entry_2 4 rfl rfl)
theorem dX3_entry_52 : decode cX3_entry 52 = .ok (.putfield 247, 3) := dk_181 0 247 (dk_at dksX3_entry_2 5 rfl rfl)
theorem dX3_entry_55 : decode cX3_entry 55 = .ok (.return_, 1) := dk_177 (dk_at dksX3_entry_2 8 rfl rfl)
abbrev cX3_wordOf : ByteArray := prog_17_method_15_code
def yX3_wordOf : MethodName := ⟨RX3, "wordOf", "(I)Ljava/lang/String;"⟩
def dkwX3_wordOf_3 : List UInt8 := [18, 206, 176, 18, 208, 176, 18, 210, 176, 18, 212, 176]
abbrev dktX3_wordOf_3 : List UInt8 := dkwX3_wordOf_3 ++ []
def dkwX3_wordOf_2 : List UInt8 := [18, 192, 176, 18, 194, 176, 18, 195, 176, 18, 196, 176, 18, 198, 176, 18, 200, 176, 18, 202, 176, 18, 204, 176]
abbrev dktX3_wordOf_2 : List UInt8 := dkwX3_wordOf_2 ++ dktX3_wordOf_3
def dkwX3_wordOf_1 : List UInt8 := [170, 0, 0, 0, 0, 0, 92, 0, 0, 0, 0, 0, 0, 0, 10, 0, 0, 0, 59, 0, 0, 0, 62, 0, 0, 0, 65, 0, 0, 0, 68, 0, 0, 0, 71, 0, 0, 0, 74, 0, 0, 0, 77, 0, 0, 0, 80, 0, 0, 0, 83, 0, 0, 0, 86, 0, 0, 0, 89]
abbrev dktX3_wordOf_1 : List UInt8 := dkwX3_wordOf_1 ++ dktX3_wordOf_2
def dkwX3_wordOf_0 : List UInt8 := [26]
abbrev dktX3_wordOf_0 : List UInt8 := dkwX3_wordOf_0 ++ dktX3_wordOf_1
theorem dksX3_wordOf_0 : cX3_wordOf.data.toList.drop 0 = dktX3_wordOf_0 := by decide +kernel
theorem dksX3_wordOf_1 : cX3_wordOf.data.toList.drop 1 = dktX3_wordOf_1 := dk_seg dksX3_wordOf_0 1 rfl rfl
theorem dksX3_wordOf_2 : cX3_wordOf.data.toList.drop 60 = dktX3_wordOf_2 := dk_seg dksX3_wordOf_1 59 rfl rfl
theorem dksX3_wordOf_3 : cX3_wordOf.data.toList.drop 84 = dktX3_wordOf_3 := dk_seg dksX3_wordOf_2 24 rfl rfl
theorem dX3_wordOf_0 : decode cX3_wordOf 0 = .ok (.iload_n 0, 1) := dk_26 (dk_at dksX3_wordOf_0 0 rfl rfl)
theorem dX3_wordOf_1 : decode cX3_wordOf 1 = .ok (.tableswitch 92 0 10 #[59, 62, 65, 68, 71, 74, 77, 80, 83, 86, 89], 59) := by decide +kernel
theorem dX3_wordOf_60 : decode cX3_wordOf 60 = .ok (.ldc 192, 2) := dk_18 192 (dk_at dksX3_wordOf_2 0 rfl rfl)
theorem dX3_wordOf_62 : decode cX3_wordOf 62 = .ok (.areturn, 1) := dk_176 (dk_at dksX3_wordOf_2 2 rfl rfl)
theorem dX3_wordOf_63 : decode cX3_wordOf 63 = .ok (.ldc 194, 2) := dk_18 194 (dk_at dksX3_wordOf_2 3 rfl rfl)
theorem dX3_wordOf_65 : decode cX3_wordOf 65 = .ok (.areturn, 1) := dk_176 (dk_at dksX3_wordOf_2 5 rfl rfl)
theorem dX3_wordOf_66 : decode cX3_wordOf 66 = .ok (.ldc 195, 2) := dk_18 195 (dk_at dksX3_wordOf_2 6 rfl rfl)
theorem dX3_wordOf_68 : decode cX3_wordOf 68 = .ok (.areturn, 1) := dk_176 (dk_at dksX3_wordOf_2 8 rfl rfl)
theorem dX3_wordOf_69 : decode cX3_wordOf 69 = .ok (.ldc 196, 2) := dk_18 196 (dk_at dksX3_wordOf_2 9 rfl rfl)
theorem dX3_wordOf_71 : decode cX3_wordOf 71 = .ok (.areturn, 1) := dk_176 (dk_at dksX3_wordOf_2 11 rfl rfl)
theorem dX3_wordOf_72 : decode cX3_wordOf 72 = .ok (.ldc 198, 2) := dk_18 198 (dk_at dksX3_wordOf_2 12 rfl rfl)
theorem dX3_wordOf_74 : decode cX3_wordOf 74 = .ok (.areturn, 1) := dk_176 (dk_at dksX3_wordOf_2 14 rfl rfl)
theorem dX3_wordOf_75 : decode cX3_wordOf 75 = .ok (.ldc 200, 2) := dk_18 200 (dk_at dksX3_wordOf_2 15 rfl rfl)
theorem dX3_wordOf_77 : decode cX3_wordOf 77 = .ok (.areturn, 1) := dk_176 (dk_at dksX3_wordOf_2 17 rfl rfl)
theorem dX3_wordOf_78 : decode cX3_wordOf 78 = .ok (.ldc 202, 2) := dk_18 202 (dk_at dksX3_wordOf_2 18 rfl rfl)
theorem dX3_wordOf_80 : decode cX3_wordOf 80 = .ok (.areturn, 1) := dk_176 (dk_at dksX3_wordOf_2 20 rfl rfl)
theorem dX3_wordOf_81 : decode cX3_wordOf 81 = .ok (.ldc 204, 2) := dk_18 204 (dk_at dksX3_wordOf_2 21 rfl rfl)
theorem dX3_wordOf_83 : decode cX3_wordOf 83 = .ok (.areturn, 1) := dk_176 (dk_at dksX3_wordOf_2 23 rfl rfl)
theorem dX3_wordOf_84 : decode cX3_wordOf 84 = .ok (.ldc 206, 2) := dk_18 206 (dk_at dksX3_wordOf_3 0 rfl rfl)
theorem dX3_wordOf_86 : decode cX3_wordOf 86 = .ok (.areturn, 1) := dk_176 (dk_at dksX3_wordOf_3 2 rfl rfl)
theorem dX3_wordOf_87 : decode cX3_wordOf 87 = .ok (.ldc 208, 2) := dk_18 208 (dk_at dksX3_wordOf_3 3 rfl rfl)
theorem dX3_wordOf_89 : decode cX3_wordOf 89 = .ok (.areturn, 1) := dk_176 (dk_at dksX3_wordOf_3 5 rfl rfl)
theorem dX3_wordOf_90 : decode cX3_wordOf 90 = .ok (.ldc 210, 2) := dk_18 210 (dk_at dksX3_wordOf_3 6 rfl rfl)
theorem dX3_wordOf_92 : decode cX3_wordOf 92 = .ok (.areturn, 1) := dk_176 (dk_at dksX3_wordOf_3 8 rfl rfl)
theorem dX3_wordOf_93 : decode cX3_wordOf 93 = .ok (.ldc 212, 2) := dk_18 212 (dk_at dksX3_wordOf_3 9 rfl rfl)
theorem dX3_wordOf_95 : decode cX3_wordOf 95 = .ok (.areturn, 1) := dk_176 (dk_at dksX3_wordOf_3 11 rfl rfl)
abbrev cX3_takes : ByteArray := prog_17_method_21_code
def yX3_takes : MethodName := ⟨RX3, "takes", "(Ljava/lang/String;)Z"⟩
def dkwX3_takes_1 : List UInt8 := [167, 0, 4, 3, 96, 181, 0, 217, 28, 172]
abbrev dktX3_takes_1 : List UInt8 := dkwX3_takes_1 ++ []
def dkwX3_takes_0 : List UInt8 := [42, 182, 0, 237, 42, 43, 182, 0, 240, 61, 42, 89, 180, 0, 217, 28, 153, 0, 10, 43, 182, 0, 228]
abbrev dktX3_takes_0 : List UInt8 := dkwX3_takes_0 ++ dktX3_takes_1
theorem dksX3_takes_0 : cX3_takes.data.toList.drop 0 = dktX3_takes_0 := by decide +kernel
theorem dksX3_takes_1 : cX3_takes.data.toList.drop 23 = dktX3_takes_1 := dk_seg dksX3_takes_0 23 rfl rfl
theorem dX3_takes_0 : decode cX3_takes 0 = .ok (.aload_n 0, 1) := dk_42 (dk_at dksX3_takes_0 0 rfl rfl)
theorem dX3_takes_1 : decode cX3_takes 1 = .ok (.invokevirtual 237, 3) := dk_182 0 237 (dk_at dksX3_takes_0 1 rfl rfl)
theorem dX3_takes_4 : decode cX3_takes 4 = .ok (.aload_n 0, 1) := dk_42 (dk_at dksX3_takes_0 4 rfl rfl)
theorem dX3_takes_5 : decode cX3_takes 5 = .ok (.aload_n 1, 1) := dk_43 (dk_at dksX3_takes_0 5 rfl rfl)
theorem dX3_takes_6 : decode cX3_takes 6 = .ok (.invokevirtual 240, 3) := dk_182 0 240 (dk_at dksX3_takes_0 6 rfl rfl)
theorem dX3_takes_9 : decode cX3_takes 9 = .ok (.istore_n 2, 1) := dk_61 (dk_at dksX3_takes_0 9 rfl rfl)
theorem dX3_takes_10 : decode cX3_takes 10 = .ok (.aload_n 0, 1) := dk_42 (dk_at dksX3_takes_0 10 rfl rfl)
theorem dX3_takes_11 : decode cX3_takes 11 = .ok (.dup, 1) := dk_89 (dk_at dksX3_takes_0 11 rfl rfl)
theorem dX3_takes_12 : decode cX3_takes 12 = .ok (.getfield 217, 3) := dk_180 0 217 (dk_at dksX3_takes_0 12 rfl rfl)
theorem dX3_takes_15 : decode cX3_takes 15 = .ok (.iload_n 2, 1) := dk_28 (dk_at dksX3_takes_0 15 rfl rfl)
theorem dX3_takes_16 : decode cX3_takes 16 = .ok (.ifCond .eq 10, 3) := dk_153 0 10 (dk_at dksX3_takes_0 16 rfl rfl)
theorem dX3_takes_19 : decode cX3_takes 19 = .ok (.aload_n 1, 1) := dk_43 (dk_at dksX3_takes_0 19 rfl rfl)
theorem dX3_takes_20 : decode cX3_takes 20 = .ok (.invokevirtual 228, 3) := dk_182 0 228 (dk_at dksX3_takes_0 20 rfl rfl)
theorem dX3_takes_23 : decode cX3_takes 23 = .ok (.goto 4, 3) := dk_167 0 4 (dk_at dksX3_takes_1 0 rfl rfl)
theorem dX3_takes_26 : decode cX3_takes 26 = .ok (.iconst 0, 1) := dk_3 (dk_at dksX3_takes_1 3 rfl rfl)
theorem dX3_takes_27 : decode cX3_takes 27 = .ok (.iadd, 1) := dk_96 (dk_at dksX3_takes_1 4 rfl rfl)
theorem dX3_takes_28 : decode cX3_takes 28 = .ok (.putfield 217, 3) := dk_181 0 217 (dk_at dksX3_takes_1 5 rfl rfl)
theorem dX3_takes_31 : decode cX3_takes 31 = .ok (.iload_n 2, 1) := dk_28 (dk_at dksX3_takes_1 8 rfl rfl)
theorem dX3_takes_32 : decode cX3_takes 32 = .ok (.ireturn, 1) := dk_172 (dk_at dksX3_takes_1 9 rfl rfl)
abbrev cX3_test : ByteArray := prog_17_method_33_code
def yX3_test : MethodName := ⟨RX3, "test", "()V"⟩
def dkwX3_test_8 : List UInt8 := [4, 100, 181, 1, 32, 167, 0, 5, 3, 61, 167, 255, 66, 177]
abbrev dktX3_test_8 : List UInt8 := dkwX3_test_8 ++ []
def dkwX3_test_7 : List UInt8 := [89, 180, 0, 217, 4, 96, 181, 0, 217, 42, 89, 180, 1, 29, 4, 100, 181, 1, 29, 42, 89, 180, 1, 32]
abbrev dktX3_test_7 : List UInt8 := dkwX3_test_7 ++ dktX3_test_8
def dkwX3_test_6 : List UInt8 := [16, 12, 160, 0, 54, 42, 182, 0, 220, 16, 93, 159, 0, 12, 42, 3, 42, 180, 0, 217, 182, 0, 253, 42]
abbrev dktX3_test_6 : List UInt8 := dkwX3_test_6 ++ dktX3_test_7
def dkwX3_test_5 : List UInt8 := [167, 0, 4, 5, 96, 181, 0, 217, 4, 60, 167, 0, 71, 42, 16, 11, 182, 1, 49, 42, 182, 1, 35]
abbrev dktX3_test_5 : List UInt8 := dkwX3_test_5 ++ dktX3_test_6
def dkwX3_test_4 : List UInt8 := [29, 153, 0, 8, 16, 10, 167, 0, 5, 16, 11, 182, 1, 40, 42, 89, 180, 0, 217, 29, 153, 0, 7, 6]
abbrev dktX3_test_4 : List UInt8 := dkwX3_test_4 ++ dktX3_test_5
def dkwX3_test_3 : List UInt8 := [182, 1, 49, 29, 154, 0, 8, 21, 4, 153, 0, 52, 21, 4, 153, 0, 9, 42, 16, 11, 182, 1, 49, 42]
abbrev dktX3_test_3 : List UInt8 := dkwX3_test_3 ++ dktX3_test_4
def dkwX3_test_2 : List UInt8 := [182, 0, 237, 42, 19, 1, 52, 182, 0, 240, 62, 42, 19, 1, 54, 182, 0, 240, 54, 4, 42, 16, 10]
abbrev dktX3_test_2 : List UInt8 := dkwX3_test_2 ++ dktX3_test_3
def dkwX3_test_1 : List UInt8 := [42, 182, 1, 46, 154, 0, 7, 4, 167, 0, 4, 3, 60, 167, 255, 228, 42, 16, 9, 182, 1, 49, 42]
abbrev dktX3_test_1 : List UInt8 := dkwX3_test_1 ++ dktX3_test_2
def dkwX3_test_0 : List UInt8 := [42, 3, 181, 1, 29, 4, 60, 4, 61, 28, 153, 0, 192, 42, 180, 0, 214, 154, 0, 185, 27, 153, 0, 19]
abbrev dktX3_test_0 : List UInt8 := dkwX3_test_0 ++ dktX3_test_1
theorem dksX3_test_0 : cX3_test.data.toList.drop 0 = dktX3_test_0 := by decide +kernel
theorem dksX3_test_1 : cX3_test.data.toList.drop 24 = dktX3_test_1 := dk_seg dksX3_test_0 24 rfl rfl
theorem dksX3_test_2 : cX3_test.data.toList.drop 47 = dktX3_test_2 := dk_seg dksX3_test_1 23 rfl rfl
theorem dksX3_test_3 : cX3_test.data.toList.drop 70 = dktX3_test_3 := dk_seg dksX3_test_2 23 rfl rfl
theorem dksX3_test_4 : cX3_test.data.toList.drop 94 = dktX3_test_4 := dk_seg dksX3_test_3 24 rfl rfl
theorem dksX3_test_5 : cX3_test.data.toList.drop 118 = dktX3_test_5 := dk_seg dksX3_test_4 24 rfl rfl
theorem dksX3_test_6 : cX3_test.data.toList.drop 141 = dktX3_test_6 := dk_seg dksX3_test_5 23 rfl rfl
theorem dksX3_test_7 : cX3_test.data.toList.drop 165 = dktX3_test_7 := dk_seg dksX3_test_6 24 rfl rfl
theorem dksX3_test_8 : cX3_test.data.toList.drop 189 = dktX3_test_8 := dk_seg dksX3_test_7 24 rfl rfl
theorem dX3_test_0 : decode cX3_test 0 = .ok (.aload_n 0, 1) := dk_42 (dk_at dksX3_test_0 0 rfl rfl)
theorem dX3_test_1 : decode cX3_test 1 = .ok (.iconst 0, 1) := dk_3 (dk_at dksX3_test_0 1 rfl rfl)
theorem dX3_test_2 : decode cX3_test 2 = .ok (.putfield 285, 3) := dk_181 1 29 (dk_at dksX3_test_0 2 rfl rfl)
theorem dX3_test_5 : decode cX3_test 5 = .ok (.iconst 1, 1) := dk_4 (dk_at dksX3_test_0 5 rfl rfl)
theorem dX3_test_6 : decode cX3_test 6 = .ok (.istore_n 1, 1) := dk_60 (dk_at dksX3_test_0 6 rfl rfl)
theorem dX3_test_7 : decode cX3_test 7 = .ok (.iconst 1, 1) := dk_4 (dk_at dksX3_test_0 7 rfl rfl)
theorem dX3_test_8 : decode cX3_test 8 = .ok (.istore_n 2, 1) := dk_61 (dk_at dksX3_test_0 8 rfl rfl)
theorem dX3_test_9 : decode cX3_test 9 = .ok (.iload_n 2, 1) := dk_28 (dk_at dksX3_test_0 9 rfl rfl)
theorem dX3_test_10 : decode cX3_test 10 = .ok (.ifCond .eq 192, 3) := dk_153 0 192 (dk_at dksX3_test_0 10 rfl rfl)
theorem dX3_test_13 : decode cX3_test 13 = .ok (.aload_n 0, 1) := dk_42 (dk_at dksX3_test_0 13 rfl rfl)
theorem dX3_test_14 : decode cX3_test 14 = .ok (.getfield 214, 3) := dk_180 0 214 (dk_at dksX3_test_0 14 rfl rfl)
theorem dX3_test_17 : decode cX3_test 17 = .ok (.ifCond .ne 185, 3) := dk_154 0 185 (dk_at dksX3_test_0 17 rfl rfl)
theorem dX3_test_20 : decode cX3_test 20 = .ok (.iload_n 1, 1) := dk_27 (dk_at dksX3_test_0 20 rfl rfl)
theorem dX3_test_21 : decode cX3_test 21 = .ok (.ifCond .eq 19, 3) := dk_153 0 19 (dk_at dksX3_test_0 21 rfl rfl)
theorem dX3_test_24 : decode cX3_test 24 = .ok (.aload_n 0, 1) := dk_42 (dk_at dksX3_test_1 0 rfl rfl)
theorem dX3_test_25 : decode cX3_test 25 = .ok (.invokevirtual 302, 3) := dk_182 1 46 (dk_at dksX3_test_1 1 rfl rfl)
theorem dX3_test_28 : decode cX3_test 28 = .ok (.ifCond .ne 7, 3) := dk_154 0 7 (dk_at dksX3_test_1 4 rfl rfl)
theorem dX3_test_31 : decode cX3_test 31 = .ok (.iconst 1, 1) := dk_4 (dk_at dksX3_test_1 7 rfl rfl)
theorem dX3_test_32 : decode cX3_test 32 = .ok (.goto 4, 3) := dk_167 0 4 (dk_at dksX3_test_1 8 rfl rfl)
theorem dX3_test_35 : decode cX3_test 35 = .ok (.iconst 0, 1) := dk_3 (dk_at dksX3_test_1 11 rfl rfl)
theorem dX3_test_36 : decode cX3_test 36 = .ok (.istore_n 1, 1) := dk_60 (dk_at dksX3_test_1 12 rfl rfl)
theorem dX3_test_37 : decode cX3_test 37 = .ok (.goto (-28), 3) := dk_167 255 228 (dk_at dksX3_test_1 13 rfl rfl)
theorem dX3_test_40 : decode cX3_test 40 = .ok (.aload_n 0, 1) := dk_42 (dk_at dksX3_test_1 16 rfl rfl)
theorem dX3_test_41 : decode cX3_test 41 = .ok (.bipush 9, 2) := dk_16 9 (dk_at dksX3_test_1 17 rfl rfl)
theorem dX3_test_43 : decode cX3_test 43 = .ok (.invokevirtual 305, 3) := dk_182 1 49 (dk_at dksX3_test_1 19 rfl rfl)
theorem dX3_test_46 : decode cX3_test 46 = .ok (.aload_n 0, 1) := dk_42 (dk_at dksX3_test_1 22 rfl rfl)
theorem dX3_test_47 : decode cX3_test 47 = .ok (.invokevirtual 237, 3) := dk_182 0 237 (dk_at dksX3_test_2 0 rfl rfl)
theorem dX3_test_50 : decode cX3_test 50 = .ok (.aload_n 0, 1) := dk_42 (dk_at dksX3_test_2 3 rfl rfl)
theorem dX3_test_51 : decode cX3_test 51 = .ok (.ldc_w 308, 3) := dk_19 1 52 (dk_at dksX3_test_2 4 rfl rfl)
theorem dX3_test_54 : decode cX3_test 54 = .ok (.invokevirtual 240, 3) := dk_182 0 240 (dk_at dksX3_test_2 7 rfl rfl)
theorem dX3_test_57 : decode cX3_test 57 = .ok (.istore_n 3, 1) := dk_62 (dk_at dksX3_test_2 10 rfl rfl)
theorem dX3_test_58 : decode cX3_test 58 = .ok (.aload_n 0, 1) := dk_42 (dk_at dksX3_test_2 11 rfl rfl)
theorem dX3_test_59 : decode cX3_test 59 = .ok (.ldc_w 310, 3) := dk_19 1 54 (dk_at dksX3_test_2 12 rfl rfl)
theorem dX3_test_62 : decode cX3_test 62 = .ok (.invokevirtual 240, 3) := dk_182 0 240 (dk_at dksX3_test_2 15 rfl rfl)
theorem dX3_test_65 : decode cX3_test 65 = .ok (.istore 4, 2) := dk_54 4 (dk_at dksX3_test_2 18 rfl rfl)
theorem dX3_test_67 : decode cX3_test 67 = .ok (.aload_n 0, 1) := dk_42 (dk_at dksX3_test_2 20 rfl rfl)
theorem dX3_test_68 : decode cX3_test 68 = .ok (.bipush 10, 2) := dk_16 10 (dk_at dksX3_test_2 21 rfl rfl)
theorem dX3_test_70 : decode cX3_test 70 = .ok (.invokevirtual 305, 3) := dk_182 1 49 (dk_at dksX3_test_3 0 rfl rfl)
theorem dX3_test_73 : decode cX3_test 73 = .ok (.iload_n 3, 1) := dk_29 (dk_at dksX3_test_3 3 rfl rfl)
theorem dX3_test_74 : decode cX3_test 74 = .ok (.ifCond .ne 8, 3) := dk_154 0 8 (dk_at dksX3_test_3 4 rfl rfl)
theorem dX3_test_77 : decode cX3_test 77 = .ok (.iload 4, 2) := dk_21 4 (dk_at dksX3_test_3 7 rfl rfl)
theorem dX3_test_79 : decode cX3_test 79 = .ok (.ifCond .eq 52, 3) := dk_153 0 52 (dk_at dksX3_test_3 9 rfl rfl)
theorem dX3_test_82 : decode cX3_test 82 = .ok (.iload 4, 2) := dk_21 4 (dk_at dksX3_test_3 12 rfl rfl)
theorem dX3_test_84 : decode cX3_test 84 = .ok (.ifCond .eq 9, 3) := dk_153 0 9 (dk_at dksX3_test_3 14 rfl rfl)
theorem dX3_test_87 : decode cX3_test 87 = .ok (.aload_n 0, 1) := dk_42 (dk_at dksX3_test_3 17 rfl rfl)
theorem dX3_test_88 : decode cX3_test 88 = .ok (.bipush 11, 2) := dk_16 11 (dk_at dksX3_test_3 18 rfl rfl)
theorem dX3_test_90 : decode cX3_test 90 = .ok (.invokevirtual 305, 3) := dk_182 1 49 (dk_at dksX3_test_3 20 rfl rfl)
theorem dX3_test_93 : decode cX3_test 93 = .ok (.aload_n 0, 1) := dk_42 (dk_at dksX3_test_3 23 rfl rfl)
theorem dX3_test_94 : decode cX3_test 94 = .ok (.iload_n 3, 1) := dk_29 (dk_at dksX3_test_4 0 rfl rfl)
theorem dX3_test_95 : decode cX3_test 95 = .ok (.ifCond .eq 8, 3) := dk_153 0 8 (dk_at dksX3_test_4 1 rfl rfl)
theorem dX3_test_98 : decode cX3_test 98 = .ok (.bipush 10, 2) := dk_16 10 (dk_at dksX3_test_4 4 rfl rfl)
theorem dX3_test_100 : decode cX3_test 100 = .ok (.goto 5, 3) := dk_167 0 5 (dk_at dksX3_test_4 6 rfl rfl)
theorem dX3_test_103 : decode cX3_test 103 = .ok (.bipush 11, 2) := dk_16 11 (dk_at dksX3_test_4 9 rfl rfl)
theorem dX3_test_105 : decode cX3_test 105 = .ok (.invokevirtual 296, 3) := dk_182 1 40 (dk_at dksX3_test_4 11 rfl rfl)
theorem dX3_test_108 : decode cX3_test 108 = .ok (.aload_n 0, 1) := dk_42 (dk_at dksX3_test_4 14 rfl rfl)
theorem dX3_test_109 : decode cX3_test 109 = .ok (.dup, 1) := dk_89 (dk_at dksX3_test_4 15 rfl rfl)
theorem dX3_test_110 : decode cX3_test 110 = .ok (.getfield 217, 3) := dk_180 0 217 (dk_at dksX3_test_4 16 rfl rfl)
theorem dX3_test_113 : decode cX3_test 113 = .ok (.iload_n 3, 1) := dk_29 (dk_at dksX3_test_4 19 rfl rfl)
theorem dX3_test_114 : decode cX3_test 114 = .ok (.ifCond .eq 7, 3) := dk_153 0 7 (dk_at dksX3_test_4 20 rfl rfl)
theorem dX3_test_117 : decode cX3_test 117 = .ok (.iconst 3, 1) := dk_6 (dk_at dksX3_test_4 23 rfl rfl)
theorem dX3_test_118 : decode cX3_test 118 = .ok (.goto 4, 3) := dk_167 0 4 (dk_at dksX3_test_5 0 rfl rfl)
theorem dX3_test_121 : decode cX3_test 121 = .ok (.iconst 2, 1) := dk_5 (dk_at dksX3_test_5 3 rfl rfl)
theorem dX3_test_122 : decode cX3_test 122 = .ok (.iadd, 1) := dk_96 (dk_at dksX3_test_5 4 rfl rfl)
theorem dX3_test_123 : decode cX3_test 123 = .ok (.putfield 217, 3) := dk_181 0 217 (dk_at dksX3_test_5 5 rfl rfl)
theorem dX3_test_126 : decode cX3_test 126 = .ok (.iconst 1, 1) := dk_4 (dk_at dksX3_test_5 8 rfl rfl)
theorem dX3_test_127 : decode cX3_test 127 = .ok (.istore_n 1, 1) := dk_60 (dk_at dksX3_test_5 9 rfl rfl)
theorem dX3_test_128 : decode cX3_test 128 = .ok (.goto 71, 3) := dk_167 0 71 (dk_at dksX3_test_5 10 rfl rfl)
theorem dX3_test_131 : decode cX3_test 131 = .ok (.aload_n 0, 1) := dk_42 (dk_at dksX3_test_5 13 rfl rfl)
theorem dX3_test_132 : decode cX3_test 132 = .ok (.bipush 11, 2) := dk_16 11 (dk_at dksX3_test_5 14 rfl rfl)
theorem dX3_test_134 : decode cX3_test 134 = .ok (.invokevirtual 305, 3) := dk_182 1 49 (dk_at dksX3_test_5 16 rfl rfl)
theorem dX3_test_137 : decode cX3_test 137 = .ok (.aload_n 0, 1) := dk_42 (dk_at dksX3_test_5 19 rfl rfl)
theorem dX3_test_138 : decode cX3_test 138 = .ok (.invokevirtual 291, 3) := dk_182 1 35 (dk_at dksX3_test_5 20 rfl rfl)
theorem dX3_test_141 : decode cX3_test 141 = .ok (.bipush 12, 2) := dk_16 12 (dk_at dksX3_test_6 0 rfl rfl)
theorem dX3_test_143 : decode cX3_test 143 = .ok (.if_icmp .ne 54, 3) := dk_160 0 54 (dk_at dksX3_test_6 2 rfl rfl)
theorem dX3_test_146 : decode cX3_test 146 = .ok (.aload_n 0, 1) := dk_42 (dk_at dksX3_test_6 5 rfl rfl)
theorem dX3_test_147 : decode cX3_test 147 = .ok (.invokevirtual 220, 3) := dk_182 0 220 (dk_at dksX3_test_6 6 rfl rfl)
theorem dX3_test_150 : decode cX3_test 150 = .ok (.bipush 93, 2) := dk_16 93 (dk_at dksX3_test_6 9 rfl rfl)
theorem dX3_test_152 : decode cX3_test 152 = .ok (.if_icmp .eq 12, 3) := dk_159 0 12 (dk_at dksX3_test_6 11 rfl rfl)
theorem dX3_test_155 : decode cX3_test 155 = .ok (.aload_n 0, 1) := dk_42 (dk_at dksX3_test_6 14 rfl rfl)
theorem dX3_test_156 : decode cX3_test 156 = .ok (.iconst 0, 1) := dk_3 (dk_at dksX3_test_6 15 rfl rfl)
theorem dX3_test_157 : decode cX3_test 157 = .ok (.aload_n 0, 1) := dk_42 (dk_at dksX3_test_6 16 rfl rfl)
theorem dX3_test_158 : decode cX3_test 158 = .ok (.getfield 217, 3) := dk_180 0 217 (dk_at dksX3_test_6 17 rfl rfl)
theorem dX3_test_161 : decode cX3_test 161 = .ok (.invokevirtual 253, 3) := dk_182 0 253 (dk_at dksX3_test_6 20 rfl rfl)
theorem dX3_test_164 : decode cX3_test 164 = .ok (.aload_n 0, 1) := dk_42 (dk_at dksX3_test_6 23 rfl rfl)
theorem dX3_test_165 : decode cX3_test 165 = .ok (.dup, 1) := dk_89 (dk_at dksX3_test_7 0 rfl rfl)
theorem dX3_test_166 : decode cX3_test 166 = .ok (.getfield 217, 3) := dk_180 0 217 (dk_at dksX3_test_7 1 rfl rfl)
theorem dX3_test_169 : decode cX3_test 169 = .ok (.iconst 1, 1) := dk_4 (dk_at dksX3_test_7 4 rfl rfl)
theorem dX3_test_170 : decode cX3_test 170 = .ok (.iadd, 1) := dk_96 (dk_at dksX3_test_7 5 rfl rfl)
theorem dX3_test_171 : decode cX3_test 171 = .ok (.putfield 217, 3) := dk_181 0 217 (dk_at dksX3_test_7 6 rfl rfl)
theorem dX3_test_174 : decode cX3_test 174 = .ok (.aload_n 0, 1) := dk_42 (dk_at dksX3_test_7 9 rfl rfl)
theorem dX3_test_175 : decode cX3_test 175 = .ok (.dup, 1) := dk_89 (dk_at dksX3_test_7 10 rfl rfl)
theorem dX3_test_176 : decode cX3_test 176 = .ok (.getfield 285, 3) := dk_180 1 29 (dk_at dksX3_test_7 11 rfl rfl)
theorem dX3_test_179 : decode cX3_test 179 = .ok (.iconst 1, 1) := dk_4 (dk_at dksX3_test_7 14 rfl rfl)
theorem dX3_test_180 : decode cX3_test 180 = .ok (.isub, 1) := dk_100 (dk_at dksX3_test_7 15 rfl rfl)
theorem dX3_test_181 : decode cX3_test 181 = .ok (.putfield 285, 3) := dk_181 1 29 (dk_at dksX3_test_7 16 rfl rfl)
theorem dX3_test_184 : decode cX3_test 184 = .ok (.aload_n 0, 1) := dk_42 (dk_at dksX3_test_7 19 rfl rfl)
theorem dX3_test_185 : decode cX3_test 185 = .ok (.dup, 1) := dk_89 (dk_at dksX3_test_7 20 rfl rfl)
theorem dX3_test_186 : decode cX3_test 186 = .ok (.getfield 288, 3) := dk_180 1 32 (dk_at dksX3_test_7 21 rfl rfl)
theorem dX3_test_189 : decode cX3_test 189 = .ok (.iconst 1, 1) := dk_4 (dk_at dksX3_test_8 0 rfl rfl)
theorem dX3_test_190 : decode cX3_test 190 = .ok (.isub, 1) := dk_100 (dk_at dksX3_test_8 1 rfl rfl)
theorem dX3_test_191 : decode cX3_test 191 = .ok (.putfield 288, 3) := dk_181 1 32 (dk_at dksX3_test_8 2 rfl rfl)
theorem dX3_test_194 : decode cX3_test 194 = .ok (.goto 5, 3) := dk_167 0 5 (dk_at dksX3_test_8 5 rfl rfl)
theorem dX3_test_197 : decode cX3_test 197 = .ok (.iconst 0, 1) := dk_3 (dk_at dksX3_test_8 8 rfl rfl)
theorem dX3_test_198 : decode cX3_test 198 = .ok (.istore_n 2, 1) := dk_61 (dk_at dksX3_test_8 9 rfl rfl)
theorem dX3_test_199 : decode cX3_test 199 = .ok (.goto (-190), 3) := dk_167 255 66 (dk_at dksX3_test_8 10 rfl rfl)
theorem dX3_test_202 : decode cX3_test 202 = .ok (.return_, 1) := dk_177 (dk_at dksX3_test_8 13 rfl rfl)
abbrev cX3_fact : ByteArray := prog_17_method_32_code
def yX3_fact : MethodName := ⟨RX3, "fact", "()Z"⟩
def dkwX3_fact_2 : List UInt8 := [182, 1, 40, 42, 89, 180, 0, 217, 4, 96, 181, 0, 217, 3, 172, 42, 182, 1, 43, 4, 172]
abbrev dktX3_fact_2 : List UInt8 := dkwX3_fact_2 ++ []
def dkwX3_fact_1 : List UInt8 := [180, 0, 217, 6, 96, 181, 0, 217, 3, 172, 42, 182, 0, 220, 16, 91, 160, 0, 21, 42, 16, 12]
abbrev dktX3_fact_1 : List UInt8 := dkwX3_fact_1 ++ dktX3_fact_2
def dkwX3_fact_0 : List UInt8 := [42, 182, 0, 237, 42, 19, 1, 38, 182, 0, 240, 153, 0, 21, 42, 16, 9, 182, 1, 40, 42, 89]
abbrev dktX3_fact_0 : List UInt8 := dkwX3_fact_0 ++ dktX3_fact_1
theorem dksX3_fact_0 : cX3_fact.data.toList.drop 0 = dktX3_fact_0 := by decide +kernel
theorem dksX3_fact_1 : cX3_fact.data.toList.drop 22 = dktX3_fact_1 := dk_seg dksX3_fact_0 22 rfl rfl
theorem dksX3_fact_2 : cX3_fact.data.toList.drop 44 = dktX3_fact_2 := dk_seg dksX3_fact_1 22 rfl rfl
theorem dX3_fact_0 : decode cX3_fact 0 = .ok (.aload_n 0, 1) := dk_42 (dk_at dksX3_fact_0 0 rfl rfl)
theorem dX3_fact_1 : decode cX3_fact 1 = .ok (.invokevirtual 237, 3) := dk_182 0 237 (dk_at dksX3_fact_0 1 rfl rfl)
theorem dX3_fact_4 : decode cX3_fact 4 = .ok (.aload_n 0, 1) := dk_42 (dk_at dksX3_fact_0 4 rfl rfl)
theorem dX3_fact_5 : decode cX3_fact 5 = .ok (.ldc_w 294, 3) := dk_19 1 38 (dk_at dksX3_fact_0 5 rfl rfl)
theorem dX3_fact_8 : decode cX3_fact 8 = .ok (.invokevirtual 240, 3) := dk_182 0 240 (dk_at dksX3_fact_0 8 rfl rfl)
theorem dX3_fact_11 : decode cX3_fact 11 = .ok (.ifCond .eq 21, 3) := dk_153 0 21 (dk_at dksX3_fact_0 11 rfl rfl)
theorem dX3_fact_14 : decode cX3_fact 14 = .ok (.aload_n 0, 1) := dk_42 (dk_at dksX3_fact_0 14 rfl rfl)
theorem dX3_fact_15 : decode cX3_fact 15 = .ok (.bipush 9, 2) := dk_16 9 (dk_at dksX3_fact_0 15 rfl rfl)
theorem dX3_fact_17 : decode cX3_fact 17 = .ok (.invokevirtual 296, 3) := dk_182 1 40 (dk_at dksX3_fact_0 17 rfl rfl)
theorem dX3_fact_20 : decode cX3_fact 20 = .ok (.aload_n 0, 1) := dk_42 (dk_at dksX3_fact_0 20 rfl rfl)
theorem dX3_fact_21 : decode cX3_fact 21 = .ok (.dup, 1) := dk_89 (dk_at dksX3_fact_0 21 rfl rfl)
theorem dX3_fact_22 : decode cX3_fact 22 = .ok (.getfield 217, 3) := dk_180 0 217 (dk_at dksX3_fact_1 0 rfl rfl)
theorem dX3_fact_25 : decode cX3_fact 25 = .ok (.iconst 3, 1) := dk_6 (dk_at dksX3_fact_1 3 rfl rfl)
theorem dX3_fact_26 : decode cX3_fact 26 = .ok (.iadd, 1) := dk_96 (dk_at dksX3_fact_1 4 rfl rfl)
theorem dX3_fact_27 : decode cX3_fact 27 = .ok (.putfield 217, 3) := dk_181 0 217 (dk_at dksX3_fact_1 5 rfl rfl)
theorem dX3_fact_30 : decode cX3_fact 30 = .ok (.iconst 0, 1) := dk_3 (dk_at dksX3_fact_1 8 rfl rfl)
theorem dX3_fact_31 : decode cX3_fact 31 = .ok (.ireturn, 1) := dk_172 (dk_at dksX3_fact_1 9 rfl rfl)
theorem dX3_fact_32 : decode cX3_fact 32 = .ok (.aload_n 0, 1) := dk_42 (dk_at dksX3_fact_1 10 rfl rfl)
theorem dX3_fact_33 : decode cX3_fact 33 = .ok (.invokevirtual 220, 3) := dk_182 0 220 (dk_at dksX3_fact_1 11 rfl rfl)
theorem dX3_fact_36 : decode cX3_fact 36 = .ok (.bipush 91, 2) := dk_16 91 (dk_at dksX3_fact_1 14 rfl rfl)
theorem dX3_fact_38 : decode cX3_fact 38 = .ok (.if_icmp .ne 21, 3) := dk_160 0 21 (dk_at dksX3_fact_1 16 rfl rfl)
theorem dX3_fact_41 : decode cX3_fact 41 = .ok (.aload_n 0, 1) := dk_42 (dk_at dksX3_fact_1 19 rfl rfl)
theorem dX3_fact_42 : decode cX3_fact 42 = .ok (.bipush 12, 2) := dk_16 12 (dk_at dksX3_fact_1 20 rfl rfl)
theorem dX3_fact_44 : decode cX3_fact 44 = .ok (.invokevirtual 296, 3) := dk_182 1 40 (dk_at dksX3_fact_2 0 rfl rfl)
theorem dX3_fact_47 : decode cX3_fact 47 = .ok (.aload_n 0, 1) := dk_42 (dk_at dksX3_fact_2 3 rfl rfl)
theorem dX3_fact_48 : decode cX3_fact 48 = .ok (.dup, 1) := dk_89 (dk_at dksX3_fact_2 4 rfl rfl)
theorem dX3_fact_49 : decode cX3_fact 49 = .ok (.getfield 217, 3) := dk_180 0 217 (dk_at dksX3_fact_2 5 rfl rfl)
theorem dX3_fact_52 : decode cX3_fact 52 = .ok (.iconst 1, 1) := dk_4 (dk_at dksX3_fact_2 8 rfl rfl)
theorem dX3_fact_53 : decode cX3_fact 53 = .ok (.iadd, 1) := dk_96 (dk_at dksX3_fact_2 9 rfl rfl)
theorem dX3_fact_54 : decode cX3_fact 54 = .ok (.putfield 217, 3) := dk_181 0 217 (dk_at dksX3_fact_2 10 rfl rfl)
theorem dX3_fact_57 : decode cX3_fact 57 = .ok (.iconst 0, 1) := dk_3 (dk_at dksX3_fact_2 13 rfl rfl)
theorem dX3_fact_58 : decode cX3_fact 58 = .ok (.ireturn, 1) := dk_172 (dk_at dksX3_fact_2 14 rfl rfl)
theorem dX3_fact_59 : decode cX3_fact 59 = .ok (.aload_n 0, 1) := dk_42 (dk_at dksX3_fact_2 15 rfl rfl)
theorem dX3_fact_60 : decode cX3_fact 60 = .ok (.invokevirtual 299, 3) := dk_182 1 43 (dk_at dksX3_fact_2 16 rfl rfl)
theorem dX3_fact_63 : decode cX3_fact 63 = .ok (.iconst 1, 1) := dk_4 (dk_at dksX3_fact_2 19 rfl rfl)
theorem dX3_fact_64 : decode cX3_fact 64 = .ok (.ireturn, 1) := dk_172 (dk_at dksX3_fact_2 20 rfl rfl)
abbrev cX3_opens : ByteArray := prog_17_method_30_code
def yX3_opens : MethodName := ⟨RX3, "opens", "(I)V"⟩
def dkwX3_opens_2 : List UInt8 := [27, 79, 42, 89, 180, 1, 29, 4, 96, 181, 1, 29, 177]
abbrev dktX3_opens_2 : List UInt8 := dkwX3_opens_2 ++ []
def dkwX3_opens_1 : List UInt8 := [180, 0, 217, 182, 0, 253, 42, 89, 180, 1, 32, 4, 96, 181, 1, 32, 42, 180, 0, 114, 42, 180, 1, 29]
abbrev dktX3_opens_1 : List UInt8 := dkwX3_opens_1 ++ dktX3_opens_2
def dkwX3_opens_0 : List UInt8 := [27, 16, 9, 159, 0, 9, 27, 16, 12, 160, 0, 31, 42, 180, 1, 32, 16, 10, 160, 0, 12, 42, 5, 42]
abbrev dktX3_opens_0 : List UInt8 := dkwX3_opens_0 ++ dktX3_opens_1
theorem dksX3_opens_0 : cX3_opens.data.toList.drop 0 = dktX3_opens_0 := by decide +kernel
theorem dksX3_opens_1 : cX3_opens.data.toList.drop 24 = dktX3_opens_1 := dk_seg dksX3_opens_0 24 rfl rfl
theorem dksX3_opens_2 : cX3_opens.data.toList.drop 48 = dktX3_opens_2 := dk_seg dksX3_opens_1 24 rfl rfl
theorem dX3_opens_0 : decode cX3_opens 0 = .ok (.iload_n 1, 1) := dk_27 (dk_at dksX3_opens_0 0 rfl rfl)
theorem dX3_opens_1 : decode cX3_opens 1 = .ok (.bipush 9, 2) := dk_16 9 (dk_at dksX3_opens_0 1 rfl rfl)
theorem dX3_opens_3 : decode cX3_opens 3 = .ok (.if_icmp .eq 9, 3) := dk_159 0 9 (dk_at dksX3_opens_0 3 rfl rfl)
theorem dX3_opens_6 : decode cX3_opens 6 = .ok (.iload_n 1, 1) := dk_27 (dk_at dksX3_opens_0 6 rfl rfl)
theorem dX3_opens_7 : decode cX3_opens 7 = .ok (.bipush 12, 2) := dk_16 12 (dk_at dksX3_opens_0 7 rfl rfl)
theorem dX3_opens_9 : decode cX3_opens 9 = .ok (.if_icmp .ne 31, 3) := dk_160 0 31 (dk_at dksX3_opens_0 9 rfl rfl)
theorem dX3_opens_12 : decode cX3_opens 12 = .ok (.aload_n 0, 1) := dk_42 (dk_at dksX3_opens_0 12 rfl rfl)
theorem dX3_opens_13 : decode cX3_opens 13 = .ok (.getfield 288, 3) := dk_180 1 32 (dk_at dksX3_opens_0 13 rfl rfl)
theorem dX3_opens_16 : decode cX3_opens 16 = .ok (.bipush 10, 2) := dk_16 10 (dk_at dksX3_opens_0 16 rfl rfl)
theorem dX3_opens_18 : decode cX3_opens 18 = .ok (.if_icmp .ne 12, 3) := dk_160 0 12 (dk_at dksX3_opens_0 18 rfl rfl)
theorem dX3_opens_21 : decode cX3_opens 21 = .ok (.aload_n 0, 1) := dk_42 (dk_at dksX3_opens_0 21 rfl rfl)
theorem dX3_opens_22 : decode cX3_opens 22 = .ok (.iconst 2, 1) := dk_5 (dk_at dksX3_opens_0 22 rfl rfl)
theorem dX3_opens_23 : decode cX3_opens 23 = .ok (.aload_n 0, 1) := dk_42 (dk_at dksX3_opens_0 23 rfl rfl)
theorem dX3_opens_24 : decode cX3_opens 24 = .ok (.getfield 217, 3) := dk_180 0 217 (dk_at dksX3_opens_1 0 rfl rfl)
theorem dX3_opens_27 : decode cX3_opens 27 = .ok (.invokevirtual 253, 3) := dk_182 0 253 (dk_at dksX3_opens_1 3 rfl rfl)
theorem dX3_opens_30 : decode cX3_opens 30 = .ok (.aload_n 0, 1) := dk_42 (dk_at dksX3_opens_1 6 rfl rfl)
theorem dX3_opens_31 : decode cX3_opens 31 = .ok (.dup, 1) := dk_89 (dk_at dksX3_opens_1 7 rfl rfl)
theorem dX3_opens_32 : decode cX3_opens 32 = .ok (.getfield 288, 3) := dk_180 1 32 (dk_at dksX3_opens_1 8 rfl rfl)
theorem dX3_opens_35 : decode cX3_opens 35 = .ok (.iconst 1, 1) := dk_4 (dk_at dksX3_opens_1 11 rfl rfl)
theorem dX3_opens_36 : decode cX3_opens 36 = .ok (.iadd, 1) := dk_96 (dk_at dksX3_opens_1 12 rfl rfl)
theorem dX3_opens_37 : decode cX3_opens 37 = .ok (.putfield 288, 3) := dk_181 1 32 (dk_at dksX3_opens_1 13 rfl rfl)
theorem dX3_opens_40 : decode cX3_opens 40 = .ok (.aload_n 0, 1) := dk_42 (dk_at dksX3_opens_1 16 rfl rfl)
theorem dX3_opens_41 : decode cX3_opens 41 = .ok (.getfield 114, 3) := dk_180 0 114 (dk_at dksX3_opens_1 17 rfl rfl)
theorem dX3_opens_44 : decode cX3_opens 44 = .ok (.aload_n 0, 1) := dk_42 (dk_at dksX3_opens_1 20 rfl rfl)
theorem dX3_opens_45 : decode cX3_opens 45 = .ok (.getfield 285, 3) := dk_180 1 29 (dk_at dksX3_opens_1 21 rfl rfl)
theorem dX3_opens_48 : decode cX3_opens 48 = .ok (.iload_n 1, 1) := dk_27 (dk_at dksX3_opens_2 0 rfl rfl)
theorem dX3_opens_49 : decode cX3_opens 49 = .ok (.iastore, 1) := dk_79 (dk_at dksX3_opens_2 1 rfl rfl)
theorem dX3_opens_50 : decode cX3_opens 50 = .ok (.aload_n 0, 1) := dk_42 (dk_at dksX3_opens_2 2 rfl rfl)
theorem dX3_opens_51 : decode cX3_opens 51 = .ok (.dup, 1) := dk_89 (dk_at dksX3_opens_2 3 rfl rfl)
theorem dX3_opens_52 : decode cX3_opens 52 = .ok (.getfield 285, 3) := dk_180 1 29 (dk_at dksX3_opens_2 4 rfl rfl)
theorem dX3_opens_55 : decode cX3_opens 55 = .ok (.iconst 1, 1) := dk_4 (dk_at dksX3_opens_2 7 rfl rfl)
theorem dX3_opens_56 : decode cX3_opens 56 = .ok (.iadd, 1) := dk_96 (dk_at dksX3_opens_2 8 rfl rfl)
theorem dX3_opens_57 : decode cX3_opens 57 = .ok (.putfield 285, 3) := dk_181 1 29 (dk_at dksX3_opens_2 9 rfl rfl)
theorem dX3_opens_60 : decode cX3_opens 60 = .ok (.return_, 1) := dk_177 (dk_at dksX3_opens_2 12 rfl rfl)
abbrev cX3_compared : ByteArray := prog_17_method_28_code
def yX3_compared : MethodName := ⟨RX3, "compared", "()V"⟩
def dkwX3_compared_6 : List UInt8 := [182, 1, 13, 177]
abbrev dktX3_compared_6 : List UInt8 := dkwX3_compared_6 ++ []
def dkwX3_compared_5 : List UInt8 := [153, 0, 7, 8, 167, 0, 18, 7, 167, 0, 14, 28, 153, 0, 8, 16, 7, 167, 0, 5, 16, 8, 3]
abbrev dktX3_compared_5 : List UInt8 := dkwX3_compared_5 ++ dktX3_compared_6
def dkwX3_compared_4 : List UInt8 := [182, 1, 26, 42, 27, 16, 61, 160, 0, 8, 16, 6, 167, 0, 32, 27, 16, 60, 160, 0, 15, 28]
abbrev dktX3_compared_4 : List UInt8 := dkwX3_compared_4 ++ dktX3_compared_5
def dkwX3_compared_3 : List UInt8 := [167, 0, 4, 3, 61, 42, 89, 180, 0, 217, 28, 153, 0, 7, 4, 167, 0, 4, 3, 96, 181, 0, 217, 42]
abbrev dktX3_compared_3 : List UInt8 := dkwX3_compared_3 ++ dktX3_compared_4
def dkwX3_compared_2 : List UInt8 := [180, 0, 217, 4, 96, 181, 0, 217, 27, 16, 61, 159, 0, 16, 42, 182, 0, 220, 16, 61, 160, 0, 7, 4]
abbrev dktX3_compared_2 : List UInt8 := dkwX3_compared_2 ++ dktX3_compared_3
def dkwX3_compared_1 : List UInt8 := [159, 0, 13, 42, 3, 42, 180, 0, 217, 182, 0, 253, 177, 42, 42, 180, 0, 217, 182, 1, 10, 42, 89]
abbrev dktX3_compared_1 : List UInt8 := dkwX3_compared_1 ++ dktX3_compared_2
def dkwX3_compared_0 : List UInt8 := [42, 182, 1, 26, 42, 182, 0, 220, 60, 27, 16, 60, 159, 0, 25, 27, 16, 61, 159, 0, 19, 27, 16, 62]
abbrev dktX3_compared_0 : List UInt8 := dkwX3_compared_0 ++ dktX3_compared_1
theorem dksX3_compared_0 : cX3_compared.data.toList.drop 0 = dktX3_compared_0 := by decide +kernel
theorem dksX3_compared_1 : cX3_compared.data.toList.drop 24 = dktX3_compared_1 := dk_seg dksX3_compared_0 24 rfl rfl
theorem dksX3_compared_2 : cX3_compared.data.toList.drop 47 = dktX3_compared_2 := dk_seg dksX3_compared_1 23 rfl rfl
theorem dksX3_compared_3 : cX3_compared.data.toList.drop 71 = dktX3_compared_3 := dk_seg dksX3_compared_2 24 rfl rfl
theorem dksX3_compared_4 : cX3_compared.data.toList.drop 95 = dktX3_compared_4 := dk_seg dksX3_compared_3 24 rfl rfl
theorem dksX3_compared_5 : cX3_compared.data.toList.drop 117 = dktX3_compared_5 := dk_seg dksX3_compared_4 22 rfl rfl
theorem dksX3_compared_6 : cX3_compared.data.toList.drop 140 = dktX3_compared_6 := dk_seg dksX3_compared_5 23 rfl rfl
theorem dX3_compared_0 : decode cX3_compared 0 = .ok (.aload_n 0, 1) := dk_42 (dk_at dksX3_compared_0 0 rfl rfl)
theorem dX3_compared_1 : decode cX3_compared 1 = .ok (.invokevirtual 282, 3) := dk_182 1 26 (dk_at dksX3_compared_0 1 rfl rfl)
theorem dX3_compared_4 : decode cX3_compared 4 = .ok (.aload_n 0, 1) := dk_42 (dk_at dksX3_compared_0 4 rfl rfl)
theorem dX3_compared_5 : decode cX3_compared 5 = .ok (.invokevirtual 220, 3) := dk_182 0 220 (dk_at dksX3_compared_0 5 rfl rfl)
theorem dX3_compared_8 : decode cX3_compared 8 = .ok (.istore_n 1, 1) := dk_60 (dk_at dksX3_compared_0 8 rfl rfl)
theorem dX3_compared_9 : decode cX3_compared 9 = .ok (.iload_n 1, 1) := dk_27 (dk_at dksX3_compared_0 9 rfl rfl)
theorem dX3_compared_10 : decode cX3_compared 10 = .ok (.bipush 60, 2) := dk_16 60 (dk_at dksX3_compared_0 10 rfl rfl)
theorem dX3_compared_12 : decode cX3_compared 12 = .ok (.if_icmp .eq 25, 3) := dk_159 0 25 (dk_at dksX3_compared_0 12 rfl rfl)
theorem dX3_compared_15 : decode cX3_compared 15 = .ok (.iload_n 1, 1) := dk_27 (dk_at dksX3_compared_0 15 rfl rfl)
theorem dX3_compared_16 : decode cX3_compared 16 = .ok (.bipush 61, 2) := dk_16 61 (dk_at dksX3_compared_0 16 rfl rfl)
theorem dX3_compared_18 : decode cX3_compared 18 = .ok (.if_icmp .eq 19, 3) := dk_159 0 19 (dk_at dksX3_compared_0 18 rfl rfl)
theorem dX3_compared_21 : decode cX3_compared 21 = .ok (.iload_n 1, 1) := dk_27 (dk_at dksX3_compared_0 21 rfl rfl)
theorem dX3_compared_22 : decode cX3_compared 22 = .ok (.bipush 62, 2) := dk_16 62 (dk_at dksX3_compared_0 22 rfl rfl)
theorem dX3_compared_24 : decode cX3_compared 24 = .ok (.if_icmp .eq 13, 3) := dk_159 0 13 (dk_at dksX3_compared_1 0 rfl rfl)
theorem dX3_compared_27 : decode cX3_compared 27 = .ok (.aload_n 0, 1) := dk_42 (dk_at dksX3_compared_1 3 rfl rfl)
theorem dX3_compared_28 : decode cX3_compared 28 = .ok (.iconst 0, 1) := dk_3 (dk_at dksX3_compared_1 4 rfl rfl)
theorem dX3_compared_29 : decode cX3_compared 29 = .ok (.aload_n 0, 1) := dk_42 (dk_at dksX3_compared_1 5 rfl rfl)
theorem dX3_compared_30 : decode cX3_compared 30 = .ok (.getfield 217, 3) := dk_180 0 217 (dk_at dksX3_compared_1 6 rfl rfl)
theorem dX3_compared_33 : decode cX3_compared 33 = .ok (.invokevirtual 253, 3) := dk_182 0 253 (dk_at dksX3_compared_1 9 rfl rfl)
theorem dX3_compared_36 : decode cX3_compared 36 = .ok (.return_, 1) := dk_177 (dk_at dksX3_compared_1 12 rfl rfl)
theorem dX3_compared_37 : decode cX3_compared 37 = .ok (.aload_n 0, 1) := dk_42 (dk_at dksX3_compared_1 13 rfl rfl)
theorem dX3_compared_38 : decode cX3_compared 38 = .ok (.aload_n 0, 1) := dk_42 (dk_at dksX3_compared_1 14 rfl rfl)
theorem dX3_compared_39 : decode cX3_compared 39 = .ok (.getfield 217, 3) := dk_180 0 217 (dk_at dksX3_compared_1 15 rfl rfl)
theorem dX3_compared_42 : decode cX3_compared 42 = .ok (.invokevirtual 266, 3) := dk_182 1 10 (dk_at dksX3_compared_1 18 rfl rfl)
theorem dX3_compared_45 : decode cX3_compared 45 = .ok (.aload_n 0, 1) := dk_42 (dk_at dksX3_compared_1 21 rfl rfl)
theorem dX3_compared_46 : decode cX3_compared 46 = .ok (.dup, 1) := dk_89 (dk_at dksX3_compared_1 22 rfl rfl)
theorem dX3_compared_47 : decode cX3_compared 47 = .ok (.getfield 217, 3) := dk_180 0 217 (dk_at dksX3_compared_2 0 rfl rfl)
theorem dX3_compared_50 : decode cX3_compared 50 = .ok (.iconst 1, 1) := dk_4 (dk_at dksX3_compared_2 3 rfl rfl)
theorem dX3_compared_51 : decode cX3_compared 51 = .ok (.iadd, 1) := dk_96 (dk_at dksX3_compared_2 4 rfl rfl)
theorem dX3_compared_52 : decode cX3_compared 52 = .ok (.putfield 217, 3) := dk_181 0 217 (dk_at dksX3_compared_2 5 rfl rfl)
theorem dX3_compared_55 : decode cX3_compared 55 = .ok (.iload_n 1, 1) := dk_27 (dk_at dksX3_compared_2 8 rfl rfl)
theorem dX3_compared_56 : decode cX3_compared 56 = .ok (.bipush 61, 2) := dk_16 61 (dk_at dksX3_compared_2 9 rfl rfl)
theorem dX3_compared_58 : decode cX3_compared 58 = .ok (.if_icmp .eq 16, 3) := dk_159 0 16 (dk_at dksX3_compared_2 11 rfl rfl)
theorem dX3_compared_61 : decode cX3_compared 61 = .ok (.aload_n 0, 1) := dk_42 (dk_at dksX3_compared_2 14 rfl rfl)
theorem dX3_compared_62 : decode cX3_compared 62 = .ok (.invokevirtual 220, 3) := dk_182 0 220 (dk_at dksX3_compared_2 15 rfl rfl)
theorem dX3_compared_65 : decode cX3_compared 65 = .ok (.bipush 61, 2) := dk_16 61 (dk_at dksX3_compared_2 18 rfl rfl)
theorem dX3_compared_67 : decode cX3_compared 67 = .ok (.if_icmp .ne 7, 3) := dk_160 0 7 (dk_at dksX3_compared_2 20 rfl rfl)
theorem dX3_compared_70 : decode cX3_compared 70 = .ok (.iconst 1, 1) := dk_4 (dk_at dksX3_compared_2 23 rfl rfl)
theorem dX3_compared_71 : decode cX3_compared 71 = .ok (.goto 4, 3) := dk_167 0 4 (dk_at dksX3_compared_3 0 rfl rfl)
theorem dX3_compared_74 : decode cX3_compared 74 = .ok (.iconst 0, 1) := dk_3 (dk_at dksX3_compared_3 3 rfl rfl)
theorem dX3_compared_75 : decode cX3_compared 75 = .ok (.istore_n 2, 1) := dk_61 (dk_at dksX3_compared_3 4 rfl rfl)
theorem dX3_compared_76 : decode cX3_compared 76 = .ok (.aload_n 0, 1) := dk_42 (dk_at dksX3_compared_3 5 rfl rfl)
theorem dX3_compared_77 : decode cX3_compared 77 = .ok (.dup, 1) := dk_89 (dk_at dksX3_compared_3 6 rfl rfl)
theorem dX3_compared_78 : decode cX3_compared 78 = .ok (.getfield 217, 3) := dk_180 0 217 (dk_at dksX3_compared_3 7 rfl rfl)
theorem dX3_compared_81 : decode cX3_compared 81 = .ok (.iload_n 2, 1) := dk_28 (dk_at dksX3_compared_3 10 rfl rfl)
theorem dX3_compared_82 : decode cX3_compared 82 = .ok (.ifCond .eq 7, 3) := dk_153 0 7 (dk_at dksX3_compared_3 11 rfl rfl)
theorem dX3_compared_85 : decode cX3_compared 85 = .ok (.iconst 1, 1) := dk_4 (dk_at dksX3_compared_3 14 rfl rfl)
theorem dX3_compared_86 : decode cX3_compared 86 = .ok (.goto 4, 3) := dk_167 0 4 (dk_at dksX3_compared_3 15 rfl rfl)
theorem dX3_compared_89 : decode cX3_compared 89 = .ok (.iconst 0, 1) := dk_3 (dk_at dksX3_compared_3 18 rfl rfl)
theorem dX3_compared_90 : decode cX3_compared 90 = .ok (.iadd, 1) := dk_96 (dk_at dksX3_compared_3 19 rfl rfl)
theorem dX3_compared_91 : decode cX3_compared 91 = .ok (.putfield 217, 3) := dk_181 0 217 (dk_at dksX3_compared_3 20 rfl rfl)
theorem dX3_compared_94 : decode cX3_compared 94 = .ok (.aload_n 0, 1) := dk_42 (dk_at dksX3_compared_3 23 rfl rfl)
theorem dX3_compared_95 : decode cX3_compared 95 = .ok (.invokevirtual 282, 3) := dk_182 1 26 (dk_at dksX3_compared_4 0 rfl rfl)
theorem dX3_compared_98 : decode cX3_compared 98 = .ok (.aload_n 0, 1) := dk_42 (dk_at dksX3_compared_4 3 rfl rfl)
theorem dX3_compared_99 : decode cX3_compared 99 = .ok (.iload_n 1, 1) := dk_27 (dk_at dksX3_compared_4 4 rfl rfl)
theorem dX3_compared_100 : decode cX3_compared 100 = .ok (.bipush 61, 2) := dk_16 61 (dk_at dksX3_compared_4 5 rfl rfl)
theorem dX3_compared_102 : decode cX3_compared 102 = .ok (.if_icmp .ne 8, 3) := dk_160 0 8 (dk_at dksX3_compared_4 7 rfl rfl)
theorem dX3_compared_105 : decode cX3_compared 105 = .ok (.bipush 6, 2) := dk_16 6 (dk_at dksX3_compared_4 10 rfl rfl)
theorem dX3_compared_107 : decode cX3_compared 107 = .ok (.goto 32, 3) := dk_167 0 32 (dk_at dksX3_compared_4 12 rfl rfl)
theorem dX3_compared_110 : decode cX3_compared 110 = .ok (.iload_n 1, 1) := dk_27 (dk_at dksX3_compared_4 15 rfl rfl)
theorem dX3_compared_111 : decode cX3_compared 111 = .ok (.bipush 60, 2) := dk_16 60 (dk_at dksX3_compared_4 16 rfl rfl)
theorem dX3_compared_113 : decode cX3_compared 113 = .ok (.if_icmp .ne 15, 3) := dk_160 0 15 (dk_at dksX3_compared_4 18 rfl rfl)
theorem dX3_compared_116 : decode cX3_compared 116 = .ok (.iload_n 2, 1) := dk_28 (dk_at dksX3_compared_4 21 rfl rfl)
theorem dX3_compared_117 : decode cX3_compared 117 = .ok (.ifCond .eq 7, 3) := dk_153 0 7 (dk_at dksX3_compared_5 0 rfl rfl)
theorem dX3_compared_120 : decode cX3_compared 120 = .ok (.iconst 5, 1) := dk_8 (dk_at dksX3_compared_5 3 rfl rfl)
theorem dX3_compared_121 : decode cX3_compared 121 = .ok (.goto 18, 3) := dk_167 0 18 (dk_at dksX3_compared_5 4 rfl rfl)
theorem dX3_compared_124 : decode cX3_compared 124 = .ok (.iconst 4, 1) := dk_7 (dk_at dksX3_compared_5 7 rfl rfl)
theorem dX3_compared_125 : decode cX3_compared 125 = .ok (.goto 14, 3) := dk_167 0 14 (dk_at dksX3_compared_5 8 rfl rfl)
theorem dX3_compared_128 : decode cX3_compared 128 = .ok (.iload_n 2, 1) := dk_28 (dk_at dksX3_compared_5 11 rfl rfl)
theorem dX3_compared_129 : decode cX3_compared 129 = .ok (.ifCond .eq 8, 3) := dk_153 0 8 (dk_at dksX3_compared_5 12 rfl rfl)
theorem dX3_compared_132 : decode cX3_compared 132 = .ok (.bipush 7, 2) := dk_16 7 (dk_at dksX3_compared_5 15 rfl rfl)
theorem dX3_compared_134 : decode cX3_compared 134 = .ok (.goto 5, 3) := dk_167 0 5 (dk_at dksX3_compared_5 17 rfl rfl)
theorem dX3_compared_137 : decode cX3_compared 137 = .ok (.bipush 8, 2) := dk_16 8 (dk_at dksX3_compared_5 20 rfl rfl)
theorem dX3_compared_139 : decode cX3_compared 139 = .ok (.iconst 0, 1) := dk_3 (dk_at dksX3_compared_5 22 rfl rfl)
theorem dX3_compared_140 : decode cX3_compared 140 = .ok (.invokevirtual 269, 3) := dk_182 1 13 (dk_at dksX3_compared_6 0 rfl rfl)
theorem dX3_compared_143 : decode cX3_compared 143 = .ok (.return_, 1) := dk_177 (dk_at dksX3_compared_6 3 rfl rfl)
abbrev cX3_answers : ByteArray := prog_17_method_31_code
def yX3_answers : MethodName := ⟨RX3, "answers", "(I)V"⟩
def dkwX3_answers_2 : List UInt8 := [100, 181, 1, 32, 167, 255, 205, 177]
abbrev dktX3_answers_2 : List UInt8 := dkwX3_answers_2 ++ []
def dkwX3_answers_1 : List UInt8 := [180, 1, 29, 4, 100, 181, 1, 29, 42, 89, 180, 1, 32, 27, 16, 9, 160, 0, 7, 4, 167, 0, 4, 3]
abbrev dktX3_answers_1 : List UInt8 := dkwX3_answers_1 ++ dktX3_answers_2
def dkwX3_answers_0 : List UInt8 := [42, 182, 1, 35, 27, 160, 0, 49, 42, 180, 0, 214, 154, 0, 42, 42, 27, 3, 182, 1, 13, 42, 89]
abbrev dktX3_answers_0 : List UInt8 := dkwX3_answers_0 ++ dktX3_answers_1
theorem dksX3_answers_0 : cX3_answers.data.toList.drop 0 = dktX3_answers_0 := by decide +kernel
theorem dksX3_answers_1 : cX3_answers.data.toList.drop 23 = dktX3_answers_1 := dk_seg dksX3_answers_0 23 rfl rfl
theorem dksX3_answers_2 : cX3_answers.data.toList.drop 47 = dktX3_answers_2 := dk_seg dksX3_answers_1 24 rfl rfl
theorem dX3_answers_0 : decode cX3_answers 0 = .ok (.aload_n 0, 1) := dk_42 (dk_at dksX3_answers_0 0 rfl rfl)
theorem dX3_answers_1 : decode cX3_answers 1 = .ok (.invokevirtual 291, 3) := dk_182 1 35 (dk_at dksX3_answers_0 1 rfl rfl)
theorem dX3_answers_4 : decode cX3_answers 4 = .ok (.iload_n 1, 1) := dk_27 (dk_at dksX3_answers_0 4 rfl rfl)
theorem dX3_answers_5 : decode cX3_answers 5 = .ok (.if_icmp .ne 49, 3) := dk_160 0 49 (dk_at dksX3_answers_0 5 rfl rfl)
theorem dX3_answers_8 : decode cX3_answers 8 = .ok (.aload_n 0, 1) := dk_42 (dk_at dksX3_answers_0 8 rfl rfl)
theorem dX3_answers_9 : decode cX3_answers 9 = .ok (.getfield 214, 3) := dk_180 0 214 (dk_at dksX3_answers_0 9 rfl rfl)
theorem dX3_answers_12 : decode cX3_answers 12 = .ok (.ifCond .ne 42, 3) := dk_154 0 42 (dk_at dksX3_answers_0 12 rfl rfl)
theorem dX3_answers_15 : decode cX3_answers 15 = .ok (.aload_n 0, 1) := dk_42 (dk_at dksX3_answers_0 15 rfl rfl)
theorem dX3_answers_16 : decode cX3_answers 16 = .ok (.iload_n 1, 1) := dk_27 (dk_at dksX3_answers_0 16 rfl rfl)
theorem dX3_answers_17 : decode cX3_answers 17 = .ok (.iconst 0, 1) := dk_3 (dk_at dksX3_answers_0 17 rfl rfl)
theorem dX3_answers_18 : decode cX3_answers 18 = .ok (.invokevirtual 269, 3) := dk_182 1 13 (dk_at dksX3_answers_0 18 rfl rfl)
theorem dX3_answers_21 : decode cX3_answers 21 = .ok (.aload_n 0, 1) := dk_42 (dk_at dksX3_answers_0 21 rfl rfl)
theorem dX3_answers_22 : decode cX3_answers 22 = .ok (.dup, 1) := dk_89 (dk_at dksX3_answers_0 22 rfl rfl)
theorem dX3_answers_23 : decode cX3_answers 23 = .ok (.getfield 285, 3) := dk_180 1 29 (dk_at dksX3_answers_1 0 rfl rfl)
theorem dX3_answers_26 : decode cX3_answers 26 = .ok (.iconst 1, 1) := dk_4 (dk_at dksX3_answers_1 3 rfl rfl)
theorem dX3_answers_27 : decode cX3_answers 27 = .ok (.isub, 1) := dk_100 (dk_at dksX3_answers_1 4 rfl rfl)
theorem dX3_answers_28 : decode cX3_answers 28 = .ok (.putfield 285, 3) := dk_181 1 29 (dk_at dksX3_answers_1 5 rfl rfl)
theorem dX3_answers_31 : decode cX3_answers 31 = .ok (.aload_n 0, 1) := dk_42 (dk_at dksX3_answers_1 8 rfl rfl)
theorem dX3_answers_32 : decode cX3_answers 32 = .ok (.dup, 1) := dk_89 (dk_at dksX3_answers_1 9 rfl rfl)
theorem dX3_answers_33 : decode cX3_answers 33 = .ok (.getfield 288, 3) := dk_180 1 32 (dk_at dksX3_answers_1 10 rfl rfl)
theorem dX3_answers_36 : decode cX3_answers 36 = .ok (.iload_n 1, 1) := dk_27 (dk_at dksX3_answers_1 13 rfl rfl)
theorem dX3_answers_37 : decode cX3_answers 37 = .ok (.bipush 9, 2) := dk_16 9 (dk_at dksX3_answers_1 14 rfl rfl)
theorem dX3_answers_39 : decode cX3_answers 39 = .ok (.if_icmp .ne 7, 3) := dk_160 0 7 (dk_at dksX3_answers_1 16 rfl rfl)
theorem dX3_answers_42 : decode cX3_answers 42 = .ok (.iconst 1, 1) := dk_4 (dk_at dksX3_answers_1 19 rfl rfl)
theorem dX3_answers_43 : decode cX3_answers 43 = .ok (.goto 4, 3) := dk_167 0 4 (dk_at dksX3_answers_1 20 rfl rfl)
theorem dX3_answers_46 : decode cX3_answers 46 = .ok (.iconst 0, 1) := dk_3 (dk_at dksX3_answers_1 23 rfl rfl)
theorem dX3_answers_47 : decode cX3_answers 47 = .ok (.isub, 1) := dk_100 (dk_at dksX3_answers_2 0 rfl rfl)
theorem dX3_answers_48 : decode cX3_answers 48 = .ok (.putfield 288, 3) := dk_181 1 32 (dk_at dksX3_answers_2 1 rfl rfl)
theorem dX3_answers_51 : decode cX3_answers 51 = .ok (.goto (-51), 3) := dk_167 255 205 (dk_at dksX3_answers_2 4 rfl rfl)
theorem dX3_answers_54 : decode cX3_answers 54 = .ok (.return_, 1) := dk_177 (dk_at dksX3_answers_2 7 rfl rfl)
abbrev cX3_top : ByteArray := prog_17_method_29_code
def yX3_top : MethodName := ⟨RX3, "top", "()I"⟩
def dkwX3_top_0 : List UInt8 := [42, 180, 1, 29, 154, 0, 7, 2, 167, 0, 14, 42, 180, 0, 114, 42, 180, 1, 29, 4, 100, 46, 172]
abbrev dktX3_top_0 : List UInt8 := dkwX3_top_0 ++ []
theorem dksX3_top_0 : cX3_top.data.toList.drop 0 = dktX3_top_0 := by decide +kernel
theorem dX3_top_0 : decode cX3_top 0 = .ok (.aload_n 0, 1) := dk_42 (dk_at dksX3_top_0 0 rfl rfl)
theorem dX3_top_1 : decode cX3_top 1 = .ok (.getfield 285, 3) := dk_180 1 29 (dk_at dksX3_top_0 1 rfl rfl)
theorem dX3_top_4 : decode cX3_top 4 = .ok (.ifCond .ne 7, 3) := dk_154 0 7 (dk_at dksX3_top_0 4 rfl rfl)
theorem dX3_top_7 : decode cX3_top 7 = .ok (.iconst (-1), 1) := dk_2 (dk_at dksX3_top_0 7 rfl rfl)
theorem dX3_top_8 : decode cX3_top 8 = .ok (.goto 14, 3) := dk_167 0 14 (dk_at dksX3_top_0 8 rfl rfl)
theorem dX3_top_11 : decode cX3_top 11 = .ok (.aload_n 0, 1) := dk_42 (dk_at dksX3_top_0 11 rfl rfl)
theorem dX3_top_12 : decode cX3_top 12 = .ok (.getfield 114, 3) := dk_180 0 114 (dk_at dksX3_top_0 12 rfl rfl)
theorem dX3_top_15 : decode cX3_top 15 = .ok (.aload_n 0, 1) := dk_42 (dk_at dksX3_top_0 15 rfl rfl)
theorem dX3_top_16 : decode cX3_top 16 = .ok (.getfield 285, 3) := dk_180 1 29 (dk_at dksX3_top_0 16 rfl rfl)
theorem dX3_top_19 : decode cX3_top 19 = .ok (.iconst 1, 1) := dk_4 (dk_at dksX3_top_0 19 rfl rfl)
theorem dX3_top_20 : decode cX3_top 20 = .ok (.isub, 1) := dk_100 (dk_at dksX3_top_0 20 rfl rfl)
theorem dX3_top_21 : decode cX3_top 21 = .ok (.iaload, 1) := dk_46 (dk_at dksX3_top_0 21 rfl rfl)
theorem dX3_top_22 : decode cX3_top 22 = .ok (.ireturn, 1) := dk_172 (dk_at dksX3_top_0 22 rfl rfl)
abbrev cX3_force : ByteArray := prog_17_method_50_code
def yX3_force : MethodName := ⟨RX3, "force", "(I)I"⟩
def dkwX3_force_1 : List UInt8 := [180, 0, 9, 16, 8, 46, 61, 42, 180, 0, 9, 16, 8, 27, 79, 28, 172]
abbrev dktX3_force_1 : List UInt8 := dkwX3_force_1 ++ []
def dkwX3_force_0 : List UInt8 := [27, 133, 20, 1, 124, 42, 180, 1, 118, 4, 100, 133, 184, 0, 170, 154, 0, 6, 16, 254, 172, 42]
abbrev dktX3_force_0 : List UInt8 := dkwX3_force_0 ++ dktX3_force_1
theorem dksX3_force_0 : cX3_force.data.toList.drop 0 = dktX3_force_0 := by decide +kernel
theorem dksX3_force_1 : cX3_force.data.toList.drop 22 = dktX3_force_1 := dk_seg dksX3_force_0 22 rfl rfl
theorem dX3_force_0 : decode cX3_force 0 = .ok (.iload_n 1, 1) := dk_27 (dk_at dksX3_force_0 0 rfl rfl)
theorem dX3_force_1 : decode cX3_force 1 = .ok (.i2l, 1) := dk_133 (dk_at dksX3_force_0 1 rfl rfl)
theorem dX3_force_2 : decode cX3_force 2 = .ok (.ldc2_w 380, 3) := dk_20 1 124 (dk_at dksX3_force_0 2 rfl rfl)
theorem dX3_force_5 : decode cX3_force 5 = .ok (.aload_n 0, 1) := dk_42 (dk_at dksX3_force_0 5 rfl rfl)
theorem dX3_force_6 : decode cX3_force 6 = .ok (.getfield 374, 3) := dk_180 1 118 (dk_at dksX3_force_0 6 rfl rfl)
theorem dX3_force_9 : decode cX3_force 9 = .ok (.iconst 1, 1) := dk_4 (dk_at dksX3_force_0 9 rfl rfl)
theorem dX3_force_10 : decode cX3_force 10 = .ok (.isub, 1) := dk_100 (dk_at dksX3_force_0 10 rfl rfl)
theorem dX3_force_11 : decode cX3_force 11 = .ok (.i2l, 1) := dk_133 (dk_at dksX3_force_0 11 rfl rfl)
theorem dX3_force_12 : decode cX3_force 12 = .ok (.invokestatic 170, 3) := dk_184 0 170 (dk_at dksX3_force_0 12 rfl rfl)
theorem dX3_force_15 : decode cX3_force 15 = .ok (.ifCond .ne 6, 3) := dk_154 0 6 (dk_at dksX3_force_0 15 rfl rfl)
theorem dX3_force_18 : decode cX3_force 18 = .ok (.bipush (-2), 2) := dk_16 254 (dk_at dksX3_force_0 18 rfl rfl)
theorem dX3_force_20 : decode cX3_force 20 = .ok (.ireturn, 1) := dk_172 (dk_at dksX3_force_0 20 rfl rfl)
theorem dX3_force_21 : decode cX3_force 21 = .ok (.aload_n 0, 1) := dk_42 (dk_at dksX3_force_0 21 rfl rfl)
theorem dX3_force_22 : decode cX3_force 22 = .ok (.getfield 9, 3) := dk_180 0 9 (dk_at dksX3_force_1 0 rfl rfl)
theorem dX3_force_25 : decode cX3_force 25 = .ok (.bipush 8, 2) := dk_16 8 (dk_at dksX3_force_1 3 rfl rfl)
theorem dX3_force_27 : decode cX3_force 27 = .ok (.iaload, 1) := dk_46 (dk_at dksX3_force_1 5 rfl rfl)
theorem dX3_force_28 : decode cX3_force 28 = .ok (.istore_n 2, 1) := dk_61 (dk_at dksX3_force_1 6 rfl rfl)
theorem dX3_force_29 : decode cX3_force 29 = .ok (.aload_n 0, 1) := dk_42 (dk_at dksX3_force_1 7 rfl rfl)
theorem dX3_force_30 : decode cX3_force 30 = .ok (.getfield 9, 3) := dk_180 0 9 (dk_at dksX3_force_1 8 rfl rfl)
theorem dX3_force_33 : decode cX3_force 33 = .ok (.bipush 8, 2) := dk_16 8 (dk_at dksX3_force_1 11 rfl rfl)
theorem dX3_force_35 : decode cX3_force 35 = .ok (.iload_n 1, 1) := dk_27 (dk_at dksX3_force_1 13 rfl rfl)
theorem dX3_force_36 : decode cX3_force 36 = .ok (.iastore, 1) := dk_79 (dk_at dksX3_force_1 14 rfl rfl)
theorem dX3_force_37 : decode cX3_force 37 = .ok (.iload_n 2, 1) := dk_28 (dk_at dksX3_force_1 15 rfl rfl)
theorem dX3_force_38 : decode cX3_force 38 = .ok (.ireturn, 1) := dk_172 (dk_at dksX3_force_1 16 rfl rfl)
abbrev cX3_mile : ByteArray := prog_17_method_57_code
def yX3_mile : MethodName := ⟨RX3, "mile", "(II)I"⟩
def dkwX3_mile_5 : List UInt8 := [128, 62, 132, 4, 1, 167, 255, 220, 29, 172, 16, 156, 172]
abbrev dktX3_mile_5 : List UInt8 := dkwX3_mile_5 ++ []
def dkwX3_mile_4 : List UInt8 := [46, 162, 0, 31, 29, 42, 180, 0, 25, 21, 4, 46, 27, 160, 0, 10, 4, 21, 4, 120, 167, 0, 4, 3]
abbrev dktX3_mile_4 : List UInt8 := dkwX3_mile_4 ++ dktX3_mile_5
def dkwX3_mile_3 : List UInt8 := [182, 0, 182, 153, 0, 7, 4, 167, 0, 4, 3, 172, 3, 62, 3, 54, 4, 21, 4, 42, 180, 0, 9, 5]
abbrev dktX3_mile_3 : List UInt8 := dkwX3_mile_3 ++ dktX3_mile_4
def dkwX3_mile_2 : List UInt8 := [42, 180, 0, 13, 27, 46, 172, 42, 180, 0, 16, 27, 46, 172, 42, 180, 0, 19, 27, 46, 172, 42, 27]
abbrev dktX3_mile_2 : List UInt8 := dkwX3_mile_2 ++ dktX3_mile_3
def dkwX3_mile_1 : List UInt8 := [170, 0, 0, 0, 0, 0, 0, 117, 0, 0, 0, 0, 0, 0, 0, 4, 0, 0, 0, 36, 0, 0, 0, 43, 0, 0, 0, 50, 0, 0, 0, 57, 0, 0, 0, 71]
abbrev dktX3_mile_1 : List UInt8 := dkwX3_mile_1 ++ dktX3_mile_2
def dkwX3_mile_0 : List UInt8 := [42, 27, 182, 0, 178, 154, 0, 6, 16, 156, 172, 28]
abbrev dktX3_mile_0 : List UInt8 := dkwX3_mile_0 ++ dktX3_mile_1
theorem dksX3_mile_0 : cX3_mile.data.toList.drop 0 = dktX3_mile_0 := by decide +kernel
theorem dksX3_mile_1 : cX3_mile.data.toList.drop 12 = dktX3_mile_1 := dk_seg dksX3_mile_0 12 rfl rfl
theorem dksX3_mile_2 : cX3_mile.data.toList.drop 48 = dktX3_mile_2 := dk_seg dksX3_mile_1 36 rfl rfl
theorem dksX3_mile_3 : cX3_mile.data.toList.drop 71 = dktX3_mile_3 := dk_seg dksX3_mile_2 23 rfl rfl
theorem dksX3_mile_4 : cX3_mile.data.toList.drop 95 = dktX3_mile_4 := dk_seg dksX3_mile_3 24 rfl rfl
theorem dksX3_mile_5 : cX3_mile.data.toList.drop 119 = dktX3_mile_5 := dk_seg dksX3_mile_4 24 rfl rfl
theorem dX3_mile_0 : decode cX3_mile 0 = .ok (.aload_n 0, 1) := dk_42 (dk_at dksX3_mile_0 0 rfl rfl)
theorem dX3_mile_1 : decode cX3_mile 1 = .ok (.iload_n 1, 1) := dk_27 (dk_at dksX3_mile_0 1 rfl rfl)
theorem dX3_mile_2 : decode cX3_mile 2 = .ok (.invokevirtual 178, 3) := dk_182 0 178 (dk_at dksX3_mile_0 2 rfl rfl)
theorem dX3_mile_5 : decode cX3_mile 5 = .ok (.ifCond .ne 6, 3) := dk_154 0 6 (dk_at dksX3_mile_0 5 rfl rfl)
theorem dX3_mile_8 : decode cX3_mile 8 = .ok (.bipush (-100), 2) := dk_16 156 (dk_at dksX3_mile_0 8 rfl rfl)
theorem dX3_mile_10 : decode cX3_mile 10 = .ok (.ireturn, 1) := dk_172 (dk_at dksX3_mile_0 10 rfl rfl)
theorem dX3_mile_11 : decode cX3_mile 11 = .ok (.iload_n 2, 1) := dk_28 (dk_at dksX3_mile_0 11 rfl rfl)
theorem dX3_mile_12 : decode cX3_mile 12 = .ok (.tableswitch 117 0 4 #[36, 43, 50, 57, 71], 36) := by decide +kernel
theorem dX3_mile_48 : decode cX3_mile 48 = .ok (.aload_n 0, 1) := dk_42 (dk_at dksX3_mile_2 0 rfl rfl)
theorem dX3_mile_49 : decode cX3_mile 49 = .ok (.getfield 13, 3) := dk_180 0 13 (dk_at dksX3_mile_2 1 rfl rfl)
theorem dX3_mile_52 : decode cX3_mile 52 = .ok (.iload_n 1, 1) := dk_27 (dk_at dksX3_mile_2 4 rfl rfl)
theorem dX3_mile_53 : decode cX3_mile 53 = .ok (.iaload, 1) := dk_46 (dk_at dksX3_mile_2 5 rfl rfl)
theorem dX3_mile_54 : decode cX3_mile 54 = .ok (.ireturn, 1) := dk_172 (dk_at dksX3_mile_2 6 rfl rfl)
theorem dX3_mile_55 : decode cX3_mile 55 = .ok (.aload_n 0, 1) := dk_42 (dk_at dksX3_mile_2 7 rfl rfl)
theorem dX3_mile_56 : decode cX3_mile 56 = .ok (.getfield 16, 3) := dk_180 0 16 (dk_at dksX3_mile_2 8 rfl rfl)
theorem dX3_mile_59 : decode cX3_mile 59 = .ok (.iload_n 1, 1) := dk_27 (dk_at dksX3_mile_2 11 rfl rfl)
theorem dX3_mile_60 : decode cX3_mile 60 = .ok (.iaload, 1) := dk_46 (dk_at dksX3_mile_2 12 rfl rfl)
theorem dX3_mile_61 : decode cX3_mile 61 = .ok (.ireturn, 1) := dk_172 (dk_at dksX3_mile_2 13 rfl rfl)
theorem dX3_mile_62 : decode cX3_mile 62 = .ok (.aload_n 0, 1) := dk_42 (dk_at dksX3_mile_2 14 rfl rfl)
theorem dX3_mile_63 : decode cX3_mile 63 = .ok (.getfield 19, 3) := dk_180 0 19 (dk_at dksX3_mile_2 15 rfl rfl)
theorem dX3_mile_66 : decode cX3_mile 66 = .ok (.iload_n 1, 1) := dk_27 (dk_at dksX3_mile_2 18 rfl rfl)
theorem dX3_mile_67 : decode cX3_mile 67 = .ok (.iaload, 1) := dk_46 (dk_at dksX3_mile_2 19 rfl rfl)
theorem dX3_mile_68 : decode cX3_mile 68 = .ok (.ireturn, 1) := dk_172 (dk_at dksX3_mile_2 20 rfl rfl)
theorem dX3_mile_69 : decode cX3_mile 69 = .ok (.aload_n 0, 1) := dk_42 (dk_at dksX3_mile_2 21 rfl rfl)
theorem dX3_mile_70 : decode cX3_mile 70 = .ok (.iload_n 1, 1) := dk_27 (dk_at dksX3_mile_2 22 rfl rfl)
theorem dX3_mile_71 : decode cX3_mile 71 = .ok (.invokevirtual 182, 3) := dk_182 0 182 (dk_at dksX3_mile_3 0 rfl rfl)
theorem dX3_mile_74 : decode cX3_mile 74 = .ok (.ifCond .eq 7, 3) := dk_153 0 7 (dk_at dksX3_mile_3 3 rfl rfl)
theorem dX3_mile_77 : decode cX3_mile 77 = .ok (.iconst 1, 1) := dk_4 (dk_at dksX3_mile_3 6 rfl rfl)
theorem dX3_mile_78 : decode cX3_mile 78 = .ok (.goto 4, 3) := dk_167 0 4 (dk_at dksX3_mile_3 7 rfl rfl)
theorem dX3_mile_81 : decode cX3_mile 81 = .ok (.iconst 0, 1) := dk_3 (dk_at dksX3_mile_3 10 rfl rfl)
theorem dX3_mile_82 : decode cX3_mile 82 = .ok (.ireturn, 1) := dk_172 (dk_at dksX3_mile_3 11 rfl rfl)
theorem dX3_mile_83 : decode cX3_mile 83 = .ok (.iconst 0, 1) := dk_3 (dk_at dksX3_mile_3 12 rfl rfl)
theorem dX3_mile_84 : decode cX3_mile 84 = .ok (.istore_n 3, 1) := dk_62 (dk_at dksX3_mile_3 13 rfl rfl)
theorem dX3_mile_85 : decode cX3_mile 85 = .ok (.iconst 0, 1) := dk_3 (dk_at dksX3_mile_3 14 rfl rfl)
theorem dX3_mile_86 : decode cX3_mile 86 = .ok (.istore 4, 2) := dk_54 4 (dk_at dksX3_mile_3 15 rfl rfl)
theorem dX3_mile_88 : decode cX3_mile 88 = .ok (.iload 4, 2) := dk_21 4 (dk_at dksX3_mile_3 17 rfl rfl)
theorem dX3_mile_90 : decode cX3_mile 90 = .ok (.aload_n 0, 1) := dk_42 (dk_at dksX3_mile_3 19 rfl rfl)
theorem dX3_mile_91 : decode cX3_mile 91 = .ok (.getfield 9, 3) := dk_180 0 9 (dk_at dksX3_mile_3 20 rfl rfl)
theorem dX3_mile_94 : decode cX3_mile 94 = .ok (.iconst 2, 1) := dk_5 (dk_at dksX3_mile_3 23 rfl rfl)
theorem dX3_mile_95 : decode cX3_mile 95 = .ok (.iaload, 1) := dk_46 (dk_at dksX3_mile_4 0 rfl rfl)
theorem dX3_mile_96 : decode cX3_mile 96 = .ok (.if_icmp .ge 31, 3) := dk_162 0 31 (dk_at dksX3_mile_4 1 rfl rfl)
theorem dX3_mile_99 : decode cX3_mile 99 = .ok (.iload_n 3, 1) := dk_29 (dk_at dksX3_mile_4 4 rfl rfl)
theorem dX3_mile_100 : decode cX3_mile 100 = .ok (.aload_n 0, 1) := dk_42 (dk_at dksX3_mile_4 5 rfl rfl)
theorem dX3_mile_101 : decode cX3_mile 101 = .ok (.getfield 25, 3) := dk_180 0 25 (dk_at dksX3_mile_4 6 rfl rfl)
theorem dX3_mile_104 : decode cX3_mile 104 = .ok (.iload 4, 2) := dk_21 4 (dk_at dksX3_mile_4 9 rfl rfl)
theorem dX3_mile_106 : decode cX3_mile 106 = .ok (.iaload, 1) := dk_46 (dk_at dksX3_mile_4 11 rfl rfl)
theorem dX3_mile_107 : decode cX3_mile 107 = .ok (.iload_n 1, 1) := dk_27 (dk_at dksX3_mile_4 12 rfl rfl)
theorem dX3_mile_108 : decode cX3_mile 108 = .ok (.if_icmp .ne 10, 3) := dk_160 0 10 (dk_at dksX3_mile_4 13 rfl rfl)
theorem dX3_mile_111 : decode cX3_mile 111 = .ok (.iconst 1, 1) := dk_4 (dk_at dksX3_mile_4 16 rfl rfl)
theorem dX3_mile_112 : decode cX3_mile 112 = .ok (.iload 4, 2) := dk_21 4 (dk_at dksX3_mile_4 17 rfl rfl)
theorem dX3_mile_114 : decode cX3_mile 114 = .ok (.ishl, 1) := dk_120 (dk_at dksX3_mile_4 19 rfl rfl)
theorem dX3_mile_115 : decode cX3_mile 115 = .ok (.goto 4, 3) := dk_167 0 4 (dk_at dksX3_mile_4 20 rfl rfl)
theorem dX3_mile_118 : decode cX3_mile 118 = .ok (.iconst 0, 1) := dk_3 (dk_at dksX3_mile_4 23 rfl rfl)
theorem dX3_mile_119 : decode cX3_mile 119 = .ok (.ior, 1) := dk_128 (dk_at dksX3_mile_5 0 rfl rfl)
theorem dX3_mile_120 : decode cX3_mile 120 = .ok (.istore_n 3, 1) := dk_62 (dk_at dksX3_mile_5 1 rfl rfl)
theorem dX3_mile_121 : decode cX3_mile 121 = .ok (.iinc 4 1, 3) := dk_132 4 1 (dk_at dksX3_mile_5 2 rfl rfl)
theorem dX3_mile_124 : decode cX3_mile 124 = .ok (.goto (-36), 3) := dk_167 255 220 (dk_at dksX3_mile_5 5 rfl rfl)
theorem dX3_mile_127 : decode cX3_mile 127 = .ok (.iload_n 3, 1) := dk_29 (dk_at dksX3_mile_5 8 rfl rfl)
theorem dX3_mile_128 : decode cX3_mile 128 = .ok (.ireturn, 1) := dk_172 (dk_at dksX3_mile_5 9 rfl rfl)
theorem dX3_mile_129 : decode cX3_mile 129 = .ok (.bipush (-100), 2) := dk_16 156 (dk_at dksX3_mile_5 10 rfl rfl)
theorem dX3_mile_131 : decode cX3_mile 131 = .ok (.ireturn, 1) := dk_172 (dk_at dksX3_mile_5 12 rfl rfl)
abbrev cX3_isMile : ByteArray := prog_17_method_8_code
def yX3_isMile : MethodName := ⟨RX3, "isMile", "(I)Z"⟩
def dkwX3_isMile_0 : List UInt8 := [27, 133, 9, 42, 180, 0, 9, 3, 46, 4, 100, 133, 184, 0, 170, 172]
abbrev dktX3_isMile_0 : List UInt8 := dkwX3_isMile_0 ++ []
theorem dksX3_isMile_0 : cX3_isMile.data.toList.drop 0 = dktX3_isMile_0 := by decide +kernel
theorem dX3_isMile_0 : decode cX3_isMile 0 = .ok (.iload_n 1, 1) := dk_27 (dk_at dksX3_isMile_0 0 rfl rfl)
theorem dX3_isMile_1 : decode cX3_isMile 1 = .ok (.i2l, 1) := dk_133 (dk_at dksX3_isMile_0 1 rfl rfl)
theorem dX3_isMile_2 : decode cX3_isMile 2 = .ok (.lconst 0, 1) := dk_9 (dk_at dksX3_isMile_0 2 rfl rfl)
theorem dX3_isMile_3 : decode cX3_isMile 3 = .ok (.aload_n 0, 1) := dk_42 (dk_at dksX3_isMile_0 3 rfl rfl)
theorem dX3_isMile_4 : decode cX3_isMile 4 = .ok (.getfield 9, 3) := dk_180 0 9 (dk_at dksX3_isMile_0 4 rfl rfl)
theorem dX3_isMile_7 : decode cX3_isMile 7 = .ok (.iconst 0, 1) := dk_3 (dk_at dksX3_isMile_0 7 rfl rfl)
theorem dX3_isMile_8 : decode cX3_isMile 8 = .ok (.iaload, 1) := dk_46 (dk_at dksX3_isMile_0 8 rfl rfl)
theorem dX3_isMile_9 : decode cX3_isMile 9 = .ok (.iconst 1, 1) := dk_4 (dk_at dksX3_isMile_0 9 rfl rfl)
theorem dX3_isMile_10 : decode cX3_isMile 10 = .ok (.isub, 1) := dk_100 (dk_at dksX3_isMile_0 10 rfl rfl)
theorem dX3_isMile_11 : decode cX3_isMile 11 = .ok (.i2l, 1) := dk_133 (dk_at dksX3_isMile_0 11 rfl rfl)
theorem dX3_isMile_12 : decode cX3_isMile 12 = .ok (.invokestatic 170, 3) := dk_184 0 170 (dk_at dksX3_isMile_0 12 rfl rfl)
theorem dX3_isMile_15 : decode cX3_isMile 15 = .ok (.ireturn, 1) := dk_172 (dk_at dksX3_isMile_0 15 rfl rfl)
abbrev cX3_isBaked : ByteArray := prog_17_method_10_code
def yX3_isBaked : MethodName := ⟨RX3, "isBaked", "(I)Z"⟩
def dkwX3_isBaked_0 : List UInt8 := [42, 180, 0, 9, 7, 46, 27, 184, 0, 174, 172]
abbrev dktX3_isBaked_0 : List UInt8 := dkwX3_isBaked_0 ++ []
theorem dksX3_isBaked_0 : cX3_isBaked.data.toList.drop 0 = dktX3_isBaked_0 := by decide +kernel
theorem dX3_isBaked_0 : decode cX3_isBaked 0 = .ok (.aload_n 0, 1) := dk_42 (dk_at dksX3_isBaked_0 0 rfl rfl)
theorem dX3_isBaked_1 : decode cX3_isBaked 1 = .ok (.getfield 9, 3) := dk_180 0 9 (dk_at dksX3_isBaked_0 1 rfl rfl)
theorem dX3_isBaked_4 : decode cX3_isBaked 4 = .ok (.iconst 4, 1) := dk_7 (dk_at dksX3_isBaked_0 4 rfl rfl)
theorem dX3_isBaked_5 : decode cX3_isBaked 5 = .ok (.iaload, 1) := dk_46 (dk_at dksX3_isBaked_0 5 rfl rfl)
theorem dX3_isBaked_6 : decode cX3_isBaked 6 = .ok (.iload_n 1, 1) := dk_27 (dk_at dksX3_isBaked_0 6 rfl rfl)
theorem dX3_isBaked_7 : decode cX3_isBaked 7 = .ok (.invokestatic 174, 3) := dk_184 0 174 (dk_at dksX3_isBaked_0 7 rfl rfl)
theorem dX3_isBaked_10 : decode cX3_isBaked 10 = .ok (.ireturn, 1) := dk_172 (dk_at dksX3_isBaked_0 10 rfl rfl)
abbrev cX3_has : ByteArray := prog_17_method_5_code
def yX3_has : MethodName := ⟨RX3, "has", "(II)Z"⟩
def dkwX3_has_0 : List UInt8 := [26, 27, 122, 4, 126, 4, 160, 0, 7, 4, 167, 0, 4, 3, 172]
abbrev dktX3_has_0 : List UInt8 := dkwX3_has_0 ++ []
theorem dksX3_has_0 : cX3_has.data.toList.drop 0 = dktX3_has_0 := by decide +kernel
theorem dX3_has_0 : decode cX3_has 0 = .ok (.iload_n 0, 1) := dk_26 (dk_at dksX3_has_0 0 rfl rfl)
theorem dX3_has_1 : decode cX3_has 1 = .ok (.iload_n 1, 1) := dk_27 (dk_at dksX3_has_0 1 rfl rfl)
theorem dX3_has_2 : decode cX3_has 2 = .ok (.ishr, 1) := dk_122 (dk_at dksX3_has_0 2 rfl rfl)
theorem dX3_has_3 : decode cX3_has 3 = .ok (.iconst 1, 1) := dk_4 (dk_at dksX3_has_0 3 rfl rfl)
theorem dX3_has_4 : decode cX3_has 4 = .ok (.iand, 1) := dk_126 (dk_at dksX3_has_0 4 rfl rfl)
theorem dX3_has_5 : decode cX3_has 5 = .ok (.iconst 1, 1) := dk_4 (dk_at dksX3_has_0 5 rfl rfl)
theorem dX3_has_6 : decode cX3_has 6 = .ok (.if_icmp .ne 7, 3) := dk_160 0 7 (dk_at dksX3_has_0 6 rfl rfl)
theorem dX3_has_9 : decode cX3_has 9 = .ok (.iconst 1, 1) := dk_4 (dk_at dksX3_has_0 9 rfl rfl)
theorem dX3_has_10 : decode cX3_has 10 = .ok (.goto 4, 3) := dk_167 0 4 (dk_at dksX3_has_0 10 rfl rfl)
theorem dX3_has_13 : decode cX3_has 13 = .ok (.iconst 0, 1) := dk_3 (dk_at dksX3_has_0 13 rfl rfl)
theorem dX3_has_14 : decode cX3_has 14 = .ok (.ireturn, 1) := dk_172 (dk_at dksX3_has_0 14 rfl rfl)
abbrev cX3_village : ByteArray := prog_17_method_58_code
def yX3_village : MethodName := ⟨RX3, "village", "(II)I"⟩
def dkwX3_village_3 : List UInt8 := [182, 1, 138, 172, 42, 180, 0, 34, 27, 46, 172, 16, 156, 172]
abbrev dktX3_village_3 : List UInt8 := dkwX3_village_3 ++ []
def dkwX3_village_2 : List UInt8 := [42, 180, 0, 25, 27, 46, 172, 42, 180, 0, 28, 27, 46, 172, 42, 180, 0, 31, 27, 46, 172, 42, 27]
abbrev dktX3_village_2 : List UInt8 := dkwX3_village_2 ++ dktX3_village_3
def dkwX3_village_1 : List UInt8 := [170, 0, 0, 0, 0, 0, 0, 70, 0, 0, 0, 0, 0, 0, 0, 4, 0, 0, 0, 36, 0, 0, 0, 43, 0, 0, 0, 50, 0, 0, 0, 57, 0, 0, 0, 63]
abbrev dktX3_village_1 : List UInt8 := dkwX3_village_1 ++ dktX3_village_2
def dkwX3_village_0 : List UInt8 := [42, 27, 182, 1, 141, 154, 0, 6, 16, 156, 172, 28]
abbrev dktX3_village_0 : List UInt8 := dkwX3_village_0 ++ dktX3_village_1
theorem dksX3_village_0 : cX3_village.data.toList.drop 0 = dktX3_village_0 := by decide +kernel
theorem dksX3_village_1 : cX3_village.data.toList.drop 12 = dktX3_village_1 := dk_seg dksX3_village_0 12 rfl rfl
theorem dksX3_village_2 : cX3_village.data.toList.drop 48 = dktX3_village_2 := dk_seg dksX3_village_1 36 rfl rfl
theorem dksX3_village_3 : cX3_village.data.toList.drop 71 = dktX3_village_3 := dk_seg dksX3_village_2 23 rfl rfl
theorem dX3_village_0 : decode cX3_village 0 = .ok (.aload_n 0, 1) := dk_42 (dk_at dksX3_village_0 0 rfl rfl)
theorem dX3_village_1 : decode cX3_village 1 = .ok (.iload_n 1, 1) := dk_27 (dk_at dksX3_village_0 1 rfl rfl)
theorem dX3_village_2 : decode cX3_village 2 = .ok (.invokevirtual 397, 3) := dk_182 1 141 (dk_at dksX3_village_0 2 rfl rfl)
theorem dX3_village_5 : decode cX3_village 5 = .ok (.ifCond .ne 6, 3) := dk_154 0 6 (dk_at dksX3_village_0 5 rfl rfl)
theorem dX3_village_8 : decode cX3_village 8 = .ok (.bipush (-100), 2) := dk_16 156 (dk_at dksX3_village_0 8 rfl rfl)
theorem dX3_village_10 : decode cX3_village 10 = .ok (.ireturn, 1) := dk_172 (dk_at dksX3_village_0 10 rfl rfl)
theorem dX3_village_11 : decode cX3_village 11 = .ok (.iload_n 2, 1) := dk_28 (dk_at dksX3_village_0 11 rfl rfl)
theorem dX3_village_12 : decode cX3_village 12 = .ok (.tableswitch 70 0 4 #[36, 43, 50, 57, 63], 36) := by decide +kernel
theorem dX3_village_48 : decode cX3_village 48 = .ok (.aload_n 0, 1) := dk_42 (dk_at dksX3_village_2 0 rfl rfl)
theorem dX3_village_49 : decode cX3_village 49 = .ok (.getfield 25, 3) := dk_180 0 25 (dk_at dksX3_village_2 1 rfl rfl)
theorem dX3_village_52 : decode cX3_village 52 = .ok (.iload_n 1, 1) := dk_27 (dk_at dksX3_village_2 4 rfl rfl)
theorem dX3_village_53 : decode cX3_village 53 = .ok (.iaload, 1) := dk_46 (dk_at dksX3_village_2 5 rfl rfl)
theorem dX3_village_54 : decode cX3_village 54 = .ok (.ireturn, 1) := dk_172 (dk_at dksX3_village_2 6 rfl rfl)
theorem dX3_village_55 : decode cX3_village 55 = .ok (.aload_n 0, 1) := dk_42 (dk_at dksX3_village_2 7 rfl rfl)
theorem dX3_village_56 : decode cX3_village 56 = .ok (.getfield 28, 3) := dk_180 0 28 (dk_at dksX3_village_2 8 rfl rfl)
theorem dX3_village_59 : decode cX3_village 59 = .ok (.iload_n 1, 1) := dk_27 (dk_at dksX3_village_2 11 rfl rfl)
theorem dX3_village_60 : decode cX3_village 60 = .ok (.iaload, 1) := dk_46 (dk_at dksX3_village_2 12 rfl rfl)
theorem dX3_village_61 : decode cX3_village 61 = .ok (.ireturn, 1) := dk_172 (dk_at dksX3_village_2 13 rfl rfl)
theorem dX3_village_62 : decode cX3_village 62 = .ok (.aload_n 0, 1) := dk_42 (dk_at dksX3_village_2 14 rfl rfl)
theorem dX3_village_63 : decode cX3_village 63 = .ok (.getfield 31, 3) := dk_180 0 31 (dk_at dksX3_village_2 15 rfl rfl)
theorem dX3_village_66 : decode cX3_village 66 = .ok (.iload_n 1, 1) := dk_27 (dk_at dksX3_village_2 18 rfl rfl)
theorem dX3_village_67 : decode cX3_village 67 = .ok (.iaload, 1) := dk_46 (dk_at dksX3_village_2 19 rfl rfl)
theorem dX3_village_68 : decode cX3_village 68 = .ok (.ireturn, 1) := dk_172 (dk_at dksX3_village_2 20 rfl rfl)
theorem dX3_village_69 : decode cX3_village 69 = .ok (.aload_n 0, 1) := dk_42 (dk_at dksX3_village_2 21 rfl rfl)
theorem dX3_village_70 : decode cX3_village 70 = .ok (.iload_n 1, 1) := dk_27 (dk_at dksX3_village_2 22 rfl rfl)
theorem dX3_village_71 : decode cX3_village 71 = .ok (.invokevirtual 394, 3) := dk_182 1 138 (dk_at dksX3_village_3 0 rfl rfl)
theorem dX3_village_74 : decode cX3_village 74 = .ok (.ireturn, 1) := dk_172 (dk_at dksX3_village_3 3 rfl rfl)
theorem dX3_village_75 : decode cX3_village 75 = .ok (.aload_n 0, 1) := dk_42 (dk_at dksX3_village_3 4 rfl rfl)
theorem dX3_village_76 : decode cX3_village 76 = .ok (.getfield 34, 3) := dk_180 0 34 (dk_at dksX3_village_3 5 rfl rfl)
theorem dX3_village_79 : decode cX3_village 79 = .ok (.iload_n 1, 1) := dk_27 (dk_at dksX3_village_3 8 rfl rfl)
theorem dX3_village_80 : decode cX3_village 80 = .ok (.iaload, 1) := dk_46 (dk_at dksX3_village_3 9 rfl rfl)
theorem dX3_village_81 : decode cX3_village 81 = .ok (.ireturn, 1) := dk_172 (dk_at dksX3_village_3 10 rfl rfl)
theorem dX3_village_82 : decode cX3_village 82 = .ok (.bipush (-100), 2) := dk_16 156 (dk_at dksX3_village_3 11 rfl rfl)
theorem dX3_village_84 : decode cX3_village 84 = .ok (.ireturn, 1) := dk_172 (dk_at dksX3_village_3 13 rfl rfl)
abbrev cX3_isVillage : ByteArray := prog_17_method_9_code
def yX3_isVillage : MethodName := ⟨RX3, "isVillage", "(I)Z"⟩
def dkwX3_isVillage_0 : List UInt8 := [27, 133, 9, 42, 180, 0, 9, 5, 46, 4, 100, 133, 184, 0, 170, 172]
abbrev dktX3_isVillage_0 : List UInt8 := dkwX3_isVillage_0 ++ []
theorem dksX3_isVillage_0 : cX3_isVillage.data.toList.drop 0 = dktX3_isVillage_0 := by decide +kernel
theorem dX3_isVillage_0 : decode cX3_isVillage 0 = .ok (.iload_n 1, 1) := dk_27 (dk_at dksX3_isVillage_0 0 rfl rfl)
theorem dX3_isVillage_1 : decode cX3_isVillage 1 = .ok (.i2l, 1) := dk_133 (dk_at dksX3_isVillage_0 1 rfl rfl)
theorem dX3_isVillage_2 : decode cX3_isVillage 2 = .ok (.lconst 0, 1) := dk_9 (dk_at dksX3_isVillage_0 2 rfl rfl)
theorem dX3_isVillage_3 : decode cX3_isVillage 3 = .ok (.aload_n 0, 1) := dk_42 (dk_at dksX3_isVillage_0 3 rfl rfl)
theorem dX3_isVillage_4 : decode cX3_isVillage 4 = .ok (.getfield 9, 3) := dk_180 0 9 (dk_at dksX3_isVillage_0 4 rfl rfl)
theorem dX3_isVillage_7 : decode cX3_isVillage 7 = .ok (.iconst 2, 1) := dk_5 (dk_at dksX3_isVillage_0 7 rfl rfl)
theorem dX3_isVillage_8 : decode cX3_isVillage 8 = .ok (.iaload, 1) := dk_46 (dk_at dksX3_isVillage_0 8 rfl rfl)
theorem dX3_isVillage_9 : decode cX3_isVillage 9 = .ok (.iconst 1, 1) := dk_4 (dk_at dksX3_isVillage_0 9 rfl rfl)
theorem dX3_isVillage_10 : decode cX3_isVillage 10 = .ok (.isub, 1) := dk_100 (dk_at dksX3_isVillage_0 10 rfl rfl)
theorem dX3_isVillage_11 : decode cX3_isVillage 11 = .ok (.i2l, 1) := dk_133 (dk_at dksX3_isVillage_0 11 rfl rfl)
theorem dX3_isVillage_12 : decode cX3_isVillage 12 = .ok (.invokestatic 170, 3) := dk_184 0 170 (dk_at dksX3_isVillage_0 12 rfl rfl)
theorem dX3_isVillage_15 : decode cX3_isVillage 15 = .ok (.ireturn, 1) := dk_172 (dk_at dksX3_isVillage_0 15 rfl rfl)
abbrev cX3_sideOf : ByteArray := prog_17_method_55_code
def yX3_sideOf : MethodName := ⟨RX3, "sideOf", "(I)I"⟩
def dkwX3_sideOf_1 : List UInt8 := [167, 0, 18, 42, 180, 0, 28, 27, 46, 28, 164, 0, 7, 4, 167, 0, 4, 5, 172]
abbrev dktX3_sideOf_1 : List UInt8 := dkwX3_sideOf_1 ++ []
def dkwX3_sideOf_0 : List UInt8 := [42, 180, 0, 13, 42, 180, 0, 25, 27, 46, 46, 61, 42, 180, 0, 28, 27, 46, 28, 162, 0, 7, 3]
abbrev dktX3_sideOf_0 : List UInt8 := dkwX3_sideOf_0 ++ dktX3_sideOf_1
theorem dksX3_sideOf_0 : cX3_sideOf.data.toList.drop 0 = dktX3_sideOf_0 := by decide +kernel
theorem dksX3_sideOf_1 : cX3_sideOf.data.toList.drop 23 = dktX3_sideOf_1 := dk_seg dksX3_sideOf_0 23 rfl rfl
theorem dX3_sideOf_0 : decode cX3_sideOf 0 = .ok (.aload_n 0, 1) := dk_42 (dk_at dksX3_sideOf_0 0 rfl rfl)
theorem dX3_sideOf_1 : decode cX3_sideOf 1 = .ok (.getfield 13, 3) := dk_180 0 13 (dk_at dksX3_sideOf_0 1 rfl rfl)
theorem dX3_sideOf_4 : decode cX3_sideOf 4 = .ok (.aload_n 0, 1) := dk_42 (dk_at dksX3_sideOf_0 4 rfl rfl)
theorem dX3_sideOf_5 : decode cX3_sideOf 5 = .ok (.getfield 25, 3) := dk_180 0 25 (dk_at dksX3_sideOf_0 5 rfl rfl)
theorem dX3_sideOf_8 : decode cX3_sideOf 8 = .ok (.iload_n 1, 1) := dk_27 (dk_at dksX3_sideOf_0 8 rfl rfl)
theorem dX3_sideOf_9 : decode cX3_sideOf 9 = .ok (.iaload, 1) := dk_46 (dk_at dksX3_sideOf_0 9 rfl rfl)
theorem dX3_sideOf_10 : decode cX3_sideOf 10 = .ok (.iaload, 1) := dk_46 (dk_at dksX3_sideOf_0 10 rfl rfl)
theorem dX3_sideOf_11 : decode cX3_sideOf 11 = .ok (.istore_n 2, 1) := dk_61 (dk_at dksX3_sideOf_0 11 rfl rfl)
theorem dX3_sideOf_12 : decode cX3_sideOf 12 = .ok (.aload_n 0, 1) := dk_42 (dk_at dksX3_sideOf_0 12 rfl rfl)
theorem dX3_sideOf_13 : decode cX3_sideOf 13 = .ok (.getfield 28, 3) := dk_180 0 28 (dk_at dksX3_sideOf_0 13 rfl rfl)
theorem dX3_sideOf_16 : decode cX3_sideOf 16 = .ok (.iload_n 1, 1) := dk_27 (dk_at dksX3_sideOf_0 16 rfl rfl)
theorem dX3_sideOf_17 : decode cX3_sideOf 17 = .ok (.iaload, 1) := dk_46 (dk_at dksX3_sideOf_0 17 rfl rfl)
theorem dX3_sideOf_18 : decode cX3_sideOf 18 = .ok (.iload_n 2, 1) := dk_28 (dk_at dksX3_sideOf_0 18 rfl rfl)
theorem dX3_sideOf_19 : decode cX3_sideOf 19 = .ok (.if_icmp .ge 7, 3) := dk_162 0 7 (dk_at dksX3_sideOf_0 19 rfl rfl)
theorem dX3_sideOf_22 : decode cX3_sideOf 22 = .ok (.iconst 0, 1) := dk_3 (dk_at dksX3_sideOf_0 22 rfl rfl)
theorem dX3_sideOf_23 : decode cX3_sideOf 23 = .ok (.goto 18, 3) := dk_167 0 18 (dk_at dksX3_sideOf_1 0 rfl rfl)
theorem dX3_sideOf_26 : decode cX3_sideOf 26 = .ok (.aload_n 0, 1) := dk_42 (dk_at dksX3_sideOf_1 3 rfl rfl)
theorem dX3_sideOf_27 : decode cX3_sideOf 27 = .ok (.getfield 28, 3) := dk_180 0 28 (dk_at dksX3_sideOf_1 4 rfl rfl)
theorem dX3_sideOf_30 : decode cX3_sideOf 30 = .ok (.iload_n 1, 1) := dk_27 (dk_at dksX3_sideOf_1 7 rfl rfl)
theorem dX3_sideOf_31 : decode cX3_sideOf 31 = .ok (.iaload, 1) := dk_46 (dk_at dksX3_sideOf_1 8 rfl rfl)
theorem dX3_sideOf_32 : decode cX3_sideOf 32 = .ok (.iload_n 2, 1) := dk_28 (dk_at dksX3_sideOf_1 9 rfl rfl)
theorem dX3_sideOf_33 : decode cX3_sideOf 33 = .ok (.if_icmp .le 7, 3) := dk_164 0 7 (dk_at dksX3_sideOf_1 10 rfl rfl)
theorem dX3_sideOf_36 : decode cX3_sideOf 36 = .ok (.iconst 1, 1) := dk_4 (dk_at dksX3_sideOf_1 13 rfl rfl)
theorem dX3_sideOf_37 : decode cX3_sideOf 37 = .ok (.goto 4, 3) := dk_167 0 4 (dk_at dksX3_sideOf_1 14 rfl rfl)
theorem dX3_sideOf_40 : decode cX3_sideOf 40 = .ok (.iconst 2, 1) := dk_5 (dk_at dksX3_sideOf_1 17 rfl rfl)
theorem dX3_sideOf_41 : decode cX3_sideOf 41 = .ok (.ireturn, 1) := dk_172 (dk_at dksX3_sideOf_1 18 rfl rfl)
abbrev cX3_warm : ByteArray := prog_17_method_60_code
def yX3_warm : MethodName := ⟨RX3, "warm", "(I)I"⟩
def dkwX3_warm_0 : List UInt8 := [42, 182, 1, 144, 153, 0, 15, 27, 155, 0, 11, 42, 27, 182, 1, 147, 167, 0, 4, 2, 172]
abbrev dktX3_warm_0 : List UInt8 := dkwX3_warm_0 ++ []
theorem dksX3_warm_0 : cX3_warm.data.toList.drop 0 = dktX3_warm_0 := by decide +kernel
theorem dX3_warm_0 : decode cX3_warm 0 = .ok (.aload_n 0, 1) := dk_42 (dk_at dksX3_warm_0 0 rfl rfl)
theorem dX3_warm_1 : decode cX3_warm 1 = .ok (.invokevirtual 400, 3) := dk_182 1 144 (dk_at dksX3_warm_0 1 rfl rfl)
theorem dX3_warm_4 : decode cX3_warm 4 = .ok (.ifCond .eq 15, 3) := dk_153 0 15 (dk_at dksX3_warm_0 4 rfl rfl)
theorem dX3_warm_7 : decode cX3_warm 7 = .ok (.iload_n 1, 1) := dk_27 (dk_at dksX3_warm_0 7 rfl rfl)
theorem dX3_warm_8 : decode cX3_warm 8 = .ok (.ifCond .lt 11, 3) := dk_155 0 11 (dk_at dksX3_warm_0 8 rfl rfl)
theorem dX3_warm_11 : decode cX3_warm 11 = .ok (.aload_n 0, 1) := dk_42 (dk_at dksX3_warm_0 11 rfl rfl)
theorem dX3_warm_12 : decode cX3_warm 12 = .ok (.iload_n 1, 1) := dk_27 (dk_at dksX3_warm_0 12 rfl rfl)
theorem dX3_warm_13 : decode cX3_warm 13 = .ok (.invokevirtual 403, 3) := dk_182 1 147 (dk_at dksX3_warm_0 13 rfl rfl)
theorem dX3_warm_16 : decode cX3_warm 16 = .ok (.goto 4, 3) := dk_167 0 4 (dk_at dksX3_warm_0 16 rfl rfl)
theorem dX3_warm_19 : decode cX3_warm 19 = .ok (.iconst (-1), 1) := dk_2 (dk_at dksX3_warm_0 19 rfl rfl)
theorem dX3_warm_20 : decode cX3_warm 20 = .ok (.ireturn, 1) := dk_172 (dk_at dksX3_warm_0 20 rfl rfl)
abbrev cX3_isStrip : ByteArray := prog_17_method_7_code
def yX3_isStrip : MethodName := ⟨RX3, "isStrip", "()Z"⟩
def dkwX3_isStrip_0 : List UInt8 := [42, 180, 0, 9, 3, 46, 158, 0, 7, 4, 167, 0, 4, 3, 172]
abbrev dktX3_isStrip_0 : List UInt8 := dkwX3_isStrip_0 ++ []
theorem dksX3_isStrip_0 : cX3_isStrip.data.toList.drop 0 = dktX3_isStrip_0 := by decide +kernel
theorem dX3_isStrip_0 : decode cX3_isStrip 0 = .ok (.aload_n 0, 1) := dk_42 (dk_at dksX3_isStrip_0 0 rfl rfl)
theorem dX3_isStrip_1 : decode cX3_isStrip 1 = .ok (.getfield 9, 3) := dk_180 0 9 (dk_at dksX3_isStrip_0 1 rfl rfl)
theorem dX3_isStrip_4 : decode cX3_isStrip 4 = .ok (.iconst 0, 1) := dk_3 (dk_at dksX3_isStrip_0 4 rfl rfl)
theorem dX3_isStrip_5 : decode cX3_isStrip 5 = .ok (.iaload, 1) := dk_46 (dk_at dksX3_isStrip_0 5 rfl rfl)
theorem dX3_isStrip_6 : decode cX3_isStrip 6 = .ok (.ifCond .le 7, 3) := dk_158 0 7 (dk_at dksX3_isStrip_0 6 rfl rfl)
theorem dX3_isStrip_9 : decode cX3_isStrip 9 = .ok (.iconst 1, 1) := dk_4 (dk_at dksX3_isStrip_0 9 rfl rfl)
theorem dX3_isStrip_10 : decode cX3_isStrip 10 = .ok (.goto 4, 3) := dk_167 0 4 (dk_at dksX3_isStrip_0 10 rfl rfl)
theorem dX3_isStrip_13 : decode cX3_isStrip 13 = .ok (.iconst 0, 1) := dk_3 (dk_at dksX3_isStrip_0 13 rfl rfl)
theorem dX3_isStrip_14 : decode cX3_isStrip 14 = .ok (.ireturn, 1) := dk_172 (dk_at dksX3_isStrip_0 14 rfl rfl)
abbrev cX3_warmthOf : ByteArray := prog_17_method_59_code
def yX3_warmthOf : MethodName := ⟨RX3, "warmthOf", "(I)I"⟩
def dkwX3_warmthOf_0 : List UInt8 := [27, 16, 100, 162, 0, 12, 42, 180, 0, 22, 27, 46, 167, 0, 4, 3, 172]
abbrev dktX3_warmthOf_0 : List UInt8 := dkwX3_warmthOf_0 ++ []
theorem dksX3_warmthOf_0 : cX3_warmthOf.data.toList.drop 0 = dktX3_warmthOf_0 := by decide +kernel
theorem dX3_warmthOf_0 : decode cX3_warmthOf 0 = .ok (.iload_n 1, 1) := dk_27 (dk_at dksX3_warmthOf_0 0 rfl rfl)
theorem dX3_warmthOf_1 : decode cX3_warmthOf 1 = .ok (.bipush 100, 2) := dk_16 100 (dk_at dksX3_warmthOf_0 1 rfl rfl)
theorem dX3_warmthOf_3 : decode cX3_warmthOf 3 = .ok (.if_icmp .ge 12, 3) := dk_162 0 12 (dk_at dksX3_warmthOf_0 3 rfl rfl)
theorem dX3_warmthOf_6 : decode cX3_warmthOf 6 = .ok (.aload_n 0, 1) := dk_42 (dk_at dksX3_warmthOf_0 6 rfl rfl)
theorem dX3_warmthOf_7 : decode cX3_warmthOf 7 = .ok (.getfield 22, 3) := dk_180 0 22 (dk_at dksX3_warmthOf_0 7 rfl rfl)
theorem dX3_warmthOf_10 : decode cX3_warmthOf 10 = .ok (.iload_n 1, 1) := dk_27 (dk_at dksX3_warmthOf_0 10 rfl rfl)
theorem dX3_warmthOf_11 : decode cX3_warmthOf 11 = .ok (.iaload, 1) := dk_46 (dk_at dksX3_warmthOf_0 11 rfl rfl)
theorem dX3_warmthOf_12 : decode cX3_warmthOf 12 = .ok (.goto 4, 3) := dk_167 0 4 (dk_at dksX3_warmthOf_0 12 rfl rfl)
theorem dX3_warmthOf_15 : decode cX3_warmthOf 15 = .ok (.iconst 0, 1) := dk_3 (dk_at dksX3_warmthOf_0 15 rfl rfl)
theorem dX3_warmthOf_16 : decode cX3_warmthOf 16 = .ok (.ireturn, 1) := dk_172 (dk_at dksX3_warmthOf_0 16 rfl rfl)
abbrev cX3_undo : ByteArray := prog_17_method_73_code
def yX3_undo : MethodName := ⟨RX3, "undo", "()I"⟩
def dkwX3_undo_1 : List UInt8 := [180, 1, 105, 4, 182, 1, 200, 42, 180, 1, 105, 172]
abbrev dktX3_undo_1 : List UInt8 := dkwX3_undo_1 ++ []
def dkwX3_undo_0 : List UInt8 := [42, 180, 1, 105, 154, 0, 6, 16, 254, 172, 42, 89, 180, 1, 105, 4, 100, 181, 1, 105, 42, 42]
abbrev dktX3_undo_0 : List UInt8 := dkwX3_undo_0 ++ dktX3_undo_1
theorem dksX3_undo_0 : cX3_undo.data.toList.drop 0 = dktX3_undo_0 := by decide +kernel
theorem dksX3_undo_1 : cX3_undo.data.toList.drop 22 = dktX3_undo_1 := dk_seg dksX3_undo_0 22 rfl rfl
theorem dX3_undo_0 : decode cX3_undo 0 = .ok (.aload_n 0, 1) := dk_42 (dk_at dksX3_undo_0 0 rfl rfl)
theorem dX3_undo_1 : decode cX3_undo 1 = .ok (.getfield 361, 3) := dk_180 1 105 (dk_at dksX3_undo_0 1 rfl rfl)
theorem dX3_undo_4 : decode cX3_undo 4 = .ok (.ifCond .ne 6, 3) := dk_154 0 6 (dk_at dksX3_undo_0 4 rfl rfl)
theorem dX3_undo_7 : decode cX3_undo 7 = .ok (.bipush (-2), 2) := dk_16 254 (dk_at dksX3_undo_0 7 rfl rfl)
theorem dX3_undo_9 : decode cX3_undo 9 = .ok (.ireturn, 1) := dk_172 (dk_at dksX3_undo_0 9 rfl rfl)
theorem dX3_undo_10 : decode cX3_undo 10 = .ok (.aload_n 0, 1) := dk_42 (dk_at dksX3_undo_0 10 rfl rfl)
theorem dX3_undo_11 : decode cX3_undo 11 = .ok (.dup, 1) := dk_89 (dk_at dksX3_undo_0 11 rfl rfl)
theorem dX3_undo_12 : decode cX3_undo 12 = .ok (.getfield 361, 3) := dk_180 1 105 (dk_at dksX3_undo_0 12 rfl rfl)
theorem dX3_undo_15 : decode cX3_undo 15 = .ok (.iconst 1, 1) := dk_4 (dk_at dksX3_undo_0 15 rfl rfl)
theorem dX3_undo_16 : decode cX3_undo 16 = .ok (.isub, 1) := dk_100 (dk_at dksX3_undo_0 16 rfl rfl)
theorem dX3_undo_17 : decode cX3_undo 17 = .ok (.putfield 361, 3) := dk_181 1 105 (dk_at dksX3_undo_0 17 rfl rfl)
theorem dX3_undo_20 : decode cX3_undo 20 = .ok (.aload_n 0, 1) := dk_42 (dk_at dksX3_undo_0 20 rfl rfl)
theorem dX3_undo_21 : decode cX3_undo 21 = .ok (.aload_n 0, 1) := dk_42 (dk_at dksX3_undo_0 21 rfl rfl)
theorem dX3_undo_22 : decode cX3_undo 22 = .ok (.getfield 361, 3) := dk_180 1 105 (dk_at dksX3_undo_1 0 rfl rfl)
theorem dX3_undo_25 : decode cX3_undo 25 = .ok (.iconst 1, 1) := dk_4 (dk_at dksX3_undo_1 3 rfl rfl)
theorem dX3_undo_26 : decode cX3_undo 26 = .ok (.invokevirtual 456, 3) := dk_182 1 200 (dk_at dksX3_undo_1 4 rfl rfl)
theorem dX3_undo_29 : decode cX3_undo 29 = .ok (.aload_n 0, 1) := dk_42 (dk_at dksX3_undo_1 7 rfl rfl)
theorem dX3_undo_30 : decode cX3_undo 30 = .ok (.getfield 361, 3) := dk_180 1 105 (dk_at dksX3_undo_1 8 rfl rfl)
theorem dX3_undo_33 : decode cX3_undo 33 = .ok (.ireturn, 1) := dk_172 (dk_at dksX3_undo_1 11 rfl rfl)
abbrev cX3_movesAll : ByteArray := prog_17_method_71_code
def yX3_movesAll : MethodName := ⟨RX3, "movesAll", "(IZ)V"⟩
def dkwX3_movesAll_3 : List UInt8 := [180, 0, 34, 182, 1, 196, 177]
abbrev dktX3_movesAll_3 : List UInt8 := dkwX3_movesAll_3 ++ []
def dkwX3_movesAll_2 : List UInt8 := [180, 0, 13, 182, 1, 196, 42, 42, 180, 0, 16, 182, 1, 196, 42, 42, 180, 0, 19, 182, 1, 196, 42, 42]
abbrev dktX3_movesAll_2 : List UInt8 := dkwX3_movesAll_2 ++ dktX3_movesAll_3
def dkwX3_movesAll_1 : List UInt8 := [46, 182, 1, 193, 79, 42, 180, 0, 9, 8, 42, 42, 180, 0, 9, 8, 46, 182, 1, 193, 79, 42, 42]
abbrev dktX3_movesAll_1 : List UInt8 := dkwX3_movesAll_1 ++ dktX3_movesAll_2
def dkwX3_movesAll_0 : List UInt8 := [42, 16, 40, 27, 104, 181, 1, 190, 42, 28, 181, 1, 186, 42, 180, 0, 9, 7, 42, 42, 180, 0, 9, 7]
abbrev dktX3_movesAll_0 : List UInt8 := dkwX3_movesAll_0 ++ dktX3_movesAll_1
theorem dksX3_movesAll_0 : cX3_movesAll.data.toList.drop 0 = dktX3_movesAll_0 := by decide +kernel
theorem dksX3_movesAll_1 : cX3_movesAll.data.toList.drop 24 = dktX3_movesAll_1 := dk_seg dksX3_movesAll_0 24 rfl rfl
theorem dksX3_movesAll_2 : cX3_movesAll.data.toList.drop 47 = dktX3_movesAll_2 := dk_seg dksX3_movesAll_1 23 rfl rfl
theorem dksX3_movesAll_3 : cX3_movesAll.data.toList.drop 71 = dktX3_movesAll_3 := dk_seg dksX3_movesAll_2 24 rfl rfl
theorem dX3_movesAll_0 : decode cX3_movesAll 0 = .ok (.aload_n 0, 1) := dk_42 (dk_at dksX3_movesAll_0 0 rfl rfl)
theorem dX3_movesAll_1 : decode cX3_movesAll 1 = .ok (.bipush 40, 2) := dk_16 40 (dk_at dksX3_movesAll_0 1 rfl rfl)
theorem dX3_movesAll_3 : decode cX3_movesAll 3 = .ok (.iload_n 1, 1) := dk_27 (dk_at dksX3_movesAll_0 3 rfl rfl)
theorem dX3_movesAll_4 : decode cX3_movesAll 4 = .ok (.imul, 1) := dk_104 (dk_at dksX3_movesAll_0 4 rfl rfl)
theorem dX3_movesAll_5 : decode cX3_movesAll 5 = .ok (.putfield 446, 3) := dk_181 1 190 (dk_at dksX3_movesAll_0 5 rfl rfl)
theorem dX3_movesAll_8 : decode cX3_movesAll 8 = .ok (.aload_n 0, 1) := dk_42 (dk_at dksX3_movesAll_0 8 rfl rfl)
theorem dX3_movesAll_9 : decode cX3_movesAll 9 = .ok (.iload_n 2, 1) := dk_28 (dk_at dksX3_movesAll_0 9 rfl rfl)
theorem dX3_movesAll_10 : decode cX3_movesAll 10 = .ok (.putfield 442, 3) := dk_181 1 186 (dk_at dksX3_movesAll_0 10 rfl rfl)
theorem dX3_movesAll_13 : decode cX3_movesAll 13 = .ok (.aload_n 0, 1) := dk_42 (dk_at dksX3_movesAll_0 13 rfl rfl)
theorem dX3_movesAll_14 : decode cX3_movesAll 14 = .ok (.getfield 9, 3) := dk_180 0 9 (dk_at dksX3_movesAll_0 14 rfl rfl)
theorem dX3_movesAll_17 : decode cX3_movesAll 17 = .ok (.iconst 4, 1) := dk_7 (dk_at dksX3_movesAll_0 17 rfl rfl)
theorem dX3_movesAll_18 : decode cX3_movesAll 18 = .ok (.aload_n 0, 1) := dk_42 (dk_at dksX3_movesAll_0 18 rfl rfl)
theorem dX3_movesAll_19 : decode cX3_movesAll 19 = .ok (.aload_n 0, 1) := dk_42 (dk_at dksX3_movesAll_0 19 rfl rfl)
theorem dX3_movesAll_20 : decode cX3_movesAll 20 = .ok (.getfield 9, 3) := dk_180 0 9 (dk_at dksX3_movesAll_0 20 rfl rfl)
theorem dX3_movesAll_23 : decode cX3_movesAll 23 = .ok (.iconst 4, 1) := dk_7 (dk_at dksX3_movesAll_0 23 rfl rfl)
theorem dX3_movesAll_24 : decode cX3_movesAll 24 = .ok (.iaload, 1) := dk_46 (dk_at dksX3_movesAll_1 0 rfl rfl)
theorem dX3_movesAll_25 : decode cX3_movesAll 25 = .ok (.invokevirtual 449, 3) := dk_182 1 193 (dk_at dksX3_movesAll_1 1 rfl rfl)
theorem dX3_movesAll_28 : decode cX3_movesAll 28 = .ok (.iastore, 1) := dk_79 (dk_at dksX3_movesAll_1 4 rfl rfl)
theorem dX3_movesAll_29 : decode cX3_movesAll 29 = .ok (.aload_n 0, 1) := dk_42 (dk_at dksX3_movesAll_1 5 rfl rfl)
theorem dX3_movesAll_30 : decode cX3_movesAll 30 = .ok (.getfield 9, 3) := dk_180 0 9 (dk_at dksX3_movesAll_1 6 rfl rfl)
theorem dX3_movesAll_33 : decode cX3_movesAll 33 = .ok (.iconst 5, 1) := dk_8 (dk_at dksX3_movesAll_1 9 rfl rfl)
theorem dX3_movesAll_34 : decode cX3_movesAll 34 = .ok (.aload_n 0, 1) := dk_42 (dk_at dksX3_movesAll_1 10 rfl rfl)
theorem dX3_movesAll_35 : decode cX3_movesAll 35 = .ok (.aload_n 0, 1) := dk_42 (dk_at dksX3_movesAll_1 11 rfl rfl)
theorem dX3_movesAll_36 : decode cX3_movesAll 36 = .ok (.getfield 9, 3) := dk_180 0 9 (dk_at dksX3_movesAll_1 12 rfl rfl)
theorem dX3_movesAll_39 : decode cX3_movesAll 39 = .ok (.iconst 5, 1) := dk_8 (dk_at dksX3_movesAll_1 15 rfl rfl)
theorem dX3_movesAll_40 : decode cX3_movesAll 40 = .ok (.iaload, 1) := dk_46 (dk_at dksX3_movesAll_1 16 rfl rfl)
theorem dX3_movesAll_41 : decode cX3_movesAll 41 = .ok (.invokevirtual 449, 3) := dk_182 1 193 (dk_at dksX3_movesAll_1 17 rfl rfl)
theorem dX3_movesAll_44 : decode cX3_movesAll 44 = .ok (.iastore, 1) := dk_79 (dk_at dksX3_movesAll_1 20 rfl rfl)
theorem dX3_movesAll_45 : decode cX3_movesAll 45 = .ok (.aload_n 0, 1) := dk_42 (dk_at dksX3_movesAll_1 21 rfl rfl)
theorem dX3_movesAll_46 : decode cX3_movesAll 46 = .ok (.aload_n 0, 1) := dk_42 (dk_at dksX3_movesAll_1 22 rfl rfl)
theorem dX3_movesAll_47 : decode cX3_movesAll 47 = .ok (.getfield 13, 3) := dk_180 0 13 (dk_at dksX3_movesAll_2 0 rfl rfl)
theorem dX3_movesAll_50 : decode cX3_movesAll 50 = .ok (.invokevirtual 452, 3) := dk_182 1 196 (dk_at dksX3_movesAll_2 3 rfl rfl)
theorem dX3_movesAll_53 : decode cX3_movesAll 53 = .ok (.aload_n 0, 1) := dk_42 (dk_at dksX3_movesAll_2 6 rfl rfl)
theorem dX3_movesAll_54 : decode cX3_movesAll 54 = .ok (.aload_n 0, 1) := dk_42 (dk_at dksX3_movesAll_2 7 rfl rfl)
theorem dX3_movesAll_55 : decode cX3_movesAll 55 = .ok (.getfield 16, 3) := dk_180 0 16 (dk_at dksX3_movesAll_2 8 rfl rfl)
theorem dX3_movesAll_58 : decode cX3_movesAll 58 = .ok (.invokevirtual 452, 3) := dk_182 1 196 (dk_at dksX3_movesAll_2 11 rfl rfl)
theorem dX3_movesAll_61 : decode cX3_movesAll 61 = .ok (.aload_n 0, 1) := dk_42 (dk_at dksX3_movesAll_2 14 rfl rfl)
theorem dX3_movesAll_62 : decode cX3_movesAll 62 = .ok (.aload_n 0, 1) := dk_42 (dk_at dksX3_movesAll_2 15 rfl rfl)
theorem dX3_movesAll_63 : decode cX3_movesAll 63 = .ok (.getfield 19, 3) := dk_180 0 19 (dk_at dksX3_movesAll_2 16 rfl rfl)
theorem dX3_movesAll_66 : decode cX3_movesAll 66 = .ok (.invokevirtual 452, 3) := dk_182 1 196 (dk_at dksX3_movesAll_2 19 rfl rfl)
theorem dX3_movesAll_69 : decode cX3_movesAll 69 = .ok (.aload_n 0, 1) := dk_42 (dk_at dksX3_movesAll_2 22 rfl rfl)
theorem dX3_movesAll_70 : decode cX3_movesAll 70 = .ok (.aload_n 0, 1) := dk_42 (dk_at dksX3_movesAll_2 23 rfl rfl)
theorem dX3_movesAll_71 : decode cX3_movesAll 71 = .ok (.getfield 34, 3) := dk_180 0 34 (dk_at dksX3_movesAll_3 0 rfl rfl)
theorem dX3_movesAll_74 : decode cX3_movesAll 74 = .ok (.invokevirtual 452, 3) := dk_182 1 196 (dk_at dksX3_movesAll_3 3 rfl rfl)
theorem dX3_movesAll_77 : decode cX3_movesAll 77 = .ok (.return_, 1) := dk_177 (dk_at dksX3_movesAll_3 6 rfl rfl)
abbrev cX3_moves : ByteArray := prog_17_method_69_code
def yX3_moves : MethodName := ⟨RX3, "moves", "(I)I"⟩
def dkwX3_moves_1 : List UInt8 := [180, 0, 130, 42, 180, 1, 190, 28, 79, 42, 89, 180, 1, 190, 4, 96, 181, 1, 190, 28, 172]
abbrev dktX3_moves_1 : List UInt8 := dkwX3_moves_1 ++ []
def dkwX3_moves_0 : List UInt8 := [42, 180, 1, 186, 153, 0, 15, 42, 180, 0, 130, 42, 180, 1, 190, 46, 167, 0, 4, 27, 61, 42]
abbrev dktX3_moves_0 : List UInt8 := dkwX3_moves_0 ++ dktX3_moves_1
theorem dksX3_moves_0 : cX3_moves.data.toList.drop 0 = dktX3_moves_0 := by decide +kernel
theorem dksX3_moves_1 : cX3_moves.data.toList.drop 22 = dktX3_moves_1 := dk_seg dksX3_moves_0 22 rfl rfl
theorem dX3_moves_0 : decode cX3_moves 0 = .ok (.aload_n 0, 1) := dk_42 (dk_at dksX3_moves_0 0 rfl rfl)
theorem dX3_moves_1 : decode cX3_moves 1 = .ok (.getfield 442, 3) := dk_180 1 186 (dk_at dksX3_moves_0 1 rfl rfl)
theorem dX3_moves_4 : decode cX3_moves 4 = .ok (.ifCond .eq 15, 3) := dk_153 0 15 (dk_at dksX3_moves_0 4 rfl rfl)
theorem dX3_moves_7 : decode cX3_moves 7 = .ok (.aload_n 0, 1) := dk_42 (dk_at dksX3_moves_0 7 rfl rfl)
theorem dX3_moves_8 : decode cX3_moves 8 = .ok (.getfield 130, 3) := dk_180 0 130 (dk_at dksX3_moves_0 8 rfl rfl)
theorem dX3_moves_11 : decode cX3_moves 11 = .ok (.aload_n 0, 1) := dk_42 (dk_at dksX3_moves_0 11 rfl rfl)
theorem dX3_moves_12 : decode cX3_moves 12 = .ok (.getfield 446, 3) := dk_180 1 190 (dk_at dksX3_moves_0 12 rfl rfl)
theorem dX3_moves_15 : decode cX3_moves 15 = .ok (.iaload, 1) := dk_46 (dk_at dksX3_moves_0 15 rfl rfl)
theorem dX3_moves_16 : decode cX3_moves 16 = .ok (.goto 4, 3) := dk_167 0 4 (dk_at dksX3_moves_0 16 rfl rfl)
theorem dX3_moves_19 : decode cX3_moves 19 = .ok (.iload_n 1, 1) := dk_27 (dk_at dksX3_moves_0 19 rfl rfl)
theorem dX3_moves_20 : decode cX3_moves 20 = .ok (.istore_n 2, 1) := dk_61 (dk_at dksX3_moves_0 20 rfl rfl)
theorem dX3_moves_21 : decode cX3_moves 21 = .ok (.aload_n 0, 1) := dk_42 (dk_at dksX3_moves_0 21 rfl rfl)
theorem dX3_moves_22 : decode cX3_moves 22 = .ok (.getfield 130, 3) := dk_180 0 130 (dk_at dksX3_moves_1 0 rfl rfl)
theorem dX3_moves_25 : decode cX3_moves 25 = .ok (.aload_n 0, 1) := dk_42 (dk_at dksX3_moves_1 3 rfl rfl)
theorem dX3_moves_26 : decode cX3_moves 26 = .ok (.getfield 446, 3) := dk_180 1 190 (dk_at dksX3_moves_1 4 rfl rfl)
theorem dX3_moves_29 : decode cX3_moves 29 = .ok (.iload_n 2, 1) := dk_28 (dk_at dksX3_moves_1 7 rfl rfl)
theorem dX3_moves_30 : decode cX3_moves 30 = .ok (.iastore, 1) := dk_79 (dk_at dksX3_moves_1 8 rfl rfl)
theorem dX3_moves_31 : decode cX3_moves 31 = .ok (.aload_n 0, 1) := dk_42 (dk_at dksX3_moves_1 9 rfl rfl)
theorem dX3_moves_32 : decode cX3_moves 32 = .ok (.dup, 1) := dk_89 (dk_at dksX3_moves_1 10 rfl rfl)
theorem dX3_moves_33 : decode cX3_moves 33 = .ok (.getfield 446, 3) := dk_180 1 190 (dk_at dksX3_moves_1 11 rfl rfl)
theorem dX3_moves_36 : decode cX3_moves 36 = .ok (.iconst 1, 1) := dk_4 (dk_at dksX3_moves_1 14 rfl rfl)
theorem dX3_moves_37 : decode cX3_moves 37 = .ok (.iadd, 1) := dk_96 (dk_at dksX3_moves_1 15 rfl rfl)
theorem dX3_moves_38 : decode cX3_moves 38 = .ok (.putfield 446, 3) := dk_181 1 190 (dk_at dksX3_moves_1 16 rfl rfl)
theorem dX3_moves_41 : decode cX3_moves 41 = .ok (.iload_n 2, 1) := dk_28 (dk_at dksX3_moves_1 19 rfl rfl)
theorem dX3_moves_42 : decode cX3_moves 42 = .ok (.ireturn, 1) := dk_172 (dk_at dksX3_moves_1 20 rfl rfl)
abbrev cX3_movesRow : ByteArray := prog_17_method_70_code
def yX3_movesRow : MethodName := ⟨RX3, "movesRow", "([I)V"⟩
def dkwX3_movesRow_1 : List UInt8 := [177]
abbrev dktX3_movesRow_1 : List UInt8 := dkwX3_movesRow_1 ++ []
def dkwX3_movesRow_0 : List UInt8 := [3, 61, 28, 43, 190, 162, 0, 19, 43, 28, 42, 43, 28, 46, 182, 1, 193, 79, 132, 2, 1, 167, 255, 237]
abbrev dktX3_movesRow_0 : List UInt8 := dkwX3_movesRow_0 ++ dktX3_movesRow_1
theorem dksX3_movesRow_0 : cX3_movesRow.data.toList.drop 0 = dktX3_movesRow_0 := by decide +kernel
theorem dksX3_movesRow_1 : cX3_movesRow.data.toList.drop 24 = dktX3_movesRow_1 := dk_seg dksX3_movesRow_0 24 rfl rfl
theorem dX3_movesRow_0 : decode cX3_movesRow 0 = .ok (.iconst 0, 1) := dk_3 (dk_at dksX3_movesRow_0 0 rfl rfl)
theorem dX3_movesRow_1 : decode cX3_movesRow 1 = .ok (.istore_n 2, 1) := dk_61 (dk_at dksX3_movesRow_0 1 rfl rfl)
theorem dX3_movesRow_2 : decode cX3_movesRow 2 = .ok (.iload_n 2, 1) := dk_28 (dk_at dksX3_movesRow_0 2 rfl rfl)
theorem dX3_movesRow_3 : decode cX3_movesRow 3 = .ok (.aload_n 1, 1) := dk_43 (dk_at dksX3_movesRow_0 3 rfl rfl)
theorem dX3_movesRow_4 : decode cX3_movesRow 4 = .ok (.arraylength, 1) := dk_190 (dk_at dksX3_movesRow_0 4 rfl rfl)
theorem dX3_movesRow_5 : decode cX3_movesRow 5 = .ok (.if_icmp .ge 19, 3) := dk_162 0 19 (dk_at dksX3_movesRow_0 5 rfl rfl)
theorem dX3_movesRow_8 : decode cX3_movesRow 8 = .ok (.aload_n 1, 1) := dk_43 (dk_at dksX3_movesRow_0 8 rfl rfl)
theorem dX3_movesRow_9 : decode cX3_movesRow 9 = .ok (.iload_n 2, 1) := dk_28 (dk_at dksX3_movesRow_0 9 rfl rfl)
theorem dX3_movesRow_10 : decode cX3_movesRow 10 = .ok (.aload_n 0, 1) := dk_42 (dk_at dksX3_movesRow_0 10 rfl rfl)
theorem dX3_movesRow_11 : decode cX3_movesRow 11 = .ok (.aload_n 1, 1) := dk_43 (dk_at dksX3_movesRow_0 11 rfl rfl)
theorem dX3_movesRow_12 : decode cX3_movesRow 12 = .ok (.iload_n 2, 1) := dk_28 (dk_at dksX3_movesRow_0 12 rfl rfl)
theorem dX3_movesRow_13 : decode cX3_movesRow 13 = .ok (.iaload, 1) := dk_46 (dk_at dksX3_movesRow_0 13 rfl rfl)
theorem dX3_movesRow_14 : decode cX3_movesRow 14 = .ok (.invokevirtual 449, 3) := dk_182 1 193 (dk_at dksX3_movesRow_0 14 rfl rfl)
theorem dX3_movesRow_17 : decode cX3_movesRow 17 = .ok (.iastore, 1) := dk_79 (dk_at dksX3_movesRow_0 17 rfl rfl)
theorem dX3_movesRow_18 : decode cX3_movesRow 18 = .ok (.iinc 2 1, 3) := dk_132 2 1 (dk_at dksX3_movesRow_0 18 rfl rfl)
theorem dX3_movesRow_21 : decode cX3_movesRow 21 = .ok (.goto (-19), 3) := dk_167 255 237 (dk_at dksX3_movesRow_0 21 rfl rfl)
theorem dX3_movesRow_24 : decode cX3_movesRow 24 = .ok (.return_, 1) := dk_177 (dk_at dksX3_movesRow_1 0 rfl rfl)
abbrev cX3_night : ByteArray := prog_17_method_74_code
def yX3_night : MethodName := ⟨RX3, "night", "()I"⟩
def dkwX3_night_1 : List UInt8 := [182, 1, 204, 42, 182, 1, 183, 172]
abbrev dktX3_night_1 : List UInt8 := dkwX3_night_1 ++ []
def dkwX3_night_0 : List UInt8 := [42, 182, 1, 144, 153, 0, 15, 42, 180, 0, 9, 8, 46, 17, 3, 231, 160, 0, 5, 2, 172, 42]
abbrev dktX3_night_0 : List UInt8 := dkwX3_night_0 ++ dktX3_night_1
theorem dksX3_night_0 : cX3_night.data.toList.drop 0 = dktX3_night_0 := by decide +kernel
theorem dksX3_night_1 : cX3_night.data.toList.drop 22 = dktX3_night_1 := dk_seg dksX3_night_0 22 rfl rfl
theorem dX3_night_0 : decode cX3_night 0 = .ok (.aload_n 0, 1) := dk_42 (dk_at dksX3_night_0 0 rfl rfl)
theorem dX3_night_1 : decode cX3_night 1 = .ok (.invokevirtual 400, 3) := dk_182 1 144 (dk_at dksX3_night_0 1 rfl rfl)
theorem dX3_night_4 : decode cX3_night 4 = .ok (.ifCond .eq 15, 3) := dk_153 0 15 (dk_at dksX3_night_0 4 rfl rfl)
theorem dX3_night_7 : decode cX3_night 7 = .ok (.aload_n 0, 1) := dk_42 (dk_at dksX3_night_0 7 rfl rfl)
theorem dX3_night_8 : decode cX3_night 8 = .ok (.getfield 9, 3) := dk_180 0 9 (dk_at dksX3_night_0 8 rfl rfl)
theorem dX3_night_11 : decode cX3_night 11 = .ok (.iconst 5, 1) := dk_8 (dk_at dksX3_night_0 11 rfl rfl)
theorem dX3_night_12 : decode cX3_night 12 = .ok (.iaload, 1) := dk_46 (dk_at dksX3_night_0 12 rfl rfl)
theorem dX3_night_13 : decode cX3_night 13 = .ok (.sipush 999, 3) := dk_17 3 231 (dk_at dksX3_night_0 13 rfl rfl)
theorem dX3_night_16 : decode cX3_night 16 = .ok (.if_icmp .ne 5, 3) := dk_160 0 5 (dk_at dksX3_night_0 16 rfl rfl)
theorem dX3_night_19 : decode cX3_night 19 = .ok (.iconst (-1), 1) := dk_2 (dk_at dksX3_night_0 19 rfl rfl)
theorem dX3_night_20 : decode cX3_night 20 = .ok (.ireturn, 1) := dk_172 (dk_at dksX3_night_0 20 rfl rfl)
theorem dX3_night_21 : decode cX3_night 21 = .ok (.aload_n 0, 1) := dk_42 (dk_at dksX3_night_0 21 rfl rfl)
theorem dX3_night_22 : decode cX3_night 22 = .ok (.invokevirtual 460, 3) := dk_182 1 204 (dk_at dksX3_night_1 0 rfl rfl)
theorem dX3_night_25 : decode cX3_night 25 = .ok (.aload_n 0, 1) := dk_42 (dk_at dksX3_night_1 3 rfl rfl)
theorem dX3_night_26 : decode cX3_night 26 = .ok (.invokevirtual 439, 3) := dk_182 1 183 (dk_at dksX3_night_1 4 rfl rfl)
theorem dX3_night_29 : decode cX3_night 29 = .ok (.ireturn, 1) := dk_172 (dk_at dksX3_night_1 7 rfl rfl)
abbrev cX3_keepsAct : ByteArray := prog_17_method_72_code
def yX3_keepsAct : MethodName := ⟨RX3, "keepsAct", "()V"⟩
def dkwX3_keepsAct_2 : List UInt8 := [181, 1, 105, 42, 42, 180, 1, 105, 3, 182, 1, 200, 42, 89, 180, 1, 105, 4, 96, 181, 1, 105, 177]
abbrev dktX3_keepsAct_2 : List UInt8 := dkwX3_keepsAct_2 ++ []
def dkwX3_keepsAct_1 : List UInt8 := [16, 40, 100, 42, 180, 0, 130, 27, 46, 79, 132, 1, 1, 167, 255, 231, 42, 89, 180, 1, 105, 4, 100]
abbrev dktX3_keepsAct_1 : List UInt8 := dkwX3_keepsAct_1 ++ dktX3_keepsAct_2
def dkwX3_keepsAct_0 : List UInt8 := [42, 180, 1, 105, 16, 20, 160, 0, 44, 16, 40, 60, 27, 17, 3, 32, 162, 0, 24, 42, 180, 0, 130, 27]
abbrev dktX3_keepsAct_0 : List UInt8 := dkwX3_keepsAct_0 ++ dktX3_keepsAct_1
theorem dksX3_keepsAct_0 : cX3_keepsAct.data.toList.drop 0 = dktX3_keepsAct_0 := by decide +kernel
theorem dksX3_keepsAct_1 : cX3_keepsAct.data.toList.drop 24 = dktX3_keepsAct_1 := dk_seg dksX3_keepsAct_0 24 rfl rfl
theorem dksX3_keepsAct_2 : cX3_keepsAct.data.toList.drop 47 = dktX3_keepsAct_2 := dk_seg dksX3_keepsAct_1 23 rfl rfl
theorem dX3_keepsAct_0 : decode cX3_keepsAct 0 = .ok (.aload_n 0, 1) := dk_42 (dk_at dksX3_keepsAct_0 0 rfl rfl)
theorem dX3_keepsAct_1 : decode cX3_keepsAct 1 = .ok (.getfield 361, 3) := dk_180 1 105 (dk_at dksX3_keepsAct_0 1 rfl rfl)
theorem dX3_keepsAct_4 : decode cX3_keepsAct 4 = .ok (.bipush 20, 2) := dk_16 20 (dk_at dksX3_keepsAct_0 4 rfl rfl)
theorem dX3_keepsAct_6 : decode cX3_keepsAct 6 = .ok (.if_icmp .ne 44, 3) := dk_160 0 44 (dk_at dksX3_keepsAct_0 6 rfl rfl)
theorem dX3_keepsAct_9 : decode cX3_keepsAct 9 = .ok (.bipush 40, 2) := dk_16 40 (dk_at dksX3_keepsAct_0 9 rfl rfl)
theorem dX3_keepsAct_11 : decode cX3_keepsAct 11 = .ok (.istore_n 1, 1) := dk_60 (dk_at dksX3_keepsAct_0 11 rfl rfl)
theorem dX3_keepsAct_12 : decode cX3_keepsAct 12 = .ok (.iload_n 1, 1) := dk_27 (dk_at dksX3_keepsAct_0 12 rfl rfl)
theorem dX3_keepsAct_13 : decode cX3_keepsAct 13 = .ok (.sipush 800, 3) := dk_17 3 32 (dk_at dksX3_keepsAct_0 13 rfl rfl)
theorem dX3_keepsAct_16 : decode cX3_keepsAct 16 = .ok (.if_icmp .ge 24, 3) := dk_162 0 24 (dk_at dksX3_keepsAct_0 16 rfl rfl)
theorem dX3_keepsAct_19 : decode cX3_keepsAct 19 = .ok (.aload_n 0, 1) := dk_42 (dk_at dksX3_keepsAct_0 19 rfl rfl)
theorem dX3_keepsAct_20 : decode cX3_keepsAct 20 = .ok (.getfield 130, 3) := dk_180 0 130 (dk_at dksX3_keepsAct_0 20 rfl rfl)
theorem dX3_keepsAct_23 : decode cX3_keepsAct 23 = .ok (.iload_n 1, 1) := dk_27 (dk_at dksX3_keepsAct_0 23 rfl rfl)
theorem dX3_keepsAct_24 : decode cX3_keepsAct 24 = .ok (.bipush 40, 2) := dk_16 40 (dk_at dksX3_keepsAct_1 0 rfl rfl)
theorem dX3_keepsAct_26 : decode cX3_keepsAct 26 = .ok (.isub, 1) := dk_100 (dk_at dksX3_keepsAct_1 2 rfl rfl)
theorem dX3_keepsAct_27 : decode cX3_keepsAct 27 = .ok (.aload_n 0, 1) := dk_42 (dk_at dksX3_keepsAct_1 3 rfl rfl)
theorem dX3_keepsAct_28 : decode cX3_keepsAct 28 = .ok (.getfield 130, 3) := dk_180 0 130 (dk_at dksX3_keepsAct_1 4 rfl rfl)
theorem dX3_keepsAct_31 : decode cX3_keepsAct 31 = .ok (.iload_n 1, 1) := dk_27 (dk_at dksX3_keepsAct_1 7 rfl rfl)
theorem dX3_keepsAct_32 : decode cX3_keepsAct 32 = .ok (.iaload, 1) := dk_46 (dk_at dksX3_keepsAct_1 8 rfl rfl)
theorem dX3_keepsAct_33 : decode cX3_keepsAct 33 = .ok (.iastore, 1) := dk_79 (dk_at dksX3_keepsAct_1 9 rfl rfl)
theorem dX3_keepsAct_34 : decode cX3_keepsAct 34 = .ok (.iinc 1 1, 3) := dk_132 1 1 (dk_at dksX3_keepsAct_1 10 rfl rfl)
theorem dX3_keepsAct_37 : decode cX3_keepsAct 37 = .ok (.goto (-25), 3) := dk_167 255 231 (dk_at dksX3_keepsAct_1 13 rfl rfl)
theorem dX3_keepsAct_40 : decode cX3_keepsAct 40 = .ok (.aload_n 0, 1) := dk_42 (dk_at dksX3_keepsAct_1 16 rfl rfl)
theorem dX3_keepsAct_41 : decode cX3_keepsAct 41 = .ok (.dup, 1) := dk_89 (dk_at dksX3_keepsAct_1 17 rfl rfl)
theorem dX3_keepsAct_42 : decode cX3_keepsAct 42 = .ok (.getfield 361, 3) := dk_180 1 105 (dk_at dksX3_keepsAct_1 18 rfl rfl)
theorem dX3_keepsAct_45 : decode cX3_keepsAct 45 = .ok (.iconst 1, 1) := dk_4 (dk_at dksX3_keepsAct_1 21 rfl rfl)
theorem dX3_keepsAct_46 : decode cX3_keepsAct 46 = .ok (.isub, 1) := dk_100 (dk_at dksX3_keepsAct_1 22 rfl rfl)
theorem dX3_keepsAct_47 : decode cX3_keepsAct 47 = .ok (.putfield 361, 3) := dk_181 1 105 (dk_at dksX3_keepsAct_2 0 rfl rfl)
theorem dX3_keepsAct_50 : decode cX3_keepsAct 50 = .ok (.aload_n 0, 1) := dk_42 (dk_at dksX3_keepsAct_2 3 rfl rfl)
theorem dX3_keepsAct_51 : decode cX3_keepsAct 51 = .ok (.aload_n 0, 1) := dk_42 (dk_at dksX3_keepsAct_2 4 rfl rfl)
theorem dX3_keepsAct_52 : decode cX3_keepsAct 52 = .ok (.getfield 361, 3) := dk_180 1 105 (dk_at dksX3_keepsAct_2 5 rfl rfl)
theorem dX3_keepsAct_55 : decode cX3_keepsAct 55 = .ok (.iconst 0, 1) := dk_3 (dk_at dksX3_keepsAct_2 8 rfl rfl)
theorem dX3_keepsAct_56 : decode cX3_keepsAct 56 = .ok (.invokevirtual 456, 3) := dk_182 1 200 (dk_at dksX3_keepsAct_2 9 rfl rfl)
theorem dX3_keepsAct_59 : decode cX3_keepsAct 59 = .ok (.aload_n 0, 1) := dk_42 (dk_at dksX3_keepsAct_2 12 rfl rfl)
theorem dX3_keepsAct_60 : decode cX3_keepsAct 60 = .ok (.dup, 1) := dk_89 (dk_at dksX3_keepsAct_2 13 rfl rfl)
theorem dX3_keepsAct_61 : decode cX3_keepsAct 61 = .ok (.getfield 361, 3) := dk_180 1 105 (dk_at dksX3_keepsAct_2 14 rfl rfl)
theorem dX3_keepsAct_64 : decode cX3_keepsAct 64 = .ok (.iconst 1, 1) := dk_4 (dk_at dksX3_keepsAct_2 17 rfl rfl)
theorem dX3_keepsAct_65 : decode cX3_keepsAct 65 = .ok (.iadd, 1) := dk_96 (dk_at dksX3_keepsAct_2 18 rfl rfl)
theorem dX3_keepsAct_66 : decode cX3_keepsAct 66 = .ok (.putfield 361, 3) := dk_181 1 105 (dk_at dksX3_keepsAct_2 19 rfl rfl)
theorem dX3_keepsAct_69 : decode cX3_keepsAct 69 = .ok (.return_, 1) := dk_177 (dk_at dksX3_keepsAct_2 22 rfl rfl)
abbrev cX3_goesNight : ByteArray := prog_17_method_67_code
def yX3_goesNight : MethodName := ⟨RX3, "goesNight", "()I"⟩
def dkwX3_goesNight_0 : List UInt8 := [42, 42, 42, 180, 0, 9, 8, 46, 182, 1, 147, 182, 1, 180, 172]
abbrev dktX3_goesNight_0 : List UInt8 := dkwX3_goesNight_0 ++ []
theorem dksX3_goesNight_0 : cX3_goesNight.data.toList.drop 0 = dktX3_goesNight_0 := by decide +kernel
theorem dX3_goesNight_0 : decode cX3_goesNight 0 = .ok (.aload_n 0, 1) := dk_42 (dk_at dksX3_goesNight_0 0 rfl rfl)
theorem dX3_goesNight_1 : decode cX3_goesNight 1 = .ok (.aload_n 0, 1) := dk_42 (dk_at dksX3_goesNight_0 1 rfl rfl)
theorem dX3_goesNight_2 : decode cX3_goesNight 2 = .ok (.aload_n 0, 1) := dk_42 (dk_at dksX3_goesNight_0 2 rfl rfl)
theorem dX3_goesNight_3 : decode cX3_goesNight 3 = .ok (.getfield 9, 3) := dk_180 0 9 (dk_at dksX3_goesNight_0 3 rfl rfl)
theorem dX3_goesNight_6 : decode cX3_goesNight 6 = .ok (.iconst 5, 1) := dk_8 (dk_at dksX3_goesNight_0 6 rfl rfl)
theorem dX3_goesNight_7 : decode cX3_goesNight 7 = .ok (.iaload, 1) := dk_46 (dk_at dksX3_goesNight_0 7 rfl rfl)
theorem dX3_goesNight_8 : decode cX3_goesNight 8 = .ok (.invokevirtual 403, 3) := dk_182 1 147 (dk_at dksX3_goesNight_0 8 rfl rfl)
theorem dX3_goesNight_11 : decode cX3_goesNight 11 = .ok (.invokevirtual 436, 3) := dk_182 1 180 (dk_at dksX3_goesNight_0 11 rfl rfl)
theorem dX3_goesNight_14 : decode cX3_goesNight 14 = .ok (.ireturn, 1) := dk_172 (dk_at dksX3_goesNight_0 14 rfl rfl)
abbrev cX3_nightOf : ByteArray := prog_17_method_66_code
def yX3_nightOf : MethodName := ⟨RX3, "nightOf", "(I)I"⟩
def dkwX3_nightOf_8 : List UInt8 := [28, 172]
abbrev dktX3_nightOf_8 : List UInt8 := dkwX3_nightOf_8 ++ []
def dkwX3_nightOf_7 : List UInt8 := [182, 1, 174, 132, 2, 1, 167, 255, 236, 42, 182, 1, 177, 61, 42, 180, 0, 9, 8, 92, 46, 4, 96, 79]
abbrev dktX3_nightOf_7 : List UInt8 := dkwX3_nightOf_7 ++ dktX3_nightOf_8
def dkwX3_nightOf_6 : List UInt8 := [132, 2, 1, 167, 255, 218, 3, 61, 28, 4, 96, 42, 180, 0, 9, 3, 46, 162, 0, 14, 42, 28]
abbrev dktX3_nightOf_6 : List UInt8 := dkwX3_nightOf_6 ++ dktX3_nightOf_7
def dkwX3_nightOf_5 : List UInt8 := [180, 0, 13, 28, 42, 180, 0, 13, 28, 46, 42, 180, 0, 124, 28, 46, 96, 133, 16, 20, 184, 1, 150, 79]
abbrev dktX3_nightOf_5 : List UInt8 := dkwX3_nightOf_5 ++ dktX3_nightOf_6
def dkwX3_nightOf_4 : List UInt8 := [182, 1, 171, 79, 132, 2, 1, 167, 255, 219, 3, 61, 28, 42, 180, 0, 9, 3, 46, 162, 0, 34, 42]
abbrev dktX3_nightOf_4 : List UInt8 := dkwX3_nightOf_4 ++ dktX3_nightOf_5
def dkwX3_nightOf_3 : List UInt8 := [162, 0, 33, 42, 180, 0, 124, 28, 42, 28, 182, 0, 182, 153, 0, 7, 3, 167, 0, 9, 42, 28, 27]
abbrev dktX3_nightOf_3 : List UInt8 := dkwX3_nightOf_3 ++ dktX3_nightOf_4
def dkwX3_nightOf_2 : List UInt8 := [180, 0, 16, 28, 46, 27, 96, 79, 132, 2, 1, 167, 255, 203, 3, 61, 28, 42, 180, 0, 9, 3, 46]
abbrev dktX3_nightOf_2 : List UInt8 := dkwX3_nightOf_2 ++ dktX3_nightOf_3
def dkwX3_nightOf_1 : List UInt8 := [42, 180, 0, 16, 28, 42, 180, 0, 16, 28, 46, 27, 96, 16, 99, 164, 0, 8, 16, 99, 167, 0, 11, 42]
abbrev dktX3_nightOf_1 : List UInt8 := dkwX3_nightOf_1 ++ dktX3_nightOf_2
def dkwX3_nightOf_0 : List UInt8 := [42, 182, 1, 168, 3, 61, 28, 42, 180, 0, 9, 3, 46, 162, 0, 49, 42, 28, 182, 0, 182, 154, 0, 35]
abbrev dktX3_nightOf_0 : List UInt8 := dkwX3_nightOf_0 ++ dktX3_nightOf_1
theorem dksX3_nightOf_0 : cX3_nightOf.data.toList.drop 0 = dktX3_nightOf_0 := by decide +kernel
theorem dksX3_nightOf_1 : cX3_nightOf.data.toList.drop 24 = dktX3_nightOf_1 := dk_seg dksX3_nightOf_0 24 rfl rfl
theorem dksX3_nightOf_2 : cX3_nightOf.data.toList.drop 48 = dktX3_nightOf_2 := dk_seg dksX3_nightOf_1 24 rfl rfl
theorem dksX3_nightOf_3 : cX3_nightOf.data.toList.drop 71 = dktX3_nightOf_3 := dk_seg dksX3_nightOf_2 23 rfl rfl
theorem dksX3_nightOf_4 : cX3_nightOf.data.toList.drop 94 = dktX3_nightOf_4 := dk_seg dksX3_nightOf_3 23 rfl rfl
theorem dksX3_nightOf_5 : cX3_nightOf.data.toList.drop 117 = dktX3_nightOf_5 := dk_seg dksX3_nightOf_4 23 rfl rfl
theorem dksX3_nightOf_6 : cX3_nightOf.data.toList.drop 141 = dktX3_nightOf_6 := dk_seg dksX3_nightOf_5 24 rfl rfl
theorem dksX3_nightOf_7 : cX3_nightOf.data.toList.drop 163 = dktX3_nightOf_7 := dk_seg dksX3_nightOf_6 22 rfl rfl
theorem dksX3_nightOf_8 : cX3_nightOf.data.toList.drop 187 = dktX3_nightOf_8 := dk_seg dksX3_nightOf_7 24 rfl rfl
theorem dX3_nightOf_0 : decode cX3_nightOf 0 = .ok (.aload_n 0, 1) := dk_42 (dk_at dksX3_nightOf_0 0 rfl rfl)
theorem dX3_nightOf_1 : decode cX3_nightOf 1 = .ok (.invokevirtual 424, 3) := dk_182 1 168 (dk_at dksX3_nightOf_0 1 rfl rfl)
theorem dX3_nightOf_4 : decode cX3_nightOf 4 = .ok (.iconst 0, 1) := dk_3 (dk_at dksX3_nightOf_0 4 rfl rfl)
theorem dX3_nightOf_5 : decode cX3_nightOf 5 = .ok (.istore_n 2, 1) := dk_61 (dk_at dksX3_nightOf_0 5 rfl rfl)
theorem dX3_nightOf_6 : decode cX3_nightOf 6 = .ok (.iload_n 2, 1) := dk_28 (dk_at dksX3_nightOf_0 6 rfl rfl)
theorem dX3_nightOf_7 : decode cX3_nightOf 7 = .ok (.aload_n 0, 1) := dk_42 (dk_at dksX3_nightOf_0 7 rfl rfl)
theorem dX3_nightOf_8 : decode cX3_nightOf 8 = .ok (.getfield 9, 3) := dk_180 0 9 (dk_at dksX3_nightOf_0 8 rfl rfl)
theorem dX3_nightOf_11 : decode cX3_nightOf 11 = .ok (.iconst 0, 1) := dk_3 (dk_at dksX3_nightOf_0 11 rfl rfl)
theorem dX3_nightOf_12 : decode cX3_nightOf 12 = .ok (.iaload, 1) := dk_46 (dk_at dksX3_nightOf_0 12 rfl rfl)
theorem dX3_nightOf_13 : decode cX3_nightOf 13 = .ok (.if_icmp .ge 49, 3) := dk_162 0 49 (dk_at dksX3_nightOf_0 13 rfl rfl)
theorem dX3_nightOf_16 : decode cX3_nightOf 16 = .ok (.aload_n 0, 1) := dk_42 (dk_at dksX3_nightOf_0 16 rfl rfl)
theorem dX3_nightOf_17 : decode cX3_nightOf 17 = .ok (.iload_n 2, 1) := dk_28 (dk_at dksX3_nightOf_0 17 rfl rfl)
theorem dX3_nightOf_18 : decode cX3_nightOf 18 = .ok (.invokevirtual 182, 3) := dk_182 0 182 (dk_at dksX3_nightOf_0 18 rfl rfl)
theorem dX3_nightOf_21 : decode cX3_nightOf 21 = .ok (.ifCond .ne 35, 3) := dk_154 0 35 (dk_at dksX3_nightOf_0 21 rfl rfl)
theorem dX3_nightOf_24 : decode cX3_nightOf 24 = .ok (.aload_n 0, 1) := dk_42 (dk_at dksX3_nightOf_1 0 rfl rfl)
theorem dX3_nightOf_25 : decode cX3_nightOf 25 = .ok (.getfield 16, 3) := dk_180 0 16 (dk_at dksX3_nightOf_1 1 rfl rfl)
theorem dX3_nightOf_28 : decode cX3_nightOf 28 = .ok (.iload_n 2, 1) := dk_28 (dk_at dksX3_nightOf_1 4 rfl rfl)
theorem dX3_nightOf_29 : decode cX3_nightOf 29 = .ok (.aload_n 0, 1) := dk_42 (dk_at dksX3_nightOf_1 5 rfl rfl)
theorem dX3_nightOf_30 : decode cX3_nightOf 30 = .ok (.getfield 16, 3) := dk_180 0 16 (dk_at dksX3_nightOf_1 6 rfl rfl)
theorem dX3_nightOf_33 : decode cX3_nightOf 33 = .ok (.iload_n 2, 1) := dk_28 (dk_at dksX3_nightOf_1 9 rfl rfl)
theorem dX3_nightOf_34 : decode cX3_nightOf 34 = .ok (.iaload, 1) := dk_46 (dk_at dksX3_nightOf_1 10 rfl rfl)
theorem dX3_nightOf_35 : decode cX3_nightOf 35 = .ok (.iload_n 1, 1) := dk_27 (dk_at dksX3_nightOf_1 11 rfl rfl)
theorem dX3_nightOf_36 : decode cX3_nightOf 36 = .ok (.iadd, 1) := dk_96 (dk_at dksX3_nightOf_1 12 rfl rfl)
theorem dX3_nightOf_37 : decode cX3_nightOf 37 = .ok (.bipush 99, 2) := dk_16 99 (dk_at dksX3_nightOf_1 13 rfl rfl)
theorem dX3_nightOf_39 : decode cX3_nightOf 39 = .ok (.if_icmp .le 8, 3) := dk_164 0 8 (dk_at dksX3_nightOf_1 15 rfl rfl)
theorem dX3_nightOf_42 : decode cX3_nightOf 42 = .ok (.bipush 99, 2) := dk_16 99 (dk_at dksX3_nightOf_1 18 rfl rfl)
theorem dX3_nightOf_44 : decode cX3_nightOf 44 = .ok (.goto 11, 3) := dk_167 0 11 (dk_at dksX3_nightOf_1 20 rfl rfl)
theorem dX3_nightOf_47 : decode cX3_nightOf 47 = .ok (.aload_n 0, 1) := dk_42 (dk_at dksX3_nightOf_1 23 rfl rfl)
theorem dX3_nightOf_48 : decode cX3_nightOf 48 = .ok (.getfield 16, 3) := dk_180 0 16 (dk_at dksX3_nightOf_2 0 rfl rfl)
theorem dX3_nightOf_51 : decode cX3_nightOf 51 = .ok (.iload_n 2, 1) := dk_28 (dk_at dksX3_nightOf_2 3 rfl rfl)
theorem dX3_nightOf_52 : decode cX3_nightOf 52 = .ok (.iaload, 1) := dk_46 (dk_at dksX3_nightOf_2 4 rfl rfl)
theorem dX3_nightOf_53 : decode cX3_nightOf 53 = .ok (.iload_n 1, 1) := dk_27 (dk_at dksX3_nightOf_2 5 rfl rfl)
theorem dX3_nightOf_54 : decode cX3_nightOf 54 = .ok (.iadd, 1) := dk_96 (dk_at dksX3_nightOf_2 6 rfl rfl)
theorem dX3_nightOf_55 : decode cX3_nightOf 55 = .ok (.iastore, 1) := dk_79 (dk_at dksX3_nightOf_2 7 rfl rfl)
theorem dX3_nightOf_56 : decode cX3_nightOf 56 = .ok (.iinc 2 1, 3) := dk_132 2 1 (dk_at dksX3_nightOf_2 8 rfl rfl)
theorem dX3_nightOf_59 : decode cX3_nightOf 59 = .ok (.goto (-53), 3) := dk_167 255 203 (dk_at dksX3_nightOf_2 11 rfl rfl)
theorem dX3_nightOf_62 : decode cX3_nightOf 62 = .ok (.iconst 0, 1) := dk_3 (dk_at dksX3_nightOf_2 14 rfl rfl)
theorem dX3_nightOf_63 : decode cX3_nightOf 63 = .ok (.istore_n 2, 1) := dk_61 (dk_at dksX3_nightOf_2 15 rfl rfl)
theorem dX3_nightOf_64 : decode cX3_nightOf 64 = .ok (.iload_n 2, 1) := dk_28 (dk_at dksX3_nightOf_2 16 rfl rfl)
theorem dX3_nightOf_65 : decode cX3_nightOf 65 = .ok (.aload_n 0, 1) := dk_42 (dk_at dksX3_nightOf_2 17 rfl rfl)
theorem dX3_nightOf_66 : decode cX3_nightOf 66 = .ok (.getfield 9, 3) := dk_180 0 9 (dk_at dksX3_nightOf_2 18 rfl rfl)
theorem dX3_nightOf_69 : decode cX3_nightOf 69 = .ok (.iconst 0, 1) := dk_3 (dk_at dksX3_nightOf_2 21 rfl rfl)
theorem dX3_nightOf_70 : decode cX3_nightOf 70 = .ok (.iaload, 1) := dk_46 (dk_at dksX3_nightOf_2 22 rfl rfl)
theorem dX3_nightOf_71 : decode cX3_nightOf 71 = .ok (.if_icmp .ge 33, 3) := dk_162 0 33 (dk_at dksX3_nightOf_3 0 rfl rfl)
theorem dX3_nightOf_74 : decode cX3_nightOf 74 = .ok (.aload_n 0, 1) := dk_42 (dk_at dksX3_nightOf_3 3 rfl rfl)
theorem dX3_nightOf_75 : decode cX3_nightOf 75 = .ok (.getfield 124, 3) := dk_180 0 124 (dk_at dksX3_nightOf_3 4 rfl rfl)
theorem dX3_nightOf_78 : decode cX3_nightOf 78 = .ok (.iload_n 2, 1) := dk_28 (dk_at dksX3_nightOf_3 7 rfl rfl)
theorem dX3_nightOf_79 : decode cX3_nightOf 79 = .ok (.aload_n 0, 1) := dk_42 (dk_at dksX3_nightOf_3 8 rfl rfl)
theorem dX3_nightOf_80 : decode cX3_nightOf 80 = .ok (.iload_n 2, 1) := dk_28 (dk_at dksX3_nightOf_3 9 rfl rfl)
theorem dX3_nightOf_81 : decode cX3_nightOf 81 = .ok (.invokevirtual 182, 3) := dk_182 0 182 (dk_at dksX3_nightOf_3 10 rfl rfl)
theorem dX3_nightOf_84 : decode cX3_nightOf 84 = .ok (.ifCond .eq 7, 3) := dk_153 0 7 (dk_at dksX3_nightOf_3 13 rfl rfl)
theorem dX3_nightOf_87 : decode cX3_nightOf 87 = .ok (.iconst 0, 1) := dk_3 (dk_at dksX3_nightOf_3 16 rfl rfl)
theorem dX3_nightOf_88 : decode cX3_nightOf 88 = .ok (.goto 9, 3) := dk_167 0 9 (dk_at dksX3_nightOf_3 17 rfl rfl)
theorem dX3_nightOf_91 : decode cX3_nightOf 91 = .ok (.aload_n 0, 1) := dk_42 (dk_at dksX3_nightOf_3 20 rfl rfl)
theorem dX3_nightOf_92 : decode cX3_nightOf 92 = .ok (.iload_n 2, 1) := dk_28 (dk_at dksX3_nightOf_3 21 rfl rfl)
theorem dX3_nightOf_93 : decode cX3_nightOf 93 = .ok (.iload_n 1, 1) := dk_27 (dk_at dksX3_nightOf_3 22 rfl rfl)
theorem dX3_nightOf_94 : decode cX3_nightOf 94 = .ok (.invokevirtual 427, 3) := dk_182 1 171 (dk_at dksX3_nightOf_4 0 rfl rfl)
theorem dX3_nightOf_97 : decode cX3_nightOf 97 = .ok (.iastore, 1) := dk_79 (dk_at dksX3_nightOf_4 3 rfl rfl)
theorem dX3_nightOf_98 : decode cX3_nightOf 98 = .ok (.iinc 2 1, 3) := dk_132 2 1 (dk_at dksX3_nightOf_4 4 rfl rfl)
theorem dX3_nightOf_101 : decode cX3_nightOf 101 = .ok (.goto (-37), 3) := dk_167 255 219 (dk_at dksX3_nightOf_4 7 rfl rfl)
theorem dX3_nightOf_104 : decode cX3_nightOf 104 = .ok (.iconst 0, 1) := dk_3 (dk_at dksX3_nightOf_4 10 rfl rfl)
theorem dX3_nightOf_105 : decode cX3_nightOf 105 = .ok (.istore_n 2, 1) := dk_61 (dk_at dksX3_nightOf_4 11 rfl rfl)
theorem dX3_nightOf_106 : decode cX3_nightOf 106 = .ok (.iload_n 2, 1) := dk_28 (dk_at dksX3_nightOf_4 12 rfl rfl)
theorem dX3_nightOf_107 : decode cX3_nightOf 107 = .ok (.aload_n 0, 1) := dk_42 (dk_at dksX3_nightOf_4 13 rfl rfl)
theorem dX3_nightOf_108 : decode cX3_nightOf 108 = .ok (.getfield 9, 3) := dk_180 0 9 (dk_at dksX3_nightOf_4 14 rfl rfl)
theorem dX3_nightOf_111 : decode cX3_nightOf 111 = .ok (.iconst 0, 1) := dk_3 (dk_at dksX3_nightOf_4 17 rfl rfl)
theorem dX3_nightOf_112 : decode cX3_nightOf 112 = .ok (.iaload, 1) := dk_46 (dk_at dksX3_nightOf_4 18 rfl rfl)
theorem dX3_nightOf_113 : decode cX3_nightOf 113 = .ok (.if_icmp .ge 34, 3) := dk_162 0 34 (dk_at dksX3_nightOf_4 19 rfl rfl)
theorem dX3_nightOf_116 : decode cX3_nightOf 116 = .ok (.aload_n 0, 1) := dk_42 (dk_at dksX3_nightOf_4 22 rfl rfl)
theorem dX3_nightOf_117 : decode cX3_nightOf 117 = .ok (.getfield 13, 3) := dk_180 0 13 (dk_at dksX3_nightOf_5 0 rfl rfl)
theorem dX3_nightOf_120 : decode cX3_nightOf 120 = .ok (.iload_n 2, 1) := dk_28 (dk_at dksX3_nightOf_5 3 rfl rfl)
theorem dX3_nightOf_121 : decode cX3_nightOf 121 = .ok (.aload_n 0, 1) := dk_42 (dk_at dksX3_nightOf_5 4 rfl rfl)
theorem dX3_nightOf_122 : decode cX3_nightOf 122 = .ok (.getfield 13, 3) := dk_180 0 13 (dk_at dksX3_nightOf_5 5 rfl rfl)
theorem dX3_nightOf_125 : decode cX3_nightOf 125 = .ok (.iload_n 2, 1) := dk_28 (dk_at dksX3_nightOf_5 8 rfl rfl)
theorem dX3_nightOf_126 : decode cX3_nightOf 126 = .ok (.iaload, 1) := dk_46 (dk_at dksX3_nightOf_5 9 rfl rfl)
theorem dX3_nightOf_127 : decode cX3_nightOf 127 = .ok (.aload_n 0, 1) := dk_42 (dk_at dksX3_nightOf_5 10 rfl rfl)
theorem dX3_nightOf_128 : decode cX3_nightOf 128 = .ok (.getfield 124, 3) := dk_180 0 124 (dk_at dksX3_nightOf_5 11 rfl rfl)
theorem dX3_nightOf_131 : decode cX3_nightOf 131 = .ok (.iload_n 2, 1) := dk_28 (dk_at dksX3_nightOf_5 14 rfl rfl)
theorem dX3_nightOf_132 : decode cX3_nightOf 132 = .ok (.iaload, 1) := dk_46 (dk_at dksX3_nightOf_5 15 rfl rfl)
theorem dX3_nightOf_133 : decode cX3_nightOf 133 = .ok (.iadd, 1) := dk_96 (dk_at dksX3_nightOf_5 16 rfl rfl)
theorem dX3_nightOf_134 : decode cX3_nightOf 134 = .ok (.i2l, 1) := dk_133 (dk_at dksX3_nightOf_5 17 rfl rfl)
theorem dX3_nightOf_135 : decode cX3_nightOf 135 = .ok (.bipush 20, 2) := dk_16 20 (dk_at dksX3_nightOf_5 18 rfl rfl)
theorem dX3_nightOf_137 : decode cX3_nightOf 137 = .ok (.invokestatic 406, 3) := dk_184 1 150 (dk_at dksX3_nightOf_5 20 rfl rfl)
theorem dX3_nightOf_140 : decode cX3_nightOf 140 = .ok (.iastore, 1) := dk_79 (dk_at dksX3_nightOf_5 23 rfl rfl)
theorem dX3_nightOf_141 : decode cX3_nightOf 141 = .ok (.iinc 2 1, 3) := dk_132 2 1 (dk_at dksX3_nightOf_6 0 rfl rfl)
theorem dX3_nightOf_144 : decode cX3_nightOf 144 = .ok (.goto (-38), 3) := dk_167 255 218 (dk_at dksX3_nightOf_6 3 rfl rfl)
theorem dX3_nightOf_147 : decode cX3_nightOf 147 = .ok (.iconst 0, 1) := dk_3 (dk_at dksX3_nightOf_6 6 rfl rfl)
theorem dX3_nightOf_148 : decode cX3_nightOf 148 = .ok (.istore_n 2, 1) := dk_61 (dk_at dksX3_nightOf_6 7 rfl rfl)
theorem dX3_nightOf_149 : decode cX3_nightOf 149 = .ok (.iload_n 2, 1) := dk_28 (dk_at dksX3_nightOf_6 8 rfl rfl)
theorem dX3_nightOf_150 : decode cX3_nightOf 150 = .ok (.iconst 1, 1) := dk_4 (dk_at dksX3_nightOf_6 9 rfl rfl)
theorem dX3_nightOf_151 : decode cX3_nightOf 151 = .ok (.iadd, 1) := dk_96 (dk_at dksX3_nightOf_6 10 rfl rfl)
theorem dX3_nightOf_152 : decode cX3_nightOf 152 = .ok (.aload_n 0, 1) := dk_42 (dk_at dksX3_nightOf_6 11 rfl rfl)
theorem dX3_nightOf_153 : decode cX3_nightOf 153 = .ok (.getfield 9, 3) := dk_180 0 9 (dk_at dksX3_nightOf_6 12 rfl rfl)
theorem dX3_nightOf_156 : decode cX3_nightOf 156 = .ok (.iconst 0, 1) := dk_3 (dk_at dksX3_nightOf_6 15 rfl rfl)
theorem dX3_nightOf_157 : decode cX3_nightOf 157 = .ok (.iaload, 1) := dk_46 (dk_at dksX3_nightOf_6 16 rfl rfl)
theorem dX3_nightOf_158 : decode cX3_nightOf 158 = .ok (.if_icmp .ge 14, 3) := dk_162 0 14 (dk_at dksX3_nightOf_6 17 rfl rfl)
theorem dX3_nightOf_161 : decode cX3_nightOf 161 = .ok (.aload_n 0, 1) := dk_42 (dk_at dksX3_nightOf_6 20 rfl rfl)
theorem dX3_nightOf_162 : decode cX3_nightOf 162 = .ok (.iload_n 2, 1) := dk_28 (dk_at dksX3_nightOf_6 21 rfl rfl)
theorem dX3_nightOf_163 : decode cX3_nightOf 163 = .ok (.invokevirtual 430, 3) := dk_182 1 174 (dk_at dksX3_nightOf_7 0 rfl rfl)
theorem dX3_nightOf_166 : decode cX3_nightOf 166 = .ok (.iinc 2 1, 3) := dk_132 2 1 (dk_at dksX3_nightOf_7 3 rfl rfl)
theorem dX3_nightOf_169 : decode cX3_nightOf 169 = .ok (.goto (-20), 3) := dk_167 255 236 (dk_at dksX3_nightOf_7 6 rfl rfl)
theorem dX3_nightOf_172 : decode cX3_nightOf 172 = .ok (.aload_n 0, 1) := dk_42 (dk_at dksX3_nightOf_7 9 rfl rfl)
theorem dX3_nightOf_173 : decode cX3_nightOf 173 = .ok (.invokevirtual 433, 3) := dk_182 1 177 (dk_at dksX3_nightOf_7 10 rfl rfl)
theorem dX3_nightOf_176 : decode cX3_nightOf 176 = .ok (.istore_n 2, 1) := dk_61 (dk_at dksX3_nightOf_7 13 rfl rfl)
theorem dX3_nightOf_177 : decode cX3_nightOf 177 = .ok (.aload_n 0, 1) := dk_42 (dk_at dksX3_nightOf_7 14 rfl rfl)
theorem dX3_nightOf_178 : decode cX3_nightOf 178 = .ok (.getfield 9, 3) := dk_180 0 9 (dk_at dksX3_nightOf_7 15 rfl rfl)
theorem dX3_nightOf_181 : decode cX3_nightOf 181 = .ok (.iconst 5, 1) := dk_8 (dk_at dksX3_nightOf_7 18 rfl rfl)
theorem dX3_nightOf_182 : decode cX3_nightOf 182 = .ok (.dup2, 1) := dk_92 (dk_at dksX3_nightOf_7 19 rfl rfl)
theorem dX3_nightOf_183 : decode cX3_nightOf 183 = .ok (.iaload, 1) := dk_46 (dk_at dksX3_nightOf_7 20 rfl rfl)
theorem dX3_nightOf_184 : decode cX3_nightOf 184 = .ok (.iconst 1, 1) := dk_4 (dk_at dksX3_nightOf_7 21 rfl rfl)
theorem dX3_nightOf_185 : decode cX3_nightOf 185 = .ok (.iadd, 1) := dk_96 (dk_at dksX3_nightOf_7 22 rfl rfl)
theorem dX3_nightOf_186 : decode cX3_nightOf 186 = .ok (.iastore, 1) := dk_79 (dk_at dksX3_nightOf_7 23 rfl rfl)
theorem dX3_nightOf_187 : decode cX3_nightOf 187 = .ok (.iload_n 2, 1) := dk_28 (dk_at dksX3_nightOf_8 0 rfl rfl)
theorem dX3_nightOf_188 : decode cX3_nightOf 188 = .ok (.ireturn, 1) := dk_172 (dk_at dksX3_nightOf_8 1 rfl rfl)
abbrev cX3_notesSides : ByteArray := prog_17_method_64_code
def yX3_notesSides : MethodName := ⟨RX3, "notesSides", "()V"⟩
def dkwX3_notesSides_1 : List UInt8 := [132, 1, 1, 167, 255, 232, 177]
abbrev dktX3_notesSides_1 : List UInt8 := dkwX3_notesSides_1 ++ []
def dkwX3_notesSides_0 : List UInt8 := [3, 60, 27, 42, 180, 0, 9, 5, 46, 162, 0, 20, 42, 180, 0, 127, 27, 42, 27, 182, 1, 138, 79]
abbrev dktX3_notesSides_0 : List UInt8 := dkwX3_notesSides_0 ++ dktX3_notesSides_1
theorem dksX3_notesSides_0 : cX3_notesSides.data.toList.drop 0 = dktX3_notesSides_0 := by decide +kernel
theorem dksX3_notesSides_1 : cX3_notesSides.data.toList.drop 23 = dktX3_notesSides_1 := dk_seg dksX3_notesSides_0 23 rfl rfl
theorem dX3_notesSides_0 : decode cX3_notesSides 0 = .ok (.iconst 0, 1) := dk_3 (dk_at dksX3_notesSides_0 0 rfl rfl)
theorem dX3_notesSides_1 : decode cX3_notesSides 1 = .ok (.istore_n 1, 1) := dk_60 (dk_at dksX3_notesSides_0 1 rfl rfl)
theorem dX3_notesSides_2 : decode cX3_notesSides 2 = .ok (.iload_n 1, 1) := dk_27 (dk_at dksX3_notesSides_0 2 rfl rfl)
theorem dX3_notesSides_3 : decode cX3_notesSides 3 = .ok (.aload_n 0, 1) := dk_42 (dk_at dksX3_notesSides_0 3 rfl rfl)
theorem dX3_notesSides_4 : decode cX3_notesSides 4 = .ok (.getfield 9, 3) := dk_180 0 9 (dk_at dksX3_notesSides_0 4 rfl rfl)
theorem dX3_notesSides_7 : decode cX3_notesSides 7 = .ok (.iconst 2, 1) := dk_5 (dk_at dksX3_notesSides_0 7 rfl rfl)
theorem dX3_notesSides_8 : decode cX3_notesSides 8 = .ok (.iaload, 1) := dk_46 (dk_at dksX3_notesSides_0 8 rfl rfl)
theorem dX3_notesSides_9 : decode cX3_notesSides 9 = .ok (.if_icmp .ge 20, 3) := dk_162 0 20 (dk_at dksX3_notesSides_0 9 rfl rfl)
theorem dX3_notesSides_12 : decode cX3_notesSides 12 = .ok (.aload_n 0, 1) := dk_42 (dk_at dksX3_notesSides_0 12 rfl rfl)
theorem dX3_notesSides_13 : decode cX3_notesSides 13 = .ok (.getfield 127, 3) := dk_180 0 127 (dk_at dksX3_notesSides_0 13 rfl rfl)
theorem dX3_notesSides_16 : decode cX3_notesSides 16 = .ok (.iload_n 1, 1) := dk_27 (dk_at dksX3_notesSides_0 16 rfl rfl)
theorem dX3_notesSides_17 : decode cX3_notesSides 17 = .ok (.aload_n 0, 1) := dk_42 (dk_at dksX3_notesSides_0 17 rfl rfl)
theorem dX3_notesSides_18 : decode cX3_notesSides 18 = .ok (.iload_n 1, 1) := dk_27 (dk_at dksX3_notesSides_0 18 rfl rfl)
theorem dX3_notesSides_19 : decode cX3_notesSides 19 = .ok (.invokevirtual 394, 3) := dk_182 1 138 (dk_at dksX3_notesSides_0 19 rfl rfl)
theorem dX3_notesSides_22 : decode cX3_notesSides 22 = .ok (.iastore, 1) := dk_79 (dk_at dksX3_notesSides_0 22 rfl rfl)
theorem dX3_notesSides_23 : decode cX3_notesSides 23 = .ok (.iinc 1 1, 3) := dk_132 1 1 (dk_at dksX3_notesSides_1 0 rfl rfl)
theorem dX3_notesSides_26 : decode cX3_notesSides 26 = .ok (.goto (-24), 3) := dk_167 255 232 (dk_at dksX3_notesSides_1 3 rfl rfl)
theorem dX3_notesSides_29 : decode cX3_notesSides 29 = .ok (.return_, 1) := dk_177 (dk_at dksX3_notesSides_1 6 rfl rfl)
abbrev cX3_creepOf : ByteArray := prog_17_method_62_code
def yX3_creepOf : MethodName := ⟨RX3, "creepOf", "(II)I"⟩
def dkwX3_creepOf_9 : List UInt8 := [182, 1, 157, 133, 80, 42, 182, 1, 160, 6, 184, 1, 150, 172]
abbrev dktX3_creepOf_9 : List UInt8 := dkwX3_creepOf_9 ++ []
def dkwX3_creepOf_8 : List UInt8 := [42, 180, 0, 117, 16, 10, 42, 27, 4, 182, 1, 154, 133, 80, 42, 180, 0, 117, 16, 11, 42, 27]
abbrev dktX3_creepOf_8 : List UInt8 := dkwX3_creepOf_8 ++ dktX3_creepOf_9
def dkwX3_creepOf_7 : List UInt8 := [27, 4, 96, 167, 0, 4, 27, 46, 133, 80, 42, 180, 0, 117, 16, 9, 42, 27, 3, 182, 1, 154, 133, 80]
abbrev dktX3_creepOf_7 : List UInt8 := dkwX3_creepOf_7 ++ dktX3_creepOf_8
def dkwX3_creepOf_6 : List UInt8 := [133, 80, 42, 180, 0, 117, 16, 8, 42, 180, 0, 13, 27, 4, 96, 42, 180, 0, 9, 3, 46, 162, 0, 9]
abbrev dktX3_creepOf_6 : List UInt8 := dkwX3_creepOf_6 ++ dktX3_creepOf_7
def dkwX3_creepOf_5 : List UInt8 := [133, 80, 42, 180, 0, 117, 16, 7, 42, 180, 0, 13, 27, 158, 0, 9, 27, 4, 100, 167, 0, 4, 27, 46]
abbrev dktX3_creepOf_5 : List UInt8 := dkwX3_creepOf_5 ++ dktX3_creepOf_6
def dkwX3_creepOf_4 : List UInt8 := [4, 46, 133, 80, 42, 180, 0, 117, 8, 28, 133, 80, 42, 180, 0, 117, 16, 6, 42, 180, 0, 9, 8, 46]
abbrev dktX3_creepOf_4 : List UInt8 := dkwX3_creepOf_4 ++ dktX3_creepOf_5
def dkwX3_creepOf_3 : List UInt8 := [133, 80, 42, 180, 0, 117, 6, 42, 180, 0, 19, 27, 46, 133, 80, 42, 180, 0, 117, 7, 42, 180, 0, 9]
abbrev dktX3_creepOf_3 : List UInt8 := dkwX3_creepOf_3 ++ dktX3_creepOf_4
def dkwX3_creepOf_2 : List UInt8 := [42, 180, 0, 117, 4, 42, 180, 0, 13, 27, 46, 133, 80, 42, 180, 0, 117, 5, 42, 180, 0, 16, 27, 46]
abbrev dktX3_creepOf_2 : List UInt8 := dkwX3_creepOf_2 ++ dktX3_creepOf_3
def dkwX3_creepOf_1 : List UInt8 := [4, 46, 96, 42, 180, 0, 19, 27, 46, 100, 133, 6, 184, 1, 150, 172, 42, 180, 0, 117, 3, 27, 133, 80]
abbrev dktX3_creepOf_1 : List UInt8 := dkwX3_creepOf_1 ++ dktX3_creepOf_2
def dkwX3_creepOf_0 : List UInt8 := [42, 180, 0, 9, 16, 8, 46, 2, 160, 0, 32, 42, 180, 0, 16, 27, 46, 16, 20, 108, 42, 180, 0, 9]
abbrev dktX3_creepOf_0 : List UInt8 := dkwX3_creepOf_0 ++ dktX3_creepOf_1
theorem dksX3_creepOf_0 : cX3_creepOf.data.toList.drop 0 = dktX3_creepOf_0 := by decide +kernel
theorem dksX3_creepOf_1 : cX3_creepOf.data.toList.drop 24 = dktX3_creepOf_1 := dk_seg dksX3_creepOf_0 24 rfl rfl
theorem dksX3_creepOf_2 : cX3_creepOf.data.toList.drop 48 = dktX3_creepOf_2 := dk_seg dksX3_creepOf_1 24 rfl rfl
theorem dksX3_creepOf_3 : cX3_creepOf.data.toList.drop 72 = dktX3_creepOf_3 := dk_seg dksX3_creepOf_2 24 rfl rfl
theorem dksX3_creepOf_4 : cX3_creepOf.data.toList.drop 96 = dktX3_creepOf_4 := dk_seg dksX3_creepOf_3 24 rfl rfl
theorem dksX3_creepOf_5 : cX3_creepOf.data.toList.drop 120 = dktX3_creepOf_5 := dk_seg dksX3_creepOf_4 24 rfl rfl
theorem dksX3_creepOf_6 : cX3_creepOf.data.toList.drop 144 = dktX3_creepOf_6 := dk_seg dksX3_creepOf_5 24 rfl rfl
theorem dksX3_creepOf_7 : cX3_creepOf.data.toList.drop 168 = dktX3_creepOf_7 := dk_seg dksX3_creepOf_6 24 rfl rfl
theorem dksX3_creepOf_8 : cX3_creepOf.data.toList.drop 192 = dktX3_creepOf_8 := dk_seg dksX3_creepOf_7 24 rfl rfl
theorem dksX3_creepOf_9 : cX3_creepOf.data.toList.drop 214 = dktX3_creepOf_9 := dk_seg dksX3_creepOf_8 22 rfl rfl
theorem dX3_creepOf_0 : decode cX3_creepOf 0 = .ok (.aload_n 0, 1) := dk_42 (dk_at dksX3_creepOf_0 0 rfl rfl)
theorem dX3_creepOf_1 : decode cX3_creepOf 1 = .ok (.getfield 9, 3) := dk_180 0 9 (dk_at dksX3_creepOf_0 1 rfl rfl)
theorem dX3_creepOf_4 : decode cX3_creepOf 4 = .ok (.bipush 8, 2) := dk_16 8 (dk_at dksX3_creepOf_0 4 rfl rfl)
theorem dX3_creepOf_6 : decode cX3_creepOf 6 = .ok (.iaload, 1) := dk_46 (dk_at dksX3_creepOf_0 6 rfl rfl)
theorem dX3_creepOf_7 : decode cX3_creepOf 7 = .ok (.iconst (-1), 1) := dk_2 (dk_at dksX3_creepOf_0 7 rfl rfl)
theorem dX3_creepOf_8 : decode cX3_creepOf 8 = .ok (.if_icmp .ne 32, 3) := dk_160 0 32 (dk_at dksX3_creepOf_0 8 rfl rfl)
theorem dX3_creepOf_11 : decode cX3_creepOf 11 = .ok (.aload_n 0, 1) := dk_42 (dk_at dksX3_creepOf_0 11 rfl rfl)
theorem dX3_creepOf_12 : decode cX3_creepOf 12 = .ok (.getfield 16, 3) := dk_180 0 16 (dk_at dksX3_creepOf_0 12 rfl rfl)
theorem dX3_creepOf_15 : decode cX3_creepOf 15 = .ok (.iload_n 1, 1) := dk_27 (dk_at dksX3_creepOf_0 15 rfl rfl)
theorem dX3_creepOf_16 : decode cX3_creepOf 16 = .ok (.iaload, 1) := dk_46 (dk_at dksX3_creepOf_0 16 rfl rfl)
theorem dX3_creepOf_17 : decode cX3_creepOf 17 = .ok (.bipush 20, 2) := dk_16 20 (dk_at dksX3_creepOf_0 17 rfl rfl)
theorem dX3_creepOf_19 : decode cX3_creepOf 19 = .ok (.idiv, 1) := dk_108 (dk_at dksX3_creepOf_0 19 rfl rfl)
theorem dX3_creepOf_20 : decode cX3_creepOf 20 = .ok (.aload_n 0, 1) := dk_42 (dk_at dksX3_creepOf_0 20 rfl rfl)
theorem dX3_creepOf_21 : decode cX3_creepOf 21 = .ok (.getfield 9, 3) := dk_180 0 9 (dk_at dksX3_creepOf_0 21 rfl rfl)
theorem dX3_creepOf_24 : decode cX3_creepOf 24 = .ok (.iconst 1, 1) := dk_4 (dk_at dksX3_creepOf_1 0 rfl rfl)
theorem dX3_creepOf_25 : decode cX3_creepOf 25 = .ok (.iaload, 1) := dk_46 (dk_at dksX3_creepOf_1 1 rfl rfl)
theorem dX3_creepOf_26 : decode cX3_creepOf 26 = .ok (.iadd, 1) := dk_96 (dk_at dksX3_creepOf_1 2 rfl rfl)
theorem dX3_creepOf_27 : decode cX3_creepOf 27 = .ok (.aload_n 0, 1) := dk_42 (dk_at dksX3_creepOf_1 3 rfl rfl)
theorem dX3_creepOf_28 : decode cX3_creepOf 28 = .ok (.getfield 19, 3) := dk_180 0 19 (dk_at dksX3_creepOf_1 4 rfl rfl)
theorem dX3_creepOf_31 : decode cX3_creepOf 31 = .ok (.iload_n 1, 1) := dk_27 (dk_at dksX3_creepOf_1 7 rfl rfl)
theorem dX3_creepOf_32 : decode cX3_creepOf 32 = .ok (.iaload, 1) := dk_46 (dk_at dksX3_creepOf_1 8 rfl rfl)
theorem dX3_creepOf_33 : decode cX3_creepOf 33 = .ok (.isub, 1) := dk_100 (dk_at dksX3_creepOf_1 9 rfl rfl)
theorem dX3_creepOf_34 : decode cX3_creepOf 34 = .ok (.i2l, 1) := dk_133 (dk_at dksX3_creepOf_1 10 rfl rfl)
theorem dX3_creepOf_35 : decode cX3_creepOf 35 = .ok (.iconst 3, 1) := dk_6 (dk_at dksX3_creepOf_1 11 rfl rfl)
theorem dX3_creepOf_36 : decode cX3_creepOf 36 = .ok (.invokestatic 406, 3) := dk_184 1 150 (dk_at dksX3_creepOf_1 12 rfl rfl)
theorem dX3_creepOf_39 : decode cX3_creepOf 39 = .ok (.ireturn, 1) := dk_172 (dk_at dksX3_creepOf_1 15 rfl rfl)
theorem dX3_creepOf_40 : decode cX3_creepOf 40 = .ok (.aload_n 0, 1) := dk_42 (dk_at dksX3_creepOf_1 16 rfl rfl)
theorem dX3_creepOf_41 : decode cX3_creepOf 41 = .ok (.getfield 117, 3) := dk_180 0 117 (dk_at dksX3_creepOf_1 17 rfl rfl)
theorem dX3_creepOf_44 : decode cX3_creepOf 44 = .ok (.iconst 0, 1) := dk_3 (dk_at dksX3_creepOf_1 20 rfl rfl)
theorem dX3_creepOf_45 : decode cX3_creepOf 45 = .ok (.iload_n 1, 1) := dk_27 (dk_at dksX3_creepOf_1 21 rfl rfl)
theorem dX3_creepOf_46 : decode cX3_creepOf 46 = .ok (.i2l, 1) := dk_133 (dk_at dksX3_creepOf_1 22 rfl rfl)
theorem dX3_creepOf_47 : decode cX3_creepOf 47 = .ok (.lastore, 1) := dk_80 (dk_at dksX3_creepOf_1 23 rfl rfl)
theorem dX3_creepOf_48 : decode cX3_creepOf 48 = .ok (.aload_n 0, 1) := dk_42 (dk_at dksX3_creepOf_2 0 rfl rfl)
theorem dX3_creepOf_49 : decode cX3_creepOf 49 = .ok (.getfield 117, 3) := dk_180 0 117 (dk_at dksX3_creepOf_2 1 rfl rfl)
theorem dX3_creepOf_52 : decode cX3_creepOf 52 = .ok (.iconst 1, 1) := dk_4 (dk_at dksX3_creepOf_2 4 rfl rfl)
theorem dX3_creepOf_53 : decode cX3_creepOf 53 = .ok (.aload_n 0, 1) := dk_42 (dk_at dksX3_creepOf_2 5 rfl rfl)
theorem dX3_creepOf_54 : decode cX3_creepOf 54 = .ok (.getfield 13, 3) := dk_180 0 13 (dk_at dksX3_creepOf_2 6 rfl rfl)
theorem dX3_creepOf_57 : decode cX3_creepOf 57 = .ok (.iload_n 1, 1) := dk_27 (dk_at dksX3_creepOf_2 9 rfl rfl)
theorem dX3_creepOf_58 : decode cX3_creepOf 58 = .ok (.iaload, 1) := dk_46 (dk_at dksX3_creepOf_2 10 rfl rfl)
theorem dX3_creepOf_59 : decode cX3_creepOf 59 = .ok (.i2l, 1) := dk_133 (dk_at dksX3_creepOf_2 11 rfl rfl)
theorem dX3_creepOf_60 : decode cX3_creepOf 60 = .ok (.lastore, 1) := dk_80 (dk_at dksX3_creepOf_2 12 rfl rfl)
theorem dX3_creepOf_61 : decode cX3_creepOf 61 = .ok (.aload_n 0, 1) := dk_42 (dk_at dksX3_creepOf_2 13 rfl rfl)
theorem dX3_creepOf_62 : decode cX3_creepOf 62 = .ok (.getfield 117, 3) := dk_180 0 117 (dk_at dksX3_creepOf_2 14 rfl rfl)
theorem dX3_creepOf_65 : decode cX3_creepOf 65 = .ok (.iconst 2, 1) := dk_5 (dk_at dksX3_creepOf_2 17 rfl rfl)
theorem dX3_creepOf_66 : decode cX3_creepOf 66 = .ok (.aload_n 0, 1) := dk_42 (dk_at dksX3_creepOf_2 18 rfl rfl)
theorem dX3_creepOf_67 : decode cX3_creepOf 67 = .ok (.getfield 16, 3) := dk_180 0 16 (dk_at dksX3_creepOf_2 19 rfl rfl)
theorem dX3_creepOf_70 : decode cX3_creepOf 70 = .ok (.iload_n 1, 1) := dk_27 (dk_at dksX3_creepOf_2 22 rfl rfl)
theorem dX3_creepOf_71 : decode cX3_creepOf 71 = .ok (.iaload, 1) := dk_46 (dk_at dksX3_creepOf_2 23 rfl rfl)
theorem dX3_creepOf_72 : decode cX3_creepOf 72 = .ok (.i2l, 1) := dk_133 (dk_at dksX3_creepOf_3 0 rfl rfl)
theorem dX3_creepOf_73 : decode cX3_creepOf 73 = .ok (.lastore, 1) := dk_80 (dk_at dksX3_creepOf_3 1 rfl rfl)
theorem dX3_creepOf_74 : decode cX3_creepOf 74 = .ok (.aload_n 0, 1) := dk_42 (dk_at dksX3_creepOf_3 2 rfl rfl)
theorem dX3_creepOf_75 : decode cX3_creepOf 75 = .ok (.getfield 117, 3) := dk_180 0 117 (dk_at dksX3_creepOf_3 3 rfl rfl)
theorem dX3_creepOf_78 : decode cX3_creepOf 78 = .ok (.iconst 3, 1) := dk_6 (dk_at dksX3_creepOf_3 6 rfl rfl)
theorem dX3_creepOf_79 : decode cX3_creepOf 79 = .ok (.aload_n 0, 1) := dk_42 (dk_at dksX3_creepOf_3 7 rfl rfl)
theorem dX3_creepOf_80 : decode cX3_creepOf 80 = .ok (.getfield 19, 3) := dk_180 0 19 (dk_at dksX3_creepOf_3 8 rfl rfl)
theorem dX3_creepOf_83 : decode cX3_creepOf 83 = .ok (.iload_n 1, 1) := dk_27 (dk_at dksX3_creepOf_3 11 rfl rfl)
theorem dX3_creepOf_84 : decode cX3_creepOf 84 = .ok (.iaload, 1) := dk_46 (dk_at dksX3_creepOf_3 12 rfl rfl)
theorem dX3_creepOf_85 : decode cX3_creepOf 85 = .ok (.i2l, 1) := dk_133 (dk_at dksX3_creepOf_3 13 rfl rfl)
theorem dX3_creepOf_86 : decode cX3_creepOf 86 = .ok (.lastore, 1) := dk_80 (dk_at dksX3_creepOf_3 14 rfl rfl)
theorem dX3_creepOf_87 : decode cX3_creepOf 87 = .ok (.aload_n 0, 1) := dk_42 (dk_at dksX3_creepOf_3 15 rfl rfl)
theorem dX3_creepOf_88 : decode cX3_creepOf 88 = .ok (.getfield 117, 3) := dk_180 0 117 (dk_at dksX3_creepOf_3 16 rfl rfl)
theorem dX3_creepOf_91 : decode cX3_creepOf 91 = .ok (.iconst 4, 1) := dk_7 (dk_at dksX3_creepOf_3 19 rfl rfl)
theorem dX3_creepOf_92 : decode cX3_creepOf 92 = .ok (.aload_n 0, 1) := dk_42 (dk_at dksX3_creepOf_3 20 rfl rfl)
theorem dX3_creepOf_93 : decode cX3_creepOf 93 = .ok (.getfield 9, 3) := dk_180 0 9 (dk_at dksX3_creepOf_3 21 rfl rfl)
theorem dX3_creepOf_96 : decode cX3_creepOf 96 = .ok (.iconst 1, 1) := dk_4 (dk_at dksX3_creepOf_4 0 rfl rfl)
theorem dX3_creepOf_97 : decode cX3_creepOf 97 = .ok (.iaload, 1) := dk_46 (dk_at dksX3_creepOf_4 1 rfl rfl)
theorem dX3_creepOf_98 : decode cX3_creepOf 98 = .ok (.i2l, 1) := dk_133 (dk_at dksX3_creepOf_4 2 rfl rfl)
theorem dX3_creepOf_99 : decode cX3_creepOf 99 = .ok (.lastore, 1) := dk_80 (dk_at dksX3_creepOf_4 3 rfl rfl)
theorem dX3_creepOf_100 : decode cX3_creepOf 100 = .ok (.aload_n 0, 1) := dk_42 (dk_at dksX3_creepOf_4 4 rfl rfl)
theorem dX3_creepOf_101 : decode cX3_creepOf 101 = .ok (.getfield 117, 3) := dk_180 0 117 (dk_at dksX3_creepOf_4 5 rfl rfl)
theorem dX3_creepOf_104 : decode cX3_creepOf 104 = .ok (.iconst 5, 1) := dk_8 (dk_at dksX3_creepOf_4 8 rfl rfl)
theorem dX3_creepOf_105 : decode cX3_creepOf 105 = .ok (.iload_n 2, 1) := dk_28 (dk_at dksX3_creepOf_4 9 rfl rfl)
theorem dX3_creepOf_106 : decode cX3_creepOf 106 = .ok (.i2l, 1) := dk_133 (dk_at dksX3_creepOf_4 10 rfl rfl)
theorem dX3_creepOf_107 : decode cX3_creepOf 107 = .ok (.lastore, 1) := dk_80 (dk_at dksX3_creepOf_4 11 rfl rfl)
theorem dX3_creepOf_108 : decode cX3_creepOf 108 = .ok (.aload_n 0, 1) := dk_42 (dk_at dksX3_creepOf_4 12 rfl rfl)
theorem dX3_creepOf_109 : decode cX3_creepOf 109 = .ok (.getfield 117, 3) := dk_180 0 117 (dk_at dksX3_creepOf_4 13 rfl rfl)
theorem dX3_creepOf_112 : decode cX3_creepOf 112 = .ok (.bipush 6, 2) := dk_16 6 (dk_at dksX3_creepOf_4 16 rfl rfl)
theorem dX3_creepOf_114 : decode cX3_creepOf 114 = .ok (.aload_n 0, 1) := dk_42 (dk_at dksX3_creepOf_4 18 rfl rfl)
theorem dX3_creepOf_115 : decode cX3_creepOf 115 = .ok (.getfield 9, 3) := dk_180 0 9 (dk_at dksX3_creepOf_4 19 rfl rfl)
theorem dX3_creepOf_118 : decode cX3_creepOf 118 = .ok (.iconst 5, 1) := dk_8 (dk_at dksX3_creepOf_4 22 rfl rfl)
theorem dX3_creepOf_119 : decode cX3_creepOf 119 = .ok (.iaload, 1) := dk_46 (dk_at dksX3_creepOf_4 23 rfl rfl)
theorem dX3_creepOf_120 : decode cX3_creepOf 120 = .ok (.i2l, 1) := dk_133 (dk_at dksX3_creepOf_5 0 rfl rfl)
theorem dX3_creepOf_121 : decode cX3_creepOf 121 = .ok (.lastore, 1) := dk_80 (dk_at dksX3_creepOf_5 1 rfl rfl)
theorem dX3_creepOf_122 : decode cX3_creepOf 122 = .ok (.aload_n 0, 1) := dk_42 (dk_at dksX3_creepOf_5 2 rfl rfl)
theorem dX3_creepOf_123 : decode cX3_creepOf 123 = .ok (.getfield 117, 3) := dk_180 0 117 (dk_at dksX3_creepOf_5 3 rfl rfl)
theorem dX3_creepOf_126 : decode cX3_creepOf 126 = .ok (.bipush 7, 2) := dk_16 7 (dk_at dksX3_creepOf_5 6 rfl rfl)
theorem dX3_creepOf_128 : decode cX3_creepOf 128 = .ok (.aload_n 0, 1) := dk_42 (dk_at dksX3_creepOf_5 8 rfl rfl)
theorem dX3_creepOf_129 : decode cX3_creepOf 129 = .ok (.getfield 13, 3) := dk_180 0 13 (dk_at dksX3_creepOf_5 9 rfl rfl)
theorem dX3_creepOf_132 : decode cX3_creepOf 132 = .ok (.iload_n 1, 1) := dk_27 (dk_at dksX3_creepOf_5 12 rfl rfl)
theorem dX3_creepOf_133 : decode cX3_creepOf 133 = .ok (.ifCond .le 9, 3) := dk_158 0 9 (dk_at dksX3_creepOf_5 13 rfl rfl)
theorem dX3_creepOf_136 : decode cX3_creepOf 136 = .ok (.iload_n 1, 1) := dk_27 (dk_at dksX3_creepOf_5 16 rfl rfl)
theorem dX3_creepOf_137 : decode cX3_creepOf 137 = .ok (.iconst 1, 1) := dk_4 (dk_at dksX3_creepOf_5 17 rfl rfl)
theorem dX3_creepOf_138 : decode cX3_creepOf 138 = .ok (.isub, 1) := dk_100 (dk_at dksX3_creepOf_5 18 rfl rfl)
theorem dX3_creepOf_139 : decode cX3_creepOf 139 = .ok (.goto 4, 3) := dk_167 0 4 (dk_at dksX3_creepOf_5 19 rfl rfl)
theorem dX3_creepOf_142 : decode cX3_creepOf 142 = .ok (.iload_n 1, 1) := dk_27 (dk_at dksX3_creepOf_5 22 rfl rfl)
theorem dX3_creepOf_143 : decode cX3_creepOf 143 = .ok (.iaload, 1) := dk_46 (dk_at dksX3_creepOf_5 23 rfl rfl)
theorem dX3_creepOf_144 : decode cX3_creepOf 144 = .ok (.i2l, 1) := dk_133 (dk_at dksX3_creepOf_6 0 rfl rfl)
theorem dX3_creepOf_145 : decode cX3_creepOf 145 = .ok (.lastore, 1) := dk_80 (dk_at dksX3_creepOf_6 1 rfl rfl)
theorem dX3_creepOf_146 : decode cX3_creepOf 146 = .ok (.aload_n 0, 1) := dk_42 (dk_at dksX3_creepOf_6 2 rfl rfl)
theorem dX3_creepOf_147 : decode cX3_creepOf 147 = .ok (.getfield 117, 3) := dk_180 0 117 (dk_at dksX3_creepOf_6 3 rfl rfl)
theorem dX3_creepOf_150 : decode cX3_creepOf 150 = .ok (.bipush 8, 2) := dk_16 8 (dk_at dksX3_creepOf_6 6 rfl rfl)
theorem dX3_creepOf_152 : decode cX3_creepOf 152 = .ok (.aload_n 0, 1) := dk_42 (dk_at dksX3_creepOf_6 8 rfl rfl)
theorem dX3_creepOf_153 : decode cX3_creepOf 153 = .ok (.getfield 13, 3) := dk_180 0 13 (dk_at dksX3_creepOf_6 9 rfl rfl)
theorem dX3_creepOf_156 : decode cX3_creepOf 156 = .ok (.iload_n 1, 1) := dk_27 (dk_at dksX3_creepOf_6 12 rfl rfl)
theorem dX3_creepOf_157 : decode cX3_creepOf 157 = .ok (.iconst 1, 1) := dk_4 (dk_at dksX3_creepOf_6 13 rfl rfl)
theorem dX3_creepOf_158 : decode cX3_creepOf 158 = .ok (.iadd, 1) := dk_96 (dk_at dksX3_creepOf_6 14 rfl rfl)
theorem dX3_creepOf_159 : decode cX3_creepOf 159 = .ok (.aload_n 0, 1) := dk_42 (dk_at dksX3_creepOf_6 15 rfl rfl)
theorem dX3_creepOf_160 : decode cX3_creepOf 160 = .ok (.getfield 9, 3) := dk_180 0 9 (dk_at dksX3_creepOf_6 16 rfl rfl)
theorem dX3_creepOf_163 : decode cX3_creepOf 163 = .ok (.iconst 0, 1) := dk_3 (dk_at dksX3_creepOf_6 19 rfl rfl)
theorem dX3_creepOf_164 : decode cX3_creepOf 164 = .ok (.iaload, 1) := dk_46 (dk_at dksX3_creepOf_6 20 rfl rfl)
theorem dX3_creepOf_165 : decode cX3_creepOf 165 = .ok (.if_icmp .ge 9, 3) := dk_162 0 9 (dk_at dksX3_creepOf_6 21 rfl rfl)
theorem dX3_creepOf_168 : decode cX3_creepOf 168 = .ok (.iload_n 1, 1) := dk_27 (dk_at dksX3_creepOf_7 0 rfl rfl)
theorem dX3_creepOf_169 : decode cX3_creepOf 169 = .ok (.iconst 1, 1) := dk_4 (dk_at dksX3_creepOf_7 1 rfl rfl)
theorem dX3_creepOf_170 : decode cX3_creepOf 170 = .ok (.iadd, 1) := dk_96 (dk_at dksX3_creepOf_7 2 rfl rfl)
theorem dX3_creepOf_171 : decode cX3_creepOf 171 = .ok (.goto 4, 3) := dk_167 0 4 (dk_at dksX3_creepOf_7 3 rfl rfl)
theorem dX3_creepOf_174 : decode cX3_creepOf 174 = .ok (.iload_n 1, 1) := dk_27 (dk_at dksX3_creepOf_7 6 rfl rfl)
theorem dX3_creepOf_175 : decode cX3_creepOf 175 = .ok (.iaload, 1) := dk_46 (dk_at dksX3_creepOf_7 7 rfl rfl)
theorem dX3_creepOf_176 : decode cX3_creepOf 176 = .ok (.i2l, 1) := dk_133 (dk_at dksX3_creepOf_7 8 rfl rfl)
theorem dX3_creepOf_177 : decode cX3_creepOf 177 = .ok (.lastore, 1) := dk_80 (dk_at dksX3_creepOf_7 9 rfl rfl)
theorem dX3_creepOf_178 : decode cX3_creepOf 178 = .ok (.aload_n 0, 1) := dk_42 (dk_at dksX3_creepOf_7 10 rfl rfl)
theorem dX3_creepOf_179 : decode cX3_creepOf 179 = .ok (.getfield 117, 3) := dk_180 0 117 (dk_at dksX3_creepOf_7 11 rfl rfl)
theorem dX3_creepOf_182 : decode cX3_creepOf 182 = .ok (.bipush 9, 2) := dk_16 9 (dk_at dksX3_creepOf_7 14 rfl rfl)
theorem dX3_creepOf_184 : decode cX3_creepOf 184 = .ok (.aload_n 0, 1) := dk_42 (dk_at dksX3_creepOf_7 16 rfl rfl)
theorem dX3_creepOf_185 : decode cX3_creepOf 185 = .ok (.iload_n 1, 1) := dk_27 (dk_at dksX3_creepOf_7 17 rfl rfl)
theorem dX3_creepOf_186 : decode cX3_creepOf 186 = .ok (.iconst 0, 1) := dk_3 (dk_at dksX3_creepOf_7 18 rfl rfl)
theorem dX3_creepOf_187 : decode cX3_creepOf 187 = .ok (.invokevirtual 410, 3) := dk_182 1 154 (dk_at dksX3_creepOf_7 19 rfl rfl)
theorem dX3_creepOf_190 : decode cX3_creepOf 190 = .ok (.i2l, 1) := dk_133 (dk_at dksX3_creepOf_7 22 rfl rfl)
theorem dX3_creepOf_191 : decode cX3_creepOf 191 = .ok (.lastore, 1) := dk_80 (dk_at dksX3_creepOf_7 23 rfl rfl)
theorem dX3_creepOf_192 : decode cX3_creepOf 192 = .ok (.aload_n 0, 1) := dk_42 (dk_at dksX3_creepOf_8 0 rfl rfl)
theorem dX3_creepOf_193 : decode cX3_creepOf 193 = .ok (.getfield 117, 3) := dk_180 0 117 (dk_at dksX3_creepOf_8 1 rfl rfl)
theorem dX3_creepOf_196 : decode cX3_creepOf 196 = .ok (.bipush 10, 2) := dk_16 10 (dk_at dksX3_creepOf_8 4 rfl rfl)
theorem dX3_creepOf_198 : decode cX3_creepOf 198 = .ok (.aload_n 0, 1) := dk_42 (dk_at dksX3_creepOf_8 6 rfl rfl)
theorem dX3_creepOf_199 : decode cX3_creepOf 199 = .ok (.iload_n 1, 1) := dk_27 (dk_at dksX3_creepOf_8 7 rfl rfl)
theorem dX3_creepOf_200 : decode cX3_creepOf 200 = .ok (.iconst 1, 1) := dk_4 (dk_at dksX3_creepOf_8 8 rfl rfl)
theorem dX3_creepOf_201 : decode cX3_creepOf 201 = .ok (.invokevirtual 410, 3) := dk_182 1 154 (dk_at dksX3_creepOf_8 9 rfl rfl)
theorem dX3_creepOf_204 : decode cX3_creepOf 204 = .ok (.i2l, 1) := dk_133 (dk_at dksX3_creepOf_8 12 rfl rfl)
theorem dX3_creepOf_205 : decode cX3_creepOf 205 = .ok (.lastore, 1) := dk_80 (dk_at dksX3_creepOf_8 13 rfl rfl)
theorem dX3_creepOf_206 : decode cX3_creepOf 206 = .ok (.aload_n 0, 1) := dk_42 (dk_at dksX3_creepOf_8 14 rfl rfl)
theorem dX3_creepOf_207 : decode cX3_creepOf 207 = .ok (.getfield 117, 3) := dk_180 0 117 (dk_at dksX3_creepOf_8 15 rfl rfl)
theorem dX3_creepOf_210 : decode cX3_creepOf 210 = .ok (.bipush 11, 2) := dk_16 11 (dk_at dksX3_creepOf_8 18 rfl rfl)
theorem dX3_creepOf_212 : decode cX3_creepOf 212 = .ok (.aload_n 0, 1) := dk_42 (dk_at dksX3_creepOf_8 20 rfl rfl)
theorem dX3_creepOf_213 : decode cX3_creepOf 213 = .ok (.iload_n 1, 1) := dk_27 (dk_at dksX3_creepOf_8 21 rfl rfl)
theorem dX3_creepOf_214 : decode cX3_creepOf 214 = .ok (.invokevirtual 413, 3) := dk_182 1 157 (dk_at dksX3_creepOf_9 0 rfl rfl)
theorem dX3_creepOf_217 : decode cX3_creepOf 217 = .ok (.i2l, 1) := dk_133 (dk_at dksX3_creepOf_9 3 rfl rfl)
theorem dX3_creepOf_218 : decode cX3_creepOf 218 = .ok (.lastore, 1) := dk_80 (dk_at dksX3_creepOf_9 4 rfl rfl)
theorem dX3_creepOf_219 : decode cX3_creepOf 219 = .ok (.aload_n 0, 1) := dk_42 (dk_at dksX3_creepOf_9 5 rfl rfl)
theorem dX3_creepOf_220 : decode cX3_creepOf 220 = .ok (.invokevirtual 416, 3) := dk_182 1 160 (dk_at dksX3_creepOf_9 6 rfl rfl)
theorem dX3_creepOf_223 : decode cX3_creepOf 223 = .ok (.iconst 3, 1) := dk_6 (dk_at dksX3_creepOf_9 9 rfl rfl)
theorem dX3_creepOf_224 : decode cX3_creepOf 224 = .ok (.invokestatic 406, 3) := dk_184 1 150 (dk_at dksX3_creepOf_9 10 rfl rfl)
theorem dX3_creepOf_227 : decode cX3_creepOf 227 = .ok (.ireturn, 1) := dk_172 (dk_at dksX3_creepOf_9 13 rfl rfl)
abbrev cX3_held : ByteArray := prog_17_method_6_code
def yX3_held : MethodName := ⟨RX3, "held", "(JI)I"⟩
def dkwX3_held_1 : List UInt8 := [30, 136, 172]
abbrev dktX3_held_1 : List UInt8 := dkwX3_held_1 ++ []
def dkwX3_held_0 : List UInt8 := [30, 28, 116, 133, 148, 156, 0, 8, 28, 116, 167, 0, 16, 30, 28, 133, 148, 158, 0, 7, 28, 167, 0, 5]
abbrev dktX3_held_0 : List UInt8 := dkwX3_held_0 ++ dktX3_held_1
theorem dksX3_held_0 : cX3_held.data.toList.drop 0 = dktX3_held_0 := by decide +kernel
theorem dksX3_held_1 : cX3_held.data.toList.drop 24 = dktX3_held_1 := dk_seg dksX3_held_0 24 rfl rfl
theorem dX3_held_0 : decode cX3_held 0 = .ok (.lload_n 0, 1) := dk_30 (dk_at dksX3_held_0 0 rfl rfl)
theorem dX3_held_1 : decode cX3_held 1 = .ok (.iload_n 2, 1) := dk_28 (dk_at dksX3_held_0 1 rfl rfl)
theorem dX3_held_2 : decode cX3_held 2 = .ok (.ineg, 1) := dk_116 (dk_at dksX3_held_0 2 rfl rfl)
theorem dX3_held_3 : decode cX3_held 3 = .ok (.i2l, 1) := dk_133 (dk_at dksX3_held_0 3 rfl rfl)
theorem dX3_held_4 : decode cX3_held 4 = .ok (.lcmp, 1) := dk_148 (dk_at dksX3_held_0 4 rfl rfl)
theorem dX3_held_5 : decode cX3_held 5 = .ok (.ifCond .ge 8, 3) := dk_156 0 8 (dk_at dksX3_held_0 5 rfl rfl)
theorem dX3_held_8 : decode cX3_held 8 = .ok (.iload_n 2, 1) := dk_28 (dk_at dksX3_held_0 8 rfl rfl)
theorem dX3_held_9 : decode cX3_held 9 = .ok (.ineg, 1) := dk_116 (dk_at dksX3_held_0 9 rfl rfl)
theorem dX3_held_10 : decode cX3_held 10 = .ok (.goto 16, 3) := dk_167 0 16 (dk_at dksX3_held_0 10 rfl rfl)
theorem dX3_held_13 : decode cX3_held 13 = .ok (.lload_n 0, 1) := dk_30 (dk_at dksX3_held_0 13 rfl rfl)
theorem dX3_held_14 : decode cX3_held 14 = .ok (.iload_n 2, 1) := dk_28 (dk_at dksX3_held_0 14 rfl rfl)
theorem dX3_held_15 : decode cX3_held 15 = .ok (.i2l, 1) := dk_133 (dk_at dksX3_held_0 15 rfl rfl)
theorem dX3_held_16 : decode cX3_held 16 = .ok (.lcmp, 1) := dk_148 (dk_at dksX3_held_0 16 rfl rfl)
theorem dX3_held_17 : decode cX3_held 17 = .ok (.ifCond .le 7, 3) := dk_158 0 7 (dk_at dksX3_held_0 17 rfl rfl)
theorem dX3_held_20 : decode cX3_held 20 = .ok (.iload_n 2, 1) := dk_28 (dk_at dksX3_held_0 20 rfl rfl)
theorem dX3_held_21 : decode cX3_held 21 = .ok (.goto 5, 3) := dk_167 0 5 (dk_at dksX3_held_0 21 rfl rfl)
theorem dX3_held_24 : decode cX3_held 24 = .ok (.lload_n 0, 1) := dk_30 (dk_at dksX3_held_1 0 rfl rfl)
theorem dX3_held_25 : decode cX3_held 25 = .ok (.l2i, 1) := dk_136 (dk_at dksX3_held_1 1 rfl rfl)
theorem dX3_held_26 : decode cX3_held 26 = .ok (.ireturn, 1) := dk_172 (dk_at dksX3_held_1 2 rfl rfl)
abbrev cX3_villagesIn : ByteArray := prog_17_method_56_code
def yX3_villagesIn : MethodName := ⟨RX3, "villagesIn", "(II)I"⟩
def dkwX3_villagesIn_2 : List UInt8 := [167, 255, 213, 29, 172]
abbrev dktX3_villagesIn_2 : List UInt8 := dkwX3_villagesIn_2 ++ []
def dkwX3_villagesIn_1 : List UInt8 := [27, 160, 0, 17, 42, 21, 4, 182, 1, 138, 28, 160, 0, 7, 4, 167, 0, 4, 3, 96, 62, 132, 4, 1]
abbrev dktX3_villagesIn_1 : List UInt8 := dkwX3_villagesIn_1 ++ dktX3_villagesIn_2
def dkwX3_villagesIn_0 : List UInt8 := [3, 62, 3, 54, 4, 21, 4, 42, 180, 0, 9, 5, 46, 162, 0, 38, 29, 42, 180, 0, 25, 21, 4, 46]
abbrev dktX3_villagesIn_0 : List UInt8 := dkwX3_villagesIn_0 ++ dktX3_villagesIn_1
theorem dksX3_villagesIn_0 : cX3_villagesIn.data.toList.drop 0 = dktX3_villagesIn_0 := by decide +kernel
theorem dksX3_villagesIn_1 : cX3_villagesIn.data.toList.drop 24 = dktX3_villagesIn_1 := dk_seg dksX3_villagesIn_0 24 rfl rfl
theorem dksX3_villagesIn_2 : cX3_villagesIn.data.toList.drop 48 = dktX3_villagesIn_2 := dk_seg dksX3_villagesIn_1 24 rfl rfl
theorem dX3_villagesIn_0 : decode cX3_villagesIn 0 = .ok (.iconst 0, 1) := dk_3 (dk_at dksX3_villagesIn_0 0 rfl rfl)
theorem dX3_villagesIn_1 : decode cX3_villagesIn 1 = .ok (.istore_n 3, 1) := dk_62 (dk_at dksX3_villagesIn_0 1 rfl rfl)
theorem dX3_villagesIn_2 : decode cX3_villagesIn 2 = .ok (.iconst 0, 1) := dk_3 (dk_at dksX3_villagesIn_0 2 rfl rfl)
theorem dX3_villagesIn_3 : decode cX3_villagesIn 3 = .ok (.istore 4, 2) := dk_54 4 (dk_at dksX3_villagesIn_0 3 rfl rfl)
theorem dX3_villagesIn_5 : decode cX3_villagesIn 5 = .ok (.iload 4, 2) := dk_21 4 (dk_at dksX3_villagesIn_0 5 rfl rfl)
theorem dX3_villagesIn_7 : decode cX3_villagesIn 7 = .ok (.aload_n 0, 1) := dk_42 (dk_at dksX3_villagesIn_0 7 rfl rfl)
theorem dX3_villagesIn_8 : decode cX3_villagesIn 8 = .ok (.getfield 9, 3) := dk_180 0 9 (dk_at dksX3_villagesIn_0 8 rfl rfl)
theorem dX3_villagesIn_11 : decode cX3_villagesIn 11 = .ok (.iconst 2, 1) := dk_5 (dk_at dksX3_villagesIn_0 11 rfl rfl)
theorem dX3_villagesIn_12 : decode cX3_villagesIn 12 = .ok (.iaload, 1) := dk_46 (dk_at dksX3_villagesIn_0 12 rfl rfl)
theorem dX3_villagesIn_13 : decode cX3_villagesIn 13 = .ok (.if_icmp .ge 38, 3) := dk_162 0 38 (dk_at dksX3_villagesIn_0 13 rfl rfl)
theorem dX3_villagesIn_16 : decode cX3_villagesIn 16 = .ok (.iload_n 3, 1) := dk_29 (dk_at dksX3_villagesIn_0 16 rfl rfl)
theorem dX3_villagesIn_17 : decode cX3_villagesIn 17 = .ok (.aload_n 0, 1) := dk_42 (dk_at dksX3_villagesIn_0 17 rfl rfl)
theorem dX3_villagesIn_18 : decode cX3_villagesIn 18 = .ok (.getfield 25, 3) := dk_180 0 25 (dk_at dksX3_villagesIn_0 18 rfl rfl)
theorem dX3_villagesIn_21 : decode cX3_villagesIn 21 = .ok (.iload 4, 2) := dk_21 4 (dk_at dksX3_villagesIn_0 21 rfl rfl)
theorem dX3_villagesIn_23 : decode cX3_villagesIn 23 = .ok (.iaload, 1) := dk_46 (dk_at dksX3_villagesIn_0 23 rfl rfl)
theorem dX3_villagesIn_24 : decode cX3_villagesIn 24 = .ok (.iload_n 1, 1) := dk_27 (dk_at dksX3_villagesIn_1 0 rfl rfl)
theorem dX3_villagesIn_25 : decode cX3_villagesIn 25 = .ok (.if_icmp .ne 17, 3) := dk_160 0 17 (dk_at dksX3_villagesIn_1 1 rfl rfl)
theorem dX3_villagesIn_28 : decode cX3_villagesIn 28 = .ok (.aload_n 0, 1) := dk_42 (dk_at dksX3_villagesIn_1 4 rfl rfl)
theorem dX3_villagesIn_29 : decode cX3_villagesIn 29 = .ok (.iload 4, 2) := dk_21 4 (dk_at dksX3_villagesIn_1 5 rfl rfl)
theorem dX3_villagesIn_31 : decode cX3_villagesIn 31 = .ok (.invokevirtual 394, 3) := dk_182 1 138 (dk_at dksX3_villagesIn_1 7 rfl rfl)
theorem dX3_villagesIn_34 : decode cX3_villagesIn 34 = .ok (.iload_n 2, 1) := dk_28 (dk_at dksX3_villagesIn_1 10 rfl rfl)
theorem dX3_villagesIn_35 : decode cX3_villagesIn 35 = .ok (.if_icmp .ne 7, 3) := dk_160 0 7 (dk_at dksX3_villagesIn_1 11 rfl rfl)
theorem dX3_villagesIn_38 : decode cX3_villagesIn 38 = .ok (.iconst 1, 1) := dk_4 (dk_at dksX3_villagesIn_1 14 rfl rfl)
theorem dX3_villagesIn_39 : decode cX3_villagesIn 39 = .ok (.goto 4, 3) := dk_167 0 4 (dk_at dksX3_villagesIn_1 15 rfl rfl)
theorem dX3_villagesIn_42 : decode cX3_villagesIn 42 = .ok (.iconst 0, 1) := dk_3 (dk_at dksX3_villagesIn_1 18 rfl rfl)
theorem dX3_villagesIn_43 : decode cX3_villagesIn 43 = .ok (.iadd, 1) := dk_96 (dk_at dksX3_villagesIn_1 19 rfl rfl)
theorem dX3_villagesIn_44 : decode cX3_villagesIn 44 = .ok (.istore_n 3, 1) := dk_62 (dk_at dksX3_villagesIn_1 20 rfl rfl)
theorem dX3_villagesIn_45 : decode cX3_villagesIn 45 = .ok (.iinc 4 1, 3) := dk_132 4 1 (dk_at dksX3_villagesIn_1 21 rfl rfl)
theorem dX3_villagesIn_48 : decode cX3_villagesIn 48 = .ok (.goto (-43), 3) := dk_167 255 213 (dk_at dksX3_villagesIn_2 0 rfl rfl)
theorem dX3_villagesIn_51 : decode cX3_villagesIn 51 = .ok (.iload_n 3, 1) := dk_29 (dk_at dksX3_villagesIn_2 3 rfl rfl)
theorem dX3_villagesIn_52 : decode cX3_villagesIn 52 = .ok (.ireturn, 1) := dk_172 (dk_at dksX3_villagesIn_2 4 rfl rfl)
abbrev cX3_crustOf : ByteArray := prog_17_method_61_code
def yX3_crustOf : MethodName := ⟨RX3, "crustOf", "(I)I"⟩
def dkwX3_crustOf_2 : List UInt8 := [28, 172]
abbrev dktX3_crustOf_2 : List UInt8 := dkwX3_crustOf_2 ++ []
def dkwX3_crustOf_1 : List UInt8 := [180, 0, 9, 3, 46, 162, 0, 19, 42, 27, 4, 96, 182, 0, 182, 153, 0, 9, 28, 4, 96, 167, 0, 4]
abbrev dktX3_crustOf_1 : List UInt8 := dkwX3_crustOf_1 ++ dktX3_crustOf_2
def dkwX3_crustOf_0 : List UInt8 := [27, 158, 0, 17, 42, 27, 4, 100, 182, 0, 182, 153, 0, 7, 4, 167, 0, 4, 3, 61, 27, 4, 96, 42]
abbrev dktX3_crustOf_0 : List UInt8 := dkwX3_crustOf_0 ++ dktX3_crustOf_1
theorem dksX3_crustOf_0 : cX3_crustOf.data.toList.drop 0 = dktX3_crustOf_0 := by decide +kernel
theorem dksX3_crustOf_1 : cX3_crustOf.data.toList.drop 24 = dktX3_crustOf_1 := dk_seg dksX3_crustOf_0 24 rfl rfl
theorem dksX3_crustOf_2 : cX3_crustOf.data.toList.drop 48 = dktX3_crustOf_2 := dk_seg dksX3_crustOf_1 24 rfl rfl
theorem dX3_crustOf_0 : decode cX3_crustOf 0 = .ok (.iload_n 1, 1) := dk_27 (dk_at dksX3_crustOf_0 0 rfl rfl)
theorem dX3_crustOf_1 : decode cX3_crustOf 1 = .ok (.ifCond .le 17, 3) := dk_158 0 17 (dk_at dksX3_crustOf_0 1 rfl rfl)
theorem dX3_crustOf_4 : decode cX3_crustOf 4 = .ok (.aload_n 0, 1) := dk_42 (dk_at dksX3_crustOf_0 4 rfl rfl)
theorem dX3_crustOf_5 : decode cX3_crustOf 5 = .ok (.iload_n 1, 1) := dk_27 (dk_at dksX3_crustOf_0 5 rfl rfl)
theorem dX3_crustOf_6 : decode cX3_crustOf 6 = .ok (.iconst 1, 1) := dk_4 (dk_at dksX3_crustOf_0 6 rfl rfl)
theorem dX3_crustOf_7 : decode cX3_crustOf 7 = .ok (.isub, 1) := dk_100 (dk_at dksX3_crustOf_0 7 rfl rfl)
theorem dX3_crustOf_8 : decode cX3_crustOf 8 = .ok (.invokevirtual 182, 3) := dk_182 0 182 (dk_at dksX3_crustOf_0 8 rfl rfl)
theorem dX3_crustOf_11 : decode cX3_crustOf 11 = .ok (.ifCond .eq 7, 3) := dk_153 0 7 (dk_at dksX3_crustOf_0 11 rfl rfl)
theorem dX3_crustOf_14 : decode cX3_crustOf 14 = .ok (.iconst 1, 1) := dk_4 (dk_at dksX3_crustOf_0 14 rfl rfl)
theorem dX3_crustOf_15 : decode cX3_crustOf 15 = .ok (.goto 4, 3) := dk_167 0 4 (dk_at dksX3_crustOf_0 15 rfl rfl)
theorem dX3_crustOf_18 : decode cX3_crustOf 18 = .ok (.iconst 0, 1) := dk_3 (dk_at dksX3_crustOf_0 18 rfl rfl)
theorem dX3_crustOf_19 : decode cX3_crustOf 19 = .ok (.istore_n 2, 1) := dk_61 (dk_at dksX3_crustOf_0 19 rfl rfl)
theorem dX3_crustOf_20 : decode cX3_crustOf 20 = .ok (.iload_n 1, 1) := dk_27 (dk_at dksX3_crustOf_0 20 rfl rfl)
theorem dX3_crustOf_21 : decode cX3_crustOf 21 = .ok (.iconst 1, 1) := dk_4 (dk_at dksX3_crustOf_0 21 rfl rfl)
theorem dX3_crustOf_22 : decode cX3_crustOf 22 = .ok (.iadd, 1) := dk_96 (dk_at dksX3_crustOf_0 22 rfl rfl)
theorem dX3_crustOf_23 : decode cX3_crustOf 23 = .ok (.aload_n 0, 1) := dk_42 (dk_at dksX3_crustOf_0 23 rfl rfl)
theorem dX3_crustOf_24 : decode cX3_crustOf 24 = .ok (.getfield 9, 3) := dk_180 0 9 (dk_at dksX3_crustOf_1 0 rfl rfl)
theorem dX3_crustOf_27 : decode cX3_crustOf 27 = .ok (.iconst 0, 1) := dk_3 (dk_at dksX3_crustOf_1 3 rfl rfl)
theorem dX3_crustOf_28 : decode cX3_crustOf 28 = .ok (.iaload, 1) := dk_46 (dk_at dksX3_crustOf_1 4 rfl rfl)
theorem dX3_crustOf_29 : decode cX3_crustOf 29 = .ok (.if_icmp .ge 19, 3) := dk_162 0 19 (dk_at dksX3_crustOf_1 5 rfl rfl)
theorem dX3_crustOf_32 : decode cX3_crustOf 32 = .ok (.aload_n 0, 1) := dk_42 (dk_at dksX3_crustOf_1 8 rfl rfl)
theorem dX3_crustOf_33 : decode cX3_crustOf 33 = .ok (.iload_n 1, 1) := dk_27 (dk_at dksX3_crustOf_1 9 rfl rfl)
theorem dX3_crustOf_34 : decode cX3_crustOf 34 = .ok (.iconst 1, 1) := dk_4 (dk_at dksX3_crustOf_1 10 rfl rfl)
theorem dX3_crustOf_35 : decode cX3_crustOf 35 = .ok (.iadd, 1) := dk_96 (dk_at dksX3_crustOf_1 11 rfl rfl)
theorem dX3_crustOf_36 : decode cX3_crustOf 36 = .ok (.invokevirtual 182, 3) := dk_182 0 182 (dk_at dksX3_crustOf_1 12 rfl rfl)
theorem dX3_crustOf_39 : decode cX3_crustOf 39 = .ok (.ifCond .eq 9, 3) := dk_153 0 9 (dk_at dksX3_crustOf_1 15 rfl rfl)
theorem dX3_crustOf_42 : decode cX3_crustOf 42 = .ok (.iload_n 2, 1) := dk_28 (dk_at dksX3_crustOf_1 18 rfl rfl)
theorem dX3_crustOf_43 : decode cX3_crustOf 43 = .ok (.iconst 1, 1) := dk_4 (dk_at dksX3_crustOf_1 19 rfl rfl)
theorem dX3_crustOf_44 : decode cX3_crustOf 44 = .ok (.iadd, 1) := dk_96 (dk_at dksX3_crustOf_1 20 rfl rfl)
theorem dX3_crustOf_45 : decode cX3_crustOf 45 = .ok (.goto 4, 3) := dk_167 0 4 (dk_at dksX3_crustOf_1 21 rfl rfl)
theorem dX3_crustOf_48 : decode cX3_crustOf 48 = .ok (.iload_n 2, 1) := dk_28 (dk_at dksX3_crustOf_2 0 rfl rfl)
theorem dX3_crustOf_49 : decode cX3_crustOf 49 = .ok (.ireturn, 1) := dk_172 (dk_at dksX3_crustOf_2 1 rfl rfl)
abbrev cX3_crept : ByteArray := prog_17_method_51_code
def yX3_crept : MethodName := ⟨RX3, "crept", "()J"⟩
def dkwX3_crept_3 : List UInt8 := [180, 0, 105, 28, 46, 42, 180, 0, 108, 28, 46, 182, 1, 126, 173, 132, 2, 1, 167, 255, 183, 9, 173]
abbrev dktX3_crept_3 : List UInt8 := dkwX3_crept_3 ++ []
def dkwX3_crept_2 : List UInt8 := [180, 0, 108, 28, 46, 42, 180, 0, 111, 28, 46, 182, 1, 126, 10, 148, 154, 0, 21, 42, 27, 42]
abbrev dktX3_crept_2 : List UInt8 := dkwX3_crept_2 ++ dktX3_crept_3
def dkwX3_crept_1 : List UInt8 := [96, 162, 0, 64, 42, 180, 0, 108, 28, 46, 42, 180, 0, 111, 28, 46, 159, 0, 25, 42, 27, 42]
abbrev dktX3_crept_1 : List UInt8 := dkwX3_crept_1 ++ dktX3_crept_2
def dkwX3_crept_0 : List UInt8 := [42, 180, 0, 9, 16, 8, 46, 60, 16, 12, 27, 104, 61, 28, 16, 12, 27, 104, 42, 180, 0, 102, 27, 46]
abbrev dktX3_crept_0 : List UInt8 := dkwX3_crept_0 ++ dktX3_crept_1
theorem dksX3_crept_0 : cX3_crept.data.toList.drop 0 = dktX3_crept_0 := by decide +kernel
theorem dksX3_crept_1 : cX3_crept.data.toList.drop 24 = dktX3_crept_1 := dk_seg dksX3_crept_0 24 rfl rfl
theorem dksX3_crept_2 : cX3_crept.data.toList.drop 46 = dktX3_crept_2 := dk_seg dksX3_crept_1 22 rfl rfl
theorem dksX3_crept_3 : cX3_crept.data.toList.drop 68 = dktX3_crept_3 := dk_seg dksX3_crept_2 22 rfl rfl
theorem dX3_crept_0 : decode cX3_crept 0 = .ok (.aload_n 0, 1) := dk_42 (dk_at dksX3_crept_0 0 rfl rfl)
theorem dX3_crept_1 : decode cX3_crept 1 = .ok (.getfield 9, 3) := dk_180 0 9 (dk_at dksX3_crept_0 1 rfl rfl)
theorem dX3_crept_4 : decode cX3_crept 4 = .ok (.bipush 8, 2) := dk_16 8 (dk_at dksX3_crept_0 4 rfl rfl)
theorem dX3_crept_6 : decode cX3_crept 6 = .ok (.iaload, 1) := dk_46 (dk_at dksX3_crept_0 6 rfl rfl)
theorem dX3_crept_7 : decode cX3_crept 7 = .ok (.istore_n 1, 1) := dk_60 (dk_at dksX3_crept_0 7 rfl rfl)
theorem dX3_crept_8 : decode cX3_crept 8 = .ok (.bipush 12, 2) := dk_16 12 (dk_at dksX3_crept_0 8 rfl rfl)
theorem dX3_crept_10 : decode cX3_crept 10 = .ok (.iload_n 1, 1) := dk_27 (dk_at dksX3_crept_0 10 rfl rfl)
theorem dX3_crept_11 : decode cX3_crept 11 = .ok (.imul, 1) := dk_104 (dk_at dksX3_crept_0 11 rfl rfl)
theorem dX3_crept_12 : decode cX3_crept 12 = .ok (.istore_n 2, 1) := dk_61 (dk_at dksX3_crept_0 12 rfl rfl)
theorem dX3_crept_13 : decode cX3_crept 13 = .ok (.iload_n 2, 1) := dk_28 (dk_at dksX3_crept_0 13 rfl rfl)
theorem dX3_crept_14 : decode cX3_crept 14 = .ok (.bipush 12, 2) := dk_16 12 (dk_at dksX3_crept_0 14 rfl rfl)
theorem dX3_crept_16 : decode cX3_crept 16 = .ok (.iload_n 1, 1) := dk_27 (dk_at dksX3_crept_0 16 rfl rfl)
theorem dX3_crept_17 : decode cX3_crept 17 = .ok (.imul, 1) := dk_104 (dk_at dksX3_crept_0 17 rfl rfl)
theorem dX3_crept_18 : decode cX3_crept 18 = .ok (.aload_n 0, 1) := dk_42 (dk_at dksX3_crept_0 18 rfl rfl)
theorem dX3_crept_19 : decode cX3_crept 19 = .ok (.getfield 102, 3) := dk_180 0 102 (dk_at dksX3_crept_0 19 rfl rfl)
theorem dX3_crept_22 : decode cX3_crept 22 = .ok (.iload_n 1, 1) := dk_27 (dk_at dksX3_crept_0 22 rfl rfl)
theorem dX3_crept_23 : decode cX3_crept 23 = .ok (.iaload, 1) := dk_46 (dk_at dksX3_crept_0 23 rfl rfl)
theorem dX3_crept_24 : decode cX3_crept 24 = .ok (.iadd, 1) := dk_96 (dk_at dksX3_crept_1 0 rfl rfl)
theorem dX3_crept_25 : decode cX3_crept 25 = .ok (.if_icmp .ge 64, 3) := dk_162 0 64 (dk_at dksX3_crept_1 1 rfl rfl)
theorem dX3_crept_28 : decode cX3_crept 28 = .ok (.aload_n 0, 1) := dk_42 (dk_at dksX3_crept_1 4 rfl rfl)
theorem dX3_crept_29 : decode cX3_crept 29 = .ok (.getfield 108, 3) := dk_180 0 108 (dk_at dksX3_crept_1 5 rfl rfl)
theorem dX3_crept_32 : decode cX3_crept 32 = .ok (.iload_n 2, 1) := dk_28 (dk_at dksX3_crept_1 8 rfl rfl)
theorem dX3_crept_33 : decode cX3_crept 33 = .ok (.iaload, 1) := dk_46 (dk_at dksX3_crept_1 9 rfl rfl)
theorem dX3_crept_34 : decode cX3_crept 34 = .ok (.aload_n 0, 1) := dk_42 (dk_at dksX3_crept_1 10 rfl rfl)
theorem dX3_crept_35 : decode cX3_crept 35 = .ok (.getfield 111, 3) := dk_180 0 111 (dk_at dksX3_crept_1 11 rfl rfl)
theorem dX3_crept_38 : decode cX3_crept 38 = .ok (.iload_n 2, 1) := dk_28 (dk_at dksX3_crept_1 14 rfl rfl)
theorem dX3_crept_39 : decode cX3_crept 39 = .ok (.iaload, 1) := dk_46 (dk_at dksX3_crept_1 15 rfl rfl)
theorem dX3_crept_40 : decode cX3_crept 40 = .ok (.if_icmp .eq 25, 3) := dk_159 0 25 (dk_at dksX3_crept_1 16 rfl rfl)
theorem dX3_crept_43 : decode cX3_crept 43 = .ok (.aload_n 0, 1) := dk_42 (dk_at dksX3_crept_1 19 rfl rfl)
theorem dX3_crept_44 : decode cX3_crept 44 = .ok (.iload_n 1, 1) := dk_27 (dk_at dksX3_crept_1 20 rfl rfl)
theorem dX3_crept_45 : decode cX3_crept 45 = .ok (.aload_n 0, 1) := dk_42 (dk_at dksX3_crept_1 21 rfl rfl)
theorem dX3_crept_46 : decode cX3_crept 46 = .ok (.getfield 108, 3) := dk_180 0 108 (dk_at dksX3_crept_2 0 rfl rfl)
theorem dX3_crept_49 : decode cX3_crept 49 = .ok (.iload_n 2, 1) := dk_28 (dk_at dksX3_crept_2 3 rfl rfl)
theorem dX3_crept_50 : decode cX3_crept 50 = .ok (.iaload, 1) := dk_46 (dk_at dksX3_crept_2 4 rfl rfl)
theorem dX3_crept_51 : decode cX3_crept 51 = .ok (.aload_n 0, 1) := dk_42 (dk_at dksX3_crept_2 5 rfl rfl)
theorem dX3_crept_52 : decode cX3_crept 52 = .ok (.getfield 111, 3) := dk_180 0 111 (dk_at dksX3_crept_2 6 rfl rfl)
theorem dX3_crept_55 : decode cX3_crept 55 = .ok (.iload_n 2, 1) := dk_28 (dk_at dksX3_crept_2 9 rfl rfl)
theorem dX3_crept_56 : decode cX3_crept 56 = .ok (.iaload, 1) := dk_46 (dk_at dksX3_crept_2 10 rfl rfl)
theorem dX3_crept_57 : decode cX3_crept 57 = .ok (.invokevirtual 382, 3) := dk_182 1 126 (dk_at dksX3_crept_2 11 rfl rfl)
theorem dX3_crept_60 : decode cX3_crept 60 = .ok (.lconst 1, 1) := dk_10 (dk_at dksX3_crept_2 14 rfl rfl)
theorem dX3_crept_61 : decode cX3_crept 61 = .ok (.lcmp, 1) := dk_148 (dk_at dksX3_crept_2 15 rfl rfl)
theorem dX3_crept_62 : decode cX3_crept 62 = .ok (.ifCond .ne 21, 3) := dk_154 0 21 (dk_at dksX3_crept_2 16 rfl rfl)
theorem dX3_crept_65 : decode cX3_crept 65 = .ok (.aload_n 0, 1) := dk_42 (dk_at dksX3_crept_2 19 rfl rfl)
theorem dX3_crept_66 : decode cX3_crept 66 = .ok (.iload_n 1, 1) := dk_27 (dk_at dksX3_crept_2 20 rfl rfl)
theorem dX3_crept_67 : decode cX3_crept 67 = .ok (.aload_n 0, 1) := dk_42 (dk_at dksX3_crept_2 21 rfl rfl)
theorem dX3_crept_68 : decode cX3_crept 68 = .ok (.getfield 105, 3) := dk_180 0 105 (dk_at dksX3_crept_3 0 rfl rfl)
theorem dX3_crept_71 : decode cX3_crept 71 = .ok (.iload_n 2, 1) := dk_28 (dk_at dksX3_crept_3 3 rfl rfl)
theorem dX3_crept_72 : decode cX3_crept 72 = .ok (.iaload, 1) := dk_46 (dk_at dksX3_crept_3 4 rfl rfl)
theorem dX3_crept_73 : decode cX3_crept 73 = .ok (.aload_n 0, 1) := dk_42 (dk_at dksX3_crept_3 5 rfl rfl)
theorem dX3_crept_74 : decode cX3_crept 74 = .ok (.getfield 108, 3) := dk_180 0 108 (dk_at dksX3_crept_3 6 rfl rfl)
theorem dX3_crept_77 : decode cX3_crept 77 = .ok (.iload_n 2, 1) := dk_28 (dk_at dksX3_crept_3 9 rfl rfl)
theorem dX3_crept_78 : decode cX3_crept 78 = .ok (.iaload, 1) := dk_46 (dk_at dksX3_crept_3 10 rfl rfl)
theorem dX3_crept_79 : decode cX3_crept 79 = .ok (.invokevirtual 382, 3) := dk_182 1 126 (dk_at dksX3_crept_3 11 rfl rfl)
theorem dX3_crept_82 : decode cX3_crept 82 = .ok (.lreturn, 1) := dk_173 (dk_at dksX3_crept_3 14 rfl rfl)
theorem dX3_crept_83 : decode cX3_crept 83 = .ok (.iinc 2 1, 3) := dk_132 2 1 (dk_at dksX3_crept_3 15 rfl rfl)
theorem dX3_crept_86 : decode cX3_crept 86 = .ok (.goto (-73), 3) := dk_167 255 183 (dk_at dksX3_crept_3 18 rfl rfl)
theorem dX3_crept_89 : decode cX3_crept 89 = .ok (.lconst 0, 1) := dk_9 (dk_at dksX3_crept_3 21 rfl rfl)
theorem dX3_crept_90 : decode cX3_crept 90 = .ok (.lreturn, 1) := dk_173 (dk_at dksX3_crept_3 22 rfl rfl)
abbrev cX3_answer : ByteArray := prog_17_method_54_code
def yX3_answer : MethodName := ⟨RX3, "answer", "(III)J"⟩
def dkwX3_answer_6 : List UInt8 := [47, 184, 1, 134, 80, 132, 5, 1, 167, 255, 112, 42, 180, 0, 121, 3, 47, 173]
abbrev dktX3_answer_6 : List UInt8 := dkwX3_answer_6 ++ []
def dkwX3_answer_5 : List UInt8 := [180, 0, 121, 21, 4, 4, 100, 21, 6, 42, 180, 0, 121, 21, 4, 4, 100, 47, 42, 180, 0, 121, 21, 4]
abbrev dktX3_answer_5 : List UInt8 := dkwX3_answer_5 ++ dktX3_answer_6
def dkwX3_answer_4 : List UInt8 := [21, 4, 4, 100, 10, 42, 180, 0, 121, 21, 4, 4, 100, 47, 101, 80, 167, 0, 36, 132, 4, 255, 42]
abbrev dktX3_answer_4 : List UInt8 := dkwX3_answer_4 ++ dktX3_answer_5
def dkwX3_answer_3 : List UInt8 := [180, 0, 117, 21, 7, 47, 80, 132, 4, 1, 167, 0, 66, 21, 6, 16, 9, 160, 0, 26, 42, 180, 0, 121]
abbrev dktX3_answer_3 : List UInt8 := dkwX3_answer_3 ++ dktX3_answer_4
def dkwX3_answer_2 : List UInt8 := [21, 6, 4, 160, 0, 34, 42, 180, 0, 121, 21, 4, 21, 6, 154, 0, 9, 21, 7, 133, 167, 0, 10, 42]
abbrev dktX3_answer_2 : List UInt8 := dkwX3_answer_2 ++ dktX3_answer_3
def dkwX3_answer_1 : List UInt8 := [46, 54, 6, 42, 180, 0, 99, 17, 1, 44, 27, 104, 21, 5, 96, 46, 54, 7, 21, 6, 153, 0, 9]
abbrev dktX3_answer_1 : List UInt8 := dkwX3_answer_1 ++ dktX3_answer_2
def dkwX3_answer_0 : List UInt8 := [3, 54, 4, 28, 54, 5, 21, 5, 29, 162, 0, 144, 42, 180, 0, 96, 17, 1, 44, 27, 104, 21, 5, 96]
abbrev dktX3_answer_0 : List UInt8 := dkwX3_answer_0 ++ dktX3_answer_1
theorem dksX3_answer_0 : cX3_answer.data.toList.drop 0 = dktX3_answer_0 := by decide +kernel
theorem dksX3_answer_1 : cX3_answer.data.toList.drop 24 = dktX3_answer_1 := dk_seg dksX3_answer_0 24 rfl rfl
theorem dksX3_answer_2 : cX3_answer.data.toList.drop 47 = dktX3_answer_2 := dk_seg dksX3_answer_1 23 rfl rfl
theorem dksX3_answer_3 : cX3_answer.data.toList.drop 71 = dktX3_answer_3 := dk_seg dksX3_answer_2 24 rfl rfl
theorem dksX3_answer_4 : cX3_answer.data.toList.drop 95 = dktX3_answer_4 := dk_seg dksX3_answer_3 24 rfl rfl
theorem dksX3_answer_5 : cX3_answer.data.toList.drop 118 = dktX3_answer_5 := dk_seg dksX3_answer_4 23 rfl rfl
theorem dksX3_answer_6 : cX3_answer.data.toList.drop 142 = dktX3_answer_6 := dk_seg dksX3_answer_5 24 rfl rfl
theorem dX3_answer_0 : decode cX3_answer 0 = .ok (.iconst 0, 1) := dk_3 (dk_at dksX3_answer_0 0 rfl rfl)
theorem dX3_answer_1 : decode cX3_answer 1 = .ok (.istore 4, 2) := dk_54 4 (dk_at dksX3_answer_0 1 rfl rfl)
theorem dX3_answer_3 : decode cX3_answer 3 = .ok (.iload_n 2, 1) := dk_28 (dk_at dksX3_answer_0 3 rfl rfl)
theorem dX3_answer_4 : decode cX3_answer 4 = .ok (.istore 5, 2) := dk_54 5 (dk_at dksX3_answer_0 4 rfl rfl)
theorem dX3_answer_6 : decode cX3_answer 6 = .ok (.iload 5, 2) := dk_21 5 (dk_at dksX3_answer_0 6 rfl rfl)
theorem dX3_answer_8 : decode cX3_answer 8 = .ok (.iload_n 3, 1) := dk_29 (dk_at dksX3_answer_0 8 rfl rfl)
theorem dX3_answer_9 : decode cX3_answer 9 = .ok (.if_icmp .ge 144, 3) := dk_162 0 144 (dk_at dksX3_answer_0 9 rfl rfl)
theorem dX3_answer_12 : decode cX3_answer 12 = .ok (.aload_n 0, 1) := dk_42 (dk_at dksX3_answer_0 12 rfl rfl)
theorem dX3_answer_13 : decode cX3_answer 13 = .ok (.getfield 96, 3) := dk_180 0 96 (dk_at dksX3_answer_0 13 rfl rfl)
theorem dX3_answer_16 : decode cX3_answer 16 = .ok (.sipush 300, 3) := dk_17 1 44 (dk_at dksX3_answer_0 16 rfl rfl)
theorem dX3_answer_19 : decode cX3_answer 19 = .ok (.iload_n 1, 1) := dk_27 (dk_at dksX3_answer_0 19 rfl rfl)
theorem dX3_answer_20 : decode cX3_answer 20 = .ok (.imul, 1) := dk_104 (dk_at dksX3_answer_0 20 rfl rfl)
theorem dX3_answer_21 : decode cX3_answer 21 = .ok (.iload 5, 2) := dk_21 5 (dk_at dksX3_answer_0 21 rfl rfl)
theorem dX3_answer_23 : decode cX3_answer 23 = .ok (.iadd, 1) := dk_96 (dk_at dksX3_answer_0 23 rfl rfl)
theorem dX3_answer_24 : decode cX3_answer 24 = .ok (.iaload, 1) := dk_46 (dk_at dksX3_answer_1 0 rfl rfl)
theorem dX3_answer_25 : decode cX3_answer 25 = .ok (.istore 6, 2) := dk_54 6 (dk_at dksX3_answer_1 1 rfl rfl)
theorem dX3_answer_27 : decode cX3_answer 27 = .ok (.aload_n 0, 1) := dk_42 (dk_at dksX3_answer_1 3 rfl rfl)
theorem dX3_answer_28 : decode cX3_answer 28 = .ok (.getfield 99, 3) := dk_180 0 99 (dk_at dksX3_answer_1 4 rfl rfl)
theorem dX3_answer_31 : decode cX3_answer 31 = .ok (.sipush 300, 3) := dk_17 1 44 (dk_at dksX3_answer_1 7 rfl rfl)
theorem dX3_answer_34 : decode cX3_answer 34 = .ok (.iload_n 1, 1) := dk_27 (dk_at dksX3_answer_1 10 rfl rfl)
theorem dX3_answer_35 : decode cX3_answer 35 = .ok (.imul, 1) := dk_104 (dk_at dksX3_answer_1 11 rfl rfl)
theorem dX3_answer_36 : decode cX3_answer 36 = .ok (.iload 5, 2) := dk_21 5 (dk_at dksX3_answer_1 12 rfl rfl)
theorem dX3_answer_38 : decode cX3_answer 38 = .ok (.iadd, 1) := dk_96 (dk_at dksX3_answer_1 14 rfl rfl)
theorem dX3_answer_39 : decode cX3_answer 39 = .ok (.iaload, 1) := dk_46 (dk_at dksX3_answer_1 15 rfl rfl)
theorem dX3_answer_40 : decode cX3_answer 40 = .ok (.istore 7, 2) := dk_54 7 (dk_at dksX3_answer_1 16 rfl rfl)
theorem dX3_answer_42 : decode cX3_answer 42 = .ok (.iload 6, 2) := dk_21 6 (dk_at dksX3_answer_1 18 rfl rfl)
theorem dX3_answer_44 : decode cX3_answer 44 = .ok (.ifCond .eq 9, 3) := dk_153 0 9 (dk_at dksX3_answer_1 20 rfl rfl)
theorem dX3_answer_47 : decode cX3_answer 47 = .ok (.iload 6, 2) := dk_21 6 (dk_at dksX3_answer_2 0 rfl rfl)
theorem dX3_answer_49 : decode cX3_answer 49 = .ok (.iconst 1, 1) := dk_4 (dk_at dksX3_answer_2 2 rfl rfl)
theorem dX3_answer_50 : decode cX3_answer 50 = .ok (.if_icmp .ne 34, 3) := dk_160 0 34 (dk_at dksX3_answer_2 3 rfl rfl)
theorem dX3_answer_53 : decode cX3_answer 53 = .ok (.aload_n 0, 1) := dk_42 (dk_at dksX3_answer_2 6 rfl rfl)
theorem dX3_answer_54 : decode cX3_answer 54 = .ok (.getfield 121, 3) := dk_180 0 121 (dk_at dksX3_answer_2 7 rfl rfl)
theorem dX3_answer_57 : decode cX3_answer 57 = .ok (.iload 4, 2) := dk_21 4 (dk_at dksX3_answer_2 10 rfl rfl)
theorem dX3_answer_59 : decode cX3_answer 59 = .ok (.iload 6, 2) := dk_21 6 (dk_at dksX3_answer_2 12 rfl rfl)
theorem dX3_answer_61 : decode cX3_answer 61 = .ok (.ifCond .ne 9, 3) := dk_154 0 9 (dk_at dksX3_answer_2 14 rfl rfl)
theorem dX3_answer_64 : decode cX3_answer 64 = .ok (.iload 7, 2) := dk_21 7 (dk_at dksX3_answer_2 17 rfl rfl)
theorem dX3_answer_66 : decode cX3_answer 66 = .ok (.i2l, 1) := dk_133 (dk_at dksX3_answer_2 19 rfl rfl)
theorem dX3_answer_67 : decode cX3_answer 67 = .ok (.goto 10, 3) := dk_167 0 10 (dk_at dksX3_answer_2 20 rfl rfl)
theorem dX3_answer_70 : decode cX3_answer 70 = .ok (.aload_n 0, 1) := dk_42 (dk_at dksX3_answer_2 23 rfl rfl)
theorem dX3_answer_71 : decode cX3_answer 71 = .ok (.getfield 117, 3) := dk_180 0 117 (dk_at dksX3_answer_3 0 rfl rfl)
theorem dX3_answer_74 : decode cX3_answer 74 = .ok (.iload 7, 2) := dk_21 7 (dk_at dksX3_answer_3 3 rfl rfl)
theorem dX3_answer_76 : decode cX3_answer 76 = .ok (.laload, 1) := dk_47 (dk_at dksX3_answer_3 5 rfl rfl)
theorem dX3_answer_77 : decode cX3_answer 77 = .ok (.lastore, 1) := dk_80 (dk_at dksX3_answer_3 6 rfl rfl)
theorem dX3_answer_78 : decode cX3_answer 78 = .ok (.iinc 4 1, 3) := dk_132 4 1 (dk_at dksX3_answer_3 7 rfl rfl)
theorem dX3_answer_81 : decode cX3_answer 81 = .ok (.goto 66, 3) := dk_167 0 66 (dk_at dksX3_answer_3 10 rfl rfl)
theorem dX3_answer_84 : decode cX3_answer 84 = .ok (.iload 6, 2) := dk_21 6 (dk_at dksX3_answer_3 13 rfl rfl)
theorem dX3_answer_86 : decode cX3_answer 86 = .ok (.bipush 9, 2) := dk_16 9 (dk_at dksX3_answer_3 15 rfl rfl)
theorem dX3_answer_88 : decode cX3_answer 88 = .ok (.if_icmp .ne 26, 3) := dk_160 0 26 (dk_at dksX3_answer_3 17 rfl rfl)
theorem dX3_answer_91 : decode cX3_answer 91 = .ok (.aload_n 0, 1) := dk_42 (dk_at dksX3_answer_3 20 rfl rfl)
theorem dX3_answer_92 : decode cX3_answer 92 = .ok (.getfield 121, 3) := dk_180 0 121 (dk_at dksX3_answer_3 21 rfl rfl)
theorem dX3_answer_95 : decode cX3_answer 95 = .ok (.iload 4, 2) := dk_21 4 (dk_at dksX3_answer_4 0 rfl rfl)
theorem dX3_answer_97 : decode cX3_answer 97 = .ok (.iconst 1, 1) := dk_4 (dk_at dksX3_answer_4 2 rfl rfl)
theorem dX3_answer_98 : decode cX3_answer 98 = .ok (.isub, 1) := dk_100 (dk_at dksX3_answer_4 3 rfl rfl)
theorem dX3_answer_99 : decode cX3_answer 99 = .ok (.lconst 1, 1) := dk_10 (dk_at dksX3_answer_4 4 rfl rfl)
theorem dX3_answer_100 : decode cX3_answer 100 = .ok (.aload_n 0, 1) := dk_42 (dk_at dksX3_answer_4 5 rfl rfl)
theorem dX3_answer_101 : decode cX3_answer 101 = .ok (.getfield 121, 3) := dk_180 0 121 (dk_at dksX3_answer_4 6 rfl rfl)
theorem dX3_answer_104 : decode cX3_answer 104 = .ok (.iload 4, 2) := dk_21 4 (dk_at dksX3_answer_4 9 rfl rfl)
theorem dX3_answer_106 : decode cX3_answer 106 = .ok (.iconst 1, 1) := dk_4 (dk_at dksX3_answer_4 11 rfl rfl)
theorem dX3_answer_107 : decode cX3_answer 107 = .ok (.isub, 1) := dk_100 (dk_at dksX3_answer_4 12 rfl rfl)
theorem dX3_answer_108 : decode cX3_answer 108 = .ok (.laload, 1) := dk_47 (dk_at dksX3_answer_4 13 rfl rfl)
theorem dX3_answer_109 : decode cX3_answer 109 = .ok (.lsub, 1) := dk_101 (dk_at dksX3_answer_4 14 rfl rfl)
theorem dX3_answer_110 : decode cX3_answer 110 = .ok (.lastore, 1) := dk_80 (dk_at dksX3_answer_4 15 rfl rfl)
theorem dX3_answer_111 : decode cX3_answer 111 = .ok (.goto 36, 3) := dk_167 0 36 (dk_at dksX3_answer_4 16 rfl rfl)
theorem dX3_answer_114 : decode cX3_answer 114 = .ok (.iinc 4 (-1), 3) := dk_132 4 255 (dk_at dksX3_answer_4 19 rfl rfl)
theorem dX3_answer_117 : decode cX3_answer 117 = .ok (.aload_n 0, 1) := dk_42 (dk_at dksX3_answer_4 22 rfl rfl)
theorem dX3_answer_118 : decode cX3_answer 118 = .ok (.getfield 121, 3) := dk_180 0 121 (dk_at dksX3_answer_5 0 rfl rfl)
theorem dX3_answer_121 : decode cX3_answer 121 = .ok (.iload 4, 2) := dk_21 4 (dk_at dksX3_answer_5 3 rfl rfl)
theorem dX3_answer_123 : decode cX3_answer 123 = .ok (.iconst 1, 1) := dk_4 (dk_at dksX3_answer_5 5 rfl rfl)
theorem dX3_answer_124 : decode cX3_answer 124 = .ok (.isub, 1) := dk_100 (dk_at dksX3_answer_5 6 rfl rfl)
theorem dX3_answer_125 : decode cX3_answer 125 = .ok (.iload 6, 2) := dk_21 6 (dk_at dksX3_answer_5 7 rfl rfl)
theorem dX3_answer_127 : decode cX3_answer 127 = .ok (.aload_n 0, 1) := dk_42 (dk_at dksX3_answer_5 9 rfl rfl)
theorem dX3_answer_128 : decode cX3_answer 128 = .ok (.getfield 121, 3) := dk_180 0 121 (dk_at dksX3_answer_5 10 rfl rfl)
theorem dX3_answer_131 : decode cX3_answer 131 = .ok (.iload 4, 2) := dk_21 4 (dk_at dksX3_answer_5 13 rfl rfl)
theorem dX3_answer_133 : decode cX3_answer 133 = .ok (.iconst 1, 1) := dk_4 (dk_at dksX3_answer_5 15 rfl rfl)
theorem dX3_answer_134 : decode cX3_answer 134 = .ok (.isub, 1) := dk_100 (dk_at dksX3_answer_5 16 rfl rfl)
theorem dX3_answer_135 : decode cX3_answer 135 = .ok (.laload, 1) := dk_47 (dk_at dksX3_answer_5 17 rfl rfl)
theorem dX3_answer_136 : decode cX3_answer 136 = .ok (.aload_n 0, 1) := dk_42 (dk_at dksX3_answer_5 18 rfl rfl)
theorem dX3_answer_137 : decode cX3_answer 137 = .ok (.getfield 121, 3) := dk_180 0 121 (dk_at dksX3_answer_5 19 rfl rfl)
theorem dX3_answer_140 : decode cX3_answer 140 = .ok (.iload 4, 2) := dk_21 4 (dk_at dksX3_answer_5 22 rfl rfl)
theorem dX3_answer_142 : decode cX3_answer 142 = .ok (.laload, 1) := dk_47 (dk_at dksX3_answer_6 0 rfl rfl)
theorem dX3_answer_143 : decode cX3_answer 143 = .ok (.invokestatic 390, 3) := dk_184 1 134 (dk_at dksX3_answer_6 1 rfl rfl)
theorem dX3_answer_146 : decode cX3_answer 146 = .ok (.lastore, 1) := dk_80 (dk_at dksX3_answer_6 4 rfl rfl)
theorem dX3_answer_147 : decode cX3_answer 147 = .ok (.iinc 5 1, 3) := dk_132 5 1 (dk_at dksX3_answer_6 5 rfl rfl)
theorem dX3_answer_150 : decode cX3_answer 150 = .ok (.goto (-144), 3) := dk_167 255 112 (dk_at dksX3_answer_6 8 rfl rfl)
theorem dX3_answer_153 : decode cX3_answer 153 = .ok (.aload_n 0, 1) := dk_42 (dk_at dksX3_answer_6 11 rfl rfl)
theorem dX3_answer_154 : decode cX3_answer 154 = .ok (.getfield 121, 3) := dk_180 0 121 (dk_at dksX3_answer_6 12 rfl rfl)
theorem dX3_answer_157 : decode cX3_answer 157 = .ok (.iconst 0, 1) := dk_3 (dk_at dksX3_answer_6 15 rfl rfl)
theorem dX3_answer_158 : decode cX3_answer 158 = .ok (.laload, 1) := dk_47 (dk_at dksX3_answer_6 16 rfl rfl)
theorem dX3_answer_159 : decode cX3_answer 159 = .ok (.lreturn, 1) := dk_173 (dk_at dksX3_answer_6 17 rfl rfl)
abbrev cX3_both : ByteArray := prog_17_method_53_code
def yX3_both : MethodName := ⟨RX3, "both", "(IJJ)J"⟩
def dkwX3_both_7 : List UInt8 := [31, 33, 129, 173]
abbrev dktX3_both_7 : List UInt8 := dkwX3_both_7 ++ []
def dkwX3_both_6 : List UInt8 := [3, 184, 1, 130, 173, 31, 33, 148, 158, 0, 7, 4, 167, 0, 4, 3, 184, 1, 130, 173, 31, 33, 127, 173]
abbrev dktX3_both_6 : List UInt8 := dkwX3_both_6 ++ dktX3_both_7
def dkwX3_both_5 : List UInt8 := [33, 148, 154, 0, 7, 4, 167, 0, 4, 3, 184, 1, 130, 173, 31, 33, 148, 155, 0, 7, 4, 167, 0, 4]
abbrev dktX3_both_5 : List UInt8 := dkwX3_both_5 ++ dktX3_both_6
def dkwX3_both_4 : List UInt8 := [167, 0, 4, 3, 184, 1, 130, 173, 31, 33, 148, 157, 0, 7, 4, 167, 0, 4, 3, 184, 1, 130, 173, 31]
abbrev dktX3_both_4 : List UInt8 := dkwX3_both_4 ++ dktX3_both_5
def dkwX3_both_3 : List UInt8 := [109, 173, 33, 9, 148, 154, 0, 7, 9, 167, 0, 6, 31, 33, 113, 173, 31, 33, 148, 156, 0, 7, 4]
abbrev dktX3_both_3 : List UInt8 := dkwX3_both_3 ++ dktX3_both_4
def dkwX3_both_2 : List UInt8 := [31, 33, 97, 173, 31, 33, 101, 173, 31, 33, 105, 173, 33, 9, 148, 154, 0, 7, 9, 167, 0, 6, 31, 33]
abbrev dktX3_both_2 : List UInt8 := dkwX3_both_2 ++ dktX3_both_3
def dkwX3_both_1 : List UInt8 := [170, 0, 0, 0, 0, 0, 190, 0, 0, 0, 2, 0, 0, 0, 15, 0, 0, 0, 71, 0, 0, 0, 75, 0, 0, 0, 111, 0, 0, 0, 126, 0, 0, 0, 141, 0, 0, 0, 156, 0, 0, 0, 171, 0, 0, 0, 190, 0, 0, 0, 186, 0, 0, 0, 190, 0, 0, 0, 190, 0, 0, 0, 79, 0, 0, 0, 83, 0, 0, 0, 97]
abbrev dktX3_both_1 : List UInt8 := dkwX3_both_1 ++ dktX3_both_2
def dkwX3_both_0 : List UInt8 := [26]
abbrev dktX3_both_0 : List UInt8 := dkwX3_both_0 ++ dktX3_both_1
theorem dksX3_both_0 : cX3_both.data.toList.drop 0 = dktX3_both_0 := by decide +kernel
theorem dksX3_both_1 : cX3_both.data.toList.drop 1 = dktX3_both_1 := dk_seg dksX3_both_0 1 rfl rfl
theorem dksX3_both_2 : cX3_both.data.toList.drop 72 = dktX3_both_2 := dk_seg dksX3_both_1 71 rfl rfl
theorem dksX3_both_3 : cX3_both.data.toList.drop 96 = dktX3_both_3 := dk_seg dksX3_both_2 24 rfl rfl
theorem dksX3_both_4 : cX3_both.data.toList.drop 119 = dktX3_both_4 := dk_seg dksX3_both_3 23 rfl rfl
theorem dksX3_both_5 : cX3_both.data.toList.drop 143 = dktX3_both_5 := dk_seg dksX3_both_4 24 rfl rfl
theorem dksX3_both_6 : cX3_both.data.toList.drop 167 = dktX3_both_6 := dk_seg dksX3_both_5 24 rfl rfl
theorem dksX3_both_7 : cX3_both.data.toList.drop 191 = dktX3_both_7 := dk_seg dksX3_both_6 24 rfl rfl
theorem dX3_both_0 : decode cX3_both 0 = .ok (.iload_n 0, 1) := dk_26 (dk_at dksX3_both_0 0 rfl rfl)
theorem dX3_both_1 : decode cX3_both 1 = .ok (.tableswitch 190 2 15 #[71, 75, 111, 126, 141, 156, 171, 190, 186, 190, 190, 79, 83, 97], 71) := by decide +kernel
theorem dX3_both_72 : decode cX3_both 72 = .ok (.lload_n 1, 1) := dk_31 (dk_at dksX3_both_2 0 rfl rfl)
theorem dX3_both_73 : decode cX3_both 73 = .ok (.lload_n 3, 1) := dk_33 (dk_at dksX3_both_2 1 rfl rfl)
theorem dX3_both_74 : decode cX3_both 74 = .ok (.ladd, 1) := dk_97 (dk_at dksX3_both_2 2 rfl rfl)
theorem dX3_both_75 : decode cX3_both 75 = .ok (.lreturn, 1) := dk_173 (dk_at dksX3_both_2 3 rfl rfl)
theorem dX3_both_76 : decode cX3_both 76 = .ok (.lload_n 1, 1) := dk_31 (dk_at dksX3_both_2 4 rfl rfl)
theorem dX3_both_77 : decode cX3_both 77 = .ok (.lload_n 3, 1) := dk_33 (dk_at dksX3_both_2 5 rfl rfl)
theorem dX3_both_78 : decode cX3_both 78 = .ok (.lsub, 1) := dk_101 (dk_at dksX3_both_2 6 rfl rfl)
theorem dX3_both_79 : decode cX3_both 79 = .ok (.lreturn, 1) := dk_173 (dk_at dksX3_both_2 7 rfl rfl)
theorem dX3_both_80 : decode cX3_both 80 = .ok (.lload_n 1, 1) := dk_31 (dk_at dksX3_both_2 8 rfl rfl)
theorem dX3_both_81 : decode cX3_both 81 = .ok (.lload_n 3, 1) := dk_33 (dk_at dksX3_both_2 9 rfl rfl)
theorem dX3_both_82 : decode cX3_both 82 = .ok (.lmul, 1) := dk_105 (dk_at dksX3_both_2 10 rfl rfl)
theorem dX3_both_83 : decode cX3_both 83 = .ok (.lreturn, 1) := dk_173 (dk_at dksX3_both_2 11 rfl rfl)
theorem dX3_both_84 : decode cX3_both 84 = .ok (.lload_n 3, 1) := dk_33 (dk_at dksX3_both_2 12 rfl rfl)
theorem dX3_both_85 : decode cX3_both 85 = .ok (.lconst 0, 1) := dk_9 (dk_at dksX3_both_2 13 rfl rfl)
theorem dX3_both_86 : decode cX3_both 86 = .ok (.lcmp, 1) := dk_148 (dk_at dksX3_both_2 14 rfl rfl)
theorem dX3_both_87 : decode cX3_both 87 = .ok (.ifCond .ne 7, 3) := dk_154 0 7 (dk_at dksX3_both_2 15 rfl rfl)
theorem dX3_both_90 : decode cX3_both 90 = .ok (.lconst 0, 1) := dk_9 (dk_at dksX3_both_2 18 rfl rfl)
theorem dX3_both_91 : decode cX3_both 91 = .ok (.goto 6, 3) := dk_167 0 6 (dk_at dksX3_both_2 19 rfl rfl)
theorem dX3_both_94 : decode cX3_both 94 = .ok (.lload_n 1, 1) := dk_31 (dk_at dksX3_both_2 22 rfl rfl)
theorem dX3_both_95 : decode cX3_both 95 = .ok (.lload_n 3, 1) := dk_33 (dk_at dksX3_both_2 23 rfl rfl)
theorem dX3_both_96 : decode cX3_both 96 = .ok (.ldiv, 1) := dk_109 (dk_at dksX3_both_3 0 rfl rfl)
theorem dX3_both_97 : decode cX3_both 97 = .ok (.lreturn, 1) := dk_173 (dk_at dksX3_both_3 1 rfl rfl)
theorem dX3_both_98 : decode cX3_both 98 = .ok (.lload_n 3, 1) := dk_33 (dk_at dksX3_both_3 2 rfl rfl)
theorem dX3_both_99 : decode cX3_both 99 = .ok (.lconst 0, 1) := dk_9 (dk_at dksX3_both_3 3 rfl rfl)
theorem dX3_both_100 : decode cX3_both 100 = .ok (.lcmp, 1) := dk_148 (dk_at dksX3_both_3 4 rfl rfl)
theorem dX3_both_101 : decode cX3_both 101 = .ok (.ifCond .ne 7, 3) := dk_154 0 7 (dk_at dksX3_both_3 5 rfl rfl)
theorem dX3_both_104 : decode cX3_both 104 = .ok (.lconst 0, 1) := dk_9 (dk_at dksX3_both_3 8 rfl rfl)
theorem dX3_both_105 : decode cX3_both 105 = .ok (.goto 6, 3) := dk_167 0 6 (dk_at dksX3_both_3 9 rfl rfl)
theorem dX3_both_108 : decode cX3_both 108 = .ok (.lload_n 1, 1) := dk_31 (dk_at dksX3_both_3 12 rfl rfl)
theorem dX3_both_109 : decode cX3_both 109 = .ok (.lload_n 3, 1) := dk_33 (dk_at dksX3_both_3 13 rfl rfl)
theorem dX3_both_110 : decode cX3_both 110 = .ok (.lrem, 1) := dk_113 (dk_at dksX3_both_3 14 rfl rfl)
theorem dX3_both_111 : decode cX3_both 111 = .ok (.lreturn, 1) := dk_173 (dk_at dksX3_both_3 15 rfl rfl)
theorem dX3_both_112 : decode cX3_both 112 = .ok (.lload_n 1, 1) := dk_31 (dk_at dksX3_both_3 16 rfl rfl)
theorem dX3_both_113 : decode cX3_both 113 = .ok (.lload_n 3, 1) := dk_33 (dk_at dksX3_both_3 17 rfl rfl)
theorem dX3_both_114 : decode cX3_both 114 = .ok (.lcmp, 1) := dk_148 (dk_at dksX3_both_3 18 rfl rfl)
theorem dX3_both_115 : decode cX3_both 115 = .ok (.ifCond .ge 7, 3) := dk_156 0 7 (dk_at dksX3_both_3 19 rfl rfl)
theorem dX3_both_118 : decode cX3_both 118 = .ok (.iconst 1, 1) := dk_4 (dk_at dksX3_both_3 22 rfl rfl)
theorem dX3_both_119 : decode cX3_both 119 = .ok (.goto 4, 3) := dk_167 0 4 (dk_at dksX3_both_4 0 rfl rfl)
theorem dX3_both_122 : decode cX3_both 122 = .ok (.iconst 0, 1) := dk_3 (dk_at dksX3_both_4 3 rfl rfl)
theorem dX3_both_123 : decode cX3_both 123 = .ok (.invokestatic 386, 3) := dk_184 1 130 (dk_at dksX3_both_4 4 rfl rfl)
theorem dX3_both_126 : decode cX3_both 126 = .ok (.lreturn, 1) := dk_173 (dk_at dksX3_both_4 7 rfl rfl)
theorem dX3_both_127 : decode cX3_both 127 = .ok (.lload_n 1, 1) := dk_31 (dk_at dksX3_both_4 8 rfl rfl)
theorem dX3_both_128 : decode cX3_both 128 = .ok (.lload_n 3, 1) := dk_33 (dk_at dksX3_both_4 9 rfl rfl)
theorem dX3_both_129 : decode cX3_both 129 = .ok (.lcmp, 1) := dk_148 (dk_at dksX3_both_4 10 rfl rfl)
theorem dX3_both_130 : decode cX3_both 130 = .ok (.ifCond .gt 7, 3) := dk_157 0 7 (dk_at dksX3_both_4 11 rfl rfl)
theorem dX3_both_133 : decode cX3_both 133 = .ok (.iconst 1, 1) := dk_4 (dk_at dksX3_both_4 14 rfl rfl)
theorem dX3_both_134 : decode cX3_both 134 = .ok (.goto 4, 3) := dk_167 0 4 (dk_at dksX3_both_4 15 rfl rfl)
theorem dX3_both_137 : decode cX3_both 137 = .ok (.iconst 0, 1) := dk_3 (dk_at dksX3_both_4 18 rfl rfl)
theorem dX3_both_138 : decode cX3_both 138 = .ok (.invokestatic 386, 3) := dk_184 1 130 (dk_at dksX3_both_4 19 rfl rfl)
theorem dX3_both_141 : decode cX3_both 141 = .ok (.lreturn, 1) := dk_173 (dk_at dksX3_both_4 22 rfl rfl)
theorem dX3_both_142 : decode cX3_both 142 = .ok (.lload_n 1, 1) := dk_31 (dk_at dksX3_both_4 23 rfl rfl)
theorem dX3_both_143 : decode cX3_both 143 = .ok (.lload_n 3, 1) := dk_33 (dk_at dksX3_both_5 0 rfl rfl)
theorem dX3_both_144 : decode cX3_both 144 = .ok (.lcmp, 1) := dk_148 (dk_at dksX3_both_5 1 rfl rfl)
theorem dX3_both_145 : decode cX3_both 145 = .ok (.ifCond .ne 7, 3) := dk_154 0 7 (dk_at dksX3_both_5 2 rfl rfl)
theorem dX3_both_148 : decode cX3_both 148 = .ok (.iconst 1, 1) := dk_4 (dk_at dksX3_both_5 5 rfl rfl)
theorem dX3_both_149 : decode cX3_both 149 = .ok (.goto 4, 3) := dk_167 0 4 (dk_at dksX3_both_5 6 rfl rfl)
theorem dX3_both_152 : decode cX3_both 152 = .ok (.iconst 0, 1) := dk_3 (dk_at dksX3_both_5 9 rfl rfl)
theorem dX3_both_153 : decode cX3_both 153 = .ok (.invokestatic 386, 3) := dk_184 1 130 (dk_at dksX3_both_5 10 rfl rfl)
theorem dX3_both_156 : decode cX3_both 156 = .ok (.lreturn, 1) := dk_173 (dk_at dksX3_both_5 13 rfl rfl)
theorem dX3_both_157 : decode cX3_both 157 = .ok (.lload_n 1, 1) := dk_31 (dk_at dksX3_both_5 14 rfl rfl)
theorem dX3_both_158 : decode cX3_both 158 = .ok (.lload_n 3, 1) := dk_33 (dk_at dksX3_both_5 15 rfl rfl)
theorem dX3_both_159 : decode cX3_both 159 = .ok (.lcmp, 1) := dk_148 (dk_at dksX3_both_5 16 rfl rfl)
theorem dX3_both_160 : decode cX3_both 160 = .ok (.ifCond .lt 7, 3) := dk_155 0 7 (dk_at dksX3_both_5 17 rfl rfl)
theorem dX3_both_163 : decode cX3_both 163 = .ok (.iconst 1, 1) := dk_4 (dk_at dksX3_both_5 20 rfl rfl)
theorem dX3_both_164 : decode cX3_both 164 = .ok (.goto 4, 3) := dk_167 0 4 (dk_at dksX3_both_5 21 rfl rfl)
theorem dX3_both_167 : decode cX3_both 167 = .ok (.iconst 0, 1) := dk_3 (dk_at dksX3_both_6 0 rfl rfl)
theorem dX3_both_168 : decode cX3_both 168 = .ok (.invokestatic 386, 3) := dk_184 1 130 (dk_at dksX3_both_6 1 rfl rfl)
theorem dX3_both_171 : decode cX3_both 171 = .ok (.lreturn, 1) := dk_173 (dk_at dksX3_both_6 4 rfl rfl)
theorem dX3_both_172 : decode cX3_both 172 = .ok (.lload_n 1, 1) := dk_31 (dk_at dksX3_both_6 5 rfl rfl)
theorem dX3_both_173 : decode cX3_both 173 = .ok (.lload_n 3, 1) := dk_33 (dk_at dksX3_both_6 6 rfl rfl)
theorem dX3_both_174 : decode cX3_both 174 = .ok (.lcmp, 1) := dk_148 (dk_at dksX3_both_6 7 rfl rfl)
theorem dX3_both_175 : decode cX3_both 175 = .ok (.ifCond .le 7, 3) := dk_158 0 7 (dk_at dksX3_both_6 8 rfl rfl)
theorem dX3_both_178 : decode cX3_both 178 = .ok (.iconst 1, 1) := dk_4 (dk_at dksX3_both_6 11 rfl rfl)
theorem dX3_both_179 : decode cX3_both 179 = .ok (.goto 4, 3) := dk_167 0 4 (dk_at dksX3_both_6 12 rfl rfl)
theorem dX3_both_182 : decode cX3_both 182 = .ok (.iconst 0, 1) := dk_3 (dk_at dksX3_both_6 15 rfl rfl)
theorem dX3_both_183 : decode cX3_both 183 = .ok (.invokestatic 386, 3) := dk_184 1 130 (dk_at dksX3_both_6 16 rfl rfl)
theorem dX3_both_186 : decode cX3_both 186 = .ok (.lreturn, 1) := dk_173 (dk_at dksX3_both_6 19 rfl rfl)
theorem dX3_both_187 : decode cX3_both 187 = .ok (.lload_n 1, 1) := dk_31 (dk_at dksX3_both_6 20 rfl rfl)
theorem dX3_both_188 : decode cX3_both 188 = .ok (.lload_n 3, 1) := dk_33 (dk_at dksX3_both_6 21 rfl rfl)
theorem dX3_both_189 : decode cX3_both 189 = .ok (.land, 1) := dk_127 (dk_at dksX3_both_6 22 rfl rfl)
theorem dX3_both_190 : decode cX3_both 190 = .ok (.lreturn, 1) := dk_173 (dk_at dksX3_both_6 23 rfl rfl)
theorem dX3_both_191 : decode cX3_both 191 = .ok (.lload_n 1, 1) := dk_31 (dk_at dksX3_both_7 0 rfl rfl)
theorem dX3_both_192 : decode cX3_both 192 = .ok (.lload_n 3, 1) := dk_33 (dk_at dksX3_both_7 1 rfl rfl)
theorem dX3_both_193 : decode cX3_both 193 = .ok (.lor, 1) := dk_129 (dk_at dksX3_both_7 2 rfl rfl)
theorem dX3_both_194 : decode cX3_both 194 = .ok (.lreturn, 1) := dk_173 (dk_at dksX3_both_7 3 rfl rfl)
abbrev cX3_truth : ByteArray := prog_17_method_52_code
def yX3_truth : MethodName := ⟨RX3, "truth", "(Z)J"⟩
def dkwX3_truth_0 : List UInt8 := [26, 153, 0, 7, 10, 167, 0, 4, 9, 173]
abbrev dktX3_truth_0 : List UInt8 := dkwX3_truth_0 ++ []
theorem dksX3_truth_0 : cX3_truth.data.toList.drop 0 = dktX3_truth_0 := by decide +kernel
theorem dX3_truth_0 : decode cX3_truth 0 = .ok (.iload_n 0, 1) := dk_26 (dk_at dksX3_truth_0 0 rfl rfl)
theorem dX3_truth_1 : decode cX3_truth 1 = .ok (.ifCond .eq 7, 3) := dk_153 0 7 (dk_at dksX3_truth_0 1 rfl rfl)
theorem dX3_truth_4 : decode cX3_truth 4 = .ok (.lconst 1, 1) := dk_10 (dk_at dksX3_truth_0 4 rfl rfl)
theorem dX3_truth_5 : decode cX3_truth 5 = .ok (.goto 4, 3) := dk_167 0 4 (dk_at dksX3_truth_0 5 rfl rfl)
theorem dX3_truth_8 : decode cX3_truth 8 = .ok (.lconst 0, 1) := dk_9 (dk_at dksX3_truth_0 8 rfl rfl)
theorem dX3_truth_9 : decode cX3_truth 9 = .ok (.lreturn, 1) := dk_173 (dk_at dksX3_truth_0 9 rfl rfl)
abbrev cX3_sags : ByteArray := prog_17_method_63_code
def yX3_sags : MethodName := ⟨RX3, "sags", "(I)V"⟩
def dkwX3_sags_3 : List UInt8 := [42, 27, 4, 96, 182, 0, 182, 153, 0, 7, 3, 167, 0, 4, 29, 96, 79, 177]
abbrev dktX3_sags_3 : List UInt8 := dkwX3_sags_3 ++ []
def dkwX3_sags_2 : List UInt8 := [42, 27, 182, 0, 182, 153, 0, 7, 3, 167, 0, 4, 29, 100, 79, 42, 180, 0, 13, 27, 4, 96, 92, 46]
abbrev dktX3_sags_2 : List UInt8 := dkwX3_sags_2 ++ dktX3_sags_3
def dkwX3_sags_1 : List UInt8 := [184, 0, 170, 153, 0, 4, 177, 28, 158, 0, 7, 4, 167, 0, 4, 2, 62, 42, 180, 0, 13, 27, 92, 46]
abbrev dktX3_sags_1 : List UInt8 := dkwX3_sags_1 ++ dktX3_sags_2
def dkwX3_sags_0 : List UInt8 := [42, 180, 0, 13, 27, 46, 42, 180, 0, 13, 27, 4, 96, 46, 100, 61, 28, 133, 20, 1, 164, 20, 1, 166]
abbrev dktX3_sags_0 : List UInt8 := dkwX3_sags_0 ++ dktX3_sags_1
theorem dksX3_sags_0 : cX3_sags.data.toList.drop 0 = dktX3_sags_0 := by decide +kernel
theorem dksX3_sags_1 : cX3_sags.data.toList.drop 24 = dktX3_sags_1 := dk_seg dksX3_sags_0 24 rfl rfl
theorem dksX3_sags_2 : cX3_sags.data.toList.drop 48 = dktX3_sags_2 := dk_seg dksX3_sags_1 24 rfl rfl
theorem dksX3_sags_3 : cX3_sags.data.toList.drop 72 = dktX3_sags_3 := dk_seg dksX3_sags_2 24 rfl rfl
theorem dX3_sags_0 : decode cX3_sags 0 = .ok (.aload_n 0, 1) := dk_42 (dk_at dksX3_sags_0 0 rfl rfl)
theorem dX3_sags_1 : decode cX3_sags 1 = .ok (.getfield 13, 3) := dk_180 0 13 (dk_at dksX3_sags_0 1 rfl rfl)
theorem dX3_sags_4 : decode cX3_sags 4 = .ok (.iload_n 1, 1) := dk_27 (dk_at dksX3_sags_0 4 rfl rfl)
theorem dX3_sags_5 : decode cX3_sags 5 = .ok (.iaload, 1) := dk_46 (dk_at dksX3_sags_0 5 rfl rfl)
theorem dX3_sags_6 : decode cX3_sags 6 = .ok (.aload_n 0, 1) := dk_42 (dk_at dksX3_sags_0 6 rfl rfl)
theorem dX3_sags_7 : decode cX3_sags 7 = .ok (.getfield 13, 3) := dk_180 0 13 (dk_at dksX3_sags_0 7 rfl rfl)
theorem dX3_sags_10 : decode cX3_sags 10 = .ok (.iload_n 1, 1) := dk_27 (dk_at dksX3_sags_0 10 rfl rfl)
theorem dX3_sags_11 : decode cX3_sags 11 = .ok (.iconst 1, 1) := dk_4 (dk_at dksX3_sags_0 11 rfl rfl)
theorem dX3_sags_12 : decode cX3_sags 12 = .ok (.iadd, 1) := dk_96 (dk_at dksX3_sags_0 12 rfl rfl)
theorem dX3_sags_13 : decode cX3_sags 13 = .ok (.iaload, 1) := dk_46 (dk_at dksX3_sags_0 13 rfl rfl)
theorem dX3_sags_14 : decode cX3_sags 14 = .ok (.isub, 1) := dk_100 (dk_at dksX3_sags_0 14 rfl rfl)
theorem dX3_sags_15 : decode cX3_sags 15 = .ok (.istore_n 2, 1) := dk_61 (dk_at dksX3_sags_0 15 rfl rfl)
theorem dX3_sags_16 : decode cX3_sags 16 = .ok (.iload_n 2, 1) := dk_28 (dk_at dksX3_sags_0 16 rfl rfl)
theorem dX3_sags_17 : decode cX3_sags 17 = .ok (.i2l, 1) := dk_133 (dk_at dksX3_sags_0 17 rfl rfl)
theorem dX3_sags_18 : decode cX3_sags 18 = .ok (.ldc2_w 420, 3) := dk_20 1 164 (dk_at dksX3_sags_0 18 rfl rfl)
theorem dX3_sags_21 : decode cX3_sags 21 = .ok (.ldc2_w 422, 3) := dk_20 1 166 (dk_at dksX3_sags_0 21 rfl rfl)
theorem dX3_sags_24 : decode cX3_sags 24 = .ok (.invokestatic 170, 3) := dk_184 0 170 (dk_at dksX3_sags_1 0 rfl rfl)
theorem dX3_sags_27 : decode cX3_sags 27 = .ok (.ifCond .eq 4, 3) := dk_153 0 4 (dk_at dksX3_sags_1 3 rfl rfl)
theorem dX3_sags_30 : decode cX3_sags 30 = .ok (.return_, 1) := dk_177 (dk_at dksX3_sags_1 6 rfl rfl)
theorem dX3_sags_31 : decode cX3_sags 31 = .ok (.iload_n 2, 1) := dk_28 (dk_at dksX3_sags_1 7 rfl rfl)
theorem dX3_sags_32 : decode cX3_sags 32 = .ok (.ifCond .le 7, 3) := dk_158 0 7 (dk_at dksX3_sags_1 8 rfl rfl)
theorem dX3_sags_35 : decode cX3_sags 35 = .ok (.iconst 1, 1) := dk_4 (dk_at dksX3_sags_1 11 rfl rfl)
theorem dX3_sags_36 : decode cX3_sags 36 = .ok (.goto 4, 3) := dk_167 0 4 (dk_at dksX3_sags_1 12 rfl rfl)
theorem dX3_sags_39 : decode cX3_sags 39 = .ok (.iconst (-1), 1) := dk_2 (dk_at dksX3_sags_1 15 rfl rfl)
theorem dX3_sags_40 : decode cX3_sags 40 = .ok (.istore_n 3, 1) := dk_62 (dk_at dksX3_sags_1 16 rfl rfl)
theorem dX3_sags_41 : decode cX3_sags 41 = .ok (.aload_n 0, 1) := dk_42 (dk_at dksX3_sags_1 17 rfl rfl)
theorem dX3_sags_42 : decode cX3_sags 42 = .ok (.getfield 13, 3) := dk_180 0 13 (dk_at dksX3_sags_1 18 rfl rfl)
theorem dX3_sags_45 : decode cX3_sags 45 = .ok (.iload_n 1, 1) := dk_27 (dk_at dksX3_sags_1 21 rfl rfl)
theorem dX3_sags_46 : decode cX3_sags 46 = .ok (.dup2, 1) := dk_92 (dk_at dksX3_sags_1 22 rfl rfl)
theorem dX3_sags_47 : decode cX3_sags 47 = .ok (.iaload, 1) := dk_46 (dk_at dksX3_sags_1 23 rfl rfl)
theorem dX3_sags_48 : decode cX3_sags 48 = .ok (.aload_n 0, 1) := dk_42 (dk_at dksX3_sags_2 0 rfl rfl)
theorem dX3_sags_49 : decode cX3_sags 49 = .ok (.iload_n 1, 1) := dk_27 (dk_at dksX3_sags_2 1 rfl rfl)
theorem dX3_sags_50 : decode cX3_sags 50 = .ok (.invokevirtual 182, 3) := dk_182 0 182 (dk_at dksX3_sags_2 2 rfl rfl)
theorem dX3_sags_53 : decode cX3_sags 53 = .ok (.ifCond .eq 7, 3) := dk_153 0 7 (dk_at dksX3_sags_2 5 rfl rfl)
theorem dX3_sags_56 : decode cX3_sags 56 = .ok (.iconst 0, 1) := dk_3 (dk_at dksX3_sags_2 8 rfl rfl)
theorem dX3_sags_57 : decode cX3_sags 57 = .ok (.goto 4, 3) := dk_167 0 4 (dk_at dksX3_sags_2 9 rfl rfl)
theorem dX3_sags_60 : decode cX3_sags 60 = .ok (.iload_n 3, 1) := dk_29 (dk_at dksX3_sags_2 12 rfl rfl)
theorem dX3_sags_61 : decode cX3_sags 61 = .ok (.isub, 1) := dk_100 (dk_at dksX3_sags_2 13 rfl rfl)
theorem dX3_sags_62 : decode cX3_sags 62 = .ok (.iastore, 1) := dk_79 (dk_at dksX3_sags_2 14 rfl rfl)
theorem dX3_sags_63 : decode cX3_sags 63 = .ok (.aload_n 0, 1) := dk_42 (dk_at dksX3_sags_2 15 rfl rfl)
theorem dX3_sags_64 : decode cX3_sags 64 = .ok (.getfield 13, 3) := dk_180 0 13 (dk_at dksX3_sags_2 16 rfl rfl)
theorem dX3_sags_67 : decode cX3_sags 67 = .ok (.iload_n 1, 1) := dk_27 (dk_at dksX3_sags_2 19 rfl rfl)
theorem dX3_sags_68 : decode cX3_sags 68 = .ok (.iconst 1, 1) := dk_4 (dk_at dksX3_sags_2 20 rfl rfl)
theorem dX3_sags_69 : decode cX3_sags 69 = .ok (.iadd, 1) := dk_96 (dk_at dksX3_sags_2 21 rfl rfl)
theorem dX3_sags_70 : decode cX3_sags 70 = .ok (.dup2, 1) := dk_92 (dk_at dksX3_sags_2 22 rfl rfl)
theorem dX3_sags_71 : decode cX3_sags 71 = .ok (.iaload, 1) := dk_46 (dk_at dksX3_sags_2 23 rfl rfl)
theorem dX3_sags_72 : decode cX3_sags 72 = .ok (.aload_n 0, 1) := dk_42 (dk_at dksX3_sags_3 0 rfl rfl)
theorem dX3_sags_73 : decode cX3_sags 73 = .ok (.iload_n 1, 1) := dk_27 (dk_at dksX3_sags_3 1 rfl rfl)
theorem dX3_sags_74 : decode cX3_sags 74 = .ok (.iconst 1, 1) := dk_4 (dk_at dksX3_sags_3 2 rfl rfl)
theorem dX3_sags_75 : decode cX3_sags 75 = .ok (.iadd, 1) := dk_96 (dk_at dksX3_sags_3 3 rfl rfl)
theorem dX3_sags_76 : decode cX3_sags 76 = .ok (.invokevirtual 182, 3) := dk_182 0 182 (dk_at dksX3_sags_3 4 rfl rfl)
theorem dX3_sags_79 : decode cX3_sags 79 = .ok (.ifCond .eq 7, 3) := dk_153 0 7 (dk_at dksX3_sags_3 7 rfl rfl)
theorem dX3_sags_82 : decode cX3_sags 82 = .ok (.iconst 0, 1) := dk_3 (dk_at dksX3_sags_3 10 rfl rfl)
theorem dX3_sags_83 : decode cX3_sags 83 = .ok (.goto 4, 3) := dk_167 0 4 (dk_at dksX3_sags_3 11 rfl rfl)
theorem dX3_sags_86 : decode cX3_sags 86 = .ok (.iload_n 3, 1) := dk_29 (dk_at dksX3_sags_3 14 rfl rfl)
theorem dX3_sags_87 : decode cX3_sags 87 = .ok (.iadd, 1) := dk_96 (dk_at dksX3_sags_3 15 rfl rfl)
theorem dX3_sags_88 : decode cX3_sags 88 = .ok (.iastore, 1) := dk_79 (dk_at dksX3_sags_3 16 rfl rfl)
theorem dX3_sags_89 : decode cX3_sags 89 = .ok (.return_, 1) := dk_177 (dk_at dksX3_sags_3 17 rfl rfl)
abbrev cX3_crossing : ByteArray := prog_17_method_65_code
def yX3_crossing : MethodName := ⟨RX3, "crossing", "()I"⟩
def dkwX3_crossing_2 : List UInt8 := [172]
abbrev dktX3_crossing_2 : List UInt8 := dkwX3_crossing_2 ++ []
def dkwX3_crossing_1 : List UInt8 := [46, 159, 0, 16, 42, 180, 0, 34, 28, 92, 46, 4, 96, 79, 132, 1, 1, 132, 2, 1, 167, 255, 216, 27]
abbrev dktX3_crossing_1 : List UInt8 := dkwX3_crossing_1 ++ dktX3_crossing_2
def dkwX3_crossing_0 : List UInt8 := [3, 60, 3, 61, 28, 42, 180, 0, 9, 5, 46, 162, 0, 36, 42, 28, 182, 1, 138, 42, 180, 0, 127, 28]
abbrev dktX3_crossing_0 : List UInt8 := dkwX3_crossing_0 ++ dktX3_crossing_1
theorem dksX3_crossing_0 : cX3_crossing.data.toList.drop 0 = dktX3_crossing_0 := by decide +kernel
theorem dksX3_crossing_1 : cX3_crossing.data.toList.drop 24 = dktX3_crossing_1 := dk_seg dksX3_crossing_0 24 rfl rfl
theorem dksX3_crossing_2 : cX3_crossing.data.toList.drop 48 = dktX3_crossing_2 := dk_seg dksX3_crossing_1 24 rfl rfl
theorem dX3_crossing_0 : decode cX3_crossing 0 = .ok (.iconst 0, 1) := dk_3 (dk_at dksX3_crossing_0 0 rfl rfl)
theorem dX3_crossing_1 : decode cX3_crossing 1 = .ok (.istore_n 1, 1) := dk_60 (dk_at dksX3_crossing_0 1 rfl rfl)
theorem dX3_crossing_2 : decode cX3_crossing 2 = .ok (.iconst 0, 1) := dk_3 (dk_at dksX3_crossing_0 2 rfl rfl)
theorem dX3_crossing_3 : decode cX3_crossing 3 = .ok (.istore_n 2, 1) := dk_61 (dk_at dksX3_crossing_0 3 rfl rfl)
theorem dX3_crossing_4 : decode cX3_crossing 4 = .ok (.iload_n 2, 1) := dk_28 (dk_at dksX3_crossing_0 4 rfl rfl)
theorem dX3_crossing_5 : decode cX3_crossing 5 = .ok (.aload_n 0, 1) := dk_42 (dk_at dksX3_crossing_0 5 rfl rfl)
theorem dX3_crossing_6 : decode cX3_crossing 6 = .ok (.getfield 9, 3) := dk_180 0 9 (dk_at dksX3_crossing_0 6 rfl rfl)
theorem dX3_crossing_9 : decode cX3_crossing 9 = .ok (.iconst 2, 1) := dk_5 (dk_at dksX3_crossing_0 9 rfl rfl)
theorem dX3_crossing_10 : decode cX3_crossing 10 = .ok (.iaload, 1) := dk_46 (dk_at dksX3_crossing_0 10 rfl rfl)
theorem dX3_crossing_11 : decode cX3_crossing 11 = .ok (.if_icmp .ge 36, 3) := dk_162 0 36 (dk_at dksX3_crossing_0 11 rfl rfl)
theorem dX3_crossing_14 : decode cX3_crossing 14 = .ok (.aload_n 0, 1) := dk_42 (dk_at dksX3_crossing_0 14 rfl rfl)
theorem dX3_crossing_15 : decode cX3_crossing 15 = .ok (.iload_n 2, 1) := dk_28 (dk_at dksX3_crossing_0 15 rfl rfl)
theorem dX3_crossing_16 : decode cX3_crossing 16 = .ok (.invokevirtual 394, 3) := dk_182 1 138 (dk_at dksX3_crossing_0 16 rfl rfl)
theorem dX3_crossing_19 : decode cX3_crossing 19 = .ok (.aload_n 0, 1) := dk_42 (dk_at dksX3_crossing_0 19 rfl rfl)
theorem dX3_crossing_20 : decode cX3_crossing 20 = .ok (.getfield 127, 3) := dk_180 0 127 (dk_at dksX3_crossing_0 20 rfl rfl)
theorem dX3_crossing_23 : decode cX3_crossing 23 = .ok (.iload_n 2, 1) := dk_28 (dk_at dksX3_crossing_0 23 rfl rfl)
theorem dX3_crossing_24 : decode cX3_crossing 24 = .ok (.iaload, 1) := dk_46 (dk_at dksX3_crossing_1 0 rfl rfl)
theorem dX3_crossing_25 : decode cX3_crossing 25 = .ok (.if_icmp .eq 16, 3) := dk_159 0 16 (dk_at dksX3_crossing_1 1 rfl rfl)
theorem dX3_crossing_28 : decode cX3_crossing 28 = .ok (.aload_n 0, 1) := dk_42 (dk_at dksX3_crossing_1 4 rfl rfl)
theorem dX3_crossing_29 : decode cX3_crossing 29 = .ok (.getfield 34, 3) := dk_180 0 34 (dk_at dksX3_crossing_1 5 rfl rfl)
theorem dX3_crossing_32 : decode cX3_crossing 32 = .ok (.iload_n 2, 1) := dk_28 (dk_at dksX3_crossing_1 8 rfl rfl)
theorem dX3_crossing_33 : decode cX3_crossing 33 = .ok (.dup2, 1) := dk_92 (dk_at dksX3_crossing_1 9 rfl rfl)
theorem dX3_crossing_34 : decode cX3_crossing 34 = .ok (.iaload, 1) := dk_46 (dk_at dksX3_crossing_1 10 rfl rfl)
theorem dX3_crossing_35 : decode cX3_crossing 35 = .ok (.iconst 1, 1) := dk_4 (dk_at dksX3_crossing_1 11 rfl rfl)
theorem dX3_crossing_36 : decode cX3_crossing 36 = .ok (.iadd, 1) := dk_96 (dk_at dksX3_crossing_1 12 rfl rfl)
theorem dX3_crossing_37 : decode cX3_crossing 37 = .ok (.iastore, 1) := dk_79 (dk_at dksX3_crossing_1 13 rfl rfl)
theorem dX3_crossing_38 : decode cX3_crossing 38 = .ok (.iinc 1 1, 3) := dk_132 1 1 (dk_at dksX3_crossing_1 14 rfl rfl)
theorem dX3_crossing_41 : decode cX3_crossing 41 = .ok (.iinc 2 1, 3) := dk_132 2 1 (dk_at dksX3_crossing_1 17 rfl rfl)
theorem dX3_crossing_44 : decode cX3_crossing 44 = .ok (.goto (-40), 3) := dk_167 255 216 (dk_at dksX3_crossing_1 20 rfl rfl)
theorem dX3_crossing_47 : decode cX3_crossing 47 = .ok (.iload_n 1, 1) := dk_27 (dk_at dksX3_crossing_1 23 rfl rfl)
theorem dX3_crossing_48 : decode cX3_crossing 48 = .ok (.ireturn, 1) := dk_172 (dk_at dksX3_crossing_2 0 rfl rfl)
abbrev cX3_horses : ByteArray := prog_17_method_76_code
def yX3_horses : MethodName := ⟨RX3, "horses", "(II)I"⟩
def dkwX3_horses_2 : List UInt8 := [87, 42, 180, 0, 13, 27, 46, 172]
abbrev dktX3_horses_2 : List UInt8 := dkwX3_horses_2 ++ []
def dkwX3_horses_1 : List UInt8 := [154, 0, 6, 16, 156, 172, 42, 182, 1, 204, 42, 182, 1, 168, 42, 27, 28, 182, 1, 214, 42, 182, 1, 177]
abbrev dktX3_horses_1 : List UInt8 := dkwX3_horses_1 ++ dktX3_horses_2
def dkwX3_horses_0 : List UInt8 := [42, 27, 182, 1, 207, 153, 0, 21, 28, 133, 20, 1, 210, 20, 1, 212, 184, 0, 170, 153, 0, 7, 28]
abbrev dktX3_horses_0 : List UInt8 := dkwX3_horses_0 ++ dktX3_horses_1
theorem dksX3_horses_0 : cX3_horses.data.toList.drop 0 = dktX3_horses_0 := by decide +kernel
theorem dksX3_horses_1 : cX3_horses.data.toList.drop 23 = dktX3_horses_1 := dk_seg dksX3_horses_0 23 rfl rfl
theorem dksX3_horses_2 : cX3_horses.data.toList.drop 47 = dktX3_horses_2 := dk_seg dksX3_horses_1 24 rfl rfl
theorem dX3_horses_0 : decode cX3_horses 0 = .ok (.aload_n 0, 1) := dk_42 (dk_at dksX3_horses_0 0 rfl rfl)
theorem dX3_horses_1 : decode cX3_horses 1 = .ok (.iload_n 1, 1) := dk_27 (dk_at dksX3_horses_0 1 rfl rfl)
theorem dX3_horses_2 : decode cX3_horses 2 = .ok (.invokevirtual 463, 3) := dk_182 1 207 (dk_at dksX3_horses_0 2 rfl rfl)
theorem dX3_horses_5 : decode cX3_horses 5 = .ok (.ifCond .eq 21, 3) := dk_153 0 21 (dk_at dksX3_horses_0 5 rfl rfl)
theorem dX3_horses_8 : decode cX3_horses 8 = .ok (.iload_n 2, 1) := dk_28 (dk_at dksX3_horses_0 8 rfl rfl)
theorem dX3_horses_9 : decode cX3_horses 9 = .ok (.i2l, 1) := dk_133 (dk_at dksX3_horses_0 9 rfl rfl)
theorem dX3_horses_10 : decode cX3_horses 10 = .ok (.ldc2_w 466, 3) := dk_20 1 210 (dk_at dksX3_horses_0 10 rfl rfl)
theorem dX3_horses_13 : decode cX3_horses 13 = .ok (.ldc2_w 468, 3) := dk_20 1 212 (dk_at dksX3_horses_0 13 rfl rfl)
theorem dX3_horses_16 : decode cX3_horses 16 = .ok (.invokestatic 170, 3) := dk_184 0 170 (dk_at dksX3_horses_0 16 rfl rfl)
theorem dX3_horses_19 : decode cX3_horses 19 = .ok (.ifCond .eq 7, 3) := dk_153 0 7 (dk_at dksX3_horses_0 19 rfl rfl)
theorem dX3_horses_22 : decode cX3_horses 22 = .ok (.iload_n 2, 1) := dk_28 (dk_at dksX3_horses_0 22 rfl rfl)
theorem dX3_horses_23 : decode cX3_horses 23 = .ok (.ifCond .ne 6, 3) := dk_154 0 6 (dk_at dksX3_horses_1 0 rfl rfl)
theorem dX3_horses_26 : decode cX3_horses 26 = .ok (.bipush (-100), 2) := dk_16 156 (dk_at dksX3_horses_1 3 rfl rfl)
theorem dX3_horses_28 : decode cX3_horses 28 = .ok (.ireturn, 1) := dk_172 (dk_at dksX3_horses_1 5 rfl rfl)
theorem dX3_horses_29 : decode cX3_horses 29 = .ok (.aload_n 0, 1) := dk_42 (dk_at dksX3_horses_1 6 rfl rfl)
theorem dX3_horses_30 : decode cX3_horses 30 = .ok (.invokevirtual 460, 3) := dk_182 1 204 (dk_at dksX3_horses_1 7 rfl rfl)
theorem dX3_horses_33 : decode cX3_horses 33 = .ok (.aload_n 0, 1) := dk_42 (dk_at dksX3_horses_1 10 rfl rfl)
theorem dX3_horses_34 : decode cX3_horses 34 = .ok (.invokevirtual 424, 3) := dk_182 1 168 (dk_at dksX3_horses_1 11 rfl rfl)
theorem dX3_horses_37 : decode cX3_horses 37 = .ok (.aload_n 0, 1) := dk_42 (dk_at dksX3_horses_1 14 rfl rfl)
theorem dX3_horses_38 : decode cX3_horses 38 = .ok (.iload_n 1, 1) := dk_27 (dk_at dksX3_horses_1 15 rfl rfl)
theorem dX3_horses_39 : decode cX3_horses 39 = .ok (.iload_n 2, 1) := dk_28 (dk_at dksX3_horses_1 16 rfl rfl)
theorem dX3_horses_40 : decode cX3_horses 40 = .ok (.invokevirtual 470, 3) := dk_182 1 214 (dk_at dksX3_horses_1 17 rfl rfl)
theorem dX3_horses_43 : decode cX3_horses 43 = .ok (.aload_n 0, 1) := dk_42 (dk_at dksX3_horses_1 20 rfl rfl)
theorem dX3_horses_44 : decode cX3_horses 44 = .ok (.invokevirtual 433, 3) := dk_182 1 177 (dk_at dksX3_horses_1 21 rfl rfl)
theorem dX3_horses_47 : decode cX3_horses 47 = .ok (.pop, 1) := dk_87 (dk_at dksX3_horses_2 0 rfl rfl)
theorem dX3_horses_48 : decode cX3_horses 48 = .ok (.aload_n 0, 1) := dk_42 (dk_at dksX3_horses_2 1 rfl rfl)
theorem dX3_horses_49 : decode cX3_horses 49 = .ok (.getfield 13, 3) := dk_180 0 13 (dk_at dksX3_horses_2 2 rfl rfl)
theorem dX3_horses_52 : decode cX3_horses 52 = .ok (.iload_n 1, 1) := dk_27 (dk_at dksX3_horses_2 5 rfl rfl)
theorem dX3_horses_53 : decode cX3_horses 53 = .ok (.iaload, 1) := dk_46 (dk_at dksX3_horses_2 6 rfl rfl)
theorem dX3_horses_54 : decode cX3_horses 54 = .ok (.ireturn, 1) := dk_172 (dk_at dksX3_horses_2 7 rfl rfl)
abbrev cX3_isSoft : ByteArray := prog_17_method_11_code
def yX3_isSoft : MethodName := ⟨RX3, "isSoft", "(I)Z"⟩
def dkwX3_isSoft_0 : List UInt8 := [42, 27, 182, 0, 178, 153, 0, 15, 42, 27, 182, 0, 182, 154, 0, 7, 4, 167, 0, 4, 3, 172]
abbrev dktX3_isSoft_0 : List UInt8 := dkwX3_isSoft_0 ++ []
theorem dksX3_isSoft_0 : cX3_isSoft.data.toList.drop 0 = dktX3_isSoft_0 := by decide +kernel
theorem dX3_isSoft_0 : decode cX3_isSoft 0 = .ok (.aload_n 0, 1) := dk_42 (dk_at dksX3_isSoft_0 0 rfl rfl)
theorem dX3_isSoft_1 : decode cX3_isSoft 1 = .ok (.iload_n 1, 1) := dk_27 (dk_at dksX3_isSoft_0 1 rfl rfl)
theorem dX3_isSoft_2 : decode cX3_isSoft 2 = .ok (.invokevirtual 178, 3) := dk_182 0 178 (dk_at dksX3_isSoft_0 2 rfl rfl)
theorem dX3_isSoft_5 : decode cX3_isSoft 5 = .ok (.ifCond .eq 15, 3) := dk_153 0 15 (dk_at dksX3_isSoft_0 5 rfl rfl)
theorem dX3_isSoft_8 : decode cX3_isSoft 8 = .ok (.aload_n 0, 1) := dk_42 (dk_at dksX3_isSoft_0 8 rfl rfl)
theorem dX3_isSoft_9 : decode cX3_isSoft 9 = .ok (.iload_n 1, 1) := dk_27 (dk_at dksX3_isSoft_0 9 rfl rfl)
theorem dX3_isSoft_10 : decode cX3_isSoft 10 = .ok (.invokevirtual 182, 3) := dk_182 0 182 (dk_at dksX3_isSoft_0 10 rfl rfl)
theorem dX3_isSoft_13 : decode cX3_isSoft 13 = .ok (.ifCond .ne 7, 3) := dk_154 0 7 (dk_at dksX3_isSoft_0 13 rfl rfl)
theorem dX3_isSoft_16 : decode cX3_isSoft 16 = .ok (.iconst 1, 1) := dk_4 (dk_at dksX3_isSoft_0 16 rfl rfl)
theorem dX3_isSoft_17 : decode cX3_isSoft 17 = .ok (.goto 4, 3) := dk_167 0 4 (dk_at dksX3_isSoft_0 17 rfl rfl)
theorem dX3_isSoft_20 : decode cX3_isSoft 20 = .ok (.iconst 0, 1) := dk_3 (dk_at dksX3_isSoft_0 20 rfl rfl)
theorem dX3_isSoft_21 : decode cX3_isSoft 21 = .ok (.ireturn, 1) := dk_172 (dk_at dksX3_isSoft_0 21 rfl rfl)
abbrev cX3_pushes : ByteArray := prog_17_method_75_code
def yX3_pushes : MethodName := ⟨RX3, "pushes", "(II)V"⟩
def dkwX3_pushes_0 : List UInt8 := [42, 180, 0, 13, 27, 42, 180, 0, 13, 27, 46, 28, 96, 133, 16, 20, 184, 1, 150, 79, 177]
abbrev dktX3_pushes_0 : List UInt8 := dkwX3_pushes_0 ++ []
theorem dksX3_pushes_0 : cX3_pushes.data.toList.drop 0 = dktX3_pushes_0 := by decide +kernel
theorem dX3_pushes_0 : decode cX3_pushes 0 = .ok (.aload_n 0, 1) := dk_42 (dk_at dksX3_pushes_0 0 rfl rfl)
theorem dX3_pushes_1 : decode cX3_pushes 1 = .ok (.getfield 13, 3) := dk_180 0 13 (dk_at dksX3_pushes_0 1 rfl rfl)
theorem dX3_pushes_4 : decode cX3_pushes 4 = .ok (.iload_n 1, 1) := dk_27 (dk_at dksX3_pushes_0 4 rfl rfl)
theorem dX3_pushes_5 : decode cX3_pushes 5 = .ok (.aload_n 0, 1) := dk_42 (dk_at dksX3_pushes_0 5 rfl rfl)
theorem dX3_pushes_6 : decode cX3_pushes 6 = .ok (.getfield 13, 3) := dk_180 0 13 (dk_at dksX3_pushes_0 6 rfl rfl)
theorem dX3_pushes_9 : decode cX3_pushes 9 = .ok (.iload_n 1, 1) := dk_27 (dk_at dksX3_pushes_0 9 rfl rfl)
theorem dX3_pushes_10 : decode cX3_pushes 10 = .ok (.iaload, 1) := dk_46 (dk_at dksX3_pushes_0 10 rfl rfl)
theorem dX3_pushes_11 : decode cX3_pushes 11 = .ok (.iload_n 2, 1) := dk_28 (dk_at dksX3_pushes_0 11 rfl rfl)
theorem dX3_pushes_12 : decode cX3_pushes 12 = .ok (.iadd, 1) := dk_96 (dk_at dksX3_pushes_0 12 rfl rfl)
theorem dX3_pushes_13 : decode cX3_pushes 13 = .ok (.i2l, 1) := dk_133 (dk_at dksX3_pushes_0 13 rfl rfl)
theorem dX3_pushes_14 : decode cX3_pushes 14 = .ok (.bipush 20, 2) := dk_16 20 (dk_at dksX3_pushes_0 14 rfl rfl)
theorem dX3_pushes_16 : decode cX3_pushes 16 = .ok (.invokestatic 406, 3) := dk_184 1 150 (dk_at dksX3_pushes_0 16 rfl rfl)
theorem dX3_pushes_19 : decode cX3_pushes 19 = .ok (.iastore, 1) := dk_79 (dk_at dksX3_pushes_0 19 rfl rfl)
theorem dX3_pushes_20 : decode cX3_pushes 20 = .ok (.return_, 1) := dk_177 (dk_at dksX3_pushes_0 20 rfl rfl)
abbrev cX3_salt : ByteArray := prog_17_method_77_code
def yX3_salt : MethodName := ⟨RX3, "salt", "(I)I"⟩
def dkwX3_salt_1 : List UInt8 := [182, 1, 204, 42, 180, 0, 19, 27, 92, 46, 4, 96, 79, 42, 180, 0, 19, 27, 46, 172]
abbrev dktX3_salt_1 : List UInt8 := dkwX3_salt_1 ++ []
def dkwX3_salt_0 : List UInt8 := [42, 27, 182, 0, 178, 153, 0, 14, 42, 180, 0, 19, 27, 46, 16, 9, 160, 0, 5, 2, 172, 42]
abbrev dktX3_salt_0 : List UInt8 := dkwX3_salt_0 ++ dktX3_salt_1
theorem dksX3_salt_0 : cX3_salt.data.toList.drop 0 = dktX3_salt_0 := by decide +kernel
theorem dksX3_salt_1 : cX3_salt.data.toList.drop 22 = dktX3_salt_1 := dk_seg dksX3_salt_0 22 rfl rfl
theorem dX3_salt_0 : decode cX3_salt 0 = .ok (.aload_n 0, 1) := dk_42 (dk_at dksX3_salt_0 0 rfl rfl)
theorem dX3_salt_1 : decode cX3_salt 1 = .ok (.iload_n 1, 1) := dk_27 (dk_at dksX3_salt_0 1 rfl rfl)
theorem dX3_salt_2 : decode cX3_salt 2 = .ok (.invokevirtual 178, 3) := dk_182 0 178 (dk_at dksX3_salt_0 2 rfl rfl)
theorem dX3_salt_5 : decode cX3_salt 5 = .ok (.ifCond .eq 14, 3) := dk_153 0 14 (dk_at dksX3_salt_0 5 rfl rfl)
theorem dX3_salt_8 : decode cX3_salt 8 = .ok (.aload_n 0, 1) := dk_42 (dk_at dksX3_salt_0 8 rfl rfl)
theorem dX3_salt_9 : decode cX3_salt 9 = .ok (.getfield 19, 3) := dk_180 0 19 (dk_at dksX3_salt_0 9 rfl rfl)
theorem dX3_salt_12 : decode cX3_salt 12 = .ok (.iload_n 1, 1) := dk_27 (dk_at dksX3_salt_0 12 rfl rfl)
theorem dX3_salt_13 : decode cX3_salt 13 = .ok (.iaload, 1) := dk_46 (dk_at dksX3_salt_0 13 rfl rfl)
theorem dX3_salt_14 : decode cX3_salt 14 = .ok (.bipush 9, 2) := dk_16 9 (dk_at dksX3_salt_0 14 rfl rfl)
theorem dX3_salt_16 : decode cX3_salt 16 = .ok (.if_icmp .ne 5, 3) := dk_160 0 5 (dk_at dksX3_salt_0 16 rfl rfl)
theorem dX3_salt_19 : decode cX3_salt 19 = .ok (.iconst (-1), 1) := dk_2 (dk_at dksX3_salt_0 19 rfl rfl)
theorem dX3_salt_20 : decode cX3_salt 20 = .ok (.ireturn, 1) := dk_172 (dk_at dksX3_salt_0 20 rfl rfl)
theorem dX3_salt_21 : decode cX3_salt 21 = .ok (.aload_n 0, 1) := dk_42 (dk_at dksX3_salt_0 21 rfl rfl)
theorem dX3_salt_22 : decode cX3_salt 22 = .ok (.invokevirtual 460, 3) := dk_182 1 204 (dk_at dksX3_salt_1 0 rfl rfl)
theorem dX3_salt_25 : decode cX3_salt 25 = .ok (.aload_n 0, 1) := dk_42 (dk_at dksX3_salt_1 3 rfl rfl)
theorem dX3_salt_26 : decode cX3_salt 26 = .ok (.getfield 19, 3) := dk_180 0 19 (dk_at dksX3_salt_1 4 rfl rfl)
theorem dX3_salt_29 : decode cX3_salt 29 = .ok (.iload_n 1, 1) := dk_27 (dk_at dksX3_salt_1 7 rfl rfl)
theorem dX3_salt_30 : decode cX3_salt 30 = .ok (.dup2, 1) := dk_92 (dk_at dksX3_salt_1 8 rfl rfl)
theorem dX3_salt_31 : decode cX3_salt 31 = .ok (.iaload, 1) := dk_46 (dk_at dksX3_salt_1 9 rfl rfl)
theorem dX3_salt_32 : decode cX3_salt 32 = .ok (.iconst 1, 1) := dk_4 (dk_at dksX3_salt_1 10 rfl rfl)
theorem dX3_salt_33 : decode cX3_salt 33 = .ok (.iadd, 1) := dk_96 (dk_at dksX3_salt_1 11 rfl rfl)
theorem dX3_salt_34 : decode cX3_salt 34 = .ok (.iastore, 1) := dk_79 (dk_at dksX3_salt_1 12 rfl rfl)
theorem dX3_salt_35 : decode cX3_salt 35 = .ok (.aload_n 0, 1) := dk_42 (dk_at dksX3_salt_1 13 rfl rfl)
theorem dX3_salt_36 : decode cX3_salt 36 = .ok (.getfield 19, 3) := dk_180 0 19 (dk_at dksX3_salt_1 14 rfl rfl)
theorem dX3_salt_39 : decode cX3_salt 39 = .ok (.iload_n 1, 1) := dk_27 (dk_at dksX3_salt_1 17 rfl rfl)
theorem dX3_salt_40 : decode cX3_salt 40 = .ok (.iaload, 1) := dk_46 (dk_at dksX3_salt_1 18 rfl rfl)
theorem dX3_salt_41 : decode cX3_salt 41 = .ok (.ireturn, 1) := dk_172 (dk_at dksX3_salt_1 19 rfl rfl)
abbrev cX3_sugar : ByteArray := prog_17_method_78_code
def yX3_sugar : MethodName := ⟨RX3, "sugar", "(I)I"⟩
def dkwX3_sugar_3 : List UInt8 := [16, 10, 96, 79, 42, 180, 0, 16, 27, 46, 172]
abbrev dktX3_sugar_3 : List UInt8 := dkwX3_sugar_3 ++ []
def dkwX3_sugar_2 : List UInt8 := [180, 0, 16, 27, 46, 16, 10, 96, 16, 99, 164, 0, 8, 16, 99, 167, 0, 12, 42, 180, 0, 16, 27, 46]
abbrev dktX3_sugar_2 : List UInt8 := dkwX3_sugar_2 ++ dktX3_sugar_3
def dkwX3_sugar_1 : List UInt8 := [46, 158, 0, 14, 42, 180, 0, 19, 27, 46, 4, 100, 167, 0, 4, 3, 79, 42, 180, 0, 16, 27, 42]
abbrev dktX3_sugar_1 : List UInt8 := dkwX3_sugar_1 ++ dktX3_sugar_2
def dkwX3_sugar_0 : List UInt8 := [42, 27, 182, 1, 207, 154, 0, 5, 2, 172, 42, 182, 1, 204, 42, 180, 0, 19, 27, 42, 180, 0, 19, 27]
abbrev dktX3_sugar_0 : List UInt8 := dkwX3_sugar_0 ++ dktX3_sugar_1
theorem dksX3_sugar_0 : cX3_sugar.data.toList.drop 0 = dktX3_sugar_0 := by decide +kernel
theorem dksX3_sugar_1 : cX3_sugar.data.toList.drop 24 = dktX3_sugar_1 := dk_seg dksX3_sugar_0 24 rfl rfl
theorem dksX3_sugar_2 : cX3_sugar.data.toList.drop 47 = dktX3_sugar_2 := dk_seg dksX3_sugar_1 23 rfl rfl
theorem dksX3_sugar_3 : cX3_sugar.data.toList.drop 71 = dktX3_sugar_3 := dk_seg dksX3_sugar_2 24 rfl rfl
theorem dX3_sugar_0 : decode cX3_sugar 0 = .ok (.aload_n 0, 1) := dk_42 (dk_at dksX3_sugar_0 0 rfl rfl)
theorem dX3_sugar_1 : decode cX3_sugar 1 = .ok (.iload_n 1, 1) := dk_27 (dk_at dksX3_sugar_0 1 rfl rfl)
theorem dX3_sugar_2 : decode cX3_sugar 2 = .ok (.invokevirtual 463, 3) := dk_182 1 207 (dk_at dksX3_sugar_0 2 rfl rfl)
theorem dX3_sugar_5 : decode cX3_sugar 5 = .ok (.ifCond .ne 5, 3) := dk_154 0 5 (dk_at dksX3_sugar_0 5 rfl rfl)
theorem dX3_sugar_8 : decode cX3_sugar 8 = .ok (.iconst (-1), 1) := dk_2 (dk_at dksX3_sugar_0 8 rfl rfl)
theorem dX3_sugar_9 : decode cX3_sugar 9 = .ok (.ireturn, 1) := dk_172 (dk_at dksX3_sugar_0 9 rfl rfl)
theorem dX3_sugar_10 : decode cX3_sugar 10 = .ok (.aload_n 0, 1) := dk_42 (dk_at dksX3_sugar_0 10 rfl rfl)
theorem dX3_sugar_11 : decode cX3_sugar 11 = .ok (.invokevirtual 460, 3) := dk_182 1 204 (dk_at dksX3_sugar_0 11 rfl rfl)
theorem dX3_sugar_14 : decode cX3_sugar 14 = .ok (.aload_n 0, 1) := dk_42 (dk_at dksX3_sugar_0 14 rfl rfl)
theorem dX3_sugar_15 : decode cX3_sugar 15 = .ok (.getfield 19, 3) := dk_180 0 19 (dk_at dksX3_sugar_0 15 rfl rfl)
theorem dX3_sugar_18 : decode cX3_sugar 18 = .ok (.iload_n 1, 1) := dk_27 (dk_at dksX3_sugar_0 18 rfl rfl)
theorem dX3_sugar_19 : decode cX3_sugar 19 = .ok (.aload_n 0, 1) := dk_42 (dk_at dksX3_sugar_0 19 rfl rfl)
theorem dX3_sugar_20 : decode cX3_sugar 20 = .ok (.getfield 19, 3) := dk_180 0 19 (dk_at dksX3_sugar_0 20 rfl rfl)
theorem dX3_sugar_23 : decode cX3_sugar 23 = .ok (.iload_n 1, 1) := dk_27 (dk_at dksX3_sugar_0 23 rfl rfl)
theorem dX3_sugar_24 : decode cX3_sugar 24 = .ok (.iaload, 1) := dk_46 (dk_at dksX3_sugar_1 0 rfl rfl)
theorem dX3_sugar_25 : decode cX3_sugar 25 = .ok (.ifCond .le 14, 3) := dk_158 0 14 (dk_at dksX3_sugar_1 1 rfl rfl)
theorem dX3_sugar_28 : decode cX3_sugar 28 = .ok (.aload_n 0, 1) := dk_42 (dk_at dksX3_sugar_1 4 rfl rfl)
theorem dX3_sugar_29 : decode cX3_sugar 29 = .ok (.getfield 19, 3) := dk_180 0 19 (dk_at dksX3_sugar_1 5 rfl rfl)
theorem dX3_sugar_32 : decode cX3_sugar 32 = .ok (.iload_n 1, 1) := dk_27 (dk_at dksX3_sugar_1 8 rfl rfl)
theorem dX3_sugar_33 : decode cX3_sugar 33 = .ok (.iaload, 1) := dk_46 (dk_at dksX3_sugar_1 9 rfl rfl)
theorem dX3_sugar_34 : decode cX3_sugar 34 = .ok (.iconst 1, 1) := dk_4 (dk_at dksX3_sugar_1 10 rfl rfl)
theorem dX3_sugar_35 : decode cX3_sugar 35 = .ok (.isub, 1) := dk_100 (dk_at dksX3_sugar_1 11 rfl rfl)
theorem dX3_sugar_36 : decode cX3_sugar 36 = .ok (.goto 4, 3) := dk_167 0 4 (dk_at dksX3_sugar_1 12 rfl rfl)
theorem dX3_sugar_39 : decode cX3_sugar 39 = .ok (.iconst 0, 1) := dk_3 (dk_at dksX3_sugar_1 15 rfl rfl)
theorem dX3_sugar_40 : decode cX3_sugar 40 = .ok (.iastore, 1) := dk_79 (dk_at dksX3_sugar_1 16 rfl rfl)
theorem dX3_sugar_41 : decode cX3_sugar 41 = .ok (.aload_n 0, 1) := dk_42 (dk_at dksX3_sugar_1 17 rfl rfl)
theorem dX3_sugar_42 : decode cX3_sugar 42 = .ok (.getfield 16, 3) := dk_180 0 16 (dk_at dksX3_sugar_1 18 rfl rfl)
theorem dX3_sugar_45 : decode cX3_sugar 45 = .ok (.iload_n 1, 1) := dk_27 (dk_at dksX3_sugar_1 21 rfl rfl)
theorem dX3_sugar_46 : decode cX3_sugar 46 = .ok (.aload_n 0, 1) := dk_42 (dk_at dksX3_sugar_1 22 rfl rfl)
theorem dX3_sugar_47 : decode cX3_sugar 47 = .ok (.getfield 16, 3) := dk_180 0 16 (dk_at dksX3_sugar_2 0 rfl rfl)
theorem dX3_sugar_50 : decode cX3_sugar 50 = .ok (.iload_n 1, 1) := dk_27 (dk_at dksX3_sugar_2 3 rfl rfl)
theorem dX3_sugar_51 : decode cX3_sugar 51 = .ok (.iaload, 1) := dk_46 (dk_at dksX3_sugar_2 4 rfl rfl)
theorem dX3_sugar_52 : decode cX3_sugar 52 = .ok (.bipush 10, 2) := dk_16 10 (dk_at dksX3_sugar_2 5 rfl rfl)
theorem dX3_sugar_54 : decode cX3_sugar 54 = .ok (.iadd, 1) := dk_96 (dk_at dksX3_sugar_2 7 rfl rfl)
theorem dX3_sugar_55 : decode cX3_sugar 55 = .ok (.bipush 99, 2) := dk_16 99 (dk_at dksX3_sugar_2 8 rfl rfl)
theorem dX3_sugar_57 : decode cX3_sugar 57 = .ok (.if_icmp .le 8, 3) := dk_164 0 8 (dk_at dksX3_sugar_2 10 rfl rfl)
theorem dX3_sugar_60 : decode cX3_sugar 60 = .ok (.bipush 99, 2) := dk_16 99 (dk_at dksX3_sugar_2 13 rfl rfl)
theorem dX3_sugar_62 : decode cX3_sugar 62 = .ok (.goto 12, 3) := dk_167 0 12 (dk_at dksX3_sugar_2 15 rfl rfl)
theorem dX3_sugar_65 : decode cX3_sugar 65 = .ok (.aload_n 0, 1) := dk_42 (dk_at dksX3_sugar_2 18 rfl rfl)
theorem dX3_sugar_66 : decode cX3_sugar 66 = .ok (.getfield 16, 3) := dk_180 0 16 (dk_at dksX3_sugar_2 19 rfl rfl)
theorem dX3_sugar_69 : decode cX3_sugar 69 = .ok (.iload_n 1, 1) := dk_27 (dk_at dksX3_sugar_2 22 rfl rfl)
theorem dX3_sugar_70 : decode cX3_sugar 70 = .ok (.iaload, 1) := dk_46 (dk_at dksX3_sugar_2 23 rfl rfl)
theorem dX3_sugar_71 : decode cX3_sugar 71 = .ok (.bipush 10, 2) := dk_16 10 (dk_at dksX3_sugar_3 0 rfl rfl)
theorem dX3_sugar_73 : decode cX3_sugar 73 = .ok (.iadd, 1) := dk_96 (dk_at dksX3_sugar_3 2 rfl rfl)
theorem dX3_sugar_74 : decode cX3_sugar 74 = .ok (.iastore, 1) := dk_79 (dk_at dksX3_sugar_3 3 rfl rfl)
theorem dX3_sugar_75 : decode cX3_sugar 75 = .ok (.aload_n 0, 1) := dk_42 (dk_at dksX3_sugar_3 4 rfl rfl)
theorem dX3_sugar_76 : decode cX3_sugar 76 = .ok (.getfield 16, 3) := dk_180 0 16 (dk_at dksX3_sugar_3 5 rfl rfl)
theorem dX3_sugar_79 : decode cX3_sugar 79 = .ok (.iload_n 1, 1) := dk_27 (dk_at dksX3_sugar_3 8 rfl rfl)
theorem dX3_sugar_80 : decode cX3_sugar 80 = .ok (.iaload, 1) := dk_46 (dk_at dksX3_sugar_3 9 rfl rfl)
theorem dX3_sugar_81 : decode cX3_sugar 81 = .ok (.ireturn, 1) := dk_172 (dk_at dksX3_sugar_3 10 rfl rfl)
abbrev cX3_slice : ByteArray := prog_17_method_79_code
def yX3_slice : MethodName := ⟨RX3, "slice", "(II)I"⟩
def dkwX3_slice_2 : List UInt8 := [180, 0, 16, 27, 46, 172]
abbrev dktX3_slice_2 : List UInt8 := dkwX3_slice_2 ++ []
def dkwX3_slice_1 : List UInt8 := [27, 46, 28, 162, 0, 5, 2, 172, 42, 182, 1, 204, 42, 180, 0, 16, 27, 92, 46, 28, 100, 79, 42]
abbrev dktX3_slice_1 : List UInt8 := dkwX3_slice_1 ++ dktX3_slice_2
def dkwX3_slice_0 : List UInt8 := [42, 27, 182, 1, 207, 153, 0, 25, 28, 133, 10, 20, 1, 217, 184, 0, 170, 153, 0, 13, 42, 180, 0, 16]
abbrev dktX3_slice_0 : List UInt8 := dkwX3_slice_0 ++ dktX3_slice_1
theorem dksX3_slice_0 : cX3_slice.data.toList.drop 0 = dktX3_slice_0 := by decide +kernel
theorem dksX3_slice_1 : cX3_slice.data.toList.drop 24 = dktX3_slice_1 := dk_seg dksX3_slice_0 24 rfl rfl
theorem dksX3_slice_2 : cX3_slice.data.toList.drop 47 = dktX3_slice_2 := dk_seg dksX3_slice_1 23 rfl rfl
theorem dX3_slice_0 : decode cX3_slice 0 = .ok (.aload_n 0, 1) := dk_42 (dk_at dksX3_slice_0 0 rfl rfl)
theorem dX3_slice_1 : decode cX3_slice 1 = .ok (.iload_n 1, 1) := dk_27 (dk_at dksX3_slice_0 1 rfl rfl)
theorem dX3_slice_2 : decode cX3_slice 2 = .ok (.invokevirtual 463, 3) := dk_182 1 207 (dk_at dksX3_slice_0 2 rfl rfl)
theorem dX3_slice_5 : decode cX3_slice 5 = .ok (.ifCond .eq 25, 3) := dk_153 0 25 (dk_at dksX3_slice_0 5 rfl rfl)
theorem dX3_slice_8 : decode cX3_slice 8 = .ok (.iload_n 2, 1) := dk_28 (dk_at dksX3_slice_0 8 rfl rfl)
theorem dX3_slice_9 : decode cX3_slice 9 = .ok (.i2l, 1) := dk_133 (dk_at dksX3_slice_0 9 rfl rfl)
theorem dX3_slice_10 : decode cX3_slice 10 = .ok (.lconst 1, 1) := dk_10 (dk_at dksX3_slice_0 10 rfl rfl)
theorem dX3_slice_11 : decode cX3_slice 11 = .ok (.ldc2_w 473, 3) := dk_20 1 217 (dk_at dksX3_slice_0 11 rfl rfl)
theorem dX3_slice_14 : decode cX3_slice 14 = .ok (.invokestatic 170, 3) := dk_184 0 170 (dk_at dksX3_slice_0 14 rfl rfl)
theorem dX3_slice_17 : decode cX3_slice 17 = .ok (.ifCond .eq 13, 3) := dk_153 0 13 (dk_at dksX3_slice_0 17 rfl rfl)
theorem dX3_slice_20 : decode cX3_slice 20 = .ok (.aload_n 0, 1) := dk_42 (dk_at dksX3_slice_0 20 rfl rfl)
theorem dX3_slice_21 : decode cX3_slice 21 = .ok (.getfield 16, 3) := dk_180 0 16 (dk_at dksX3_slice_0 21 rfl rfl)
theorem dX3_slice_24 : decode cX3_slice 24 = .ok (.iload_n 1, 1) := dk_27 (dk_at dksX3_slice_1 0 rfl rfl)
theorem dX3_slice_25 : decode cX3_slice 25 = .ok (.iaload, 1) := dk_46 (dk_at dksX3_slice_1 1 rfl rfl)
theorem dX3_slice_26 : decode cX3_slice 26 = .ok (.iload_n 2, 1) := dk_28 (dk_at dksX3_slice_1 2 rfl rfl)
theorem dX3_slice_27 : decode cX3_slice 27 = .ok (.if_icmp .ge 5, 3) := dk_162 0 5 (dk_at dksX3_slice_1 3 rfl rfl)
theorem dX3_slice_30 : decode cX3_slice 30 = .ok (.iconst (-1), 1) := dk_2 (dk_at dksX3_slice_1 6 rfl rfl)
theorem dX3_slice_31 : decode cX3_slice 31 = .ok (.ireturn, 1) := dk_172 (dk_at dksX3_slice_1 7 rfl rfl)
theorem dX3_slice_32 : decode cX3_slice 32 = .ok (.aload_n 0, 1) := dk_42 (dk_at dksX3_slice_1 8 rfl rfl)
theorem dX3_slice_33 : decode cX3_slice 33 = .ok (.invokevirtual 460, 3) := dk_182 1 204 (dk_at dksX3_slice_1 9 rfl rfl)
theorem dX3_slice_36 : decode cX3_slice 36 = .ok (.aload_n 0, 1) := dk_42 (dk_at dksX3_slice_1 12 rfl rfl)
theorem dX3_slice_37 : decode cX3_slice 37 = .ok (.getfield 16, 3) := dk_180 0 16 (dk_at dksX3_slice_1 13 rfl rfl)
theorem dX3_slice_40 : decode cX3_slice 40 = .ok (.iload_n 1, 1) := dk_27 (dk_at dksX3_slice_1 16 rfl rfl)
theorem dX3_slice_41 : decode cX3_slice 41 = .ok (.dup2, 1) := dk_92 (dk_at dksX3_slice_1 17 rfl rfl)
theorem dX3_slice_42 : decode cX3_slice 42 = .ok (.iaload, 1) := dk_46 (dk_at dksX3_slice_1 18 rfl rfl)
theorem dX3_slice_43 : decode cX3_slice 43 = .ok (.iload_n 2, 1) := dk_28 (dk_at dksX3_slice_1 19 rfl rfl)
theorem dX3_slice_44 : decode cX3_slice 44 = .ok (.isub, 1) := dk_100 (dk_at dksX3_slice_1 20 rfl rfl)
theorem dX3_slice_45 : decode cX3_slice 45 = .ok (.iastore, 1) := dk_79 (dk_at dksX3_slice_1 21 rfl rfl)
theorem dX3_slice_46 : decode cX3_slice 46 = .ok (.aload_n 0, 1) := dk_42 (dk_at dksX3_slice_1 22 rfl rfl)
theorem dX3_slice_47 : decode cX3_slice 47 = .ok (.getfield 16, 3) := dk_180 0 16 (dk_at dksX3_slice_2 0 rfl rfl)
theorem dX3_slice_50 : decode cX3_slice 50 = .ok (.iload_n 1, 1) := dk_27 (dk_at dksX3_slice_2 3 rfl rfl)
theorem dX3_slice_51 : decode cX3_slice 51 = .ok (.iaload, 1) := dk_46 (dk_at dksX3_slice_2 4 rfl rfl)
theorem dX3_slice_52 : decode cX3_slice 52 = .ok (.ireturn, 1) := dk_172 (dk_at dksX3_slice_2 5 rfl rfl)
abbrev cX3_bake : ByteArray := prog_17_method_80_code
def yX3_bake : MethodName := ⟨RX3, "bake", "(I)Z"⟩
def dkwX3_bake_1 : List UInt8 := [128, 79, 4, 172]
abbrev dktX3_bake_1 : List UInt8 := dkwX3_bake_1 ++ []
def dkwX3_bake_0 : List UInt8 := [42, 27, 182, 1, 207, 154, 0, 5, 3, 172, 42, 182, 1, 204, 42, 180, 0, 9, 7, 92, 46, 4, 27, 120]
abbrev dktX3_bake_0 : List UInt8 := dkwX3_bake_0 ++ dktX3_bake_1
theorem dksX3_bake_0 : cX3_bake.data.toList.drop 0 = dktX3_bake_0 := by decide +kernel
theorem dksX3_bake_1 : cX3_bake.data.toList.drop 24 = dktX3_bake_1 := dk_seg dksX3_bake_0 24 rfl rfl
theorem dX3_bake_0 : decode cX3_bake 0 = .ok (.aload_n 0, 1) := dk_42 (dk_at dksX3_bake_0 0 rfl rfl)
theorem dX3_bake_1 : decode cX3_bake 1 = .ok (.iload_n 1, 1) := dk_27 (dk_at dksX3_bake_0 1 rfl rfl)
theorem dX3_bake_2 : decode cX3_bake 2 = .ok (.invokevirtual 463, 3) := dk_182 1 207 (dk_at dksX3_bake_0 2 rfl rfl)
theorem dX3_bake_5 : decode cX3_bake 5 = .ok (.ifCond .ne 5, 3) := dk_154 0 5 (dk_at dksX3_bake_0 5 rfl rfl)
theorem dX3_bake_8 : decode cX3_bake 8 = .ok (.iconst 0, 1) := dk_3 (dk_at dksX3_bake_0 8 rfl rfl)
theorem dX3_bake_9 : decode cX3_bake 9 = .ok (.ireturn, 1) := dk_172 (dk_at dksX3_bake_0 9 rfl rfl)
theorem dX3_bake_10 : decode cX3_bake 10 = .ok (.aload_n 0, 1) := dk_42 (dk_at dksX3_bake_0 10 rfl rfl)
theorem dX3_bake_11 : decode cX3_bake 11 = .ok (.invokevirtual 460, 3) := dk_182 1 204 (dk_at dksX3_bake_0 11 rfl rfl)
theorem dX3_bake_14 : decode cX3_bake 14 = .ok (.aload_n 0, 1) := dk_42 (dk_at dksX3_bake_0 14 rfl rfl)
theorem dX3_bake_15 : decode cX3_bake 15 = .ok (.getfield 9, 3) := dk_180 0 9 (dk_at dksX3_bake_0 15 rfl rfl)
theorem dX3_bake_18 : decode cX3_bake 18 = .ok (.iconst 4, 1) := dk_7 (dk_at dksX3_bake_0 18 rfl rfl)
theorem dX3_bake_19 : decode cX3_bake 19 = .ok (.dup2, 1) := dk_92 (dk_at dksX3_bake_0 19 rfl rfl)
theorem dX3_bake_20 : decode cX3_bake 20 = .ok (.iaload, 1) := dk_46 (dk_at dksX3_bake_0 20 rfl rfl)
theorem dX3_bake_21 : decode cX3_bake 21 = .ok (.iconst 1, 1) := dk_4 (dk_at dksX3_bake_0 21 rfl rfl)
theorem dX3_bake_22 : decode cX3_bake 22 = .ok (.iload_n 1, 1) := dk_27 (dk_at dksX3_bake_0 22 rfl rfl)
theorem dX3_bake_23 : decode cX3_bake 23 = .ok (.ishl, 1) := dk_120 (dk_at dksX3_bake_0 23 rfl rfl)
theorem dX3_bake_24 : decode cX3_bake 24 = .ok (.ior, 1) := dk_128 (dk_at dksX3_bake_1 0 rfl rfl)
theorem dX3_bake_25 : decode cX3_bake 25 = .ok (.iastore, 1) := dk_79 (dk_at dksX3_bake_1 1 rfl rfl)
theorem dX3_bake_26 : decode cX3_bake 26 = .ok (.iconst 1, 1) := dk_4 (dk_at dksX3_bake_1 2 rfl rfl)
theorem dX3_bake_27 : decode cX3_bake 27 = .ok (.ireturn, 1) := dk_172 (dk_at dksX3_bake_1 3 rfl rfl)
abbrev cX3_ahead : ByteArray := prog_17_method_84_code
def yX3_ahead : MethodName := ⟨RX3, "ahead", "(III)I"⟩
def dkwX3_ahead_3 : List UInt8 := [167, 0, 8, 42, 4, 182, 1, 232, 54, 4, 42, 182, 1, 235, 21, 4, 172]
abbrev dktX3_ahead_3 : List UInt8 := dkwX3_ahead_3 ++ []
def dkwX3_ahead_2 : List UInt8 := [154, 0, 12, 42, 180, 0, 13, 27, 46, 167, 0, 22, 29, 4, 160, 0, 12, 42, 180, 0, 16, 27, 46]
abbrev dktX3_ahead_2 : List UInt8 := dkwX3_ahead_2 ++ dktX3_ahead_3
def dkwX3_ahead_1 : List UInt8 := [20, 1, 224, 184, 0, 170, 154, 0, 6, 16, 156, 172, 42, 182, 1, 226, 42, 28, 182, 1, 229, 87, 29]
abbrev dktX3_ahead_1 : List UInt8 := dkwX3_ahead_1 ++ dktX3_ahead_2
def dkwX3_ahead_0 : List UInt8 := [42, 27, 182, 0, 178, 153, 0, 27, 28, 133, 9, 20, 1, 222, 184, 0, 170, 153, 0, 15, 29, 133, 9]
abbrev dktX3_ahead_0 : List UInt8 := dkwX3_ahead_0 ++ dktX3_ahead_1
theorem dksX3_ahead_0 : cX3_ahead.data.toList.drop 0 = dktX3_ahead_0 := by decide +kernel
theorem dksX3_ahead_1 : cX3_ahead.data.toList.drop 23 = dktX3_ahead_1 := dk_seg dksX3_ahead_0 23 rfl rfl
theorem dksX3_ahead_2 : cX3_ahead.data.toList.drop 46 = dktX3_ahead_2 := dk_seg dksX3_ahead_1 23 rfl rfl
theorem dksX3_ahead_3 : cX3_ahead.data.toList.drop 69 = dktX3_ahead_3 := dk_seg dksX3_ahead_2 23 rfl rfl
theorem dX3_ahead_0 : decode cX3_ahead 0 = .ok (.aload_n 0, 1) := dk_42 (dk_at dksX3_ahead_0 0 rfl rfl)
theorem dX3_ahead_1 : decode cX3_ahead 1 = .ok (.iload_n 1, 1) := dk_27 (dk_at dksX3_ahead_0 1 rfl rfl)
theorem dX3_ahead_2 : decode cX3_ahead 2 = .ok (.invokevirtual 178, 3) := dk_182 0 178 (dk_at dksX3_ahead_0 2 rfl rfl)
theorem dX3_ahead_5 : decode cX3_ahead 5 = .ok (.ifCond .eq 27, 3) := dk_153 0 27 (dk_at dksX3_ahead_0 5 rfl rfl)
theorem dX3_ahead_8 : decode cX3_ahead 8 = .ok (.iload_n 2, 1) := dk_28 (dk_at dksX3_ahead_0 8 rfl rfl)
theorem dX3_ahead_9 : decode cX3_ahead 9 = .ok (.i2l, 1) := dk_133 (dk_at dksX3_ahead_0 9 rfl rfl)
theorem dX3_ahead_10 : decode cX3_ahead 10 = .ok (.lconst 0, 1) := dk_9 (dk_at dksX3_ahead_0 10 rfl rfl)
theorem dX3_ahead_11 : decode cX3_ahead 11 = .ok (.ldc2_w 478, 3) := dk_20 1 222 (dk_at dksX3_ahead_0 11 rfl rfl)
theorem dX3_ahead_14 : decode cX3_ahead 14 = .ok (.invokestatic 170, 3) := dk_184 0 170 (dk_at dksX3_ahead_0 14 rfl rfl)
theorem dX3_ahead_17 : decode cX3_ahead 17 = .ok (.ifCond .eq 15, 3) := dk_153 0 15 (dk_at dksX3_ahead_0 17 rfl rfl)
theorem dX3_ahead_20 : decode cX3_ahead 20 = .ok (.iload_n 3, 1) := dk_29 (dk_at dksX3_ahead_0 20 rfl rfl)
theorem dX3_ahead_21 : decode cX3_ahead 21 = .ok (.i2l, 1) := dk_133 (dk_at dksX3_ahead_0 21 rfl rfl)
theorem dX3_ahead_22 : decode cX3_ahead 22 = .ok (.lconst 0, 1) := dk_9 (dk_at dksX3_ahead_0 22 rfl rfl)
theorem dX3_ahead_23 : decode cX3_ahead 23 = .ok (.ldc2_w 480, 3) := dk_20 1 224 (dk_at dksX3_ahead_1 0 rfl rfl)
theorem dX3_ahead_26 : decode cX3_ahead 26 = .ok (.invokestatic 170, 3) := dk_184 0 170 (dk_at dksX3_ahead_1 3 rfl rfl)
theorem dX3_ahead_29 : decode cX3_ahead 29 = .ok (.ifCond .ne 6, 3) := dk_154 0 6 (dk_at dksX3_ahead_1 6 rfl rfl)
theorem dX3_ahead_32 : decode cX3_ahead 32 = .ok (.bipush (-100), 2) := dk_16 156 (dk_at dksX3_ahead_1 9 rfl rfl)
theorem dX3_ahead_34 : decode cX3_ahead 34 = .ok (.ireturn, 1) := dk_172 (dk_at dksX3_ahead_1 11 rfl rfl)
theorem dX3_ahead_35 : decode cX3_ahead 35 = .ok (.aload_n 0, 1) := dk_42 (dk_at dksX3_ahead_1 12 rfl rfl)
theorem dX3_ahead_36 : decode cX3_ahead 36 = .ok (.invokevirtual 482, 3) := dk_182 1 226 (dk_at dksX3_ahead_1 13 rfl rfl)
theorem dX3_ahead_39 : decode cX3_ahead 39 = .ok (.aload_n 0, 1) := dk_42 (dk_at dksX3_ahead_1 16 rfl rfl)
theorem dX3_ahead_40 : decode cX3_ahead 40 = .ok (.iload_n 2, 1) := dk_28 (dk_at dksX3_ahead_1 17 rfl rfl)
theorem dX3_ahead_41 : decode cX3_ahead 41 = .ok (.invokevirtual 485, 3) := dk_182 1 229 (dk_at dksX3_ahead_1 18 rfl rfl)
theorem dX3_ahead_44 : decode cX3_ahead 44 = .ok (.pop, 1) := dk_87 (dk_at dksX3_ahead_1 21 rfl rfl)
theorem dX3_ahead_45 : decode cX3_ahead 45 = .ok (.iload_n 3, 1) := dk_29 (dk_at dksX3_ahead_1 22 rfl rfl)
theorem dX3_ahead_46 : decode cX3_ahead 46 = .ok (.ifCond .ne 12, 3) := dk_154 0 12 (dk_at dksX3_ahead_2 0 rfl rfl)
theorem dX3_ahead_49 : decode cX3_ahead 49 = .ok (.aload_n 0, 1) := dk_42 (dk_at dksX3_ahead_2 3 rfl rfl)
theorem dX3_ahead_50 : decode cX3_ahead 50 = .ok (.getfield 13, 3) := dk_180 0 13 (dk_at dksX3_ahead_2 4 rfl rfl)
theorem dX3_ahead_53 : decode cX3_ahead 53 = .ok (.iload_n 1, 1) := dk_27 (dk_at dksX3_ahead_2 7 rfl rfl)
theorem dX3_ahead_54 : decode cX3_ahead 54 = .ok (.iaload, 1) := dk_46 (dk_at dksX3_ahead_2 8 rfl rfl)
theorem dX3_ahead_55 : decode cX3_ahead 55 = .ok (.goto 22, 3) := dk_167 0 22 (dk_at dksX3_ahead_2 9 rfl rfl)
theorem dX3_ahead_58 : decode cX3_ahead 58 = .ok (.iload_n 3, 1) := dk_29 (dk_at dksX3_ahead_2 12 rfl rfl)
theorem dX3_ahead_59 : decode cX3_ahead 59 = .ok (.iconst 1, 1) := dk_4 (dk_at dksX3_ahead_2 13 rfl rfl)
theorem dX3_ahead_60 : decode cX3_ahead 60 = .ok (.if_icmp .ne 12, 3) := dk_160 0 12 (dk_at dksX3_ahead_2 14 rfl rfl)
theorem dX3_ahead_63 : decode cX3_ahead 63 = .ok (.aload_n 0, 1) := dk_42 (dk_at dksX3_ahead_2 17 rfl rfl)
theorem dX3_ahead_64 : decode cX3_ahead 64 = .ok (.getfield 16, 3) := dk_180 0 16 (dk_at dksX3_ahead_2 18 rfl rfl)
theorem dX3_ahead_67 : decode cX3_ahead 67 = .ok (.iload_n 1, 1) := dk_27 (dk_at dksX3_ahead_2 21 rfl rfl)
theorem dX3_ahead_68 : decode cX3_ahead 68 = .ok (.iaload, 1) := dk_46 (dk_at dksX3_ahead_2 22 rfl rfl)
theorem dX3_ahead_69 : decode cX3_ahead 69 = .ok (.goto 8, 3) := dk_167 0 8 (dk_at dksX3_ahead_3 0 rfl rfl)
theorem dX3_ahead_72 : decode cX3_ahead 72 = .ok (.aload_n 0, 1) := dk_42 (dk_at dksX3_ahead_3 3 rfl rfl)
theorem dX3_ahead_73 : decode cX3_ahead 73 = .ok (.iconst 1, 1) := dk_4 (dk_at dksX3_ahead_3 4 rfl rfl)
theorem dX3_ahead_74 : decode cX3_ahead 74 = .ok (.invokevirtual 488, 3) := dk_182 1 232 (dk_at dksX3_ahead_3 5 rfl rfl)
theorem dX3_ahead_77 : decode cX3_ahead 77 = .ok (.istore 4, 2) := dk_54 4 (dk_at dksX3_ahead_3 8 rfl rfl)
theorem dX3_ahead_79 : decode cX3_ahead 79 = .ok (.aload_n 0, 1) := dk_42 (dk_at dksX3_ahead_3 10 rfl rfl)
theorem dX3_ahead_80 : decode cX3_ahead 80 = .ok (.invokevirtual 491, 3) := dk_182 1 235 (dk_at dksX3_ahead_3 11 rfl rfl)
theorem dX3_ahead_83 : decode cX3_ahead 83 = .ok (.iload 4, 2) := dk_21 4 (dk_at dksX3_ahead_3 14 rfl rfl)
theorem dX3_ahead_85 : decode cX3_ahead 85 = .ok (.ireturn, 1) := dk_172 (dk_at dksX3_ahead_3 16 rfl rfl)
abbrev cX3_keepsAll : ByteArray := prog_17_method_81_code
def yX3_keepsAll : MethodName := ⟨RX3, "keepsAll", "()V"⟩
def dkwX3_keepsAll_0 : List UInt8 := [42, 7, 3, 182, 1, 219, 177]
abbrev dktX3_keepsAll_0 : List UInt8 := dkwX3_keepsAll_0 ++ []
theorem dksX3_keepsAll_0 : cX3_keepsAll.data.toList.drop 0 = dktX3_keepsAll_0 := by decide +kernel
theorem dX3_keepsAll_0 : decode cX3_keepsAll 0 = .ok (.aload_n 0, 1) := dk_42 (dk_at dksX3_keepsAll_0 0 rfl rfl)
theorem dX3_keepsAll_1 : decode cX3_keepsAll 1 = .ok (.iconst 4, 1) := dk_7 (dk_at dksX3_keepsAll_0 1 rfl rfl)
theorem dX3_keepsAll_2 : decode cX3_keepsAll 2 = .ok (.iconst 0, 1) := dk_3 (dk_at dksX3_keepsAll_0 2 rfl rfl)
theorem dX3_keepsAll_3 : decode cX3_keepsAll 3 = .ok (.invokevirtual 475, 3) := dk_182 1 219 (dk_at dksX3_keepsAll_0 3 rfl rfl)
theorem dX3_keepsAll_6 : decode cX3_keepsAll 6 = .ok (.return_, 1) := dk_177 (dk_at dksX3_keepsAll_0 6 rfl rfl)
abbrev cX3_carriesAll : ByteArray := prog_17_method_113_code
def yX3_carriesAll : MethodName := ⟨RX3, "carriesAll", "(IZ)V"⟩
def dkwX3_carriesAll_7 : List UInt8 := [42, 42, 180, 0, 55, 182, 2, 58, 42, 42, 180, 0, 130, 182, 2, 58, 177]
abbrev dktX3_carriesAll_7 : List UInt8 := dkwX3_carriesAll_7 ++ []
def dkwX3_carriesAll_6 : List UInt8 := [42, 42, 180, 0, 46, 182, 2, 58, 42, 42, 180, 0, 49, 182, 2, 58, 42, 42, 180, 0, 52, 182, 2, 58]
abbrev dktX3_carriesAll_6 : List UInt8 := dkwX3_carriesAll_6 ++ dktX3_carriesAll_7
def dkwX3_carriesAll_5 : List UInt8 := [42, 42, 180, 0, 37, 182, 2, 58, 42, 42, 180, 0, 40, 182, 2, 58, 42, 42, 180, 0, 43, 182, 2, 58]
abbrev dktX3_carriesAll_5 : List UInt8 := dkwX3_carriesAll_5 ++ dktX3_carriesAll_6
def dkwX3_carriesAll_4 : List UInt8 := [42, 42, 180, 0, 25, 182, 2, 58, 42, 42, 180, 0, 28, 182, 2, 58, 42, 42, 180, 0, 31, 182, 2, 58]
abbrev dktX3_carriesAll_4 : List UInt8 := dkwX3_carriesAll_4 ++ dktX3_carriesAll_5
def dkwX3_carriesAll_3 : List UInt8 := [180, 0, 133, 182, 2, 58, 42, 42, 180, 0, 133, 3, 46, 181, 1, 105, 42, 42, 180, 0, 22, 182, 2, 58]
abbrev dktX3_carriesAll_3 : List UInt8 := dkwX3_carriesAll_3 ++ dktX3_carriesAll_4
def dkwX3_carriesAll_2 : List UInt8 := [180, 0, 34, 182, 2, 58, 27, 7, 160, 0, 4, 177, 42, 180, 0, 133, 3, 42, 180, 1, 105, 79, 42, 42]
abbrev dktX3_carriesAll_2 : List UInt8 := dkwX3_carriesAll_2 ++ dktX3_carriesAll_3
def dkwX3_carriesAll_1 : List UInt8 := [180, 0, 13, 182, 2, 58, 42, 42, 180, 0, 16, 182, 2, 58, 42, 42, 180, 0, 19, 182, 2, 58, 42, 42]
abbrev dktX3_carriesAll_1 : List UInt8 := dkwX3_carriesAll_1 ++ dktX3_carriesAll_2
def dkwX3_carriesAll_0 : List UInt8 := [42, 17, 4, 76, 27, 104, 181, 2, 55, 42, 28, 181, 2, 52, 42, 42, 180, 0, 9, 182, 2, 58, 42, 42]
abbrev dktX3_carriesAll_0 : List UInt8 := dkwX3_carriesAll_0 ++ dktX3_carriesAll_1
theorem dksX3_carriesAll_0 : cX3_carriesAll.data.toList.drop 0 = dktX3_carriesAll_0 := by decide +kernel
theorem dksX3_carriesAll_1 : cX3_carriesAll.data.toList.drop 24 = dktX3_carriesAll_1 := dk_seg dksX3_carriesAll_0 24 rfl rfl
theorem dksX3_carriesAll_2 : cX3_carriesAll.data.toList.drop 48 = dktX3_carriesAll_2 := dk_seg dksX3_carriesAll_1 24 rfl rfl
theorem dksX3_carriesAll_3 : cX3_carriesAll.data.toList.drop 72 = dktX3_carriesAll_3 := dk_seg dksX3_carriesAll_2 24 rfl rfl
theorem dksX3_carriesAll_4 : cX3_carriesAll.data.toList.drop 96 = dktX3_carriesAll_4 := dk_seg dksX3_carriesAll_3 24 rfl rfl
theorem dksX3_carriesAll_5 : cX3_carriesAll.data.toList.drop 120 = dktX3_carriesAll_5 := dk_seg dksX3_carriesAll_4 24 rfl rfl
theorem dksX3_carriesAll_6 : cX3_carriesAll.data.toList.drop 144 = dktX3_carriesAll_6 := dk_seg dksX3_carriesAll_5 24 rfl rfl
theorem dksX3_carriesAll_7 : cX3_carriesAll.data.toList.drop 168 = dktX3_carriesAll_7 := dk_seg dksX3_carriesAll_6 24 rfl rfl
theorem dX3_carriesAll_0 : decode cX3_carriesAll 0 = .ok (.aload_n 0, 1) := dk_42 (dk_at dksX3_carriesAll_0 0 rfl rfl)
theorem dX3_carriesAll_1 : decode cX3_carriesAll 1 = .ok (.sipush 1100, 3) := dk_17 4 76 (dk_at dksX3_carriesAll_0 1 rfl rfl)
theorem dX3_carriesAll_4 : decode cX3_carriesAll 4 = .ok (.iload_n 1, 1) := dk_27 (dk_at dksX3_carriesAll_0 4 rfl rfl)
theorem dX3_carriesAll_5 : decode cX3_carriesAll 5 = .ok (.imul, 1) := dk_104 (dk_at dksX3_carriesAll_0 5 rfl rfl)
theorem dX3_carriesAll_6 : decode cX3_carriesAll 6 = .ok (.putfield 567, 3) := dk_181 2 55 (dk_at dksX3_carriesAll_0 6 rfl rfl)
theorem dX3_carriesAll_9 : decode cX3_carriesAll 9 = .ok (.aload_n 0, 1) := dk_42 (dk_at dksX3_carriesAll_0 9 rfl rfl)
theorem dX3_carriesAll_10 : decode cX3_carriesAll 10 = .ok (.iload_n 2, 1) := dk_28 (dk_at dksX3_carriesAll_0 10 rfl rfl)
theorem dX3_carriesAll_11 : decode cX3_carriesAll 11 = .ok (.putfield 564, 3) := dk_181 2 52 (dk_at dksX3_carriesAll_0 11 rfl rfl)
theorem dX3_carriesAll_14 : decode cX3_carriesAll 14 = .ok (.aload_n 0, 1) := dk_42 (dk_at dksX3_carriesAll_0 14 rfl rfl)
theorem dX3_carriesAll_15 : decode cX3_carriesAll 15 = .ok (.aload_n 0, 1) := dk_42 (dk_at dksX3_carriesAll_0 15 rfl rfl)
theorem dX3_carriesAll_16 : decode cX3_carriesAll 16 = .ok (.getfield 9, 3) := dk_180 0 9 (dk_at dksX3_carriesAll_0 16 rfl rfl)
theorem dX3_carriesAll_19 : decode cX3_carriesAll 19 = .ok (.invokevirtual 570, 3) := dk_182 2 58 (dk_at dksX3_carriesAll_0 19 rfl rfl)
theorem dX3_carriesAll_22 : decode cX3_carriesAll 22 = .ok (.aload_n 0, 1) := dk_42 (dk_at dksX3_carriesAll_0 22 rfl rfl)
theorem dX3_carriesAll_23 : decode cX3_carriesAll 23 = .ok (.aload_n 0, 1) := dk_42 (dk_at dksX3_carriesAll_0 23 rfl rfl)
theorem dX3_carriesAll_24 : decode cX3_carriesAll 24 = .ok (.getfield 13, 3) := dk_180 0 13 (dk_at dksX3_carriesAll_1 0 rfl rfl)
theorem dX3_carriesAll_27 : decode cX3_carriesAll 27 = .ok (.invokevirtual 570, 3) := dk_182 2 58 (dk_at dksX3_carriesAll_1 3 rfl rfl)
theorem dX3_carriesAll_30 : decode cX3_carriesAll 30 = .ok (.aload_n 0, 1) := dk_42 (dk_at dksX3_carriesAll_1 6 rfl rfl)
theorem dX3_carriesAll_31 : decode cX3_carriesAll 31 = .ok (.aload_n 0, 1) := dk_42 (dk_at dksX3_carriesAll_1 7 rfl rfl)
theorem dX3_carriesAll_32 : decode cX3_carriesAll 32 = .ok (.getfield 16, 3) := dk_180 0 16 (dk_at dksX3_carriesAll_1 8 rfl rfl)
theorem dX3_carriesAll_35 : decode cX3_carriesAll 35 = .ok (.invokevirtual 570, 3) := dk_182 2 58 (dk_at dksX3_carriesAll_1 11 rfl rfl)
theorem dX3_carriesAll_38 : decode cX3_carriesAll 38 = .ok (.aload_n 0, 1) := dk_42 (dk_at dksX3_carriesAll_1 14 rfl rfl)
theorem dX3_carriesAll_39 : decode cX3_carriesAll 39 = .ok (.aload_n 0, 1) := dk_42 (dk_at dksX3_carriesAll_1 15 rfl rfl)
theorem dX3_carriesAll_40 : decode cX3_carriesAll 40 = .ok (.getfield 19, 3) := dk_180 0 19 (dk_at dksX3_carriesAll_1 16 rfl rfl)
theorem dX3_carriesAll_43 : decode cX3_carriesAll 43 = .ok (.invokevirtual 570, 3) := dk_182 2 58 (dk_at dksX3_carriesAll_1 19 rfl rfl)
theorem dX3_carriesAll_46 : decode cX3_carriesAll 46 = .ok (.aload_n 0, 1) := dk_42 (dk_at dksX3_carriesAll_1 22 rfl rfl)
theorem dX3_carriesAll_47 : decode cX3_carriesAll 47 = .ok (.aload_n 0, 1) := dk_42 (dk_at dksX3_carriesAll_1 23 rfl rfl)
theorem dX3_carriesAll_48 : decode cX3_carriesAll 48 = .ok (.getfield 34, 3) := dk_180 0 34 (dk_at dksX3_carriesAll_2 0 rfl rfl)
theorem dX3_carriesAll_51 : decode cX3_carriesAll 51 = .ok (.invokevirtual 570, 3) := dk_182 2 58 (dk_at dksX3_carriesAll_2 3 rfl rfl)
theorem dX3_carriesAll_54 : decode cX3_carriesAll 54 = .ok (.iload_n 1, 1) := dk_27 (dk_at dksX3_carriesAll_2 6 rfl rfl)
theorem dX3_carriesAll_55 : decode cX3_carriesAll 55 = .ok (.iconst 4, 1) := dk_7 (dk_at dksX3_carriesAll_2 7 rfl rfl)
theorem dX3_carriesAll_56 : decode cX3_carriesAll 56 = .ok (.if_icmp .ne 4, 3) := dk_160 0 4 (dk_at dksX3_carriesAll_2 8 rfl rfl)
theorem dX3_carriesAll_59 : decode cX3_carriesAll 59 = .ok (.return_, 1) := dk_177 (dk_at dksX3_carriesAll_2 11 rfl rfl)
theorem dX3_carriesAll_60 : decode cX3_carriesAll 60 = .ok (.aload_n 0, 1) := dk_42 (dk_at dksX3_carriesAll_2 12 rfl rfl)
theorem dX3_carriesAll_61 : decode cX3_carriesAll 61 = .ok (.getfield 133, 3) := dk_180 0 133 (dk_at dksX3_carriesAll_2 13 rfl rfl)
theorem dX3_carriesAll_64 : decode cX3_carriesAll 64 = .ok (.iconst 0, 1) := dk_3 (dk_at dksX3_carriesAll_2 16 rfl rfl)
theorem dX3_carriesAll_65 : decode cX3_carriesAll 65 = .ok (.aload_n 0, 1) := dk_42 (dk_at dksX3_carriesAll_2 17 rfl rfl)
theorem dX3_carriesAll_66 : decode cX3_carriesAll 66 = .ok (.getfield 361, 3) := dk_180 1 105 (dk_at dksX3_carriesAll_2 18 rfl rfl)
theorem dX3_carriesAll_69 : decode cX3_carriesAll 69 = .ok (.iastore, 1) := dk_79 (dk_at dksX3_carriesAll_2 21 rfl rfl)
theorem dX3_carriesAll_70 : decode cX3_carriesAll 70 = .ok (.aload_n 0, 1) := dk_42 (dk_at dksX3_carriesAll_2 22 rfl rfl)
theorem dX3_carriesAll_71 : decode cX3_carriesAll 71 = .ok (.aload_n 0, 1) := dk_42 (dk_at dksX3_carriesAll_2 23 rfl rfl)
theorem dX3_carriesAll_72 : decode cX3_carriesAll 72 = .ok (.getfield 133, 3) := dk_180 0 133 (dk_at dksX3_carriesAll_3 0 rfl rfl)
theorem dX3_carriesAll_75 : decode cX3_carriesAll 75 = .ok (.invokevirtual 570, 3) := dk_182 2 58 (dk_at dksX3_carriesAll_3 3 rfl rfl)
theorem dX3_carriesAll_78 : decode cX3_carriesAll 78 = .ok (.aload_n 0, 1) := dk_42 (dk_at dksX3_carriesAll_3 6 rfl rfl)
theorem dX3_carriesAll_79 : decode cX3_carriesAll 79 = .ok (.aload_n 0, 1) := dk_42 (dk_at dksX3_carriesAll_3 7 rfl rfl)
theorem dX3_carriesAll_80 : decode cX3_carriesAll 80 = .ok (.getfield 133, 3) := dk_180 0 133 (dk_at dksX3_carriesAll_3 8 rfl rfl)
theorem dX3_carriesAll_83 : decode cX3_carriesAll 83 = .ok (.iconst 0, 1) := dk_3 (dk_at dksX3_carriesAll_3 11 rfl rfl)
theorem dX3_carriesAll_84 : decode cX3_carriesAll 84 = .ok (.iaload, 1) := dk_46 (dk_at dksX3_carriesAll_3 12 rfl rfl)
theorem dX3_carriesAll_85 : decode cX3_carriesAll 85 = .ok (.putfield 361, 3) := dk_181 1 105 (dk_at dksX3_carriesAll_3 13 rfl rfl)
theorem dX3_carriesAll_88 : decode cX3_carriesAll 88 = .ok (.aload_n 0, 1) := dk_42 (dk_at dksX3_carriesAll_3 16 rfl rfl)
theorem dX3_carriesAll_89 : decode cX3_carriesAll 89 = .ok (.aload_n 0, 1) := dk_42 (dk_at dksX3_carriesAll_3 17 rfl rfl)
theorem dX3_carriesAll_90 : decode cX3_carriesAll 90 = .ok (.getfield 22, 3) := dk_180 0 22 (dk_at dksX3_carriesAll_3 18 rfl rfl)
theorem dX3_carriesAll_93 : decode cX3_carriesAll 93 = .ok (.invokevirtual 570, 3) := dk_182 2 58 (dk_at dksX3_carriesAll_3 21 rfl rfl)
theorem dX3_carriesAll_96 : decode cX3_carriesAll 96 = .ok (.aload_n 0, 1) := dk_42 (dk_at dksX3_carriesAll_4 0 rfl rfl)
theorem dX3_carriesAll_97 : decode cX3_carriesAll 97 = .ok (.aload_n 0, 1) := dk_42 (dk_at dksX3_carriesAll_4 1 rfl rfl)
theorem dX3_carriesAll_98 : decode cX3_carriesAll 98 = .ok (.getfield 25, 3) := dk_180 0 25 (dk_at dksX3_carriesAll_4 2 rfl rfl)
theorem dX3_carriesAll_101 : decode cX3_carriesAll 101 = .ok (.invokevirtual 570, 3) := dk_182 2 58 (dk_at dksX3_carriesAll_4 5 rfl rfl)
theorem dX3_carriesAll_104 : decode cX3_carriesAll 104 = .ok (.aload_n 0, 1) := dk_42 (dk_at dksX3_carriesAll_4 8 rfl rfl)
theorem dX3_carriesAll_105 : decode cX3_carriesAll 105 = .ok (.aload_n 0, 1) := dk_42 (dk_at dksX3_carriesAll_4 9 rfl rfl)
theorem dX3_carriesAll_106 : decode cX3_carriesAll 106 = .ok (.getfield 28, 3) := dk_180 0 28 (dk_at dksX3_carriesAll_4 10 rfl rfl)
theorem dX3_carriesAll_109 : decode cX3_carriesAll 109 = .ok (.invokevirtual 570, 3) := dk_182 2 58 (dk_at dksX3_carriesAll_4 13 rfl rfl)
theorem dX3_carriesAll_112 : decode cX3_carriesAll 112 = .ok (.aload_n 0, 1) := dk_42 (dk_at dksX3_carriesAll_4 16 rfl rfl)
theorem dX3_carriesAll_113 : decode cX3_carriesAll 113 = .ok (.aload_n 0, 1) := dk_42 (dk_at dksX3_carriesAll_4 17 rfl rfl)
theorem dX3_carriesAll_114 : decode cX3_carriesAll 114 = .ok (.getfield 31, 3) := dk_180 0 31 (dk_at dksX3_carriesAll_4 18 rfl rfl)
theorem dX3_carriesAll_117 : decode cX3_carriesAll 117 = .ok (.invokevirtual 570, 3) := dk_182 2 58 (dk_at dksX3_carriesAll_4 21 rfl rfl)
theorem dX3_carriesAll_120 : decode cX3_carriesAll 120 = .ok (.aload_n 0, 1) := dk_42 (dk_at dksX3_carriesAll_5 0 rfl rfl)
theorem dX3_carriesAll_121 : decode cX3_carriesAll 121 = .ok (.aload_n 0, 1) := dk_42 (dk_at dksX3_carriesAll_5 1 rfl rfl)
theorem dX3_carriesAll_122 : decode cX3_carriesAll 122 = .ok (.getfield 37, 3) := dk_180 0 37 (dk_at dksX3_carriesAll_5 2 rfl rfl)
theorem dX3_carriesAll_125 : decode cX3_carriesAll 125 = .ok (.invokevirtual 570, 3) := dk_182 2 58 (dk_at dksX3_carriesAll_5 5 rfl rfl)
theorem dX3_carriesAll_128 : decode cX3_carriesAll 128 = .ok (.aload_n 0, 1) := dk_42 (dk_at dksX3_carriesAll_5 8 rfl rfl)
theorem dX3_carriesAll_129 : decode cX3_carriesAll 129 = .ok (.aload_n 0, 1) := dk_42 (dk_at dksX3_carriesAll_5 9 rfl rfl)
theorem dX3_carriesAll_130 : decode cX3_carriesAll 130 = .ok (.getfield 40, 3) := dk_180 0 40 (dk_at dksX3_carriesAll_5 10 rfl rfl)
theorem dX3_carriesAll_133 : decode cX3_carriesAll 133 = .ok (.invokevirtual 570, 3) := dk_182 2 58 (dk_at dksX3_carriesAll_5 13 rfl rfl)
theorem dX3_carriesAll_136 : decode cX3_carriesAll 136 = .ok (.aload_n 0, 1) := dk_42 (dk_at dksX3_carriesAll_5 16 rfl rfl)
theorem dX3_carriesAll_137 : decode cX3_carriesAll 137 = .ok (.aload_n 0, 1) := dk_42 (dk_at dksX3_carriesAll_5 17 rfl rfl)
theorem dX3_carriesAll_138 : decode cX3_carriesAll 138 = .ok (.getfield 43, 3) := dk_180 0 43 (dk_at dksX3_carriesAll_5 18 rfl rfl)
theorem dX3_carriesAll_141 : decode cX3_carriesAll 141 = .ok (.invokevirtual 570, 3) := dk_182 2 58 (dk_at dksX3_carriesAll_5 21 rfl rfl)
theorem dX3_carriesAll_144 : decode cX3_carriesAll 144 = .ok (.aload_n 0, 1) := dk_42 (dk_at dksX3_carriesAll_6 0 rfl rfl)
theorem dX3_carriesAll_145 : decode cX3_carriesAll 145 = .ok (.aload_n 0, 1) := dk_42 (dk_at dksX3_carriesAll_6 1 rfl rfl)
theorem dX3_carriesAll_146 : decode cX3_carriesAll 146 = .ok (.getfield 46, 3) := dk_180 0 46 (dk_at dksX3_carriesAll_6 2 rfl rfl)
theorem dX3_carriesAll_149 : decode cX3_carriesAll 149 = .ok (.invokevirtual 570, 3) := dk_182 2 58 (dk_at dksX3_carriesAll_6 5 rfl rfl)
theorem dX3_carriesAll_152 : decode cX3_carriesAll 152 = .ok (.aload_n 0, 1) := dk_42 (dk_at dksX3_carriesAll_6 8 rfl rfl)
theorem dX3_carriesAll_153 : decode cX3_carriesAll 153 = .ok (.aload_n 0, 1) := dk_42 (dk_at dksX3_carriesAll_6 9 rfl rfl)
theorem dX3_carriesAll_154 : decode cX3_carriesAll 154 = .ok (.getfield 49, 3) := dk_180 0 49 (dk_at dksX3_carriesAll_6 10 rfl rfl)
theorem dX3_carriesAll_157 : decode cX3_carriesAll 157 = .ok (.invokevirtual 570, 3) := dk_182 2 58 (dk_at dksX3_carriesAll_6 13 rfl rfl)
theorem dX3_carriesAll_160 : decode cX3_carriesAll 160 = .ok (.aload_n 0, 1) := dk_42 (dk_at dksX3_carriesAll_6 16 rfl rfl)
theorem dX3_carriesAll_161 : decode cX3_carriesAll 161 = .ok (.aload_n 0, 1) := dk_42 (dk_at dksX3_carriesAll_6 17 rfl rfl)
theorem dX3_carriesAll_162 : decode cX3_carriesAll 162 = .ok (.getfield 52, 3) := dk_180 0 52 (dk_at dksX3_carriesAll_6 18 rfl rfl)
theorem dX3_carriesAll_165 : decode cX3_carriesAll 165 = .ok (.invokevirtual 570, 3) := dk_182 2 58 (dk_at dksX3_carriesAll_6 21 rfl rfl)
theorem dX3_carriesAll_168 : decode cX3_carriesAll 168 = .ok (.aload_n 0, 1) := dk_42 (dk_at dksX3_carriesAll_7 0 rfl rfl)
theorem dX3_carriesAll_169 : decode cX3_carriesAll 169 = .ok (.aload_n 0, 1) := dk_42 (dk_at dksX3_carriesAll_7 1 rfl rfl)
theorem dX3_carriesAll_170 : decode cX3_carriesAll 170 = .ok (.getfield 55, 3) := dk_180 0 55 (dk_at dksX3_carriesAll_7 2 rfl rfl)
theorem dX3_carriesAll_173 : decode cX3_carriesAll 173 = .ok (.invokevirtual 570, 3) := dk_182 2 58 (dk_at dksX3_carriesAll_7 5 rfl rfl)
theorem dX3_carriesAll_176 : decode cX3_carriesAll 176 = .ok (.aload_n 0, 1) := dk_42 (dk_at dksX3_carriesAll_7 8 rfl rfl)
theorem dX3_carriesAll_177 : decode cX3_carriesAll 177 = .ok (.aload_n 0, 1) := dk_42 (dk_at dksX3_carriesAll_7 9 rfl rfl)
theorem dX3_carriesAll_178 : decode cX3_carriesAll 178 = .ok (.getfield 130, 3) := dk_180 0 130 (dk_at dksX3_carriesAll_7 10 rfl rfl)
theorem dX3_carriesAll_181 : decode cX3_carriesAll 181 = .ok (.invokevirtual 570, 3) := dk_182 2 58 (dk_at dksX3_carriesAll_7 13 rfl rfl)
theorem dX3_carriesAll_184 : decode cX3_carriesAll 184 = .ok (.return_, 1) := dk_177 (dk_at dksX3_carriesAll_7 16 rfl rfl)
abbrev cX3_carryRow : ByteArray := prog_17_method_112_code
def yX3_carryRow : MethodName := ⟨RX3, "carryRow", "([I)V"⟩
def dkwX3_carryRow_2 : List UInt8 := [180, 2, 55, 4, 96, 181, 2, 55, 132, 2, 1, 167, 255, 203, 177]
abbrev dktX3_carryRow_2 : List UInt8 := dkwX3_carryRow_2 ++ []
def dkwX3_carryRow_1 : List UInt8 := [180, 2, 55, 46, 79, 167, 0, 15, 42, 180, 0, 160, 42, 180, 2, 55, 43, 28, 46, 79, 42, 89]
abbrev dktX3_carryRow_1 : List UInt8 := dkwX3_carryRow_1 ++ dktX3_carryRow_2
def dkwX3_carryRow_0 : List UInt8 := [3, 61, 28, 43, 190, 162, 0, 53, 42, 180, 2, 52, 153, 0, 18, 43, 28, 42, 180, 0, 160, 42]
abbrev dktX3_carryRow_0 : List UInt8 := dkwX3_carryRow_0 ++ dktX3_carryRow_1
theorem dksX3_carryRow_0 : cX3_carryRow.data.toList.drop 0 = dktX3_carryRow_0 := by decide +kernel
theorem dksX3_carryRow_1 : cX3_carryRow.data.toList.drop 22 = dktX3_carryRow_1 := dk_seg dksX3_carryRow_0 22 rfl rfl
theorem dksX3_carryRow_2 : cX3_carryRow.data.toList.drop 44 = dktX3_carryRow_2 := dk_seg dksX3_carryRow_1 22 rfl rfl
theorem dX3_carryRow_0 : decode cX3_carryRow 0 = .ok (.iconst 0, 1) := dk_3 (dk_at dksX3_carryRow_0 0 rfl rfl)
theorem dX3_carryRow_1 : decode cX3_carryRow 1 = .ok (.istore_n 2, 1) := dk_61 (dk_at dksX3_carryRow_0 1 rfl rfl)
theorem dX3_carryRow_2 : decode cX3_carryRow 2 = .ok (.iload_n 2, 1) := dk_28 (dk_at dksX3_carryRow_0 2 rfl rfl)
theorem dX3_carryRow_3 : decode cX3_carryRow 3 = .ok (.aload_n 1, 1) := dk_43 (dk_at dksX3_carryRow_0 3 rfl rfl)
theorem dX3_carryRow_4 : decode cX3_carryRow 4 = .ok (.arraylength, 1) := dk_190 (dk_at dksX3_carryRow_0 4 rfl rfl)
theorem dX3_carryRow_5 : decode cX3_carryRow 5 = .ok (.if_icmp .ge 53, 3) := dk_162 0 53 (dk_at dksX3_carryRow_0 5 rfl rfl)
theorem dX3_carryRow_8 : decode cX3_carryRow 8 = .ok (.aload_n 0, 1) := dk_42 (dk_at dksX3_carryRow_0 8 rfl rfl)
theorem dX3_carryRow_9 : decode cX3_carryRow 9 = .ok (.getfield 564, 3) := dk_180 2 52 (dk_at dksX3_carryRow_0 9 rfl rfl)
theorem dX3_carryRow_12 : decode cX3_carryRow 12 = .ok (.ifCond .eq 18, 3) := dk_153 0 18 (dk_at dksX3_carryRow_0 12 rfl rfl)
theorem dX3_carryRow_15 : decode cX3_carryRow 15 = .ok (.aload_n 1, 1) := dk_43 (dk_at dksX3_carryRow_0 15 rfl rfl)
theorem dX3_carryRow_16 : decode cX3_carryRow 16 = .ok (.iload_n 2, 1) := dk_28 (dk_at dksX3_carryRow_0 16 rfl rfl)
theorem dX3_carryRow_17 : decode cX3_carryRow 17 = .ok (.aload_n 0, 1) := dk_42 (dk_at dksX3_carryRow_0 17 rfl rfl)
theorem dX3_carryRow_18 : decode cX3_carryRow 18 = .ok (.getfield 160, 3) := dk_180 0 160 (dk_at dksX3_carryRow_0 18 rfl rfl)
theorem dX3_carryRow_21 : decode cX3_carryRow 21 = .ok (.aload_n 0, 1) := dk_42 (dk_at dksX3_carryRow_0 21 rfl rfl)
theorem dX3_carryRow_22 : decode cX3_carryRow 22 = .ok (.getfield 567, 3) := dk_180 2 55 (dk_at dksX3_carryRow_1 0 rfl rfl)
theorem dX3_carryRow_25 : decode cX3_carryRow 25 = .ok (.iaload, 1) := dk_46 (dk_at dksX3_carryRow_1 3 rfl rfl)
theorem dX3_carryRow_26 : decode cX3_carryRow 26 = .ok (.iastore, 1) := dk_79 (dk_at dksX3_carryRow_1 4 rfl rfl)
theorem dX3_carryRow_27 : decode cX3_carryRow 27 = .ok (.goto 15, 3) := dk_167 0 15 (dk_at dksX3_carryRow_1 5 rfl rfl)
theorem dX3_carryRow_30 : decode cX3_carryRow 30 = .ok (.aload_n 0, 1) := dk_42 (dk_at dksX3_carryRow_1 8 rfl rfl)
theorem dX3_carryRow_31 : decode cX3_carryRow 31 = .ok (.getfield 160, 3) := dk_180 0 160 (dk_at dksX3_carryRow_1 9 rfl rfl)
theorem dX3_carryRow_34 : decode cX3_carryRow 34 = .ok (.aload_n 0, 1) := dk_42 (dk_at dksX3_carryRow_1 12 rfl rfl)
theorem dX3_carryRow_35 : decode cX3_carryRow 35 = .ok (.getfield 567, 3) := dk_180 2 55 (dk_at dksX3_carryRow_1 13 rfl rfl)
theorem dX3_carryRow_38 : decode cX3_carryRow 38 = .ok (.aload_n 1, 1) := dk_43 (dk_at dksX3_carryRow_1 16 rfl rfl)
theorem dX3_carryRow_39 : decode cX3_carryRow 39 = .ok (.iload_n 2, 1) := dk_28 (dk_at dksX3_carryRow_1 17 rfl rfl)
theorem dX3_carryRow_40 : decode cX3_carryRow 40 = .ok (.iaload, 1) := dk_46 (dk_at dksX3_carryRow_1 18 rfl rfl)
theorem dX3_carryRow_41 : decode cX3_carryRow 41 = .ok (.iastore, 1) := dk_79 (dk_at dksX3_carryRow_1 19 rfl rfl)
theorem dX3_carryRow_42 : decode cX3_carryRow 42 = .ok (.aload_n 0, 1) := dk_42 (dk_at dksX3_carryRow_1 20 rfl rfl)
theorem dX3_carryRow_43 : decode cX3_carryRow 43 = .ok (.dup, 1) := dk_89 (dk_at dksX3_carryRow_1 21 rfl rfl)
theorem dX3_carryRow_44 : decode cX3_carryRow 44 = .ok (.getfield 567, 3) := dk_180 2 55 (dk_at dksX3_carryRow_2 0 rfl rfl)
theorem dX3_carryRow_47 : decode cX3_carryRow 47 = .ok (.iconst 1, 1) := dk_4 (dk_at dksX3_carryRow_2 3 rfl rfl)
theorem dX3_carryRow_48 : decode cX3_carryRow 48 = .ok (.iadd, 1) := dk_96 (dk_at dksX3_carryRow_2 4 rfl rfl)
theorem dX3_carryRow_49 : decode cX3_carryRow 49 = .ok (.putfield 567, 3) := dk_181 2 55 (dk_at dksX3_carryRow_2 5 rfl rfl)
theorem dX3_carryRow_52 : decode cX3_carryRow 52 = .ok (.iinc 2 1, 3) := dk_132 2 1 (dk_at dksX3_carryRow_2 8 rfl rfl)
theorem dX3_carryRow_55 : decode cX3_carryRow 55 = .ok (.goto (-53), 3) := dk_167 255 203 (dk_at dksX3_carryRow_2 11 rfl rfl)
theorem dX3_carryRow_58 : decode cX3_carryRow 58 = .ok (.return_, 1) := dk_177 (dk_at dksX3_carryRow_2 14 rfl rfl)
abbrev cX3_goes : ByteArray := prog_17_method_68_code
def yX3_goes : MethodName := ⟨RX3, "goes", "(I)I"⟩
def dkwX3_goes_0 : List UInt8 := [3, 61, 3, 62, 29, 27, 162, 0, 16, 28, 42, 182, 1, 183, 96, 61, 132, 3, 1, 167, 255, 241, 28, 172]
abbrev dktX3_goes_0 : List UInt8 := dkwX3_goes_0 ++ []
theorem dksX3_goes_0 : cX3_goes.data.toList.drop 0 = dktX3_goes_0 := by decide +kernel
theorem dX3_goes_0 : decode cX3_goes 0 = .ok (.iconst 0, 1) := dk_3 (dk_at dksX3_goes_0 0 rfl rfl)
theorem dX3_goes_1 : decode cX3_goes 1 = .ok (.istore_n 2, 1) := dk_61 (dk_at dksX3_goes_0 1 rfl rfl)
theorem dX3_goes_2 : decode cX3_goes 2 = .ok (.iconst 0, 1) := dk_3 (dk_at dksX3_goes_0 2 rfl rfl)
theorem dX3_goes_3 : decode cX3_goes 3 = .ok (.istore_n 3, 1) := dk_62 (dk_at dksX3_goes_0 3 rfl rfl)
theorem dX3_goes_4 : decode cX3_goes 4 = .ok (.iload_n 3, 1) := dk_29 (dk_at dksX3_goes_0 4 rfl rfl)
theorem dX3_goes_5 : decode cX3_goes 5 = .ok (.iload_n 1, 1) := dk_27 (dk_at dksX3_goes_0 5 rfl rfl)
theorem dX3_goes_6 : decode cX3_goes 6 = .ok (.if_icmp .ge 16, 3) := dk_162 0 16 (dk_at dksX3_goes_0 6 rfl rfl)
theorem dX3_goes_9 : decode cX3_goes 9 = .ok (.iload_n 2, 1) := dk_28 (dk_at dksX3_goes_0 9 rfl rfl)
theorem dX3_goes_10 : decode cX3_goes 10 = .ok (.aload_n 0, 1) := dk_42 (dk_at dksX3_goes_0 10 rfl rfl)
theorem dX3_goes_11 : decode cX3_goes 11 = .ok (.invokevirtual 439, 3) := dk_182 1 183 (dk_at dksX3_goes_0 11 rfl rfl)
theorem dX3_goes_14 : decode cX3_goes 14 = .ok (.iadd, 1) := dk_96 (dk_at dksX3_goes_0 14 rfl rfl)
theorem dX3_goes_15 : decode cX3_goes 15 = .ok (.istore_n 2, 1) := dk_61 (dk_at dksX3_goes_0 15 rfl rfl)
theorem dX3_goes_16 : decode cX3_goes 16 = .ok (.iinc 3 1, 3) := dk_132 3 1 (dk_at dksX3_goes_0 16 rfl rfl)
theorem dX3_goes_19 : decode cX3_goes 19 = .ok (.goto (-15), 3) := dk_167 255 241 (dk_at dksX3_goes_0 19 rfl rfl)
theorem dX3_goes_22 : decode cX3_goes 22 = .ok (.iload_n 2, 1) := dk_28 (dk_at dksX3_goes_0 22 rfl rfl)
theorem dX3_goes_23 : decode cX3_goes 23 = .ok (.ireturn, 1) := dk_172 (dk_at dksX3_goes_0 23 rfl rfl)
abbrev cX3_villagesOn : ByteArray := prog_17_method_83_code
def yX3_villagesOn : MethodName := ⟨RX3, "villagesOn", "(I)I"⟩
def dkwX3_villagesOn_1 : List UInt8 := [4, 29, 120, 167, 0, 4, 3, 128, 61, 132, 3, 1, 167, 255, 224, 28, 172]
abbrev dktX3_villagesOn_1 : List UInt8 := dkwX3_villagesOn_1 ++ []
def dkwX3_villagesOn_0 : List UInt8 := [3, 61, 3, 62, 29, 42, 180, 0, 9, 5, 46, 162, 0, 28, 28, 42, 29, 182, 1, 138, 27, 160, 0, 9]
abbrev dktX3_villagesOn_0 : List UInt8 := dkwX3_villagesOn_0 ++ dktX3_villagesOn_1
theorem dksX3_villagesOn_0 : cX3_villagesOn.data.toList.drop 0 = dktX3_villagesOn_0 := by decide +kernel
theorem dksX3_villagesOn_1 : cX3_villagesOn.data.toList.drop 24 = dktX3_villagesOn_1 := dk_seg dksX3_villagesOn_0 24 rfl rfl
theorem dX3_villagesOn_0 : decode cX3_villagesOn 0 = .ok (.iconst 0, 1) := dk_3 (dk_at dksX3_villagesOn_0 0 rfl rfl)
theorem dX3_villagesOn_1 : decode cX3_villagesOn 1 = .ok (.istore_n 2, 1) := dk_61 (dk_at dksX3_villagesOn_0 1 rfl rfl)
theorem dX3_villagesOn_2 : decode cX3_villagesOn 2 = .ok (.iconst 0, 1) := dk_3 (dk_at dksX3_villagesOn_0 2 rfl rfl)
theorem dX3_villagesOn_3 : decode cX3_villagesOn 3 = .ok (.istore_n 3, 1) := dk_62 (dk_at dksX3_villagesOn_0 3 rfl rfl)
theorem dX3_villagesOn_4 : decode cX3_villagesOn 4 = .ok (.iload_n 3, 1) := dk_29 (dk_at dksX3_villagesOn_0 4 rfl rfl)
theorem dX3_villagesOn_5 : decode cX3_villagesOn 5 = .ok (.aload_n 0, 1) := dk_42 (dk_at dksX3_villagesOn_0 5 rfl rfl)
theorem dX3_villagesOn_6 : decode cX3_villagesOn 6 = .ok (.getfield 9, 3) := dk_180 0 9 (dk_at dksX3_villagesOn_0 6 rfl rfl)
theorem dX3_villagesOn_9 : decode cX3_villagesOn 9 = .ok (.iconst 2, 1) := dk_5 (dk_at dksX3_villagesOn_0 9 rfl rfl)
theorem dX3_villagesOn_10 : decode cX3_villagesOn 10 = .ok (.iaload, 1) := dk_46 (dk_at dksX3_villagesOn_0 10 rfl rfl)
theorem dX3_villagesOn_11 : decode cX3_villagesOn 11 = .ok (.if_icmp .ge 28, 3) := dk_162 0 28 (dk_at dksX3_villagesOn_0 11 rfl rfl)
theorem dX3_villagesOn_14 : decode cX3_villagesOn 14 = .ok (.iload_n 2, 1) := dk_28 (dk_at dksX3_villagesOn_0 14 rfl rfl)
theorem dX3_villagesOn_15 : decode cX3_villagesOn 15 = .ok (.aload_n 0, 1) := dk_42 (dk_at dksX3_villagesOn_0 15 rfl rfl)
theorem dX3_villagesOn_16 : decode cX3_villagesOn 16 = .ok (.iload_n 3, 1) := dk_29 (dk_at dksX3_villagesOn_0 16 rfl rfl)
theorem dX3_villagesOn_17 : decode cX3_villagesOn 17 = .ok (.invokevirtual 394, 3) := dk_182 1 138 (dk_at dksX3_villagesOn_0 17 rfl rfl)
theorem dX3_villagesOn_20 : decode cX3_villagesOn 20 = .ok (.iload_n 1, 1) := dk_27 (dk_at dksX3_villagesOn_0 20 rfl rfl)
theorem dX3_villagesOn_21 : decode cX3_villagesOn 21 = .ok (.if_icmp .ne 9, 3) := dk_160 0 9 (dk_at dksX3_villagesOn_0 21 rfl rfl)
theorem dX3_villagesOn_24 : decode cX3_villagesOn 24 = .ok (.iconst 1, 1) := dk_4 (dk_at dksX3_villagesOn_1 0 rfl rfl)
theorem dX3_villagesOn_25 : decode cX3_villagesOn 25 = .ok (.iload_n 3, 1) := dk_29 (dk_at dksX3_villagesOn_1 1 rfl rfl)
theorem dX3_villagesOn_26 : decode cX3_villagesOn 26 = .ok (.ishl, 1) := dk_120 (dk_at dksX3_villagesOn_1 2 rfl rfl)
theorem dX3_villagesOn_27 : decode cX3_villagesOn 27 = .ok (.goto 4, 3) := dk_167 0 4 (dk_at dksX3_villagesOn_1 3 rfl rfl)
theorem dX3_villagesOn_30 : decode cX3_villagesOn 30 = .ok (.iconst 0, 1) := dk_3 (dk_at dksX3_villagesOn_1 6 rfl rfl)
theorem dX3_villagesOn_31 : decode cX3_villagesOn 31 = .ok (.ior, 1) := dk_128 (dk_at dksX3_villagesOn_1 7 rfl rfl)
theorem dX3_villagesOn_32 : decode cX3_villagesOn 32 = .ok (.istore_n 2, 1) := dk_61 (dk_at dksX3_villagesOn_1 8 rfl rfl)
theorem dX3_villagesOn_33 : decode cX3_villagesOn 33 = .ok (.iinc 3 1, 3) := dk_132 3 1 (dk_at dksX3_villagesOn_1 9 rfl rfl)
theorem dX3_villagesOn_36 : decode cX3_villagesOn 36 = .ok (.goto (-32), 3) := dk_167 255 224 (dk_at dksX3_villagesOn_1 12 rfl rfl)
theorem dX3_villagesOn_39 : decode cX3_villagesOn 39 = .ok (.iload_n 2, 1) := dk_28 (dk_at dksX3_villagesOn_1 15 rfl rfl)
theorem dX3_villagesOn_40 : decode cX3_villagesOn 40 = .ok (.ireturn, 1) := dk_172 (dk_at dksX3_villagesOn_1 16 rfl rfl)
abbrev cX3_laysBack : ByteArray := prog_17_method_82_code
def yX3_laysBack : MethodName := ⟨RX3, "laysBack", "()V"⟩
def dkwX3_laysBack_0 : List UInt8 := [42, 7, 4, 182, 1, 219, 177]
abbrev dktX3_laysBack_0 : List UInt8 := dkwX3_laysBack_0 ++ []
theorem dksX3_laysBack_0 : cX3_laysBack.data.toList.drop 0 = dktX3_laysBack_0 := by decide +kernel
theorem dX3_laysBack_0 : decode cX3_laysBack 0 = .ok (.aload_n 0, 1) := dk_42 (dk_at dksX3_laysBack_0 0 rfl rfl)
theorem dX3_laysBack_1 : decode cX3_laysBack 1 = .ok (.iconst 4, 1) := dk_7 (dk_at dksX3_laysBack_0 1 rfl rfl)
theorem dX3_laysBack_2 : decode cX3_laysBack 2 = .ok (.iconst 1, 1) := dk_4 (dk_at dksX3_laysBack_0 2 rfl rfl)
theorem dX3_laysBack_3 : decode cX3_laysBack 3 = .ok (.invokevirtual 475, 3) := dk_182 1 219 (dk_at dksX3_laysBack_0 3 rfl rfl)
theorem dX3_laysBack_6 : decode cX3_laysBack 6 = .ok (.return_, 1) := dk_177 (dk_at dksX3_laysBack_0 6 rfl rfl)
abbrev cX3_crosses : ByteArray := prog_17_method_85_code
def yX3_crosses : MethodName := ⟨RX3, "crosses", "(I)I"⟩
def dkwX3_crosses_3 : List UInt8 := [132, 4, 1, 167, 255, 211, 42, 182, 1, 235, 29, 172]
abbrev dktX3_crosses_3 : List UInt8 := dkwX3_crosses_3 ++ []
def dkwX3_crosses_2 : List UInt8 := [180, 0, 34, 27, 46, 28, 164, 0, 14, 42, 180, 0, 9, 8, 46, 4, 100, 167, 0, 5, 16, 254, 62]
abbrev dktX3_crosses_2 : List UInt8 := dkwX3_crosses_2 ++ dktX3_crosses_3
def dkwX3_crosses_1 : List UInt8 := [3, 54, 4, 21, 4, 16, 60, 162, 0, 44, 29, 16, 254, 160, 0, 38, 42, 182, 1, 183, 87, 42]
abbrev dktX3_crosses_1 : List UInt8 := dkwX3_crosses_1 ++ dktX3_crosses_2
def dkwX3_crosses_0 : List UInt8 := [42, 27, 182, 1, 141, 154, 0, 5, 2, 172, 42, 182, 1, 226, 42, 180, 0, 34, 27, 46, 61, 16, 254, 62]
abbrev dktX3_crosses_0 : List UInt8 := dkwX3_crosses_0 ++ dktX3_crosses_1
theorem dksX3_crosses_0 : cX3_crosses.data.toList.drop 0 = dktX3_crosses_0 := by decide +kernel
theorem dksX3_crosses_1 : cX3_crosses.data.toList.drop 24 = dktX3_crosses_1 := dk_seg dksX3_crosses_0 24 rfl rfl
theorem dksX3_crosses_2 : cX3_crosses.data.toList.drop 46 = dktX3_crosses_2 := dk_seg dksX3_crosses_1 22 rfl rfl
theorem dksX3_crosses_3 : cX3_crosses.data.toList.drop 69 = dktX3_crosses_3 := dk_seg dksX3_crosses_2 23 rfl rfl
theorem dX3_crosses_0 : decode cX3_crosses 0 = .ok (.aload_n 0, 1) := dk_42 (dk_at dksX3_crosses_0 0 rfl rfl)
theorem dX3_crosses_1 : decode cX3_crosses 1 = .ok (.iload_n 1, 1) := dk_27 (dk_at dksX3_crosses_0 1 rfl rfl)
theorem dX3_crosses_2 : decode cX3_crosses 2 = .ok (.invokevirtual 397, 3) := dk_182 1 141 (dk_at dksX3_crosses_0 2 rfl rfl)
theorem dX3_crosses_5 : decode cX3_crosses 5 = .ok (.ifCond .ne 5, 3) := dk_154 0 5 (dk_at dksX3_crosses_0 5 rfl rfl)
theorem dX3_crosses_8 : decode cX3_crosses 8 = .ok (.iconst (-1), 1) := dk_2 (dk_at dksX3_crosses_0 8 rfl rfl)
theorem dX3_crosses_9 : decode cX3_crosses 9 = .ok (.ireturn, 1) := dk_172 (dk_at dksX3_crosses_0 9 rfl rfl)
theorem dX3_crosses_10 : decode cX3_crosses 10 = .ok (.aload_n 0, 1) := dk_42 (dk_at dksX3_crosses_0 10 rfl rfl)
theorem dX3_crosses_11 : decode cX3_crosses 11 = .ok (.invokevirtual 482, 3) := dk_182 1 226 (dk_at dksX3_crosses_0 11 rfl rfl)
theorem dX3_crosses_14 : decode cX3_crosses 14 = .ok (.aload_n 0, 1) := dk_42 (dk_at dksX3_crosses_0 14 rfl rfl)
theorem dX3_crosses_15 : decode cX3_crosses 15 = .ok (.getfield 34, 3) := dk_180 0 34 (dk_at dksX3_crosses_0 15 rfl rfl)
theorem dX3_crosses_18 : decode cX3_crosses 18 = .ok (.iload_n 1, 1) := dk_27 (dk_at dksX3_crosses_0 18 rfl rfl)
theorem dX3_crosses_19 : decode cX3_crosses 19 = .ok (.iaload, 1) := dk_46 (dk_at dksX3_crosses_0 19 rfl rfl)
theorem dX3_crosses_20 : decode cX3_crosses 20 = .ok (.istore_n 2, 1) := dk_61 (dk_at dksX3_crosses_0 20 rfl rfl)
theorem dX3_crosses_21 : decode cX3_crosses 21 = .ok (.bipush (-2), 2) := dk_16 254 (dk_at dksX3_crosses_0 21 rfl rfl)
theorem dX3_crosses_23 : decode cX3_crosses 23 = .ok (.istore_n 3, 1) := dk_62 (dk_at dksX3_crosses_0 23 rfl rfl)
theorem dX3_crosses_24 : decode cX3_crosses 24 = .ok (.iconst 0, 1) := dk_3 (dk_at dksX3_crosses_1 0 rfl rfl)
theorem dX3_crosses_25 : decode cX3_crosses 25 = .ok (.istore 4, 2) := dk_54 4 (dk_at dksX3_crosses_1 1 rfl rfl)
theorem dX3_crosses_27 : decode cX3_crosses 27 = .ok (.iload 4, 2) := dk_21 4 (dk_at dksX3_crosses_1 3 rfl rfl)
theorem dX3_crosses_29 : decode cX3_crosses 29 = .ok (.bipush 60, 2) := dk_16 60 (dk_at dksX3_crosses_1 5 rfl rfl)
theorem dX3_crosses_31 : decode cX3_crosses 31 = .ok (.if_icmp .ge 44, 3) := dk_162 0 44 (dk_at dksX3_crosses_1 7 rfl rfl)
theorem dX3_crosses_34 : decode cX3_crosses 34 = .ok (.iload_n 3, 1) := dk_29 (dk_at dksX3_crosses_1 10 rfl rfl)
theorem dX3_crosses_35 : decode cX3_crosses 35 = .ok (.bipush (-2), 2) := dk_16 254 (dk_at dksX3_crosses_1 11 rfl rfl)
theorem dX3_crosses_37 : decode cX3_crosses 37 = .ok (.if_icmp .ne 38, 3) := dk_160 0 38 (dk_at dksX3_crosses_1 13 rfl rfl)
theorem dX3_crosses_40 : decode cX3_crosses 40 = .ok (.aload_n 0, 1) := dk_42 (dk_at dksX3_crosses_1 16 rfl rfl)
theorem dX3_crosses_41 : decode cX3_crosses 41 = .ok (.invokevirtual 439, 3) := dk_182 1 183 (dk_at dksX3_crosses_1 17 rfl rfl)
theorem dX3_crosses_44 : decode cX3_crosses 44 = .ok (.pop, 1) := dk_87 (dk_at dksX3_crosses_1 20 rfl rfl)
theorem dX3_crosses_45 : decode cX3_crosses 45 = .ok (.aload_n 0, 1) := dk_42 (dk_at dksX3_crosses_1 21 rfl rfl)
theorem dX3_crosses_46 : decode cX3_crosses 46 = .ok (.getfield 34, 3) := dk_180 0 34 (dk_at dksX3_crosses_2 0 rfl rfl)
theorem dX3_crosses_49 : decode cX3_crosses 49 = .ok (.iload_n 1, 1) := dk_27 (dk_at dksX3_crosses_2 3 rfl rfl)
theorem dX3_crosses_50 : decode cX3_crosses 50 = .ok (.iaload, 1) := dk_46 (dk_at dksX3_crosses_2 4 rfl rfl)
theorem dX3_crosses_51 : decode cX3_crosses 51 = .ok (.iload_n 2, 1) := dk_28 (dk_at dksX3_crosses_2 5 rfl rfl)
theorem dX3_crosses_52 : decode cX3_crosses 52 = .ok (.if_icmp .le 14, 3) := dk_164 0 14 (dk_at dksX3_crosses_2 6 rfl rfl)
theorem dX3_crosses_55 : decode cX3_crosses 55 = .ok (.aload_n 0, 1) := dk_42 (dk_at dksX3_crosses_2 9 rfl rfl)
theorem dX3_crosses_56 : decode cX3_crosses 56 = .ok (.getfield 9, 3) := dk_180 0 9 (dk_at dksX3_crosses_2 10 rfl rfl)
theorem dX3_crosses_59 : decode cX3_crosses 59 = .ok (.iconst 5, 1) := dk_8 (dk_at dksX3_crosses_2 13 rfl rfl)
theorem dX3_crosses_60 : decode cX3_crosses 60 = .ok (.iaload, 1) := dk_46 (dk_at dksX3_crosses_2 14 rfl rfl)
theorem dX3_crosses_61 : decode cX3_crosses 61 = .ok (.iconst 1, 1) := dk_4 (dk_at dksX3_crosses_2 15 rfl rfl)
theorem dX3_crosses_62 : decode cX3_crosses 62 = .ok (.isub, 1) := dk_100 (dk_at dksX3_crosses_2 16 rfl rfl)
theorem dX3_crosses_63 : decode cX3_crosses 63 = .ok (.goto 5, 3) := dk_167 0 5 (dk_at dksX3_crosses_2 17 rfl rfl)
theorem dX3_crosses_66 : decode cX3_crosses 66 = .ok (.bipush (-2), 2) := dk_16 254 (dk_at dksX3_crosses_2 20 rfl rfl)
theorem dX3_crosses_68 : decode cX3_crosses 68 = .ok (.istore_n 3, 1) := dk_62 (dk_at dksX3_crosses_2 22 rfl rfl)
theorem dX3_crosses_69 : decode cX3_crosses 69 = .ok (.iinc 4 1, 3) := dk_132 4 1 (dk_at dksX3_crosses_3 0 rfl rfl)
theorem dX3_crosses_72 : decode cX3_crosses 72 = .ok (.goto (-45), 3) := dk_167 255 211 (dk_at dksX3_crosses_3 3 rfl rfl)
theorem dX3_crosses_75 : decode cX3_crosses 75 = .ok (.aload_n 0, 1) := dk_42 (dk_at dksX3_crosses_3 6 rfl rfl)
theorem dX3_crosses_76 : decode cX3_crosses 76 = .ok (.invokevirtual 491, 3) := dk_182 1 235 (dk_at dksX3_crosses_3 7 rfl rfl)
theorem dX3_crosses_79 : decode cX3_crosses 79 = .ok (.iload_n 3, 1) := dk_29 (dk_at dksX3_crosses_3 10 rfl rfl)
theorem dX3_crosses_80 : decode cX3_crosses 80 = .ok (.ireturn, 1) := dk_172 (dk_at dksX3_crosses_3 11 rfl rfl)
abbrev cX3_push : ByteArray := prog_17_method_89_code
def yX3_push : MethodName := ⟨RX3, "push", "(II)I"⟩
def dkwX3_push_3 : List UInt8 := [167, 0, 5, 16, 254, 172]
abbrev dktX3_push_3 : List UInt8 := dkwX3_push_3 ++ []
def dkwX3_push_2 : List UInt8 := [16, 254, 172, 28, 154, 0, 7, 29, 167, 0, 21, 28, 27, 163, 0, 14, 42, 180, 0, 139, 28, 4, 100, 46]
abbrev dktX3_push_2 : List UInt8 := dkwX3_push_2 ++ dktX3_push_3
def dkwX3_push_1 : List UInt8 := [20, 1, 212, 184, 0, 170, 154, 0, 6, 16, 253, 172, 42, 27, 182, 1, 244, 62, 29, 2, 160, 0, 6]
abbrev dktX3_push_1 : List UInt8 := dkwX3_push_1 ++ dktX3_push_2
def dkwX3_push_0 : List UInt8 := [42, 182, 1, 144, 153, 0, 27, 27, 133, 10, 20, 1, 212, 184, 0, 170, 153, 0, 15, 28, 133, 9]
abbrev dktX3_push_0 : List UInt8 := dkwX3_push_0 ++ dktX3_push_1
theorem dksX3_push_0 : cX3_push.data.toList.drop 0 = dktX3_push_0 := by decide +kernel
theorem dksX3_push_1 : cX3_push.data.toList.drop 22 = dktX3_push_1 := dk_seg dksX3_push_0 22 rfl rfl
theorem dksX3_push_2 : cX3_push.data.toList.drop 45 = dktX3_push_2 := dk_seg dksX3_push_1 23 rfl rfl
theorem dksX3_push_3 : cX3_push.data.toList.drop 69 = dktX3_push_3 := dk_seg dksX3_push_2 24 rfl rfl
theorem dX3_push_0 : decode cX3_push 0 = .ok (.aload_n 0, 1) := dk_42 (dk_at dksX3_push_0 0 rfl rfl)
theorem dX3_push_1 : decode cX3_push 1 = .ok (.invokevirtual 400, 3) := dk_182 1 144 (dk_at dksX3_push_0 1 rfl rfl)
theorem dX3_push_4 : decode cX3_push 4 = .ok (.ifCond .eq 27, 3) := dk_153 0 27 (dk_at dksX3_push_0 4 rfl rfl)
theorem dX3_push_7 : decode cX3_push 7 = .ok (.iload_n 1, 1) := dk_27 (dk_at dksX3_push_0 7 rfl rfl)
theorem dX3_push_8 : decode cX3_push 8 = .ok (.i2l, 1) := dk_133 (dk_at dksX3_push_0 8 rfl rfl)
theorem dX3_push_9 : decode cX3_push 9 = .ok (.lconst 1, 1) := dk_10 (dk_at dksX3_push_0 9 rfl rfl)
theorem dX3_push_10 : decode cX3_push 10 = .ok (.ldc2_w 468, 3) := dk_20 1 212 (dk_at dksX3_push_0 10 rfl rfl)
theorem dX3_push_13 : decode cX3_push 13 = .ok (.invokestatic 170, 3) := dk_184 0 170 (dk_at dksX3_push_0 13 rfl rfl)
theorem dX3_push_16 : decode cX3_push 16 = .ok (.ifCond .eq 15, 3) := dk_153 0 15 (dk_at dksX3_push_0 16 rfl rfl)
theorem dX3_push_19 : decode cX3_push 19 = .ok (.iload_n 2, 1) := dk_28 (dk_at dksX3_push_0 19 rfl rfl)
theorem dX3_push_20 : decode cX3_push 20 = .ok (.i2l, 1) := dk_133 (dk_at dksX3_push_0 20 rfl rfl)
theorem dX3_push_21 : decode cX3_push 21 = .ok (.lconst 0, 1) := dk_9 (dk_at dksX3_push_0 21 rfl rfl)
theorem dX3_push_22 : decode cX3_push 22 = .ok (.ldc2_w 468, 3) := dk_20 1 212 (dk_at dksX3_push_1 0 rfl rfl)
theorem dX3_push_25 : decode cX3_push 25 = .ok (.invokestatic 170, 3) := dk_184 0 170 (dk_at dksX3_push_1 3 rfl rfl)
theorem dX3_push_28 : decode cX3_push 28 = .ok (.ifCond .ne 6, 3) := dk_154 0 6 (dk_at dksX3_push_1 6 rfl rfl)
theorem dX3_push_31 : decode cX3_push 31 = .ok (.bipush (-3), 2) := dk_16 253 (dk_at dksX3_push_1 9 rfl rfl)
theorem dX3_push_33 : decode cX3_push 33 = .ok (.ireturn, 1) := dk_172 (dk_at dksX3_push_1 11 rfl rfl)
theorem dX3_push_34 : decode cX3_push 34 = .ok (.aload_n 0, 1) := dk_42 (dk_at dksX3_push_1 12 rfl rfl)
theorem dX3_push_35 : decode cX3_push 35 = .ok (.iload_n 1, 1) := dk_27 (dk_at dksX3_push_1 13 rfl rfl)
theorem dX3_push_36 : decode cX3_push 36 = .ok (.invokevirtual 500, 3) := dk_182 1 244 (dk_at dksX3_push_1 14 rfl rfl)
theorem dX3_push_39 : decode cX3_push 39 = .ok (.istore_n 3, 1) := dk_62 (dk_at dksX3_push_1 17 rfl rfl)
theorem dX3_push_40 : decode cX3_push 40 = .ok (.iload_n 3, 1) := dk_29 (dk_at dksX3_push_1 18 rfl rfl)
theorem dX3_push_41 : decode cX3_push 41 = .ok (.iconst (-1), 1) := dk_2 (dk_at dksX3_push_1 19 rfl rfl)
theorem dX3_push_42 : decode cX3_push 42 = .ok (.if_icmp .ne 6, 3) := dk_160 0 6 (dk_at dksX3_push_1 20 rfl rfl)
theorem dX3_push_45 : decode cX3_push 45 = .ok (.bipush (-2), 2) := dk_16 254 (dk_at dksX3_push_2 0 rfl rfl)
theorem dX3_push_47 : decode cX3_push 47 = .ok (.ireturn, 1) := dk_172 (dk_at dksX3_push_2 2 rfl rfl)
theorem dX3_push_48 : decode cX3_push 48 = .ok (.iload_n 2, 1) := dk_28 (dk_at dksX3_push_2 3 rfl rfl)
theorem dX3_push_49 : decode cX3_push 49 = .ok (.ifCond .ne 7, 3) := dk_154 0 7 (dk_at dksX3_push_2 4 rfl rfl)
theorem dX3_push_52 : decode cX3_push 52 = .ok (.iload_n 3, 1) := dk_29 (dk_at dksX3_push_2 7 rfl rfl)
theorem dX3_push_53 : decode cX3_push 53 = .ok (.goto 21, 3) := dk_167 0 21 (dk_at dksX3_push_2 8 rfl rfl)
theorem dX3_push_56 : decode cX3_push 56 = .ok (.iload_n 2, 1) := dk_28 (dk_at dksX3_push_2 11 rfl rfl)
theorem dX3_push_57 : decode cX3_push 57 = .ok (.iload_n 1, 1) := dk_27 (dk_at dksX3_push_2 12 rfl rfl)
theorem dX3_push_58 : decode cX3_push 58 = .ok (.if_icmp .gt 14, 3) := dk_163 0 14 (dk_at dksX3_push_2 13 rfl rfl)
theorem dX3_push_61 : decode cX3_push 61 = .ok (.aload_n 0, 1) := dk_42 (dk_at dksX3_push_2 16 rfl rfl)
theorem dX3_push_62 : decode cX3_push 62 = .ok (.getfield 139, 3) := dk_180 0 139 (dk_at dksX3_push_2 17 rfl rfl)
theorem dX3_push_65 : decode cX3_push 65 = .ok (.iload_n 2, 1) := dk_28 (dk_at dksX3_push_2 20 rfl rfl)
theorem dX3_push_66 : decode cX3_push 66 = .ok (.iconst 1, 1) := dk_4 (dk_at dksX3_push_2 21 rfl rfl)
theorem dX3_push_67 : decode cX3_push 67 = .ok (.isub, 1) := dk_100 (dk_at dksX3_push_2 22 rfl rfl)
theorem dX3_push_68 : decode cX3_push 68 = .ok (.iaload, 1) := dk_46 (dk_at dksX3_push_2 23 rfl rfl)
theorem dX3_push_69 : decode cX3_push 69 = .ok (.goto 5, 3) := dk_167 0 5 (dk_at dksX3_push_3 0 rfl rfl)
theorem dX3_push_72 : decode cX3_push 72 = .ok (.bipush (-2), 2) := dk_16 254 (dk_at dksX3_push_3 3 rfl rfl)
theorem dX3_push_74 : decode cX3_push 74 = .ok (.ireturn, 1) := dk_172 (dk_at dksX3_push_3 5 rfl rfl)
abbrev cX3_findsPush : ByteArray := prog_17_method_88_code
def yX3_findsPush : MethodName := ⟨RX3, "findsPush", "(I)I"⟩
def dkwX3_findsPush_6 : List UInt8 := [172]
abbrev dktX3_findsPush_6 : List UInt8 := dkwX3_findsPush_6 ++ []
def dkwX3_findsPush_5 : List UInt8 := [162, 0, 17, 21, 7, 61, 42, 180, 0, 136, 42, 180, 0, 139, 184, 1, 101, 132, 5, 1, 167, 255, 165, 28]
abbrev dktX3_findsPush_5 : List UInt8 := dkwX3_findsPush_5 ++ dktX3_findsPush_6
def dkwX3_findsPush_4 : List UInt8 := [182, 1, 241, 54, 7, 42, 182, 1, 235, 21, 7, 2, 159, 0, 28, 28, 2, 159, 0, 9, 21, 7, 28]
abbrev dktX3_findsPush_4 : List UInt8 := dkwX3_findsPush_4 ++ dktX3_findsPush_5
def dkwX3_findsPush_3 : List UInt8 := [21, 7, 21, 6, 29, 112, 4, 100, 79, 21, 6, 29, 108, 54, 6, 132, 7, 255, 167, 255, 229, 42, 27]
abbrev dktX3_findsPush_3 : List UInt8 := dkwX3_findsPush_3 ++ dktX3_findsPush_4
def dkwX3_findsPush_2 : List UInt8 := [21, 4, 162, 0, 90, 21, 5, 54, 6, 27, 4, 100, 54, 7, 21, 7, 155, 0, 28, 42, 180, 0, 136]
abbrev dktX3_findsPush_2 : List UInt8 := dkwX3_findsPush_2 ++ dktX3_findsPush_3
def dkwX3_findsPush_1 : List UInt8 := [162, 0, 15, 21, 4, 29, 104, 54, 4, 132, 5, 1, 167, 255, 241, 42, 182, 1, 226, 3, 54, 5, 21, 5]
abbrev dktX3_findsPush_1 : List UInt8 := dkwX3_findsPush_1 ++ dktX3_findsPush_2
def dkwX3_findsPush_0 : List UInt8 := [2, 61, 5, 42, 180, 0, 9, 3, 46, 104, 4, 96, 62, 4, 54, 4, 3, 54, 5, 21, 5, 27]
abbrev dktX3_findsPush_0 : List UInt8 := dkwX3_findsPush_0 ++ dktX3_findsPush_1
theorem dksX3_findsPush_0 : cX3_findsPush.data.toList.drop 0 = dktX3_findsPush_0 := by decide +kernel
theorem dksX3_findsPush_1 : cX3_findsPush.data.toList.drop 22 = dktX3_findsPush_1 := dk_seg dksX3_findsPush_0 22 rfl rfl
theorem dksX3_findsPush_2 : cX3_findsPush.data.toList.drop 46 = dktX3_findsPush_2 := dk_seg dksX3_findsPush_1 24 rfl rfl
theorem dksX3_findsPush_3 : cX3_findsPush.data.toList.drop 69 = dktX3_findsPush_3 := dk_seg dksX3_findsPush_2 23 rfl rfl
theorem dksX3_findsPush_4 : cX3_findsPush.data.toList.drop 92 = dktX3_findsPush_4 := dk_seg dksX3_findsPush_3 23 rfl rfl
theorem dksX3_findsPush_5 : cX3_findsPush.data.toList.drop 115 = dktX3_findsPush_5 := dk_seg dksX3_findsPush_4 23 rfl rfl
theorem dksX3_findsPush_6 : cX3_findsPush.data.toList.drop 139 = dktX3_findsPush_6 := dk_seg dksX3_findsPush_5 24 rfl rfl
theorem dX3_findsPush_0 : decode cX3_findsPush 0 = .ok (.iconst (-1), 1) := dk_2 (dk_at dksX3_findsPush_0 0 rfl rfl)
theorem dX3_findsPush_1 : decode cX3_findsPush 1 = .ok (.istore_n 2, 1) := dk_61 (dk_at dksX3_findsPush_0 1 rfl rfl)
theorem dX3_findsPush_2 : decode cX3_findsPush 2 = .ok (.iconst 2, 1) := dk_5 (dk_at dksX3_findsPush_0 2 rfl rfl)
theorem dX3_findsPush_3 : decode cX3_findsPush 3 = .ok (.aload_n 0, 1) := dk_42 (dk_at dksX3_findsPush_0 3 rfl rfl)
theorem dX3_findsPush_4 : decode cX3_findsPush 4 = .ok (.getfield 9, 3) := dk_180 0 9 (dk_at dksX3_findsPush_0 4 rfl rfl)
theorem dX3_findsPush_7 : decode cX3_findsPush 7 = .ok (.iconst 0, 1) := dk_3 (dk_at dksX3_findsPush_0 7 rfl rfl)
theorem dX3_findsPush_8 : decode cX3_findsPush 8 = .ok (.iaload, 1) := dk_46 (dk_at dksX3_findsPush_0 8 rfl rfl)
theorem dX3_findsPush_9 : decode cX3_findsPush 9 = .ok (.imul, 1) := dk_104 (dk_at dksX3_findsPush_0 9 rfl rfl)
theorem dX3_findsPush_10 : decode cX3_findsPush 10 = .ok (.iconst 1, 1) := dk_4 (dk_at dksX3_findsPush_0 10 rfl rfl)
theorem dX3_findsPush_11 : decode cX3_findsPush 11 = .ok (.iadd, 1) := dk_96 (dk_at dksX3_findsPush_0 11 rfl rfl)
theorem dX3_findsPush_12 : decode cX3_findsPush 12 = .ok (.istore_n 3, 1) := dk_62 (dk_at dksX3_findsPush_0 12 rfl rfl)
theorem dX3_findsPush_13 : decode cX3_findsPush 13 = .ok (.iconst 1, 1) := dk_4 (dk_at dksX3_findsPush_0 13 rfl rfl)
theorem dX3_findsPush_14 : decode cX3_findsPush 14 = .ok (.istore 4, 2) := dk_54 4 (dk_at dksX3_findsPush_0 14 rfl rfl)
theorem dX3_findsPush_16 : decode cX3_findsPush 16 = .ok (.iconst 0, 1) := dk_3 (dk_at dksX3_findsPush_0 16 rfl rfl)
theorem dX3_findsPush_17 : decode cX3_findsPush 17 = .ok (.istore 5, 2) := dk_54 5 (dk_at dksX3_findsPush_0 17 rfl rfl)
theorem dX3_findsPush_19 : decode cX3_findsPush 19 = .ok (.iload 5, 2) := dk_21 5 (dk_at dksX3_findsPush_0 19 rfl rfl)
theorem dX3_findsPush_21 : decode cX3_findsPush 21 = .ok (.iload_n 1, 1) := dk_27 (dk_at dksX3_findsPush_0 21 rfl rfl)
theorem dX3_findsPush_22 : decode cX3_findsPush 22 = .ok (.if_icmp .ge 15, 3) := dk_162 0 15 (dk_at dksX3_findsPush_1 0 rfl rfl)
theorem dX3_findsPush_25 : decode cX3_findsPush 25 = .ok (.iload 4, 2) := dk_21 4 (dk_at dksX3_findsPush_1 3 rfl rfl)
theorem dX3_findsPush_27 : decode cX3_findsPush 27 = .ok (.iload_n 3, 1) := dk_29 (dk_at dksX3_findsPush_1 5 rfl rfl)
theorem dX3_findsPush_28 : decode cX3_findsPush 28 = .ok (.imul, 1) := dk_104 (dk_at dksX3_findsPush_1 6 rfl rfl)
theorem dX3_findsPush_29 : decode cX3_findsPush 29 = .ok (.istore 4, 2) := dk_54 4 (dk_at dksX3_findsPush_1 7 rfl rfl)
theorem dX3_findsPush_31 : decode cX3_findsPush 31 = .ok (.iinc 5 1, 3) := dk_132 5 1 (dk_at dksX3_findsPush_1 9 rfl rfl)
theorem dX3_findsPush_34 : decode cX3_findsPush 34 = .ok (.goto (-15), 3) := dk_167 255 241 (dk_at dksX3_findsPush_1 12 rfl rfl)
theorem dX3_findsPush_37 : decode cX3_findsPush 37 = .ok (.aload_n 0, 1) := dk_42 (dk_at dksX3_findsPush_1 15 rfl rfl)
theorem dX3_findsPush_38 : decode cX3_findsPush 38 = .ok (.invokevirtual 482, 3) := dk_182 1 226 (dk_at dksX3_findsPush_1 16 rfl rfl)
theorem dX3_findsPush_41 : decode cX3_findsPush 41 = .ok (.iconst 0, 1) := dk_3 (dk_at dksX3_findsPush_1 19 rfl rfl)
theorem dX3_findsPush_42 : decode cX3_findsPush 42 = .ok (.istore 5, 2) := dk_54 5 (dk_at dksX3_findsPush_1 20 rfl rfl)
theorem dX3_findsPush_44 : decode cX3_findsPush 44 = .ok (.iload 5, 2) := dk_21 5 (dk_at dksX3_findsPush_1 22 rfl rfl)
theorem dX3_findsPush_46 : decode cX3_findsPush 46 = .ok (.iload 4, 2) := dk_21 4 (dk_at dksX3_findsPush_2 0 rfl rfl)
theorem dX3_findsPush_48 : decode cX3_findsPush 48 = .ok (.if_icmp .ge 90, 3) := dk_162 0 90 (dk_at dksX3_findsPush_2 2 rfl rfl)
theorem dX3_findsPush_51 : decode cX3_findsPush 51 = .ok (.iload 5, 2) := dk_21 5 (dk_at dksX3_findsPush_2 5 rfl rfl)
theorem dX3_findsPush_53 : decode cX3_findsPush 53 = .ok (.istore 6, 2) := dk_54 6 (dk_at dksX3_findsPush_2 7 rfl rfl)
theorem dX3_findsPush_55 : decode cX3_findsPush 55 = .ok (.iload_n 1, 1) := dk_27 (dk_at dksX3_findsPush_2 9 rfl rfl)
theorem dX3_findsPush_56 : decode cX3_findsPush 56 = .ok (.iconst 1, 1) := dk_4 (dk_at dksX3_findsPush_2 10 rfl rfl)
theorem dX3_findsPush_57 : decode cX3_findsPush 57 = .ok (.isub, 1) := dk_100 (dk_at dksX3_findsPush_2 11 rfl rfl)
theorem dX3_findsPush_58 : decode cX3_findsPush 58 = .ok (.istore 7, 2) := dk_54 7 (dk_at dksX3_findsPush_2 12 rfl rfl)
theorem dX3_findsPush_60 : decode cX3_findsPush 60 = .ok (.iload 7, 2) := dk_21 7 (dk_at dksX3_findsPush_2 14 rfl rfl)
theorem dX3_findsPush_62 : decode cX3_findsPush 62 = .ok (.ifCond .lt 28, 3) := dk_155 0 28 (dk_at dksX3_findsPush_2 16 rfl rfl)
theorem dX3_findsPush_65 : decode cX3_findsPush 65 = .ok (.aload_n 0, 1) := dk_42 (dk_at dksX3_findsPush_2 19 rfl rfl)
theorem dX3_findsPush_66 : decode cX3_findsPush 66 = .ok (.getfield 136, 3) := dk_180 0 136 (dk_at dksX3_findsPush_2 20 rfl rfl)
theorem dX3_findsPush_69 : decode cX3_findsPush 69 = .ok (.iload 7, 2) := dk_21 7 (dk_at dksX3_findsPush_3 0 rfl rfl)
theorem dX3_findsPush_71 : decode cX3_findsPush 71 = .ok (.iload 6, 2) := dk_21 6 (dk_at dksX3_findsPush_3 2 rfl rfl)
theorem dX3_findsPush_73 : decode cX3_findsPush 73 = .ok (.iload_n 3, 1) := dk_29 (dk_at dksX3_findsPush_3 4 rfl rfl)
theorem dX3_findsPush_74 : decode cX3_findsPush 74 = .ok (.irem, 1) := dk_112 (dk_at dksX3_findsPush_3 5 rfl rfl)
theorem dX3_findsPush_75 : decode cX3_findsPush 75 = .ok (.iconst 1, 1) := dk_4 (dk_at dksX3_findsPush_3 6 rfl rfl)
theorem dX3_findsPush_76 : decode cX3_findsPush 76 = .ok (.isub, 1) := dk_100 (dk_at dksX3_findsPush_3 7 rfl rfl)
theorem dX3_findsPush_77 : decode cX3_findsPush 77 = .ok (.iastore, 1) := dk_79 (dk_at dksX3_findsPush_3 8 rfl rfl)
theorem dX3_findsPush_78 : decode cX3_findsPush 78 = .ok (.iload 6, 2) := dk_21 6 (dk_at dksX3_findsPush_3 9 rfl rfl)
theorem dX3_findsPush_80 : decode cX3_findsPush 80 = .ok (.iload_n 3, 1) := dk_29 (dk_at dksX3_findsPush_3 11 rfl rfl)
theorem dX3_findsPush_81 : decode cX3_findsPush 81 = .ok (.idiv, 1) := dk_108 (dk_at dksX3_findsPush_3 12 rfl rfl)
theorem dX3_findsPush_82 : decode cX3_findsPush 82 = .ok (.istore 6, 2) := dk_54 6 (dk_at dksX3_findsPush_3 13 rfl rfl)
theorem dX3_findsPush_84 : decode cX3_findsPush 84 = .ok (.iinc 7 (-1), 3) := dk_132 7 255 (dk_at dksX3_findsPush_3 15 rfl rfl)
theorem dX3_findsPush_87 : decode cX3_findsPush 87 = .ok (.goto (-27), 3) := dk_167 255 229 (dk_at dksX3_findsPush_3 18 rfl rfl)
theorem dX3_findsPush_90 : decode cX3_findsPush 90 = .ok (.aload_n 0, 1) := dk_42 (dk_at dksX3_findsPush_3 21 rfl rfl)
theorem dX3_findsPush_91 : decode cX3_findsPush 91 = .ok (.iload_n 1, 1) := dk_27 (dk_at dksX3_findsPush_3 22 rfl rfl)
theorem dX3_findsPush_92 : decode cX3_findsPush 92 = .ok (.invokevirtual 497, 3) := dk_182 1 241 (dk_at dksX3_findsPush_4 0 rfl rfl)
theorem dX3_findsPush_95 : decode cX3_findsPush 95 = .ok (.istore 7, 2) := dk_54 7 (dk_at dksX3_findsPush_4 3 rfl rfl)
theorem dX3_findsPush_97 : decode cX3_findsPush 97 = .ok (.aload_n 0, 1) := dk_42 (dk_at dksX3_findsPush_4 5 rfl rfl)
theorem dX3_findsPush_98 : decode cX3_findsPush 98 = .ok (.invokevirtual 491, 3) := dk_182 1 235 (dk_at dksX3_findsPush_4 6 rfl rfl)
theorem dX3_findsPush_101 : decode cX3_findsPush 101 = .ok (.iload 7, 2) := dk_21 7 (dk_at dksX3_findsPush_4 9 rfl rfl)
theorem dX3_findsPush_103 : decode cX3_findsPush 103 = .ok (.iconst (-1), 1) := dk_2 (dk_at dksX3_findsPush_4 11 rfl rfl)
theorem dX3_findsPush_104 : decode cX3_findsPush 104 = .ok (.if_icmp .eq 28, 3) := dk_159 0 28 (dk_at dksX3_findsPush_4 12 rfl rfl)
theorem dX3_findsPush_107 : decode cX3_findsPush 107 = .ok (.iload_n 2, 1) := dk_28 (dk_at dksX3_findsPush_4 15 rfl rfl)
theorem dX3_findsPush_108 : decode cX3_findsPush 108 = .ok (.iconst (-1), 1) := dk_2 (dk_at dksX3_findsPush_4 16 rfl rfl)
theorem dX3_findsPush_109 : decode cX3_findsPush 109 = .ok (.if_icmp .eq 9, 3) := dk_159 0 9 (dk_at dksX3_findsPush_4 17 rfl rfl)
theorem dX3_findsPush_112 : decode cX3_findsPush 112 = .ok (.iload 7, 2) := dk_21 7 (dk_at dksX3_findsPush_4 20 rfl rfl)
theorem dX3_findsPush_114 : decode cX3_findsPush 114 = .ok (.iload_n 2, 1) := dk_28 (dk_at dksX3_findsPush_4 22 rfl rfl)
theorem dX3_findsPush_115 : decode cX3_findsPush 115 = .ok (.if_icmp .ge 17, 3) := dk_162 0 17 (dk_at dksX3_findsPush_5 0 rfl rfl)
theorem dX3_findsPush_118 : decode cX3_findsPush 118 = .ok (.iload 7, 2) := dk_21 7 (dk_at dksX3_findsPush_5 3 rfl rfl)
theorem dX3_findsPush_120 : decode cX3_findsPush 120 = .ok (.istore_n 2, 1) := dk_61 (dk_at dksX3_findsPush_5 5 rfl rfl)
theorem dX3_findsPush_121 : decode cX3_findsPush 121 = .ok (.aload_n 0, 1) := dk_42 (dk_at dksX3_findsPush_5 6 rfl rfl)
theorem dX3_findsPush_122 : decode cX3_findsPush 122 = .ok (.getfield 136, 3) := dk_180 0 136 (dk_at dksX3_findsPush_5 7 rfl rfl)
theorem dX3_findsPush_125 : decode cX3_findsPush 125 = .ok (.aload_n 0, 1) := dk_42 (dk_at dksX3_findsPush_5 10 rfl rfl)
theorem dX3_findsPush_126 : decode cX3_findsPush 126 = .ok (.getfield 139, 3) := dk_180 0 139 (dk_at dksX3_findsPush_5 11 rfl rfl)
theorem dX3_findsPush_129 : decode cX3_findsPush 129 = .ok (.invokestatic 357, 3) := dk_184 1 101 (dk_at dksX3_findsPush_5 14 rfl rfl)
theorem dX3_findsPush_132 : decode cX3_findsPush 132 = .ok (.iinc 5 1, 3) := dk_132 5 1 (dk_at dksX3_findsPush_5 17 rfl rfl)
theorem dX3_findsPush_135 : decode cX3_findsPush 135 = .ok (.goto (-91), 3) := dk_167 255 165 (dk_at dksX3_findsPush_5 20 rfl rfl)
theorem dX3_findsPush_138 : decode cX3_findsPush 138 = .ok (.iload_n 2, 1) := dk_28 (dk_at dksX3_findsPush_5 23 rfl rfl)
theorem dX3_findsPush_139 : decode cX3_findsPush 139 = .ok (.ireturn, 1) := dk_172 (dk_at dksX3_findsPush_6 0 rfl rfl)
abbrev cX3_pushesBy : ByteArray := prog_17_method_87_code
def yX3_pushesBy : MethodName := ⟨RX3, "pushesBy", "(I)I"⟩
def dkwX3_pushesBy_4 : List UInt8 := [153, 0, 7, 28, 167, 0, 4, 2, 172]
abbrev dktX3_pushesBy_4 : List UInt8 := dkwX3_pushesBy_4 ++ []
def dkwX3_pushesBy_3 : List UInt8 := [132, 2, 1, 42, 182, 1, 183, 87, 132, 4, 1, 167, 255, 181, 29, 153, 0, 14, 42, 182, 1, 238]
abbrev dktX3_pushesBy_3 : List UInt8 := dkwX3_pushesBy_3 ++ dktX3_pushesBy_4
def dkwX3_pushesBy_2 : List UInt8 := [62, 42, 21, 5, 5, 108, 21, 5, 5, 112, 4, 160, 0, 7, 5, 167, 0, 5, 16, 254, 182, 1, 214]
abbrev dktX3_pushesBy_2 : List UInt8 := dkwX3_pushesBy_2 ++ dktX3_pushesBy_3
def dkwX3_pushesBy_1 : List UInt8 := [54, 5, 21, 5, 2, 159, 0, 45, 42, 21, 5, 5, 108, 182, 0, 182, 154, 0, 7, 4, 167, 0, 4, 3]
abbrev dktX3_pushesBy_1 : List UInt8 := dkwX3_pushesBy_1 ++ dktX3_pushesBy_2
def dkwX3_pushesBy_0 : List UInt8 := [3, 61, 4, 62, 3, 54, 4, 21, 4, 27, 162, 0, 75, 29, 153, 0, 71, 42, 180, 0, 136, 21, 4, 46]
abbrev dktX3_pushesBy_0 : List UInt8 := dkwX3_pushesBy_0 ++ dktX3_pushesBy_1
theorem dksX3_pushesBy_0 : cX3_pushesBy.data.toList.drop 0 = dktX3_pushesBy_0 := by decide +kernel
theorem dksX3_pushesBy_1 : cX3_pushesBy.data.toList.drop 24 = dktX3_pushesBy_1 := dk_seg dksX3_pushesBy_0 24 rfl rfl
theorem dksX3_pushesBy_2 : cX3_pushesBy.data.toList.drop 48 = dktX3_pushesBy_2 := dk_seg dksX3_pushesBy_1 24 rfl rfl
theorem dksX3_pushesBy_3 : cX3_pushesBy.data.toList.drop 71 = dktX3_pushesBy_3 := dk_seg dksX3_pushesBy_2 23 rfl rfl
theorem dksX3_pushesBy_4 : cX3_pushesBy.data.toList.drop 93 = dktX3_pushesBy_4 := dk_seg dksX3_pushesBy_3 22 rfl rfl
theorem dX3_pushesBy_0 : decode cX3_pushesBy 0 = .ok (.iconst 0, 1) := dk_3 (dk_at dksX3_pushesBy_0 0 rfl rfl)
theorem dX3_pushesBy_1 : decode cX3_pushesBy 1 = .ok (.istore_n 2, 1) := dk_61 (dk_at dksX3_pushesBy_0 1 rfl rfl)
theorem dX3_pushesBy_2 : decode cX3_pushesBy 2 = .ok (.iconst 1, 1) := dk_4 (dk_at dksX3_pushesBy_0 2 rfl rfl)
theorem dX3_pushesBy_3 : decode cX3_pushesBy 3 = .ok (.istore_n 3, 1) := dk_62 (dk_at dksX3_pushesBy_0 3 rfl rfl)
theorem dX3_pushesBy_4 : decode cX3_pushesBy 4 = .ok (.iconst 0, 1) := dk_3 (dk_at dksX3_pushesBy_0 4 rfl rfl)
theorem dX3_pushesBy_5 : decode cX3_pushesBy 5 = .ok (.istore 4, 2) := dk_54 4 (dk_at dksX3_pushesBy_0 5 rfl rfl)
theorem dX3_pushesBy_7 : decode cX3_pushesBy 7 = .ok (.iload 4, 2) := dk_21 4 (dk_at dksX3_pushesBy_0 7 rfl rfl)
theorem dX3_pushesBy_9 : decode cX3_pushesBy 9 = .ok (.iload_n 1, 1) := dk_27 (dk_at dksX3_pushesBy_0 9 rfl rfl)
theorem dX3_pushesBy_10 : decode cX3_pushesBy 10 = .ok (.if_icmp .ge 75, 3) := dk_162 0 75 (dk_at dksX3_pushesBy_0 10 rfl rfl)
theorem dX3_pushesBy_13 : decode cX3_pushesBy 13 = .ok (.iload_n 3, 1) := dk_29 (dk_at dksX3_pushesBy_0 13 rfl rfl)
theorem dX3_pushesBy_14 : decode cX3_pushesBy 14 = .ok (.ifCond .eq 71, 3) := dk_153 0 71 (dk_at dksX3_pushesBy_0 14 rfl rfl)
theorem dX3_pushesBy_17 : decode cX3_pushesBy 17 = .ok (.aload_n 0, 1) := dk_42 (dk_at dksX3_pushesBy_0 17 rfl rfl)
theorem dX3_pushesBy_18 : decode cX3_pushesBy 18 = .ok (.getfield 136, 3) := dk_180 0 136 (dk_at dksX3_pushesBy_0 18 rfl rfl)
theorem dX3_pushesBy_21 : decode cX3_pushesBy 21 = .ok (.iload 4, 2) := dk_21 4 (dk_at dksX3_pushesBy_0 21 rfl rfl)
theorem dX3_pushesBy_23 : decode cX3_pushesBy 23 = .ok (.iaload, 1) := dk_46 (dk_at dksX3_pushesBy_0 23 rfl rfl)
theorem dX3_pushesBy_24 : decode cX3_pushesBy 24 = .ok (.istore 5, 2) := dk_54 5 (dk_at dksX3_pushesBy_1 0 rfl rfl)
theorem dX3_pushesBy_26 : decode cX3_pushesBy 26 = .ok (.iload 5, 2) := dk_21 5 (dk_at dksX3_pushesBy_1 2 rfl rfl)
theorem dX3_pushesBy_28 : decode cX3_pushesBy 28 = .ok (.iconst (-1), 1) := dk_2 (dk_at dksX3_pushesBy_1 4 rfl rfl)
theorem dX3_pushesBy_29 : decode cX3_pushesBy 29 = .ok (.if_icmp .eq 45, 3) := dk_159 0 45 (dk_at dksX3_pushesBy_1 5 rfl rfl)
theorem dX3_pushesBy_32 : decode cX3_pushesBy 32 = .ok (.aload_n 0, 1) := dk_42 (dk_at dksX3_pushesBy_1 8 rfl rfl)
theorem dX3_pushesBy_33 : decode cX3_pushesBy 33 = .ok (.iload 5, 2) := dk_21 5 (dk_at dksX3_pushesBy_1 9 rfl rfl)
theorem dX3_pushesBy_35 : decode cX3_pushesBy 35 = .ok (.iconst 2, 1) := dk_5 (dk_at dksX3_pushesBy_1 11 rfl rfl)
theorem dX3_pushesBy_36 : decode cX3_pushesBy 36 = .ok (.idiv, 1) := dk_108 (dk_at dksX3_pushesBy_1 12 rfl rfl)
theorem dX3_pushesBy_37 : decode cX3_pushesBy 37 = .ok (.invokevirtual 182, 3) := dk_182 0 182 (dk_at dksX3_pushesBy_1 13 rfl rfl)
theorem dX3_pushesBy_40 : decode cX3_pushesBy 40 = .ok (.ifCond .ne 7, 3) := dk_154 0 7 (dk_at dksX3_pushesBy_1 16 rfl rfl)
theorem dX3_pushesBy_43 : decode cX3_pushesBy 43 = .ok (.iconst 1, 1) := dk_4 (dk_at dksX3_pushesBy_1 19 rfl rfl)
theorem dX3_pushesBy_44 : decode cX3_pushesBy 44 = .ok (.goto 4, 3) := dk_167 0 4 (dk_at dksX3_pushesBy_1 20 rfl rfl)
theorem dX3_pushesBy_47 : decode cX3_pushesBy 47 = .ok (.iconst 0, 1) := dk_3 (dk_at dksX3_pushesBy_1 23 rfl rfl)
theorem dX3_pushesBy_48 : decode cX3_pushesBy 48 = .ok (.istore_n 3, 1) := dk_62 (dk_at dksX3_pushesBy_2 0 rfl rfl)
theorem dX3_pushesBy_49 : decode cX3_pushesBy 49 = .ok (.aload_n 0, 1) := dk_42 (dk_at dksX3_pushesBy_2 1 rfl rfl)
theorem dX3_pushesBy_50 : decode cX3_pushesBy 50 = .ok (.iload 5, 2) := dk_21 5 (dk_at dksX3_pushesBy_2 2 rfl rfl)
theorem dX3_pushesBy_52 : decode cX3_pushesBy 52 = .ok (.iconst 2, 1) := dk_5 (dk_at dksX3_pushesBy_2 4 rfl rfl)
theorem dX3_pushesBy_53 : decode cX3_pushesBy 53 = .ok (.idiv, 1) := dk_108 (dk_at dksX3_pushesBy_2 5 rfl rfl)
theorem dX3_pushesBy_54 : decode cX3_pushesBy 54 = .ok (.iload 5, 2) := dk_21 5 (dk_at dksX3_pushesBy_2 6 rfl rfl)
theorem dX3_pushesBy_56 : decode cX3_pushesBy 56 = .ok (.iconst 2, 1) := dk_5 (dk_at dksX3_pushesBy_2 8 rfl rfl)
theorem dX3_pushesBy_57 : decode cX3_pushesBy 57 = .ok (.irem, 1) := dk_112 (dk_at dksX3_pushesBy_2 9 rfl rfl)
theorem dX3_pushesBy_58 : decode cX3_pushesBy 58 = .ok (.iconst 1, 1) := dk_4 (dk_at dksX3_pushesBy_2 10 rfl rfl)
theorem dX3_pushesBy_59 : decode cX3_pushesBy 59 = .ok (.if_icmp .ne 7, 3) := dk_160 0 7 (dk_at dksX3_pushesBy_2 11 rfl rfl)
theorem dX3_pushesBy_62 : decode cX3_pushesBy 62 = .ok (.iconst 2, 1) := dk_5 (dk_at dksX3_pushesBy_2 14 rfl rfl)
theorem dX3_pushesBy_63 : decode cX3_pushesBy 63 = .ok (.goto 5, 3) := dk_167 0 5 (dk_at dksX3_pushesBy_2 15 rfl rfl)
theorem dX3_pushesBy_66 : decode cX3_pushesBy 66 = .ok (.bipush (-2), 2) := dk_16 254 (dk_at dksX3_pushesBy_2 18 rfl rfl)
theorem dX3_pushesBy_68 : decode cX3_pushesBy 68 = .ok (.invokevirtual 470, 3) := dk_182 1 214 (dk_at dksX3_pushesBy_2 20 rfl rfl)
theorem dX3_pushesBy_71 : decode cX3_pushesBy 71 = .ok (.iinc 2 1, 3) := dk_132 2 1 (dk_at dksX3_pushesBy_3 0 rfl rfl)
theorem dX3_pushesBy_74 : decode cX3_pushesBy 74 = .ok (.aload_n 0, 1) := dk_42 (dk_at dksX3_pushesBy_3 3 rfl rfl)
theorem dX3_pushesBy_75 : decode cX3_pushesBy 75 = .ok (.invokevirtual 439, 3) := dk_182 1 183 (dk_at dksX3_pushesBy_3 4 rfl rfl)
theorem dX3_pushesBy_78 : decode cX3_pushesBy 78 = .ok (.pop, 1) := dk_87 (dk_at dksX3_pushesBy_3 7 rfl rfl)
theorem dX3_pushesBy_79 : decode cX3_pushesBy 79 = .ok (.iinc 4 1, 3) := dk_132 4 1 (dk_at dksX3_pushesBy_3 8 rfl rfl)
theorem dX3_pushesBy_82 : decode cX3_pushesBy 82 = .ok (.goto (-75), 3) := dk_167 255 181 (dk_at dksX3_pushesBy_3 11 rfl rfl)
theorem dX3_pushesBy_85 : decode cX3_pushesBy 85 = .ok (.iload_n 3, 1) := dk_29 (dk_at dksX3_pushesBy_3 14 rfl rfl)
theorem dX3_pushesBy_86 : decode cX3_pushesBy 86 = .ok (.ifCond .eq 14, 3) := dk_153 0 14 (dk_at dksX3_pushesBy_3 15 rfl rfl)
theorem dX3_pushesBy_89 : decode cX3_pushesBy 89 = .ok (.aload_n 0, 1) := dk_42 (dk_at dksX3_pushesBy_3 18 rfl rfl)
theorem dX3_pushesBy_90 : decode cX3_pushesBy 90 = .ok (.invokevirtual 494, 3) := dk_182 1 238 (dk_at dksX3_pushesBy_3 19 rfl rfl)
theorem dX3_pushesBy_93 : decode cX3_pushesBy 93 = .ok (.ifCond .eq 7, 3) := dk_153 0 7 (dk_at dksX3_pushesBy_4 0 rfl rfl)
theorem dX3_pushesBy_96 : decode cX3_pushesBy 96 = .ok (.iload_n 2, 1) := dk_28 (dk_at dksX3_pushesBy_4 3 rfl rfl)
theorem dX3_pushesBy_97 : decode cX3_pushesBy 97 = .ok (.goto 4, 3) := dk_167 0 4 (dk_at dksX3_pushesBy_4 4 rfl rfl)
theorem dX3_pushesBy_100 : decode cX3_pushesBy 100 = .ok (.iconst (-1), 1) := dk_2 (dk_at dksX3_pushesBy_4 7 rfl rfl)
theorem dX3_pushesBy_101 : decode cX3_pushesBy 101 = .ok (.ireturn, 1) := dk_172 (dk_at dksX3_pushesBy_4 8 rfl rfl)
abbrev cX3_areWantsSo : ByteArray := prog_17_method_86_code
def yX3_areWantsSo : MethodName := ⟨RX3, "areWantsSo", "()Z"⟩
def dkwX3_areWantsSo_1 : List UInt8 := [180, 0, 40, 27, 46, 159, 0, 5, 3, 172, 132, 1, 1, 167, 255, 222, 4, 172]
abbrev dktX3_areWantsSo_1 : List UInt8 := dkwX3_areWantsSo_1 ++ []
def dkwX3_areWantsSo_0 : List UInt8 := [3, 60, 27, 42, 180, 0, 9, 6, 46, 162, 0, 30, 42, 42, 180, 0, 37, 27, 46, 182, 1, 138, 42]
abbrev dktX3_areWantsSo_0 : List UInt8 := dkwX3_areWantsSo_0 ++ dktX3_areWantsSo_1
theorem dksX3_areWantsSo_0 : cX3_areWantsSo.data.toList.drop 0 = dktX3_areWantsSo_0 := by decide +kernel
theorem dksX3_areWantsSo_1 : cX3_areWantsSo.data.toList.drop 23 = dktX3_areWantsSo_1 := dk_seg dksX3_areWantsSo_0 23 rfl rfl
theorem dX3_areWantsSo_0 : decode cX3_areWantsSo 0 = .ok (.iconst 0, 1) := dk_3 (dk_at dksX3_areWantsSo_0 0 rfl rfl)
theorem dX3_areWantsSo_1 : decode cX3_areWantsSo 1 = .ok (.istore_n 1, 1) := dk_60 (dk_at dksX3_areWantsSo_0 1 rfl rfl)
theorem dX3_areWantsSo_2 : decode cX3_areWantsSo 2 = .ok (.iload_n 1, 1) := dk_27 (dk_at dksX3_areWantsSo_0 2 rfl rfl)
theorem dX3_areWantsSo_3 : decode cX3_areWantsSo 3 = .ok (.aload_n 0, 1) := dk_42 (dk_at dksX3_areWantsSo_0 3 rfl rfl)
theorem dX3_areWantsSo_4 : decode cX3_areWantsSo 4 = .ok (.getfield 9, 3) := dk_180 0 9 (dk_at dksX3_areWantsSo_0 4 rfl rfl)
theorem dX3_areWantsSo_7 : decode cX3_areWantsSo 7 = .ok (.iconst 3, 1) := dk_6 (dk_at dksX3_areWantsSo_0 7 rfl rfl)
theorem dX3_areWantsSo_8 : decode cX3_areWantsSo 8 = .ok (.iaload, 1) := dk_46 (dk_at dksX3_areWantsSo_0 8 rfl rfl)
theorem dX3_areWantsSo_9 : decode cX3_areWantsSo 9 = .ok (.if_icmp .ge 30, 3) := dk_162 0 30 (dk_at dksX3_areWantsSo_0 9 rfl rfl)
theorem dX3_areWantsSo_12 : decode cX3_areWantsSo 12 = .ok (.aload_n 0, 1) := dk_42 (dk_at dksX3_areWantsSo_0 12 rfl rfl)
theorem dX3_areWantsSo_13 : decode cX3_areWantsSo 13 = .ok (.aload_n 0, 1) := dk_42 (dk_at dksX3_areWantsSo_0 13 rfl rfl)
theorem dX3_areWantsSo_14 : decode cX3_areWantsSo 14 = .ok (.getfield 37, 3) := dk_180 0 37 (dk_at dksX3_areWantsSo_0 14 rfl rfl)
theorem dX3_areWantsSo_17 : decode cX3_areWantsSo 17 = .ok (.iload_n 1, 1) := dk_27 (dk_at dksX3_areWantsSo_0 17 rfl rfl)
theorem dX3_areWantsSo_18 : decode cX3_areWantsSo 18 = .ok (.iaload, 1) := dk_46 (dk_at dksX3_areWantsSo_0 18 rfl rfl)
theorem dX3_areWantsSo_19 : decode cX3_areWantsSo 19 = .ok (.invokevirtual 394, 3) := dk_182 1 138 (dk_at dksX3_areWantsSo_0 19 rfl rfl)
theorem dX3_areWantsSo_22 : decode cX3_areWantsSo 22 = .ok (.aload_n 0, 1) := dk_42 (dk_at dksX3_areWantsSo_0 22 rfl rfl)
theorem dX3_areWantsSo_23 : decode cX3_areWantsSo 23 = .ok (.getfield 40, 3) := dk_180 0 40 (dk_at dksX3_areWantsSo_1 0 rfl rfl)
theorem dX3_areWantsSo_26 : decode cX3_areWantsSo 26 = .ok (.iload_n 1, 1) := dk_27 (dk_at dksX3_areWantsSo_1 3 rfl rfl)
theorem dX3_areWantsSo_27 : decode cX3_areWantsSo 27 = .ok (.iaload, 1) := dk_46 (dk_at dksX3_areWantsSo_1 4 rfl rfl)
theorem dX3_areWantsSo_28 : decode cX3_areWantsSo 28 = .ok (.if_icmp .eq 5, 3) := dk_159 0 5 (dk_at dksX3_areWantsSo_1 5 rfl rfl)
theorem dX3_areWantsSo_31 : decode cX3_areWantsSo 31 = .ok (.iconst 0, 1) := dk_3 (dk_at dksX3_areWantsSo_1 8 rfl rfl)
theorem dX3_areWantsSo_32 : decode cX3_areWantsSo 32 = .ok (.ireturn, 1) := dk_172 (dk_at dksX3_areWantsSo_1 9 rfl rfl)
theorem dX3_areWantsSo_33 : decode cX3_areWantsSo 33 = .ok (.iinc 1 1, 3) := dk_132 1 1 (dk_at dksX3_areWantsSo_1 10 rfl rfl)
theorem dX3_areWantsSo_36 : decode cX3_areWantsSo 36 = .ok (.goto (-34), 3) := dk_167 255 222 (dk_at dksX3_areWantsSo_1 13 rfl rfl)
theorem dX3_areWantsSo_39 : decode cX3_areWantsSo 39 = .ok (.iconst 1, 1) := dk_4 (dk_at dksX3_areWantsSo_1 16 rfl rfl)
theorem dX3_areWantsSo_40 : decode cX3_areWantsSo 40 = .ok (.ireturn, 1) := dk_172 (dk_at dksX3_areWantsSo_1 17 rfl rfl)
abbrev cX3_dukes : ByteArray := prog_17_method_97_code
def yX3_dukes : MethodName := ⟨RX3, "dukes", "(II)I"⟩
def dkwX3_dukes_2 : List UInt8 := [180, 1, 253, 172]
abbrev dktX3_dukes_2 : List UInt8 := dkwX3_dukes_2 ++ []
def dkwX3_dukes_1 : List UInt8 := [184, 0, 170, 154, 0, 6, 16, 156, 172, 42, 27, 182, 2, 16, 62, 28, 154, 0, 7, 29, 167, 0, 7, 42]
abbrev dktX3_dukes_1 : List UInt8 := dkwX3_dukes_1 ++ dktX3_dukes_2
def dkwX3_dukes_0 : List UInt8 := [42, 182, 1, 144, 153, 0, 25, 27, 133, 10, 20, 1, 166, 184, 0, 170, 153, 0, 13, 28, 133, 9, 10]
abbrev dktX3_dukes_0 : List UInt8 := dkwX3_dukes_0 ++ dktX3_dukes_1
theorem dksX3_dukes_0 : cX3_dukes.data.toList.drop 0 = dktX3_dukes_0 := by decide +kernel
theorem dksX3_dukes_1 : cX3_dukes.data.toList.drop 23 = dktX3_dukes_1 := dk_seg dksX3_dukes_0 23 rfl rfl
theorem dksX3_dukes_2 : cX3_dukes.data.toList.drop 47 = dktX3_dukes_2 := dk_seg dksX3_dukes_1 24 rfl rfl
theorem dX3_dukes_0 : decode cX3_dukes 0 = .ok (.aload_n 0, 1) := dk_42 (dk_at dksX3_dukes_0 0 rfl rfl)
theorem dX3_dukes_1 : decode cX3_dukes 1 = .ok (.invokevirtual 400, 3) := dk_182 1 144 (dk_at dksX3_dukes_0 1 rfl rfl)
theorem dX3_dukes_4 : decode cX3_dukes 4 = .ok (.ifCond .eq 25, 3) := dk_153 0 25 (dk_at dksX3_dukes_0 4 rfl rfl)
theorem dX3_dukes_7 : decode cX3_dukes 7 = .ok (.iload_n 1, 1) := dk_27 (dk_at dksX3_dukes_0 7 rfl rfl)
theorem dX3_dukes_8 : decode cX3_dukes 8 = .ok (.i2l, 1) := dk_133 (dk_at dksX3_dukes_0 8 rfl rfl)
theorem dX3_dukes_9 : decode cX3_dukes 9 = .ok (.lconst 1, 1) := dk_10 (dk_at dksX3_dukes_0 9 rfl rfl)
theorem dX3_dukes_10 : decode cX3_dukes 10 = .ok (.ldc2_w 422, 3) := dk_20 1 166 (dk_at dksX3_dukes_0 10 rfl rfl)
theorem dX3_dukes_13 : decode cX3_dukes 13 = .ok (.invokestatic 170, 3) := dk_184 0 170 (dk_at dksX3_dukes_0 13 rfl rfl)
theorem dX3_dukes_16 : decode cX3_dukes 16 = .ok (.ifCond .eq 13, 3) := dk_153 0 13 (dk_at dksX3_dukes_0 16 rfl rfl)
theorem dX3_dukes_19 : decode cX3_dukes 19 = .ok (.iload_n 2, 1) := dk_28 (dk_at dksX3_dukes_0 19 rfl rfl)
theorem dX3_dukes_20 : decode cX3_dukes 20 = .ok (.i2l, 1) := dk_133 (dk_at dksX3_dukes_0 20 rfl rfl)
theorem dX3_dukes_21 : decode cX3_dukes 21 = .ok (.lconst 0, 1) := dk_9 (dk_at dksX3_dukes_0 21 rfl rfl)
theorem dX3_dukes_22 : decode cX3_dukes 22 = .ok (.lconst 1, 1) := dk_10 (dk_at dksX3_dukes_0 22 rfl rfl)
theorem dX3_dukes_23 : decode cX3_dukes 23 = .ok (.invokestatic 170, 3) := dk_184 0 170 (dk_at dksX3_dukes_1 0 rfl rfl)
theorem dX3_dukes_26 : decode cX3_dukes 26 = .ok (.ifCond .ne 6, 3) := dk_154 0 6 (dk_at dksX3_dukes_1 3 rfl rfl)
theorem dX3_dukes_29 : decode cX3_dukes 29 = .ok (.bipush (-100), 2) := dk_16 156 (dk_at dksX3_dukes_1 6 rfl rfl)
theorem dX3_dukes_31 : decode cX3_dukes 31 = .ok (.ireturn, 1) := dk_172 (dk_at dksX3_dukes_1 8 rfl rfl)
theorem dX3_dukes_32 : decode cX3_dukes 32 = .ok (.aload_n 0, 1) := dk_42 (dk_at dksX3_dukes_1 9 rfl rfl)
theorem dX3_dukes_33 : decode cX3_dukes 33 = .ok (.iload_n 1, 1) := dk_27 (dk_at dksX3_dukes_1 10 rfl rfl)
theorem dX3_dukes_34 : decode cX3_dukes 34 = .ok (.invokevirtual 528, 3) := dk_182 2 16 (dk_at dksX3_dukes_1 11 rfl rfl)
theorem dX3_dukes_37 : decode cX3_dukes 37 = .ok (.istore_n 3, 1) := dk_62 (dk_at dksX3_dukes_1 14 rfl rfl)
theorem dX3_dukes_38 : decode cX3_dukes 38 = .ok (.iload_n 2, 1) := dk_28 (dk_at dksX3_dukes_1 15 rfl rfl)
theorem dX3_dukes_39 : decode cX3_dukes 39 = .ok (.ifCond .ne 7, 3) := dk_154 0 7 (dk_at dksX3_dukes_1 16 rfl rfl)
theorem dX3_dukes_42 : decode cX3_dukes 42 = .ok (.iload_n 3, 1) := dk_29 (dk_at dksX3_dukes_1 19 rfl rfl)
theorem dX3_dukes_43 : decode cX3_dukes 43 = .ok (.goto 7, 3) := dk_167 0 7 (dk_at dksX3_dukes_1 20 rfl rfl)
theorem dX3_dukes_46 : decode cX3_dukes 46 = .ok (.aload_n 0, 1) := dk_42 (dk_at dksX3_dukes_1 23 rfl rfl)
theorem dX3_dukes_47 : decode cX3_dukes 47 = .ok (.getfield 509, 3) := dk_180 1 253 (dk_at dksX3_dukes_2 0 rfl rfl)
theorem dX3_dukes_50 : decode cX3_dukes 50 = .ok (.ireturn, 1) := dk_172 (dk_at dksX3_dukes_2 3 rfl rfl)
abbrev cX3_playsDukes : ByteArray := prog_17_method_93_code
def yX3_playsDukes : MethodName := ⟨RX3, "playsDukes", "(I)I"⟩
def dkwX3_playsDukes_7 : List UInt8 := [132, 2, 1, 42, 28, 27, 182, 2, 9, 167, 255, 114, 42, 182, 1, 235, 42, 180, 0, 148, 3, 46, 172]
abbrev dktX3_playsDukes_7 : List UInt8 := dkwX3_playsDukes_7 ++ []
def dkwX3_playsDukes_6 : List UInt8 := [155, 255, 147, 42, 28, 42, 180, 0, 148, 28, 4, 96, 46, 182, 2, 3, 167, 255, 131, 42, 28, 182, 2, 6]
abbrev dktX3_playsDukes_6 : List UInt8 := dkwX3_playsDukes_6 ++ dktX3_playsDukes_7
def dkwX3_playsDukes_5 : List UInt8 := [96, 79, 167, 255, 209, 42, 180, 0, 145, 28, 46, 42, 180, 0, 9, 3, 46, 161, 0, 26, 132, 2, 255, 28]
abbrev dktX3_playsDukes_5 : List UInt8 := dkwX3_playsDukes_5 ++ dktX3_playsDukes_6
def dkwX3_playsDukes_4 : List UInt8 := [162, 0, 29, 42, 42, 180, 0, 145, 28, 46, 182, 0, 182, 153, 0, 16, 42, 180, 0, 145, 28, 92, 46, 4]
abbrev dktX3_playsDukes_4 : List UInt8 := dkwX3_playsDukes_4 ++ dktX3_playsDukes_5
def dkwX3_playsDukes_3 : List UInt8 := [96, 79, 42, 180, 0, 145, 28, 46, 155, 0, 44, 42, 180, 0, 145, 28, 46, 42, 180, 0, 9, 3, 46]
abbrev dktX3_playsDukes_3 : List UInt8 := dkwX3_playsDukes_3 ++ dktX3_playsDukes_4
def dkwX3_playsDukes_2 : List UInt8 := [42, 182, 2, 0, 182, 2, 3, 167, 255, 235, 42, 28, 4, 182, 1, 250, 42, 180, 0, 145, 28, 92, 46, 4]
abbrev dktX3_playsDukes_2 : List UInt8 := dkwX3_playsDukes_2 ++ dktX3_playsDukes_3
def dkwX3_playsDukes_1 : List UInt8 := [3, 17, 3, 232, 79, 42, 2, 181, 1, 253, 28, 155, 0, 144, 28, 27, 160, 0, 18, 132, 2, 255, 42, 28]
abbrev dktX3_playsDukes_1 : List UInt8 := dkwX3_playsDukes_1 ++ dktX3_playsDukes_2
def dkwX3_playsDukes_0 : List UInt8 := [3, 61, 42, 182, 1, 226, 42, 3, 3, 182, 1, 250, 42, 180, 0, 145, 3, 16, 254, 79, 42, 180, 0, 148]
abbrev dktX3_playsDukes_0 : List UInt8 := dkwX3_playsDukes_0 ++ dktX3_playsDukes_1
theorem dksX3_playsDukes_0 : cX3_playsDukes.data.toList.drop 0 = dktX3_playsDukes_0 := by decide +kernel
theorem dksX3_playsDukes_1 : cX3_playsDukes.data.toList.drop 24 = dktX3_playsDukes_1 := dk_seg dksX3_playsDukes_0 24 rfl rfl
theorem dksX3_playsDukes_2 : cX3_playsDukes.data.toList.drop 48 = dktX3_playsDukes_2 := dk_seg dksX3_playsDukes_1 24 rfl rfl
theorem dksX3_playsDukes_3 : cX3_playsDukes.data.toList.drop 72 = dktX3_playsDukes_3 := dk_seg dksX3_playsDukes_2 24 rfl rfl
theorem dksX3_playsDukes_4 : cX3_playsDukes.data.toList.drop 95 = dktX3_playsDukes_4 := dk_seg dksX3_playsDukes_3 23 rfl rfl
theorem dksX3_playsDukes_5 : cX3_playsDukes.data.toList.drop 119 = dktX3_playsDukes_5 := dk_seg dksX3_playsDukes_4 24 rfl rfl
theorem dksX3_playsDukes_6 : cX3_playsDukes.data.toList.drop 143 = dktX3_playsDukes_6 := dk_seg dksX3_playsDukes_5 24 rfl rfl
theorem dksX3_playsDukes_7 : cX3_playsDukes.data.toList.drop 167 = dktX3_playsDukes_7 := dk_seg dksX3_playsDukes_6 24 rfl rfl
theorem dX3_playsDukes_0 : decode cX3_playsDukes 0 = .ok (.iconst 0, 1) := dk_3 (dk_at dksX3_playsDukes_0 0 rfl rfl)
theorem dX3_playsDukes_1 : decode cX3_playsDukes 1 = .ok (.istore_n 2, 1) := dk_61 (dk_at dksX3_playsDukes_0 1 rfl rfl)
theorem dX3_playsDukes_2 : decode cX3_playsDukes 2 = .ok (.aload_n 0, 1) := dk_42 (dk_at dksX3_playsDukes_0 2 rfl rfl)
theorem dX3_playsDukes_3 : decode cX3_playsDukes 3 = .ok (.invokevirtual 482, 3) := dk_182 1 226 (dk_at dksX3_playsDukes_0 3 rfl rfl)
theorem dX3_playsDukes_6 : decode cX3_playsDukes 6 = .ok (.aload_n 0, 1) := dk_42 (dk_at dksX3_playsDukes_0 6 rfl rfl)
theorem dX3_playsDukes_7 : decode cX3_playsDukes 7 = .ok (.iconst 0, 1) := dk_3 (dk_at dksX3_playsDukes_0 7 rfl rfl)
theorem dX3_playsDukes_8 : decode cX3_playsDukes 8 = .ok (.iconst 0, 1) := dk_3 (dk_at dksX3_playsDukes_0 8 rfl rfl)
theorem dX3_playsDukes_9 : decode cX3_playsDukes 9 = .ok (.invokevirtual 506, 3) := dk_182 1 250 (dk_at dksX3_playsDukes_0 9 rfl rfl)
theorem dX3_playsDukes_12 : decode cX3_playsDukes 12 = .ok (.aload_n 0, 1) := dk_42 (dk_at dksX3_playsDukes_0 12 rfl rfl)
theorem dX3_playsDukes_13 : decode cX3_playsDukes 13 = .ok (.getfield 145, 3) := dk_180 0 145 (dk_at dksX3_playsDukes_0 13 rfl rfl)
theorem dX3_playsDukes_16 : decode cX3_playsDukes 16 = .ok (.iconst 0, 1) := dk_3 (dk_at dksX3_playsDukes_0 16 rfl rfl)
theorem dX3_playsDukes_17 : decode cX3_playsDukes 17 = .ok (.bipush (-2), 2) := dk_16 254 (dk_at dksX3_playsDukes_0 17 rfl rfl)
theorem dX3_playsDukes_19 : decode cX3_playsDukes 19 = .ok (.iastore, 1) := dk_79 (dk_at dksX3_playsDukes_0 19 rfl rfl)
theorem dX3_playsDukes_20 : decode cX3_playsDukes 20 = .ok (.aload_n 0, 1) := dk_42 (dk_at dksX3_playsDukes_0 20 rfl rfl)
theorem dX3_playsDukes_21 : decode cX3_playsDukes 21 = .ok (.getfield 148, 3) := dk_180 0 148 (dk_at dksX3_playsDukes_0 21 rfl rfl)
theorem dX3_playsDukes_24 : decode cX3_playsDukes 24 = .ok (.iconst 0, 1) := dk_3 (dk_at dksX3_playsDukes_1 0 rfl rfl)
theorem dX3_playsDukes_25 : decode cX3_playsDukes 25 = .ok (.sipush 1000, 3) := dk_17 3 232 (dk_at dksX3_playsDukes_1 1 rfl rfl)
theorem dX3_playsDukes_28 : decode cX3_playsDukes 28 = .ok (.iastore, 1) := dk_79 (dk_at dksX3_playsDukes_1 4 rfl rfl)
theorem dX3_playsDukes_29 : decode cX3_playsDukes 29 = .ok (.aload_n 0, 1) := dk_42 (dk_at dksX3_playsDukes_1 5 rfl rfl)
theorem dX3_playsDukes_30 : decode cX3_playsDukes 30 = .ok (.iconst (-1), 1) := dk_2 (dk_at dksX3_playsDukes_1 6 rfl rfl)
theorem dX3_playsDukes_31 : decode cX3_playsDukes 31 = .ok (.putfield 509, 3) := dk_181 1 253 (dk_at dksX3_playsDukes_1 7 rfl rfl)
theorem dX3_playsDukes_34 : decode cX3_playsDukes 34 = .ok (.iload_n 2, 1) := dk_28 (dk_at dksX3_playsDukes_1 10 rfl rfl)
theorem dX3_playsDukes_35 : decode cX3_playsDukes 35 = .ok (.ifCond .lt 144, 3) := dk_155 0 144 (dk_at dksX3_playsDukes_1 11 rfl rfl)
theorem dX3_playsDukes_38 : decode cX3_playsDukes 38 = .ok (.iload_n 2, 1) := dk_28 (dk_at dksX3_playsDukes_1 14 rfl rfl)
theorem dX3_playsDukes_39 : decode cX3_playsDukes 39 = .ok (.iload_n 1, 1) := dk_27 (dk_at dksX3_playsDukes_1 15 rfl rfl)
theorem dX3_playsDukes_40 : decode cX3_playsDukes 40 = .ok (.if_icmp .ne 18, 3) := dk_160 0 18 (dk_at dksX3_playsDukes_1 16 rfl rfl)
theorem dX3_playsDukes_43 : decode cX3_playsDukes 43 = .ok (.iinc 2 (-1), 3) := dk_132 2 255 (dk_at dksX3_playsDukes_1 19 rfl rfl)
theorem dX3_playsDukes_46 : decode cX3_playsDukes 46 = .ok (.aload_n 0, 1) := dk_42 (dk_at dksX3_playsDukes_1 22 rfl rfl)
theorem dX3_playsDukes_47 : decode cX3_playsDukes 47 = .ok (.iload_n 2, 1) := dk_28 (dk_at dksX3_playsDukes_1 23 rfl rfl)
theorem dX3_playsDukes_48 : decode cX3_playsDukes 48 = .ok (.aload_n 0, 1) := dk_42 (dk_at dksX3_playsDukes_2 0 rfl rfl)
theorem dX3_playsDukes_49 : decode cX3_playsDukes 49 = .ok (.invokevirtual 512, 3) := dk_182 2 0 (dk_at dksX3_playsDukes_2 1 rfl rfl)
theorem dX3_playsDukes_52 : decode cX3_playsDukes 52 = .ok (.invokevirtual 515, 3) := dk_182 2 3 (dk_at dksX3_playsDukes_2 4 rfl rfl)
theorem dX3_playsDukes_55 : decode cX3_playsDukes 55 = .ok (.goto (-21), 3) := dk_167 255 235 (dk_at dksX3_playsDukes_2 7 rfl rfl)
theorem dX3_playsDukes_58 : decode cX3_playsDukes 58 = .ok (.aload_n 0, 1) := dk_42 (dk_at dksX3_playsDukes_2 10 rfl rfl)
theorem dX3_playsDukes_59 : decode cX3_playsDukes 59 = .ok (.iload_n 2, 1) := dk_28 (dk_at dksX3_playsDukes_2 11 rfl rfl)
theorem dX3_playsDukes_60 : decode cX3_playsDukes 60 = .ok (.iconst 1, 1) := dk_4 (dk_at dksX3_playsDukes_2 12 rfl rfl)
theorem dX3_playsDukes_61 : decode cX3_playsDukes 61 = .ok (.invokevirtual 506, 3) := dk_182 1 250 (dk_at dksX3_playsDukes_2 13 rfl rfl)
theorem dX3_playsDukes_64 : decode cX3_playsDukes 64 = .ok (.aload_n 0, 1) := dk_42 (dk_at dksX3_playsDukes_2 16 rfl rfl)
theorem dX3_playsDukes_65 : decode cX3_playsDukes 65 = .ok (.getfield 145, 3) := dk_180 0 145 (dk_at dksX3_playsDukes_2 17 rfl rfl)
theorem dX3_playsDukes_68 : decode cX3_playsDukes 68 = .ok (.iload_n 2, 1) := dk_28 (dk_at dksX3_playsDukes_2 20 rfl rfl)
theorem dX3_playsDukes_69 : decode cX3_playsDukes 69 = .ok (.dup2, 1) := dk_92 (dk_at dksX3_playsDukes_2 21 rfl rfl)
theorem dX3_playsDukes_70 : decode cX3_playsDukes 70 = .ok (.iaload, 1) := dk_46 (dk_at dksX3_playsDukes_2 22 rfl rfl)
theorem dX3_playsDukes_71 : decode cX3_playsDukes 71 = .ok (.iconst 1, 1) := dk_4 (dk_at dksX3_playsDukes_2 23 rfl rfl)
theorem dX3_playsDukes_72 : decode cX3_playsDukes 72 = .ok (.iadd, 1) := dk_96 (dk_at dksX3_playsDukes_3 0 rfl rfl)
theorem dX3_playsDukes_73 : decode cX3_playsDukes 73 = .ok (.iastore, 1) := dk_79 (dk_at dksX3_playsDukes_3 1 rfl rfl)
theorem dX3_playsDukes_74 : decode cX3_playsDukes 74 = .ok (.aload_n 0, 1) := dk_42 (dk_at dksX3_playsDukes_3 2 rfl rfl)
theorem dX3_playsDukes_75 : decode cX3_playsDukes 75 = .ok (.getfield 145, 3) := dk_180 0 145 (dk_at dksX3_playsDukes_3 3 rfl rfl)
theorem dX3_playsDukes_78 : decode cX3_playsDukes 78 = .ok (.iload_n 2, 1) := dk_28 (dk_at dksX3_playsDukes_3 6 rfl rfl)
theorem dX3_playsDukes_79 : decode cX3_playsDukes 79 = .ok (.iaload, 1) := dk_46 (dk_at dksX3_playsDukes_3 7 rfl rfl)
theorem dX3_playsDukes_80 : decode cX3_playsDukes 80 = .ok (.ifCond .lt 44, 3) := dk_155 0 44 (dk_at dksX3_playsDukes_3 8 rfl rfl)
theorem dX3_playsDukes_83 : decode cX3_playsDukes 83 = .ok (.aload_n 0, 1) := dk_42 (dk_at dksX3_playsDukes_3 11 rfl rfl)
theorem dX3_playsDukes_84 : decode cX3_playsDukes 84 = .ok (.getfield 145, 3) := dk_180 0 145 (dk_at dksX3_playsDukes_3 12 rfl rfl)
theorem dX3_playsDukes_87 : decode cX3_playsDukes 87 = .ok (.iload_n 2, 1) := dk_28 (dk_at dksX3_playsDukes_3 15 rfl rfl)
theorem dX3_playsDukes_88 : decode cX3_playsDukes 88 = .ok (.iaload, 1) := dk_46 (dk_at dksX3_playsDukes_3 16 rfl rfl)
theorem dX3_playsDukes_89 : decode cX3_playsDukes 89 = .ok (.aload_n 0, 1) := dk_42 (dk_at dksX3_playsDukes_3 17 rfl rfl)
theorem dX3_playsDukes_90 : decode cX3_playsDukes 90 = .ok (.getfield 9, 3) := dk_180 0 9 (dk_at dksX3_playsDukes_3 18 rfl rfl)
theorem dX3_playsDukes_93 : decode cX3_playsDukes 93 = .ok (.iconst 0, 1) := dk_3 (dk_at dksX3_playsDukes_3 21 rfl rfl)
theorem dX3_playsDukes_94 : decode cX3_playsDukes 94 = .ok (.iaload, 1) := dk_46 (dk_at dksX3_playsDukes_3 22 rfl rfl)
theorem dX3_playsDukes_95 : decode cX3_playsDukes 95 = .ok (.if_icmp .ge 29, 3) := dk_162 0 29 (dk_at dksX3_playsDukes_4 0 rfl rfl)
theorem dX3_playsDukes_98 : decode cX3_playsDukes 98 = .ok (.aload_n 0, 1) := dk_42 (dk_at dksX3_playsDukes_4 3 rfl rfl)
theorem dX3_playsDukes_99 : decode cX3_playsDukes 99 = .ok (.aload_n 0, 1) := dk_42 (dk_at dksX3_playsDukes_4 4 rfl rfl)
theorem dX3_playsDukes_100 : decode cX3_playsDukes 100 = .ok (.getfield 145, 3) := dk_180 0 145 (dk_at dksX3_playsDukes_4 5 rfl rfl)
theorem dX3_playsDukes_103 : decode cX3_playsDukes 103 = .ok (.iload_n 2, 1) := dk_28 (dk_at dksX3_playsDukes_4 8 rfl rfl)
theorem dX3_playsDukes_104 : decode cX3_playsDukes 104 = .ok (.iaload, 1) := dk_46 (dk_at dksX3_playsDukes_4 9 rfl rfl)
theorem dX3_playsDukes_105 : decode cX3_playsDukes 105 = .ok (.invokevirtual 182, 3) := dk_182 0 182 (dk_at dksX3_playsDukes_4 10 rfl rfl)
theorem dX3_playsDukes_108 : decode cX3_playsDukes 108 = .ok (.ifCond .eq 16, 3) := dk_153 0 16 (dk_at dksX3_playsDukes_4 13 rfl rfl)
theorem dX3_playsDukes_111 : decode cX3_playsDukes 111 = .ok (.aload_n 0, 1) := dk_42 (dk_at dksX3_playsDukes_4 16 rfl rfl)
theorem dX3_playsDukes_112 : decode cX3_playsDukes 112 = .ok (.getfield 145, 3) := dk_180 0 145 (dk_at dksX3_playsDukes_4 17 rfl rfl)
theorem dX3_playsDukes_115 : decode cX3_playsDukes 115 = .ok (.iload_n 2, 1) := dk_28 (dk_at dksX3_playsDukes_4 20 rfl rfl)
theorem dX3_playsDukes_116 : decode cX3_playsDukes 116 = .ok (.dup2, 1) := dk_92 (dk_at dksX3_playsDukes_4 21 rfl rfl)
theorem dX3_playsDukes_117 : decode cX3_playsDukes 117 = .ok (.iaload, 1) := dk_46 (dk_at dksX3_playsDukes_4 22 rfl rfl)
theorem dX3_playsDukes_118 : decode cX3_playsDukes 118 = .ok (.iconst 1, 1) := dk_4 (dk_at dksX3_playsDukes_4 23 rfl rfl)
theorem dX3_playsDukes_119 : decode cX3_playsDukes 119 = .ok (.iadd, 1) := dk_96 (dk_at dksX3_playsDukes_5 0 rfl rfl)
theorem dX3_playsDukes_120 : decode cX3_playsDukes 120 = .ok (.iastore, 1) := dk_79 (dk_at dksX3_playsDukes_5 1 rfl rfl)
theorem dX3_playsDukes_121 : decode cX3_playsDukes 121 = .ok (.goto (-47), 3) := dk_167 255 209 (dk_at dksX3_playsDukes_5 2 rfl rfl)
theorem dX3_playsDukes_124 : decode cX3_playsDukes 124 = .ok (.aload_n 0, 1) := dk_42 (dk_at dksX3_playsDukes_5 5 rfl rfl)
theorem dX3_playsDukes_125 : decode cX3_playsDukes 125 = .ok (.getfield 145, 3) := dk_180 0 145 (dk_at dksX3_playsDukes_5 6 rfl rfl)
theorem dX3_playsDukes_128 : decode cX3_playsDukes 128 = .ok (.iload_n 2, 1) := dk_28 (dk_at dksX3_playsDukes_5 9 rfl rfl)
theorem dX3_playsDukes_129 : decode cX3_playsDukes 129 = .ok (.iaload, 1) := dk_46 (dk_at dksX3_playsDukes_5 10 rfl rfl)
theorem dX3_playsDukes_130 : decode cX3_playsDukes 130 = .ok (.aload_n 0, 1) := dk_42 (dk_at dksX3_playsDukes_5 11 rfl rfl)
theorem dX3_playsDukes_131 : decode cX3_playsDukes 131 = .ok (.getfield 9, 3) := dk_180 0 9 (dk_at dksX3_playsDukes_5 12 rfl rfl)
theorem dX3_playsDukes_134 : decode cX3_playsDukes 134 = .ok (.iconst 0, 1) := dk_3 (dk_at dksX3_playsDukes_5 15 rfl rfl)
theorem dX3_playsDukes_135 : decode cX3_playsDukes 135 = .ok (.iaload, 1) := dk_46 (dk_at dksX3_playsDukes_5 16 rfl rfl)
theorem dX3_playsDukes_136 : decode cX3_playsDukes 136 = .ok (.if_icmp .lt 26, 3) := dk_161 0 26 (dk_at dksX3_playsDukes_5 17 rfl rfl)
theorem dX3_playsDukes_139 : decode cX3_playsDukes 139 = .ok (.iinc 2 (-1), 3) := dk_132 2 255 (dk_at dksX3_playsDukes_5 20 rfl rfl)
theorem dX3_playsDukes_142 : decode cX3_playsDukes 142 = .ok (.iload_n 2, 1) := dk_28 (dk_at dksX3_playsDukes_5 23 rfl rfl)
theorem dX3_playsDukes_143 : decode cX3_playsDukes 143 = .ok (.ifCond .lt (-109), 3) := dk_155 255 147 (dk_at dksX3_playsDukes_6 0 rfl rfl)
theorem dX3_playsDukes_146 : decode cX3_playsDukes 146 = .ok (.aload_n 0, 1) := dk_42 (dk_at dksX3_playsDukes_6 3 rfl rfl)
theorem dX3_playsDukes_147 : decode cX3_playsDukes 147 = .ok (.iload_n 2, 1) := dk_28 (dk_at dksX3_playsDukes_6 4 rfl rfl)
theorem dX3_playsDukes_148 : decode cX3_playsDukes 148 = .ok (.aload_n 0, 1) := dk_42 (dk_at dksX3_playsDukes_6 5 rfl rfl)
theorem dX3_playsDukes_149 : decode cX3_playsDukes 149 = .ok (.getfield 148, 3) := dk_180 0 148 (dk_at dksX3_playsDukes_6 6 rfl rfl)
theorem dX3_playsDukes_152 : decode cX3_playsDukes 152 = .ok (.iload_n 2, 1) := dk_28 (dk_at dksX3_playsDukes_6 9 rfl rfl)
theorem dX3_playsDukes_153 : decode cX3_playsDukes 153 = .ok (.iconst 1, 1) := dk_4 (dk_at dksX3_playsDukes_6 10 rfl rfl)
theorem dX3_playsDukes_154 : decode cX3_playsDukes 154 = .ok (.iadd, 1) := dk_96 (dk_at dksX3_playsDukes_6 11 rfl rfl)
theorem dX3_playsDukes_155 : decode cX3_playsDukes 155 = .ok (.iaload, 1) := dk_46 (dk_at dksX3_playsDukes_6 12 rfl rfl)
theorem dX3_playsDukes_156 : decode cX3_playsDukes 156 = .ok (.invokevirtual 515, 3) := dk_182 2 3 (dk_at dksX3_playsDukes_6 13 rfl rfl)
theorem dX3_playsDukes_159 : decode cX3_playsDukes 159 = .ok (.goto (-125), 3) := dk_167 255 131 (dk_at dksX3_playsDukes_6 16 rfl rfl)
theorem dX3_playsDukes_162 : decode cX3_playsDukes 162 = .ok (.aload_n 0, 1) := dk_42 (dk_at dksX3_playsDukes_6 19 rfl rfl)
theorem dX3_playsDukes_163 : decode cX3_playsDukes 163 = .ok (.iload_n 2, 1) := dk_28 (dk_at dksX3_playsDukes_6 20 rfl rfl)
theorem dX3_playsDukes_164 : decode cX3_playsDukes 164 = .ok (.invokevirtual 518, 3) := dk_182 2 6 (dk_at dksX3_playsDukes_6 21 rfl rfl)
theorem dX3_playsDukes_167 : decode cX3_playsDukes 167 = .ok (.iinc 2 1, 3) := dk_132 2 1 (dk_at dksX3_playsDukes_7 0 rfl rfl)
theorem dX3_playsDukes_170 : decode cX3_playsDukes 170 = .ok (.aload_n 0, 1) := dk_42 (dk_at dksX3_playsDukes_7 3 rfl rfl)
theorem dX3_playsDukes_171 : decode cX3_playsDukes 171 = .ok (.iload_n 2, 1) := dk_28 (dk_at dksX3_playsDukes_7 4 rfl rfl)
theorem dX3_playsDukes_172 : decode cX3_playsDukes 172 = .ok (.iload_n 1, 1) := dk_27 (dk_at dksX3_playsDukes_7 5 rfl rfl)
theorem dX3_playsDukes_173 : decode cX3_playsDukes 173 = .ok (.invokevirtual 521, 3) := dk_182 2 9 (dk_at dksX3_playsDukes_7 6 rfl rfl)
theorem dX3_playsDukes_176 : decode cX3_playsDukes 176 = .ok (.goto (-142), 3) := dk_167 255 114 (dk_at dksX3_playsDukes_7 9 rfl rfl)
theorem dX3_playsDukes_179 : decode cX3_playsDukes 179 = .ok (.aload_n 0, 1) := dk_42 (dk_at dksX3_playsDukes_7 12 rfl rfl)
theorem dX3_playsDukes_180 : decode cX3_playsDukes 180 = .ok (.invokevirtual 491, 3) := dk_182 1 235 (dk_at dksX3_playsDukes_7 13 rfl rfl)
theorem dX3_playsDukes_183 : decode cX3_playsDukes 183 = .ok (.aload_n 0, 1) := dk_42 (dk_at dksX3_playsDukes_7 16 rfl rfl)
theorem dX3_playsDukes_184 : decode cX3_playsDukes 184 = .ok (.getfield 148, 3) := dk_180 0 148 (dk_at dksX3_playsDukes_7 17 rfl rfl)
theorem dX3_playsDukes_187 : decode cX3_playsDukes 187 = .ok (.iconst 0, 1) := dk_3 (dk_at dksX3_playsDukes_7 20 rfl rfl)
theorem dX3_playsDukes_188 : decode cX3_playsDukes 188 = .ok (.iaload, 1) := dk_46 (dk_at dksX3_playsDukes_7 21 rfl rfl)
theorem dX3_playsDukes_189 : decode cX3_playsDukes 189 = .ok (.ireturn, 1) := dk_172 (dk_at dksX3_playsDukes_7 22 rfl rfl)
abbrev cX3_movesDuke : ByteArray := prog_17_method_90_code
def yX3_movesDuke : MethodName := ⟨RX3, "movesDuke", "(IZ)V"⟩
def dkwX3_movesDuke_5 : List UInt8 := [79, 167, 0, 18, 42, 180, 0, 142, 29, 16, 20, 96, 42, 180, 0, 9, 8, 46, 79, 177]
abbrev dktX3_movesDuke_5 : List UInt8 := dkwX3_movesDuke_5 ++ []
def dkwX3_movesDuke_4 : List UInt8 := [132, 4, 1, 167, 255, 169, 28, 153, 0, 21, 42, 180, 0, 9, 8, 42, 180, 0, 142, 29, 16, 20, 96, 46]
abbrev dktX3_movesDuke_4 : List UInt8 := dkwX3_movesDuke_4 ++ dktX3_movesDuke_5
def dkwX3_movesDuke_3 : List UInt8 := [21, 4, 46, 79, 42, 180, 0, 142, 29, 16, 10, 96, 21, 4, 96, 42, 180, 0, 16, 21, 4, 46, 79]
abbrev dktX3_movesDuke_3 : List UInt8 := dkwX3_movesDuke_3 ++ dktX3_movesDuke_4
def dkwX3_movesDuke_2 : List UInt8 := [16, 10, 96, 21, 4, 96, 46, 79, 167, 0, 38, 42, 180, 0, 142, 29, 21, 4, 96, 42, 180, 0, 13]
abbrev dktX3_movesDuke_2 : List UInt8 := dkwX3_movesDuke_2 ++ dktX3_movesDuke_3
def dkwX3_movesDuke_1 : List UInt8 := [21, 4, 42, 180, 0, 142, 29, 21, 4, 96, 46, 79, 42, 180, 0, 16, 21, 4, 42, 180, 0, 142, 29]
abbrev dktX3_movesDuke_1 : List UInt8 := dkwX3_movesDuke_1 ++ dktX3_movesDuke_2
def dkwX3_movesDuke_0 : List UInt8 := [16, 21, 27, 104, 62, 3, 54, 4, 21, 4, 16, 10, 162, 0, 86, 28, 153, 0, 41, 42, 180, 0, 13]
abbrev dktX3_movesDuke_0 : List UInt8 := dkwX3_movesDuke_0 ++ dktX3_movesDuke_1
theorem dksX3_movesDuke_0 : cX3_movesDuke.data.toList.drop 0 = dktX3_movesDuke_0 := by decide +kernel
theorem dksX3_movesDuke_1 : cX3_movesDuke.data.toList.drop 23 = dktX3_movesDuke_1 := dk_seg dksX3_movesDuke_0 23 rfl rfl
theorem dksX3_movesDuke_2 : cX3_movesDuke.data.toList.drop 46 = dktX3_movesDuke_2 := dk_seg dksX3_movesDuke_1 23 rfl rfl
theorem dksX3_movesDuke_3 : cX3_movesDuke.data.toList.drop 69 = dktX3_movesDuke_3 := dk_seg dksX3_movesDuke_2 23 rfl rfl
theorem dksX3_movesDuke_4 : cX3_movesDuke.data.toList.drop 92 = dktX3_movesDuke_4 := dk_seg dksX3_movesDuke_3 23 rfl rfl
theorem dksX3_movesDuke_5 : cX3_movesDuke.data.toList.drop 116 = dktX3_movesDuke_5 := dk_seg dksX3_movesDuke_4 24 rfl rfl
theorem dX3_movesDuke_0 : decode cX3_movesDuke 0 = .ok (.bipush 21, 2) := dk_16 21 (dk_at dksX3_movesDuke_0 0 rfl rfl)
theorem dX3_movesDuke_2 : decode cX3_movesDuke 2 = .ok (.iload_n 1, 1) := dk_27 (dk_at dksX3_movesDuke_0 2 rfl rfl)
theorem dX3_movesDuke_3 : decode cX3_movesDuke 3 = .ok (.imul, 1) := dk_104 (dk_at dksX3_movesDuke_0 3 rfl rfl)
theorem dX3_movesDuke_4 : decode cX3_movesDuke 4 = .ok (.istore_n 3, 1) := dk_62 (dk_at dksX3_movesDuke_0 4 rfl rfl)
theorem dX3_movesDuke_5 : decode cX3_movesDuke 5 = .ok (.iconst 0, 1) := dk_3 (dk_at dksX3_movesDuke_0 5 rfl rfl)
theorem dX3_movesDuke_6 : decode cX3_movesDuke 6 = .ok (.istore 4, 2) := dk_54 4 (dk_at dksX3_movesDuke_0 6 rfl rfl)
theorem dX3_movesDuke_8 : decode cX3_movesDuke 8 = .ok (.iload 4, 2) := dk_21 4 (dk_at dksX3_movesDuke_0 8 rfl rfl)
theorem dX3_movesDuke_10 : decode cX3_movesDuke 10 = .ok (.bipush 10, 2) := dk_16 10 (dk_at dksX3_movesDuke_0 10 rfl rfl)
theorem dX3_movesDuke_12 : decode cX3_movesDuke 12 = .ok (.if_icmp .ge 86, 3) := dk_162 0 86 (dk_at dksX3_movesDuke_0 12 rfl rfl)
theorem dX3_movesDuke_15 : decode cX3_movesDuke 15 = .ok (.iload_n 2, 1) := dk_28 (dk_at dksX3_movesDuke_0 15 rfl rfl)
theorem dX3_movesDuke_16 : decode cX3_movesDuke 16 = .ok (.ifCond .eq 41, 3) := dk_153 0 41 (dk_at dksX3_movesDuke_0 16 rfl rfl)
theorem dX3_movesDuke_19 : decode cX3_movesDuke 19 = .ok (.aload_n 0, 1) := dk_42 (dk_at dksX3_movesDuke_0 19 rfl rfl)
theorem dX3_movesDuke_20 : decode cX3_movesDuke 20 = .ok (.getfield 13, 3) := dk_180 0 13 (dk_at dksX3_movesDuke_0 20 rfl rfl)
theorem dX3_movesDuke_23 : decode cX3_movesDuke 23 = .ok (.iload 4, 2) := dk_21 4 (dk_at dksX3_movesDuke_1 0 rfl rfl)
theorem dX3_movesDuke_25 : decode cX3_movesDuke 25 = .ok (.aload_n 0, 1) := dk_42 (dk_at dksX3_movesDuke_1 2 rfl rfl)
theorem dX3_movesDuke_26 : decode cX3_movesDuke 26 = .ok (.getfield 142, 3) := dk_180 0 142 (dk_at dksX3_movesDuke_1 3 rfl rfl)
theorem dX3_movesDuke_29 : decode cX3_movesDuke 29 = .ok (.iload_n 3, 1) := dk_29 (dk_at dksX3_movesDuke_1 6 rfl rfl)
theorem dX3_movesDuke_30 : decode cX3_movesDuke 30 = .ok (.iload 4, 2) := dk_21 4 (dk_at dksX3_movesDuke_1 7 rfl rfl)
theorem dX3_movesDuke_32 : decode cX3_movesDuke 32 = .ok (.iadd, 1) := dk_96 (dk_at dksX3_movesDuke_1 9 rfl rfl)
theorem dX3_movesDuke_33 : decode cX3_movesDuke 33 = .ok (.iaload, 1) := dk_46 (dk_at dksX3_movesDuke_1 10 rfl rfl)
theorem dX3_movesDuke_34 : decode cX3_movesDuke 34 = .ok (.iastore, 1) := dk_79 (dk_at dksX3_movesDuke_1 11 rfl rfl)
theorem dX3_movesDuke_35 : decode cX3_movesDuke 35 = .ok (.aload_n 0, 1) := dk_42 (dk_at dksX3_movesDuke_1 12 rfl rfl)
theorem dX3_movesDuke_36 : decode cX3_movesDuke 36 = .ok (.getfield 16, 3) := dk_180 0 16 (dk_at dksX3_movesDuke_1 13 rfl rfl)
theorem dX3_movesDuke_39 : decode cX3_movesDuke 39 = .ok (.iload 4, 2) := dk_21 4 (dk_at dksX3_movesDuke_1 16 rfl rfl)
theorem dX3_movesDuke_41 : decode cX3_movesDuke 41 = .ok (.aload_n 0, 1) := dk_42 (dk_at dksX3_movesDuke_1 18 rfl rfl)
theorem dX3_movesDuke_42 : decode cX3_movesDuke 42 = .ok (.getfield 142, 3) := dk_180 0 142 (dk_at dksX3_movesDuke_1 19 rfl rfl)
theorem dX3_movesDuke_45 : decode cX3_movesDuke 45 = .ok (.iload_n 3, 1) := dk_29 (dk_at dksX3_movesDuke_1 22 rfl rfl)
theorem dX3_movesDuke_46 : decode cX3_movesDuke 46 = .ok (.bipush 10, 2) := dk_16 10 (dk_at dksX3_movesDuke_2 0 rfl rfl)
theorem dX3_movesDuke_48 : decode cX3_movesDuke 48 = .ok (.iadd, 1) := dk_96 (dk_at dksX3_movesDuke_2 2 rfl rfl)
theorem dX3_movesDuke_49 : decode cX3_movesDuke 49 = .ok (.iload 4, 2) := dk_21 4 (dk_at dksX3_movesDuke_2 3 rfl rfl)
theorem dX3_movesDuke_51 : decode cX3_movesDuke 51 = .ok (.iadd, 1) := dk_96 (dk_at dksX3_movesDuke_2 5 rfl rfl)
theorem dX3_movesDuke_52 : decode cX3_movesDuke 52 = .ok (.iaload, 1) := dk_46 (dk_at dksX3_movesDuke_2 6 rfl rfl)
theorem dX3_movesDuke_53 : decode cX3_movesDuke 53 = .ok (.iastore, 1) := dk_79 (dk_at dksX3_movesDuke_2 7 rfl rfl)
theorem dX3_movesDuke_54 : decode cX3_movesDuke 54 = .ok (.goto 38, 3) := dk_167 0 38 (dk_at dksX3_movesDuke_2 8 rfl rfl)
theorem dX3_movesDuke_57 : decode cX3_movesDuke 57 = .ok (.aload_n 0, 1) := dk_42 (dk_at dksX3_movesDuke_2 11 rfl rfl)
theorem dX3_movesDuke_58 : decode cX3_movesDuke 58 = .ok (.getfield 142, 3) := dk_180 0 142 (dk_at dksX3_movesDuke_2 12 rfl rfl)
theorem dX3_movesDuke_61 : decode cX3_movesDuke 61 = .ok (.iload_n 3, 1) := dk_29 (dk_at dksX3_movesDuke_2 15 rfl rfl)
theorem dX3_movesDuke_62 : decode cX3_movesDuke 62 = .ok (.iload 4, 2) := dk_21 4 (dk_at dksX3_movesDuke_2 16 rfl rfl)
theorem dX3_movesDuke_64 : decode cX3_movesDuke 64 = .ok (.iadd, 1) := dk_96 (dk_at dksX3_movesDuke_2 18 rfl rfl)
theorem dX3_movesDuke_65 : decode cX3_movesDuke 65 = .ok (.aload_n 0, 1) := dk_42 (dk_at dksX3_movesDuke_2 19 rfl rfl)
theorem dX3_movesDuke_66 : decode cX3_movesDuke 66 = .ok (.getfield 13, 3) := dk_180 0 13 (dk_at dksX3_movesDuke_2 20 rfl rfl)
theorem dX3_movesDuke_69 : decode cX3_movesDuke 69 = .ok (.iload 4, 2) := dk_21 4 (dk_at dksX3_movesDuke_3 0 rfl rfl)
theorem dX3_movesDuke_71 : decode cX3_movesDuke 71 = .ok (.iaload, 1) := dk_46 (dk_at dksX3_movesDuke_3 2 rfl rfl)
theorem dX3_movesDuke_72 : decode cX3_movesDuke 72 = .ok (.iastore, 1) := dk_79 (dk_at dksX3_movesDuke_3 3 rfl rfl)
theorem dX3_movesDuke_73 : decode cX3_movesDuke 73 = .ok (.aload_n 0, 1) := dk_42 (dk_at dksX3_movesDuke_3 4 rfl rfl)
theorem dX3_movesDuke_74 : decode cX3_movesDuke 74 = .ok (.getfield 142, 3) := dk_180 0 142 (dk_at dksX3_movesDuke_3 5 rfl rfl)
theorem dX3_movesDuke_77 : decode cX3_movesDuke 77 = .ok (.iload_n 3, 1) := dk_29 (dk_at dksX3_movesDuke_3 8 rfl rfl)
theorem dX3_movesDuke_78 : decode cX3_movesDuke 78 = .ok (.bipush 10, 2) := dk_16 10 (dk_at dksX3_movesDuke_3 9 rfl rfl)
theorem dX3_movesDuke_80 : decode cX3_movesDuke 80 = .ok (.iadd, 1) := dk_96 (dk_at dksX3_movesDuke_3 11 rfl rfl)
theorem dX3_movesDuke_81 : decode cX3_movesDuke 81 = .ok (.iload 4, 2) := dk_21 4 (dk_at dksX3_movesDuke_3 12 rfl rfl)
theorem dX3_movesDuke_83 : decode cX3_movesDuke 83 = .ok (.iadd, 1) := dk_96 (dk_at dksX3_movesDuke_3 14 rfl rfl)
theorem dX3_movesDuke_84 : decode cX3_movesDuke 84 = .ok (.aload_n 0, 1) := dk_42 (dk_at dksX3_movesDuke_3 15 rfl rfl)
theorem dX3_movesDuke_85 : decode cX3_movesDuke 85 = .ok (.getfield 16, 3) := dk_180 0 16 (dk_at dksX3_movesDuke_3 16 rfl rfl)
theorem dX3_movesDuke_88 : decode cX3_movesDuke 88 = .ok (.iload 4, 2) := dk_21 4 (dk_at dksX3_movesDuke_3 19 rfl rfl)
theorem dX3_movesDuke_90 : decode cX3_movesDuke 90 = .ok (.iaload, 1) := dk_46 (dk_at dksX3_movesDuke_3 21 rfl rfl)
theorem dX3_movesDuke_91 : decode cX3_movesDuke 91 = .ok (.iastore, 1) := dk_79 (dk_at dksX3_movesDuke_3 22 rfl rfl)
theorem dX3_movesDuke_92 : decode cX3_movesDuke 92 = .ok (.iinc 4 1, 3) := dk_132 4 1 (dk_at dksX3_movesDuke_4 0 rfl rfl)
theorem dX3_movesDuke_95 : decode cX3_movesDuke 95 = .ok (.goto (-87), 3) := dk_167 255 169 (dk_at dksX3_movesDuke_4 3 rfl rfl)
theorem dX3_movesDuke_98 : decode cX3_movesDuke 98 = .ok (.iload_n 2, 1) := dk_28 (dk_at dksX3_movesDuke_4 6 rfl rfl)
theorem dX3_movesDuke_99 : decode cX3_movesDuke 99 = .ok (.ifCond .eq 21, 3) := dk_153 0 21 (dk_at dksX3_movesDuke_4 7 rfl rfl)
theorem dX3_movesDuke_102 : decode cX3_movesDuke 102 = .ok (.aload_n 0, 1) := dk_42 (dk_at dksX3_movesDuke_4 10 rfl rfl)
theorem dX3_movesDuke_103 : decode cX3_movesDuke 103 = .ok (.getfield 9, 3) := dk_180 0 9 (dk_at dksX3_movesDuke_4 11 rfl rfl)
theorem dX3_movesDuke_106 : decode cX3_movesDuke 106 = .ok (.iconst 5, 1) := dk_8 (dk_at dksX3_movesDuke_4 14 rfl rfl)
theorem dX3_movesDuke_107 : decode cX3_movesDuke 107 = .ok (.aload_n 0, 1) := dk_42 (dk_at dksX3_movesDuke_4 15 rfl rfl)
theorem dX3_movesDuke_108 : decode cX3_movesDuke 108 = .ok (.getfield 142, 3) := dk_180 0 142 (dk_at dksX3_movesDuke_4 16 rfl rfl)
theorem dX3_movesDuke_111 : decode cX3_movesDuke 111 = .ok (.iload_n 3, 1) := dk_29 (dk_at dksX3_movesDuke_4 19 rfl rfl)
theorem dX3_movesDuke_112 : decode cX3_movesDuke 112 = .ok (.bipush 20, 2) := dk_16 20 (dk_at dksX3_movesDuke_4 20 rfl rfl)
theorem dX3_movesDuke_114 : decode cX3_movesDuke 114 = .ok (.iadd, 1) := dk_96 (dk_at dksX3_movesDuke_4 22 rfl rfl)
theorem dX3_movesDuke_115 : decode cX3_movesDuke 115 = .ok (.iaload, 1) := dk_46 (dk_at dksX3_movesDuke_4 23 rfl rfl)
theorem dX3_movesDuke_116 : decode cX3_movesDuke 116 = .ok (.iastore, 1) := dk_79 (dk_at dksX3_movesDuke_5 0 rfl rfl)
theorem dX3_movesDuke_117 : decode cX3_movesDuke 117 = .ok (.goto 18, 3) := dk_167 0 18 (dk_at dksX3_movesDuke_5 1 rfl rfl)
theorem dX3_movesDuke_120 : decode cX3_movesDuke 120 = .ok (.aload_n 0, 1) := dk_42 (dk_at dksX3_movesDuke_5 4 rfl rfl)
theorem dX3_movesDuke_121 : decode cX3_movesDuke 121 = .ok (.getfield 142, 3) := dk_180 0 142 (dk_at dksX3_movesDuke_5 5 rfl rfl)
theorem dX3_movesDuke_124 : decode cX3_movesDuke 124 = .ok (.iload_n 3, 1) := dk_29 (dk_at dksX3_movesDuke_5 8 rfl rfl)
theorem dX3_movesDuke_125 : decode cX3_movesDuke 125 = .ok (.bipush 20, 2) := dk_16 20 (dk_at dksX3_movesDuke_5 9 rfl rfl)
theorem dX3_movesDuke_127 : decode cX3_movesDuke 127 = .ok (.iadd, 1) := dk_96 (dk_at dksX3_movesDuke_5 11 rfl rfl)
theorem dX3_movesDuke_128 : decode cX3_movesDuke 128 = .ok (.aload_n 0, 1) := dk_42 (dk_at dksX3_movesDuke_5 12 rfl rfl)
theorem dX3_movesDuke_129 : decode cX3_movesDuke 129 = .ok (.getfield 9, 3) := dk_180 0 9 (dk_at dksX3_movesDuke_5 13 rfl rfl)
theorem dX3_movesDuke_132 : decode cX3_movesDuke 132 = .ok (.iconst 5, 1) := dk_8 (dk_at dksX3_movesDuke_5 16 rfl rfl)
theorem dX3_movesDuke_133 : decode cX3_movesDuke 133 = .ok (.iaload, 1) := dk_46 (dk_at dksX3_movesDuke_5 17 rfl rfl)
theorem dX3_movesDuke_134 : decode cX3_movesDuke 134 = .ok (.iastore, 1) := dk_79 (dk_at dksX3_movesDuke_5 18 rfl rfl)
theorem dX3_movesDuke_135 : decode cX3_movesDuke 135 = .ok (.return_, 1) := dk_177 (dk_at dksX3_movesDuke_5 19 rfl rfl)
abbrev cX3_westLessEast : ByteArray := prog_17_method_91_code
def yX3_westLessEast : MethodName := ⟨RX3, "westLessEast", "()I"⟩
def dkwX3_westLessEast_0 : List UInt8 := [42, 3, 182, 1, 232, 184, 1, 247, 42, 4, 182, 1, 232, 184, 1, 247, 100, 172]
abbrev dktX3_westLessEast_0 : List UInt8 := dkwX3_westLessEast_0 ++ []
theorem dksX3_westLessEast_0 : cX3_westLessEast.data.toList.drop 0 = dktX3_westLessEast_0 := by decide +kernel
theorem dX3_westLessEast_0 : decode cX3_westLessEast 0 = .ok (.aload_n 0, 1) := dk_42 (dk_at dksX3_westLessEast_0 0 rfl rfl)
theorem dX3_westLessEast_1 : decode cX3_westLessEast 1 = .ok (.iconst 0, 1) := dk_3 (dk_at dksX3_westLessEast_0 1 rfl rfl)
theorem dX3_westLessEast_2 : decode cX3_westLessEast 2 = .ok (.invokevirtual 488, 3) := dk_182 1 232 (dk_at dksX3_westLessEast_0 2 rfl rfl)
theorem dX3_westLessEast_5 : decode cX3_westLessEast 5 = .ok (.invokestatic 503, 3) := dk_184 1 247 (dk_at dksX3_westLessEast_0 5 rfl rfl)
theorem dX3_westLessEast_8 : decode cX3_westLessEast 8 = .ok (.aload_n 0, 1) := dk_42 (dk_at dksX3_westLessEast_0 8 rfl rfl)
theorem dX3_westLessEast_9 : decode cX3_westLessEast 9 = .ok (.iconst 1, 1) := dk_4 (dk_at dksX3_westLessEast_0 9 rfl rfl)
theorem dX3_westLessEast_10 : decode cX3_westLessEast 10 = .ok (.invokevirtual 488, 3) := dk_182 1 232 (dk_at dksX3_westLessEast_0 10 rfl rfl)
theorem dX3_westLessEast_13 : decode cX3_westLessEast 13 = .ok (.invokestatic 503, 3) := dk_184 1 247 (dk_at dksX3_westLessEast_0 13 rfl rfl)
theorem dX3_westLessEast_16 : decode cX3_westLessEast 16 = .ok (.isub, 1) := dk_100 (dk_at dksX3_westLessEast_0 16 rfl rfl)
theorem dX3_westLessEast_17 : decode cX3_westLessEast 17 = .ok (.ireturn, 1) := dk_172 (dk_at dksX3_westLessEast_0 17 rfl rfl)
abbrev cX3_bits : ByteArray := prog_17_method_4_code
def yX3_bits : MethodName := ⟨RX3, "bits", "(I)I"⟩
def dkwX3_bits_1 : List UInt8 := [27, 172]
abbrev dktX3_bits_1 : List UInt8 := dkwX3_bits_1 ++ []
def dkwX3_bits_0 : List UInt8 := [3, 60, 3, 61, 28, 16, 16, 162, 0, 17, 27, 26, 28, 122, 4, 126, 96, 60, 132, 2, 1, 167, 255, 239]
abbrev dktX3_bits_0 : List UInt8 := dkwX3_bits_0 ++ dktX3_bits_1
theorem dksX3_bits_0 : cX3_bits.data.toList.drop 0 = dktX3_bits_0 := by decide +kernel
theorem dksX3_bits_1 : cX3_bits.data.toList.drop 24 = dktX3_bits_1 := dk_seg dksX3_bits_0 24 rfl rfl
theorem dX3_bits_0 : decode cX3_bits 0 = .ok (.iconst 0, 1) := dk_3 (dk_at dksX3_bits_0 0 rfl rfl)
theorem dX3_bits_1 : decode cX3_bits 1 = .ok (.istore_n 1, 1) := dk_60 (dk_at dksX3_bits_0 1 rfl rfl)
theorem dX3_bits_2 : decode cX3_bits 2 = .ok (.iconst 0, 1) := dk_3 (dk_at dksX3_bits_0 2 rfl rfl)
theorem dX3_bits_3 : decode cX3_bits 3 = .ok (.istore_n 2, 1) := dk_61 (dk_at dksX3_bits_0 3 rfl rfl)
theorem dX3_bits_4 : decode cX3_bits 4 = .ok (.iload_n 2, 1) := dk_28 (dk_at dksX3_bits_0 4 rfl rfl)
theorem dX3_bits_5 : decode cX3_bits 5 = .ok (.bipush 16, 2) := dk_16 16 (dk_at dksX3_bits_0 5 rfl rfl)
theorem dX3_bits_7 : decode cX3_bits 7 = .ok (.if_icmp .ge 17, 3) := dk_162 0 17 (dk_at dksX3_bits_0 7 rfl rfl)
theorem dX3_bits_10 : decode cX3_bits 10 = .ok (.iload_n 1, 1) := dk_27 (dk_at dksX3_bits_0 10 rfl rfl)
theorem dX3_bits_11 : decode cX3_bits 11 = .ok (.iload_n 0, 1) := dk_26 (dk_at dksX3_bits_0 11 rfl rfl)
theorem dX3_bits_12 : decode cX3_bits 12 = .ok (.iload_n 2, 1) := dk_28 (dk_at dksX3_bits_0 12 rfl rfl)
theorem dX3_bits_13 : decode cX3_bits 13 = .ok (.ishr, 1) := dk_122 (dk_at dksX3_bits_0 13 rfl rfl)
theorem dX3_bits_14 : decode cX3_bits 14 = .ok (.iconst 1, 1) := dk_4 (dk_at dksX3_bits_0 14 rfl rfl)
theorem dX3_bits_15 : decode cX3_bits 15 = .ok (.iand, 1) := dk_126 (dk_at dksX3_bits_0 15 rfl rfl)
theorem dX3_bits_16 : decode cX3_bits 16 = .ok (.iadd, 1) := dk_96 (dk_at dksX3_bits_0 16 rfl rfl)
theorem dX3_bits_17 : decode cX3_bits 17 = .ok (.istore_n 1, 1) := dk_60 (dk_at dksX3_bits_0 17 rfl rfl)
theorem dX3_bits_18 : decode cX3_bits 18 = .ok (.iinc 2 1, 3) := dk_132 2 1 (dk_at dksX3_bits_0 18 rfl rfl)
theorem dX3_bits_21 : decode cX3_bits 21 = .ok (.goto (-17), 3) := dk_167 255 239 (dk_at dksX3_bits_0 21 rfl rfl)
theorem dX3_bits_24 : decode cX3_bits 24 = .ok (.iload_n 1, 1) := dk_27 (dk_at dksX3_bits_1 0 rfl rfl)
theorem dX3_bits_25 : decode cX3_bits 25 = .ok (.ireturn, 1) := dk_172 (dk_at dksX3_bits_1 1 rfl rfl)
abbrev cX3_takesWorth : ByteArray := prog_17_method_96_code
def yX3_takesWorth : MethodName := ⟨RX3, "takesWorth", "(II)V"⟩
def dkwX3_takesWorth_1 : List UInt8 := [154, 0, 12, 42, 180, 0, 145, 3, 46, 167, 0, 7, 42, 180, 1, 253, 181, 1, 253, 177]
abbrev dktX3_takesWorth_1 : List UInt8 := dkwX3_takesWorth_1 ++ []
def dkwX3_takesWorth_0 : List UInt8 := [28, 42, 180, 0, 148, 27, 46, 27, 184, 2, 12, 153, 0, 31, 42, 180, 0, 148, 27, 28, 79, 42, 27]
abbrev dktX3_takesWorth_0 : List UInt8 := dkwX3_takesWorth_0 ++ dktX3_takesWorth_1
theorem dksX3_takesWorth_0 : cX3_takesWorth.data.toList.drop 0 = dktX3_takesWorth_0 := by decide +kernel
theorem dksX3_takesWorth_1 : cX3_takesWorth.data.toList.drop 23 = dktX3_takesWorth_1 := dk_seg dksX3_takesWorth_0 23 rfl rfl
theorem dX3_takesWorth_0 : decode cX3_takesWorth 0 = .ok (.iload_n 2, 1) := dk_28 (dk_at dksX3_takesWorth_0 0 rfl rfl)
theorem dX3_takesWorth_1 : decode cX3_takesWorth 1 = .ok (.aload_n 0, 1) := dk_42 (dk_at dksX3_takesWorth_0 1 rfl rfl)
theorem dX3_takesWorth_2 : decode cX3_takesWorth 2 = .ok (.getfield 148, 3) := dk_180 0 148 (dk_at dksX3_takesWorth_0 2 rfl rfl)
theorem dX3_takesWorth_5 : decode cX3_takesWorth 5 = .ok (.iload_n 1, 1) := dk_27 (dk_at dksX3_takesWorth_0 5 rfl rfl)
theorem dX3_takesWorth_6 : decode cX3_takesWorth 6 = .ok (.iaload, 1) := dk_46 (dk_at dksX3_takesWorth_0 6 rfl rfl)
theorem dX3_takesWorth_7 : decode cX3_takesWorth 7 = .ok (.iload_n 1, 1) := dk_27 (dk_at dksX3_takesWorth_0 7 rfl rfl)
theorem dX3_takesWorth_8 : decode cX3_takesWorth 8 = .ok (.invokestatic 524, 3) := dk_184 2 12 (dk_at dksX3_takesWorth_0 8 rfl rfl)
theorem dX3_takesWorth_11 : decode cX3_takesWorth 11 = .ok (.ifCond .eq 31, 3) := dk_153 0 31 (dk_at dksX3_takesWorth_0 11 rfl rfl)
theorem dX3_takesWorth_14 : decode cX3_takesWorth 14 = .ok (.aload_n 0, 1) := dk_42 (dk_at dksX3_takesWorth_0 14 rfl rfl)
theorem dX3_takesWorth_15 : decode cX3_takesWorth 15 = .ok (.getfield 148, 3) := dk_180 0 148 (dk_at dksX3_takesWorth_0 15 rfl rfl)
theorem dX3_takesWorth_18 : decode cX3_takesWorth 18 = .ok (.iload_n 1, 1) := dk_27 (dk_at dksX3_takesWorth_0 18 rfl rfl)
theorem dX3_takesWorth_19 : decode cX3_takesWorth 19 = .ok (.iload_n 2, 1) := dk_28 (dk_at dksX3_takesWorth_0 19 rfl rfl)
theorem dX3_takesWorth_20 : decode cX3_takesWorth 20 = .ok (.iastore, 1) := dk_79 (dk_at dksX3_takesWorth_0 20 rfl rfl)
theorem dX3_takesWorth_21 : decode cX3_takesWorth 21 = .ok (.aload_n 0, 1) := dk_42 (dk_at dksX3_takesWorth_0 21 rfl rfl)
theorem dX3_takesWorth_22 : decode cX3_takesWorth 22 = .ok (.iload_n 1, 1) := dk_27 (dk_at dksX3_takesWorth_0 22 rfl rfl)
theorem dX3_takesWorth_23 : decode cX3_takesWorth 23 = .ok (.ifCond .ne 12, 3) := dk_154 0 12 (dk_at dksX3_takesWorth_1 0 rfl rfl)
theorem dX3_takesWorth_26 : decode cX3_takesWorth 26 = .ok (.aload_n 0, 1) := dk_42 (dk_at dksX3_takesWorth_1 3 rfl rfl)
theorem dX3_takesWorth_27 : decode cX3_takesWorth 27 = .ok (.getfield 145, 3) := dk_180 0 145 (dk_at dksX3_takesWorth_1 4 rfl rfl)
theorem dX3_takesWorth_30 : decode cX3_takesWorth 30 = .ok (.iconst 0, 1) := dk_3 (dk_at dksX3_takesWorth_1 7 rfl rfl)
theorem dX3_takesWorth_31 : decode cX3_takesWorth 31 = .ok (.iaload, 1) := dk_46 (dk_at dksX3_takesWorth_1 8 rfl rfl)
theorem dX3_takesWorth_32 : decode cX3_takesWorth 32 = .ok (.goto 7, 3) := dk_167 0 7 (dk_at dksX3_takesWorth_1 9 rfl rfl)
theorem dX3_takesWorth_35 : decode cX3_takesWorth 35 = .ok (.aload_n 0, 1) := dk_42 (dk_at dksX3_takesWorth_1 12 rfl rfl)
theorem dX3_takesWorth_36 : decode cX3_takesWorth 36 = .ok (.getfield 509, 3) := dk_180 1 253 (dk_at dksX3_takesWorth_1 13 rfl rfl)
theorem dX3_takesWorth_39 : decode cX3_takesWorth 39 = .ok (.putfield 509, 3) := dk_181 1 253 (dk_at dksX3_takesWorth_1 16 rfl rfl)
theorem dX3_takesWorth_42 : decode cX3_takesWorth 42 = .ok (.return_, 1) := dk_177 (dk_at dksX3_takesWorth_1 19 rfl rfl)
abbrev cX3_isBetter : ByteArray := prog_17_method_92_code
def yX3_isBetter : MethodName := ⟨RX3, "isBetter", "(III)Z"⟩
def dkwX3_isBetter_1 : List UInt8 := [162, 0, 7, 4, 167, 0, 4, 3, 172]
abbrev dktX3_isBetter_1 : List UInt8 := dkwX3_isBetter_1 ++ []
def dkwX3_isBetter_0 : List UInt8 := [27, 17, 3, 232, 159, 0, 22, 28, 5, 112, 154, 0, 11, 26, 27, 164, 0, 15, 167, 0, 8, 26, 27]
abbrev dktX3_isBetter_0 : List UInt8 := dkwX3_isBetter_0 ++ dktX3_isBetter_1
theorem dksX3_isBetter_0 : cX3_isBetter.data.toList.drop 0 = dktX3_isBetter_0 := by decide +kernel
theorem dksX3_isBetter_1 : cX3_isBetter.data.toList.drop 23 = dktX3_isBetter_1 := dk_seg dksX3_isBetter_0 23 rfl rfl
theorem dX3_isBetter_0 : decode cX3_isBetter 0 = .ok (.iload_n 1, 1) := dk_27 (dk_at dksX3_isBetter_0 0 rfl rfl)
theorem dX3_isBetter_1 : decode cX3_isBetter 1 = .ok (.sipush 1000, 3) := dk_17 3 232 (dk_at dksX3_isBetter_0 1 rfl rfl)
theorem dX3_isBetter_4 : decode cX3_isBetter 4 = .ok (.if_icmp .eq 22, 3) := dk_159 0 22 (dk_at dksX3_isBetter_0 4 rfl rfl)
theorem dX3_isBetter_7 : decode cX3_isBetter 7 = .ok (.iload_n 2, 1) := dk_28 (dk_at dksX3_isBetter_0 7 rfl rfl)
theorem dX3_isBetter_8 : decode cX3_isBetter 8 = .ok (.iconst 2, 1) := dk_5 (dk_at dksX3_isBetter_0 8 rfl rfl)
theorem dX3_isBetter_9 : decode cX3_isBetter 9 = .ok (.irem, 1) := dk_112 (dk_at dksX3_isBetter_0 9 rfl rfl)
theorem dX3_isBetter_10 : decode cX3_isBetter 10 = .ok (.ifCond .ne 11, 3) := dk_154 0 11 (dk_at dksX3_isBetter_0 10 rfl rfl)
theorem dX3_isBetter_13 : decode cX3_isBetter 13 = .ok (.iload_n 0, 1) := dk_26 (dk_at dksX3_isBetter_0 13 rfl rfl)
theorem dX3_isBetter_14 : decode cX3_isBetter 14 = .ok (.iload_n 1, 1) := dk_27 (dk_at dksX3_isBetter_0 14 rfl rfl)
theorem dX3_isBetter_15 : decode cX3_isBetter 15 = .ok (.if_icmp .le 15, 3) := dk_164 0 15 (dk_at dksX3_isBetter_0 15 rfl rfl)
theorem dX3_isBetter_18 : decode cX3_isBetter 18 = .ok (.goto 8, 3) := dk_167 0 8 (dk_at dksX3_isBetter_0 18 rfl rfl)
theorem dX3_isBetter_21 : decode cX3_isBetter 21 = .ok (.iload_n 0, 1) := dk_26 (dk_at dksX3_isBetter_0 21 rfl rfl)
theorem dX3_isBetter_22 : decode cX3_isBetter 22 = .ok (.iload_n 1, 1) := dk_27 (dk_at dksX3_isBetter_0 22 rfl rfl)
theorem dX3_isBetter_23 : decode cX3_isBetter 23 = .ok (.if_icmp .ge 7, 3) := dk_162 0 7 (dk_at dksX3_isBetter_1 0 rfl rfl)
theorem dX3_isBetter_26 : decode cX3_isBetter 26 = .ok (.iconst 1, 1) := dk_4 (dk_at dksX3_isBetter_1 3 rfl rfl)
theorem dX3_isBetter_27 : decode cX3_isBetter 27 = .ok (.goto 4, 3) := dk_167 0 4 (dk_at dksX3_isBetter_1 4 rfl rfl)
theorem dX3_isBetter_30 : decode cX3_isBetter 30 = .ok (.iconst 0, 1) := dk_3 (dk_at dksX3_isBetter_1 7 rfl rfl)
theorem dX3_isBetter_31 : decode cX3_isBetter 31 = .ok (.ireturn, 1) := dk_172 (dk_at dksX3_isBetter_1 8 rfl rfl)
abbrev cX3_goesDuke : ByteArray := prog_17_method_94_code
def yX3_goesDuke : MethodName := ⟨RX3, "goesDuke", "(I)V"⟩
def dkwX3_goesDuke_1 : List UInt8 := [167, 0, 4, 2, 182, 1, 214, 42, 182, 1, 183, 87, 177]
abbrev dktX3_goesDuke_1 : List UInt8 := dkwX3_goesDuke_1 ++ []
def dkwX3_goesDuke_0 : List UInt8 := [42, 180, 0, 145, 27, 46, 2, 159, 0, 24, 42, 42, 180, 0, 145, 27, 46, 27, 5, 112, 154, 0, 7, 4]
abbrev dktX3_goesDuke_0 : List UInt8 := dkwX3_goesDuke_0 ++ dktX3_goesDuke_1
theorem dksX3_goesDuke_0 : cX3_goesDuke.data.toList.drop 0 = dktX3_goesDuke_0 := by decide +kernel
theorem dksX3_goesDuke_1 : cX3_goesDuke.data.toList.drop 24 = dktX3_goesDuke_1 := dk_seg dksX3_goesDuke_0 24 rfl rfl
theorem dX3_goesDuke_0 : decode cX3_goesDuke 0 = .ok (.aload_n 0, 1) := dk_42 (dk_at dksX3_goesDuke_0 0 rfl rfl)
theorem dX3_goesDuke_1 : decode cX3_goesDuke 1 = .ok (.getfield 145, 3) := dk_180 0 145 (dk_at dksX3_goesDuke_0 1 rfl rfl)
theorem dX3_goesDuke_4 : decode cX3_goesDuke 4 = .ok (.iload_n 1, 1) := dk_27 (dk_at dksX3_goesDuke_0 4 rfl rfl)
theorem dX3_goesDuke_5 : decode cX3_goesDuke 5 = .ok (.iaload, 1) := dk_46 (dk_at dksX3_goesDuke_0 5 rfl rfl)
theorem dX3_goesDuke_6 : decode cX3_goesDuke 6 = .ok (.iconst (-1), 1) := dk_2 (dk_at dksX3_goesDuke_0 6 rfl rfl)
theorem dX3_goesDuke_7 : decode cX3_goesDuke 7 = .ok (.if_icmp .eq 24, 3) := dk_159 0 24 (dk_at dksX3_goesDuke_0 7 rfl rfl)
theorem dX3_goesDuke_10 : decode cX3_goesDuke 10 = .ok (.aload_n 0, 1) := dk_42 (dk_at dksX3_goesDuke_0 10 rfl rfl)
theorem dX3_goesDuke_11 : decode cX3_goesDuke 11 = .ok (.aload_n 0, 1) := dk_42 (dk_at dksX3_goesDuke_0 11 rfl rfl)
theorem dX3_goesDuke_12 : decode cX3_goesDuke 12 = .ok (.getfield 145, 3) := dk_180 0 145 (dk_at dksX3_goesDuke_0 12 rfl rfl)
theorem dX3_goesDuke_15 : decode cX3_goesDuke 15 = .ok (.iload_n 1, 1) := dk_27 (dk_at dksX3_goesDuke_0 15 rfl rfl)
theorem dX3_goesDuke_16 : decode cX3_goesDuke 16 = .ok (.iaload, 1) := dk_46 (dk_at dksX3_goesDuke_0 16 rfl rfl)
theorem dX3_goesDuke_17 : decode cX3_goesDuke 17 = .ok (.iload_n 1, 1) := dk_27 (dk_at dksX3_goesDuke_0 17 rfl rfl)
theorem dX3_goesDuke_18 : decode cX3_goesDuke 18 = .ok (.iconst 2, 1) := dk_5 (dk_at dksX3_goesDuke_0 18 rfl rfl)
theorem dX3_goesDuke_19 : decode cX3_goesDuke 19 = .ok (.irem, 1) := dk_112 (dk_at dksX3_goesDuke_0 19 rfl rfl)
theorem dX3_goesDuke_20 : decode cX3_goesDuke 20 = .ok (.ifCond .ne 7, 3) := dk_154 0 7 (dk_at dksX3_goesDuke_0 20 rfl rfl)
theorem dX3_goesDuke_23 : decode cX3_goesDuke 23 = .ok (.iconst 1, 1) := dk_4 (dk_at dksX3_goesDuke_0 23 rfl rfl)
theorem dX3_goesDuke_24 : decode cX3_goesDuke 24 = .ok (.goto 4, 3) := dk_167 0 4 (dk_at dksX3_goesDuke_1 0 rfl rfl)
theorem dX3_goesDuke_27 : decode cX3_goesDuke 27 = .ok (.iconst (-1), 1) := dk_2 (dk_at dksX3_goesDuke_1 3 rfl rfl)
theorem dX3_goesDuke_28 : decode cX3_goesDuke 28 = .ok (.invokevirtual 470, 3) := dk_182 1 214 (dk_at dksX3_goesDuke_1 4 rfl rfl)
theorem dX3_goesDuke_31 : decode cX3_goesDuke 31 = .ok (.aload_n 0, 1) := dk_42 (dk_at dksX3_goesDuke_1 7 rfl rfl)
theorem dX3_goesDuke_32 : decode cX3_goesDuke 32 = .ok (.invokevirtual 439, 3) := dk_182 1 183 (dk_at dksX3_goesDuke_1 8 rfl rfl)
theorem dX3_goesDuke_35 : decode cX3_goesDuke 35 = .ok (.pop, 1) := dk_87 (dk_at dksX3_goesDuke_1 11 rfl rfl)
theorem dX3_goesDuke_36 : decode cX3_goesDuke 36 = .ok (.return_, 1) := dk_177 (dk_at dksX3_goesDuke_1 12 rfl rfl)
abbrev cX3_opensDuke : ByteArray := prog_17_method_95_code
def yX3_opensDuke : MethodName := ⟨RX3, "opensDuke", "(II)V"⟩
def dkwX3_opensDuke_1 : List UInt8 := [17, 3, 232, 79, 177]
abbrev dktX3_opensDuke_1 : List UInt8 := dkwX3_opensDuke_1 ++ []
def dkwX3_opensDuke_0 : List UInt8 := [27, 28, 162, 0, 26, 42, 27, 3, 182, 1, 250, 42, 180, 0, 145, 27, 16, 254, 79, 42, 180, 0, 148, 27]
abbrev dktX3_opensDuke_0 : List UInt8 := dkwX3_opensDuke_0 ++ dktX3_opensDuke_1
theorem dksX3_opensDuke_0 : cX3_opensDuke.data.toList.drop 0 = dktX3_opensDuke_0 := by decide +kernel
theorem dksX3_opensDuke_1 : cX3_opensDuke.data.toList.drop 24 = dktX3_opensDuke_1 := dk_seg dksX3_opensDuke_0 24 rfl rfl
theorem dX3_opensDuke_0 : decode cX3_opensDuke 0 = .ok (.iload_n 1, 1) := dk_27 (dk_at dksX3_opensDuke_0 0 rfl rfl)
theorem dX3_opensDuke_1 : decode cX3_opensDuke 1 = .ok (.iload_n 2, 1) := dk_28 (dk_at dksX3_opensDuke_0 1 rfl rfl)
theorem dX3_opensDuke_2 : decode cX3_opensDuke 2 = .ok (.if_icmp .ge 26, 3) := dk_162 0 26 (dk_at dksX3_opensDuke_0 2 rfl rfl)
theorem dX3_opensDuke_5 : decode cX3_opensDuke 5 = .ok (.aload_n 0, 1) := dk_42 (dk_at dksX3_opensDuke_0 5 rfl rfl)
theorem dX3_opensDuke_6 : decode cX3_opensDuke 6 = .ok (.iload_n 1, 1) := dk_27 (dk_at dksX3_opensDuke_0 6 rfl rfl)
theorem dX3_opensDuke_7 : decode cX3_opensDuke 7 = .ok (.iconst 0, 1) := dk_3 (dk_at dksX3_opensDuke_0 7 rfl rfl)
theorem dX3_opensDuke_8 : decode cX3_opensDuke 8 = .ok (.invokevirtual 506, 3) := dk_182 1 250 (dk_at dksX3_opensDuke_0 8 rfl rfl)
theorem dX3_opensDuke_11 : decode cX3_opensDuke 11 = .ok (.aload_n 0, 1) := dk_42 (dk_at dksX3_opensDuke_0 11 rfl rfl)
theorem dX3_opensDuke_12 : decode cX3_opensDuke 12 = .ok (.getfield 145, 3) := dk_180 0 145 (dk_at dksX3_opensDuke_0 12 rfl rfl)
theorem dX3_opensDuke_15 : decode cX3_opensDuke 15 = .ok (.iload_n 1, 1) := dk_27 (dk_at dksX3_opensDuke_0 15 rfl rfl)
theorem dX3_opensDuke_16 : decode cX3_opensDuke 16 = .ok (.bipush (-2), 2) := dk_16 254 (dk_at dksX3_opensDuke_0 16 rfl rfl)
theorem dX3_opensDuke_18 : decode cX3_opensDuke 18 = .ok (.iastore, 1) := dk_79 (dk_at dksX3_opensDuke_0 18 rfl rfl)
theorem dX3_opensDuke_19 : decode cX3_opensDuke 19 = .ok (.aload_n 0, 1) := dk_42 (dk_at dksX3_opensDuke_0 19 rfl rfl)
theorem dX3_opensDuke_20 : decode cX3_opensDuke 20 = .ok (.getfield 148, 3) := dk_180 0 148 (dk_at dksX3_opensDuke_0 20 rfl rfl)
theorem dX3_opensDuke_23 : decode cX3_opensDuke 23 = .ok (.iload_n 1, 1) := dk_27 (dk_at dksX3_opensDuke_0 23 rfl rfl)
theorem dX3_opensDuke_24 : decode cX3_opensDuke 24 = .ok (.sipush 1000, 3) := dk_17 3 232 (dk_at dksX3_opensDuke_1 0 rfl rfl)
theorem dX3_opensDuke_27 : decode cX3_opensDuke 27 = .ok (.iastore, 1) := dk_79 (dk_at dksX3_opensDuke_1 3 rfl rfl)
theorem dX3_opensDuke_28 : decode cX3_opensDuke 28 = .ok (.return_, 1) := dk_177 (dk_at dksX3_opensDuke_1 4 rfl rfl)
abbrev cX3_log : ByteArray := prog_17_method_98_code
def yX3_log : MethodName := ⟨RX3, "log", "(III)I"⟩
def dkwX3_log_4 : List UInt8 := [16, 6, 92, 46, 4, 96, 79, 21, 4, 4, 96, 172]
abbrev dktX3_log_4 : List UInt8 := dkwX3_log_4 ++ []
def dkwX3_log_3 : List UInt8 := [21, 4, 27, 79, 42, 180, 0, 46, 21, 4, 28, 79, 42, 180, 0, 49, 21, 4, 29, 79, 42, 180, 0, 9]
abbrev dktX3_log_3 : List UInt8 := dkwX3_log_3 ++ dktX3_log_4
def dkwX3_log_2 : List UInt8 := [20, 1, 217, 184, 0, 170, 153, 0, 10, 21, 4, 16, 10, 160, 0, 6, 16, 254, 172, 42, 180, 0, 43]
abbrev dktX3_log_2 : List UInt8 := dkwX3_log_2 ++ dktX3_log_3
def dkwX3_log_1 : List UInt8 := [27, 133, 9, 20, 2, 19, 184, 0, 170, 153, 0, 30, 42, 28, 182, 0, 178, 153, 0, 22, 29, 133, 9]
abbrev dktX3_log_1 : List UInt8 := dkwX3_log_1 ++ dktX3_log_2
def dkwX3_log_0 : List UInt8 := [27, 2, 160, 0, 13, 42, 180, 0, 9, 16, 6, 3, 79, 3, 172, 42, 180, 0, 9, 16, 6, 46, 54, 4]
abbrev dktX3_log_0 : List UInt8 := dkwX3_log_0 ++ dktX3_log_1
theorem dksX3_log_0 : cX3_log.data.toList.drop 0 = dktX3_log_0 := by decide +kernel
theorem dksX3_log_1 : cX3_log.data.toList.drop 24 = dktX3_log_1 := dk_seg dksX3_log_0 24 rfl rfl
theorem dksX3_log_2 : cX3_log.data.toList.drop 47 = dktX3_log_2 := dk_seg dksX3_log_1 23 rfl rfl
theorem dksX3_log_3 : cX3_log.data.toList.drop 70 = dktX3_log_3 := dk_seg dksX3_log_2 23 rfl rfl
theorem dksX3_log_4 : cX3_log.data.toList.drop 94 = dktX3_log_4 := dk_seg dksX3_log_3 24 rfl rfl
theorem dX3_log_0 : decode cX3_log 0 = .ok (.iload_n 1, 1) := dk_27 (dk_at dksX3_log_0 0 rfl rfl)
theorem dX3_log_1 : decode cX3_log 1 = .ok (.iconst (-1), 1) := dk_2 (dk_at dksX3_log_0 1 rfl rfl)
theorem dX3_log_2 : decode cX3_log 2 = .ok (.if_icmp .ne 13, 3) := dk_160 0 13 (dk_at dksX3_log_0 2 rfl rfl)
theorem dX3_log_5 : decode cX3_log 5 = .ok (.aload_n 0, 1) := dk_42 (dk_at dksX3_log_0 5 rfl rfl)
theorem dX3_log_6 : decode cX3_log 6 = .ok (.getfield 9, 3) := dk_180 0 9 (dk_at dksX3_log_0 6 rfl rfl)
theorem dX3_log_9 : decode cX3_log 9 = .ok (.bipush 6, 2) := dk_16 6 (dk_at dksX3_log_0 9 rfl rfl)
theorem dX3_log_11 : decode cX3_log 11 = .ok (.iconst 0, 1) := dk_3 (dk_at dksX3_log_0 11 rfl rfl)
theorem dX3_log_12 : decode cX3_log 12 = .ok (.iastore, 1) := dk_79 (dk_at dksX3_log_0 12 rfl rfl)
theorem dX3_log_13 : decode cX3_log 13 = .ok (.iconst 0, 1) := dk_3 (dk_at dksX3_log_0 13 rfl rfl)
theorem dX3_log_14 : decode cX3_log 14 = .ok (.ireturn, 1) := dk_172 (dk_at dksX3_log_0 14 rfl rfl)
theorem dX3_log_15 : decode cX3_log 15 = .ok (.aload_n 0, 1) := dk_42 (dk_at dksX3_log_0 15 rfl rfl)
theorem dX3_log_16 : decode cX3_log 16 = .ok (.getfield 9, 3) := dk_180 0 9 (dk_at dksX3_log_0 16 rfl rfl)
theorem dX3_log_19 : decode cX3_log 19 = .ok (.bipush 6, 2) := dk_16 6 (dk_at dksX3_log_0 19 rfl rfl)
theorem dX3_log_21 : decode cX3_log 21 = .ok (.iaload, 1) := dk_46 (dk_at dksX3_log_0 21 rfl rfl)
theorem dX3_log_22 : decode cX3_log 22 = .ok (.istore 4, 2) := dk_54 4 (dk_at dksX3_log_0 22 rfl rfl)
theorem dX3_log_24 : decode cX3_log 24 = .ok (.iload_n 1, 1) := dk_27 (dk_at dksX3_log_1 0 rfl rfl)
theorem dX3_log_25 : decode cX3_log 25 = .ok (.i2l, 1) := dk_133 (dk_at dksX3_log_1 1 rfl rfl)
theorem dX3_log_26 : decode cX3_log 26 = .ok (.lconst 0, 1) := dk_9 (dk_at dksX3_log_1 2 rfl rfl)
theorem dX3_log_27 : decode cX3_log 27 = .ok (.ldc2_w 531, 3) := dk_20 2 19 (dk_at dksX3_log_1 3 rfl rfl)
theorem dX3_log_30 : decode cX3_log 30 = .ok (.invokestatic 170, 3) := dk_184 0 170 (dk_at dksX3_log_1 6 rfl rfl)
theorem dX3_log_33 : decode cX3_log 33 = .ok (.ifCond .eq 30, 3) := dk_153 0 30 (dk_at dksX3_log_1 9 rfl rfl)
theorem dX3_log_36 : decode cX3_log 36 = .ok (.aload_n 0, 1) := dk_42 (dk_at dksX3_log_1 12 rfl rfl)
theorem dX3_log_37 : decode cX3_log 37 = .ok (.iload_n 2, 1) := dk_28 (dk_at dksX3_log_1 13 rfl rfl)
theorem dX3_log_38 : decode cX3_log 38 = .ok (.invokevirtual 178, 3) := dk_182 0 178 (dk_at dksX3_log_1 14 rfl rfl)
theorem dX3_log_41 : decode cX3_log 41 = .ok (.ifCond .eq 22, 3) := dk_153 0 22 (dk_at dksX3_log_1 17 rfl rfl)
theorem dX3_log_44 : decode cX3_log 44 = .ok (.iload_n 3, 1) := dk_29 (dk_at dksX3_log_1 20 rfl rfl)
theorem dX3_log_45 : decode cX3_log 45 = .ok (.i2l, 1) := dk_133 (dk_at dksX3_log_1 21 rfl rfl)
theorem dX3_log_46 : decode cX3_log 46 = .ok (.lconst 0, 1) := dk_9 (dk_at dksX3_log_1 22 rfl rfl)
theorem dX3_log_47 : decode cX3_log 47 = .ok (.ldc2_w 473, 3) := dk_20 1 217 (dk_at dksX3_log_2 0 rfl rfl)
theorem dX3_log_50 : decode cX3_log 50 = .ok (.invokestatic 170, 3) := dk_184 0 170 (dk_at dksX3_log_2 3 rfl rfl)
theorem dX3_log_53 : decode cX3_log 53 = .ok (.ifCond .eq 10, 3) := dk_153 0 10 (dk_at dksX3_log_2 6 rfl rfl)
theorem dX3_log_56 : decode cX3_log 56 = .ok (.iload 4, 2) := dk_21 4 (dk_at dksX3_log_2 9 rfl rfl)
theorem dX3_log_58 : decode cX3_log 58 = .ok (.bipush 10, 2) := dk_16 10 (dk_at dksX3_log_2 11 rfl rfl)
theorem dX3_log_60 : decode cX3_log 60 = .ok (.if_icmp .ne 6, 3) := dk_160 0 6 (dk_at dksX3_log_2 13 rfl rfl)
theorem dX3_log_63 : decode cX3_log 63 = .ok (.bipush (-2), 2) := dk_16 254 (dk_at dksX3_log_2 16 rfl rfl)
theorem dX3_log_65 : decode cX3_log 65 = .ok (.ireturn, 1) := dk_172 (dk_at dksX3_log_2 18 rfl rfl)
theorem dX3_log_66 : decode cX3_log 66 = .ok (.aload_n 0, 1) := dk_42 (dk_at dksX3_log_2 19 rfl rfl)
theorem dX3_log_67 : decode cX3_log 67 = .ok (.getfield 43, 3) := dk_180 0 43 (dk_at dksX3_log_2 20 rfl rfl)
theorem dX3_log_70 : decode cX3_log 70 = .ok (.iload 4, 2) := dk_21 4 (dk_at dksX3_log_3 0 rfl rfl)
theorem dX3_log_72 : decode cX3_log 72 = .ok (.iload_n 1, 1) := dk_27 (dk_at dksX3_log_3 2 rfl rfl)
theorem dX3_log_73 : decode cX3_log 73 = .ok (.iastore, 1) := dk_79 (dk_at dksX3_log_3 3 rfl rfl)
theorem dX3_log_74 : decode cX3_log 74 = .ok (.aload_n 0, 1) := dk_42 (dk_at dksX3_log_3 4 rfl rfl)
theorem dX3_log_75 : decode cX3_log 75 = .ok (.getfield 46, 3) := dk_180 0 46 (dk_at dksX3_log_3 5 rfl rfl)
theorem dX3_log_78 : decode cX3_log 78 = .ok (.iload 4, 2) := dk_21 4 (dk_at dksX3_log_3 8 rfl rfl)
theorem dX3_log_80 : decode cX3_log 80 = .ok (.iload_n 2, 1) := dk_28 (dk_at dksX3_log_3 10 rfl rfl)
theorem dX3_log_81 : decode cX3_log 81 = .ok (.iastore, 1) := dk_79 (dk_at dksX3_log_3 11 rfl rfl)
theorem dX3_log_82 : decode cX3_log 82 = .ok (.aload_n 0, 1) := dk_42 (dk_at dksX3_log_3 12 rfl rfl)
theorem dX3_log_83 : decode cX3_log 83 = .ok (.getfield 49, 3) := dk_180 0 49 (dk_at dksX3_log_3 13 rfl rfl)
theorem dX3_log_86 : decode cX3_log 86 = .ok (.iload 4, 2) := dk_21 4 (dk_at dksX3_log_3 16 rfl rfl)
theorem dX3_log_88 : decode cX3_log 88 = .ok (.iload_n 3, 1) := dk_29 (dk_at dksX3_log_3 18 rfl rfl)
theorem dX3_log_89 : decode cX3_log 89 = .ok (.iastore, 1) := dk_79 (dk_at dksX3_log_3 19 rfl rfl)
theorem dX3_log_90 : decode cX3_log 90 = .ok (.aload_n 0, 1) := dk_42 (dk_at dksX3_log_3 20 rfl rfl)
theorem dX3_log_91 : decode cX3_log 91 = .ok (.getfield 9, 3) := dk_180 0 9 (dk_at dksX3_log_3 21 rfl rfl)
theorem dX3_log_94 : decode cX3_log 94 = .ok (.bipush 6, 2) := dk_16 6 (dk_at dksX3_log_4 0 rfl rfl)
theorem dX3_log_96 : decode cX3_log 96 = .ok (.dup2, 1) := dk_92 (dk_at dksX3_log_4 2 rfl rfl)
theorem dX3_log_97 : decode cX3_log 97 = .ok (.iaload, 1) := dk_46 (dk_at dksX3_log_4 3 rfl rfl)
theorem dX3_log_98 : decode cX3_log 98 = .ok (.iconst 1, 1) := dk_4 (dk_at dksX3_log_4 4 rfl rfl)
theorem dX3_log_99 : decode cX3_log 99 = .ok (.iadd, 1) := dk_96 (dk_at dksX3_log_4 5 rfl rfl)
theorem dX3_log_100 : decode cX3_log 100 = .ok (.iastore, 1) := dk_79 (dk_at dksX3_log_4 6 rfl rfl)
theorem dX3_log_101 : decode cX3_log 101 = .ok (.iload 4, 2) := dk_21 4 (dk_at dksX3_log_4 7 rfl rfl)
theorem dX3_log_103 : decode cX3_log 103 = .ok (.iconst 1, 1) := dk_4 (dk_at dksX3_log_4 9 rfl rfl)
theorem dX3_log_104 : decode cX3_log 104 = .ok (.iadd, 1) := dk_96 (dk_at dksX3_log_4 10 rfl rfl)
theorem dX3_log_105 : decode cX3_log 105 = .ok (.ireturn, 1) := dk_172 (dk_at dksX3_log_4 11 rfl rfl)
abbrev cX3_theft : ByteArray := prog_17_method_101_code
def yX3_theft : MethodName := ⟨RX3, "theft", "(II)I"⟩
def dkwX3_theft_5 : List UInt8 := [167, 255, 185, 28, 154, 0, 7, 29, 167, 0, 15, 28, 4, 160, 0, 8, 21, 4, 167, 0, 5, 21, 5, 172]
abbrev dktX3_theft_5 : List UInt8 := dkwX3_theft_5 ++ []
def dkwX3_theft_4 : List UInt8 := [154, 0, 8, 21, 7, 167, 0, 5, 21, 5, 54, 5, 132, 3, 1, 132, 7, 1, 167, 255, 205, 132, 6, 1]
abbrev dktX3_theft_4 : List UInt8 := dkwX3_theft_4 ++ dktX3_theft_5
def dkwX3_theft_3 : List UInt8 := [21, 7, 27, 182, 2, 28, 153, 0, 32, 29, 154, 0, 8, 21, 6, 167, 0, 5, 21, 4, 54, 4, 29]
abbrev dktX3_theft_3 : List UInt8 := dkwX3_theft_3 ++ dktX3_theft_4
def dkwX3_theft_2 : List UInt8 := [21, 6, 42, 180, 0, 9, 3, 46, 162, 0, 66, 3, 54, 7, 21, 7, 16, 30, 162, 0, 50, 42, 21, 6]
abbrev dktX3_theft_2 : List UInt8 := dkwX3_theft_2 ++ dktX3_theft_3
def dkwX3_theft_1 : List UInt8 := [20, 1, 224, 184, 0, 170, 154, 0, 5, 2, 172, 3, 62, 16, 254, 54, 4, 16, 254, 54, 5, 3, 54, 6]
abbrev dktX3_theft_1 : List UInt8 := dkwX3_theft_1 ++ dktX3_theft_2
def dkwX3_theft_0 : List UInt8 := [42, 182, 1, 144, 153, 0, 27, 27, 133, 10, 20, 1, 217, 184, 0, 170, 153, 0, 15, 28, 133, 9]
abbrev dktX3_theft_0 : List UInt8 := dkwX3_theft_0 ++ dktX3_theft_1
theorem dksX3_theft_0 : cX3_theft.data.toList.drop 0 = dktX3_theft_0 := by decide +kernel
theorem dksX3_theft_1 : cX3_theft.data.toList.drop 22 = dktX3_theft_1 := dk_seg dksX3_theft_0 22 rfl rfl
theorem dksX3_theft_2 : cX3_theft.data.toList.drop 46 = dktX3_theft_2 := dk_seg dksX3_theft_1 24 rfl rfl
theorem dksX3_theft_3 : cX3_theft.data.toList.drop 70 = dktX3_theft_3 := dk_seg dksX3_theft_2 24 rfl rfl
theorem dksX3_theft_4 : cX3_theft.data.toList.drop 93 = dktX3_theft_4 := dk_seg dksX3_theft_3 23 rfl rfl
theorem dksX3_theft_5 : cX3_theft.data.toList.drop 117 = dktX3_theft_5 := dk_seg dksX3_theft_4 24 rfl rfl
theorem dX3_theft_0 : decode cX3_theft 0 = .ok (.aload_n 0, 1) := dk_42 (dk_at dksX3_theft_0 0 rfl rfl)
theorem dX3_theft_1 : decode cX3_theft 1 = .ok (.invokevirtual 400, 3) := dk_182 1 144 (dk_at dksX3_theft_0 1 rfl rfl)
theorem dX3_theft_4 : decode cX3_theft 4 = .ok (.ifCond .eq 27, 3) := dk_153 0 27 (dk_at dksX3_theft_0 4 rfl rfl)
theorem dX3_theft_7 : decode cX3_theft 7 = .ok (.iload_n 1, 1) := dk_27 (dk_at dksX3_theft_0 7 rfl rfl)
theorem dX3_theft_8 : decode cX3_theft 8 = .ok (.i2l, 1) := dk_133 (dk_at dksX3_theft_0 8 rfl rfl)
theorem dX3_theft_9 : decode cX3_theft 9 = .ok (.lconst 1, 1) := dk_10 (dk_at dksX3_theft_0 9 rfl rfl)
theorem dX3_theft_10 : decode cX3_theft 10 = .ok (.ldc2_w 473, 3) := dk_20 1 217 (dk_at dksX3_theft_0 10 rfl rfl)
theorem dX3_theft_13 : decode cX3_theft 13 = .ok (.invokestatic 170, 3) := dk_184 0 170 (dk_at dksX3_theft_0 13 rfl rfl)
theorem dX3_theft_16 : decode cX3_theft 16 = .ok (.ifCond .eq 15, 3) := dk_153 0 15 (dk_at dksX3_theft_0 16 rfl rfl)
theorem dX3_theft_19 : decode cX3_theft 19 = .ok (.iload_n 2, 1) := dk_28 (dk_at dksX3_theft_0 19 rfl rfl)
theorem dX3_theft_20 : decode cX3_theft 20 = .ok (.i2l, 1) := dk_133 (dk_at dksX3_theft_0 20 rfl rfl)
theorem dX3_theft_21 : decode cX3_theft 21 = .ok (.lconst 0, 1) := dk_9 (dk_at dksX3_theft_0 21 rfl rfl)
theorem dX3_theft_22 : decode cX3_theft 22 = .ok (.ldc2_w 480, 3) := dk_20 1 224 (dk_at dksX3_theft_1 0 rfl rfl)
theorem dX3_theft_25 : decode cX3_theft 25 = .ok (.invokestatic 170, 3) := dk_184 0 170 (dk_at dksX3_theft_1 3 rfl rfl)
theorem dX3_theft_28 : decode cX3_theft 28 = .ok (.ifCond .ne 5, 3) := dk_154 0 5 (dk_at dksX3_theft_1 6 rfl rfl)
theorem dX3_theft_31 : decode cX3_theft 31 = .ok (.iconst (-1), 1) := dk_2 (dk_at dksX3_theft_1 9 rfl rfl)
theorem dX3_theft_32 : decode cX3_theft 32 = .ok (.ireturn, 1) := dk_172 (dk_at dksX3_theft_1 10 rfl rfl)
theorem dX3_theft_33 : decode cX3_theft 33 = .ok (.iconst 0, 1) := dk_3 (dk_at dksX3_theft_1 11 rfl rfl)
theorem dX3_theft_34 : decode cX3_theft 34 = .ok (.istore_n 3, 1) := dk_62 (dk_at dksX3_theft_1 12 rfl rfl)
theorem dX3_theft_35 : decode cX3_theft 35 = .ok (.bipush (-2), 2) := dk_16 254 (dk_at dksX3_theft_1 13 rfl rfl)
theorem dX3_theft_37 : decode cX3_theft 37 = .ok (.istore 4, 2) := dk_54 4 (dk_at dksX3_theft_1 15 rfl rfl)
theorem dX3_theft_39 : decode cX3_theft 39 = .ok (.bipush (-2), 2) := dk_16 254 (dk_at dksX3_theft_1 17 rfl rfl)
theorem dX3_theft_41 : decode cX3_theft 41 = .ok (.istore 5, 2) := dk_54 5 (dk_at dksX3_theft_1 19 rfl rfl)
theorem dX3_theft_43 : decode cX3_theft 43 = .ok (.iconst 0, 1) := dk_3 (dk_at dksX3_theft_1 21 rfl rfl)
theorem dX3_theft_44 : decode cX3_theft 44 = .ok (.istore 6, 2) := dk_54 6 (dk_at dksX3_theft_1 22 rfl rfl)
theorem dX3_theft_46 : decode cX3_theft 46 = .ok (.iload 6, 2) := dk_21 6 (dk_at dksX3_theft_2 0 rfl rfl)
theorem dX3_theft_48 : decode cX3_theft 48 = .ok (.aload_n 0, 1) := dk_42 (dk_at dksX3_theft_2 2 rfl rfl)
theorem dX3_theft_49 : decode cX3_theft 49 = .ok (.getfield 9, 3) := dk_180 0 9 (dk_at dksX3_theft_2 3 rfl rfl)
theorem dX3_theft_52 : decode cX3_theft 52 = .ok (.iconst 0, 1) := dk_3 (dk_at dksX3_theft_2 6 rfl rfl)
theorem dX3_theft_53 : decode cX3_theft 53 = .ok (.iaload, 1) := dk_46 (dk_at dksX3_theft_2 7 rfl rfl)
theorem dX3_theft_54 : decode cX3_theft 54 = .ok (.if_icmp .ge 66, 3) := dk_162 0 66 (dk_at dksX3_theft_2 8 rfl rfl)
theorem dX3_theft_57 : decode cX3_theft 57 = .ok (.iconst 0, 1) := dk_3 (dk_at dksX3_theft_2 11 rfl rfl)
theorem dX3_theft_58 : decode cX3_theft 58 = .ok (.istore 7, 2) := dk_54 7 (dk_at dksX3_theft_2 12 rfl rfl)
theorem dX3_theft_60 : decode cX3_theft 60 = .ok (.iload 7, 2) := dk_21 7 (dk_at dksX3_theft_2 14 rfl rfl)
theorem dX3_theft_62 : decode cX3_theft 62 = .ok (.bipush 30, 2) := dk_16 30 (dk_at dksX3_theft_2 16 rfl rfl)
theorem dX3_theft_64 : decode cX3_theft 64 = .ok (.if_icmp .ge 50, 3) := dk_162 0 50 (dk_at dksX3_theft_2 18 rfl rfl)
theorem dX3_theft_67 : decode cX3_theft 67 = .ok (.aload_n 0, 1) := dk_42 (dk_at dksX3_theft_2 21 rfl rfl)
theorem dX3_theft_68 : decode cX3_theft 68 = .ok (.iload 6, 2) := dk_21 6 (dk_at dksX3_theft_2 22 rfl rfl)
theorem dX3_theft_70 : decode cX3_theft 70 = .ok (.iload 7, 2) := dk_21 7 (dk_at dksX3_theft_3 0 rfl rfl)
theorem dX3_theft_72 : decode cX3_theft 72 = .ok (.iload_n 1, 1) := dk_27 (dk_at dksX3_theft_3 2 rfl rfl)
theorem dX3_theft_73 : decode cX3_theft 73 = .ok (.invokevirtual 540, 3) := dk_182 2 28 (dk_at dksX3_theft_3 3 rfl rfl)
theorem dX3_theft_76 : decode cX3_theft 76 = .ok (.ifCond .eq 32, 3) := dk_153 0 32 (dk_at dksX3_theft_3 6 rfl rfl)
theorem dX3_theft_79 : decode cX3_theft 79 = .ok (.iload_n 3, 1) := dk_29 (dk_at dksX3_theft_3 9 rfl rfl)
theorem dX3_theft_80 : decode cX3_theft 80 = .ok (.ifCond .ne 8, 3) := dk_154 0 8 (dk_at dksX3_theft_3 10 rfl rfl)
theorem dX3_theft_83 : decode cX3_theft 83 = .ok (.iload 6, 2) := dk_21 6 (dk_at dksX3_theft_3 13 rfl rfl)
theorem dX3_theft_85 : decode cX3_theft 85 = .ok (.goto 5, 3) := dk_167 0 5 (dk_at dksX3_theft_3 15 rfl rfl)
theorem dX3_theft_88 : decode cX3_theft 88 = .ok (.iload 4, 2) := dk_21 4 (dk_at dksX3_theft_3 18 rfl rfl)
theorem dX3_theft_90 : decode cX3_theft 90 = .ok (.istore 4, 2) := dk_54 4 (dk_at dksX3_theft_3 20 rfl rfl)
theorem dX3_theft_92 : decode cX3_theft 92 = .ok (.iload_n 3, 1) := dk_29 (dk_at dksX3_theft_3 22 rfl rfl)
theorem dX3_theft_93 : decode cX3_theft 93 = .ok (.ifCond .ne 8, 3) := dk_154 0 8 (dk_at dksX3_theft_4 0 rfl rfl)
theorem dX3_theft_96 : decode cX3_theft 96 = .ok (.iload 7, 2) := dk_21 7 (dk_at dksX3_theft_4 3 rfl rfl)
theorem dX3_theft_98 : decode cX3_theft 98 = .ok (.goto 5, 3) := dk_167 0 5 (dk_at dksX3_theft_4 5 rfl rfl)
theorem dX3_theft_101 : decode cX3_theft 101 = .ok (.iload 5, 2) := dk_21 5 (dk_at dksX3_theft_4 8 rfl rfl)
theorem dX3_theft_103 : decode cX3_theft 103 = .ok (.istore 5, 2) := dk_54 5 (dk_at dksX3_theft_4 10 rfl rfl)
theorem dX3_theft_105 : decode cX3_theft 105 = .ok (.iinc 3 1, 3) := dk_132 3 1 (dk_at dksX3_theft_4 12 rfl rfl)
theorem dX3_theft_108 : decode cX3_theft 108 = .ok (.iinc 7 1, 3) := dk_132 7 1 (dk_at dksX3_theft_4 15 rfl rfl)
theorem dX3_theft_111 : decode cX3_theft 111 = .ok (.goto (-51), 3) := dk_167 255 205 (dk_at dksX3_theft_4 18 rfl rfl)
theorem dX3_theft_114 : decode cX3_theft 114 = .ok (.iinc 6 1, 3) := dk_132 6 1 (dk_at dksX3_theft_4 21 rfl rfl)
theorem dX3_theft_117 : decode cX3_theft 117 = .ok (.goto (-71), 3) := dk_167 255 185 (dk_at dksX3_theft_5 0 rfl rfl)
theorem dX3_theft_120 : decode cX3_theft 120 = .ok (.iload_n 2, 1) := dk_28 (dk_at dksX3_theft_5 3 rfl rfl)
theorem dX3_theft_121 : decode cX3_theft 121 = .ok (.ifCond .ne 7, 3) := dk_154 0 7 (dk_at dksX3_theft_5 4 rfl rfl)
theorem dX3_theft_124 : decode cX3_theft 124 = .ok (.iload_n 3, 1) := dk_29 (dk_at dksX3_theft_5 7 rfl rfl)
theorem dX3_theft_125 : decode cX3_theft 125 = .ok (.goto 15, 3) := dk_167 0 15 (dk_at dksX3_theft_5 8 rfl rfl)
theorem dX3_theft_128 : decode cX3_theft 128 = .ok (.iload_n 2, 1) := dk_28 (dk_at dksX3_theft_5 11 rfl rfl)
theorem dX3_theft_129 : decode cX3_theft 129 = .ok (.iconst 1, 1) := dk_4 (dk_at dksX3_theft_5 12 rfl rfl)
theorem dX3_theft_130 : decode cX3_theft 130 = .ok (.if_icmp .ne 8, 3) := dk_160 0 8 (dk_at dksX3_theft_5 13 rfl rfl)
theorem dX3_theft_133 : decode cX3_theft 133 = .ok (.iload 4, 2) := dk_21 4 (dk_at dksX3_theft_5 16 rfl rfl)
theorem dX3_theft_135 : decode cX3_theft 135 = .ok (.goto 5, 3) := dk_167 0 5 (dk_at dksX3_theft_5 18 rfl rfl)
theorem dX3_theft_138 : decode cX3_theft 138 = .ok (.iload 5, 2) := dk_21 5 (dk_at dksX3_theft_5 21 rfl rfl)
theorem dX3_theft_140 : decode cX3_theft 140 = .ok (.ireturn, 1) := dk_172 (dk_at dksX3_theft_5 23 rfl rfl)
abbrev cX3_doesFit : ByteArray := prog_17_method_100_code
def yX3_doesFit : MethodName := ⟨RX3, "doesFit", "(III)Z"⟩
def dkwX3_doesFit_4 : List UInt8 := [167, 0, 4, 3, 54, 4, 132, 5, 1, 167, 255, 196, 21, 4, 172]
abbrev dktX3_doesFit_4 : List UInt8 := dkwX3_doesFit_4 ++ []
def dkwX3_doesFit_3 : List UInt8 := [21, 5, 46, 104, 42, 180, 0, 43, 21, 5, 46, 96, 46, 42, 180, 0, 49, 21, 5, 46, 160, 0, 7, 4]
abbrev dktX3_doesFit_3 : List UInt8 := dkwX3_doesFit_3 ++ dktX3_doesFit_4
def dkwX3_doesFit_2 : List UInt8 := [180, 0, 9, 16, 6, 46, 162, 0, 54, 21, 4, 153, 0, 40, 42, 180, 0, 151, 16, 31, 42, 180, 0, 46]
abbrev dktX3_doesFit_2 : List UInt8 := dkwX3_doesFit_2 ++ dktX3_doesFit_3
def dkwX3_doesFit_1 : List UInt8 := [29, 182, 2, 24, 132, 4, 1, 167, 255, 233, 42, 180, 2, 21, 54, 4, 3, 54, 5, 21, 5, 42]
abbrev dktX3_doesFit_1 : List UInt8 := dkwX3_doesFit_1 ++ dktX3_doesFit_2
def dkwX3_doesFit_0 : List UInt8 := [42, 3, 181, 2, 21, 3, 54, 4, 21, 4, 42, 180, 0, 9, 3, 46, 162, 0, 18, 42, 21, 4, 27, 28]
abbrev dktX3_doesFit_0 : List UInt8 := dkwX3_doesFit_0 ++ dktX3_doesFit_1
theorem dksX3_doesFit_0 : cX3_doesFit.data.toList.drop 0 = dktX3_doesFit_0 := by decide +kernel
theorem dksX3_doesFit_1 : cX3_doesFit.data.toList.drop 24 = dktX3_doesFit_1 := dk_seg dksX3_doesFit_0 24 rfl rfl
theorem dksX3_doesFit_2 : cX3_doesFit.data.toList.drop 46 = dktX3_doesFit_2 := dk_seg dksX3_doesFit_1 22 rfl rfl
theorem dksX3_doesFit_3 : cX3_doesFit.data.toList.drop 70 = dktX3_doesFit_3 := dk_seg dksX3_doesFit_2 24 rfl rfl
theorem dksX3_doesFit_4 : cX3_doesFit.data.toList.drop 94 = dktX3_doesFit_4 := dk_seg dksX3_doesFit_3 24 rfl rfl
theorem dX3_doesFit_0 : decode cX3_doesFit 0 = .ok (.aload_n 0, 1) := dk_42 (dk_at dksX3_doesFit_0 0 rfl rfl)
theorem dX3_doesFit_1 : decode cX3_doesFit 1 = .ok (.iconst 0, 1) := dk_3 (dk_at dksX3_doesFit_0 1 rfl rfl)
theorem dX3_doesFit_2 : decode cX3_doesFit 2 = .ok (.putfield 533, 3) := dk_181 2 21 (dk_at dksX3_doesFit_0 2 rfl rfl)
theorem dX3_doesFit_5 : decode cX3_doesFit 5 = .ok (.iconst 0, 1) := dk_3 (dk_at dksX3_doesFit_0 5 rfl rfl)
theorem dX3_doesFit_6 : decode cX3_doesFit 6 = .ok (.istore 4, 2) := dk_54 4 (dk_at dksX3_doesFit_0 6 rfl rfl)
theorem dX3_doesFit_8 : decode cX3_doesFit 8 = .ok (.iload 4, 2) := dk_21 4 (dk_at dksX3_doesFit_0 8 rfl rfl)
theorem dX3_doesFit_10 : decode cX3_doesFit 10 = .ok (.aload_n 0, 1) := dk_42 (dk_at dksX3_doesFit_0 10 rfl rfl)
theorem dX3_doesFit_11 : decode cX3_doesFit 11 = .ok (.getfield 9, 3) := dk_180 0 9 (dk_at dksX3_doesFit_0 11 rfl rfl)
theorem dX3_doesFit_14 : decode cX3_doesFit 14 = .ok (.iconst 0, 1) := dk_3 (dk_at dksX3_doesFit_0 14 rfl rfl)
theorem dX3_doesFit_15 : decode cX3_doesFit 15 = .ok (.iaload, 1) := dk_46 (dk_at dksX3_doesFit_0 15 rfl rfl)
theorem dX3_doesFit_16 : decode cX3_doesFit 16 = .ok (.if_icmp .ge 18, 3) := dk_162 0 18 (dk_at dksX3_doesFit_0 16 rfl rfl)
theorem dX3_doesFit_19 : decode cX3_doesFit 19 = .ok (.aload_n 0, 1) := dk_42 (dk_at dksX3_doesFit_0 19 rfl rfl)
theorem dX3_doesFit_20 : decode cX3_doesFit 20 = .ok (.iload 4, 2) := dk_21 4 (dk_at dksX3_doesFit_0 20 rfl rfl)
theorem dX3_doesFit_22 : decode cX3_doesFit 22 = .ok (.iload_n 1, 1) := dk_27 (dk_at dksX3_doesFit_0 22 rfl rfl)
theorem dX3_doesFit_23 : decode cX3_doesFit 23 = .ok (.iload_n 2, 1) := dk_28 (dk_at dksX3_doesFit_0 23 rfl rfl)
theorem dX3_doesFit_24 : decode cX3_doesFit 24 = .ok (.iload_n 3, 1) := dk_29 (dk_at dksX3_doesFit_1 0 rfl rfl)
theorem dX3_doesFit_25 : decode cX3_doesFit 25 = .ok (.invokevirtual 536, 3) := dk_182 2 24 (dk_at dksX3_doesFit_1 1 rfl rfl)
theorem dX3_doesFit_28 : decode cX3_doesFit 28 = .ok (.iinc 4 1, 3) := dk_132 4 1 (dk_at dksX3_doesFit_1 4 rfl rfl)
theorem dX3_doesFit_31 : decode cX3_doesFit 31 = .ok (.goto (-23), 3) := dk_167 255 233 (dk_at dksX3_doesFit_1 7 rfl rfl)
theorem dX3_doesFit_34 : decode cX3_doesFit 34 = .ok (.aload_n 0, 1) := dk_42 (dk_at dksX3_doesFit_1 10 rfl rfl)
theorem dX3_doesFit_35 : decode cX3_doesFit 35 = .ok (.getfield 533, 3) := dk_180 2 21 (dk_at dksX3_doesFit_1 11 rfl rfl)
theorem dX3_doesFit_38 : decode cX3_doesFit 38 = .ok (.istore 4, 2) := dk_54 4 (dk_at dksX3_doesFit_1 14 rfl rfl)
theorem dX3_doesFit_40 : decode cX3_doesFit 40 = .ok (.iconst 0, 1) := dk_3 (dk_at dksX3_doesFit_1 16 rfl rfl)
theorem dX3_doesFit_41 : decode cX3_doesFit 41 = .ok (.istore 5, 2) := dk_54 5 (dk_at dksX3_doesFit_1 17 rfl rfl)
theorem dX3_doesFit_43 : decode cX3_doesFit 43 = .ok (.iload 5, 2) := dk_21 5 (dk_at dksX3_doesFit_1 19 rfl rfl)
theorem dX3_doesFit_45 : decode cX3_doesFit 45 = .ok (.aload_n 0, 1) := dk_42 (dk_at dksX3_doesFit_1 21 rfl rfl)
theorem dX3_doesFit_46 : decode cX3_doesFit 46 = .ok (.getfield 9, 3) := dk_180 0 9 (dk_at dksX3_doesFit_2 0 rfl rfl)
theorem dX3_doesFit_49 : decode cX3_doesFit 49 = .ok (.bipush 6, 2) := dk_16 6 (dk_at dksX3_doesFit_2 3 rfl rfl)
theorem dX3_doesFit_51 : decode cX3_doesFit 51 = .ok (.iaload, 1) := dk_46 (dk_at dksX3_doesFit_2 5 rfl rfl)
theorem dX3_doesFit_52 : decode cX3_doesFit 52 = .ok (.if_icmp .ge 54, 3) := dk_162 0 54 (dk_at dksX3_doesFit_2 6 rfl rfl)
theorem dX3_doesFit_55 : decode cX3_doesFit 55 = .ok (.iload 4, 2) := dk_21 4 (dk_at dksX3_doesFit_2 9 rfl rfl)
theorem dX3_doesFit_57 : decode cX3_doesFit 57 = .ok (.ifCond .eq 40, 3) := dk_153 0 40 (dk_at dksX3_doesFit_2 11 rfl rfl)
theorem dX3_doesFit_60 : decode cX3_doesFit 60 = .ok (.aload_n 0, 1) := dk_42 (dk_at dksX3_doesFit_2 14 rfl rfl)
theorem dX3_doesFit_61 : decode cX3_doesFit 61 = .ok (.getfield 151, 3) := dk_180 0 151 (dk_at dksX3_doesFit_2 15 rfl rfl)
theorem dX3_doesFit_64 : decode cX3_doesFit 64 = .ok (.bipush 31, 2) := dk_16 31 (dk_at dksX3_doesFit_2 18 rfl rfl)
theorem dX3_doesFit_66 : decode cX3_doesFit 66 = .ok (.aload_n 0, 1) := dk_42 (dk_at dksX3_doesFit_2 20 rfl rfl)
theorem dX3_doesFit_67 : decode cX3_doesFit 67 = .ok (.getfield 46, 3) := dk_180 0 46 (dk_at dksX3_doesFit_2 21 rfl rfl)
theorem dX3_doesFit_70 : decode cX3_doesFit 70 = .ok (.iload 5, 2) := dk_21 5 (dk_at dksX3_doesFit_3 0 rfl rfl)
theorem dX3_doesFit_72 : decode cX3_doesFit 72 = .ok (.iaload, 1) := dk_46 (dk_at dksX3_doesFit_3 2 rfl rfl)
theorem dX3_doesFit_73 : decode cX3_doesFit 73 = .ok (.imul, 1) := dk_104 (dk_at dksX3_doesFit_3 3 rfl rfl)
theorem dX3_doesFit_74 : decode cX3_doesFit 74 = .ok (.aload_n 0, 1) := dk_42 (dk_at dksX3_doesFit_3 4 rfl rfl)
theorem dX3_doesFit_75 : decode cX3_doesFit 75 = .ok (.getfield 43, 3) := dk_180 0 43 (dk_at dksX3_doesFit_3 5 rfl rfl)
theorem dX3_doesFit_78 : decode cX3_doesFit 78 = .ok (.iload 5, 2) := dk_21 5 (dk_at dksX3_doesFit_3 8 rfl rfl)
theorem dX3_doesFit_80 : decode cX3_doesFit 80 = .ok (.iaload, 1) := dk_46 (dk_at dksX3_doesFit_3 10 rfl rfl)
theorem dX3_doesFit_81 : decode cX3_doesFit 81 = .ok (.iadd, 1) := dk_96 (dk_at dksX3_doesFit_3 11 rfl rfl)
theorem dX3_doesFit_82 : decode cX3_doesFit 82 = .ok (.iaload, 1) := dk_46 (dk_at dksX3_doesFit_3 12 rfl rfl)
theorem dX3_doesFit_83 : decode cX3_doesFit 83 = .ok (.aload_n 0, 1) := dk_42 (dk_at dksX3_doesFit_3 13 rfl rfl)
theorem dX3_doesFit_84 : decode cX3_doesFit 84 = .ok (.getfield 49, 3) := dk_180 0 49 (dk_at dksX3_doesFit_3 14 rfl rfl)
theorem dX3_doesFit_87 : decode cX3_doesFit 87 = .ok (.iload 5, 2) := dk_21 5 (dk_at dksX3_doesFit_3 17 rfl rfl)
theorem dX3_doesFit_89 : decode cX3_doesFit 89 = .ok (.iaload, 1) := dk_46 (dk_at dksX3_doesFit_3 19 rfl rfl)
theorem dX3_doesFit_90 : decode cX3_doesFit 90 = .ok (.if_icmp .ne 7, 3) := dk_160 0 7 (dk_at dksX3_doesFit_3 20 rfl rfl)
theorem dX3_doesFit_93 : decode cX3_doesFit 93 = .ok (.iconst 1, 1) := dk_4 (dk_at dksX3_doesFit_3 23 rfl rfl)
theorem dX3_doesFit_94 : decode cX3_doesFit 94 = .ok (.goto 4, 3) := dk_167 0 4 (dk_at dksX3_doesFit_4 0 rfl rfl)
theorem dX3_doesFit_97 : decode cX3_doesFit 97 = .ok (.iconst 0, 1) := dk_3 (dk_at dksX3_doesFit_4 3 rfl rfl)
theorem dX3_doesFit_98 : decode cX3_doesFit 98 = .ok (.istore 4, 2) := dk_54 4 (dk_at dksX3_doesFit_4 4 rfl rfl)
theorem dX3_doesFit_100 : decode cX3_doesFit 100 = .ok (.iinc 5 1, 3) := dk_132 5 1 (dk_at dksX3_doesFit_4 6 rfl rfl)
theorem dX3_doesFit_103 : decode cX3_doesFit 103 = .ok (.goto (-60), 3) := dk_167 255 196 (dk_at dksX3_doesFit_4 9 rfl rfl)
theorem dX3_doesFit_106 : decode cX3_doesFit 106 = .ok (.iload 4, 2) := dk_21 4 (dk_at dksX3_doesFit_4 12 rfl rfl)
theorem dX3_doesFit_108 : decode cX3_doesFit 108 = .ok (.ireturn, 1) := dk_172 (dk_at dksX3_doesFit_4 14 rfl rfl)
abbrev cX3_laysCourse : ByteArray := prog_17_method_99_code
def yX3_laysCourse : MethodName := ⟨RX3, "laysCourse", "(IIII)V"⟩
def dkwX3_laysCourse_5 : List UInt8 := [167, 0, 5, 21, 7, 54, 5, 132, 6, 1, 167, 255, 140, 177]
abbrev dktX3_laysCourse_5 : List UInt8 := dkwX3_laysCourse_5 ++ []
def dkwX3_laysCourse_4 : List UInt8 := [167, 0, 12, 21, 5, 42, 21, 6, 182, 1, 147, 96, 54, 7, 21, 7, 16, 99, 164, 0, 8, 16, 99]
abbrev dktX3_laysCourse_4 : List UInt8 := dkwX3_laysCourse_4 ++ dktX3_laysCourse_5
def dkwX3_laysCourse_3 : List UInt8 := [27, 104, 21, 6, 96, 21, 5, 79, 42, 180, 0, 55, 3, 46, 27, 184, 0, 174, 153, 0, 8, 21, 5]
abbrev dktX3_laysCourse_3 : List UInt8 := dkwX3_laysCourse_3 ++ dktX3_laysCourse_4
def dkwX3_laysCourse_2 : List UInt8 := [154, 0, 7, 4, 167, 0, 4, 3, 181, 2, 21, 21, 5, 21, 4, 100, 54, 5, 42, 180, 0, 151, 16, 31]
abbrev dktX3_laysCourse_2 : List UInt8 := dkwX3_laysCourse_2 ++ dktX3_laysCourse_3
def dkwX3_laysCourse_1 : List UInt8 := [21, 6, 29, 160, 0, 39, 42, 21, 5, 21, 4, 161, 0, 20, 42, 180, 0, 55, 3, 46, 27, 184, 0, 174]
abbrev dktX3_laysCourse_1 : List UInt8 := dkwX3_laysCourse_1 ++ dktX3_laysCourse_2
def dkwX3_laysCourse_0 : List UInt8 := [42, 180, 0, 52, 27, 46, 54, 5, 3, 54, 6, 21, 6, 16, 30, 163, 0, 115, 27, 28, 160, 0, 45]
abbrev dktX3_laysCourse_0 : List UInt8 := dkwX3_laysCourse_0 ++ dktX3_laysCourse_1
theorem dksX3_laysCourse_0 : cX3_laysCourse.data.toList.drop 0 = dktX3_laysCourse_0 := by decide +kernel
theorem dksX3_laysCourse_1 : cX3_laysCourse.data.toList.drop 23 = dktX3_laysCourse_1 := dk_seg dksX3_laysCourse_0 23 rfl rfl
theorem dksX3_laysCourse_2 : cX3_laysCourse.data.toList.drop 47 = dktX3_laysCourse_2 := dk_seg dksX3_laysCourse_1 24 rfl rfl
theorem dksX3_laysCourse_3 : cX3_laysCourse.data.toList.drop 71 = dktX3_laysCourse_3 := dk_seg dksX3_laysCourse_2 24 rfl rfl
theorem dksX3_laysCourse_4 : cX3_laysCourse.data.toList.drop 94 = dktX3_laysCourse_4 := dk_seg dksX3_laysCourse_3 23 rfl rfl
theorem dksX3_laysCourse_5 : cX3_laysCourse.data.toList.drop 117 = dktX3_laysCourse_5 := dk_seg dksX3_laysCourse_4 23 rfl rfl
theorem dX3_laysCourse_0 : decode cX3_laysCourse 0 = .ok (.aload_n 0, 1) := dk_42 (dk_at dksX3_laysCourse_0 0 rfl rfl)
theorem dX3_laysCourse_1 : decode cX3_laysCourse 1 = .ok (.getfield 52, 3) := dk_180 0 52 (dk_at dksX3_laysCourse_0 1 rfl rfl)
theorem dX3_laysCourse_4 : decode cX3_laysCourse 4 = .ok (.iload_n 1, 1) := dk_27 (dk_at dksX3_laysCourse_0 4 rfl rfl)
theorem dX3_laysCourse_5 : decode cX3_laysCourse 5 = .ok (.iaload, 1) := dk_46 (dk_at dksX3_laysCourse_0 5 rfl rfl)
theorem dX3_laysCourse_6 : decode cX3_laysCourse 6 = .ok (.istore 5, 2) := dk_54 5 (dk_at dksX3_laysCourse_0 6 rfl rfl)
theorem dX3_laysCourse_8 : decode cX3_laysCourse 8 = .ok (.iconst 0, 1) := dk_3 (dk_at dksX3_laysCourse_0 8 rfl rfl)
theorem dX3_laysCourse_9 : decode cX3_laysCourse 9 = .ok (.istore 6, 2) := dk_54 6 (dk_at dksX3_laysCourse_0 9 rfl rfl)
theorem dX3_laysCourse_11 : decode cX3_laysCourse 11 = .ok (.iload 6, 2) := dk_21 6 (dk_at dksX3_laysCourse_0 11 rfl rfl)
theorem dX3_laysCourse_13 : decode cX3_laysCourse 13 = .ok (.bipush 30, 2) := dk_16 30 (dk_at dksX3_laysCourse_0 13 rfl rfl)
theorem dX3_laysCourse_15 : decode cX3_laysCourse 15 = .ok (.if_icmp .gt 115, 3) := dk_163 0 115 (dk_at dksX3_laysCourse_0 15 rfl rfl)
theorem dX3_laysCourse_18 : decode cX3_laysCourse 18 = .ok (.iload_n 1, 1) := dk_27 (dk_at dksX3_laysCourse_0 18 rfl rfl)
theorem dX3_laysCourse_19 : decode cX3_laysCourse 19 = .ok (.iload_n 2, 1) := dk_28 (dk_at dksX3_laysCourse_0 19 rfl rfl)
theorem dX3_laysCourse_20 : decode cX3_laysCourse 20 = .ok (.if_icmp .ne 45, 3) := dk_160 0 45 (dk_at dksX3_laysCourse_0 20 rfl rfl)
theorem dX3_laysCourse_23 : decode cX3_laysCourse 23 = .ok (.iload 6, 2) := dk_21 6 (dk_at dksX3_laysCourse_1 0 rfl rfl)
theorem dX3_laysCourse_25 : decode cX3_laysCourse 25 = .ok (.iload_n 3, 1) := dk_29 (dk_at dksX3_laysCourse_1 2 rfl rfl)
theorem dX3_laysCourse_26 : decode cX3_laysCourse 26 = .ok (.if_icmp .ne 39, 3) := dk_160 0 39 (dk_at dksX3_laysCourse_1 3 rfl rfl)
theorem dX3_laysCourse_29 : decode cX3_laysCourse 29 = .ok (.aload_n 0, 1) := dk_42 (dk_at dksX3_laysCourse_1 6 rfl rfl)
theorem dX3_laysCourse_30 : decode cX3_laysCourse 30 = .ok (.iload 5, 2) := dk_21 5 (dk_at dksX3_laysCourse_1 7 rfl rfl)
theorem dX3_laysCourse_32 : decode cX3_laysCourse 32 = .ok (.iload 4, 2) := dk_21 4 (dk_at dksX3_laysCourse_1 9 rfl rfl)
theorem dX3_laysCourse_34 : decode cX3_laysCourse 34 = .ok (.if_icmp .lt 20, 3) := dk_161 0 20 (dk_at dksX3_laysCourse_1 11 rfl rfl)
theorem dX3_laysCourse_37 : decode cX3_laysCourse 37 = .ok (.aload_n 0, 1) := dk_42 (dk_at dksX3_laysCourse_1 14 rfl rfl)
theorem dX3_laysCourse_38 : decode cX3_laysCourse 38 = .ok (.getfield 55, 3) := dk_180 0 55 (dk_at dksX3_laysCourse_1 15 rfl rfl)
theorem dX3_laysCourse_41 : decode cX3_laysCourse 41 = .ok (.iconst 0, 1) := dk_3 (dk_at dksX3_laysCourse_1 18 rfl rfl)
theorem dX3_laysCourse_42 : decode cX3_laysCourse 42 = .ok (.iaload, 1) := dk_46 (dk_at dksX3_laysCourse_1 19 rfl rfl)
theorem dX3_laysCourse_43 : decode cX3_laysCourse 43 = .ok (.iload_n 1, 1) := dk_27 (dk_at dksX3_laysCourse_1 20 rfl rfl)
theorem dX3_laysCourse_44 : decode cX3_laysCourse 44 = .ok (.invokestatic 174, 3) := dk_184 0 174 (dk_at dksX3_laysCourse_1 21 rfl rfl)
theorem dX3_laysCourse_47 : decode cX3_laysCourse 47 = .ok (.ifCond .ne 7, 3) := dk_154 0 7 (dk_at dksX3_laysCourse_2 0 rfl rfl)
theorem dX3_laysCourse_50 : decode cX3_laysCourse 50 = .ok (.iconst 1, 1) := dk_4 (dk_at dksX3_laysCourse_2 3 rfl rfl)
theorem dX3_laysCourse_51 : decode cX3_laysCourse 51 = .ok (.goto 4, 3) := dk_167 0 4 (dk_at dksX3_laysCourse_2 4 rfl rfl)
theorem dX3_laysCourse_54 : decode cX3_laysCourse 54 = .ok (.iconst 0, 1) := dk_3 (dk_at dksX3_laysCourse_2 7 rfl rfl)
theorem dX3_laysCourse_55 : decode cX3_laysCourse 55 = .ok (.putfield 533, 3) := dk_181 2 21 (dk_at dksX3_laysCourse_2 8 rfl rfl)
theorem dX3_laysCourse_58 : decode cX3_laysCourse 58 = .ok (.iload 5, 2) := dk_21 5 (dk_at dksX3_laysCourse_2 11 rfl rfl)
theorem dX3_laysCourse_60 : decode cX3_laysCourse 60 = .ok (.iload 4, 2) := dk_21 4 (dk_at dksX3_laysCourse_2 13 rfl rfl)
theorem dX3_laysCourse_62 : decode cX3_laysCourse 62 = .ok (.isub, 1) := dk_100 (dk_at dksX3_laysCourse_2 15 rfl rfl)
theorem dX3_laysCourse_63 : decode cX3_laysCourse 63 = .ok (.istore 5, 2) := dk_54 5 (dk_at dksX3_laysCourse_2 16 rfl rfl)
theorem dX3_laysCourse_65 : decode cX3_laysCourse 65 = .ok (.aload_n 0, 1) := dk_42 (dk_at dksX3_laysCourse_2 18 rfl rfl)
theorem dX3_laysCourse_66 : decode cX3_laysCourse 66 = .ok (.getfield 151, 3) := dk_180 0 151 (dk_at dksX3_laysCourse_2 19 rfl rfl)
theorem dX3_laysCourse_69 : decode cX3_laysCourse 69 = .ok (.bipush 31, 2) := dk_16 31 (dk_at dksX3_laysCourse_2 22 rfl rfl)
theorem dX3_laysCourse_71 : decode cX3_laysCourse 71 = .ok (.iload_n 1, 1) := dk_27 (dk_at dksX3_laysCourse_3 0 rfl rfl)
theorem dX3_laysCourse_72 : decode cX3_laysCourse 72 = .ok (.imul, 1) := dk_104 (dk_at dksX3_laysCourse_3 1 rfl rfl)
theorem dX3_laysCourse_73 : decode cX3_laysCourse 73 = .ok (.iload 6, 2) := dk_21 6 (dk_at dksX3_laysCourse_3 2 rfl rfl)
theorem dX3_laysCourse_75 : decode cX3_laysCourse 75 = .ok (.iadd, 1) := dk_96 (dk_at dksX3_laysCourse_3 4 rfl rfl)
theorem dX3_laysCourse_76 : decode cX3_laysCourse 76 = .ok (.iload 5, 2) := dk_21 5 (dk_at dksX3_laysCourse_3 5 rfl rfl)
theorem dX3_laysCourse_78 : decode cX3_laysCourse 78 = .ok (.iastore, 1) := dk_79 (dk_at dksX3_laysCourse_3 7 rfl rfl)
theorem dX3_laysCourse_79 : decode cX3_laysCourse 79 = .ok (.aload_n 0, 1) := dk_42 (dk_at dksX3_laysCourse_3 8 rfl rfl)
theorem dX3_laysCourse_80 : decode cX3_laysCourse 80 = .ok (.getfield 55, 3) := dk_180 0 55 (dk_at dksX3_laysCourse_3 9 rfl rfl)
theorem dX3_laysCourse_83 : decode cX3_laysCourse 83 = .ok (.iconst 0, 1) := dk_3 (dk_at dksX3_laysCourse_3 12 rfl rfl)
theorem dX3_laysCourse_84 : decode cX3_laysCourse 84 = .ok (.iaload, 1) := dk_46 (dk_at dksX3_laysCourse_3 13 rfl rfl)
theorem dX3_laysCourse_85 : decode cX3_laysCourse 85 = .ok (.iload_n 1, 1) := dk_27 (dk_at dksX3_laysCourse_3 14 rfl rfl)
theorem dX3_laysCourse_86 : decode cX3_laysCourse 86 = .ok (.invokestatic 174, 3) := dk_184 0 174 (dk_at dksX3_laysCourse_3 15 rfl rfl)
theorem dX3_laysCourse_89 : decode cX3_laysCourse 89 = .ok (.ifCond .eq 8, 3) := dk_153 0 8 (dk_at dksX3_laysCourse_3 18 rfl rfl)
theorem dX3_laysCourse_92 : decode cX3_laysCourse 92 = .ok (.iload 5, 2) := dk_21 5 (dk_at dksX3_laysCourse_3 21 rfl rfl)
theorem dX3_laysCourse_94 : decode cX3_laysCourse 94 = .ok (.goto 12, 3) := dk_167 0 12 (dk_at dksX3_laysCourse_4 0 rfl rfl)
theorem dX3_laysCourse_97 : decode cX3_laysCourse 97 = .ok (.iload 5, 2) := dk_21 5 (dk_at dksX3_laysCourse_4 3 rfl rfl)
theorem dX3_laysCourse_99 : decode cX3_laysCourse 99 = .ok (.aload_n 0, 1) := dk_42 (dk_at dksX3_laysCourse_4 5 rfl rfl)
theorem dX3_laysCourse_100 : decode cX3_laysCourse 100 = .ok (.iload 6, 2) := dk_21 6 (dk_at dksX3_laysCourse_4 6 rfl rfl)
theorem dX3_laysCourse_102 : decode cX3_laysCourse 102 = .ok (.invokevirtual 403, 3) := dk_182 1 147 (dk_at dksX3_laysCourse_4 8 rfl rfl)
theorem dX3_laysCourse_105 : decode cX3_laysCourse 105 = .ok (.iadd, 1) := dk_96 (dk_at dksX3_laysCourse_4 11 rfl rfl)
theorem dX3_laysCourse_106 : decode cX3_laysCourse 106 = .ok (.istore 7, 2) := dk_54 7 (dk_at dksX3_laysCourse_4 12 rfl rfl)
theorem dX3_laysCourse_108 : decode cX3_laysCourse 108 = .ok (.iload 7, 2) := dk_21 7 (dk_at dksX3_laysCourse_4 14 rfl rfl)
theorem dX3_laysCourse_110 : decode cX3_laysCourse 110 = .ok (.bipush 99, 2) := dk_16 99 (dk_at dksX3_laysCourse_4 16 rfl rfl)
theorem dX3_laysCourse_112 : decode cX3_laysCourse 112 = .ok (.if_icmp .le 8, 3) := dk_164 0 8 (dk_at dksX3_laysCourse_4 18 rfl rfl)
theorem dX3_laysCourse_115 : decode cX3_laysCourse 115 = .ok (.bipush 99, 2) := dk_16 99 (dk_at dksX3_laysCourse_4 21 rfl rfl)
theorem dX3_laysCourse_117 : decode cX3_laysCourse 117 = .ok (.goto 5, 3) := dk_167 0 5 (dk_at dksX3_laysCourse_5 0 rfl rfl)
theorem dX3_laysCourse_120 : decode cX3_laysCourse 120 = .ok (.iload 7, 2) := dk_21 7 (dk_at dksX3_laysCourse_5 3 rfl rfl)
theorem dX3_laysCourse_122 : decode cX3_laysCourse 122 = .ok (.istore 5, 2) := dk_54 5 (dk_at dksX3_laysCourse_5 5 rfl rfl)
theorem dX3_laysCourse_124 : decode cX3_laysCourse 124 = .ok (.iinc 6 1, 3) := dk_132 6 1 (dk_at dksX3_laysCourse_5 7 rfl rfl)
theorem dX3_laysCourse_127 : decode cX3_laysCourse 127 = .ok (.goto (-116), 3) := dk_167 255 140 (dk_at dksX3_laysCourse_5 10 rfl rfl)
theorem dX3_laysCourse_130 : decode cX3_laysCourse 130 = .ok (.return_, 1) := dk_177 (dk_at dksX3_laysCourse_5 13 rfl rfl)
abbrev cX3_weigh : ByteArray := prog_17_method_102_code
def yX3_weigh : MethodName := ⟨RX3, "weigh", "(III)I"⟩
def dkwX3_weigh_12 : List UInt8 := [29, 154, 0, 8, 21, 5, 167, 0, 5, 21, 6, 172]
abbrev dktX3_weigh_12 : List UInt8 := dkwX3_weigh_12 ++ []
def dkwX3_weigh_11 : List UInt8 := [159, 0, 10, 21, 8, 21, 6, 162, 0, 11, 21, 7, 54, 5, 21, 8, 54, 6, 132, 7, 1, 167, 255, 158]
abbrev dktX3_weigh_11 : List UInt8 := dkwX3_weigh_11 ++ dktX3_weigh_12
def dkwX3_weigh_10 : List UInt8 := [21, 7, 104, 21, 9, 96, 46, 167, 0, 5, 21, 8, 54, 8, 132, 9, 1, 167, 255, 208, 21, 5, 16, 254]
abbrev dktX3_weigh_10 : List UInt8 := dkwX3_weigh_10 ++ dktX3_weigh_11
def dkwX3_weigh_9 : List UInt8 := [180, 0, 154, 16, 100, 21, 7, 104, 21, 9, 96, 46, 21, 8, 164, 0, 19, 42, 180, 0, 154, 16, 100]
abbrev dktX3_weigh_9 : List UInt8 := dkwX3_weigh_9 ++ dktX3_weigh_10
def dkwX3_weigh_8 : List UInt8 := [46, 162, 0, 93, 21, 4, 158, 0, 88, 3, 54, 8, 3, 54, 9, 21, 9, 16, 99, 163, 0, 47, 42]
abbrev dktX3_weigh_8 : List UInt8 := dkwX3_weigh_8 ++ dktX3_weigh_9
def dkwX3_weigh_7 : List UInt8 := [132, 5, 1, 167, 255, 164, 16, 254, 54, 5, 16, 254, 54, 6, 3, 54, 7, 21, 7, 42, 180, 0, 9, 3]
abbrev dktX3_weigh_7 : List UInt8 := dkwX3_weigh_7 ++ dktX3_weigh_8
def dkwX3_weigh_6 : List UInt8 := [21, 7, 104, 28, 96, 46, 96, 92, 46, 4, 96, 79, 132, 7, 1, 167, 255, 215, 132, 6, 1, 167, 255, 184]
abbrev dktX3_weigh_6 : List UInt8 := dkwX3_weigh_6 ++ dktX3_weigh_7
def dkwX3_weigh_5 : List UInt8 := [180, 0, 9, 3, 46, 162, 0, 36, 42, 180, 0, 154, 16, 100, 21, 7, 104, 42, 180, 0, 151, 16, 31]
abbrev dktX3_weigh_5 : List UInt8 := dkwX3_weigh_5 ++ dktX3_weigh_6
def dkwX3_weigh_4 : List UInt8 := [162, 0, 71, 42, 21, 5, 21, 6, 27, 182, 2, 28, 153, 0, 53, 132, 4, 1, 3, 54, 7, 21, 7, 42]
abbrev dktX3_weigh_4 : List UInt8 := dkwX3_weigh_4 ++ dktX3_weigh_5
def dkwX3_weigh_3 : List UInt8 := [3, 54, 4, 3, 54, 5, 21, 5, 42, 180, 0, 9, 3, 46, 162, 0, 87, 3, 54, 6, 21, 6, 16, 30]
abbrev dktX3_weigh_3 : List UInt8 := dkwX3_weigh_3 ++ dktX3_weigh_4
def dkwX3_weigh_2 : List UInt8 := [21, 4, 42, 180, 0, 154, 190, 162, 0, 17, 42, 180, 0, 154, 21, 4, 3, 79, 132, 4, 1, 167, 255, 235]
abbrev dktX3_weigh_2 : List UInt8 := dkwX3_weigh_2 ++ dktX3_weigh_3
def dkwX3_weigh_1 : List UInt8 := [20, 2, 19, 184, 0, 170, 153, 0, 13, 29, 133, 9, 10, 184, 0, 170, 154, 0, 5, 2, 172, 3, 54, 4]
abbrev dktX3_weigh_1 : List UInt8 := dkwX3_weigh_1 ++ dktX3_weigh_2
def dkwX3_weigh_0 : List UInt8 := [42, 182, 1, 144, 153, 0, 37, 27, 133, 10, 20, 1, 217, 184, 0, 170, 153, 0, 25, 28, 133, 9]
abbrev dktX3_weigh_0 : List UInt8 := dkwX3_weigh_0 ++ dktX3_weigh_1
theorem dksX3_weigh_0 : cX3_weigh.data.toList.drop 0 = dktX3_weigh_0 := by decide +kernel
theorem dksX3_weigh_1 : cX3_weigh.data.toList.drop 22 = dktX3_weigh_1 := dk_seg dksX3_weigh_0 22 rfl rfl
theorem dksX3_weigh_2 : cX3_weigh.data.toList.drop 46 = dktX3_weigh_2 := dk_seg dksX3_weigh_1 24 rfl rfl
theorem dksX3_weigh_3 : cX3_weigh.data.toList.drop 70 = dktX3_weigh_3 := dk_seg dksX3_weigh_2 24 rfl rfl
theorem dksX3_weigh_4 : cX3_weigh.data.toList.drop 94 = dktX3_weigh_4 := dk_seg dksX3_weigh_3 24 rfl rfl
theorem dksX3_weigh_5 : cX3_weigh.data.toList.drop 118 = dktX3_weigh_5 := dk_seg dksX3_weigh_4 24 rfl rfl
theorem dksX3_weigh_6 : cX3_weigh.data.toList.drop 141 = dktX3_weigh_6 := dk_seg dksX3_weigh_5 23 rfl rfl
theorem dksX3_weigh_7 : cX3_weigh.data.toList.drop 165 = dktX3_weigh_7 := dk_seg dksX3_weigh_6 24 rfl rfl
theorem dksX3_weigh_8 : cX3_weigh.data.toList.drop 189 = dktX3_weigh_8 := dk_seg dksX3_weigh_7 24 rfl rfl
theorem dksX3_weigh_9 : cX3_weigh.data.toList.drop 212 = dktX3_weigh_9 := dk_seg dksX3_weigh_8 23 rfl rfl
theorem dksX3_weigh_10 : cX3_weigh.data.toList.drop 235 = dktX3_weigh_10 := dk_seg dksX3_weigh_9 23 rfl rfl
theorem dksX3_weigh_11 : cX3_weigh.data.toList.drop 259 = dktX3_weigh_11 := dk_seg dksX3_weigh_10 24 rfl rfl
theorem dksX3_weigh_12 : cX3_weigh.data.toList.drop 283 = dktX3_weigh_12 := dk_seg dksX3_weigh_11 24 rfl rfl
theorem dX3_weigh_0 : decode cX3_weigh 0 = .ok (.aload_n 0, 1) := dk_42 (dk_at dksX3_weigh_0 0 rfl rfl)
theorem dX3_weigh_1 : decode cX3_weigh 1 = .ok (.invokevirtual 400, 3) := dk_182 1 144 (dk_at dksX3_weigh_0 1 rfl rfl)
theorem dX3_weigh_4 : decode cX3_weigh 4 = .ok (.ifCond .eq 37, 3) := dk_153 0 37 (dk_at dksX3_weigh_0 4 rfl rfl)
theorem dX3_weigh_7 : decode cX3_weigh 7 = .ok (.iload_n 1, 1) := dk_27 (dk_at dksX3_weigh_0 7 rfl rfl)
theorem dX3_weigh_8 : decode cX3_weigh 8 = .ok (.i2l, 1) := dk_133 (dk_at dksX3_weigh_0 8 rfl rfl)
theorem dX3_weigh_9 : decode cX3_weigh 9 = .ok (.lconst 1, 1) := dk_10 (dk_at dksX3_weigh_0 9 rfl rfl)
theorem dX3_weigh_10 : decode cX3_weigh 10 = .ok (.ldc2_w 473, 3) := dk_20 1 217 (dk_at dksX3_weigh_0 10 rfl rfl)
theorem dX3_weigh_13 : decode cX3_weigh 13 = .ok (.invokestatic 170, 3) := dk_184 0 170 (dk_at dksX3_weigh_0 13 rfl rfl)
theorem dX3_weigh_16 : decode cX3_weigh 16 = .ok (.ifCond .eq 25, 3) := dk_153 0 25 (dk_at dksX3_weigh_0 16 rfl rfl)
theorem dX3_weigh_19 : decode cX3_weigh 19 = .ok (.iload_n 2, 1) := dk_28 (dk_at dksX3_weigh_0 19 rfl rfl)
theorem dX3_weigh_20 : decode cX3_weigh 20 = .ok (.i2l, 1) := dk_133 (dk_at dksX3_weigh_0 20 rfl rfl)
theorem dX3_weigh_21 : decode cX3_weigh 21 = .ok (.lconst 0, 1) := dk_9 (dk_at dksX3_weigh_0 21 rfl rfl)
theorem dX3_weigh_22 : decode cX3_weigh 22 = .ok (.ldc2_w 531, 3) := dk_20 2 19 (dk_at dksX3_weigh_1 0 rfl rfl)
theorem dX3_weigh_25 : decode cX3_weigh 25 = .ok (.invokestatic 170, 3) := dk_184 0 170 (dk_at dksX3_weigh_1 3 rfl rfl)
theorem dX3_weigh_28 : decode cX3_weigh 28 = .ok (.ifCond .eq 13, 3) := dk_153 0 13 (dk_at dksX3_weigh_1 6 rfl rfl)
theorem dX3_weigh_31 : decode cX3_weigh 31 = .ok (.iload_n 3, 1) := dk_29 (dk_at dksX3_weigh_1 9 rfl rfl)
theorem dX3_weigh_32 : decode cX3_weigh 32 = .ok (.i2l, 1) := dk_133 (dk_at dksX3_weigh_1 10 rfl rfl)
theorem dX3_weigh_33 : decode cX3_weigh 33 = .ok (.lconst 0, 1) := dk_9 (dk_at dksX3_weigh_1 11 rfl rfl)
theorem dX3_weigh_34 : decode cX3_weigh 34 = .ok (.lconst 1, 1) := dk_10 (dk_at dksX3_weigh_1 12 rfl rfl)
theorem dX3_weigh_35 : decode cX3_weigh 35 = .ok (.invokestatic 170, 3) := dk_184 0 170 (dk_at dksX3_weigh_1 13 rfl rfl)
theorem dX3_weigh_38 : decode cX3_weigh 38 = .ok (.ifCond .ne 5, 3) := dk_154 0 5 (dk_at dksX3_weigh_1 16 rfl rfl)
theorem dX3_weigh_41 : decode cX3_weigh 41 = .ok (.iconst (-1), 1) := dk_2 (dk_at dksX3_weigh_1 19 rfl rfl)
theorem dX3_weigh_42 : decode cX3_weigh 42 = .ok (.ireturn, 1) := dk_172 (dk_at dksX3_weigh_1 20 rfl rfl)
theorem dX3_weigh_43 : decode cX3_weigh 43 = .ok (.iconst 0, 1) := dk_3 (dk_at dksX3_weigh_1 21 rfl rfl)
theorem dX3_weigh_44 : decode cX3_weigh 44 = .ok (.istore 4, 2) := dk_54 4 (dk_at dksX3_weigh_1 22 rfl rfl)
theorem dX3_weigh_46 : decode cX3_weigh 46 = .ok (.iload 4, 2) := dk_21 4 (dk_at dksX3_weigh_2 0 rfl rfl)
theorem dX3_weigh_48 : decode cX3_weigh 48 = .ok (.aload_n 0, 1) := dk_42 (dk_at dksX3_weigh_2 2 rfl rfl)
theorem dX3_weigh_49 : decode cX3_weigh 49 = .ok (.getfield 154, 3) := dk_180 0 154 (dk_at dksX3_weigh_2 3 rfl rfl)
theorem dX3_weigh_52 : decode cX3_weigh 52 = .ok (.arraylength, 1) := dk_190 (dk_at dksX3_weigh_2 6 rfl rfl)
theorem dX3_weigh_53 : decode cX3_weigh 53 = .ok (.if_icmp .ge 17, 3) := dk_162 0 17 (dk_at dksX3_weigh_2 7 rfl rfl)
theorem dX3_weigh_56 : decode cX3_weigh 56 = .ok (.aload_n 0, 1) := dk_42 (dk_at dksX3_weigh_2 10 rfl rfl)
theorem dX3_weigh_57 : decode cX3_weigh 57 = .ok (.getfield 154, 3) := dk_180 0 154 (dk_at dksX3_weigh_2 11 rfl rfl)
theorem dX3_weigh_60 : decode cX3_weigh 60 = .ok (.iload 4, 2) := dk_21 4 (dk_at dksX3_weigh_2 14 rfl rfl)
theorem dX3_weigh_62 : decode cX3_weigh 62 = .ok (.iconst 0, 1) := dk_3 (dk_at dksX3_weigh_2 16 rfl rfl)
theorem dX3_weigh_63 : decode cX3_weigh 63 = .ok (.iastore, 1) := dk_79 (dk_at dksX3_weigh_2 17 rfl rfl)
theorem dX3_weigh_64 : decode cX3_weigh 64 = .ok (.iinc 4 1, 3) := dk_132 4 1 (dk_at dksX3_weigh_2 18 rfl rfl)
theorem dX3_weigh_67 : decode cX3_weigh 67 = .ok (.goto (-21), 3) := dk_167 255 235 (dk_at dksX3_weigh_2 21 rfl rfl)
theorem dX3_weigh_70 : decode cX3_weigh 70 = .ok (.iconst 0, 1) := dk_3 (dk_at dksX3_weigh_3 0 rfl rfl)
theorem dX3_weigh_71 : decode cX3_weigh 71 = .ok (.istore 4, 2) := dk_54 4 (dk_at dksX3_weigh_3 1 rfl rfl)
theorem dX3_weigh_73 : decode cX3_weigh 73 = .ok (.iconst 0, 1) := dk_3 (dk_at dksX3_weigh_3 3 rfl rfl)
theorem dX3_weigh_74 : decode cX3_weigh 74 = .ok (.istore 5, 2) := dk_54 5 (dk_at dksX3_weigh_3 4 rfl rfl)
theorem dX3_weigh_76 : decode cX3_weigh 76 = .ok (.iload 5, 2) := dk_21 5 (dk_at dksX3_weigh_3 6 rfl rfl)
theorem dX3_weigh_78 : decode cX3_weigh 78 = .ok (.aload_n 0, 1) := dk_42 (dk_at dksX3_weigh_3 8 rfl rfl)
theorem dX3_weigh_79 : decode cX3_weigh 79 = .ok (.getfield 9, 3) := dk_180 0 9 (dk_at dksX3_weigh_3 9 rfl rfl)
theorem dX3_weigh_82 : decode cX3_weigh 82 = .ok (.iconst 0, 1) := dk_3 (dk_at dksX3_weigh_3 12 rfl rfl)
theorem dX3_weigh_83 : decode cX3_weigh 83 = .ok (.iaload, 1) := dk_46 (dk_at dksX3_weigh_3 13 rfl rfl)
theorem dX3_weigh_84 : decode cX3_weigh 84 = .ok (.if_icmp .ge 87, 3) := dk_162 0 87 (dk_at dksX3_weigh_3 14 rfl rfl)
theorem dX3_weigh_87 : decode cX3_weigh 87 = .ok (.iconst 0, 1) := dk_3 (dk_at dksX3_weigh_3 17 rfl rfl)
theorem dX3_weigh_88 : decode cX3_weigh 88 = .ok (.istore 6, 2) := dk_54 6 (dk_at dksX3_weigh_3 18 rfl rfl)
theorem dX3_weigh_90 : decode cX3_weigh 90 = .ok (.iload 6, 2) := dk_21 6 (dk_at dksX3_weigh_3 20 rfl rfl)
theorem dX3_weigh_92 : decode cX3_weigh 92 = .ok (.bipush 30, 2) := dk_16 30 (dk_at dksX3_weigh_3 22 rfl rfl)
theorem dX3_weigh_94 : decode cX3_weigh 94 = .ok (.if_icmp .ge 71, 3) := dk_162 0 71 (dk_at dksX3_weigh_4 0 rfl rfl)
theorem dX3_weigh_97 : decode cX3_weigh 97 = .ok (.aload_n 0, 1) := dk_42 (dk_at dksX3_weigh_4 3 rfl rfl)
theorem dX3_weigh_98 : decode cX3_weigh 98 = .ok (.iload 5, 2) := dk_21 5 (dk_at dksX3_weigh_4 4 rfl rfl)
theorem dX3_weigh_100 : decode cX3_weigh 100 = .ok (.iload 6, 2) := dk_21 6 (dk_at dksX3_weigh_4 6 rfl rfl)
theorem dX3_weigh_102 : decode cX3_weigh 102 = .ok (.iload_n 1, 1) := dk_27 (dk_at dksX3_weigh_4 8 rfl rfl)
theorem dX3_weigh_103 : decode cX3_weigh 103 = .ok (.invokevirtual 540, 3) := dk_182 2 28 (dk_at dksX3_weigh_4 9 rfl rfl)
theorem dX3_weigh_106 : decode cX3_weigh 106 = .ok (.ifCond .eq 53, 3) := dk_153 0 53 (dk_at dksX3_weigh_4 12 rfl rfl)
theorem dX3_weigh_109 : decode cX3_weigh 109 = .ok (.iinc 4 1, 3) := dk_132 4 1 (dk_at dksX3_weigh_4 15 rfl rfl)
theorem dX3_weigh_112 : decode cX3_weigh 112 = .ok (.iconst 0, 1) := dk_3 (dk_at dksX3_weigh_4 18 rfl rfl)
theorem dX3_weigh_113 : decode cX3_weigh 113 = .ok (.istore 7, 2) := dk_54 7 (dk_at dksX3_weigh_4 19 rfl rfl)
theorem dX3_weigh_115 : decode cX3_weigh 115 = .ok (.iload 7, 2) := dk_21 7 (dk_at dksX3_weigh_4 21 rfl rfl)
theorem dX3_weigh_117 : decode cX3_weigh 117 = .ok (.aload_n 0, 1) := dk_42 (dk_at dksX3_weigh_4 23 rfl rfl)
theorem dX3_weigh_118 : decode cX3_weigh 118 = .ok (.getfield 9, 3) := dk_180 0 9 (dk_at dksX3_weigh_5 0 rfl rfl)
theorem dX3_weigh_121 : decode cX3_weigh 121 = .ok (.iconst 0, 1) := dk_3 (dk_at dksX3_weigh_5 3 rfl rfl)
theorem dX3_weigh_122 : decode cX3_weigh 122 = .ok (.iaload, 1) := dk_46 (dk_at dksX3_weigh_5 4 rfl rfl)
theorem dX3_weigh_123 : decode cX3_weigh 123 = .ok (.if_icmp .ge 36, 3) := dk_162 0 36 (dk_at dksX3_weigh_5 5 rfl rfl)
theorem dX3_weigh_126 : decode cX3_weigh 126 = .ok (.aload_n 0, 1) := dk_42 (dk_at dksX3_weigh_5 8 rfl rfl)
theorem dX3_weigh_127 : decode cX3_weigh 127 = .ok (.getfield 154, 3) := dk_180 0 154 (dk_at dksX3_weigh_5 9 rfl rfl)
theorem dX3_weigh_130 : decode cX3_weigh 130 = .ok (.bipush 100, 2) := dk_16 100 (dk_at dksX3_weigh_5 12 rfl rfl)
theorem dX3_weigh_132 : decode cX3_weigh 132 = .ok (.iload 7, 2) := dk_21 7 (dk_at dksX3_weigh_5 14 rfl rfl)
theorem dX3_weigh_134 : decode cX3_weigh 134 = .ok (.imul, 1) := dk_104 (dk_at dksX3_weigh_5 16 rfl rfl)
theorem dX3_weigh_135 : decode cX3_weigh 135 = .ok (.aload_n 0, 1) := dk_42 (dk_at dksX3_weigh_5 17 rfl rfl)
theorem dX3_weigh_136 : decode cX3_weigh 136 = .ok (.getfield 151, 3) := dk_180 0 151 (dk_at dksX3_weigh_5 18 rfl rfl)
theorem dX3_weigh_139 : decode cX3_weigh 139 = .ok (.bipush 31, 2) := dk_16 31 (dk_at dksX3_weigh_5 21 rfl rfl)
theorem dX3_weigh_141 : decode cX3_weigh 141 = .ok (.iload 7, 2) := dk_21 7 (dk_at dksX3_weigh_6 0 rfl rfl)
theorem dX3_weigh_143 : decode cX3_weigh 143 = .ok (.imul, 1) := dk_104 (dk_at dksX3_weigh_6 2 rfl rfl)
theorem dX3_weigh_144 : decode cX3_weigh 144 = .ok (.iload_n 2, 1) := dk_28 (dk_at dksX3_weigh_6 3 rfl rfl)
theorem dX3_weigh_145 : decode cX3_weigh 145 = .ok (.iadd, 1) := dk_96 (dk_at dksX3_weigh_6 4 rfl rfl)
theorem dX3_weigh_146 : decode cX3_weigh 146 = .ok (.iaload, 1) := dk_46 (dk_at dksX3_weigh_6 5 rfl rfl)
theorem dX3_weigh_147 : decode cX3_weigh 147 = .ok (.iadd, 1) := dk_96 (dk_at dksX3_weigh_6 6 rfl rfl)
theorem dX3_weigh_148 : decode cX3_weigh 148 = .ok (.dup2, 1) := dk_92 (dk_at dksX3_weigh_6 7 rfl rfl)
theorem dX3_weigh_149 : decode cX3_weigh 149 = .ok (.iaload, 1) := dk_46 (dk_at dksX3_weigh_6 8 rfl rfl)
theorem dX3_weigh_150 : decode cX3_weigh 150 = .ok (.iconst 1, 1) := dk_4 (dk_at dksX3_weigh_6 9 rfl rfl)
theorem dX3_weigh_151 : decode cX3_weigh 151 = .ok (.iadd, 1) := dk_96 (dk_at dksX3_weigh_6 10 rfl rfl)
theorem dX3_weigh_152 : decode cX3_weigh 152 = .ok (.iastore, 1) := dk_79 (dk_at dksX3_weigh_6 11 rfl rfl)
theorem dX3_weigh_153 : decode cX3_weigh 153 = .ok (.iinc 7 1, 3) := dk_132 7 1 (dk_at dksX3_weigh_6 12 rfl rfl)
theorem dX3_weigh_156 : decode cX3_weigh 156 = .ok (.goto (-41), 3) := dk_167 255 215 (dk_at dksX3_weigh_6 15 rfl rfl)
theorem dX3_weigh_159 : decode cX3_weigh 159 = .ok (.iinc 6 1, 3) := dk_132 6 1 (dk_at dksX3_weigh_6 18 rfl rfl)
theorem dX3_weigh_162 : decode cX3_weigh 162 = .ok (.goto (-72), 3) := dk_167 255 184 (dk_at dksX3_weigh_6 21 rfl rfl)
theorem dX3_weigh_165 : decode cX3_weigh 165 = .ok (.iinc 5 1, 3) := dk_132 5 1 (dk_at dksX3_weigh_7 0 rfl rfl)
theorem dX3_weigh_168 : decode cX3_weigh 168 = .ok (.goto (-92), 3) := dk_167 255 164 (dk_at dksX3_weigh_7 3 rfl rfl)
theorem dX3_weigh_171 : decode cX3_weigh 171 = .ok (.bipush (-2), 2) := dk_16 254 (dk_at dksX3_weigh_7 6 rfl rfl)
theorem dX3_weigh_173 : decode cX3_weigh 173 = .ok (.istore 5, 2) := dk_54 5 (dk_at dksX3_weigh_7 8 rfl rfl)
theorem dX3_weigh_175 : decode cX3_weigh 175 = .ok (.bipush (-2), 2) := dk_16 254 (dk_at dksX3_weigh_7 10 rfl rfl)
theorem dX3_weigh_177 : decode cX3_weigh 177 = .ok (.istore 6, 2) := dk_54 6 (dk_at dksX3_weigh_7 12 rfl rfl)
theorem dX3_weigh_179 : decode cX3_weigh 179 = .ok (.iconst 0, 1) := dk_3 (dk_at dksX3_weigh_7 14 rfl rfl)
theorem dX3_weigh_180 : decode cX3_weigh 180 = .ok (.istore 7, 2) := dk_54 7 (dk_at dksX3_weigh_7 15 rfl rfl)
theorem dX3_weigh_182 : decode cX3_weigh 182 = .ok (.iload 7, 2) := dk_21 7 (dk_at dksX3_weigh_7 17 rfl rfl)
theorem dX3_weigh_184 : decode cX3_weigh 184 = .ok (.aload_n 0, 1) := dk_42 (dk_at dksX3_weigh_7 19 rfl rfl)
theorem dX3_weigh_185 : decode cX3_weigh 185 = .ok (.getfield 9, 3) := dk_180 0 9 (dk_at dksX3_weigh_7 20 rfl rfl)
theorem dX3_weigh_188 : decode cX3_weigh 188 = .ok (.iconst 0, 1) := dk_3 (dk_at dksX3_weigh_7 23 rfl rfl)
theorem dX3_weigh_189 : decode cX3_weigh 189 = .ok (.iaload, 1) := dk_46 (dk_at dksX3_weigh_8 0 rfl rfl)
theorem dX3_weigh_190 : decode cX3_weigh 190 = .ok (.if_icmp .ge 93, 3) := dk_162 0 93 (dk_at dksX3_weigh_8 1 rfl rfl)
theorem dX3_weigh_193 : decode cX3_weigh 193 = .ok (.iload 4, 2) := dk_21 4 (dk_at dksX3_weigh_8 4 rfl rfl)
theorem dX3_weigh_195 : decode cX3_weigh 195 = .ok (.ifCond .le 88, 3) := dk_158 0 88 (dk_at dksX3_weigh_8 6 rfl rfl)
theorem dX3_weigh_198 : decode cX3_weigh 198 = .ok (.iconst 0, 1) := dk_3 (dk_at dksX3_weigh_8 9 rfl rfl)
theorem dX3_weigh_199 : decode cX3_weigh 199 = .ok (.istore 8, 2) := dk_54 8 (dk_at dksX3_weigh_8 10 rfl rfl)
theorem dX3_weigh_201 : decode cX3_weigh 201 = .ok (.iconst 0, 1) := dk_3 (dk_at dksX3_weigh_8 12 rfl rfl)
theorem dX3_weigh_202 : decode cX3_weigh 202 = .ok (.istore 9, 2) := dk_54 9 (dk_at dksX3_weigh_8 13 rfl rfl)
theorem dX3_weigh_204 : decode cX3_weigh 204 = .ok (.iload 9, 2) := dk_21 9 (dk_at dksX3_weigh_8 15 rfl rfl)
theorem dX3_weigh_206 : decode cX3_weigh 206 = .ok (.bipush 99, 2) := dk_16 99 (dk_at dksX3_weigh_8 17 rfl rfl)
theorem dX3_weigh_208 : decode cX3_weigh 208 = .ok (.if_icmp .gt 47, 3) := dk_163 0 47 (dk_at dksX3_weigh_8 19 rfl rfl)
theorem dX3_weigh_211 : decode cX3_weigh 211 = .ok (.aload_n 0, 1) := dk_42 (dk_at dksX3_weigh_8 22 rfl rfl)
theorem dX3_weigh_212 : decode cX3_weigh 212 = .ok (.getfield 154, 3) := dk_180 0 154 (dk_at dksX3_weigh_9 0 rfl rfl)
theorem dX3_weigh_215 : decode cX3_weigh 215 = .ok (.bipush 100, 2) := dk_16 100 (dk_at dksX3_weigh_9 3 rfl rfl)
theorem dX3_weigh_217 : decode cX3_weigh 217 = .ok (.iload 7, 2) := dk_21 7 (dk_at dksX3_weigh_9 5 rfl rfl)
theorem dX3_weigh_219 : decode cX3_weigh 219 = .ok (.imul, 1) := dk_104 (dk_at dksX3_weigh_9 7 rfl rfl)
theorem dX3_weigh_220 : decode cX3_weigh 220 = .ok (.iload 9, 2) := dk_21 9 (dk_at dksX3_weigh_9 8 rfl rfl)
theorem dX3_weigh_222 : decode cX3_weigh 222 = .ok (.iadd, 1) := dk_96 (dk_at dksX3_weigh_9 10 rfl rfl)
theorem dX3_weigh_223 : decode cX3_weigh 223 = .ok (.iaload, 1) := dk_46 (dk_at dksX3_weigh_9 11 rfl rfl)
theorem dX3_weigh_224 : decode cX3_weigh 224 = .ok (.iload 8, 2) := dk_21 8 (dk_at dksX3_weigh_9 12 rfl rfl)
theorem dX3_weigh_226 : decode cX3_weigh 226 = .ok (.if_icmp .le 19, 3) := dk_164 0 19 (dk_at dksX3_weigh_9 14 rfl rfl)
theorem dX3_weigh_229 : decode cX3_weigh 229 = .ok (.aload_n 0, 1) := dk_42 (dk_at dksX3_weigh_9 17 rfl rfl)
theorem dX3_weigh_230 : decode cX3_weigh 230 = .ok (.getfield 154, 3) := dk_180 0 154 (dk_at dksX3_weigh_9 18 rfl rfl)
theorem dX3_weigh_233 : decode cX3_weigh 233 = .ok (.bipush 100, 2) := dk_16 100 (dk_at dksX3_weigh_9 21 rfl rfl)
theorem dX3_weigh_235 : decode cX3_weigh 235 = .ok (.iload 7, 2) := dk_21 7 (dk_at dksX3_weigh_10 0 rfl rfl)
theorem dX3_weigh_237 : decode cX3_weigh 237 = .ok (.imul, 1) := dk_104 (dk_at dksX3_weigh_10 2 rfl rfl)
theorem dX3_weigh_238 : decode cX3_weigh 238 = .ok (.iload 9, 2) := dk_21 9 (dk_at dksX3_weigh_10 3 rfl rfl)
theorem dX3_weigh_240 : decode cX3_weigh 240 = .ok (.iadd, 1) := dk_96 (dk_at dksX3_weigh_10 5 rfl rfl)
theorem dX3_weigh_241 : decode cX3_weigh 241 = .ok (.iaload, 1) := dk_46 (dk_at dksX3_weigh_10 6 rfl rfl)
theorem dX3_weigh_242 : decode cX3_weigh 242 = .ok (.goto 5, 3) := dk_167 0 5 (dk_at dksX3_weigh_10 7 rfl rfl)
theorem dX3_weigh_245 : decode cX3_weigh 245 = .ok (.iload 8, 2) := dk_21 8 (dk_at dksX3_weigh_10 10 rfl rfl)
theorem dX3_weigh_247 : decode cX3_weigh 247 = .ok (.istore 8, 2) := dk_54 8 (dk_at dksX3_weigh_10 12 rfl rfl)
theorem dX3_weigh_249 : decode cX3_weigh 249 = .ok (.iinc 9 1, 3) := dk_132 9 1 (dk_at dksX3_weigh_10 14 rfl rfl)
theorem dX3_weigh_252 : decode cX3_weigh 252 = .ok (.goto (-48), 3) := dk_167 255 208 (dk_at dksX3_weigh_10 17 rfl rfl)
theorem dX3_weigh_255 : decode cX3_weigh 255 = .ok (.iload 5, 2) := dk_21 5 (dk_at dksX3_weigh_10 20 rfl rfl)
theorem dX3_weigh_257 : decode cX3_weigh 257 = .ok (.bipush (-2), 2) := dk_16 254 (dk_at dksX3_weigh_10 22 rfl rfl)
theorem dX3_weigh_259 : decode cX3_weigh 259 = .ok (.if_icmp .eq 10, 3) := dk_159 0 10 (dk_at dksX3_weigh_11 0 rfl rfl)
theorem dX3_weigh_262 : decode cX3_weigh 262 = .ok (.iload 8, 2) := dk_21 8 (dk_at dksX3_weigh_11 3 rfl rfl)
theorem dX3_weigh_264 : decode cX3_weigh 264 = .ok (.iload 6, 2) := dk_21 6 (dk_at dksX3_weigh_11 5 rfl rfl)
theorem dX3_weigh_266 : decode cX3_weigh 266 = .ok (.if_icmp .ge 11, 3) := dk_162 0 11 (dk_at dksX3_weigh_11 7 rfl rfl)
theorem dX3_weigh_269 : decode cX3_weigh 269 = .ok (.iload 7, 2) := dk_21 7 (dk_at dksX3_weigh_11 10 rfl rfl)
theorem dX3_weigh_271 : decode cX3_weigh 271 = .ok (.istore 5, 2) := dk_54 5 (dk_at dksX3_weigh_11 12 rfl rfl)
theorem dX3_weigh_273 : decode cX3_weigh 273 = .ok (.iload 8, 2) := dk_21 8 (dk_at dksX3_weigh_11 14 rfl rfl)
theorem dX3_weigh_275 : decode cX3_weigh 275 = .ok (.istore 6, 2) := dk_54 6 (dk_at dksX3_weigh_11 16 rfl rfl)
theorem dX3_weigh_277 : decode cX3_weigh 277 = .ok (.iinc 7 1, 3) := dk_132 7 1 (dk_at dksX3_weigh_11 18 rfl rfl)
theorem dX3_weigh_280 : decode cX3_weigh 280 = .ok (.goto (-98), 3) := dk_167 255 158 (dk_at dksX3_weigh_11 21 rfl rfl)
theorem dX3_weigh_283 : decode cX3_weigh 283 = .ok (.iload_n 3, 1) := dk_29 (dk_at dksX3_weigh_12 0 rfl rfl)
theorem dX3_weigh_284 : decode cX3_weigh 284 = .ok (.ifCond .ne 8, 3) := dk_154 0 8 (dk_at dksX3_weigh_12 1 rfl rfl)
theorem dX3_weigh_287 : decode cX3_weigh 287 = .ok (.iload 5, 2) := dk_21 5 (dk_at dksX3_weigh_12 4 rfl rfl)
theorem dX3_weigh_289 : decode cX3_weigh 289 = .ok (.goto 5, 3) := dk_167 0 5 (dk_at dksX3_weigh_12 6 rfl rfl)
theorem dX3_weigh_292 : decode cX3_weigh 292 = .ok (.iload 6, 2) := dk_21 6 (dk_at dksX3_weigh_12 9 rfl rfl)
theorem dX3_weigh_294 : decode cX3_weigh 294 = .ok (.ireturn, 1) := dk_172 (dk_at dksX3_weigh_12 11 rfl rfl)
abbrev cX3_crust : ByteArray := prog_17_method_104_code
def yX3_crust : MethodName := ⟨RX3, "crust", "(IIII)I"⟩
def dkwX3_crust_6 : List UInt8 := [160, 0, 7, 2, 167, 0, 12, 42, 180, 0, 9, 8, 46, 21, 5, 96, 172]
abbrev dktX3_crust_6 : List UInt8 := dkwX3_crust_6 ++ []
def dkwX3_crust_5 : List UInt8 := [21, 6, 54, 6, 132, 7, 255, 167, 255, 197, 21, 4, 4, 160, 0, 8, 21, 6, 167, 0, 22, 21, 5, 2]
abbrev dktX3_crust_5 : List UInt8 := dkwX3_crust_5 ++ dktX3_crust_6
def dkwX3_crust_4 : List UInt8 := [164, 0, 8, 21, 7, 167, 0, 5, 21, 5, 54, 5, 21, 8, 21, 6, 164, 0, 8, 21, 8, 167, 0, 5]
abbrev dktX3_crust_4 : List UInt8 := dkwX3_crust_4 ++ dktX3_crust_5
def dkwX3_crust_3 : List UInt8 := [27, 182, 0, 182, 154, 0, 52, 42, 27, 28, 29, 21, 7, 182, 2, 33, 54, 8, 21, 8, 21, 6]
abbrev dktX3_crust_3 : List UInt8 := dkwX3_crust_3 ++ dktX3_crust_4
def dkwX3_crust_2 : List UInt8 := [2, 54, 5, 42, 27, 28, 29, 2, 182, 2, 33, 54, 6, 29, 4, 100, 54, 7, 21, 7, 155, 0, 60, 42]
abbrev dktX3_crust_2 : List UInt8 := dkwX3_crust_2 ++ dktX3_crust_3
def dkwX3_crust_1 : List UInt8 := [184, 0, 170, 153, 0, 14, 21, 4, 133, 9, 10, 184, 0, 170, 154, 0, 6, 16, 254, 172, 42, 182, 1, 226]
abbrev dktX3_crust_1 : List UInt8 := dkwX3_crust_1 ++ dktX3_crust_2
def dkwX3_crust_0 : List UInt8 := [42, 27, 182, 0, 178, 153, 0, 34, 42, 28, 182, 1, 141, 153, 0, 26, 29, 133, 10, 20, 2, 31]
abbrev dktX3_crust_0 : List UInt8 := dkwX3_crust_0 ++ dktX3_crust_1
theorem dksX3_crust_0 : cX3_crust.data.toList.drop 0 = dktX3_crust_0 := by decide +kernel
theorem dksX3_crust_1 : cX3_crust.data.toList.drop 22 = dktX3_crust_1 := dk_seg dksX3_crust_0 22 rfl rfl
theorem dksX3_crust_2 : cX3_crust.data.toList.drop 46 = dktX3_crust_2 := dk_seg dksX3_crust_1 24 rfl rfl
theorem dksX3_crust_3 : cX3_crust.data.toList.drop 70 = dktX3_crust_3 := dk_seg dksX3_crust_2 24 rfl rfl
theorem dksX3_crust_4 : cX3_crust.data.toList.drop 92 = dktX3_crust_4 := dk_seg dksX3_crust_3 22 rfl rfl
theorem dksX3_crust_5 : cX3_crust.data.toList.drop 116 = dktX3_crust_5 := dk_seg dksX3_crust_4 24 rfl rfl
theorem dksX3_crust_6 : cX3_crust.data.toList.drop 140 = dktX3_crust_6 := dk_seg dksX3_crust_5 24 rfl rfl
theorem dX3_crust_0 : decode cX3_crust 0 = .ok (.aload_n 0, 1) := dk_42 (dk_at dksX3_crust_0 0 rfl rfl)
theorem dX3_crust_1 : decode cX3_crust 1 = .ok (.iload_n 1, 1) := dk_27 (dk_at dksX3_crust_0 1 rfl rfl)
theorem dX3_crust_2 : decode cX3_crust 2 = .ok (.invokevirtual 178, 3) := dk_182 0 178 (dk_at dksX3_crust_0 2 rfl rfl)
theorem dX3_crust_5 : decode cX3_crust 5 = .ok (.ifCond .eq 34, 3) := dk_153 0 34 (dk_at dksX3_crust_0 5 rfl rfl)
theorem dX3_crust_8 : decode cX3_crust 8 = .ok (.aload_n 0, 1) := dk_42 (dk_at dksX3_crust_0 8 rfl rfl)
theorem dX3_crust_9 : decode cX3_crust 9 = .ok (.iload_n 2, 1) := dk_28 (dk_at dksX3_crust_0 9 rfl rfl)
theorem dX3_crust_10 : decode cX3_crust 10 = .ok (.invokevirtual 397, 3) := dk_182 1 141 (dk_at dksX3_crust_0 10 rfl rfl)
theorem dX3_crust_13 : decode cX3_crust 13 = .ok (.ifCond .eq 26, 3) := dk_153 0 26 (dk_at dksX3_crust_0 13 rfl rfl)
theorem dX3_crust_16 : decode cX3_crust 16 = .ok (.iload_n 3, 1) := dk_29 (dk_at dksX3_crust_0 16 rfl rfl)
theorem dX3_crust_17 : decode cX3_crust 17 = .ok (.i2l, 1) := dk_133 (dk_at dksX3_crust_0 17 rfl rfl)
theorem dX3_crust_18 : decode cX3_crust 18 = .ok (.lconst 1, 1) := dk_10 (dk_at dksX3_crust_0 18 rfl rfl)
theorem dX3_crust_19 : decode cX3_crust 19 = .ok (.ldc2_w 543, 3) := dk_20 2 31 (dk_at dksX3_crust_0 19 rfl rfl)
theorem dX3_crust_22 : decode cX3_crust 22 = .ok (.invokestatic 170, 3) := dk_184 0 170 (dk_at dksX3_crust_1 0 rfl rfl)
theorem dX3_crust_25 : decode cX3_crust 25 = .ok (.ifCond .eq 14, 3) := dk_153 0 14 (dk_at dksX3_crust_1 3 rfl rfl)
theorem dX3_crust_28 : decode cX3_crust 28 = .ok (.iload 4, 2) := dk_21 4 (dk_at dksX3_crust_1 6 rfl rfl)
theorem dX3_crust_30 : decode cX3_crust 30 = .ok (.i2l, 1) := dk_133 (dk_at dksX3_crust_1 8 rfl rfl)
theorem dX3_crust_31 : decode cX3_crust 31 = .ok (.lconst 0, 1) := dk_9 (dk_at dksX3_crust_1 9 rfl rfl)
theorem dX3_crust_32 : decode cX3_crust 32 = .ok (.lconst 1, 1) := dk_10 (dk_at dksX3_crust_1 10 rfl rfl)
theorem dX3_crust_33 : decode cX3_crust 33 = .ok (.invokestatic 170, 3) := dk_184 0 170 (dk_at dksX3_crust_1 11 rfl rfl)
theorem dX3_crust_36 : decode cX3_crust 36 = .ok (.ifCond .ne 6, 3) := dk_154 0 6 (dk_at dksX3_crust_1 14 rfl rfl)
theorem dX3_crust_39 : decode cX3_crust 39 = .ok (.bipush (-2), 2) := dk_16 254 (dk_at dksX3_crust_1 17 rfl rfl)
theorem dX3_crust_41 : decode cX3_crust 41 = .ok (.ireturn, 1) := dk_172 (dk_at dksX3_crust_1 19 rfl rfl)
theorem dX3_crust_42 : decode cX3_crust 42 = .ok (.aload_n 0, 1) := dk_42 (dk_at dksX3_crust_1 20 rfl rfl)
theorem dX3_crust_43 : decode cX3_crust 43 = .ok (.invokevirtual 482, 3) := dk_182 1 226 (dk_at dksX3_crust_1 21 rfl rfl)
theorem dX3_crust_46 : decode cX3_crust 46 = .ok (.iconst (-1), 1) := dk_2 (dk_at dksX3_crust_2 0 rfl rfl)
theorem dX3_crust_47 : decode cX3_crust 47 = .ok (.istore 5, 2) := dk_54 5 (dk_at dksX3_crust_2 1 rfl rfl)
theorem dX3_crust_49 : decode cX3_crust 49 = .ok (.aload_n 0, 1) := dk_42 (dk_at dksX3_crust_2 3 rfl rfl)
theorem dX3_crust_50 : decode cX3_crust 50 = .ok (.iload_n 1, 1) := dk_27 (dk_at dksX3_crust_2 4 rfl rfl)
theorem dX3_crust_51 : decode cX3_crust 51 = .ok (.iload_n 2, 1) := dk_28 (dk_at dksX3_crust_2 5 rfl rfl)
theorem dX3_crust_52 : decode cX3_crust 52 = .ok (.iload_n 3, 1) := dk_29 (dk_at dksX3_crust_2 6 rfl rfl)
theorem dX3_crust_53 : decode cX3_crust 53 = .ok (.iconst (-1), 1) := dk_2 (dk_at dksX3_crust_2 7 rfl rfl)
theorem dX3_crust_54 : decode cX3_crust 54 = .ok (.invokevirtual 545, 3) := dk_182 2 33 (dk_at dksX3_crust_2 8 rfl rfl)
theorem dX3_crust_57 : decode cX3_crust 57 = .ok (.istore 6, 2) := dk_54 6 (dk_at dksX3_crust_2 11 rfl rfl)
theorem dX3_crust_59 : decode cX3_crust 59 = .ok (.iload_n 3, 1) := dk_29 (dk_at dksX3_crust_2 13 rfl rfl)
theorem dX3_crust_60 : decode cX3_crust 60 = .ok (.iconst 1, 1) := dk_4 (dk_at dksX3_crust_2 14 rfl rfl)
theorem dX3_crust_61 : decode cX3_crust 61 = .ok (.isub, 1) := dk_100 (dk_at dksX3_crust_2 15 rfl rfl)
theorem dX3_crust_62 : decode cX3_crust 62 = .ok (.istore 7, 2) := dk_54 7 (dk_at dksX3_crust_2 16 rfl rfl)
theorem dX3_crust_64 : decode cX3_crust 64 = .ok (.iload 7, 2) := dk_21 7 (dk_at dksX3_crust_2 18 rfl rfl)
theorem dX3_crust_66 : decode cX3_crust 66 = .ok (.ifCond .lt 60, 3) := dk_155 0 60 (dk_at dksX3_crust_2 20 rfl rfl)
theorem dX3_crust_69 : decode cX3_crust 69 = .ok (.aload_n 0, 1) := dk_42 (dk_at dksX3_crust_2 23 rfl rfl)
theorem dX3_crust_70 : decode cX3_crust 70 = .ok (.iload_n 1, 1) := dk_27 (dk_at dksX3_crust_3 0 rfl rfl)
theorem dX3_crust_71 : decode cX3_crust 71 = .ok (.invokevirtual 182, 3) := dk_182 0 182 (dk_at dksX3_crust_3 1 rfl rfl)
theorem dX3_crust_74 : decode cX3_crust 74 = .ok (.ifCond .ne 52, 3) := dk_154 0 52 (dk_at dksX3_crust_3 4 rfl rfl)
theorem dX3_crust_77 : decode cX3_crust 77 = .ok (.aload_n 0, 1) := dk_42 (dk_at dksX3_crust_3 7 rfl rfl)
theorem dX3_crust_78 : decode cX3_crust 78 = .ok (.iload_n 1, 1) := dk_27 (dk_at dksX3_crust_3 8 rfl rfl)
theorem dX3_crust_79 : decode cX3_crust 79 = .ok (.iload_n 2, 1) := dk_28 (dk_at dksX3_crust_3 9 rfl rfl)
theorem dX3_crust_80 : decode cX3_crust 80 = .ok (.iload_n 3, 1) := dk_29 (dk_at dksX3_crust_3 10 rfl rfl)
theorem dX3_crust_81 : decode cX3_crust 81 = .ok (.iload 7, 2) := dk_21 7 (dk_at dksX3_crust_3 11 rfl rfl)
theorem dX3_crust_83 : decode cX3_crust 83 = .ok (.invokevirtual 545, 3) := dk_182 2 33 (dk_at dksX3_crust_3 13 rfl rfl)
theorem dX3_crust_86 : decode cX3_crust 86 = .ok (.istore 8, 2) := dk_54 8 (dk_at dksX3_crust_3 16 rfl rfl)
theorem dX3_crust_88 : decode cX3_crust 88 = .ok (.iload 8, 2) := dk_21 8 (dk_at dksX3_crust_3 18 rfl rfl)
theorem dX3_crust_90 : decode cX3_crust 90 = .ok (.iload 6, 2) := dk_21 6 (dk_at dksX3_crust_3 20 rfl rfl)
theorem dX3_crust_92 : decode cX3_crust 92 = .ok (.if_icmp .le 8, 3) := dk_164 0 8 (dk_at dksX3_crust_4 0 rfl rfl)
theorem dX3_crust_95 : decode cX3_crust 95 = .ok (.iload 7, 2) := dk_21 7 (dk_at dksX3_crust_4 3 rfl rfl)
theorem dX3_crust_97 : decode cX3_crust 97 = .ok (.goto 5, 3) := dk_167 0 5 (dk_at dksX3_crust_4 5 rfl rfl)
theorem dX3_crust_100 : decode cX3_crust 100 = .ok (.iload 5, 2) := dk_21 5 (dk_at dksX3_crust_4 8 rfl rfl)
theorem dX3_crust_102 : decode cX3_crust 102 = .ok (.istore 5, 2) := dk_54 5 (dk_at dksX3_crust_4 10 rfl rfl)
theorem dX3_crust_104 : decode cX3_crust 104 = .ok (.iload 8, 2) := dk_21 8 (dk_at dksX3_crust_4 12 rfl rfl)
theorem dX3_crust_106 : decode cX3_crust 106 = .ok (.iload 6, 2) := dk_21 6 (dk_at dksX3_crust_4 14 rfl rfl)
theorem dX3_crust_108 : decode cX3_crust 108 = .ok (.if_icmp .le 8, 3) := dk_164 0 8 (dk_at dksX3_crust_4 16 rfl rfl)
theorem dX3_crust_111 : decode cX3_crust 111 = .ok (.iload 8, 2) := dk_21 8 (dk_at dksX3_crust_4 19 rfl rfl)
theorem dX3_crust_113 : decode cX3_crust 113 = .ok (.goto 5, 3) := dk_167 0 5 (dk_at dksX3_crust_4 21 rfl rfl)
theorem dX3_crust_116 : decode cX3_crust 116 = .ok (.iload 6, 2) := dk_21 6 (dk_at dksX3_crust_5 0 rfl rfl)
theorem dX3_crust_118 : decode cX3_crust 118 = .ok (.istore 6, 2) := dk_54 6 (dk_at dksX3_crust_5 2 rfl rfl)
theorem dX3_crust_120 : decode cX3_crust 120 = .ok (.iinc 7 (-1), 3) := dk_132 7 255 (dk_at dksX3_crust_5 4 rfl rfl)
theorem dX3_crust_123 : decode cX3_crust 123 = .ok (.goto (-59), 3) := dk_167 255 197 (dk_at dksX3_crust_5 7 rfl rfl)
theorem dX3_crust_126 : decode cX3_crust 126 = .ok (.iload 4, 2) := dk_21 4 (dk_at dksX3_crust_5 10 rfl rfl)
theorem dX3_crust_128 : decode cX3_crust 128 = .ok (.iconst 1, 1) := dk_4 (dk_at dksX3_crust_5 12 rfl rfl)
theorem dX3_crust_129 : decode cX3_crust 129 = .ok (.if_icmp .ne 8, 3) := dk_160 0 8 (dk_at dksX3_crust_5 13 rfl rfl)
theorem dX3_crust_132 : decode cX3_crust 132 = .ok (.iload 6, 2) := dk_21 6 (dk_at dksX3_crust_5 16 rfl rfl)
theorem dX3_crust_134 : decode cX3_crust 134 = .ok (.goto 22, 3) := dk_167 0 22 (dk_at dksX3_crust_5 18 rfl rfl)
theorem dX3_crust_137 : decode cX3_crust 137 = .ok (.iload 5, 2) := dk_21 5 (dk_at dksX3_crust_5 21 rfl rfl)
theorem dX3_crust_139 : decode cX3_crust 139 = .ok (.iconst (-1), 1) := dk_2 (dk_at dksX3_crust_5 23 rfl rfl)
theorem dX3_crust_140 : decode cX3_crust 140 = .ok (.if_icmp .ne 7, 3) := dk_160 0 7 (dk_at dksX3_crust_6 0 rfl rfl)
theorem dX3_crust_143 : decode cX3_crust 143 = .ok (.iconst (-1), 1) := dk_2 (dk_at dksX3_crust_6 3 rfl rfl)
theorem dX3_crust_144 : decode cX3_crust 144 = .ok (.goto 12, 3) := dk_167 0 12 (dk_at dksX3_crust_6 4 rfl rfl)
theorem dX3_crust_147 : decode cX3_crust 147 = .ok (.aload_n 0, 1) := dk_42 (dk_at dksX3_crust_6 7 rfl rfl)
theorem dX3_crust_148 : decode cX3_crust 148 = .ok (.getfield 9, 3) := dk_180 0 9 (dk_at dksX3_crust_6 8 rfl rfl)
theorem dX3_crust_151 : decode cX3_crust 151 = .ok (.iconst 5, 1) := dk_8 (dk_at dksX3_crust_6 11 rfl rfl)
theorem dX3_crust_152 : decode cX3_crust 152 = .ok (.iaload, 1) := dk_46 (dk_at dksX3_crust_6 12 rfl rfl)
theorem dX3_crust_153 : decode cX3_crust 153 = .ok (.iload 5, 2) := dk_21 5 (dk_at dksX3_crust_6 13 rfl rfl)
theorem dX3_crust_155 : decode cX3_crust 155 = .ok (.iadd, 1) := dk_96 (dk_at dksX3_crust_6 15 rfl rfl)
theorem dX3_crust_156 : decode cX3_crust 156 = .ok (.ireturn, 1) := dk_172 (dk_at dksX3_crust_6 16 rfl rfl)
abbrev cX3_ownNights : ByteArray := prog_17_method_103_code
def yX3_ownNights : MethodName := ⟨RX3, "ownNights", "(IIII)I"⟩
def dkwX3_ownNights_3 : List UInt8 := [182, 1, 235, 21, 5, 172]
abbrev dktX3_ownNights_3 : List UInt8 := dkwX3_ownNights_3 ++ []
def dkwX3_ownNights_2 : List UInt8 := [42, 180, 0, 31, 28, 46, 160, 0, 7, 4, 167, 0, 4, 3, 96, 54, 5, 132, 6, 1, 167, 255, 195, 42]
abbrev dktX3_ownNights_2 : List UInt8 := dkwX3_ownNights_2 ++ dktX3_ownNights_3
def dkwX3_ownNights_1 : List UInt8 := [160, 0, 9, 4, 27, 120, 167, 0, 4, 3, 128, 79, 42, 182, 1, 183, 87, 21, 5, 42, 28, 182, 1, 138]
abbrev dktX3_ownNights_1 : List UInt8 := dkwX3_ownNights_1 ++ dktX3_ownNights_2
def dkwX3_ownNights_0 : List UInt8 := [3, 54, 5, 3, 54, 6, 21, 6, 29, 162, 0, 61, 42, 180, 0, 9, 7, 92, 46, 21, 6, 21, 4]
abbrev dktX3_ownNights_0 : List UInt8 := dkwX3_ownNights_0 ++ dktX3_ownNights_1
theorem dksX3_ownNights_0 : cX3_ownNights.data.toList.drop 0 = dktX3_ownNights_0 := by decide +kernel
theorem dksX3_ownNights_1 : cX3_ownNights.data.toList.drop 23 = dktX3_ownNights_1 := dk_seg dksX3_ownNights_0 23 rfl rfl
theorem dksX3_ownNights_2 : cX3_ownNights.data.toList.drop 47 = dktX3_ownNights_2 := dk_seg dksX3_ownNights_1 24 rfl rfl
theorem dksX3_ownNights_3 : cX3_ownNights.data.toList.drop 71 = dktX3_ownNights_3 := dk_seg dksX3_ownNights_2 24 rfl rfl
theorem dX3_ownNights_0 : decode cX3_ownNights 0 = .ok (.iconst 0, 1) := dk_3 (dk_at dksX3_ownNights_0 0 rfl rfl)
theorem dX3_ownNights_1 : decode cX3_ownNights 1 = .ok (.istore 5, 2) := dk_54 5 (dk_at dksX3_ownNights_0 1 rfl rfl)
theorem dX3_ownNights_3 : decode cX3_ownNights 3 = .ok (.iconst 0, 1) := dk_3 (dk_at dksX3_ownNights_0 3 rfl rfl)
theorem dX3_ownNights_4 : decode cX3_ownNights 4 = .ok (.istore 6, 2) := dk_54 6 (dk_at dksX3_ownNights_0 4 rfl rfl)
theorem dX3_ownNights_6 : decode cX3_ownNights 6 = .ok (.iload 6, 2) := dk_21 6 (dk_at dksX3_ownNights_0 6 rfl rfl)
theorem dX3_ownNights_8 : decode cX3_ownNights 8 = .ok (.iload_n 3, 1) := dk_29 (dk_at dksX3_ownNights_0 8 rfl rfl)
theorem dX3_ownNights_9 : decode cX3_ownNights 9 = .ok (.if_icmp .ge 61, 3) := dk_162 0 61 (dk_at dksX3_ownNights_0 9 rfl rfl)
theorem dX3_ownNights_12 : decode cX3_ownNights 12 = .ok (.aload_n 0, 1) := dk_42 (dk_at dksX3_ownNights_0 12 rfl rfl)
theorem dX3_ownNights_13 : decode cX3_ownNights 13 = .ok (.getfield 9, 3) := dk_180 0 9 (dk_at dksX3_ownNights_0 13 rfl rfl)
theorem dX3_ownNights_16 : decode cX3_ownNights 16 = .ok (.iconst 4, 1) := dk_7 (dk_at dksX3_ownNights_0 16 rfl rfl)
theorem dX3_ownNights_17 : decode cX3_ownNights 17 = .ok (.dup2, 1) := dk_92 (dk_at dksX3_ownNights_0 17 rfl rfl)
theorem dX3_ownNights_18 : decode cX3_ownNights 18 = .ok (.iaload, 1) := dk_46 (dk_at dksX3_ownNights_0 18 rfl rfl)
theorem dX3_ownNights_19 : decode cX3_ownNights 19 = .ok (.iload 6, 2) := dk_21 6 (dk_at dksX3_ownNights_0 19 rfl rfl)
theorem dX3_ownNights_21 : decode cX3_ownNights 21 = .ok (.iload 4, 2) := dk_21 4 (dk_at dksX3_ownNights_0 21 rfl rfl)
theorem dX3_ownNights_23 : decode cX3_ownNights 23 = .ok (.if_icmp .ne 9, 3) := dk_160 0 9 (dk_at dksX3_ownNights_1 0 rfl rfl)
theorem dX3_ownNights_26 : decode cX3_ownNights 26 = .ok (.iconst 1, 1) := dk_4 (dk_at dksX3_ownNights_1 3 rfl rfl)
theorem dX3_ownNights_27 : decode cX3_ownNights 27 = .ok (.iload_n 1, 1) := dk_27 (dk_at dksX3_ownNights_1 4 rfl rfl)
theorem dX3_ownNights_28 : decode cX3_ownNights 28 = .ok (.ishl, 1) := dk_120 (dk_at dksX3_ownNights_1 5 rfl rfl)
theorem dX3_ownNights_29 : decode cX3_ownNights 29 = .ok (.goto 4, 3) := dk_167 0 4 (dk_at dksX3_ownNights_1 6 rfl rfl)
theorem dX3_ownNights_32 : decode cX3_ownNights 32 = .ok (.iconst 0, 1) := dk_3 (dk_at dksX3_ownNights_1 9 rfl rfl)
theorem dX3_ownNights_33 : decode cX3_ownNights 33 = .ok (.ior, 1) := dk_128 (dk_at dksX3_ownNights_1 10 rfl rfl)
theorem dX3_ownNights_34 : decode cX3_ownNights 34 = .ok (.iastore, 1) := dk_79 (dk_at dksX3_ownNights_1 11 rfl rfl)
theorem dX3_ownNights_35 : decode cX3_ownNights 35 = .ok (.aload_n 0, 1) := dk_42 (dk_at dksX3_ownNights_1 12 rfl rfl)
theorem dX3_ownNights_36 : decode cX3_ownNights 36 = .ok (.invokevirtual 439, 3) := dk_182 1 183 (dk_at dksX3_ownNights_1 13 rfl rfl)
theorem dX3_ownNights_39 : decode cX3_ownNights 39 = .ok (.pop, 1) := dk_87 (dk_at dksX3_ownNights_1 16 rfl rfl)
theorem dX3_ownNights_40 : decode cX3_ownNights 40 = .ok (.iload 5, 2) := dk_21 5 (dk_at dksX3_ownNights_1 17 rfl rfl)
theorem dX3_ownNights_42 : decode cX3_ownNights 42 = .ok (.aload_n 0, 1) := dk_42 (dk_at dksX3_ownNights_1 19 rfl rfl)
theorem dX3_ownNights_43 : decode cX3_ownNights 43 = .ok (.iload_n 2, 1) := dk_28 (dk_at dksX3_ownNights_1 20 rfl rfl)
theorem dX3_ownNights_44 : decode cX3_ownNights 44 = .ok (.invokevirtual 394, 3) := dk_182 1 138 (dk_at dksX3_ownNights_1 21 rfl rfl)
theorem dX3_ownNights_47 : decode cX3_ownNights 47 = .ok (.aload_n 0, 1) := dk_42 (dk_at dksX3_ownNights_2 0 rfl rfl)
theorem dX3_ownNights_48 : decode cX3_ownNights 48 = .ok (.getfield 31, 3) := dk_180 0 31 (dk_at dksX3_ownNights_2 1 rfl rfl)
theorem dX3_ownNights_51 : decode cX3_ownNights 51 = .ok (.iload_n 2, 1) := dk_28 (dk_at dksX3_ownNights_2 4 rfl rfl)
theorem dX3_ownNights_52 : decode cX3_ownNights 52 = .ok (.iaload, 1) := dk_46 (dk_at dksX3_ownNights_2 5 rfl rfl)
theorem dX3_ownNights_53 : decode cX3_ownNights 53 = .ok (.if_icmp .ne 7, 3) := dk_160 0 7 (dk_at dksX3_ownNights_2 6 rfl rfl)
theorem dX3_ownNights_56 : decode cX3_ownNights 56 = .ok (.iconst 1, 1) := dk_4 (dk_at dksX3_ownNights_2 9 rfl rfl)
theorem dX3_ownNights_57 : decode cX3_ownNights 57 = .ok (.goto 4, 3) := dk_167 0 4 (dk_at dksX3_ownNights_2 10 rfl rfl)
theorem dX3_ownNights_60 : decode cX3_ownNights 60 = .ok (.iconst 0, 1) := dk_3 (dk_at dksX3_ownNights_2 13 rfl rfl)
theorem dX3_ownNights_61 : decode cX3_ownNights 61 = .ok (.iadd, 1) := dk_96 (dk_at dksX3_ownNights_2 14 rfl rfl)
theorem dX3_ownNights_62 : decode cX3_ownNights 62 = .ok (.istore 5, 2) := dk_54 5 (dk_at dksX3_ownNights_2 15 rfl rfl)
theorem dX3_ownNights_64 : decode cX3_ownNights 64 = .ok (.iinc 6 1, 3) := dk_132 6 1 (dk_at dksX3_ownNights_2 17 rfl rfl)
theorem dX3_ownNights_67 : decode cX3_ownNights 67 = .ok (.goto (-61), 3) := dk_167 255 195 (dk_at dksX3_ownNights_2 20 rfl rfl)
theorem dX3_ownNights_70 : decode cX3_ownNights 70 = .ok (.aload_n 0, 1) := dk_42 (dk_at dksX3_ownNights_2 23 rfl rfl)
theorem dX3_ownNights_71 : decode cX3_ownNights 71 = .ok (.invokevirtual 491, 3) := dk_182 1 235 (dk_at dksX3_ownNights_3 0 rfl rfl)
theorem dX3_ownNights_74 : decode cX3_ownNights 74 = .ok (.iload 5, 2) := dk_21 5 (dk_at dksX3_ownNights_3 3 rfl rfl)
theorem dX3_ownNights_76 : decode cX3_ownNights 76 = .ok (.ireturn, 1) := dk_172 (dk_at dksX3_ownNights_3 5 rfl rfl)
abbrev cX3_peace : ByteArray := prog_17_method_105_code
def yX3_peace : MethodName := ⟨RX3, "peace", "(II)I"⟩
def dkwX3_peace_6 : List UInt8 := [28, 4, 160, 0, 8, 21, 4, 167, 0, 8, 21, 4, 184, 1, 247, 172]
abbrev dktX3_peace_6 : List UInt8 := dkwX3_peace_6 ++ []
def dkwX3_peace_5 : List UInt8 := [167, 0, 5, 21, 4, 54, 4, 42, 182, 1, 235, 132, 5, 1, 167, 255, 186, 21, 4, 16, 254, 159, 0, 8]
abbrev dktX3_peace_5 : List UInt8 := dkwX3_peace_5 ++ dktX3_peace_6
def dkwX3_peace_4 : List UInt8 := [162, 0, 35, 42, 180, 0, 9, 7, 92, 46, 21, 5, 128, 79, 42, 27, 182, 1, 229, 154, 0, 8, 21, 5]
abbrev dktX3_peace_4 : List UInt8 := dkwX3_peace_4 ++ dktX3_peace_5
def dkwX3_peace_3 : List UInt8 := [2, 130, 126, 154, 0, 55, 21, 4, 16, 254, 159, 0, 16, 21, 5, 184, 1, 247, 21, 4, 184, 1, 247]
abbrev dktX3_peace_3 : List UInt8 := dkwX3_peace_3 ++ dktX3_peace_4
def dkwX3_peace_2 : List UInt8 := [2, 130, 126, 62, 16, 254, 54, 4, 42, 182, 1, 226, 3, 54, 5, 21, 5, 29, 163, 0, 70, 21, 5, 29]
abbrev dktX3_peace_2 : List UInt8 := dkwX3_peace_2 ++ dktX3_peace_3
def dkwX3_peace_1 : List UInt8 := [184, 0, 170, 154, 0, 5, 2, 172, 4, 42, 180, 0, 9, 3, 46, 120, 4, 100, 42, 180, 0, 9, 7, 46]
abbrev dktX3_peace_1 : List UInt8 := dkwX3_peace_1 ++ dktX3_peace_2
def dkwX3_peace_0 : List UInt8 := [42, 182, 1, 144, 153, 0, 25, 27, 133, 10, 20, 2, 31, 184, 0, 170, 153, 0, 13, 28, 133, 9, 10]
abbrev dktX3_peace_0 : List UInt8 := dkwX3_peace_0 ++ dktX3_peace_1
theorem dksX3_peace_0 : cX3_peace.data.toList.drop 0 = dktX3_peace_0 := by decide +kernel
theorem dksX3_peace_1 : cX3_peace.data.toList.drop 23 = dktX3_peace_1 := dk_seg dksX3_peace_0 23 rfl rfl
theorem dksX3_peace_2 : cX3_peace.data.toList.drop 47 = dktX3_peace_2 := dk_seg dksX3_peace_1 24 rfl rfl
theorem dksX3_peace_3 : cX3_peace.data.toList.drop 71 = dktX3_peace_3 := dk_seg dksX3_peace_2 24 rfl rfl
theorem dksX3_peace_4 : cX3_peace.data.toList.drop 94 = dktX3_peace_4 := dk_seg dksX3_peace_3 23 rfl rfl
theorem dksX3_peace_5 : cX3_peace.data.toList.drop 118 = dktX3_peace_5 := dk_seg dksX3_peace_4 24 rfl rfl
theorem dksX3_peace_6 : cX3_peace.data.toList.drop 142 = dktX3_peace_6 := dk_seg dksX3_peace_5 24 rfl rfl
theorem dX3_peace_0 : decode cX3_peace 0 = .ok (.aload_n 0, 1) := dk_42 (dk_at dksX3_peace_0 0 rfl rfl)
theorem dX3_peace_1 : decode cX3_peace 1 = .ok (.invokevirtual 400, 3) := dk_182 1 144 (dk_at dksX3_peace_0 1 rfl rfl)
theorem dX3_peace_4 : decode cX3_peace 4 = .ok (.ifCond .eq 25, 3) := dk_153 0 25 (dk_at dksX3_peace_0 4 rfl rfl)
theorem dX3_peace_7 : decode cX3_peace 7 = .ok (.iload_n 1, 1) := dk_27 (dk_at dksX3_peace_0 7 rfl rfl)
theorem dX3_peace_8 : decode cX3_peace 8 = .ok (.i2l, 1) := dk_133 (dk_at dksX3_peace_0 8 rfl rfl)
theorem dX3_peace_9 : decode cX3_peace 9 = .ok (.lconst 1, 1) := dk_10 (dk_at dksX3_peace_0 9 rfl rfl)
theorem dX3_peace_10 : decode cX3_peace 10 = .ok (.ldc2_w 543, 3) := dk_20 2 31 (dk_at dksX3_peace_0 10 rfl rfl)
theorem dX3_peace_13 : decode cX3_peace 13 = .ok (.invokestatic 170, 3) := dk_184 0 170 (dk_at dksX3_peace_0 13 rfl rfl)
theorem dX3_peace_16 : decode cX3_peace 16 = .ok (.ifCond .eq 13, 3) := dk_153 0 13 (dk_at dksX3_peace_0 16 rfl rfl)
theorem dX3_peace_19 : decode cX3_peace 19 = .ok (.iload_n 2, 1) := dk_28 (dk_at dksX3_peace_0 19 rfl rfl)
theorem dX3_peace_20 : decode cX3_peace 20 = .ok (.i2l, 1) := dk_133 (dk_at dksX3_peace_0 20 rfl rfl)
theorem dX3_peace_21 : decode cX3_peace 21 = .ok (.lconst 0, 1) := dk_9 (dk_at dksX3_peace_0 21 rfl rfl)
theorem dX3_peace_22 : decode cX3_peace 22 = .ok (.lconst 1, 1) := dk_10 (dk_at dksX3_peace_0 22 rfl rfl)
theorem dX3_peace_23 : decode cX3_peace 23 = .ok (.invokestatic 170, 3) := dk_184 0 170 (dk_at dksX3_peace_1 0 rfl rfl)
theorem dX3_peace_26 : decode cX3_peace 26 = .ok (.ifCond .ne 5, 3) := dk_154 0 5 (dk_at dksX3_peace_1 3 rfl rfl)
theorem dX3_peace_29 : decode cX3_peace 29 = .ok (.iconst (-1), 1) := dk_2 (dk_at dksX3_peace_1 6 rfl rfl)
theorem dX3_peace_30 : decode cX3_peace 30 = .ok (.ireturn, 1) := dk_172 (dk_at dksX3_peace_1 7 rfl rfl)
theorem dX3_peace_31 : decode cX3_peace 31 = .ok (.iconst 1, 1) := dk_4 (dk_at dksX3_peace_1 8 rfl rfl)
theorem dX3_peace_32 : decode cX3_peace 32 = .ok (.aload_n 0, 1) := dk_42 (dk_at dksX3_peace_1 9 rfl rfl)
theorem dX3_peace_33 : decode cX3_peace 33 = .ok (.getfield 9, 3) := dk_180 0 9 (dk_at dksX3_peace_1 10 rfl rfl)
theorem dX3_peace_36 : decode cX3_peace 36 = .ok (.iconst 0, 1) := dk_3 (dk_at dksX3_peace_1 13 rfl rfl)
theorem dX3_peace_37 : decode cX3_peace 37 = .ok (.iaload, 1) := dk_46 (dk_at dksX3_peace_1 14 rfl rfl)
theorem dX3_peace_38 : decode cX3_peace 38 = .ok (.ishl, 1) := dk_120 (dk_at dksX3_peace_1 15 rfl rfl)
theorem dX3_peace_39 : decode cX3_peace 39 = .ok (.iconst 1, 1) := dk_4 (dk_at dksX3_peace_1 16 rfl rfl)
theorem dX3_peace_40 : decode cX3_peace 40 = .ok (.isub, 1) := dk_100 (dk_at dksX3_peace_1 17 rfl rfl)
theorem dX3_peace_41 : decode cX3_peace 41 = .ok (.aload_n 0, 1) := dk_42 (dk_at dksX3_peace_1 18 rfl rfl)
theorem dX3_peace_42 : decode cX3_peace 42 = .ok (.getfield 9, 3) := dk_180 0 9 (dk_at dksX3_peace_1 19 rfl rfl)
theorem dX3_peace_45 : decode cX3_peace 45 = .ok (.iconst 4, 1) := dk_7 (dk_at dksX3_peace_1 22 rfl rfl)
theorem dX3_peace_46 : decode cX3_peace 46 = .ok (.iaload, 1) := dk_46 (dk_at dksX3_peace_1 23 rfl rfl)
theorem dX3_peace_47 : decode cX3_peace 47 = .ok (.iconst (-1), 1) := dk_2 (dk_at dksX3_peace_2 0 rfl rfl)
theorem dX3_peace_48 : decode cX3_peace 48 = .ok (.ixor, 1) := dk_130 (dk_at dksX3_peace_2 1 rfl rfl)
theorem dX3_peace_49 : decode cX3_peace 49 = .ok (.iand, 1) := dk_126 (dk_at dksX3_peace_2 2 rfl rfl)
theorem dX3_peace_50 : decode cX3_peace 50 = .ok (.istore_n 3, 1) := dk_62 (dk_at dksX3_peace_2 3 rfl rfl)
theorem dX3_peace_51 : decode cX3_peace 51 = .ok (.bipush (-2), 2) := dk_16 254 (dk_at dksX3_peace_2 4 rfl rfl)
theorem dX3_peace_53 : decode cX3_peace 53 = .ok (.istore 4, 2) := dk_54 4 (dk_at dksX3_peace_2 6 rfl rfl)
theorem dX3_peace_55 : decode cX3_peace 55 = .ok (.aload_n 0, 1) := dk_42 (dk_at dksX3_peace_2 8 rfl rfl)
theorem dX3_peace_56 : decode cX3_peace 56 = .ok (.invokevirtual 482, 3) := dk_182 1 226 (dk_at dksX3_peace_2 9 rfl rfl)
theorem dX3_peace_59 : decode cX3_peace 59 = .ok (.iconst 0, 1) := dk_3 (dk_at dksX3_peace_2 12 rfl rfl)
theorem dX3_peace_60 : decode cX3_peace 60 = .ok (.istore 5, 2) := dk_54 5 (dk_at dksX3_peace_2 13 rfl rfl)
theorem dX3_peace_62 : decode cX3_peace 62 = .ok (.iload 5, 2) := dk_21 5 (dk_at dksX3_peace_2 15 rfl rfl)
theorem dX3_peace_64 : decode cX3_peace 64 = .ok (.iload_n 3, 1) := dk_29 (dk_at dksX3_peace_2 17 rfl rfl)
theorem dX3_peace_65 : decode cX3_peace 65 = .ok (.if_icmp .gt 70, 3) := dk_163 0 70 (dk_at dksX3_peace_2 18 rfl rfl)
theorem dX3_peace_68 : decode cX3_peace 68 = .ok (.iload 5, 2) := dk_21 5 (dk_at dksX3_peace_2 21 rfl rfl)
theorem dX3_peace_70 : decode cX3_peace 70 = .ok (.iload_n 3, 1) := dk_29 (dk_at dksX3_peace_2 23 rfl rfl)
theorem dX3_peace_71 : decode cX3_peace 71 = .ok (.iconst (-1), 1) := dk_2 (dk_at dksX3_peace_3 0 rfl rfl)
theorem dX3_peace_72 : decode cX3_peace 72 = .ok (.ixor, 1) := dk_130 (dk_at dksX3_peace_3 1 rfl rfl)
theorem dX3_peace_73 : decode cX3_peace 73 = .ok (.iand, 1) := dk_126 (dk_at dksX3_peace_3 2 rfl rfl)
theorem dX3_peace_74 : decode cX3_peace 74 = .ok (.ifCond .ne 55, 3) := dk_154 0 55 (dk_at dksX3_peace_3 3 rfl rfl)
theorem dX3_peace_77 : decode cX3_peace 77 = .ok (.iload 4, 2) := dk_21 4 (dk_at dksX3_peace_3 6 rfl rfl)
theorem dX3_peace_79 : decode cX3_peace 79 = .ok (.bipush (-2), 2) := dk_16 254 (dk_at dksX3_peace_3 8 rfl rfl)
theorem dX3_peace_81 : decode cX3_peace 81 = .ok (.if_icmp .eq 16, 3) := dk_159 0 16 (dk_at dksX3_peace_3 10 rfl rfl)
theorem dX3_peace_84 : decode cX3_peace 84 = .ok (.iload 5, 2) := dk_21 5 (dk_at dksX3_peace_3 13 rfl rfl)
theorem dX3_peace_86 : decode cX3_peace 86 = .ok (.invokestatic 503, 3) := dk_184 1 247 (dk_at dksX3_peace_3 15 rfl rfl)
theorem dX3_peace_89 : decode cX3_peace 89 = .ok (.iload 4, 2) := dk_21 4 (dk_at dksX3_peace_3 18 rfl rfl)
theorem dX3_peace_91 : decode cX3_peace 91 = .ok (.invokestatic 503, 3) := dk_184 1 247 (dk_at dksX3_peace_3 20 rfl rfl)
theorem dX3_peace_94 : decode cX3_peace 94 = .ok (.if_icmp .ge 35, 3) := dk_162 0 35 (dk_at dksX3_peace_4 0 rfl rfl)
theorem dX3_peace_97 : decode cX3_peace 97 = .ok (.aload_n 0, 1) := dk_42 (dk_at dksX3_peace_4 3 rfl rfl)
theorem dX3_peace_98 : decode cX3_peace 98 = .ok (.getfield 9, 3) := dk_180 0 9 (dk_at dksX3_peace_4 4 rfl rfl)
theorem dX3_peace_101 : decode cX3_peace 101 = .ok (.iconst 4, 1) := dk_7 (dk_at dksX3_peace_4 7 rfl rfl)
theorem dX3_peace_102 : decode cX3_peace 102 = .ok (.dup2, 1) := dk_92 (dk_at dksX3_peace_4 8 rfl rfl)
theorem dX3_peace_103 : decode cX3_peace 103 = .ok (.iaload, 1) := dk_46 (dk_at dksX3_peace_4 9 rfl rfl)
theorem dX3_peace_104 : decode cX3_peace 104 = .ok (.iload 5, 2) := dk_21 5 (dk_at dksX3_peace_4 10 rfl rfl)
theorem dX3_peace_106 : decode cX3_peace 106 = .ok (.ior, 1) := dk_128 (dk_at dksX3_peace_4 12 rfl rfl)
theorem dX3_peace_107 : decode cX3_peace 107 = .ok (.iastore, 1) := dk_79 (dk_at dksX3_peace_4 13 rfl rfl)
theorem dX3_peace_108 : decode cX3_peace 108 = .ok (.aload_n 0, 1) := dk_42 (dk_at dksX3_peace_4 14 rfl rfl)
theorem dX3_peace_109 : decode cX3_peace 109 = .ok (.iload_n 1, 1) := dk_27 (dk_at dksX3_peace_4 15 rfl rfl)
theorem dX3_peace_110 : decode cX3_peace 110 = .ok (.invokevirtual 485, 3) := dk_182 1 229 (dk_at dksX3_peace_4 16 rfl rfl)
theorem dX3_peace_113 : decode cX3_peace 113 = .ok (.ifCond .ne 8, 3) := dk_154 0 8 (dk_at dksX3_peace_4 19 rfl rfl)
theorem dX3_peace_116 : decode cX3_peace 116 = .ok (.iload 5, 2) := dk_21 5 (dk_at dksX3_peace_4 22 rfl rfl)
theorem dX3_peace_118 : decode cX3_peace 118 = .ok (.goto 5, 3) := dk_167 0 5 (dk_at dksX3_peace_5 0 rfl rfl)
theorem dX3_peace_121 : decode cX3_peace 121 = .ok (.iload 4, 2) := dk_21 4 (dk_at dksX3_peace_5 3 rfl rfl)
theorem dX3_peace_123 : decode cX3_peace 123 = .ok (.istore 4, 2) := dk_54 4 (dk_at dksX3_peace_5 5 rfl rfl)
theorem dX3_peace_125 : decode cX3_peace 125 = .ok (.aload_n 0, 1) := dk_42 (dk_at dksX3_peace_5 7 rfl rfl)
theorem dX3_peace_126 : decode cX3_peace 126 = .ok (.invokevirtual 491, 3) := dk_182 1 235 (dk_at dksX3_peace_5 8 rfl rfl)
theorem dX3_peace_129 : decode cX3_peace 129 = .ok (.iinc 5 1, 3) := dk_132 5 1 (dk_at dksX3_peace_5 11 rfl rfl)
theorem dX3_peace_132 : decode cX3_peace 132 = .ok (.goto (-70), 3) := dk_167 255 186 (dk_at dksX3_peace_5 14 rfl rfl)
theorem dX3_peace_135 : decode cX3_peace 135 = .ok (.iload 4, 2) := dk_21 4 (dk_at dksX3_peace_5 17 rfl rfl)
theorem dX3_peace_137 : decode cX3_peace 137 = .ok (.bipush (-2), 2) := dk_16 254 (dk_at dksX3_peace_5 19 rfl rfl)
theorem dX3_peace_139 : decode cX3_peace 139 = .ok (.if_icmp .eq 8, 3) := dk_159 0 8 (dk_at dksX3_peace_5 21 rfl rfl)
theorem dX3_peace_142 : decode cX3_peace 142 = .ok (.iload_n 2, 1) := dk_28 (dk_at dksX3_peace_6 0 rfl rfl)
theorem dX3_peace_143 : decode cX3_peace 143 = .ok (.iconst 1, 1) := dk_4 (dk_at dksX3_peace_6 1 rfl rfl)
theorem dX3_peace_144 : decode cX3_peace 144 = .ok (.if_icmp .ne 8, 3) := dk_160 0 8 (dk_at dksX3_peace_6 2 rfl rfl)
theorem dX3_peace_147 : decode cX3_peace 147 = .ok (.iload 4, 2) := dk_21 4 (dk_at dksX3_peace_6 5 rfl rfl)
theorem dX3_peace_149 : decode cX3_peace 149 = .ok (.goto 8, 3) := dk_167 0 8 (dk_at dksX3_peace_6 7 rfl rfl)
theorem dX3_peace_152 : decode cX3_peace 152 = .ok (.iload 4, 2) := dk_21 4 (dk_at dksX3_peace_6 10 rfl rfl)
theorem dX3_peace_154 : decode cX3_peace 154 = .ok (.invokestatic 503, 3) := dk_184 1 247 (dk_at dksX3_peace_6 12 rfl rfl)
theorem dX3_peace_157 : decode cX3_peace 157 = .ok (.ireturn, 1) := dk_172 (dk_at dksX3_peace_6 15 rfl rfl)
abbrev cX3_part : ByteArray := prog_17_method_106_code
def yX3_part : MethodName := ⟨RX3, "part", "(I)I"⟩
def dkwX3_part_4 : List UInt8 := [21, 5, 108, 167, 0, 7, 29, 21, 5, 108, 172]
abbrev dktX3_part_4 : List UInt8 := dkwX3_part_4 ++ []
def dkwX3_part_3 : List UInt8 := [21, 5, 21, 4, 112, 54, 6, 21, 4, 54, 5, 21, 6, 54, 4, 167, 255, 236, 27, 154, 0, 10, 28]
abbrev dktX3_part_3 : List UInt8 := dkwX3_part_3 ++ dktX3_part_4
def dkwX3_part_2 : List UInt8 := [167, 255, 231, 16, 41, 42, 180, 0, 9, 3, 46, 104, 62, 28, 54, 4, 29, 54, 5, 21, 4, 153, 0, 21]
abbrev dktX3_part_2 : List UInt8 := dkwX3_part_2 ++ dktX3_part_3
def dkwX3_part_1 : List UInt8 := [42, 180, 0, 9, 3, 46, 162, 0, 21, 28, 42, 180, 0, 13, 29, 46, 16, 20, 96, 96, 61, 132, 3, 1]
abbrev dktX3_part_1 : List UInt8 := dkwX3_part_1 ++ dktX3_part_2
def dkwX3_part_0 : List UInt8 := [42, 182, 1, 144, 153, 0, 13, 27, 133, 9, 10, 184, 0, 170, 154, 0, 5, 2, 172, 3, 61, 3, 62, 29]
abbrev dktX3_part_0 : List UInt8 := dkwX3_part_0 ++ dktX3_part_1
theorem dksX3_part_0 : cX3_part.data.toList.drop 0 = dktX3_part_0 := by decide +kernel
theorem dksX3_part_1 : cX3_part.data.toList.drop 24 = dktX3_part_1 := dk_seg dksX3_part_0 24 rfl rfl
theorem dksX3_part_2 : cX3_part.data.toList.drop 48 = dktX3_part_2 := dk_seg dksX3_part_1 24 rfl rfl
theorem dksX3_part_3 : cX3_part.data.toList.drop 72 = dktX3_part_3 := dk_seg dksX3_part_2 24 rfl rfl
theorem dksX3_part_4 : cX3_part.data.toList.drop 95 = dktX3_part_4 := dk_seg dksX3_part_3 23 rfl rfl
theorem dX3_part_0 : decode cX3_part 0 = .ok (.aload_n 0, 1) := dk_42 (dk_at dksX3_part_0 0 rfl rfl)
theorem dX3_part_1 : decode cX3_part 1 = .ok (.invokevirtual 400, 3) := dk_182 1 144 (dk_at dksX3_part_0 1 rfl rfl)
theorem dX3_part_4 : decode cX3_part 4 = .ok (.ifCond .eq 13, 3) := dk_153 0 13 (dk_at dksX3_part_0 4 rfl rfl)
theorem dX3_part_7 : decode cX3_part 7 = .ok (.iload_n 1, 1) := dk_27 (dk_at dksX3_part_0 7 rfl rfl)
theorem dX3_part_8 : decode cX3_part 8 = .ok (.i2l, 1) := dk_133 (dk_at dksX3_part_0 8 rfl rfl)
theorem dX3_part_9 : decode cX3_part 9 = .ok (.lconst 0, 1) := dk_9 (dk_at dksX3_part_0 9 rfl rfl)
theorem dX3_part_10 : decode cX3_part 10 = .ok (.lconst 1, 1) := dk_10 (dk_at dksX3_part_0 10 rfl rfl)
theorem dX3_part_11 : decode cX3_part 11 = .ok (.invokestatic 170, 3) := dk_184 0 170 (dk_at dksX3_part_0 11 rfl rfl)
theorem dX3_part_14 : decode cX3_part 14 = .ok (.ifCond .ne 5, 3) := dk_154 0 5 (dk_at dksX3_part_0 14 rfl rfl)
theorem dX3_part_17 : decode cX3_part 17 = .ok (.iconst (-1), 1) := dk_2 (dk_at dksX3_part_0 17 rfl rfl)
theorem dX3_part_18 : decode cX3_part 18 = .ok (.ireturn, 1) := dk_172 (dk_at dksX3_part_0 18 rfl rfl)
theorem dX3_part_19 : decode cX3_part 19 = .ok (.iconst 0, 1) := dk_3 (dk_at dksX3_part_0 19 rfl rfl)
theorem dX3_part_20 : decode cX3_part 20 = .ok (.istore_n 2, 1) := dk_61 (dk_at dksX3_part_0 20 rfl rfl)
theorem dX3_part_21 : decode cX3_part 21 = .ok (.iconst 0, 1) := dk_3 (dk_at dksX3_part_0 21 rfl rfl)
theorem dX3_part_22 : decode cX3_part 22 = .ok (.istore_n 3, 1) := dk_62 (dk_at dksX3_part_0 22 rfl rfl)
theorem dX3_part_23 : decode cX3_part 23 = .ok (.iload_n 3, 1) := dk_29 (dk_at dksX3_part_0 23 rfl rfl)
theorem dX3_part_24 : decode cX3_part 24 = .ok (.aload_n 0, 1) := dk_42 (dk_at dksX3_part_1 0 rfl rfl)
theorem dX3_part_25 : decode cX3_part 25 = .ok (.getfield 9, 3) := dk_180 0 9 (dk_at dksX3_part_1 1 rfl rfl)
theorem dX3_part_28 : decode cX3_part 28 = .ok (.iconst 0, 1) := dk_3 (dk_at dksX3_part_1 4 rfl rfl)
theorem dX3_part_29 : decode cX3_part 29 = .ok (.iaload, 1) := dk_46 (dk_at dksX3_part_1 5 rfl rfl)
theorem dX3_part_30 : decode cX3_part 30 = .ok (.if_icmp .ge 21, 3) := dk_162 0 21 (dk_at dksX3_part_1 6 rfl rfl)
theorem dX3_part_33 : decode cX3_part 33 = .ok (.iload_n 2, 1) := dk_28 (dk_at dksX3_part_1 9 rfl rfl)
theorem dX3_part_34 : decode cX3_part 34 = .ok (.aload_n 0, 1) := dk_42 (dk_at dksX3_part_1 10 rfl rfl)
theorem dX3_part_35 : decode cX3_part 35 = .ok (.getfield 13, 3) := dk_180 0 13 (dk_at dksX3_part_1 11 rfl rfl)
theorem dX3_part_38 : decode cX3_part 38 = .ok (.iload_n 3, 1) := dk_29 (dk_at dksX3_part_1 14 rfl rfl)
theorem dX3_part_39 : decode cX3_part 39 = .ok (.iaload, 1) := dk_46 (dk_at dksX3_part_1 15 rfl rfl)
theorem dX3_part_40 : decode cX3_part 40 = .ok (.bipush 20, 2) := dk_16 20 (dk_at dksX3_part_1 16 rfl rfl)
theorem dX3_part_42 : decode cX3_part 42 = .ok (.iadd, 1) := dk_96 (dk_at dksX3_part_1 18 rfl rfl)
theorem dX3_part_43 : decode cX3_part 43 = .ok (.iadd, 1) := dk_96 (dk_at dksX3_part_1 19 rfl rfl)
theorem dX3_part_44 : decode cX3_part 44 = .ok (.istore_n 2, 1) := dk_61 (dk_at dksX3_part_1 20 rfl rfl)
theorem dX3_part_45 : decode cX3_part 45 = .ok (.iinc 3 1, 3) := dk_132 3 1 (dk_at dksX3_part_1 21 rfl rfl)
theorem dX3_part_48 : decode cX3_part 48 = .ok (.goto (-25), 3) := dk_167 255 231 (dk_at dksX3_part_2 0 rfl rfl)
theorem dX3_part_51 : decode cX3_part 51 = .ok (.bipush 41, 2) := dk_16 41 (dk_at dksX3_part_2 3 rfl rfl)
theorem dX3_part_53 : decode cX3_part 53 = .ok (.aload_n 0, 1) := dk_42 (dk_at dksX3_part_2 5 rfl rfl)
theorem dX3_part_54 : decode cX3_part 54 = .ok (.getfield 9, 3) := dk_180 0 9 (dk_at dksX3_part_2 6 rfl rfl)
theorem dX3_part_57 : decode cX3_part 57 = .ok (.iconst 0, 1) := dk_3 (dk_at dksX3_part_2 9 rfl rfl)
theorem dX3_part_58 : decode cX3_part 58 = .ok (.iaload, 1) := dk_46 (dk_at dksX3_part_2 10 rfl rfl)
theorem dX3_part_59 : decode cX3_part 59 = .ok (.imul, 1) := dk_104 (dk_at dksX3_part_2 11 rfl rfl)
theorem dX3_part_60 : decode cX3_part 60 = .ok (.istore_n 3, 1) := dk_62 (dk_at dksX3_part_2 12 rfl rfl)
theorem dX3_part_61 : decode cX3_part 61 = .ok (.iload_n 2, 1) := dk_28 (dk_at dksX3_part_2 13 rfl rfl)
theorem dX3_part_62 : decode cX3_part 62 = .ok (.istore 4, 2) := dk_54 4 (dk_at dksX3_part_2 14 rfl rfl)
theorem dX3_part_64 : decode cX3_part 64 = .ok (.iload_n 3, 1) := dk_29 (dk_at dksX3_part_2 16 rfl rfl)
theorem dX3_part_65 : decode cX3_part 65 = .ok (.istore 5, 2) := dk_54 5 (dk_at dksX3_part_2 17 rfl rfl)
theorem dX3_part_67 : decode cX3_part 67 = .ok (.iload 4, 2) := dk_21 4 (dk_at dksX3_part_2 19 rfl rfl)
theorem dX3_part_69 : decode cX3_part 69 = .ok (.ifCond .eq 21, 3) := dk_153 0 21 (dk_at dksX3_part_2 21 rfl rfl)
theorem dX3_part_72 : decode cX3_part 72 = .ok (.iload 5, 2) := dk_21 5 (dk_at dksX3_part_3 0 rfl rfl)
theorem dX3_part_74 : decode cX3_part 74 = .ok (.iload 4, 2) := dk_21 4 (dk_at dksX3_part_3 2 rfl rfl)
theorem dX3_part_76 : decode cX3_part 76 = .ok (.irem, 1) := dk_112 (dk_at dksX3_part_3 4 rfl rfl)
theorem dX3_part_77 : decode cX3_part 77 = .ok (.istore 6, 2) := dk_54 6 (dk_at dksX3_part_3 5 rfl rfl)
theorem dX3_part_79 : decode cX3_part 79 = .ok (.iload 4, 2) := dk_21 4 (dk_at dksX3_part_3 7 rfl rfl)
theorem dX3_part_81 : decode cX3_part 81 = .ok (.istore 5, 2) := dk_54 5 (dk_at dksX3_part_3 9 rfl rfl)
theorem dX3_part_83 : decode cX3_part 83 = .ok (.iload 6, 2) := dk_21 6 (dk_at dksX3_part_3 11 rfl rfl)
theorem dX3_part_85 : decode cX3_part 85 = .ok (.istore 4, 2) := dk_54 4 (dk_at dksX3_part_3 13 rfl rfl)
theorem dX3_part_87 : decode cX3_part 87 = .ok (.goto (-20), 3) := dk_167 255 236 (dk_at dksX3_part_3 15 rfl rfl)
theorem dX3_part_90 : decode cX3_part 90 = .ok (.iload_n 1, 1) := dk_27 (dk_at dksX3_part_3 18 rfl rfl)
theorem dX3_part_91 : decode cX3_part 91 = .ok (.ifCond .ne 10, 3) := dk_154 0 10 (dk_at dksX3_part_3 19 rfl rfl)
theorem dX3_part_94 : decode cX3_part 94 = .ok (.iload_n 2, 1) := dk_28 (dk_at dksX3_part_3 22 rfl rfl)
theorem dX3_part_95 : decode cX3_part 95 = .ok (.iload 5, 2) := dk_21 5 (dk_at dksX3_part_4 0 rfl rfl)
theorem dX3_part_97 : decode cX3_part 97 = .ok (.idiv, 1) := dk_108 (dk_at dksX3_part_4 2 rfl rfl)
theorem dX3_part_98 : decode cX3_part 98 = .ok (.goto 7, 3) := dk_167 0 7 (dk_at dksX3_part_4 3 rfl rfl)
theorem dX3_part_101 : decode cX3_part 101 = .ok (.iload_n 3, 1) := dk_29 (dk_at dksX3_part_4 6 rfl rfl)
theorem dX3_part_102 : decode cX3_part 102 = .ok (.iload 5, 2) := dk_21 5 (dk_at dksX3_part_4 7 rfl rfl)
theorem dX3_part_104 : decode cX3_part 104 = .ok (.idiv, 1) := dk_108 (dk_at dksX3_part_4 9 rfl rfl)
theorem dX3_part_105 : decode cX3_part 105 = .ok (.ireturn, 1) := dk_172 (dk_at dksX3_part_4 10 rfl rfl)
abbrev cX3_seed : ByteArray := prog_17_method_107_code
def yX3_seed : MethodName := ⟨RX3, "seed", "(I)I"⟩
def dkwX3_seed_0 : List UInt8 := [27, 156, 0, 5, 2, 172, 42, 180, 0, 9, 16, 7, 46, 61, 42, 180, 0, 9, 16, 7, 27, 79, 28, 172]
abbrev dktX3_seed_0 : List UInt8 := dkwX3_seed_0 ++ []
theorem dksX3_seed_0 : cX3_seed.data.toList.drop 0 = dktX3_seed_0 := by decide +kernel
theorem dX3_seed_0 : decode cX3_seed 0 = .ok (.iload_n 1, 1) := dk_27 (dk_at dksX3_seed_0 0 rfl rfl)
theorem dX3_seed_1 : decode cX3_seed 1 = .ok (.ifCond .ge 5, 3) := dk_156 0 5 (dk_at dksX3_seed_0 1 rfl rfl)
theorem dX3_seed_4 : decode cX3_seed 4 = .ok (.iconst (-1), 1) := dk_2 (dk_at dksX3_seed_0 4 rfl rfl)
theorem dX3_seed_5 : decode cX3_seed 5 = .ok (.ireturn, 1) := dk_172 (dk_at dksX3_seed_0 5 rfl rfl)
theorem dX3_seed_6 : decode cX3_seed 6 = .ok (.aload_n 0, 1) := dk_42 (dk_at dksX3_seed_0 6 rfl rfl)
theorem dX3_seed_7 : decode cX3_seed 7 = .ok (.getfield 9, 3) := dk_180 0 9 (dk_at dksX3_seed_0 7 rfl rfl)
theorem dX3_seed_10 : decode cX3_seed 10 = .ok (.bipush 7, 2) := dk_16 7 (dk_at dksX3_seed_0 10 rfl rfl)
theorem dX3_seed_12 : decode cX3_seed 12 = .ok (.iaload, 1) := dk_46 (dk_at dksX3_seed_0 12 rfl rfl)
theorem dX3_seed_13 : decode cX3_seed 13 = .ok (.istore_n 2, 1) := dk_61 (dk_at dksX3_seed_0 13 rfl rfl)
theorem dX3_seed_14 : decode cX3_seed 14 = .ok (.aload_n 0, 1) := dk_42 (dk_at dksX3_seed_0 14 rfl rfl)
theorem dX3_seed_15 : decode cX3_seed 15 = .ok (.getfield 9, 3) := dk_180 0 9 (dk_at dksX3_seed_0 15 rfl rfl)
theorem dX3_seed_18 : decode cX3_seed 18 = .ok (.bipush 7, 2) := dk_16 7 (dk_at dksX3_seed_0 18 rfl rfl)
theorem dX3_seed_20 : decode cX3_seed 20 = .ok (.iload_n 1, 1) := dk_27 (dk_at dksX3_seed_0 20 rfl rfl)
theorem dX3_seed_21 : decode cX3_seed 21 = .ok (.iastore, 1) := dk_79 (dk_at dksX3_seed_0 21 rfl rfl)
theorem dX3_seed_22 : decode cX3_seed 22 = .ok (.iload_n 2, 1) := dk_28 (dk_at dksX3_seed_0 22 rfl rfl)
theorem dX3_seed_23 : decode cX3_seed 23 = .ok (.ireturn, 1) := dk_172 (dk_at dksX3_seed_0 23 rfl rfl)
abbrev cX3_summers : ByteArray := prog_17_method_109_code
def yX3_summers : MethodName := ⟨RX3, "summers", "(III)I"⟩
def dkwX3_summers_10 : List UInt8 := [154, 0, 8, 21, 6, 167, 0, 5, 21, 7, 172]
abbrev dktX3_summers_10 : List UInt8 := dkwX3_summers_10 ++ []
def dkwX3_summers_9 : List UInt8 := [54, 5, 42, 182, 1, 235, 132, 8, 1, 167, 255, 120, 42, 180, 0, 9, 16, 7, 21, 4, 79, 29]
abbrev dktX3_summers_9 : List UInt8 := dkwX3_summers_9 ++ dktX3_summers_10
def dkwX3_summers_8 : List UInt8 := [42, 180, 0, 13, 21, 9, 46, 100, 96, 54, 7, 132, 9, 1, 167, 255, 187, 42, 180, 0, 9, 16, 7, 46]
abbrev dktX3_summers_8 : List UInt8 := dkwX3_summers_8 ++ dktX3_summers_9
def dkwX3_summers_7 : List UInt8 := [180, 0, 13, 21, 9, 46, 42, 180, 0, 157, 21, 9, 46, 100, 167, 0, 18, 42, 180, 0, 157, 21, 9, 46]
abbrev dktX3_summers_7 : List UInt8 := dkwX3_summers_7 ++ dktX3_summers_8
def dkwX3_summers_6 : List UInt8 := [162, 0, 64, 21, 7, 42, 180, 0, 13, 21, 9, 46, 42, 180, 0, 157, 21, 9, 46, 164, 0, 21, 42]
abbrev dktX3_summers_6 : List UInt8 := dkwX3_summers_6 ++ dktX3_summers_7
def dkwX3_summers_5 : List UInt8 := [182, 1, 180, 96, 54, 6, 132, 9, 1, 167, 255, 232, 3, 54, 9, 21, 9, 42, 180, 0, 9, 3, 46]
abbrev dktX3_summers_5 : List UInt8 := dkwX3_summers_5 ++ dktX3_summers_6
def dkwX3_summers_4 : List UInt8 := [16, 7, 21, 5, 79, 3, 54, 9, 21, 9, 28, 162, 0, 24, 21, 6, 42, 42, 16, 10, 182, 2, 46]
abbrev dktX3_summers_4 : List UInt8 := dkwX3_summers_4 ++ dktX3_summers_5
def dkwX3_summers_3 : List UInt8 := [180, 0, 13, 42, 180, 0, 157, 184, 1, 101, 3, 54, 8, 21, 8, 27, 162, 0, 136, 42, 180, 0, 9]
abbrev dktX3_summers_3 : List UInt8 := dkwX3_summers_3 ++ dktX3_summers_4
def dkwX3_summers_2 : List UInt8 := [180, 0, 9, 16, 7, 46, 54, 4, 21, 4, 54, 5, 3, 54, 6, 3, 54, 7, 42, 182, 1, 226, 42]
abbrev dktX3_summers_2 : List UInt8 := dkwX3_summers_2 ++ dktX3_summers_3
def dkwX3_summers_1 : List UInt8 := [20, 2, 31, 184, 0, 170, 153, 0, 13, 29, 133, 9, 10, 184, 0, 170, 154, 0, 5, 2, 172, 42]
abbrev dktX3_summers_1 : List UInt8 := dkwX3_summers_1 ++ dktX3_summers_2
def dkwX3_summers_0 : List UInt8 := [42, 182, 1, 144, 153, 0, 37, 27, 133, 10, 20, 2, 44, 184, 0, 170, 153, 0, 25, 28, 133, 10]
abbrev dktX3_summers_0 : List UInt8 := dkwX3_summers_0 ++ dktX3_summers_1
theorem dksX3_summers_0 : cX3_summers.data.toList.drop 0 = dktX3_summers_0 := by decide +kernel
theorem dksX3_summers_1 : cX3_summers.data.toList.drop 22 = dktX3_summers_1 := dk_seg dksX3_summers_0 22 rfl rfl
theorem dksX3_summers_2 : cX3_summers.data.toList.drop 44 = dktX3_summers_2 := dk_seg dksX3_summers_1 22 rfl rfl
theorem dksX3_summers_3 : cX3_summers.data.toList.drop 67 = dktX3_summers_3 := dk_seg dksX3_summers_2 23 rfl rfl
theorem dksX3_summers_4 : cX3_summers.data.toList.drop 90 = dktX3_summers_4 := dk_seg dksX3_summers_3 23 rfl rfl
theorem dksX3_summers_5 : cX3_summers.data.toList.drop 113 = dktX3_summers_5 := dk_seg dksX3_summers_4 23 rfl rfl
theorem dksX3_summers_6 : cX3_summers.data.toList.drop 136 = dktX3_summers_6 := dk_seg dksX3_summers_5 23 rfl rfl
theorem dksX3_summers_7 : cX3_summers.data.toList.drop 159 = dktX3_summers_7 := dk_seg dksX3_summers_6 23 rfl rfl
theorem dksX3_summers_8 : cX3_summers.data.toList.drop 183 = dktX3_summers_8 := dk_seg dksX3_summers_7 24 rfl rfl
theorem dksX3_summers_9 : cX3_summers.data.toList.drop 207 = dktX3_summers_9 := dk_seg dksX3_summers_8 24 rfl rfl
theorem dksX3_summers_10 : cX3_summers.data.toList.drop 229 = dktX3_summers_10 := dk_seg dksX3_summers_9 22 rfl rfl
theorem dX3_summers_0 : decode cX3_summers 0 = .ok (.aload_n 0, 1) := dk_42 (dk_at dksX3_summers_0 0 rfl rfl)
theorem dX3_summers_1 : decode cX3_summers 1 = .ok (.invokevirtual 400, 3) := dk_182 1 144 (dk_at dksX3_summers_0 1 rfl rfl)
theorem dX3_summers_4 : decode cX3_summers 4 = .ok (.ifCond .eq 37, 3) := dk_153 0 37 (dk_at dksX3_summers_0 4 rfl rfl)
theorem dX3_summers_7 : decode cX3_summers 7 = .ok (.iload_n 1, 1) := dk_27 (dk_at dksX3_summers_0 7 rfl rfl)
theorem dX3_summers_8 : decode cX3_summers 8 = .ok (.i2l, 1) := dk_133 (dk_at dksX3_summers_0 8 rfl rfl)
theorem dX3_summers_9 : decode cX3_summers 9 = .ok (.lconst 1, 1) := dk_10 (dk_at dksX3_summers_0 9 rfl rfl)
theorem dX3_summers_10 : decode cX3_summers 10 = .ok (.ldc2_w 556, 3) := dk_20 2 44 (dk_at dksX3_summers_0 10 rfl rfl)
theorem dX3_summers_13 : decode cX3_summers 13 = .ok (.invokestatic 170, 3) := dk_184 0 170 (dk_at dksX3_summers_0 13 rfl rfl)
theorem dX3_summers_16 : decode cX3_summers 16 = .ok (.ifCond .eq 25, 3) := dk_153 0 25 (dk_at dksX3_summers_0 16 rfl rfl)
theorem dX3_summers_19 : decode cX3_summers 19 = .ok (.iload_n 2, 1) := dk_28 (dk_at dksX3_summers_0 19 rfl rfl)
theorem dX3_summers_20 : decode cX3_summers 20 = .ok (.i2l, 1) := dk_133 (dk_at dksX3_summers_0 20 rfl rfl)
theorem dX3_summers_21 : decode cX3_summers 21 = .ok (.lconst 1, 1) := dk_10 (dk_at dksX3_summers_0 21 rfl rfl)
theorem dX3_summers_22 : decode cX3_summers 22 = .ok (.ldc2_w 543, 3) := dk_20 2 31 (dk_at dksX3_summers_1 0 rfl rfl)
theorem dX3_summers_25 : decode cX3_summers 25 = .ok (.invokestatic 170, 3) := dk_184 0 170 (dk_at dksX3_summers_1 3 rfl rfl)
theorem dX3_summers_28 : decode cX3_summers 28 = .ok (.ifCond .eq 13, 3) := dk_153 0 13 (dk_at dksX3_summers_1 6 rfl rfl)
theorem dX3_summers_31 : decode cX3_summers 31 = .ok (.iload_n 3, 1) := dk_29 (dk_at dksX3_summers_1 9 rfl rfl)
theorem dX3_summers_32 : decode cX3_summers 32 = .ok (.i2l, 1) := dk_133 (dk_at dksX3_summers_1 10 rfl rfl)
theorem dX3_summers_33 : decode cX3_summers 33 = .ok (.lconst 0, 1) := dk_9 (dk_at dksX3_summers_1 11 rfl rfl)
theorem dX3_summers_34 : decode cX3_summers 34 = .ok (.lconst 1, 1) := dk_10 (dk_at dksX3_summers_1 12 rfl rfl)
theorem dX3_summers_35 : decode cX3_summers 35 = .ok (.invokestatic 170, 3) := dk_184 0 170 (dk_at dksX3_summers_1 13 rfl rfl)
theorem dX3_summers_38 : decode cX3_summers 38 = .ok (.ifCond .ne 5, 3) := dk_154 0 5 (dk_at dksX3_summers_1 16 rfl rfl)
theorem dX3_summers_41 : decode cX3_summers 41 = .ok (.iconst (-1), 1) := dk_2 (dk_at dksX3_summers_1 19 rfl rfl)
theorem dX3_summers_42 : decode cX3_summers 42 = .ok (.ireturn, 1) := dk_172 (dk_at dksX3_summers_1 20 rfl rfl)
theorem dX3_summers_43 : decode cX3_summers 43 = .ok (.aload_n 0, 1) := dk_42 (dk_at dksX3_summers_1 21 rfl rfl)
theorem dX3_summers_44 : decode cX3_summers 44 = .ok (.getfield 9, 3) := dk_180 0 9 (dk_at dksX3_summers_2 0 rfl rfl)
theorem dX3_summers_47 : decode cX3_summers 47 = .ok (.bipush 7, 2) := dk_16 7 (dk_at dksX3_summers_2 3 rfl rfl)
theorem dX3_summers_49 : decode cX3_summers 49 = .ok (.iaload, 1) := dk_46 (dk_at dksX3_summers_2 5 rfl rfl)
theorem dX3_summers_50 : decode cX3_summers 50 = .ok (.istore 4, 2) := dk_54 4 (dk_at dksX3_summers_2 6 rfl rfl)
theorem dX3_summers_52 : decode cX3_summers 52 = .ok (.iload 4, 2) := dk_21 4 (dk_at dksX3_summers_2 8 rfl rfl)
theorem dX3_summers_54 : decode cX3_summers 54 = .ok (.istore 5, 2) := dk_54 5 (dk_at dksX3_summers_2 10 rfl rfl)
theorem dX3_summers_56 : decode cX3_summers 56 = .ok (.iconst 0, 1) := dk_3 (dk_at dksX3_summers_2 12 rfl rfl)
theorem dX3_summers_57 : decode cX3_summers 57 = .ok (.istore 6, 2) := dk_54 6 (dk_at dksX3_summers_2 13 rfl rfl)
theorem dX3_summers_59 : decode cX3_summers 59 = .ok (.iconst 0, 1) := dk_3 (dk_at dksX3_summers_2 15 rfl rfl)
theorem dX3_summers_60 : decode cX3_summers 60 = .ok (.istore 7, 2) := dk_54 7 (dk_at dksX3_summers_2 16 rfl rfl)
theorem dX3_summers_62 : decode cX3_summers 62 = .ok (.aload_n 0, 1) := dk_42 (dk_at dksX3_summers_2 18 rfl rfl)
theorem dX3_summers_63 : decode cX3_summers 63 = .ok (.invokevirtual 482, 3) := dk_182 1 226 (dk_at dksX3_summers_2 19 rfl rfl)
theorem dX3_summers_66 : decode cX3_summers 66 = .ok (.aload_n 0, 1) := dk_42 (dk_at dksX3_summers_2 22 rfl rfl)
theorem dX3_summers_67 : decode cX3_summers 67 = .ok (.getfield 13, 3) := dk_180 0 13 (dk_at dksX3_summers_3 0 rfl rfl)
theorem dX3_summers_70 : decode cX3_summers 70 = .ok (.aload_n 0, 1) := dk_42 (dk_at dksX3_summers_3 3 rfl rfl)
theorem dX3_summers_71 : decode cX3_summers 71 = .ok (.getfield 157, 3) := dk_180 0 157 (dk_at dksX3_summers_3 4 rfl rfl)
theorem dX3_summers_74 : decode cX3_summers 74 = .ok (.invokestatic 357, 3) := dk_184 1 101 (dk_at dksX3_summers_3 7 rfl rfl)
theorem dX3_summers_77 : decode cX3_summers 77 = .ok (.iconst 0, 1) := dk_3 (dk_at dksX3_summers_3 10 rfl rfl)
theorem dX3_summers_78 : decode cX3_summers 78 = .ok (.istore 8, 2) := dk_54 8 (dk_at dksX3_summers_3 11 rfl rfl)
theorem dX3_summers_80 : decode cX3_summers 80 = .ok (.iload 8, 2) := dk_21 8 (dk_at dksX3_summers_3 13 rfl rfl)
theorem dX3_summers_82 : decode cX3_summers 82 = .ok (.iload_n 1, 1) := dk_27 (dk_at dksX3_summers_3 15 rfl rfl)
theorem dX3_summers_83 : decode cX3_summers 83 = .ok (.if_icmp .ge 136, 3) := dk_162 0 136 (dk_at dksX3_summers_3 16 rfl rfl)
theorem dX3_summers_86 : decode cX3_summers 86 = .ok (.aload_n 0, 1) := dk_42 (dk_at dksX3_summers_3 19 rfl rfl)
theorem dX3_summers_87 : decode cX3_summers 87 = .ok (.getfield 9, 3) := dk_180 0 9 (dk_at dksX3_summers_3 20 rfl rfl)
theorem dX3_summers_90 : decode cX3_summers 90 = .ok (.bipush 7, 2) := dk_16 7 (dk_at dksX3_summers_4 0 rfl rfl)
theorem dX3_summers_92 : decode cX3_summers 92 = .ok (.iload 5, 2) := dk_21 5 (dk_at dksX3_summers_4 2 rfl rfl)
theorem dX3_summers_94 : decode cX3_summers 94 = .ok (.iastore, 1) := dk_79 (dk_at dksX3_summers_4 4 rfl rfl)
theorem dX3_summers_95 : decode cX3_summers 95 = .ok (.iconst 0, 1) := dk_3 (dk_at dksX3_summers_4 5 rfl rfl)
theorem dX3_summers_96 : decode cX3_summers 96 = .ok (.istore 9, 2) := dk_54 9 (dk_at dksX3_summers_4 6 rfl rfl)
theorem dX3_summers_98 : decode cX3_summers 98 = .ok (.iload 9, 2) := dk_21 9 (dk_at dksX3_summers_4 8 rfl rfl)
theorem dX3_summers_100 : decode cX3_summers 100 = .ok (.iload_n 2, 1) := dk_28 (dk_at dksX3_summers_4 10 rfl rfl)
theorem dX3_summers_101 : decode cX3_summers 101 = .ok (.if_icmp .ge 24, 3) := dk_162 0 24 (dk_at dksX3_summers_4 11 rfl rfl)
theorem dX3_summers_104 : decode cX3_summers 104 = .ok (.iload 6, 2) := dk_21 6 (dk_at dksX3_summers_4 14 rfl rfl)
theorem dX3_summers_106 : decode cX3_summers 106 = .ok (.aload_n 0, 1) := dk_42 (dk_at dksX3_summers_4 16 rfl rfl)
theorem dX3_summers_107 : decode cX3_summers 107 = .ok (.aload_n 0, 1) := dk_42 (dk_at dksX3_summers_4 17 rfl rfl)
theorem dX3_summers_108 : decode cX3_summers 108 = .ok (.bipush 10, 2) := dk_16 10 (dk_at dksX3_summers_4 18 rfl rfl)
theorem dX3_summers_110 : decode cX3_summers 110 = .ok (.invokevirtual 558, 3) := dk_182 2 46 (dk_at dksX3_summers_4 20 rfl rfl)
theorem dX3_summers_113 : decode cX3_summers 113 = .ok (.invokevirtual 436, 3) := dk_182 1 180 (dk_at dksX3_summers_5 0 rfl rfl)
theorem dX3_summers_116 : decode cX3_summers 116 = .ok (.iadd, 1) := dk_96 (dk_at dksX3_summers_5 3 rfl rfl)
theorem dX3_summers_117 : decode cX3_summers 117 = .ok (.istore 6, 2) := dk_54 6 (dk_at dksX3_summers_5 4 rfl rfl)
theorem dX3_summers_119 : decode cX3_summers 119 = .ok (.iinc 9 1, 3) := dk_132 9 1 (dk_at dksX3_summers_5 6 rfl rfl)
theorem dX3_summers_122 : decode cX3_summers 122 = .ok (.goto (-24), 3) := dk_167 255 232 (dk_at dksX3_summers_5 9 rfl rfl)
theorem dX3_summers_125 : decode cX3_summers 125 = .ok (.iconst 0, 1) := dk_3 (dk_at dksX3_summers_5 12 rfl rfl)
theorem dX3_summers_126 : decode cX3_summers 126 = .ok (.istore 9, 2) := dk_54 9 (dk_at dksX3_summers_5 13 rfl rfl)
theorem dX3_summers_128 : decode cX3_summers 128 = .ok (.iload 9, 2) := dk_21 9 (dk_at dksX3_summers_5 15 rfl rfl)
theorem dX3_summers_130 : decode cX3_summers 130 = .ok (.aload_n 0, 1) := dk_42 (dk_at dksX3_summers_5 17 rfl rfl)
theorem dX3_summers_131 : decode cX3_summers 131 = .ok (.getfield 9, 3) := dk_180 0 9 (dk_at dksX3_summers_5 18 rfl rfl)
theorem dX3_summers_134 : decode cX3_summers 134 = .ok (.iconst 0, 1) := dk_3 (dk_at dksX3_summers_5 21 rfl rfl)
theorem dX3_summers_135 : decode cX3_summers 135 = .ok (.iaload, 1) := dk_46 (dk_at dksX3_summers_5 22 rfl rfl)
theorem dX3_summers_136 : decode cX3_summers 136 = .ok (.if_icmp .ge 64, 3) := dk_162 0 64 (dk_at dksX3_summers_6 0 rfl rfl)
theorem dX3_summers_139 : decode cX3_summers 139 = .ok (.iload 7, 2) := dk_21 7 (dk_at dksX3_summers_6 3 rfl rfl)
theorem dX3_summers_141 : decode cX3_summers 141 = .ok (.aload_n 0, 1) := dk_42 (dk_at dksX3_summers_6 5 rfl rfl)
theorem dX3_summers_142 : decode cX3_summers 142 = .ok (.getfield 13, 3) := dk_180 0 13 (dk_at dksX3_summers_6 6 rfl rfl)
theorem dX3_summers_145 : decode cX3_summers 145 = .ok (.iload 9, 2) := dk_21 9 (dk_at dksX3_summers_6 9 rfl rfl)
theorem dX3_summers_147 : decode cX3_summers 147 = .ok (.iaload, 1) := dk_46 (dk_at dksX3_summers_6 11 rfl rfl)
theorem dX3_summers_148 : decode cX3_summers 148 = .ok (.aload_n 0, 1) := dk_42 (dk_at dksX3_summers_6 12 rfl rfl)
theorem dX3_summers_149 : decode cX3_summers 149 = .ok (.getfield 157, 3) := dk_180 0 157 (dk_at dksX3_summers_6 13 rfl rfl)
theorem dX3_summers_152 : decode cX3_summers 152 = .ok (.iload 9, 2) := dk_21 9 (dk_at dksX3_summers_6 16 rfl rfl)
theorem dX3_summers_154 : decode cX3_summers 154 = .ok (.iaload, 1) := dk_46 (dk_at dksX3_summers_6 18 rfl rfl)
theorem dX3_summers_155 : decode cX3_summers 155 = .ok (.if_icmp .le 21, 3) := dk_164 0 21 (dk_at dksX3_summers_6 19 rfl rfl)
theorem dX3_summers_158 : decode cX3_summers 158 = .ok (.aload_n 0, 1) := dk_42 (dk_at dksX3_summers_6 22 rfl rfl)
theorem dX3_summers_159 : decode cX3_summers 159 = .ok (.getfield 13, 3) := dk_180 0 13 (dk_at dksX3_summers_7 0 rfl rfl)
theorem dX3_summers_162 : decode cX3_summers 162 = .ok (.iload 9, 2) := dk_21 9 (dk_at dksX3_summers_7 3 rfl rfl)
theorem dX3_summers_164 : decode cX3_summers 164 = .ok (.iaload, 1) := dk_46 (dk_at dksX3_summers_7 5 rfl rfl)
theorem dX3_summers_165 : decode cX3_summers 165 = .ok (.aload_n 0, 1) := dk_42 (dk_at dksX3_summers_7 6 rfl rfl)
theorem dX3_summers_166 : decode cX3_summers 166 = .ok (.getfield 157, 3) := dk_180 0 157 (dk_at dksX3_summers_7 7 rfl rfl)
theorem dX3_summers_169 : decode cX3_summers 169 = .ok (.iload 9, 2) := dk_21 9 (dk_at dksX3_summers_7 10 rfl rfl)
theorem dX3_summers_171 : decode cX3_summers 171 = .ok (.iaload, 1) := dk_46 (dk_at dksX3_summers_7 12 rfl rfl)
theorem dX3_summers_172 : decode cX3_summers 172 = .ok (.isub, 1) := dk_100 (dk_at dksX3_summers_7 13 rfl rfl)
theorem dX3_summers_173 : decode cX3_summers 173 = .ok (.goto 18, 3) := dk_167 0 18 (dk_at dksX3_summers_7 14 rfl rfl)
theorem dX3_summers_176 : decode cX3_summers 176 = .ok (.aload_n 0, 1) := dk_42 (dk_at dksX3_summers_7 17 rfl rfl)
theorem dX3_summers_177 : decode cX3_summers 177 = .ok (.getfield 157, 3) := dk_180 0 157 (dk_at dksX3_summers_7 18 rfl rfl)
theorem dX3_summers_180 : decode cX3_summers 180 = .ok (.iload 9, 2) := dk_21 9 (dk_at dksX3_summers_7 21 rfl rfl)
theorem dX3_summers_182 : decode cX3_summers 182 = .ok (.iaload, 1) := dk_46 (dk_at dksX3_summers_7 23 rfl rfl)
theorem dX3_summers_183 : decode cX3_summers 183 = .ok (.aload_n 0, 1) := dk_42 (dk_at dksX3_summers_8 0 rfl rfl)
theorem dX3_summers_184 : decode cX3_summers 184 = .ok (.getfield 13, 3) := dk_180 0 13 (dk_at dksX3_summers_8 1 rfl rfl)
theorem dX3_summers_187 : decode cX3_summers 187 = .ok (.iload 9, 2) := dk_21 9 (dk_at dksX3_summers_8 4 rfl rfl)
theorem dX3_summers_189 : decode cX3_summers 189 = .ok (.iaload, 1) := dk_46 (dk_at dksX3_summers_8 6 rfl rfl)
theorem dX3_summers_190 : decode cX3_summers 190 = .ok (.isub, 1) := dk_100 (dk_at dksX3_summers_8 7 rfl rfl)
theorem dX3_summers_191 : decode cX3_summers 191 = .ok (.iadd, 1) := dk_96 (dk_at dksX3_summers_8 8 rfl rfl)
theorem dX3_summers_192 : decode cX3_summers 192 = .ok (.istore 7, 2) := dk_54 7 (dk_at dksX3_summers_8 9 rfl rfl)
theorem dX3_summers_194 : decode cX3_summers 194 = .ok (.iinc 9 1, 3) := dk_132 9 1 (dk_at dksX3_summers_8 11 rfl rfl)
theorem dX3_summers_197 : decode cX3_summers 197 = .ok (.goto (-69), 3) := dk_167 255 187 (dk_at dksX3_summers_8 14 rfl rfl)
theorem dX3_summers_200 : decode cX3_summers 200 = .ok (.aload_n 0, 1) := dk_42 (dk_at dksX3_summers_8 17 rfl rfl)
theorem dX3_summers_201 : decode cX3_summers 201 = .ok (.getfield 9, 3) := dk_180 0 9 (dk_at dksX3_summers_8 18 rfl rfl)
theorem dX3_summers_204 : decode cX3_summers 204 = .ok (.bipush 7, 2) := dk_16 7 (dk_at dksX3_summers_8 21 rfl rfl)
theorem dX3_summers_206 : decode cX3_summers 206 = .ok (.iaload, 1) := dk_46 (dk_at dksX3_summers_8 23 rfl rfl)
theorem dX3_summers_207 : decode cX3_summers 207 = .ok (.istore 5, 2) := dk_54 5 (dk_at dksX3_summers_9 0 rfl rfl)
theorem dX3_summers_209 : decode cX3_summers 209 = .ok (.aload_n 0, 1) := dk_42 (dk_at dksX3_summers_9 2 rfl rfl)
theorem dX3_summers_210 : decode cX3_summers 210 = .ok (.invokevirtual 491, 3) := dk_182 1 235 (dk_at dksX3_summers_9 3 rfl rfl)
theorem dX3_summers_213 : decode cX3_summers 213 = .ok (.iinc 8 1, 3) := dk_132 8 1 (dk_at dksX3_summers_9 6 rfl rfl)
theorem dX3_summers_216 : decode cX3_summers 216 = .ok (.goto (-136), 3) := dk_167 255 120 (dk_at dksX3_summers_9 9 rfl rfl)
theorem dX3_summers_219 : decode cX3_summers 219 = .ok (.aload_n 0, 1) := dk_42 (dk_at dksX3_summers_9 12 rfl rfl)
theorem dX3_summers_220 : decode cX3_summers 220 = .ok (.getfield 9, 3) := dk_180 0 9 (dk_at dksX3_summers_9 13 rfl rfl)
theorem dX3_summers_223 : decode cX3_summers 223 = .ok (.bipush 7, 2) := dk_16 7 (dk_at dksX3_summers_9 16 rfl rfl)
theorem dX3_summers_225 : decode cX3_summers 225 = .ok (.iload 4, 2) := dk_21 4 (dk_at dksX3_summers_9 18 rfl rfl)
theorem dX3_summers_227 : decode cX3_summers 227 = .ok (.iastore, 1) := dk_79 (dk_at dksX3_summers_9 20 rfl rfl)
theorem dX3_summers_228 : decode cX3_summers 228 = .ok (.iload_n 3, 1) := dk_29 (dk_at dksX3_summers_9 21 rfl rfl)
theorem dX3_summers_229 : decode cX3_summers 229 = .ok (.ifCond .ne 8, 3) := dk_154 0 8 (dk_at dksX3_summers_10 0 rfl rfl)
theorem dX3_summers_232 : decode cX3_summers 232 = .ok (.iload 6, 2) := dk_21 6 (dk_at dksX3_summers_10 3 rfl rfl)
theorem dX3_summers_234 : decode cX3_summers 234 = .ok (.goto 5, 3) := dk_167 0 5 (dk_at dksX3_summers_10 5 rfl rfl)
theorem dX3_summers_237 : decode cX3_summers 237 = .ok (.iload 7, 2) := dk_21 7 (dk_at dksX3_summers_10 8 rfl rfl)
theorem dX3_summers_239 : decode cX3_summers 239 = .ok (.ireturn, 1) := dk_172 (dk_at dksX3_summers_10 10 rfl rfl)
abbrev cX3_draws : ByteArray := prog_17_method_108_code
def yX3_draws : MethodName := ⟨RX3, "draws", "(I)I"⟩
def dkwX3_draws_1 : List UInt8 := [20, 2, 41, 113, 136, 79, 42, 180, 0, 9, 16, 7, 46, 19, 2, 43, 108, 27, 112, 172]
abbrev dktX3_draws_1 : List UInt8 := dkwX3_draws_1 ++ []
def dkwX3_draws_0 : List UInt8 := [42, 180, 0, 9, 16, 7, 42, 180, 0, 9, 16, 7, 46, 133, 20, 2, 37, 105, 20, 2, 39, 97]
abbrev dktX3_draws_0 : List UInt8 := dkwX3_draws_0 ++ dktX3_draws_1
theorem dksX3_draws_0 : cX3_draws.data.toList.drop 0 = dktX3_draws_0 := by decide +kernel
theorem dksX3_draws_1 : cX3_draws.data.toList.drop 22 = dktX3_draws_1 := dk_seg dksX3_draws_0 22 rfl rfl
theorem dX3_draws_0 : decode cX3_draws 0 = .ok (.aload_n 0, 1) := dk_42 (dk_at dksX3_draws_0 0 rfl rfl)
theorem dX3_draws_1 : decode cX3_draws 1 = .ok (.getfield 9, 3) := dk_180 0 9 (dk_at dksX3_draws_0 1 rfl rfl)
theorem dX3_draws_4 : decode cX3_draws 4 = .ok (.bipush 7, 2) := dk_16 7 (dk_at dksX3_draws_0 4 rfl rfl)
theorem dX3_draws_6 : decode cX3_draws 6 = .ok (.aload_n 0, 1) := dk_42 (dk_at dksX3_draws_0 6 rfl rfl)
theorem dX3_draws_7 : decode cX3_draws 7 = .ok (.getfield 9, 3) := dk_180 0 9 (dk_at dksX3_draws_0 7 rfl rfl)
theorem dX3_draws_10 : decode cX3_draws 10 = .ok (.bipush 7, 2) := dk_16 7 (dk_at dksX3_draws_0 10 rfl rfl)
theorem dX3_draws_12 : decode cX3_draws 12 = .ok (.iaload, 1) := dk_46 (dk_at dksX3_draws_0 12 rfl rfl)
theorem dX3_draws_13 : decode cX3_draws 13 = .ok (.i2l, 1) := dk_133 (dk_at dksX3_draws_0 13 rfl rfl)
theorem dX3_draws_14 : decode cX3_draws 14 = .ok (.ldc2_w 549, 3) := dk_20 2 37 (dk_at dksX3_draws_0 14 rfl rfl)
theorem dX3_draws_17 : decode cX3_draws 17 = .ok (.lmul, 1) := dk_105 (dk_at dksX3_draws_0 17 rfl rfl)
theorem dX3_draws_18 : decode cX3_draws 18 = .ok (.ldc2_w 551, 3) := dk_20 2 39 (dk_at dksX3_draws_0 18 rfl rfl)
theorem dX3_draws_21 : decode cX3_draws 21 = .ok (.ladd, 1) := dk_97 (dk_at dksX3_draws_0 21 rfl rfl)
theorem dX3_draws_22 : decode cX3_draws 22 = .ok (.ldc2_w 553, 3) := dk_20 2 41 (dk_at dksX3_draws_1 0 rfl rfl)
theorem dX3_draws_25 : decode cX3_draws 25 = .ok (.lrem, 1) := dk_113 (dk_at dksX3_draws_1 3 rfl rfl)
theorem dX3_draws_26 : decode cX3_draws 26 = .ok (.l2i, 1) := dk_136 (dk_at dksX3_draws_1 4 rfl rfl)
theorem dX3_draws_27 : decode cX3_draws 27 = .ok (.iastore, 1) := dk_79 (dk_at dksX3_draws_1 5 rfl rfl)
theorem dX3_draws_28 : decode cX3_draws 28 = .ok (.aload_n 0, 1) := dk_42 (dk_at dksX3_draws_1 6 rfl rfl)
theorem dX3_draws_29 : decode cX3_draws 29 = .ok (.getfield 9, 3) := dk_180 0 9 (dk_at dksX3_draws_1 7 rfl rfl)
theorem dX3_draws_32 : decode cX3_draws 32 = .ok (.bipush 7, 2) := dk_16 7 (dk_at dksX3_draws_1 10 rfl rfl)
theorem dX3_draws_34 : decode cX3_draws 34 = .ok (.iaload, 1) := dk_46 (dk_at dksX3_draws_1 12 rfl rfl)
theorem dX3_draws_35 : decode cX3_draws 35 = .ok (.ldc_w 555, 3) := dk_19 2 43 (dk_at dksX3_draws_1 13 rfl rfl)
theorem dX3_draws_38 : decode cX3_draws 38 = .ok (.idiv, 1) := dk_108 (dk_at dksX3_draws_1 16 rfl rfl)
theorem dX3_draws_39 : decode cX3_draws 39 = .ok (.iload_n 1, 1) := dk_27 (dk_at dksX3_draws_1 17 rfl rfl)
theorem dX3_draws_40 : decode cX3_draws 40 = .ok (.irem, 1) := dk_112 (dk_at dksX3_draws_1 18 rfl rfl)
theorem dX3_draws_41 : decode cX3_draws 41 = .ok (.ireturn, 1) := dk_172 (dk_at dksX3_draws_1 19 rfl rfl)
abbrev cX3_count : ByteArray := prog_17_method_111_code
def yX3_count : MethodName := ⟨RX3, "count", "(I)I"⟩
def dkwX3_count_5 : List UInt8 := [180, 1, 105, 172, 42, 180, 0, 9, 16, 7, 46, 172, 42, 180, 0, 185, 172, 2, 172]
abbrev dktX3_count_5 : List UInt8 := dkwX3_count_5 ++ []
def dkwX3_count_4 : List UInt8 := [46, 172, 42, 180, 0, 9, 7, 46, 172, 42, 182, 2, 49, 172, 42, 180, 0, 9, 16, 6, 46, 172, 42]
abbrev dktX3_count_4 : List UInt8 := dkwX3_count_4 ++ dktX3_count_5
def dkwX3_count_3 : List UInt8 := [180, 0, 9, 6, 46, 172, 42, 180, 1, 118, 172, 42, 180, 0, 9, 16, 8, 46, 172, 42, 180, 0, 9, 8]
abbrev dktX3_count_3 : List UInt8 := dkwX3_count_3 ++ dktX3_count_4
def dkwX3_count_2 : List UInt8 := [42, 180, 0, 9, 3, 46, 172, 42, 180, 0, 9, 4, 46, 172, 42, 180, 0, 9, 5, 46, 172, 42]
abbrev dktX3_count_2 : List UInt8 := dkwX3_count_2 ++ dktX3_count_3
def dkwX3_count_1 : List UInt8 := [170, 0, 0, 0, 0, 0, 153, 0, 0, 0, 0, 0, 0, 0, 12, 0, 0, 0, 67, 0, 0, 0, 74, 0, 0, 0, 81, 0, 0, 0, 88, 0, 0, 0, 95, 0, 0, 0, 100, 0, 0, 0, 108, 0, 0, 0, 115, 0, 0, 0, 122, 0, 0, 0, 127, 0, 0, 0, 135, 0, 0, 0, 140, 0, 0, 0, 148]
abbrev dktX3_count_1 : List UInt8 := dkwX3_count_1 ++ dktX3_count_2
def dkwX3_count_0 : List UInt8 := [27]
abbrev dktX3_count_0 : List UInt8 := dkwX3_count_0 ++ dktX3_count_1
theorem dksX3_count_0 : cX3_count.data.toList.drop 0 = dktX3_count_0 := by decide +kernel
theorem dksX3_count_1 : cX3_count.data.toList.drop 1 = dktX3_count_1 := dk_seg dksX3_count_0 1 rfl rfl
theorem dksX3_count_2 : cX3_count.data.toList.drop 68 = dktX3_count_2 := dk_seg dksX3_count_1 67 rfl rfl
theorem dksX3_count_3 : cX3_count.data.toList.drop 90 = dktX3_count_3 := dk_seg dksX3_count_2 22 rfl rfl
theorem dksX3_count_4 : cX3_count.data.toList.drop 114 = dktX3_count_4 := dk_seg dksX3_count_3 24 rfl rfl
theorem dksX3_count_5 : cX3_count.data.toList.drop 137 = dktX3_count_5 := dk_seg dksX3_count_4 23 rfl rfl
theorem dX3_count_0 : decode cX3_count 0 = .ok (.iload_n 1, 1) := dk_27 (dk_at dksX3_count_0 0 rfl rfl)
theorem dX3_count_1 : decode cX3_count 1 = .ok (.tableswitch 153 0 12 #[67, 74, 81, 88, 95, 100, 108, 115, 122, 127, 135, 140, 148], 67) := by decide +kernel
theorem dX3_count_68 : decode cX3_count 68 = .ok (.aload_n 0, 1) := dk_42 (dk_at dksX3_count_2 0 rfl rfl)
theorem dX3_count_69 : decode cX3_count 69 = .ok (.getfield 9, 3) := dk_180 0 9 (dk_at dksX3_count_2 1 rfl rfl)
theorem dX3_count_72 : decode cX3_count 72 = .ok (.iconst 0, 1) := dk_3 (dk_at dksX3_count_2 4 rfl rfl)
theorem dX3_count_73 : decode cX3_count 73 = .ok (.iaload, 1) := dk_46 (dk_at dksX3_count_2 5 rfl rfl)
theorem dX3_count_74 : decode cX3_count 74 = .ok (.ireturn, 1) := dk_172 (dk_at dksX3_count_2 6 rfl rfl)
theorem dX3_count_75 : decode cX3_count 75 = .ok (.aload_n 0, 1) := dk_42 (dk_at dksX3_count_2 7 rfl rfl)
theorem dX3_count_76 : decode cX3_count 76 = .ok (.getfield 9, 3) := dk_180 0 9 (dk_at dksX3_count_2 8 rfl rfl)
theorem dX3_count_79 : decode cX3_count 79 = .ok (.iconst 1, 1) := dk_4 (dk_at dksX3_count_2 11 rfl rfl)
theorem dX3_count_80 : decode cX3_count 80 = .ok (.iaload, 1) := dk_46 (dk_at dksX3_count_2 12 rfl rfl)
theorem dX3_count_81 : decode cX3_count 81 = .ok (.ireturn, 1) := dk_172 (dk_at dksX3_count_2 13 rfl rfl)
theorem dX3_count_82 : decode cX3_count 82 = .ok (.aload_n 0, 1) := dk_42 (dk_at dksX3_count_2 14 rfl rfl)
theorem dX3_count_83 : decode cX3_count 83 = .ok (.getfield 9, 3) := dk_180 0 9 (dk_at dksX3_count_2 15 rfl rfl)
theorem dX3_count_86 : decode cX3_count 86 = .ok (.iconst 2, 1) := dk_5 (dk_at dksX3_count_2 18 rfl rfl)
theorem dX3_count_87 : decode cX3_count 87 = .ok (.iaload, 1) := dk_46 (dk_at dksX3_count_2 19 rfl rfl)
theorem dX3_count_88 : decode cX3_count 88 = .ok (.ireturn, 1) := dk_172 (dk_at dksX3_count_2 20 rfl rfl)
theorem dX3_count_89 : decode cX3_count 89 = .ok (.aload_n 0, 1) := dk_42 (dk_at dksX3_count_2 21 rfl rfl)
theorem dX3_count_90 : decode cX3_count 90 = .ok (.getfield 9, 3) := dk_180 0 9 (dk_at dksX3_count_3 0 rfl rfl)
theorem dX3_count_93 : decode cX3_count 93 = .ok (.iconst 3, 1) := dk_6 (dk_at dksX3_count_3 3 rfl rfl)
theorem dX3_count_94 : decode cX3_count 94 = .ok (.iaload, 1) := dk_46 (dk_at dksX3_count_3 4 rfl rfl)
theorem dX3_count_95 : decode cX3_count 95 = .ok (.ireturn, 1) := dk_172 (dk_at dksX3_count_3 5 rfl rfl)
theorem dX3_count_96 : decode cX3_count 96 = .ok (.aload_n 0, 1) := dk_42 (dk_at dksX3_count_3 6 rfl rfl)
theorem dX3_count_97 : decode cX3_count 97 = .ok (.getfield 374, 3) := dk_180 1 118 (dk_at dksX3_count_3 7 rfl rfl)
theorem dX3_count_100 : decode cX3_count 100 = .ok (.ireturn, 1) := dk_172 (dk_at dksX3_count_3 10 rfl rfl)
theorem dX3_count_101 : decode cX3_count 101 = .ok (.aload_n 0, 1) := dk_42 (dk_at dksX3_count_3 11 rfl rfl)
theorem dX3_count_102 : decode cX3_count 102 = .ok (.getfield 9, 3) := dk_180 0 9 (dk_at dksX3_count_3 12 rfl rfl)
theorem dX3_count_105 : decode cX3_count 105 = .ok (.bipush 8, 2) := dk_16 8 (dk_at dksX3_count_3 15 rfl rfl)
theorem dX3_count_107 : decode cX3_count 107 = .ok (.iaload, 1) := dk_46 (dk_at dksX3_count_3 17 rfl rfl)
theorem dX3_count_108 : decode cX3_count 108 = .ok (.ireturn, 1) := dk_172 (dk_at dksX3_count_3 18 rfl rfl)
theorem dX3_count_109 : decode cX3_count 109 = .ok (.aload_n 0, 1) := dk_42 (dk_at dksX3_count_3 19 rfl rfl)
theorem dX3_count_110 : decode cX3_count 110 = .ok (.getfield 9, 3) := dk_180 0 9 (dk_at dksX3_count_3 20 rfl rfl)
theorem dX3_count_113 : decode cX3_count 113 = .ok (.iconst 5, 1) := dk_8 (dk_at dksX3_count_3 23 rfl rfl)
theorem dX3_count_114 : decode cX3_count 114 = .ok (.iaload, 1) := dk_46 (dk_at dksX3_count_4 0 rfl rfl)
theorem dX3_count_115 : decode cX3_count 115 = .ok (.ireturn, 1) := dk_172 (dk_at dksX3_count_4 1 rfl rfl)
theorem dX3_count_116 : decode cX3_count 116 = .ok (.aload_n 0, 1) := dk_42 (dk_at dksX3_count_4 2 rfl rfl)
theorem dX3_count_117 : decode cX3_count 117 = .ok (.getfield 9, 3) := dk_180 0 9 (dk_at dksX3_count_4 3 rfl rfl)
theorem dX3_count_120 : decode cX3_count 120 = .ok (.iconst 4, 1) := dk_7 (dk_at dksX3_count_4 6 rfl rfl)
theorem dX3_count_121 : decode cX3_count 121 = .ok (.iaload, 1) := dk_46 (dk_at dksX3_count_4 7 rfl rfl)
theorem dX3_count_122 : decode cX3_count 122 = .ok (.ireturn, 1) := dk_172 (dk_at dksX3_count_4 8 rfl rfl)
theorem dX3_count_123 : decode cX3_count 123 = .ok (.aload_n 0, 1) := dk_42 (dk_at dksX3_count_4 9 rfl rfl)
theorem dX3_count_124 : decode cX3_count 124 = .ok (.invokevirtual 561, 3) := dk_182 2 49 (dk_at dksX3_count_4 10 rfl rfl)
theorem dX3_count_127 : decode cX3_count 127 = .ok (.ireturn, 1) := dk_172 (dk_at dksX3_count_4 13 rfl rfl)
theorem dX3_count_128 : decode cX3_count 128 = .ok (.aload_n 0, 1) := dk_42 (dk_at dksX3_count_4 14 rfl rfl)
theorem dX3_count_129 : decode cX3_count 129 = .ok (.getfield 9, 3) := dk_180 0 9 (dk_at dksX3_count_4 15 rfl rfl)
theorem dX3_count_132 : decode cX3_count 132 = .ok (.bipush 6, 2) := dk_16 6 (dk_at dksX3_count_4 18 rfl rfl)
theorem dX3_count_134 : decode cX3_count 134 = .ok (.iaload, 1) := dk_46 (dk_at dksX3_count_4 20 rfl rfl)
theorem dX3_count_135 : decode cX3_count 135 = .ok (.ireturn, 1) := dk_172 (dk_at dksX3_count_4 21 rfl rfl)
theorem dX3_count_136 : decode cX3_count 136 = .ok (.aload_n 0, 1) := dk_42 (dk_at dksX3_count_4 22 rfl rfl)
theorem dX3_count_137 : decode cX3_count 137 = .ok (.getfield 361, 3) := dk_180 1 105 (dk_at dksX3_count_5 0 rfl rfl)
theorem dX3_count_140 : decode cX3_count 140 = .ok (.ireturn, 1) := dk_172 (dk_at dksX3_count_5 3 rfl rfl)
theorem dX3_count_141 : decode cX3_count 141 = .ok (.aload_n 0, 1) := dk_42 (dk_at dksX3_count_5 4 rfl rfl)
theorem dX3_count_142 : decode cX3_count 142 = .ok (.getfield 9, 3) := dk_180 0 9 (dk_at dksX3_count_5 5 rfl rfl)
theorem dX3_count_145 : decode cX3_count 145 = .ok (.bipush 7, 2) := dk_16 7 (dk_at dksX3_count_5 8 rfl rfl)
theorem dX3_count_147 : decode cX3_count 147 = .ok (.iaload, 1) := dk_46 (dk_at dksX3_count_5 10 rfl rfl)
theorem dX3_count_148 : decode cX3_count 148 = .ok (.ireturn, 1) := dk_172 (dk_at dksX3_count_5 11 rfl rfl)
theorem dX3_count_149 : decode cX3_count 149 = .ok (.aload_n 0, 1) := dk_42 (dk_at dksX3_count_5 12 rfl rfl)
theorem dX3_count_150 : decode cX3_count 150 = .ok (.getfield 185, 3) := dk_180 0 185 (dk_at dksX3_count_5 13 rfl rfl)
theorem dX3_count_153 : decode cX3_count 153 = .ok (.ireturn, 1) := dk_172 (dk_at dksX3_count_5 16 rfl rfl)
theorem dX3_count_154 : decode cX3_count 154 = .ok (.iconst (-1), 1) := dk_2 (dk_at dksX3_count_5 17 rfl rfl)
theorem dX3_count_155 : decode cX3_count 155 = .ok (.ireturn, 1) := dk_172 (dk_at dksX3_count_5 18 rfl rfl)
abbrev cX3_crossedAll : ByteArray := prog_17_method_110_code
def yX3_crossedAll : MethodName := ⟨RX3, "crossedAll", "()I"⟩
def dkwX3_crossedAll_1 : List UInt8 := [132, 2, 1, 167, 255, 234, 27, 172]
abbrev dktX3_crossedAll_1 : List UInt8 := dkwX3_crossedAll_1 ++ []
def dkwX3_crossedAll_0 : List UInt8 := [3, 60, 3, 61, 28, 42, 180, 0, 9, 5, 46, 162, 0, 18, 27, 42, 180, 0, 34, 28, 46, 96, 60]
abbrev dktX3_crossedAll_0 : List UInt8 := dkwX3_crossedAll_0 ++ dktX3_crossedAll_1
theorem dksX3_crossedAll_0 : cX3_crossedAll.data.toList.drop 0 = dktX3_crossedAll_0 := by decide +kernel
theorem dksX3_crossedAll_1 : cX3_crossedAll.data.toList.drop 23 = dktX3_crossedAll_1 := dk_seg dksX3_crossedAll_0 23 rfl rfl
theorem dX3_crossedAll_0 : decode cX3_crossedAll 0 = .ok (.iconst 0, 1) := dk_3 (dk_at dksX3_crossedAll_0 0 rfl rfl)
theorem dX3_crossedAll_1 : decode cX3_crossedAll 1 = .ok (.istore_n 1, 1) := dk_60 (dk_at dksX3_crossedAll_0 1 rfl rfl)
theorem dX3_crossedAll_2 : decode cX3_crossedAll 2 = .ok (.iconst 0, 1) := dk_3 (dk_at dksX3_crossedAll_0 2 rfl rfl)
theorem dX3_crossedAll_3 : decode cX3_crossedAll 3 = .ok (.istore_n 2, 1) := dk_61 (dk_at dksX3_crossedAll_0 3 rfl rfl)
theorem dX3_crossedAll_4 : decode cX3_crossedAll 4 = .ok (.iload_n 2, 1) := dk_28 (dk_at dksX3_crossedAll_0 4 rfl rfl)
theorem dX3_crossedAll_5 : decode cX3_crossedAll 5 = .ok (.aload_n 0, 1) := dk_42 (dk_at dksX3_crossedAll_0 5 rfl rfl)
theorem dX3_crossedAll_6 : decode cX3_crossedAll 6 = .ok (.getfield 9, 3) := dk_180 0 9 (dk_at dksX3_crossedAll_0 6 rfl rfl)
theorem dX3_crossedAll_9 : decode cX3_crossedAll 9 = .ok (.iconst 2, 1) := dk_5 (dk_at dksX3_crossedAll_0 9 rfl rfl)
theorem dX3_crossedAll_10 : decode cX3_crossedAll 10 = .ok (.iaload, 1) := dk_46 (dk_at dksX3_crossedAll_0 10 rfl rfl)
theorem dX3_crossedAll_11 : decode cX3_crossedAll 11 = .ok (.if_icmp .ge 18, 3) := dk_162 0 18 (dk_at dksX3_crossedAll_0 11 rfl rfl)
theorem dX3_crossedAll_14 : decode cX3_crossedAll 14 = .ok (.iload_n 1, 1) := dk_27 (dk_at dksX3_crossedAll_0 14 rfl rfl)
theorem dX3_crossedAll_15 : decode cX3_crossedAll 15 = .ok (.aload_n 0, 1) := dk_42 (dk_at dksX3_crossedAll_0 15 rfl rfl)
theorem dX3_crossedAll_16 : decode cX3_crossedAll 16 = .ok (.getfield 34, 3) := dk_180 0 34 (dk_at dksX3_crossedAll_0 16 rfl rfl)
theorem dX3_crossedAll_19 : decode cX3_crossedAll 19 = .ok (.iload_n 2, 1) := dk_28 (dk_at dksX3_crossedAll_0 19 rfl rfl)
theorem dX3_crossedAll_20 : decode cX3_crossedAll 20 = .ok (.iaload, 1) := dk_46 (dk_at dksX3_crossedAll_0 20 rfl rfl)
theorem dX3_crossedAll_21 : decode cX3_crossedAll 21 = .ok (.iadd, 1) := dk_96 (dk_at dksX3_crossedAll_0 21 rfl rfl)
theorem dX3_crossedAll_22 : decode cX3_crossedAll 22 = .ok (.istore_n 1, 1) := dk_60 (dk_at dksX3_crossedAll_0 22 rfl rfl)
theorem dX3_crossedAll_23 : decode cX3_crossedAll 23 = .ok (.iinc 2 1, 3) := dk_132 2 1 (dk_at dksX3_crossedAll_1 0 rfl rfl)
theorem dX3_crossedAll_26 : decode cX3_crossedAll 26 = .ok (.goto (-22), 3) := dk_167 255 234 (dk_at dksX3_crossedAll_1 3 rfl rfl)
theorem dX3_crossedAll_29 : decode cX3_crossedAll 29 = .ok (.iload_n 1, 1) := dk_27 (dk_at dksX3_crossedAll_1 6 rfl rfl)
theorem dX3_crossedAll_30 : decode cX3_crossedAll 30 = .ok (.ireturn, 1) := dk_172 (dk_at dksX3_crossedAll_1 7 rfl rfl)
abbrev cX3_image : ByteArray := prog_17_method_114_code
def yX3_image : MethodName := ⟨RX3, "image", "(I)I"⟩
def dkwX3_image_1 : List UInt8 := [182, 1, 219, 42, 180, 0, 9, 8, 46, 172]
abbrev dktX3_image_1 : List UInt8 := dkwX3_image_1 ++ []
def dkwX3_image_0 : List UInt8 := [27, 133, 9, 20, 1, 212, 184, 0, 170, 154, 0, 5, 2, 172, 42, 180, 0, 163, 27, 4, 84, 42, 27, 3]
abbrev dktX3_image_0 : List UInt8 := dkwX3_image_0 ++ dktX3_image_1
theorem dksX3_image_0 : cX3_image.data.toList.drop 0 = dktX3_image_0 := by decide +kernel
theorem dksX3_image_1 : cX3_image.data.toList.drop 24 = dktX3_image_1 := dk_seg dksX3_image_0 24 rfl rfl
theorem dX3_image_0 : decode cX3_image 0 = .ok (.iload_n 1, 1) := dk_27 (dk_at dksX3_image_0 0 rfl rfl)
theorem dX3_image_1 : decode cX3_image 1 = .ok (.i2l, 1) := dk_133 (dk_at dksX3_image_0 1 rfl rfl)
theorem dX3_image_2 : decode cX3_image 2 = .ok (.lconst 0, 1) := dk_9 (dk_at dksX3_image_0 2 rfl rfl)
theorem dX3_image_3 : decode cX3_image 3 = .ok (.ldc2_w 468, 3) := dk_20 1 212 (dk_at dksX3_image_0 3 rfl rfl)
theorem dX3_image_6 : decode cX3_image 6 = .ok (.invokestatic 170, 3) := dk_184 0 170 (dk_at dksX3_image_0 6 rfl rfl)
theorem dX3_image_9 : decode cX3_image 9 = .ok (.ifCond .ne 5, 3) := dk_154 0 5 (dk_at dksX3_image_0 9 rfl rfl)
theorem dX3_image_12 : decode cX3_image 12 = .ok (.iconst (-1), 1) := dk_2 (dk_at dksX3_image_0 12 rfl rfl)
theorem dX3_image_13 : decode cX3_image 13 = .ok (.ireturn, 1) := dk_172 (dk_at dksX3_image_0 13 rfl rfl)
theorem dX3_image_14 : decode cX3_image 14 = .ok (.aload_n 0, 1) := dk_42 (dk_at dksX3_image_0 14 rfl rfl)
theorem dX3_image_15 : decode cX3_image 15 = .ok (.getfield 163, 3) := dk_180 0 163 (dk_at dksX3_image_0 15 rfl rfl)
theorem dX3_image_18 : decode cX3_image 18 = .ok (.iload_n 1, 1) := dk_27 (dk_at dksX3_image_0 18 rfl rfl)
theorem dX3_image_19 : decode cX3_image 19 = .ok (.iconst 1, 1) := dk_4 (dk_at dksX3_image_0 19 rfl rfl)
theorem dX3_image_20 : decode cX3_image 20 = .ok (.bastore, 1) := dk_84 (dk_at dksX3_image_0 20 rfl rfl)
theorem dX3_image_21 : decode cX3_image 21 = .ok (.aload_n 0, 1) := dk_42 (dk_at dksX3_image_0 21 rfl rfl)
theorem dX3_image_22 : decode cX3_image 22 = .ok (.iload_n 1, 1) := dk_27 (dk_at dksX3_image_0 22 rfl rfl)
theorem dX3_image_23 : decode cX3_image 23 = .ok (.iconst 0, 1) := dk_3 (dk_at dksX3_image_0 23 rfl rfl)
theorem dX3_image_24 : decode cX3_image 24 = .ok (.invokevirtual 475, 3) := dk_182 1 219 (dk_at dksX3_image_1 0 rfl rfl)
theorem dX3_image_27 : decode cX3_image 27 = .ok (.aload_n 0, 1) := dk_42 (dk_at dksX3_image_1 3 rfl rfl)
theorem dX3_image_28 : decode cX3_image 28 = .ok (.getfield 9, 3) := dk_180 0 9 (dk_at dksX3_image_1 4 rfl rfl)
theorem dX3_image_31 : decode cX3_image 31 = .ok (.iconst 5, 1) := dk_8 (dk_at dksX3_image_1 7 rfl rfl)
theorem dX3_image_32 : decode cX3_image 32 = .ok (.iaload, 1) := dk_46 (dk_at dksX3_image_1 8 rfl rfl)
theorem dX3_image_33 : decode cX3_image 33 = .ok (.ireturn, 1) := dk_172 (dk_at dksX3_image_1 9 rfl rfl)
abbrev cX3_back : ByteArray := prog_17_method_115_code
def yX3_back : MethodName := ⟨RX3, "back", "(I)I"⟩
def dkwX3_back_1 : List UInt8 := [27, 4, 182, 1, 219, 42, 180, 0, 9, 8, 46, 172]
abbrev dktX3_back_1 : List UInt8 := dkwX3_back_1 ++ []
def dkwX3_back_0 : List UInt8 := [27, 133, 9, 20, 1, 212, 184, 0, 170, 153, 0, 12, 42, 180, 0, 163, 27, 51, 154, 0, 5, 2, 172, 42]
abbrev dktX3_back_0 : List UInt8 := dkwX3_back_0 ++ dktX3_back_1
theorem dksX3_back_0 : cX3_back.data.toList.drop 0 = dktX3_back_0 := by decide +kernel
theorem dksX3_back_1 : cX3_back.data.toList.drop 24 = dktX3_back_1 := dk_seg dksX3_back_0 24 rfl rfl
theorem dX3_back_0 : decode cX3_back 0 = .ok (.iload_n 1, 1) := dk_27 (dk_at dksX3_back_0 0 rfl rfl)
theorem dX3_back_1 : decode cX3_back 1 = .ok (.i2l, 1) := dk_133 (dk_at dksX3_back_0 1 rfl rfl)
theorem dX3_back_2 : decode cX3_back 2 = .ok (.lconst 0, 1) := dk_9 (dk_at dksX3_back_0 2 rfl rfl)
theorem dX3_back_3 : decode cX3_back 3 = .ok (.ldc2_w 468, 3) := dk_20 1 212 (dk_at dksX3_back_0 3 rfl rfl)
theorem dX3_back_6 : decode cX3_back 6 = .ok (.invokestatic 170, 3) := dk_184 0 170 (dk_at dksX3_back_0 6 rfl rfl)
theorem dX3_back_9 : decode cX3_back 9 = .ok (.ifCond .eq 12, 3) := dk_153 0 12 (dk_at dksX3_back_0 9 rfl rfl)
theorem dX3_back_12 : decode cX3_back 12 = .ok (.aload_n 0, 1) := dk_42 (dk_at dksX3_back_0 12 rfl rfl)
theorem dX3_back_13 : decode cX3_back 13 = .ok (.getfield 163, 3) := dk_180 0 163 (dk_at dksX3_back_0 13 rfl rfl)
theorem dX3_back_16 : decode cX3_back 16 = .ok (.iload_n 1, 1) := dk_27 (dk_at dksX3_back_0 16 rfl rfl)
theorem dX3_back_17 : decode cX3_back 17 = .ok (.baload, 1) := dk_51 (dk_at dksX3_back_0 17 rfl rfl)
theorem dX3_back_18 : decode cX3_back 18 = .ok (.ifCond .ne 5, 3) := dk_154 0 5 (dk_at dksX3_back_0 18 rfl rfl)
theorem dX3_back_21 : decode cX3_back 21 = .ok (.iconst (-1), 1) := dk_2 (dk_at dksX3_back_0 21 rfl rfl)
theorem dX3_back_22 : decode cX3_back 22 = .ok (.ireturn, 1) := dk_172 (dk_at dksX3_back_0 22 rfl rfl)
theorem dX3_back_23 : decode cX3_back 23 = .ok (.aload_n 0, 1) := dk_42 (dk_at dksX3_back_0 23 rfl rfl)
theorem dX3_back_24 : decode cX3_back 24 = .ok (.iload_n 1, 1) := dk_27 (dk_at dksX3_back_1 0 rfl rfl)
theorem dX3_back_25 : decode cX3_back 25 = .ok (.iconst 1, 1) := dk_4 (dk_at dksX3_back_1 1 rfl rfl)
theorem dX3_back_26 : decode cX3_back 26 = .ok (.invokevirtual 475, 3) := dk_182 1 219 (dk_at dksX3_back_1 2 rfl rfl)
theorem dX3_back_29 : decode cX3_back 29 = .ok (.aload_n 0, 1) := dk_42 (dk_at dksX3_back_1 5 rfl rfl)
theorem dX3_back_30 : decode cX3_back 30 = .ok (.getfield 9, 3) := dk_180 0 9 (dk_at dksX3_back_1 6 rfl rfl)
theorem dX3_back_33 : decode cX3_back 33 = .ok (.iconst 5, 1) := dk_8 (dk_at dksX3_back_1 9 rfl rfl)
theorem dX3_back_34 : decode cX3_back 34 = .ok (.iaload, 1) := dk_46 (dk_at dksX3_back_1 10 rfl rfl)
theorem dX3_back_35 : decode cX3_back 35 = .ok (.ireturn, 1) := dk_172 (dk_at dksX3_back_1 11 rfl rfl)
theorem q126 : (Jvm.Cond.initialized "DoughBorderModel") ∈ lw_all := lw_g (lw_at lw_m1 7 rfl) rfl
theorem q1144 : (Jvm.Cond.instantiable "DoughBorderModel" (68 : Nat)) ∈ lw_all := lw_g (lw_at lw_m5 65 rfl) rfl
theorem q1146 : (Jvm.Cond.instanceMethod ({ cls := "DoughBorderModel", name := "<init>", desc := "()V" } : Jvm.MethodName)) ∈ lw_all := lw_g (lw_at lw_m5 67 rfl) rfl
theorem q1147 : (Jvm.Cond.code ({ cls := "DoughBorderModel", name := "<init>", desc := "()V" } : Jvm.MethodName) prog_17_method_1_code (1 : Nat) (Option.none : Option Jvm.ClassFile.FieldType)) ∈ lw_all := lw_g (lw_at lw_m5 68 rfl) rfl
theorem q1148 : (Jvm.Cond.methodLink "DoughBorderModel" (3 : Nat) ({ cls := "java/lang/Object", name := "<init>", desc := "()V" } : Jvm.MethodName)) ∈ lw_all := lw_g (lw_at lw_m5 69 rfl) rfl
theorem q1149 : (Jvm.Cond.fieldLink "DoughBorderModel" (9 : Nat) "DoughBorderModel" "scalar" "[I") ∈ lw_all := lw_g (lw_at lw_m5 70 rfl) rfl
theorem q1150 : (Jvm.Cond.fieldLink "DoughBorderModel" (13 : Nat) "DoughBorderModel" "line" "[I") ∈ lw_all := lw_g (lw_at lw_m5 71 rfl) rfl
theorem q1151 : (Jvm.Cond.fieldLink "DoughBorderModel" (16 : Nat) "DoughBorderModel" "dough" "[I") ∈ lw_all := lw_g (lw_at lw_m5 72 rfl) rfl
theorem q1152 : (Jvm.Cond.fieldLink "DoughBorderModel" (19 : Nat) "DoughBorderModel" "salted" "[I") ∈ lw_all := lw_g (lw_at lw_m5 73 rfl) rfl
theorem q1153 : (Jvm.Cond.fieldLink "DoughBorderModel" (22 : Nat) "DoughBorderModel" "warmth" "[I") ∈ lw_all := lw_g (lw_at lw_m5 74 rfl) rfl
theorem q1154 : (Jvm.Cond.fieldLink "DoughBorderModel" (25 : Nat) "DoughBorderModel" "at" "[I") ∈ lw_all := lw_g (lw_at lw_m5 75 rfl) rfl
theorem q1155 : (Jvm.Cond.fieldLink "DoughBorderModel" (28 : Nat) "DoughBorderModel" "place" "[I") ∈ lw_all := lw_g (lw_at lw_m5 76 rfl) rfl
theorem q1156 : (Jvm.Cond.fieldLink "DoughBorderModel" (31 : Nat) "DoughBorderModel" "whose" "[I") ∈ lw_all := lw_g (lw_at lw_m5 77 rfl) rfl
theorem q1157 : (Jvm.Cond.fieldLink "DoughBorderModel" (34 : Nat) "DoughBorderModel" "crossed" "[I") ∈ lw_all := lw_g (lw_at lw_m5 78 rfl) rfl
theorem q1158 : (Jvm.Cond.fieldLink "DoughBorderModel" (37 : Nat) "DoughBorderModel" "wantOf" "[I") ∈ lw_all := lw_g (lw_at lw_m5 79 rfl) rfl
theorem q1159 : (Jvm.Cond.fieldLink "DoughBorderModel" (40 : Nat) "DoughBorderModel" "wantSide" "[I") ∈ lw_all := lw_g (lw_at lw_m5 80 rfl) rfl
theorem q1160 : (Jvm.Cond.fieldLink "DoughBorderModel" (43 : Nat) "DoughBorderModel" "logNight" "[I") ∈ lw_all := lw_g (lw_at lw_m5 81 rfl) rfl
theorem q1161 : (Jvm.Cond.fieldLink "DoughBorderModel" (46 : Nat) "DoughBorderModel" "logMile" "[I") ∈ lw_all := lw_g (lw_at lw_m5 82 rfl) rfl
theorem q1162 : (Jvm.Cond.fieldLink "DoughBorderModel" (49 : Nat) "DoughBorderModel" "logDough" "[I") ∈ lw_all := lw_g (lw_at lw_m5 83 rfl) rfl
theorem q1163 : (Jvm.Cond.fieldLink "DoughBorderModel" (52 : Nat) "DoughBorderModel" "toldDough" "[I") ∈ lw_all := lw_g (lw_at lw_m5 84 rfl) rfl
theorem q1164 : (Jvm.Cond.fieldLink "DoughBorderModel" (55 : Nat) "DoughBorderModel" "toldBaked" "[I") ∈ lw_all := lw_g (lw_at lw_m5 85 rfl) rfl
theorem q1165 : (Jvm.Cond.fieldLink "DoughBorderModel" (58 : Nat) "DoughBorderModel" "newScalar" "[I") ∈ lw_all := lw_g (lw_at lw_m5 86 rfl) rfl
theorem q1166 : (Jvm.Cond.fieldLink "DoughBorderModel" (61 : Nat) "DoughBorderModel" "newLine" "[I") ∈ lw_all := lw_g (lw_at lw_m5 87 rfl) rfl
theorem q1167 : (Jvm.Cond.fieldLink "DoughBorderModel" (64 : Nat) "DoughBorderModel" "newDough" "[I") ∈ lw_all := lw_g (lw_at lw_m5 88 rfl) rfl
theorem q1168 : (Jvm.Cond.fieldLink "DoughBorderModel" (67 : Nat) "DoughBorderModel" "newSalt" "[I") ∈ lw_all := lw_g (lw_at lw_m5 89 rfl) rfl
theorem q1169 : (Jvm.Cond.fieldLink "DoughBorderModel" (70 : Nat) "DoughBorderModel" "newWarmth" "[I") ∈ lw_all := lw_g (lw_at lw_m5 90 rfl) rfl
theorem q1170 : (Jvm.Cond.fieldLink "DoughBorderModel" (73 : Nat) "DoughBorderModel" "newAt" "[I") ∈ lw_all := lw_g (lw_at lw_m5 91 rfl) rfl
theorem q1171 : (Jvm.Cond.fieldLink "DoughBorderModel" (76 : Nat) "DoughBorderModel" "newPlace" "[I") ∈ lw_all := lw_g (lw_at lw_m5 92 rfl) rfl
theorem q1172 : (Jvm.Cond.fieldLink "DoughBorderModel" (79 : Nat) "DoughBorderModel" "newWhose" "[I") ∈ lw_all := lw_g (lw_at lw_m5 93 rfl) rfl
theorem q1173 : (Jvm.Cond.fieldLink "DoughBorderModel" (82 : Nat) "DoughBorderModel" "newWantOf" "[I") ∈ lw_all := lw_g (lw_at lw_m5 94 rfl) rfl
theorem q1174 : (Jvm.Cond.fieldLink "DoughBorderModel" (85 : Nat) "DoughBorderModel" "newWantSide" "[I") ∈ lw_all := lw_g (lw_at lw_m5 95 rfl) rfl
theorem q1175 : (Jvm.Cond.fieldLink "DoughBorderModel" (185 : Nat) "DoughBorderModel" "taped" "I") ∈ lw_all := lw_g (lw_at lw_m5 96 rfl) rfl
theorem q1176 : (Jvm.Cond.fieldLink "DoughBorderModel" (217 : Nat) "DoughBorderModel" "p" "I") ∈ lw_all := lw_g (lw_at lw_m5 97 rfl) rfl
theorem q1177 : (Jvm.Cond.fieldLink "DoughBorderModel" (214 : Nat) "DoughBorderModel" "fault" "I") ∈ lw_all := lw_g (lw_at lw_m5 98 rfl) rfl
theorem q1178 : (Jvm.Cond.fieldLink "DoughBorderModel" (244 : Nat) "DoughBorderModel" "slot" "I") ∈ lw_all := lw_g (lw_at lw_m5 99 rfl) rfl
theorem q1179 : (Jvm.Cond.fieldLink "DoughBorderModel" (374 : Nat) "DoughBorderModel" "rules" "I") ∈ lw_all := lw_g (lw_at lw_m5 100 rfl) rfl
theorem q1180 : (Jvm.Cond.fieldLink "DoughBorderModel" (247 : Nat) "DoughBorderModel" "entries" "I") ∈ lw_all := lw_g (lw_at lw_m5 101 rfl) rfl
theorem q1181 : (Jvm.Cond.fieldLink "DoughBorderModel" (288 : Nat) "DoughBorderModel" "deep" "I") ∈ lw_all := lw_g (lw_at lw_m5 102 rfl) rfl
theorem q1182 : (Jvm.Cond.fieldLink "DoughBorderModel" (250 : Nat) "DoughBorderModel" "counted" "I") ∈ lw_all := lw_g (lw_at lw_m5 103 rfl) rfl
theorem q1183 : (Jvm.Cond.fieldLink "DoughBorderModel" (285 : Nat) "DoughBorderModel" "opened" "I") ∈ lw_all := lw_g (lw_at lw_m5 104 rfl) rfl
theorem q1184 : (Jvm.Cond.fieldLink "DoughBorderModel" (88 : Nat) "DoughBorderModel" "words" "I") ∈ lw_all := lw_g (lw_at lw_m5 105 rfl) rfl
theorem q1185 : (Jvm.Cond.fieldLink "DoughBorderModel" (92 : Nat) "DoughBorderModel" "tape" "[B") ∈ lw_all := lw_g (lw_at lw_m5 106 rfl) rfl
theorem q1186 : (Jvm.Cond.fieldLink "DoughBorderModel" (96 : Nat) "DoughBorderModel" "sort" "[I") ∈ lw_all := lw_g (lw_at lw_m5 107 rfl) rfl
theorem q1187 : (Jvm.Cond.fieldLink "DoughBorderModel" (99 : Nat) "DoughBorderModel" "number" "[I") ∈ lw_all := lw_g (lw_at lw_m5 108 rfl) rfl
theorem q1188 : (Jvm.Cond.fieldLink "DoughBorderModel" (102 : Nat) "DoughBorderModel" "clauses" "[I") ∈ lw_all := lw_g (lw_at lw_m5 109 rfl) rfl
theorem q1189 : (Jvm.Cond.fieldLink "DoughBorderModel" (105 : Nat) "DoughBorderModel" "sumAt" "[I") ∈ lw_all := lw_g (lw_at lw_m5 110 rfl) rfl
theorem q1190 : (Jvm.Cond.fieldLink "DoughBorderModel" (108 : Nat) "DoughBorderModel" "testAt" "[I") ∈ lw_all := lw_g (lw_at lw_m5 111 rfl) rfl
theorem q1191 : (Jvm.Cond.fieldLink "DoughBorderModel" (111 : Nat) "DoughBorderModel" "endAt" "[I") ∈ lw_all := lw_g (lw_at lw_m5 112 rfl) rfl
theorem q1192 : (Jvm.Cond.fieldLink "DoughBorderModel" (114 : Nat) "DoughBorderModel" "open" "[I") ∈ lw_all := lw_g (lw_at lw_m5 113 rfl) rfl
theorem q1193 : (Jvm.Cond.fieldLink "DoughBorderModel" (117 : Nat) "DoughBorderModel" "asked" "[J") ∈ lw_all := lw_g (lw_at lw_m5 114 rfl) rfl
theorem q1194 : (Jvm.Cond.fieldLink "DoughBorderModel" (121 : Nat) "DoughBorderModel" "stack" "[J") ∈ lw_all := lw_g (lw_at lw_m5 115 rfl) rfl
theorem q1195 : (Jvm.Cond.fieldLink "DoughBorderModel" (124 : Nat) "DoughBorderModel" "creeps" "[I") ∈ lw_all := lw_g (lw_at lw_m5 116 rfl) rfl
theorem q1196 : (Jvm.Cond.fieldLink "DoughBorderModel" (127 : Nat) "DoughBorderModel" "lay" "[I") ∈ lw_all := lw_g (lw_at lw_m5 117 rfl) rfl
theorem q1197 : (Jvm.Cond.fieldLink "DoughBorderModel" (130 : Nat) "DoughBorderModel" "past" "[I") ∈ lw_all := lw_g (lw_at lw_m5 118 rfl) rfl
theorem q1198 : (Jvm.Cond.fieldLink "DoughBorderModel" (133 : Nat) "DoughBorderModel" "ring" "[I") ∈ lw_all := lw_g (lw_at lw_m5 119 rfl) rfl
theorem q1199 : (Jvm.Cond.fieldLink "DoughBorderModel" (361 : Nat) "DoughBorderModel" "pastMany" "I") ∈ lw_all := lw_g (lw_at lw_m5 120 rfl) rfl
theorem q1200 : (Jvm.Cond.fieldLink "DoughBorderModel" (446 : Nat) "DoughBorderModel" "pastAt" "I") ∈ lw_all := lw_g (lw_at lw_m5 121 rfl) rfl
theorem q1201 : (Jvm.Cond.fieldLink "DoughBorderModel" (442 : Nat) "DoughBorderModel" "takesBack" "Z") ∈ lw_all := lw_g (lw_at lw_m5 122 rfl) rfl
theorem q1202 : (Jvm.Cond.fieldLink "DoughBorderModel" (136 : Nat) "DoughBorderModel" "choice" "[I") ∈ lw_all := lw_g (lw_at lw_m5 123 rfl) rfl
theorem q1203 : (Jvm.Cond.fieldLink "DoughBorderModel" (139 : Nat) "DoughBorderModel" "bestChoice" "[I") ∈ lw_all := lw_g (lw_at lw_m5 124 rfl) rfl
theorem q1204 : (Jvm.Cond.fieldLink "DoughBorderModel" (142 : Nat) "DoughBorderModel" "dukeRows" "[I") ∈ lw_all := lw_g (lw_at lw_m5 125 rfl) rfl
theorem q1205 : (Jvm.Cond.fieldLink "DoughBorderModel" (145 : Nat) "DoughBorderModel" "tried" "[I") ∈ lw_all := lw_g (lw_at lw_m5 126 rfl) rfl
theorem q1206 : (Jvm.Cond.fieldLink "DoughBorderModel" (148 : Nat) "DoughBorderModel" "worth" "[I") ∈ lw_all := lw_g (lw_at lw_m5 127 rfl) rfl
theorem q1207 : (Jvm.Cond.fieldLink "DoughBorderModel" (509 : Nat) "DoughBorderModel" "firstPush" "I") ∈ lw_all := lw_g (lw_at lw_m5 128 rfl) rfl
theorem q1208 : (Jvm.Cond.fieldLink "DoughBorderModel" (151 : Nat) "DoughBorderModel" "course" "[I") ∈ lw_all := lw_g (lw_at lw_m5 129 rfl) rfl
theorem q1209 : (Jvm.Cond.fieldLink "DoughBorderModel" (533 : Nat) "DoughBorderModel" "isSlice" "Z") ∈ lw_all := lw_g (lw_at lw_m5 130 rfl) rfl
theorem q1210 : (Jvm.Cond.fieldLink "DoughBorderModel" (154 : Nat) "DoughBorderModel" "alike" "[I") ∈ lw_all := lw_g (lw_at lw_m5 131 rfl) rfl
theorem q1211 : (Jvm.Cond.fieldLink "DoughBorderModel" (157 : Nat) "DoughBorderModel" "lineWas" "[I") ∈ lw_all := lw_g (lw_at lw_m5 132 rfl) rfl
theorem q1212 : (Jvm.Cond.fieldLink "DoughBorderModel" (160 : Nat) "DoughBorderModel" "images" "[I") ∈ lw_all := lw_g (lw_at lw_m5 133 rfl) rfl
theorem q1213 : (Jvm.Cond.fieldLink "DoughBorderModel" (163 : Nat) "DoughBorderModel" "isMade" "[Z") ∈ lw_all := lw_g (lw_at lw_m5 134 rfl) rfl
theorem q1214 : (Jvm.Cond.fieldLink "DoughBorderModel" (567 : Nat) "DoughBorderModel" "imageAt" "I") ∈ lw_all := lw_g (lw_at lw_m5 135 rfl) rfl
theorem q1215 : (Jvm.Cond.fieldLink "DoughBorderModel" (564 : Nat) "DoughBorderModel" "goesBack" "Z") ∈ lw_all := lw_g (lw_at lw_m5 136 rfl) rfl
theorem q1216 : (Jvm.Cond.lays "DoughBorderModel" "DoughBorderModel" "thrown" "I") ∈ lw_all := lw_g (lw_at lw_m5 137 rfl) rfl
theorem q1217 : (Jvm.Cond.soleField "DoughBorderModel" "thrown") ∈ lw_all := lw_g (lw_at lw_m5 138 rfl) rfl
theorem q1218 : (Jvm.Cond.laysFinal "DoughBorderModel" "DoughBorderModel" "scalar" "[I") ∈ lw_all := lw_g (lw_at lw_m5 139 rfl) rfl
theorem q1219 : (Jvm.Cond.soleField "DoughBorderModel" "scalar") ∈ lw_all := lw_g (lw_at lw_m5 140 rfl) rfl
theorem q1220 : (Jvm.Cond.laysFinal "DoughBorderModel" "DoughBorderModel" "line" "[I") ∈ lw_all := lw_g (lw_at lw_m5 141 rfl) rfl
theorem q1221 : (Jvm.Cond.soleField "DoughBorderModel" "line") ∈ lw_all := lw_g (lw_at lw_m5 142 rfl) rfl
theorem q1222 : (Jvm.Cond.laysFinal "DoughBorderModel" "DoughBorderModel" "dough" "[I") ∈ lw_all := lw_g (lw_at lw_m5 143 rfl) rfl
theorem q1223 : (Jvm.Cond.soleField "DoughBorderModel" "dough") ∈ lw_all := lw_g (lw_at lw_m5 144 rfl) rfl
theorem q1224 : (Jvm.Cond.laysFinal "DoughBorderModel" "DoughBorderModel" "salted" "[I") ∈ lw_all := lw_g (lw_at lw_m5 145 rfl) rfl
theorem q1225 : (Jvm.Cond.soleField "DoughBorderModel" "salted") ∈ lw_all := lw_g (lw_at lw_m5 146 rfl) rfl
theorem q1226 : (Jvm.Cond.laysFinal "DoughBorderModel" "DoughBorderModel" "warmth" "[I") ∈ lw_all := lw_g (lw_at lw_m5 147 rfl) rfl
theorem q1227 : (Jvm.Cond.soleField "DoughBorderModel" "warmth") ∈ lw_all := lw_g (lw_at lw_m5 148 rfl) rfl
theorem q1228 : (Jvm.Cond.laysFinal "DoughBorderModel" "DoughBorderModel" "at" "[I") ∈ lw_all := lw_g (lw_at lw_m5 149 rfl) rfl
theorem q1229 : (Jvm.Cond.soleField "DoughBorderModel" "at") ∈ lw_all := lw_g (lw_at lw_m5 150 rfl) rfl
theorem q1230 : (Jvm.Cond.laysFinal "DoughBorderModel" "DoughBorderModel" "place" "[I") ∈ lw_all := lw_g (lw_at lw_m5 151 rfl) rfl
theorem q1231 : (Jvm.Cond.soleField "DoughBorderModel" "place") ∈ lw_all := lw_g (lw_at lw_m5 152 rfl) rfl
theorem q1232 : (Jvm.Cond.laysFinal "DoughBorderModel" "DoughBorderModel" "whose" "[I") ∈ lw_all := lw_g (lw_at lw_m5 153 rfl) rfl
theorem q1233 : (Jvm.Cond.soleField "DoughBorderModel" "whose") ∈ lw_all := lw_g (lw_at lw_m5 154 rfl) rfl
theorem q1234 : (Jvm.Cond.laysFinal "DoughBorderModel" "DoughBorderModel" "crossed" "[I") ∈ lw_all := lw_g (lw_at lw_m5 155 rfl) rfl
theorem q1235 : (Jvm.Cond.soleField "DoughBorderModel" "crossed") ∈ lw_all := lw_g (lw_at lw_m5 156 rfl) rfl
theorem q1236 : (Jvm.Cond.laysFinal "DoughBorderModel" "DoughBorderModel" "wantOf" "[I") ∈ lw_all := lw_g (lw_at lw_m5 157 rfl) rfl
theorem q1237 : (Jvm.Cond.soleField "DoughBorderModel" "wantOf") ∈ lw_all := lw_g (lw_at lw_m5 158 rfl) rfl
theorem q1238 : (Jvm.Cond.laysFinal "DoughBorderModel" "DoughBorderModel" "wantSide" "[I") ∈ lw_all := lw_g (lw_at lw_m5 159 rfl) rfl
theorem q1239 : (Jvm.Cond.soleField "DoughBorderModel" "wantSide") ∈ lw_all := lw_g (lw_at lw_m5 160 rfl) rfl
theorem q1240 : (Jvm.Cond.laysFinal "DoughBorderModel" "DoughBorderModel" "logNight" "[I") ∈ lw_all := lw_g (lw_at lw_m5 161 rfl) rfl
theorem q1241 : (Jvm.Cond.soleField "DoughBorderModel" "logNight") ∈ lw_all := lw_g (lw_at lw_m5 162 rfl) rfl
theorem q1242 : (Jvm.Cond.laysFinal "DoughBorderModel" "DoughBorderModel" "logMile" "[I") ∈ lw_all := lw_g (lw_at lw_m5 163 rfl) rfl
theorem q1243 : (Jvm.Cond.soleField "DoughBorderModel" "logMile") ∈ lw_all := lw_g (lw_at lw_m5 164 rfl) rfl
theorem q1244 : (Jvm.Cond.laysFinal "DoughBorderModel" "DoughBorderModel" "logDough" "[I") ∈ lw_all := lw_g (lw_at lw_m5 165 rfl) rfl
theorem q1245 : (Jvm.Cond.soleField "DoughBorderModel" "logDough") ∈ lw_all := lw_g (lw_at lw_m5 166 rfl) rfl
theorem q1246 : (Jvm.Cond.laysFinal "DoughBorderModel" "DoughBorderModel" "toldDough" "[I") ∈ lw_all := lw_g (lw_at lw_m5 167 rfl) rfl
theorem q1247 : (Jvm.Cond.soleField "DoughBorderModel" "toldDough") ∈ lw_all := lw_g (lw_at lw_m5 168 rfl) rfl
theorem q1248 : (Jvm.Cond.laysFinal "DoughBorderModel" "DoughBorderModel" "toldBaked" "[I") ∈ lw_all := lw_g (lw_at lw_m5 169 rfl) rfl
theorem q1249 : (Jvm.Cond.soleField "DoughBorderModel" "toldBaked") ∈ lw_all := lw_g (lw_at lw_m5 170 rfl) rfl
theorem q1250 : (Jvm.Cond.laysFinal "DoughBorderModel" "DoughBorderModel" "newScalar" "[I") ∈ lw_all := lw_g (lw_at lw_m5 171 rfl) rfl
theorem q1251 : (Jvm.Cond.soleField "DoughBorderModel" "newScalar") ∈ lw_all := lw_g (lw_at lw_m5 172 rfl) rfl
theorem q1252 : (Jvm.Cond.laysFinal "DoughBorderModel" "DoughBorderModel" "newLine" "[I") ∈ lw_all := lw_g (lw_at lw_m5 173 rfl) rfl
theorem q1253 : (Jvm.Cond.soleField "DoughBorderModel" "newLine") ∈ lw_all := lw_g (lw_at lw_m5 174 rfl) rfl
theorem q1254 : (Jvm.Cond.laysFinal "DoughBorderModel" "DoughBorderModel" "newDough" "[I") ∈ lw_all := lw_g (lw_at lw_m5 175 rfl) rfl
theorem q1255 : (Jvm.Cond.soleField "DoughBorderModel" "newDough") ∈ lw_all := lw_g (lw_at lw_m5 176 rfl) rfl
theorem q1256 : (Jvm.Cond.laysFinal "DoughBorderModel" "DoughBorderModel" "newSalt" "[I") ∈ lw_all := lw_g (lw_at lw_m5 177 rfl) rfl
theorem q1257 : (Jvm.Cond.soleField "DoughBorderModel" "newSalt") ∈ lw_all := lw_g (lw_at lw_m5 178 rfl) rfl
theorem q1258 : (Jvm.Cond.laysFinal "DoughBorderModel" "DoughBorderModel" "newWarmth" "[I") ∈ lw_all := lw_g (lw_at lw_m5 179 rfl) rfl
theorem q1259 : (Jvm.Cond.soleField "DoughBorderModel" "newWarmth") ∈ lw_all := lw_g (lw_at lw_m5 180 rfl) rfl
theorem q1260 : (Jvm.Cond.laysFinal "DoughBorderModel" "DoughBorderModel" "newAt" "[I") ∈ lw_all := lw_g (lw_at lw_m5 181 rfl) rfl
theorem q1261 : (Jvm.Cond.soleField "DoughBorderModel" "newAt") ∈ lw_all := lw_g (lw_at lw_m5 182 rfl) rfl
theorem q1262 : (Jvm.Cond.laysFinal "DoughBorderModel" "DoughBorderModel" "newPlace" "[I") ∈ lw_all := lw_g (lw_at lw_m5 183 rfl) rfl
theorem q1263 : (Jvm.Cond.soleField "DoughBorderModel" "newPlace") ∈ lw_all := lw_g (lw_at lw_m5 184 rfl) rfl
theorem q1264 : (Jvm.Cond.laysFinal "DoughBorderModel" "DoughBorderModel" "newWhose" "[I") ∈ lw_all := lw_g (lw_at lw_m5 185 rfl) rfl
theorem q1265 : (Jvm.Cond.soleField "DoughBorderModel" "newWhose") ∈ lw_all := lw_g (lw_at lw_m5 186 rfl) rfl
theorem q1266 : (Jvm.Cond.laysFinal "DoughBorderModel" "DoughBorderModel" "newWantOf" "[I") ∈ lw_all := lw_g (lw_at lw_m5 187 rfl) rfl
theorem q1267 : (Jvm.Cond.soleField "DoughBorderModel" "newWantOf") ∈ lw_all := lw_g (lw_at lw_m5 188 rfl) rfl
theorem q1268 : (Jvm.Cond.laysFinal "DoughBorderModel" "DoughBorderModel" "newWantSide" "[I") ∈ lw_all := lw_g (lw_at lw_m5 189 rfl) rfl
theorem q1269 : (Jvm.Cond.soleField "DoughBorderModel" "newWantSide") ∈ lw_all := lw_g (lw_at lw_m5 190 rfl) rfl
theorem q1270 : (Jvm.Cond.lays "DoughBorderModel" "DoughBorderModel" "taped" "I") ∈ lw_all := lw_g (lw_at lw_m5 191 rfl) rfl
theorem q1271 : (Jvm.Cond.soleField "DoughBorderModel" "taped") ∈ lw_all := lw_g (lw_at lw_m5 192 rfl) rfl
theorem q1272 : (Jvm.Cond.lays "DoughBorderModel" "DoughBorderModel" "p" "I") ∈ lw_all := lw_g (lw_at lw_m5 193 rfl) rfl
theorem q1273 : (Jvm.Cond.soleField "DoughBorderModel" "p") ∈ lw_all := lw_g (lw_at lw_m5 194 rfl) rfl
theorem q1274 : (Jvm.Cond.lays "DoughBorderModel" "DoughBorderModel" "fault" "I") ∈ lw_all := lw_g (lw_at lw_m5 195 rfl) rfl
theorem q1275 : (Jvm.Cond.soleField "DoughBorderModel" "fault") ∈ lw_all := lw_g (lw_at lw_m5 196 rfl) rfl
theorem q1276 : (Jvm.Cond.lays "DoughBorderModel" "DoughBorderModel" "slot" "I") ∈ lw_all := lw_g (lw_at lw_m5 197 rfl) rfl
theorem q1277 : (Jvm.Cond.soleField "DoughBorderModel" "slot") ∈ lw_all := lw_g (lw_at lw_m5 198 rfl) rfl
theorem q1278 : (Jvm.Cond.lays "DoughBorderModel" "DoughBorderModel" "rules" "I") ∈ lw_all := lw_g (lw_at lw_m5 199 rfl) rfl
theorem q1279 : (Jvm.Cond.soleField "DoughBorderModel" "rules") ∈ lw_all := lw_g (lw_at lw_m5 200 rfl) rfl
theorem q1280 : (Jvm.Cond.lays "DoughBorderModel" "DoughBorderModel" "entries" "I") ∈ lw_all := lw_g (lw_at lw_m5 201 rfl) rfl
theorem q1281 : (Jvm.Cond.soleField "DoughBorderModel" "entries") ∈ lw_all := lw_g (lw_at lw_m5 202 rfl) rfl
theorem q1282 : (Jvm.Cond.lays "DoughBorderModel" "DoughBorderModel" "deep" "I") ∈ lw_all := lw_g (lw_at lw_m5 203 rfl) rfl
theorem q1283 : (Jvm.Cond.soleField "DoughBorderModel" "deep") ∈ lw_all := lw_g (lw_at lw_m5 204 rfl) rfl
theorem q1284 : (Jvm.Cond.lays "DoughBorderModel" "DoughBorderModel" "counted" "I") ∈ lw_all := lw_g (lw_at lw_m5 205 rfl) rfl
theorem q1285 : (Jvm.Cond.soleField "DoughBorderModel" "counted") ∈ lw_all := lw_g (lw_at lw_m5 206 rfl) rfl
theorem q1286 : (Jvm.Cond.lays "DoughBorderModel" "DoughBorderModel" "opened" "I") ∈ lw_all := lw_g (lw_at lw_m5 207 rfl) rfl
theorem q1287 : (Jvm.Cond.soleField "DoughBorderModel" "opened") ∈ lw_all := lw_g (lw_at lw_m5 208 rfl) rfl
theorem q1288 : (Jvm.Cond.lays "DoughBorderModel" "DoughBorderModel" "words" "I") ∈ lw_all := lw_g (lw_at lw_m5 209 rfl) rfl
theorem q1289 : (Jvm.Cond.soleField "DoughBorderModel" "words") ∈ lw_all := lw_g (lw_at lw_m5 210 rfl) rfl
theorem q1290 : (Jvm.Cond.laysFinal "DoughBorderModel" "DoughBorderModel" "tape" "[B") ∈ lw_all := lw_g (lw_at lw_m5 211 rfl) rfl
theorem q1291 : (Jvm.Cond.soleField "DoughBorderModel" "tape") ∈ lw_all := lw_g (lw_at lw_m5 212 rfl) rfl
theorem q1292 : (Jvm.Cond.laysFinal "DoughBorderModel" "DoughBorderModel" "sort" "[I") ∈ lw_all := lw_g (lw_at lw_m5 213 rfl) rfl
theorem q1293 : (Jvm.Cond.soleField "DoughBorderModel" "sort") ∈ lw_all := lw_g (lw_at lw_m5 214 rfl) rfl
theorem q1294 : (Jvm.Cond.laysFinal "DoughBorderModel" "DoughBorderModel" "number" "[I") ∈ lw_all := lw_g (lw_at lw_m5 215 rfl) rfl
theorem q1295 : (Jvm.Cond.soleField "DoughBorderModel" "number") ∈ lw_all := lw_g (lw_at lw_m5 216 rfl) rfl
theorem q1296 : (Jvm.Cond.laysFinal "DoughBorderModel" "DoughBorderModel" "clauses" "[I") ∈ lw_all := lw_g (lw_at lw_m5 217 rfl) rfl
theorem q1297 : (Jvm.Cond.soleField "DoughBorderModel" "clauses") ∈ lw_all := lw_g (lw_at lw_m5 218 rfl) rfl
theorem q1298 : (Jvm.Cond.laysFinal "DoughBorderModel" "DoughBorderModel" "sumAt" "[I") ∈ lw_all := lw_g (lw_at lw_m5 219 rfl) rfl
theorem q1299 : (Jvm.Cond.soleField "DoughBorderModel" "sumAt") ∈ lw_all := lw_g (lw_at lw_m5 220 rfl) rfl
theorem q1300 : (Jvm.Cond.laysFinal "DoughBorderModel" "DoughBorderModel" "testAt" "[I") ∈ lw_all := lw_g (lw_at lw_m5 221 rfl) rfl
theorem q1301 : (Jvm.Cond.soleField "DoughBorderModel" "testAt") ∈ lw_all := lw_g (lw_at lw_m5 222 rfl) rfl
theorem q1302 : (Jvm.Cond.laysFinal "DoughBorderModel" "DoughBorderModel" "endAt" "[I") ∈ lw_all := lw_g (lw_at lw_m5 223 rfl) rfl
theorem q1303 : (Jvm.Cond.soleField "DoughBorderModel" "endAt") ∈ lw_all := lw_g (lw_at lw_m5 224 rfl) rfl
theorem q1304 : (Jvm.Cond.laysFinal "DoughBorderModel" "DoughBorderModel" "open" "[I") ∈ lw_all := lw_g (lw_at lw_m5 225 rfl) rfl
theorem q1305 : (Jvm.Cond.soleField "DoughBorderModel" "open") ∈ lw_all := lw_g (lw_at lw_m5 226 rfl) rfl
theorem q1306 : (Jvm.Cond.laysFinal "DoughBorderModel" "DoughBorderModel" "asked" "[J") ∈ lw_all := lw_g (lw_at lw_m5 227 rfl) rfl
theorem q1307 : (Jvm.Cond.soleField "DoughBorderModel" "asked") ∈ lw_all := lw_g (lw_at lw_m5 228 rfl) rfl
theorem q1308 : (Jvm.Cond.laysFinal "DoughBorderModel" "DoughBorderModel" "stack" "[J") ∈ lw_all := lw_g (lw_at lw_m5 229 rfl) rfl
theorem q1309 : (Jvm.Cond.soleField "DoughBorderModel" "stack") ∈ lw_all := lw_g (lw_at lw_m5 230 rfl) rfl
theorem q1310 : (Jvm.Cond.laysFinal "DoughBorderModel" "DoughBorderModel" "creeps" "[I") ∈ lw_all := lw_g (lw_at lw_m5 231 rfl) rfl
theorem q1311 : (Jvm.Cond.soleField "DoughBorderModel" "creeps") ∈ lw_all := lw_g (lw_at lw_m5 232 rfl) rfl
theorem q1312 : (Jvm.Cond.laysFinal "DoughBorderModel" "DoughBorderModel" "lay" "[I") ∈ lw_all := lw_g (lw_at lw_m5 233 rfl) rfl
theorem q1313 : (Jvm.Cond.soleField "DoughBorderModel" "lay") ∈ lw_all := lw_g (lw_at lw_m5 234 rfl) rfl
theorem q1314 : (Jvm.Cond.laysFinal "DoughBorderModel" "DoughBorderModel" "past" "[I") ∈ lw_all := lw_g (lw_at lw_m5 235 rfl) rfl
theorem q1315 : (Jvm.Cond.soleField "DoughBorderModel" "past") ∈ lw_all := lw_g (lw_at lw_m5 236 rfl) rfl
theorem q1316 : (Jvm.Cond.laysFinal "DoughBorderModel" "DoughBorderModel" "ring" "[I") ∈ lw_all := lw_g (lw_at lw_m5 237 rfl) rfl
theorem q1317 : (Jvm.Cond.soleField "DoughBorderModel" "ring") ∈ lw_all := lw_g (lw_at lw_m5 238 rfl) rfl
theorem q1318 : (Jvm.Cond.lays "DoughBorderModel" "DoughBorderModel" "pastMany" "I") ∈ lw_all := lw_g (lw_at lw_m5 239 rfl) rfl
theorem q1319 : (Jvm.Cond.soleField "DoughBorderModel" "pastMany") ∈ lw_all := lw_g (lw_at lw_m6 0 rfl) rfl
theorem q1320 : (Jvm.Cond.lays "DoughBorderModel" "DoughBorderModel" "pastAt" "I") ∈ lw_all := lw_g (lw_at lw_m6 1 rfl) rfl
theorem q1321 : (Jvm.Cond.soleField "DoughBorderModel" "pastAt") ∈ lw_all := lw_g (lw_at lw_m6 2 rfl) rfl
theorem q1322 : (Jvm.Cond.lays "DoughBorderModel" "DoughBorderModel" "takesBack" "Z") ∈ lw_all := lw_g (lw_at lw_m6 3 rfl) rfl
theorem q1323 : (Jvm.Cond.soleField "DoughBorderModel" "takesBack") ∈ lw_all := lw_g (lw_at lw_m6 4 rfl) rfl
theorem q1324 : (Jvm.Cond.laysFinal "DoughBorderModel" "DoughBorderModel" "choice" "[I") ∈ lw_all := lw_g (lw_at lw_m6 5 rfl) rfl
theorem q1325 : (Jvm.Cond.soleField "DoughBorderModel" "choice") ∈ lw_all := lw_g (lw_at lw_m6 6 rfl) rfl
theorem q1326 : (Jvm.Cond.laysFinal "DoughBorderModel" "DoughBorderModel" "bestChoice" "[I") ∈ lw_all := lw_g (lw_at lw_m6 7 rfl) rfl
theorem q1327 : (Jvm.Cond.soleField "DoughBorderModel" "bestChoice") ∈ lw_all := lw_g (lw_at lw_m6 8 rfl) rfl
theorem q1328 : (Jvm.Cond.laysFinal "DoughBorderModel" "DoughBorderModel" "dukeRows" "[I") ∈ lw_all := lw_g (lw_at lw_m6 9 rfl) rfl
theorem q1329 : (Jvm.Cond.soleField "DoughBorderModel" "dukeRows") ∈ lw_all := lw_g (lw_at lw_m6 10 rfl) rfl
theorem q1330 : (Jvm.Cond.laysFinal "DoughBorderModel" "DoughBorderModel" "tried" "[I") ∈ lw_all := lw_g (lw_at lw_m6 11 rfl) rfl
theorem q1331 : (Jvm.Cond.soleField "DoughBorderModel" "tried") ∈ lw_all := lw_g (lw_at lw_m6 12 rfl) rfl
theorem q1332 : (Jvm.Cond.laysFinal "DoughBorderModel" "DoughBorderModel" "worth" "[I") ∈ lw_all := lw_g (lw_at lw_m6 13 rfl) rfl
theorem q1333 : (Jvm.Cond.soleField "DoughBorderModel" "worth") ∈ lw_all := lw_g (lw_at lw_m6 14 rfl) rfl
theorem q1334 : (Jvm.Cond.lays "DoughBorderModel" "DoughBorderModel" "firstPush" "I") ∈ lw_all := lw_g (lw_at lw_m6 15 rfl) rfl
theorem q1335 : (Jvm.Cond.soleField "DoughBorderModel" "firstPush") ∈ lw_all := lw_g (lw_at lw_m6 16 rfl) rfl
theorem q1336 : (Jvm.Cond.laysFinal "DoughBorderModel" "DoughBorderModel" "course" "[I") ∈ lw_all := lw_g (lw_at lw_m6 17 rfl) rfl
theorem q1337 : (Jvm.Cond.soleField "DoughBorderModel" "course") ∈ lw_all := lw_g (lw_at lw_m6 18 rfl) rfl
theorem q1338 : (Jvm.Cond.lays "DoughBorderModel" "DoughBorderModel" "isSlice" "Z") ∈ lw_all := lw_g (lw_at lw_m6 19 rfl) rfl
theorem q1339 : (Jvm.Cond.soleField "DoughBorderModel" "isSlice") ∈ lw_all := lw_g (lw_at lw_m6 20 rfl) rfl
theorem q1340 : (Jvm.Cond.laysFinal "DoughBorderModel" "DoughBorderModel" "alike" "[I") ∈ lw_all := lw_g (lw_at lw_m6 21 rfl) rfl
theorem q1341 : (Jvm.Cond.soleField "DoughBorderModel" "alike") ∈ lw_all := lw_g (lw_at lw_m6 22 rfl) rfl
theorem q1342 : (Jvm.Cond.laysFinal "DoughBorderModel" "DoughBorderModel" "lineWas" "[I") ∈ lw_all := lw_g (lw_at lw_m6 23 rfl) rfl
theorem q1343 : (Jvm.Cond.soleField "DoughBorderModel" "lineWas") ∈ lw_all := lw_g (lw_at lw_m6 24 rfl) rfl
theorem q1344 : (Jvm.Cond.laysFinal "DoughBorderModel" "DoughBorderModel" "images" "[I") ∈ lw_all := lw_g (lw_at lw_m6 25 rfl) rfl
theorem q1345 : (Jvm.Cond.soleField "DoughBorderModel" "images") ∈ lw_all := lw_g (lw_at lw_m6 26 rfl) rfl
theorem q1346 : (Jvm.Cond.laysFinal "DoughBorderModel" "DoughBorderModel" "isMade" "[Z") ∈ lw_all := lw_g (lw_at lw_m6 27 rfl) rfl
theorem q1347 : (Jvm.Cond.soleField "DoughBorderModel" "isMade") ∈ lw_all := lw_g (lw_at lw_m6 28 rfl) rfl
theorem q1348 : (Jvm.Cond.lays "DoughBorderModel" "DoughBorderModel" "imageAt" "I") ∈ lw_all := lw_g (lw_at lw_m6 29 rfl) rfl
theorem q1349 : (Jvm.Cond.soleField "DoughBorderModel" "imageAt") ∈ lw_all := lw_g (lw_at lw_m6 30 rfl) rfl
theorem q1350 : (Jvm.Cond.lays "DoughBorderModel" "DoughBorderModel" "goesBack" "Z") ∈ lw_all := lw_g (lw_at lw_m6 31 rfl) rfl
theorem q1351 : (Jvm.Cond.soleField "DoughBorderModel" "goesBack") ∈ lw_all := lw_g (lw_at lw_m6 32 rfl) rfl
theorem q1352 : (Jvm.Cond.superclass "DoughBorderModel" "java/lang/Object") ∈ lw_all := lw_g (lw_at lw_m6 33 rfl) rfl
theorem q1355 : (Jvm.Cond.instanceMethod ({ cls := "DoughBorderModel", name := "feed", desc := "(IIIII)I" } : Jvm.MethodName)) ∈ lw_all := lw_g (lw_at lw_m6 36 rfl) rfl
theorem q1356 : (Jvm.Cond.selects "DoughBorderModel" ({ cls := "DoughBorderModel", name := "feed", desc := "(IIIII)I" } : Jvm.MethodName) ({ cls := "DoughBorderModel", name := "feed", desc := "(IIIII)I" } : Jvm.MethodName)) ∈ lw_all := lw_g (lw_at lw_m6 37 rfl) rfl
theorem q1357 : (Jvm.Cond.code ({ cls := "DoughBorderModel", name := "feed", desc := "(IIIII)I" } : Jvm.MethodName) prog_17_method_12_code (6 : Nat) (Option.some Jvm.ClassFile.FieldType.int)) ∈ lw_all := lw_g (lw_at lw_m6 38 rfl) rfl
theorem q1358 : (Jvm.Cond.methodLink "DoughBorderModel" (188 : Nat) ({ cls := "DoughBorderModel", name := "put", desc := "(I)V" } : Jvm.MethodName)) ∈ lw_all := lw_g (lw_at lw_m6 39 rfl) rfl
theorem q1359 : (Jvm.Cond.privateMethod ({ cls := "DoughBorderModel", name := "put", desc := "(I)V" } : Jvm.MethodName)) ∈ lw_tbl := lw_at lw_m6 40 rfl
theorem q1360 : (Jvm.Cond.instanceMethod ({ cls := "DoughBorderModel", name := "put", desc := "(I)V" } : Jvm.MethodName)) ∈ lw_all := lw_g (lw_at lw_m6 41 rfl) rfl
theorem q1361 : (Jvm.Cond.code ({ cls := "DoughBorderModel", name := "put", desc := "(I)V" } : Jvm.MethodName) prog_17_method_13_code (3 : Nat) (Option.none : Option Jvm.ClassFile.FieldType)) ∈ lw_all := lw_g (lw_at lw_m6 42 rfl) rfl
theorem q1363 : (Jvm.Cond.instanceMethod ({ cls := "DoughBorderModel", name := "end", desc := "(I)I" } : Jvm.MethodName)) ∈ lw_all := lw_g (lw_at lw_m6 44 rfl) rfl
theorem q1364 : (Jvm.Cond.selects "DoughBorderModel" ({ cls := "DoughBorderModel", name := "end", desc := "(I)I" } : Jvm.MethodName) ({ cls := "DoughBorderModel", name := "end", desc := "(I)I" } : Jvm.MethodName)) ∈ lw_all := lw_g (lw_at lw_m6 45 rfl) rfl
theorem q1365 : (Jvm.Cond.code ({ cls := "DoughBorderModel", name := "end", desc := "(I)I" } : Jvm.MethodName) prog_17_method_14_code (2 : Nat) (Option.some Jvm.ClassFile.FieldType.int)) ∈ lw_all := lw_g (lw_at lw_m6 46 rfl) rfl
theorem q1367 : (Jvm.Cond.instanceMethod ({ cls := "DoughBorderModel", name := "strip", desc := "()I" } : Jvm.MethodName)) ∈ lw_all := lw_g (lw_at lw_m6 48 rfl) rfl
theorem q1368 : (Jvm.Cond.selects "DoughBorderModel" ({ cls := "DoughBorderModel", name := "strip", desc := "()I" } : Jvm.MethodName) ({ cls := "DoughBorderModel", name := "strip", desc := "()I" } : Jvm.MethodName)) ∈ lw_all := lw_g (lw_at lw_m6 49 rfl) rfl
theorem q1369 : (Jvm.Cond.code ({ cls := "DoughBorderModel", name := "strip", desc := "()I" } : Jvm.MethodName) prog_17_method_47_code (2 : Nat) (Option.some Jvm.ClassFile.FieldType.int)) ∈ lw_all := lw_g (lw_at lw_m6 50 rfl) rfl
theorem q1370 : (Jvm.Cond.methodLink "DoughBorderModel" (354 : Nat) ({ cls := "DoughBorderModel", name := "readsAll", desc := "()V" } : Jvm.MethodName)) ∈ lw_all := lw_g (lw_at lw_m6 51 rfl) rfl
theorem q1371 : (Jvm.Cond.privateMethod ({ cls := "DoughBorderModel", name := "readsAll", desc := "()V" } : Jvm.MethodName)) ∈ lw_tbl := lw_at lw_m6 52 rfl
theorem q1372 : (Jvm.Cond.instanceMethod ({ cls := "DoughBorderModel", name := "readsAll", desc := "()V" } : Jvm.MethodName)) ∈ lw_all := lw_g (lw_at lw_m6 53 rfl) rfl
theorem q1373 : (Jvm.Cond.code ({ cls := "DoughBorderModel", name := "readsAll", desc := "()V" } : Jvm.MethodName) prog_17_method_46_code (3 : Nat) (Option.none : Option Jvm.ClassFile.FieldType)) ∈ lw_all := lw_g (lw_at lw_m6 54 rfl) rfl
theorem q1374 : (Jvm.Cond.methodLink "DoughBorderModel" (345 : Nat) ({ cls := "DoughBorderModel", name := "starts", desc := "()V" } : Jvm.MethodName)) ∈ lw_all := lw_g (lw_at lw_m6 55 rfl) rfl
theorem q1375 : (Jvm.Cond.privateMethod ({ cls := "DoughBorderModel", name := "starts", desc := "()V" } : Jvm.MethodName)) ∈ lw_tbl := lw_at lw_m6 56 rfl
theorem q1376 : (Jvm.Cond.instanceMethod ({ cls := "DoughBorderModel", name := "starts", desc := "()V" } : Jvm.MethodName)) ∈ lw_all := lw_g (lw_at lw_m6 57 rfl) rfl
theorem q1377 : (Jvm.Cond.code ({ cls := "DoughBorderModel", name := "starts", desc := "()V" } : Jvm.MethodName) prog_17_method_45_code (1 : Nat) (Option.none : Option Jvm.ClassFile.FieldType)) ∈ lw_all := lw_g (lw_at lw_m6 58 rfl) rfl
theorem q1378 : (Jvm.Cond.methodLink "DoughBorderModel" (348 : Nat) ({ cls := "DoughBorderModel", name := "stripClause", desc := "(I)V" } : Jvm.MethodName)) ∈ lw_all := lw_g (lw_at lw_m6 59 rfl) rfl
theorem q1379 : (Jvm.Cond.privateMethod ({ cls := "DoughBorderModel", name := "stripClause", desc := "(I)V" } : Jvm.MethodName)) ∈ lw_tbl := lw_at lw_m6 60 rfl
theorem q1380 : (Jvm.Cond.instanceMethod ({ cls := "DoughBorderModel", name := "stripClause", desc := "(I)V" } : Jvm.MethodName)) ∈ lw_all := lw_g (lw_at lw_m6 61 rfl) rfl
theorem q1381 : (Jvm.Cond.code ({ cls := "DoughBorderModel", name := "stripClause", desc := "(I)V" } : Jvm.MethodName) prog_17_method_42_code (4 : Nat) (Option.none : Option Jvm.ClassFile.FieldType)) ∈ lw_all := lw_g (lw_at lw_m6 62 rfl) rfl
theorem q1382 : (Jvm.Cond.methodLink "DoughBorderModel" (237 : Nat) ({ cls := "DoughBorderModel", name := "blanks", desc := "()V" } : Jvm.MethodName)) ∈ lw_all := lw_g (lw_at lw_m6 63 rfl) rfl
theorem q1383 : (Jvm.Cond.privateMethod ({ cls := "DoughBorderModel", name := "blanks", desc := "()V" } : Jvm.MethodName)) ∈ lw_tbl := lw_at lw_m6 64 rfl
theorem q1384 : (Jvm.Cond.instanceMethod ({ cls := "DoughBorderModel", name := "blanks", desc := "()V" } : Jvm.MethodName)) ∈ lw_all := lw_g (lw_at lw_m6 65 rfl) rfl
theorem q1385 : (Jvm.Cond.code ({ cls := "DoughBorderModel", name := "blanks", desc := "()V" } : Jvm.MethodName) prog_17_method_18_code (1 : Nat) (Option.none : Option Jvm.ClassFile.FieldType)) ∈ lw_all := lw_g (lw_at lw_m6 66 rfl) rfl
theorem q1386 : (Jvm.Cond.methodLink "DoughBorderModel" (220 : Nat) ({ cls := "DoughBorderModel", name := "sign", desc := "()I" } : Jvm.MethodName)) ∈ lw_all := lw_g (lw_at lw_m6 67 rfl) rfl
theorem q1387 : (Jvm.Cond.privateMethod ({ cls := "DoughBorderModel", name := "sign", desc := "()I" } : Jvm.MethodName)) ∈ lw_tbl := lw_at lw_m6 68 rfl
theorem q1388 : (Jvm.Cond.instanceMethod ({ cls := "DoughBorderModel", name := "sign", desc := "()I" } : Jvm.MethodName)) ∈ lw_all := lw_g (lw_at lw_m6 69 rfl) rfl
theorem q1389 : (Jvm.Cond.code ({ cls := "DoughBorderModel", name := "sign", desc := "()I" } : Jvm.MethodName) prog_17_method_17_code (1 : Nat) (Option.some Jvm.ClassFile.FieldType.int)) ∈ lw_all := lw_g (lw_at lw_m6 70 rfl) rfl
theorem q1390 : (Jvm.Cond.methodLink "DoughBorderModel" (336 : Nat) ({ cls := "DoughBorderModel", name := "stripWord", desc := "(I)Ljava/lang/String;" } : Jvm.MethodName)) ∈ lw_all := lw_g (lw_at lw_m6 71 rfl) rfl
theorem q1391 : (Jvm.Cond.static ({ cls := "DoughBorderModel", name := "stripWord", desc := "(I)Ljava/lang/String;" } : Jvm.MethodName)) ∈ lw_all := lw_g (lw_at lw_m6 72 rfl) rfl
theorem q1392 : (Jvm.Cond.code ({ cls := "DoughBorderModel", name := "stripWord", desc := "(I)Ljava/lang/String;" } : Jvm.MethodName) prog_17_method_35_code (1 : Nat) (Option.some (Jvm.ClassFile.FieldType.object "java/lang/String"))) ∈ lw_all := lw_g (lw_at lw_m6 73 rfl) rfl
theorem q1393 : (Jvm.Cond.stringRef "DoughBorderModel" (312 : Nat) "strip") ∈ lw_tbl := lw_at lw_m6 74 rfl
theorem q1394 : (Jvm.Cond.stringRef "DoughBorderModel" (192 : Nat) "mile") ∈ lw_tbl := lw_at lw_m6 75 rfl
theorem q1395 : (Jvm.Cond.stringRef "DoughBorderModel" (200 : Nat) "warm") ∈ lw_tbl := lw_at lw_m6 76 rfl
theorem q1396 : (Jvm.Cond.stringRef "DoughBorderModel" (314 : Nat) "baked") ∈ lw_tbl := lw_at lw_m6 77 rfl
theorem q1397 : (Jvm.Cond.stringRef "DoughBorderModel" (316 : Nat) "village") ∈ lw_tbl := lw_at lw_m6 78 rfl
theorem q1398 : (Jvm.Cond.stringRef "DoughBorderModel" (318 : Nat) "want") ∈ lw_tbl := lw_at lw_m6 79 rfl
theorem q1399 : (Jvm.Cond.methodLink "DoughBorderModel" (240 : Nat) ({ cls := "DoughBorderModel", name := "stood", desc := "(Ljava/lang/String;)Z" } : Jvm.MethodName)) ∈ lw_all := lw_g (lw_at lw_m6 80 rfl) rfl
theorem q1400 : (Jvm.Cond.privateMethod ({ cls := "DoughBorderModel", name := "stood", desc := "(Ljava/lang/String;)Z" } : Jvm.MethodName)) ∈ lw_tbl := lw_at lw_m6 81 rfl
theorem q1401 : (Jvm.Cond.instanceMethod ({ cls := "DoughBorderModel", name := "stood", desc := "(Ljava/lang/String;)Z" } : Jvm.MethodName)) ∈ lw_all := lw_g (lw_at lw_m6 82 rfl) rfl
theorem q1402 : (Jvm.Cond.code ({ cls := "DoughBorderModel", name := "stood", desc := "(Ljava/lang/String;)Z" } : Jvm.MethodName) prog_17_method_20_code (5 : Nat) (Option.some Jvm.ClassFile.FieldType.boolean)) ∈ lw_all := lw_g (lw_at lw_m6 83 rfl) rfl
theorem q1403 : (Jvm.Cond.methodLink "DoughBorderModel" (228 : Nat) ({ cls := "java/lang/String", name := "length", desc := "()I" } : Jvm.MethodName)) ∈ lw_all := lw_g (lw_at lw_m6 84 rfl) rfl
theorem q1404 : (Jvm.Cond.methodLink "DoughBorderModel" (233 : Nat) ({ cls := "java/lang/String", name := "charAt", desc := "(I)C" } : Jvm.MethodName)) ∈ lw_all := lw_g (lw_at lw_m6 85 rfl) rfl
theorem q1405 : (Jvm.Cond.methodLink "DoughBorderModel" (253 : Nat) ({ cls := "DoughBorderModel", name := "fails", desc := "(II)V" } : Jvm.MethodName)) ∈ lw_all := lw_g (lw_at lw_m6 86 rfl) rfl
theorem q1406 : (Jvm.Cond.privateMethod ({ cls := "DoughBorderModel", name := "fails", desc := "(II)V" } : Jvm.MethodName)) ∈ lw_tbl := lw_at lw_m6 87 rfl
theorem q1407 : (Jvm.Cond.instanceMethod ({ cls := "DoughBorderModel", name := "fails", desc := "(II)V" } : Jvm.MethodName)) ∈ lw_all := lw_g (lw_at lw_m6 88 rfl) rfl
theorem q1408 : (Jvm.Cond.code ({ cls := "DoughBorderModel", name := "fails", desc := "(II)V" } : Jvm.MethodName) prog_17_method_16_code (3 : Nat) (Option.none : Option Jvm.ClassFile.FieldType)) ∈ lw_all := lw_g (lw_at lw_m6 89 rfl) rfl
theorem q1409 : (Jvm.Cond.methodLink "DoughBorderModel" (339 : Nat) ({ cls := "DoughBorderModel", name := "isFull", desc := "(II)Z" } : Jvm.MethodName)) ∈ lw_all := lw_g (lw_at lw_m6 90 rfl) rfl
theorem q1410 : (Jvm.Cond.privateMethod ({ cls := "DoughBorderModel", name := "isFull", desc := "(II)Z" } : Jvm.MethodName)) ∈ lw_tbl := lw_at lw_m6 91 rfl
theorem q1411 : (Jvm.Cond.instanceMethod ({ cls := "DoughBorderModel", name := "isFull", desc := "(II)Z" } : Jvm.MethodName)) ∈ lw_all := lw_g (lw_at lw_m6 92 rfl) rfl
theorem q1412 : (Jvm.Cond.code ({ cls := "DoughBorderModel", name := "isFull", desc := "(II)Z" } : Jvm.MethodName) prog_17_method_41_code (3 : Nat) (Option.some Jvm.ClassFile.FieldType.boolean)) ∈ lw_all := lw_g (lw_at lw_m6 93 rfl) rfl
theorem q1413 : (Jvm.Cond.methodLink "DoughBorderModel" (342 : Nat) ({ cls := "DoughBorderModel", name := "stripPart", desc := "(I)V" } : Jvm.MethodName)) ∈ lw_all := lw_g (lw_at lw_m6 94 rfl) rfl
theorem q1414 : (Jvm.Cond.privateMethod ({ cls := "DoughBorderModel", name := "stripPart", desc := "(I)V" } : Jvm.MethodName)) ∈ lw_tbl := lw_at lw_m6 95 rfl
theorem q1415 : (Jvm.Cond.instanceMethod ({ cls := "DoughBorderModel", name := "stripPart", desc := "(I)V" } : Jvm.MethodName)) ∈ lw_all := lw_g (lw_at lw_m6 96 rfl) rfl
theorem q1416 : (Jvm.Cond.code ({ cls := "DoughBorderModel", name := "stripPart", desc := "(I)V" } : Jvm.MethodName) prog_17_method_40_code (3 : Nat) (Option.none : Option Jvm.ClassFile.FieldType)) ∈ lw_all := lw_g (lw_at lw_m6 97 rfl) rfl
theorem q1417 : (Jvm.Cond.methodLink "DoughBorderModel" (320 : Nat) ({ cls := "DoughBorderModel", name := "amount", desc := "(II)I" } : Jvm.MethodName)) ∈ lw_all := lw_g (lw_at lw_m6 98 rfl) rfl
theorem q1418 : (Jvm.Cond.privateMethod ({ cls := "DoughBorderModel", name := "amount", desc := "(II)I" } : Jvm.MethodName)) ∈ lw_tbl := lw_at lw_m6 99 rfl
theorem q1419 : (Jvm.Cond.instanceMethod ({ cls := "DoughBorderModel", name := "amount", desc := "(II)I" } : Jvm.MethodName)) ∈ lw_all := lw_g (lw_at lw_m6 100 rfl) rfl
theorem q1420 : (Jvm.Cond.code ({ cls := "DoughBorderModel", name := "amount", desc := "(II)I" } : Jvm.MethodName) prog_17_method_34_code (5 : Nat) (Option.some Jvm.ClassFile.FieldType.int)) ∈ lw_all := lw_g (lw_at lw_m6 101 rfl) rfl
theorem q1421 : (Jvm.Cond.constant "DoughBorderModel" (261 : Nat) (99999 : Int32)) ∈ lw_all := lw_g (lw_at lw_m6 102 rfl) rfl
theorem q1422 : (Jvm.Cond.methodLink "DoughBorderModel" (262 : Nat) ({ cls := "DoughBorderModel", name := "digits", desc := "(I)I" } : Jvm.MethodName)) ∈ lw_all := lw_g (lw_at lw_m6 103 rfl) rfl
theorem q1423 : (Jvm.Cond.privateMethod ({ cls := "DoughBorderModel", name := "digits", desc := "(I)I" } : Jvm.MethodName)) ∈ lw_tbl := lw_at lw_m6 104 rfl
theorem q1424 : (Jvm.Cond.instanceMethod ({ cls := "DoughBorderModel", name := "digits", desc := "(I)I" } : Jvm.MethodName)) ∈ lw_all := lw_g (lw_at lw_m6 105 rfl) rfl
theorem q1425 : (Jvm.Cond.code ({ cls := "DoughBorderModel", name := "digits", desc := "(I)I" } : Jvm.MethodName) prog_17_method_24_code (4 : Nat) (Option.some Jvm.ClassFile.FieldType.int)) ∈ lw_all := lw_g (lw_at lw_m6 106 rfl) rfl
theorem q1426 : (Jvm.Cond.methodLink "DoughBorderModel" (257 : Nat) ({ cls := "DoughBorderModel", name := "isDigit", desc := "()Z" } : Jvm.MethodName)) ∈ lw_all := lw_g (lw_at lw_m6 107 rfl) rfl
theorem q1427 : (Jvm.Cond.privateMethod ({ cls := "DoughBorderModel", name := "isDigit", desc := "()Z" } : Jvm.MethodName)) ∈ lw_tbl := lw_at lw_m6 108 rfl
theorem q1428 : (Jvm.Cond.instanceMethod ({ cls := "DoughBorderModel", name := "isDigit", desc := "()Z" } : Jvm.MethodName)) ∈ lw_all := lw_g (lw_at lw_m6 109 rfl) rfl
theorem q1429 : (Jvm.Cond.code ({ cls := "DoughBorderModel", name := "isDigit", desc := "()Z" } : Jvm.MethodName) prog_17_method_19_code (1 : Nat) (Option.some Jvm.ClassFile.FieldType.boolean)) ∈ lw_all := lw_g (lw_at lw_m6 110 rfl) rfl
theorem q1430 : (Jvm.Cond.constantLong "DoughBorderModel" (224 : Nat) (48 : Int64)) ∈ lw_all := lw_g (lw_at lw_m6 111 rfl) rfl
theorem q1431 : (Jvm.Cond.constantLong "DoughBorderModel" (226 : Nat) (57 : Int64)) ∈ lw_all := lw_g (lw_at lw_m6 112 rfl) rfl
theorem q1432 : (Jvm.Cond.methodLink "DoughBorderModel" (170 : Nat) ({ cls := "DoughBorderModel", name := "in", desc := "(JJJ)Z" } : Jvm.MethodName)) ∈ lw_all := lw_g (lw_at lw_m6 113 rfl) rfl
theorem q1433 : (Jvm.Cond.static ({ cls := "DoughBorderModel", name := "in", desc := "(JJJ)Z" } : Jvm.MethodName)) ∈ lw_all := lw_g (lw_at lw_m6 114 rfl) rfl
theorem q1434 : (Jvm.Cond.code ({ cls := "DoughBorderModel", name := "in", desc := "(JJJ)Z" } : Jvm.MethodName) prog_17_method_3_code (6 : Nat) (Option.some Jvm.ClassFile.FieldType.boolean)) ∈ lw_all := lw_g (lw_at lw_m6 115 rfl) rfl
theorem q1435 : (Jvm.Cond.methodLink "DoughBorderModel" (327 : Nat) ({ cls := "DoughBorderModel", name := "readsMile", desc := "()V" } : Jvm.MethodName)) ∈ lw_all := lw_g (lw_at lw_m6 116 rfl) rfl
theorem q1436 : (Jvm.Cond.privateMethod ({ cls := "DoughBorderModel", name := "readsMile", desc := "()V" } : Jvm.MethodName)) ∈ lw_tbl := lw_at lw_m6 117 rfl
theorem q1437 : (Jvm.Cond.instanceMethod ({ cls := "DoughBorderModel", name := "readsMile", desc := "()V" } : Jvm.MethodName)) ∈ lw_all := lw_g (lw_at lw_m6 118 rfl) rfl
theorem q1438 : (Jvm.Cond.code ({ cls := "DoughBorderModel", name := "readsMile", desc := "()V" } : Jvm.MethodName) prog_17_method_37_code (5 : Nat) (Option.none : Option Jvm.ClassFile.FieldType)) ∈ lw_all := lw_g (lw_at lw_m6 119 rfl) rfl
theorem q1439 : (Jvm.Cond.methodLink "DoughBorderModel" (324 : Nat) ({ cls := "DoughBorderModel", name := "oneMile", desc := "()I" } : Jvm.MethodName)) ∈ lw_all := lw_g (lw_at lw_m6 120 rfl) rfl
theorem q1440 : (Jvm.Cond.privateMethod ({ cls := "DoughBorderModel", name := "oneMile", desc := "()I" } : Jvm.MethodName)) ∈ lw_tbl := lw_at lw_m6 121 rfl
theorem q1441 : (Jvm.Cond.instanceMethod ({ cls := "DoughBorderModel", name := "oneMile", desc := "()I" } : Jvm.MethodName)) ∈ lw_all := lw_g (lw_at lw_m6 122 rfl) rfl
theorem q1442 : (Jvm.Cond.code ({ cls := "DoughBorderModel", name := "oneMile", desc := "()I" } : Jvm.MethodName) prog_17_method_36_code (1 : Nat) (Option.some Jvm.ClassFile.FieldType.int)) ∈ lw_all := lw_g (lw_at lw_m6 123 rfl) rfl
theorem q1443 : (Jvm.Cond.methodLink "DoughBorderModel" (330 : Nat) ({ cls := "DoughBorderModel", name := "readsWarm", desc := "()V" } : Jvm.MethodName)) ∈ lw_all := lw_g (lw_at lw_m6 124 rfl) rfl
theorem q1444 : (Jvm.Cond.privateMethod ({ cls := "DoughBorderModel", name := "readsWarm", desc := "()V" } : Jvm.MethodName)) ∈ lw_tbl := lw_at lw_m6 125 rfl
theorem q1445 : (Jvm.Cond.instanceMethod ({ cls := "DoughBorderModel", name := "readsWarm", desc := "()V" } : Jvm.MethodName)) ∈ lw_all := lw_g (lw_at lw_m6 126 rfl) rfl
theorem q1446 : (Jvm.Cond.code ({ cls := "DoughBorderModel", name := "readsWarm", desc := "()V" } : Jvm.MethodName) prog_17_method_38_code (5 : Nat) (Option.none : Option Jvm.ClassFile.FieldType)) ∈ lw_all := lw_g (lw_at lw_m6 127 rfl) rfl
theorem q1447 : (Jvm.Cond.methodLink "DoughBorderModel" (333 : Nat) ({ cls := "DoughBorderModel", name := "readsVillage", desc := "()V" } : Jvm.MethodName)) ∈ lw_all := lw_g (lw_at lw_m6 128 rfl) rfl
theorem q1448 : (Jvm.Cond.privateMethod ({ cls := "DoughBorderModel", name := "readsVillage", desc := "()V" } : Jvm.MethodName)) ∈ lw_tbl := lw_at lw_m6 129 rfl
theorem q1449 : (Jvm.Cond.instanceMethod ({ cls := "DoughBorderModel", name := "readsVillage", desc := "()V" } : Jvm.MethodName)) ∈ lw_all := lw_g (lw_at lw_m6 130 rfl) rfl
theorem q1450 : (Jvm.Cond.code ({ cls := "DoughBorderModel", name := "readsVillage", desc := "()V" } : Jvm.MethodName) prog_17_method_39_code (2 : Nat) (Option.none : Option Jvm.ClassFile.FieldType)) ∈ lw_all := lw_g (lw_at lw_m6 131 rfl) rfl
theorem q1451 : (Jvm.Cond.methodLink "DoughBorderModel" (351 : Nat) ({ cls := "DoughBorderModel", name := "goesOn", desc := "()Z" } : Jvm.MethodName)) ∈ lw_all := lw_g (lw_at lw_m6 132 rfl) rfl
theorem q1452 : (Jvm.Cond.privateMethod ({ cls := "DoughBorderModel", name := "goesOn", desc := "()Z" } : Jvm.MethodName)) ∈ lw_tbl := lw_at lw_m6 133 rfl
theorem q1453 : (Jvm.Cond.instanceMethod ({ cls := "DoughBorderModel", name := "goesOn", desc := "()Z" } : Jvm.MethodName)) ∈ lw_all := lw_g (lw_at lw_m6 134 rfl) rfl
theorem q1454 : (Jvm.Cond.code ({ cls := "DoughBorderModel", name := "goesOn", desc := "()Z" } : Jvm.MethodName) prog_17_method_44_code (2 : Nat) (Option.some Jvm.ClassFile.FieldType.boolean)) ∈ lw_all := lw_g (lw_at lw_m6 135 rfl) rfl
theorem q1455 : (Jvm.Cond.methodLink "DoughBorderModel" (357 : Nat) ({ cls := "DoughBorderModel", name := "copies", desc := "([I[I)V" } : Jvm.MethodName)) ∈ lw_all := lw_g (lw_at lw_m6 136 rfl) rfl
theorem q1456 : (Jvm.Cond.static ({ cls := "DoughBorderModel", name := "copies", desc := "([I[I)V" } : Jvm.MethodName)) ∈ lw_all := lw_g (lw_at lw_m6 137 rfl) rfl
theorem q1457 : (Jvm.Cond.code ({ cls := "DoughBorderModel", name := "copies", desc := "([I[I)V" } : Jvm.MethodName) prog_17_method_43_code (3 : Nat) (Option.none : Option Jvm.ClassFile.FieldType)) ∈ lw_all := lw_g (lw_at lw_m6 138 rfl) rfl
theorem q1459 : (Jvm.Cond.instanceMethod ({ cls := "DoughBorderModel", name := "rule", desc := "()I" } : Jvm.MethodName)) ∈ lw_all := lw_g (lw_at lw_m6 140 rfl) rfl
theorem q1460 : (Jvm.Cond.selects "DoughBorderModel" ({ cls := "DoughBorderModel", name := "rule", desc := "()I" } : Jvm.MethodName) ({ cls := "DoughBorderModel", name := "rule", desc := "()I" } : Jvm.MethodName)) ∈ lw_all := lw_g (lw_at lw_m6 141 rfl) rfl
theorem q1461 : (Jvm.Cond.code ({ cls := "DoughBorderModel", name := "rule", desc := "()I" } : Jvm.MethodName) prog_17_method_49_code (3 : Nat) (Option.some Jvm.ClassFile.FieldType.int)) ∈ lw_all := lw_g (lw_at lw_m6 142 rfl) rfl
theorem q1462 : (Jvm.Cond.methodLink "DoughBorderModel" (377 : Nat) ({ cls := "DoughBorderModel", name := "ruleClause", desc := "(I)V" } : Jvm.MethodName)) ∈ lw_all := lw_g (lw_at lw_m6 143 rfl) rfl
theorem q1463 : (Jvm.Cond.privateMethod ({ cls := "DoughBorderModel", name := "ruleClause", desc := "(I)V" } : Jvm.MethodName)) ∈ lw_tbl := lw_at lw_m6 144 rfl
theorem q1464 : (Jvm.Cond.instanceMethod ({ cls := "DoughBorderModel", name := "ruleClause", desc := "(I)V" } : Jvm.MethodName)) ∈ lw_all := lw_g (lw_at lw_m6 145 rfl) rfl
theorem q1465 : (Jvm.Cond.code ({ cls := "DoughBorderModel", name := "ruleClause", desc := "(I)V" } : Jvm.MethodName) prog_17_method_48_code (4 : Nat) (Option.none : Option Jvm.ClassFile.FieldType)) ∈ lw_all := lw_g (lw_at lw_m6 146 rfl) rfl
theorem q1466 : (Jvm.Cond.stringRef "DoughBorderModel" (364 : Nat) "creep") ∈ lw_tbl := lw_at lw_m6 147 rfl
theorem q1467 : (Jvm.Cond.methodLink "DoughBorderModel" (282 : Nat) ({ cls := "DoughBorderModel", name := "sum", desc := "()V" } : Jvm.MethodName)) ∈ lw_all := lw_g (lw_at lw_m6 148 rfl) rfl
theorem q1468 : (Jvm.Cond.privateMethod ({ cls := "DoughBorderModel", name := "sum", desc := "()V" } : Jvm.MethodName)) ∈ lw_tbl := lw_at lw_m6 149 rfl
theorem q1469 : (Jvm.Cond.instanceMethod ({ cls := "DoughBorderModel", name := "sum", desc := "()V" } : Jvm.MethodName)) ∈ lw_all := lw_g (lw_at lw_m6 150 rfl) rfl
theorem q1470 : (Jvm.Cond.code ({ cls := "DoughBorderModel", name := "sum", desc := "()V" } : Jvm.MethodName) prog_17_method_27_code (2 : Nat) (Option.none : Option Jvm.ClassFile.FieldType)) ∈ lw_all := lw_g (lw_at lw_m6 151 rfl) rfl
theorem q1471 : (Jvm.Cond.methodLink "DoughBorderModel" (279 : Nat) ({ cls := "DoughBorderModel", name := "term", desc := "()V" } : Jvm.MethodName)) ∈ lw_all := lw_g (lw_at lw_m6 152 rfl) rfl
theorem q1472 : (Jvm.Cond.privateMethod ({ cls := "DoughBorderModel", name := "term", desc := "()V" } : Jvm.MethodName)) ∈ lw_tbl := lw_at lw_m6 153 rfl
theorem q1473 : (Jvm.Cond.instanceMethod ({ cls := "DoughBorderModel", name := "term", desc := "()V" } : Jvm.MethodName)) ∈ lw_all := lw_g (lw_at lw_m6 154 rfl) rfl
theorem q1474 : (Jvm.Cond.code ({ cls := "DoughBorderModel", name := "term", desc := "()V" } : Jvm.MethodName) prog_17_method_26_code (2 : Nat) (Option.none : Option Jvm.ClassFile.FieldType)) ∈ lw_all := lw_g (lw_at lw_m6 155 rfl) rfl
theorem q1475 : (Jvm.Cond.methodLink "DoughBorderModel" (276 : Nat) ({ cls := "DoughBorderModel", name := "value", desc := "()V" } : Jvm.MethodName)) ∈ lw_all := lw_g (lw_at lw_m6 156 rfl) rfl
theorem q1476 : (Jvm.Cond.privateMethod ({ cls := "DoughBorderModel", name := "value", desc := "()V" } : Jvm.MethodName)) ∈ lw_tbl := lw_at lw_m6 157 rfl
theorem q1477 : (Jvm.Cond.instanceMethod ({ cls := "DoughBorderModel", name := "value", desc := "()V" } : Jvm.MethodName)) ∈ lw_all := lw_g (lw_at lw_m6 158 rfl) rfl
theorem q1478 : (Jvm.Cond.code ({ cls := "DoughBorderModel", name := "value", desc := "()V" } : Jvm.MethodName) prog_17_method_25_code (3 : Nat) (Option.none : Option Jvm.ClassFile.FieldType)) ∈ lw_all := lw_g (lw_at lw_m6 159 rfl) rfl
theorem q1479 : (Jvm.Cond.methodLink "DoughBorderModel" (266 : Nat) ({ cls := "DoughBorderModel", name := "isCounted", desc := "(I)V" } : Jvm.MethodName)) ∈ lw_all := lw_g (lw_at lw_m6 160 rfl) rfl
theorem q1480 : (Jvm.Cond.privateMethod ({ cls := "DoughBorderModel", name := "isCounted", desc := "(I)V" } : Jvm.MethodName)) ∈ lw_tbl := lw_at lw_m6 161 rfl
theorem q1481 : (Jvm.Cond.instanceMethod ({ cls := "DoughBorderModel", name := "isCounted", desc := "(I)V" } : Jvm.MethodName)) ∈ lw_all := lw_g (lw_at lw_m6 162 rfl) rfl
theorem q1482 : (Jvm.Cond.code ({ cls := "DoughBorderModel", name := "isCounted", desc := "(I)V" } : Jvm.MethodName) prog_17_method_23_code (2 : Nat) (Option.none : Option Jvm.ClassFile.FieldType)) ∈ lw_all := lw_g (lw_at lw_m6 163 rfl) rfl
theorem q1483 : (Jvm.Cond.methodLink "DoughBorderModel" (269 : Nat) ({ cls := "DoughBorderModel", name := "entry", desc := "(II)V" } : Jvm.MethodName)) ∈ lw_all := lw_g (lw_at lw_m6 164 rfl) rfl
theorem q1484 : (Jvm.Cond.privateMethod ({ cls := "DoughBorderModel", name := "entry", desc := "(II)V" } : Jvm.MethodName)) ∈ lw_tbl := lw_at lw_m6 165 rfl
theorem q1485 : (Jvm.Cond.instanceMethod ({ cls := "DoughBorderModel", name := "entry", desc := "(II)V" } : Jvm.MethodName)) ∈ lw_all := lw_g (lw_at lw_m6 166 rfl) rfl
theorem q1486 : (Jvm.Cond.code ({ cls := "DoughBorderModel", name := "entry", desc := "(II)V" } : Jvm.MethodName) prog_17_method_22_code (3 : Nat) (Option.none : Option Jvm.ClassFile.FieldType)) ∈ lw_all := lw_g (lw_at lw_m6 167 rfl) rfl
theorem q1487 : (Jvm.Cond.methodLink "DoughBorderModel" (272 : Nat) ({ cls := "DoughBorderModel", name := "wordOf", desc := "(I)Ljava/lang/String;" } : Jvm.MethodName)) ∈ lw_all := lw_g (lw_at lw_m6 168 rfl) rfl
theorem q1488 : (Jvm.Cond.static ({ cls := "DoughBorderModel", name := "wordOf", desc := "(I)Ljava/lang/String;" } : Jvm.MethodName)) ∈ lw_all := lw_g (lw_at lw_m6 169 rfl) rfl
theorem q1489 : (Jvm.Cond.code ({ cls := "DoughBorderModel", name := "wordOf", desc := "(I)Ljava/lang/String;" } : Jvm.MethodName) prog_17_method_15_code (1 : Nat) (Option.some (Jvm.ClassFile.FieldType.object "java/lang/String"))) ∈ lw_all := lw_g (lw_at lw_m6 170 rfl) rfl
theorem q1490 : (Jvm.Cond.stringRef "DoughBorderModel" (194 : Nat) "line") ∈ lw_tbl := lw_at lw_m6 171 rfl
theorem q1491 : (Jvm.Cond.stringRef "DoughBorderModel" (195 : Nat) "dough") ∈ lw_tbl := lw_at lw_m6 172 rfl
theorem q1492 : (Jvm.Cond.stringRef "DoughBorderModel" (196 : Nat) "salt") ∈ lw_tbl := lw_at lw_m6 173 rfl
theorem q1493 : (Jvm.Cond.stringRef "DoughBorderModel" (198 : Nat) "damp") ∈ lw_tbl := lw_at lw_m6 174 rfl
theorem q1494 : (Jvm.Cond.stringRef "DoughBorderModel" (202 : Nat) "night") ∈ lw_tbl := lw_at lw_m6 175 rfl
theorem q1495 : (Jvm.Cond.stringRef "DoughBorderModel" (204 : Nat) "above") ∈ lw_tbl := lw_at lw_m6 176 rfl
theorem q1496 : (Jvm.Cond.stringRef "DoughBorderModel" (206 : Nat) "below") ∈ lw_tbl := lw_at lw_m6 177 rfl
theorem q1497 : (Jvm.Cond.stringRef "DoughBorderModel" (208 : Nat) "west") ∈ lw_tbl := lw_at lw_m6 178 rfl
theorem q1498 : (Jvm.Cond.stringRef "DoughBorderModel" (210 : Nat) "east") ∈ lw_tbl := lw_at lw_m6 179 rfl
theorem q1499 : (Jvm.Cond.stringRef "DoughBorderModel" (212 : Nat) "crust") ∈ lw_tbl := lw_at lw_m6 180 rfl
theorem q1500 : (Jvm.Cond.stringRef "DoughBorderModel" (366 : Nat) "if") ∈ lw_tbl := lw_at lw_m6 181 rfl
theorem q1501 : (Jvm.Cond.methodLink "DoughBorderModel" (368 : Nat) ({ cls := "DoughBorderModel", name := "takes", desc := "(Ljava/lang/String;)Z" } : Jvm.MethodName)) ∈ lw_all := lw_g (lw_at lw_m6 182 rfl) rfl
theorem q1502 : (Jvm.Cond.privateMethod ({ cls := "DoughBorderModel", name := "takes", desc := "(Ljava/lang/String;)Z" } : Jvm.MethodName)) ∈ lw_tbl := lw_at lw_m6 183 rfl
theorem q1503 : (Jvm.Cond.instanceMethod ({ cls := "DoughBorderModel", name := "takes", desc := "(Ljava/lang/String;)Z" } : Jvm.MethodName)) ∈ lw_all := lw_g (lw_at lw_m6 184 rfl) rfl
theorem q1504 : (Jvm.Cond.code ({ cls := "DoughBorderModel", name := "takes", desc := "(Ljava/lang/String;)Z" } : Jvm.MethodName) prog_17_method_21_code (3 : Nat) (Option.some Jvm.ClassFile.FieldType.boolean)) ∈ lw_all := lw_g (lw_at lw_m6 185 rfl) rfl
theorem q1505 : (Jvm.Cond.methodLink "DoughBorderModel" (371 : Nat) ({ cls := "DoughBorderModel", name := "test", desc := "()V" } : Jvm.MethodName)) ∈ lw_all := lw_g (lw_at lw_m6 186 rfl) rfl
theorem q1506 : (Jvm.Cond.privateMethod ({ cls := "DoughBorderModel", name := "test", desc := "()V" } : Jvm.MethodName)) ∈ lw_tbl := lw_at lw_m6 187 rfl
theorem q1507 : (Jvm.Cond.instanceMethod ({ cls := "DoughBorderModel", name := "test", desc := "()V" } : Jvm.MethodName)) ∈ lw_all := lw_g (lw_at lw_m6 188 rfl) rfl
theorem q1508 : (Jvm.Cond.code ({ cls := "DoughBorderModel", name := "test", desc := "()V" } : Jvm.MethodName) prog_17_method_33_code (5 : Nat) (Option.none : Option Jvm.ClassFile.FieldType)) ∈ lw_all := lw_g (lw_at lw_m6 189 rfl) rfl
theorem q1509 : (Jvm.Cond.methodLink "DoughBorderModel" (302 : Nat) ({ cls := "DoughBorderModel", name := "fact", desc := "()Z" } : Jvm.MethodName)) ∈ lw_all := lw_g (lw_at lw_m6 190 rfl) rfl
theorem q1510 : (Jvm.Cond.privateMethod ({ cls := "DoughBorderModel", name := "fact", desc := "()Z" } : Jvm.MethodName)) ∈ lw_tbl := lw_at lw_m6 191 rfl
theorem q1511 : (Jvm.Cond.instanceMethod ({ cls := "DoughBorderModel", name := "fact", desc := "()Z" } : Jvm.MethodName)) ∈ lw_all := lw_g (lw_at lw_m6 192 rfl) rfl
theorem q1512 : (Jvm.Cond.code ({ cls := "DoughBorderModel", name := "fact", desc := "()Z" } : Jvm.MethodName) prog_17_method_32_code (1 : Nat) (Option.some Jvm.ClassFile.FieldType.boolean)) ∈ lw_all := lw_g (lw_at lw_m6 193 rfl) rfl
theorem q1513 : (Jvm.Cond.stringRef "DoughBorderModel" (294 : Nat) "not") ∈ lw_tbl := lw_at lw_m6 194 rfl
theorem q1514 : (Jvm.Cond.methodLink "DoughBorderModel" (296 : Nat) ({ cls := "DoughBorderModel", name := "opens", desc := "(I)V" } : Jvm.MethodName)) ∈ lw_all := lw_g (lw_at lw_m6 195 rfl) rfl
theorem q1515 : (Jvm.Cond.privateMethod ({ cls := "DoughBorderModel", name := "opens", desc := "(I)V" } : Jvm.MethodName)) ∈ lw_tbl := lw_at lw_m6 196 rfl
theorem q1516 : (Jvm.Cond.instanceMethod ({ cls := "DoughBorderModel", name := "opens", desc := "(I)V" } : Jvm.MethodName)) ∈ lw_all := lw_g (lw_at lw_m6 197 rfl) rfl
theorem q1517 : (Jvm.Cond.code ({ cls := "DoughBorderModel", name := "opens", desc := "(I)V" } : Jvm.MethodName) prog_17_method_30_code (2 : Nat) (Option.none : Option Jvm.ClassFile.FieldType)) ∈ lw_all := lw_g (lw_at lw_m6 198 rfl) rfl
theorem q1518 : (Jvm.Cond.methodLink "DoughBorderModel" (299 : Nat) ({ cls := "DoughBorderModel", name := "compared", desc := "()V" } : Jvm.MethodName)) ∈ lw_all := lw_g (lw_at lw_m6 199 rfl) rfl
theorem q1519 : (Jvm.Cond.privateMethod ({ cls := "DoughBorderModel", name := "compared", desc := "()V" } : Jvm.MethodName)) ∈ lw_tbl := lw_at lw_m6 200 rfl
theorem q1520 : (Jvm.Cond.instanceMethod ({ cls := "DoughBorderModel", name := "compared", desc := "()V" } : Jvm.MethodName)) ∈ lw_all := lw_g (lw_at lw_m6 201 rfl) rfl
theorem q1521 : (Jvm.Cond.code ({ cls := "DoughBorderModel", name := "compared", desc := "()V" } : Jvm.MethodName) prog_17_method_28_code (3 : Nat) (Option.none : Option Jvm.ClassFile.FieldType)) ∈ lw_all := lw_g (lw_at lw_m6 202 rfl) rfl
theorem q1522 : (Jvm.Cond.methodLink "DoughBorderModel" (305 : Nat) ({ cls := "DoughBorderModel", name := "answers", desc := "(I)V" } : Jvm.MethodName)) ∈ lw_all := lw_g (lw_at lw_m6 203 rfl) rfl
theorem q1523 : (Jvm.Cond.privateMethod ({ cls := "DoughBorderModel", name := "answers", desc := "(I)V" } : Jvm.MethodName)) ∈ lw_tbl := lw_at lw_m6 204 rfl
theorem q1524 : (Jvm.Cond.instanceMethod ({ cls := "DoughBorderModel", name := "answers", desc := "(I)V" } : Jvm.MethodName)) ∈ lw_all := lw_g (lw_at lw_m6 205 rfl) rfl
theorem q1525 : (Jvm.Cond.code ({ cls := "DoughBorderModel", name := "answers", desc := "(I)V" } : Jvm.MethodName) prog_17_method_31_code (2 : Nat) (Option.none : Option Jvm.ClassFile.FieldType)) ∈ lw_all := lw_g (lw_at lw_m6 206 rfl) rfl
theorem q1526 : (Jvm.Cond.methodLink "DoughBorderModel" (291 : Nat) ({ cls := "DoughBorderModel", name := "top", desc := "()I" } : Jvm.MethodName)) ∈ lw_all := lw_g (lw_at lw_m6 207 rfl) rfl
theorem q1527 : (Jvm.Cond.privateMethod ({ cls := "DoughBorderModel", name := "top", desc := "()I" } : Jvm.MethodName)) ∈ lw_tbl := lw_at lw_m6 208 rfl
theorem q1528 : (Jvm.Cond.instanceMethod ({ cls := "DoughBorderModel", name := "top", desc := "()I" } : Jvm.MethodName)) ∈ lw_all := lw_g (lw_at lw_m6 209 rfl) rfl
theorem q1529 : (Jvm.Cond.code ({ cls := "DoughBorderModel", name := "top", desc := "()I" } : Jvm.MethodName) prog_17_method_29_code (1 : Nat) (Option.some Jvm.ClassFile.FieldType.int)) ∈ lw_all := lw_g (lw_at lw_m6 210 rfl) rfl
theorem q1530 : (Jvm.Cond.stringRef "DoughBorderModel" (308 : Nat) "and") ∈ lw_tbl := lw_at lw_m6 211 rfl
theorem q1531 : (Jvm.Cond.stringRef "DoughBorderModel" (310 : Nat) "or") ∈ lw_tbl := lw_at lw_m6 212 rfl
theorem q1533 : (Jvm.Cond.instanceMethod ({ cls := "DoughBorderModel", name := "force", desc := "(I)I" } : Jvm.MethodName)) ∈ lw_all := lw_g (lw_at lw_m6 214 rfl) rfl
theorem q1534 : (Jvm.Cond.selects "DoughBorderModel" ({ cls := "DoughBorderModel", name := "force", desc := "(I)I" } : Jvm.MethodName) ({ cls := "DoughBorderModel", name := "force", desc := "(I)I" } : Jvm.MethodName)) ∈ lw_all := lw_g (lw_at lw_m6 215 rfl) rfl
theorem q1535 : (Jvm.Cond.code ({ cls := "DoughBorderModel", name := "force", desc := "(I)I" } : Jvm.MethodName) prog_17_method_50_code (3 : Nat) (Option.some Jvm.ClassFile.FieldType.int)) ∈ lw_all := lw_g (lw_at lw_m6 216 rfl) rfl
theorem q1536 : (Jvm.Cond.constantLong "DoughBorderModel" (380 : Nat) (-1 : Int64)) ∈ lw_all := lw_g (lw_at lw_m6 217 rfl) rfl
theorem q1538 : (Jvm.Cond.instanceMethod ({ cls := "DoughBorderModel", name := "mile", desc := "(II)I" } : Jvm.MethodName)) ∈ lw_all := lw_g (lw_at lw_m6 219 rfl) rfl
theorem q1539 : (Jvm.Cond.selects "DoughBorderModel" ({ cls := "DoughBorderModel", name := "mile", desc := "(II)I" } : Jvm.MethodName) ({ cls := "DoughBorderModel", name := "mile", desc := "(II)I" } : Jvm.MethodName)) ∈ lw_all := lw_g (lw_at lw_m6 220 rfl) rfl
theorem q1540 : (Jvm.Cond.code ({ cls := "DoughBorderModel", name := "mile", desc := "(II)I" } : Jvm.MethodName) prog_17_method_57_code (5 : Nat) (Option.some Jvm.ClassFile.FieldType.int)) ∈ lw_all := lw_g (lw_at lw_m6 221 rfl) rfl
theorem q1541 : (Jvm.Cond.methodLink "DoughBorderModel" (178 : Nat) ({ cls := "DoughBorderModel", name := "isMile", desc := "(I)Z" } : Jvm.MethodName)) ∈ lw_all := lw_g (lw_at lw_m6 222 rfl) rfl
theorem q1542 : (Jvm.Cond.privateMethod ({ cls := "DoughBorderModel", name := "isMile", desc := "(I)Z" } : Jvm.MethodName)) ∈ lw_tbl := lw_at lw_m6 223 rfl
theorem q1543 : (Jvm.Cond.instanceMethod ({ cls := "DoughBorderModel", name := "isMile", desc := "(I)Z" } : Jvm.MethodName)) ∈ lw_all := lw_g (lw_at lw_m6 224 rfl) rfl
theorem q1544 : (Jvm.Cond.code ({ cls := "DoughBorderModel", name := "isMile", desc := "(I)Z" } : Jvm.MethodName) prog_17_method_8_code (2 : Nat) (Option.some Jvm.ClassFile.FieldType.boolean)) ∈ lw_all := lw_g (lw_at lw_m6 225 rfl) rfl
theorem q1545 : (Jvm.Cond.methodLink "DoughBorderModel" (182 : Nat) ({ cls := "DoughBorderModel", name := "isBaked", desc := "(I)Z" } : Jvm.MethodName)) ∈ lw_all := lw_g (lw_at lw_m6 226 rfl) rfl
theorem q1546 : (Jvm.Cond.privateMethod ({ cls := "DoughBorderModel", name := "isBaked", desc := "(I)Z" } : Jvm.MethodName)) ∈ lw_tbl := lw_at lw_m6 227 rfl
theorem q1547 : (Jvm.Cond.instanceMethod ({ cls := "DoughBorderModel", name := "isBaked", desc := "(I)Z" } : Jvm.MethodName)) ∈ lw_all := lw_g (lw_at lw_m6 228 rfl) rfl
theorem q1548 : (Jvm.Cond.code ({ cls := "DoughBorderModel", name := "isBaked", desc := "(I)Z" } : Jvm.MethodName) prog_17_method_10_code (2 : Nat) (Option.some Jvm.ClassFile.FieldType.boolean)) ∈ lw_all := lw_g (lw_at lw_m6 229 rfl) rfl
theorem q1549 : (Jvm.Cond.methodLink "DoughBorderModel" (174 : Nat) ({ cls := "DoughBorderModel", name := "has", desc := "(II)Z" } : Jvm.MethodName)) ∈ lw_all := lw_g (lw_at lw_m6 230 rfl) rfl
theorem q1550 : (Jvm.Cond.static ({ cls := "DoughBorderModel", name := "has", desc := "(II)Z" } : Jvm.MethodName)) ∈ lw_all := lw_g (lw_at lw_m6 231 rfl) rfl
theorem q1551 : (Jvm.Cond.code ({ cls := "DoughBorderModel", name := "has", desc := "(II)Z" } : Jvm.MethodName) prog_17_method_5_code (2 : Nat) (Option.some Jvm.ClassFile.FieldType.boolean)) ∈ lw_all := lw_g (lw_at lw_m6 232 rfl) rfl
theorem q1553 : (Jvm.Cond.instanceMethod ({ cls := "DoughBorderModel", name := "village", desc := "(II)I" } : Jvm.MethodName)) ∈ lw_all := lw_g (lw_at lw_m6 234 rfl) rfl
theorem q1554 : (Jvm.Cond.selects "DoughBorderModel" ({ cls := "DoughBorderModel", name := "village", desc := "(II)I" } : Jvm.MethodName) ({ cls := "DoughBorderModel", name := "village", desc := "(II)I" } : Jvm.MethodName)) ∈ lw_all := lw_g (lw_at lw_m6 235 rfl) rfl
theorem q1555 : (Jvm.Cond.code ({ cls := "DoughBorderModel", name := "village", desc := "(II)I" } : Jvm.MethodName) prog_17_method_58_code (3 : Nat) (Option.some Jvm.ClassFile.FieldType.int)) ∈ lw_all := lw_g (lw_at lw_m6 236 rfl) rfl
theorem q1556 : (Jvm.Cond.methodLink "DoughBorderModel" (397 : Nat) ({ cls := "DoughBorderModel", name := "isVillage", desc := "(I)Z" } : Jvm.MethodName)) ∈ lw_all := lw_g (lw_at lw_m6 237 rfl) rfl
theorem q1557 : (Jvm.Cond.privateMethod ({ cls := "DoughBorderModel", name := "isVillage", desc := "(I)Z" } : Jvm.MethodName)) ∈ lw_tbl := lw_at lw_m6 238 rfl
theorem q1558 : (Jvm.Cond.instanceMethod ({ cls := "DoughBorderModel", name := "isVillage", desc := "(I)Z" } : Jvm.MethodName)) ∈ lw_all := lw_g (lw_at lw_m6 239 rfl) rfl
theorem q1559 : (Jvm.Cond.code ({ cls := "DoughBorderModel", name := "isVillage", desc := "(I)Z" } : Jvm.MethodName) prog_17_method_9_code (2 : Nat) (Option.some Jvm.ClassFile.FieldType.boolean)) ∈ lw_all := lw_g (lw_at lw_m7 0 rfl) rfl
theorem q1560 : (Jvm.Cond.methodLink "DoughBorderModel" (394 : Nat) ({ cls := "DoughBorderModel", name := "sideOf", desc := "(I)I" } : Jvm.MethodName)) ∈ lw_all := lw_g (lw_at lw_m7 1 rfl) rfl
theorem q1561 : (Jvm.Cond.privateMethod ({ cls := "DoughBorderModel", name := "sideOf", desc := "(I)I" } : Jvm.MethodName)) ∈ lw_tbl := lw_at lw_m7 2 rfl
theorem q1562 : (Jvm.Cond.instanceMethod ({ cls := "DoughBorderModel", name := "sideOf", desc := "(I)I" } : Jvm.MethodName)) ∈ lw_all := lw_g (lw_at lw_m7 3 rfl) rfl
theorem q1563 : (Jvm.Cond.code ({ cls := "DoughBorderModel", name := "sideOf", desc := "(I)I" } : Jvm.MethodName) prog_17_method_55_code (3 : Nat) (Option.some Jvm.ClassFile.FieldType.int)) ∈ lw_all := lw_g (lw_at lw_m7 4 rfl) rfl
theorem q1565 : (Jvm.Cond.instanceMethod ({ cls := "DoughBorderModel", name := "warm", desc := "(I)I" } : Jvm.MethodName)) ∈ lw_all := lw_g (lw_at lw_m7 6 rfl) rfl
theorem q1566 : (Jvm.Cond.selects "DoughBorderModel" ({ cls := "DoughBorderModel", name := "warm", desc := "(I)I" } : Jvm.MethodName) ({ cls := "DoughBorderModel", name := "warm", desc := "(I)I" } : Jvm.MethodName)) ∈ lw_all := lw_g (lw_at lw_m7 7 rfl) rfl
theorem q1567 : (Jvm.Cond.code ({ cls := "DoughBorderModel", name := "warm", desc := "(I)I" } : Jvm.MethodName) prog_17_method_60_code (2 : Nat) (Option.some Jvm.ClassFile.FieldType.int)) ∈ lw_all := lw_g (lw_at lw_m7 8 rfl) rfl
theorem q1568 : (Jvm.Cond.methodLink "DoughBorderModel" (400 : Nat) ({ cls := "DoughBorderModel", name := "isStrip", desc := "()Z" } : Jvm.MethodName)) ∈ lw_all := lw_g (lw_at lw_m7 9 rfl) rfl
theorem q1569 : (Jvm.Cond.privateMethod ({ cls := "DoughBorderModel", name := "isStrip", desc := "()Z" } : Jvm.MethodName)) ∈ lw_tbl := lw_at lw_m7 10 rfl
theorem q1570 : (Jvm.Cond.instanceMethod ({ cls := "DoughBorderModel", name := "isStrip", desc := "()Z" } : Jvm.MethodName)) ∈ lw_all := lw_g (lw_at lw_m7 11 rfl) rfl
theorem q1571 : (Jvm.Cond.code ({ cls := "DoughBorderModel", name := "isStrip", desc := "()Z" } : Jvm.MethodName) prog_17_method_7_code (1 : Nat) (Option.some Jvm.ClassFile.FieldType.boolean)) ∈ lw_all := lw_g (lw_at lw_m7 12 rfl) rfl
theorem q1572 : (Jvm.Cond.methodLink "DoughBorderModel" (403 : Nat) ({ cls := "DoughBorderModel", name := "warmthOf", desc := "(I)I" } : Jvm.MethodName)) ∈ lw_all := lw_g (lw_at lw_m7 13 rfl) rfl
theorem q1573 : (Jvm.Cond.privateMethod ({ cls := "DoughBorderModel", name := "warmthOf", desc := "(I)I" } : Jvm.MethodName)) ∈ lw_tbl := lw_at lw_m7 14 rfl
theorem q1574 : (Jvm.Cond.instanceMethod ({ cls := "DoughBorderModel", name := "warmthOf", desc := "(I)I" } : Jvm.MethodName)) ∈ lw_all := lw_g (lw_at lw_m7 15 rfl) rfl
theorem q1575 : (Jvm.Cond.code ({ cls := "DoughBorderModel", name := "warmthOf", desc := "(I)I" } : Jvm.MethodName) prog_17_method_59_code (2 : Nat) (Option.some Jvm.ClassFile.FieldType.int)) ∈ lw_all := lw_g (lw_at lw_m7 16 rfl) rfl
theorem q1577 : (Jvm.Cond.instanceMethod ({ cls := "DoughBorderModel", name := "undo", desc := "()I" } : Jvm.MethodName)) ∈ lw_all := lw_g (lw_at lw_m7 18 rfl) rfl
theorem q1578 : (Jvm.Cond.selects "DoughBorderModel" ({ cls := "DoughBorderModel", name := "undo", desc := "()I" } : Jvm.MethodName) ({ cls := "DoughBorderModel", name := "undo", desc := "()I" } : Jvm.MethodName)) ∈ lw_all := lw_g (lw_at lw_m7 19 rfl) rfl
theorem q1579 : (Jvm.Cond.code ({ cls := "DoughBorderModel", name := "undo", desc := "()I" } : Jvm.MethodName) prog_17_method_73_code (1 : Nat) (Option.some Jvm.ClassFile.FieldType.int)) ∈ lw_all := lw_g (lw_at lw_m7 20 rfl) rfl
theorem q1580 : (Jvm.Cond.methodLink "DoughBorderModel" (456 : Nat) ({ cls := "DoughBorderModel", name := "movesAll", desc := "(IZ)V" } : Jvm.MethodName)) ∈ lw_all := lw_g (lw_at lw_m7 21 rfl) rfl
theorem q1581 : (Jvm.Cond.privateMethod ({ cls := "DoughBorderModel", name := "movesAll", desc := "(IZ)V" } : Jvm.MethodName)) ∈ lw_tbl := lw_at lw_m7 22 rfl
theorem q1582 : (Jvm.Cond.instanceMethod ({ cls := "DoughBorderModel", name := "movesAll", desc := "(IZ)V" } : Jvm.MethodName)) ∈ lw_all := lw_g (lw_at lw_m7 23 rfl) rfl
theorem q1583 : (Jvm.Cond.code ({ cls := "DoughBorderModel", name := "movesAll", desc := "(IZ)V" } : Jvm.MethodName) prog_17_method_71_code (3 : Nat) (Option.none : Option Jvm.ClassFile.FieldType)) ∈ lw_all := lw_g (lw_at lw_m7 24 rfl) rfl
theorem q1584 : (Jvm.Cond.methodLink "DoughBorderModel" (449 : Nat) ({ cls := "DoughBorderModel", name := "moves", desc := "(I)I" } : Jvm.MethodName)) ∈ lw_all := lw_g (lw_at lw_m7 25 rfl) rfl
theorem q1585 : (Jvm.Cond.privateMethod ({ cls := "DoughBorderModel", name := "moves", desc := "(I)I" } : Jvm.MethodName)) ∈ lw_tbl := lw_at lw_m7 26 rfl
theorem q1586 : (Jvm.Cond.instanceMethod ({ cls := "DoughBorderModel", name := "moves", desc := "(I)I" } : Jvm.MethodName)) ∈ lw_all := lw_g (lw_at lw_m7 27 rfl) rfl
theorem q1587 : (Jvm.Cond.code ({ cls := "DoughBorderModel", name := "moves", desc := "(I)I" } : Jvm.MethodName) prog_17_method_69_code (3 : Nat) (Option.some Jvm.ClassFile.FieldType.int)) ∈ lw_all := lw_g (lw_at lw_m7 28 rfl) rfl
theorem q1588 : (Jvm.Cond.methodLink "DoughBorderModel" (452 : Nat) ({ cls := "DoughBorderModel", name := "movesRow", desc := "([I)V" } : Jvm.MethodName)) ∈ lw_all := lw_g (lw_at lw_m7 29 rfl) rfl
theorem q1589 : (Jvm.Cond.privateMethod ({ cls := "DoughBorderModel", name := "movesRow", desc := "([I)V" } : Jvm.MethodName)) ∈ lw_tbl := lw_at lw_m7 30 rfl
theorem q1590 : (Jvm.Cond.instanceMethod ({ cls := "DoughBorderModel", name := "movesRow", desc := "([I)V" } : Jvm.MethodName)) ∈ lw_all := lw_g (lw_at lw_m7 31 rfl) rfl
theorem q1591 : (Jvm.Cond.code ({ cls := "DoughBorderModel", name := "movesRow", desc := "([I)V" } : Jvm.MethodName) prog_17_method_70_code (3 : Nat) (Option.none : Option Jvm.ClassFile.FieldType)) ∈ lw_all := lw_g (lw_at lw_m7 32 rfl) rfl
theorem q1593 : (Jvm.Cond.instanceMethod ({ cls := "DoughBorderModel", name := "night", desc := "()I" } : Jvm.MethodName)) ∈ lw_all := lw_g (lw_at lw_m7 34 rfl) rfl
theorem q1594 : (Jvm.Cond.selects "DoughBorderModel" ({ cls := "DoughBorderModel", name := "night", desc := "()I" } : Jvm.MethodName) ({ cls := "DoughBorderModel", name := "night", desc := "()I" } : Jvm.MethodName)) ∈ lw_all := lw_g (lw_at lw_m7 35 rfl) rfl
theorem q1595 : (Jvm.Cond.code ({ cls := "DoughBorderModel", name := "night", desc := "()I" } : Jvm.MethodName) prog_17_method_74_code (1 : Nat) (Option.some Jvm.ClassFile.FieldType.int)) ∈ lw_all := lw_g (lw_at lw_m7 36 rfl) rfl
theorem q1596 : (Jvm.Cond.methodLink "DoughBorderModel" (460 : Nat) ({ cls := "DoughBorderModel", name := "keepsAct", desc := "()V" } : Jvm.MethodName)) ∈ lw_all := lw_g (lw_at lw_m7 37 rfl) rfl
theorem q1597 : (Jvm.Cond.privateMethod ({ cls := "DoughBorderModel", name := "keepsAct", desc := "()V" } : Jvm.MethodName)) ∈ lw_tbl := lw_at lw_m7 38 rfl
theorem q1598 : (Jvm.Cond.instanceMethod ({ cls := "DoughBorderModel", name := "keepsAct", desc := "()V" } : Jvm.MethodName)) ∈ lw_all := lw_g (lw_at lw_m7 39 rfl) rfl
theorem q1599 : (Jvm.Cond.code ({ cls := "DoughBorderModel", name := "keepsAct", desc := "()V" } : Jvm.MethodName) prog_17_method_72_code (2 : Nat) (Option.none : Option Jvm.ClassFile.FieldType)) ∈ lw_all := lw_g (lw_at lw_m7 40 rfl) rfl
theorem q1600 : (Jvm.Cond.methodLink "DoughBorderModel" (439 : Nat) ({ cls := "DoughBorderModel", name := "goesNight", desc := "()I" } : Jvm.MethodName)) ∈ lw_all := lw_g (lw_at lw_m7 41 rfl) rfl
theorem q1601 : (Jvm.Cond.privateMethod ({ cls := "DoughBorderModel", name := "goesNight", desc := "()I" } : Jvm.MethodName)) ∈ lw_tbl := lw_at lw_m7 42 rfl
theorem q1602 : (Jvm.Cond.instanceMethod ({ cls := "DoughBorderModel", name := "goesNight", desc := "()I" } : Jvm.MethodName)) ∈ lw_all := lw_g (lw_at lw_m7 43 rfl) rfl
theorem q1603 : (Jvm.Cond.code ({ cls := "DoughBorderModel", name := "goesNight", desc := "()I" } : Jvm.MethodName) prog_17_method_67_code (1 : Nat) (Option.some Jvm.ClassFile.FieldType.int)) ∈ lw_all := lw_g (lw_at lw_m7 44 rfl) rfl
theorem q1604 : (Jvm.Cond.methodLink "DoughBorderModel" (436 : Nat) ({ cls := "DoughBorderModel", name := "nightOf", desc := "(I)I" } : Jvm.MethodName)) ∈ lw_all := lw_g (lw_at lw_m7 45 rfl) rfl
theorem q1605 : (Jvm.Cond.privateMethod ({ cls := "DoughBorderModel", name := "nightOf", desc := "(I)I" } : Jvm.MethodName)) ∈ lw_tbl := lw_at lw_m7 46 rfl
theorem q1606 : (Jvm.Cond.instanceMethod ({ cls := "DoughBorderModel", name := "nightOf", desc := "(I)I" } : Jvm.MethodName)) ∈ lw_all := lw_g (lw_at lw_m7 47 rfl) rfl
theorem q1607 : (Jvm.Cond.code ({ cls := "DoughBorderModel", name := "nightOf", desc := "(I)I" } : Jvm.MethodName) prog_17_method_66_code (3 : Nat) (Option.some Jvm.ClassFile.FieldType.int)) ∈ lw_all := lw_g (lw_at lw_m7 48 rfl) rfl
theorem q1608 : (Jvm.Cond.methodLink "DoughBorderModel" (424 : Nat) ({ cls := "DoughBorderModel", name := "notesSides", desc := "()V" } : Jvm.MethodName)) ∈ lw_all := lw_g (lw_at lw_m7 49 rfl) rfl
theorem q1609 : (Jvm.Cond.privateMethod ({ cls := "DoughBorderModel", name := "notesSides", desc := "()V" } : Jvm.MethodName)) ∈ lw_tbl := lw_at lw_m7 50 rfl
theorem q1610 : (Jvm.Cond.instanceMethod ({ cls := "DoughBorderModel", name := "notesSides", desc := "()V" } : Jvm.MethodName)) ∈ lw_all := lw_g (lw_at lw_m7 51 rfl) rfl
theorem q1611 : (Jvm.Cond.code ({ cls := "DoughBorderModel", name := "notesSides", desc := "()V" } : Jvm.MethodName) prog_17_method_64_code (2 : Nat) (Option.none : Option Jvm.ClassFile.FieldType)) ∈ lw_all := lw_g (lw_at lw_m7 52 rfl) rfl
theorem q1612 : (Jvm.Cond.methodLink "DoughBorderModel" (427 : Nat) ({ cls := "DoughBorderModel", name := "creepOf", desc := "(II)I" } : Jvm.MethodName)) ∈ lw_all := lw_g (lw_at lw_m7 53 rfl) rfl
theorem q1613 : (Jvm.Cond.privateMethod ({ cls := "DoughBorderModel", name := "creepOf", desc := "(II)I" } : Jvm.MethodName)) ∈ lw_tbl := lw_at lw_m7 54 rfl
theorem q1614 : (Jvm.Cond.instanceMethod ({ cls := "DoughBorderModel", name := "creepOf", desc := "(II)I" } : Jvm.MethodName)) ∈ lw_all := lw_g (lw_at lw_m7 55 rfl) rfl
theorem q1615 : (Jvm.Cond.code ({ cls := "DoughBorderModel", name := "creepOf", desc := "(II)I" } : Jvm.MethodName) prog_17_method_62_code (3 : Nat) (Option.some Jvm.ClassFile.FieldType.int)) ∈ lw_all := lw_g (lw_at lw_m7 56 rfl) rfl
theorem q1616 : (Jvm.Cond.methodLink "DoughBorderModel" (406 : Nat) ({ cls := "DoughBorderModel", name := "held", desc := "(JI)I" } : Jvm.MethodName)) ∈ lw_all := lw_g (lw_at lw_m7 57 rfl) rfl
theorem q1617 : (Jvm.Cond.static ({ cls := "DoughBorderModel", name := "held", desc := "(JI)I" } : Jvm.MethodName)) ∈ lw_all := lw_g (lw_at lw_m7 58 rfl) rfl
theorem q1618 : (Jvm.Cond.code ({ cls := "DoughBorderModel", name := "held", desc := "(JI)I" } : Jvm.MethodName) prog_17_method_6_code (3 : Nat) (Option.some Jvm.ClassFile.FieldType.int)) ∈ lw_all := lw_g (lw_at lw_m7 59 rfl) rfl
theorem q1619 : (Jvm.Cond.methodLink "DoughBorderModel" (410 : Nat) ({ cls := "DoughBorderModel", name := "villagesIn", desc := "(II)I" } : Jvm.MethodName)) ∈ lw_all := lw_g (lw_at lw_m7 60 rfl) rfl
theorem q1620 : (Jvm.Cond.privateMethod ({ cls := "DoughBorderModel", name := "villagesIn", desc := "(II)I" } : Jvm.MethodName)) ∈ lw_tbl := lw_at lw_m7 61 rfl
theorem q1621 : (Jvm.Cond.instanceMethod ({ cls := "DoughBorderModel", name := "villagesIn", desc := "(II)I" } : Jvm.MethodName)) ∈ lw_all := lw_g (lw_at lw_m7 62 rfl) rfl
theorem q1622 : (Jvm.Cond.code ({ cls := "DoughBorderModel", name := "villagesIn", desc := "(II)I" } : Jvm.MethodName) prog_17_method_56_code (5 : Nat) (Option.some Jvm.ClassFile.FieldType.int)) ∈ lw_all := lw_g (lw_at lw_m7 63 rfl) rfl
theorem q1623 : (Jvm.Cond.methodLink "DoughBorderModel" (413 : Nat) ({ cls := "DoughBorderModel", name := "crustOf", desc := "(I)I" } : Jvm.MethodName)) ∈ lw_all := lw_g (lw_at lw_m7 64 rfl) rfl
theorem q1624 : (Jvm.Cond.privateMethod ({ cls := "DoughBorderModel", name := "crustOf", desc := "(I)I" } : Jvm.MethodName)) ∈ lw_tbl := lw_at lw_m7 65 rfl
theorem q1625 : (Jvm.Cond.instanceMethod ({ cls := "DoughBorderModel", name := "crustOf", desc := "(I)I" } : Jvm.MethodName)) ∈ lw_all := lw_g (lw_at lw_m7 66 rfl) rfl
theorem q1626 : (Jvm.Cond.code ({ cls := "DoughBorderModel", name := "crustOf", desc := "(I)I" } : Jvm.MethodName) prog_17_method_61_code (3 : Nat) (Option.some Jvm.ClassFile.FieldType.int)) ∈ lw_all := lw_g (lw_at lw_m7 67 rfl) rfl
theorem q1627 : (Jvm.Cond.methodLink "DoughBorderModel" (416 : Nat) ({ cls := "DoughBorderModel", name := "crept", desc := "()J" } : Jvm.MethodName)) ∈ lw_all := lw_g (lw_at lw_m7 68 rfl) rfl
theorem q1628 : (Jvm.Cond.privateMethod ({ cls := "DoughBorderModel", name := "crept", desc := "()J" } : Jvm.MethodName)) ∈ lw_tbl := lw_at lw_m7 69 rfl
theorem q1629 : (Jvm.Cond.instanceMethod ({ cls := "DoughBorderModel", name := "crept", desc := "()J" } : Jvm.MethodName)) ∈ lw_all := lw_g (lw_at lw_m7 70 rfl) rfl
theorem q1630 : (Jvm.Cond.code ({ cls := "DoughBorderModel", name := "crept", desc := "()J" } : Jvm.MethodName) prog_17_method_51_code (3 : Nat) (Option.some Jvm.ClassFile.FieldType.long)) ∈ lw_all := lw_g (lw_at lw_m7 71 rfl) rfl
theorem q1631 : (Jvm.Cond.methodLink "DoughBorderModel" (382 : Nat) ({ cls := "DoughBorderModel", name := "answer", desc := "(III)J" } : Jvm.MethodName)) ∈ lw_all := lw_g (lw_at lw_m7 72 rfl) rfl
theorem q1632 : (Jvm.Cond.privateMethod ({ cls := "DoughBorderModel", name := "answer", desc := "(III)J" } : Jvm.MethodName)) ∈ lw_tbl := lw_at lw_m7 73 rfl
theorem q1633 : (Jvm.Cond.instanceMethod ({ cls := "DoughBorderModel", name := "answer", desc := "(III)J" } : Jvm.MethodName)) ∈ lw_all := lw_g (lw_at lw_m7 74 rfl) rfl
theorem q1634 : (Jvm.Cond.code ({ cls := "DoughBorderModel", name := "answer", desc := "(III)J" } : Jvm.MethodName) prog_17_method_54_code (8 : Nat) (Option.some Jvm.ClassFile.FieldType.long)) ∈ lw_all := lw_g (lw_at lw_m7 75 rfl) rfl
theorem q1635 : (Jvm.Cond.methodLink "DoughBorderModel" (390 : Nat) ({ cls := "DoughBorderModel", name := "both", desc := "(IJJ)J" } : Jvm.MethodName)) ∈ lw_all := lw_g (lw_at lw_m7 76 rfl) rfl
theorem q1636 : (Jvm.Cond.static ({ cls := "DoughBorderModel", name := "both", desc := "(IJJ)J" } : Jvm.MethodName)) ∈ lw_all := lw_g (lw_at lw_m7 77 rfl) rfl
theorem q1637 : (Jvm.Cond.code ({ cls := "DoughBorderModel", name := "both", desc := "(IJJ)J" } : Jvm.MethodName) prog_17_method_53_code (5 : Nat) (Option.some Jvm.ClassFile.FieldType.long)) ∈ lw_all := lw_g (lw_at lw_m7 78 rfl) rfl
theorem q1638 : (Jvm.Cond.methodLink "DoughBorderModel" (386 : Nat) ({ cls := "DoughBorderModel", name := "truth", desc := "(Z)J" } : Jvm.MethodName)) ∈ lw_all := lw_g (lw_at lw_m7 79 rfl) rfl
theorem q1639 : (Jvm.Cond.static ({ cls := "DoughBorderModel", name := "truth", desc := "(Z)J" } : Jvm.MethodName)) ∈ lw_all := lw_g (lw_at lw_m7 80 rfl) rfl
theorem q1640 : (Jvm.Cond.code ({ cls := "DoughBorderModel", name := "truth", desc := "(Z)J" } : Jvm.MethodName) prog_17_method_52_code (1 : Nat) (Option.some Jvm.ClassFile.FieldType.long)) ∈ lw_all := lw_g (lw_at lw_m7 81 rfl) rfl
theorem q1641 : (Jvm.Cond.methodLink "DoughBorderModel" (430 : Nat) ({ cls := "DoughBorderModel", name := "sags", desc := "(I)V" } : Jvm.MethodName)) ∈ lw_all := lw_g (lw_at lw_m7 82 rfl) rfl
theorem q1642 : (Jvm.Cond.privateMethod ({ cls := "DoughBorderModel", name := "sags", desc := "(I)V" } : Jvm.MethodName)) ∈ lw_tbl := lw_at lw_m7 83 rfl
theorem q1643 : (Jvm.Cond.instanceMethod ({ cls := "DoughBorderModel", name := "sags", desc := "(I)V" } : Jvm.MethodName)) ∈ lw_all := lw_g (lw_at lw_m7 84 rfl) rfl
theorem q1644 : (Jvm.Cond.code ({ cls := "DoughBorderModel", name := "sags", desc := "(I)V" } : Jvm.MethodName) prog_17_method_63_code (4 : Nat) (Option.none : Option Jvm.ClassFile.FieldType)) ∈ lw_all := lw_g (lw_at lw_m7 85 rfl) rfl
theorem q1645 : (Jvm.Cond.constantLong "DoughBorderModel" (420 : Nat) (-4 : Int64)) ∈ lw_all := lw_g (lw_at lw_m7 86 rfl) rfl
theorem q1646 : (Jvm.Cond.constantLong "DoughBorderModel" (422 : Nat) (4 : Int64)) ∈ lw_all := lw_g (lw_at lw_m7 87 rfl) rfl
theorem q1647 : (Jvm.Cond.methodLink "DoughBorderModel" (433 : Nat) ({ cls := "DoughBorderModel", name := "crossing", desc := "()I" } : Jvm.MethodName)) ∈ lw_all := lw_g (lw_at lw_m7 88 rfl) rfl
theorem q1648 : (Jvm.Cond.privateMethod ({ cls := "DoughBorderModel", name := "crossing", desc := "()I" } : Jvm.MethodName)) ∈ lw_tbl := lw_at lw_m7 89 rfl
theorem q1649 : (Jvm.Cond.instanceMethod ({ cls := "DoughBorderModel", name := "crossing", desc := "()I" } : Jvm.MethodName)) ∈ lw_all := lw_g (lw_at lw_m7 90 rfl) rfl
theorem q1650 : (Jvm.Cond.code ({ cls := "DoughBorderModel", name := "crossing", desc := "()I" } : Jvm.MethodName) prog_17_method_65_code (3 : Nat) (Option.some Jvm.ClassFile.FieldType.int)) ∈ lw_all := lw_g (lw_at lw_m7 91 rfl) rfl
theorem q1652 : (Jvm.Cond.instanceMethod ({ cls := "DoughBorderModel", name := "horses", desc := "(II)I" } : Jvm.MethodName)) ∈ lw_all := lw_g (lw_at lw_m7 93 rfl) rfl
theorem q1653 : (Jvm.Cond.selects "DoughBorderModel" ({ cls := "DoughBorderModel", name := "horses", desc := "(II)I" } : Jvm.MethodName) ({ cls := "DoughBorderModel", name := "horses", desc := "(II)I" } : Jvm.MethodName)) ∈ lw_all := lw_g (lw_at lw_m7 94 rfl) rfl
theorem q1654 : (Jvm.Cond.code ({ cls := "DoughBorderModel", name := "horses", desc := "(II)I" } : Jvm.MethodName) prog_17_method_76_code (3 : Nat) (Option.some Jvm.ClassFile.FieldType.int)) ∈ lw_all := lw_g (lw_at lw_m7 95 rfl) rfl
theorem q1655 : (Jvm.Cond.methodLink "DoughBorderModel" (463 : Nat) ({ cls := "DoughBorderModel", name := "isSoft", desc := "(I)Z" } : Jvm.MethodName)) ∈ lw_all := lw_g (lw_at lw_m7 96 rfl) rfl
theorem q1656 : (Jvm.Cond.privateMethod ({ cls := "DoughBorderModel", name := "isSoft", desc := "(I)Z" } : Jvm.MethodName)) ∈ lw_tbl := lw_at lw_m7 97 rfl
theorem q1657 : (Jvm.Cond.instanceMethod ({ cls := "DoughBorderModel", name := "isSoft", desc := "(I)Z" } : Jvm.MethodName)) ∈ lw_all := lw_g (lw_at lw_m7 98 rfl) rfl
theorem q1658 : (Jvm.Cond.code ({ cls := "DoughBorderModel", name := "isSoft", desc := "(I)Z" } : Jvm.MethodName) prog_17_method_11_code (2 : Nat) (Option.some Jvm.ClassFile.FieldType.boolean)) ∈ lw_all := lw_g (lw_at lw_m7 99 rfl) rfl
theorem q1659 : (Jvm.Cond.constantLong "DoughBorderModel" (466 : Nat) (-3 : Int64)) ∈ lw_all := lw_g (lw_at lw_m7 100 rfl) rfl
theorem q1660 : (Jvm.Cond.constantLong "DoughBorderModel" (468 : Nat) (3 : Int64)) ∈ lw_all := lw_g (lw_at lw_m7 101 rfl) rfl
theorem q1661 : (Jvm.Cond.methodLink "DoughBorderModel" (470 : Nat) ({ cls := "DoughBorderModel", name := "pushes", desc := "(II)V" } : Jvm.MethodName)) ∈ lw_all := lw_g (lw_at lw_m7 102 rfl) rfl
theorem q1662 : (Jvm.Cond.privateMethod ({ cls := "DoughBorderModel", name := "pushes", desc := "(II)V" } : Jvm.MethodName)) ∈ lw_tbl := lw_at lw_m7 103 rfl
theorem q1663 : (Jvm.Cond.instanceMethod ({ cls := "DoughBorderModel", name := "pushes", desc := "(II)V" } : Jvm.MethodName)) ∈ lw_all := lw_g (lw_at lw_m7 104 rfl) rfl
theorem q1664 : (Jvm.Cond.code ({ cls := "DoughBorderModel", name := "pushes", desc := "(II)V" } : Jvm.MethodName) prog_17_method_75_code (3 : Nat) (Option.none : Option Jvm.ClassFile.FieldType)) ∈ lw_all := lw_g (lw_at lw_m7 105 rfl) rfl
theorem q1666 : (Jvm.Cond.instanceMethod ({ cls := "DoughBorderModel", name := "salt", desc := "(I)I" } : Jvm.MethodName)) ∈ lw_all := lw_g (lw_at lw_m7 107 rfl) rfl
theorem q1667 : (Jvm.Cond.selects "DoughBorderModel" ({ cls := "DoughBorderModel", name := "salt", desc := "(I)I" } : Jvm.MethodName) ({ cls := "DoughBorderModel", name := "salt", desc := "(I)I" } : Jvm.MethodName)) ∈ lw_all := lw_g (lw_at lw_m7 108 rfl) rfl
theorem q1668 : (Jvm.Cond.code ({ cls := "DoughBorderModel", name := "salt", desc := "(I)I" } : Jvm.MethodName) prog_17_method_77_code (2 : Nat) (Option.some Jvm.ClassFile.FieldType.int)) ∈ lw_all := lw_g (lw_at lw_m7 109 rfl) rfl
theorem q1670 : (Jvm.Cond.instanceMethod ({ cls := "DoughBorderModel", name := "sugar", desc := "(I)I" } : Jvm.MethodName)) ∈ lw_all := lw_g (lw_at lw_m7 111 rfl) rfl
theorem q1671 : (Jvm.Cond.selects "DoughBorderModel" ({ cls := "DoughBorderModel", name := "sugar", desc := "(I)I" } : Jvm.MethodName) ({ cls := "DoughBorderModel", name := "sugar", desc := "(I)I" } : Jvm.MethodName)) ∈ lw_all := lw_g (lw_at lw_m7 112 rfl) rfl
theorem q1672 : (Jvm.Cond.code ({ cls := "DoughBorderModel", name := "sugar", desc := "(I)I" } : Jvm.MethodName) prog_17_method_78_code (2 : Nat) (Option.some Jvm.ClassFile.FieldType.int)) ∈ lw_all := lw_g (lw_at lw_m7 113 rfl) rfl
theorem q1674 : (Jvm.Cond.instanceMethod ({ cls := "DoughBorderModel", name := "slice", desc := "(II)I" } : Jvm.MethodName)) ∈ lw_all := lw_g (lw_at lw_m7 115 rfl) rfl
theorem q1675 : (Jvm.Cond.selects "DoughBorderModel" ({ cls := "DoughBorderModel", name := "slice", desc := "(II)I" } : Jvm.MethodName) ({ cls := "DoughBorderModel", name := "slice", desc := "(II)I" } : Jvm.MethodName)) ∈ lw_all := lw_g (lw_at lw_m7 116 rfl) rfl
theorem q1676 : (Jvm.Cond.code ({ cls := "DoughBorderModel", name := "slice", desc := "(II)I" } : Jvm.MethodName) prog_17_method_79_code (3 : Nat) (Option.some Jvm.ClassFile.FieldType.int)) ∈ lw_all := lw_g (lw_at lw_m7 117 rfl) rfl
theorem q1677 : (Jvm.Cond.constantLong "DoughBorderModel" (473 : Nat) (99 : Int64)) ∈ lw_all := lw_g (lw_at lw_m7 118 rfl) rfl
theorem q1679 : (Jvm.Cond.instanceMethod ({ cls := "DoughBorderModel", name := "bake", desc := "(I)Z" } : Jvm.MethodName)) ∈ lw_all := lw_g (lw_at lw_m7 120 rfl) rfl
theorem q1680 : (Jvm.Cond.selects "DoughBorderModel" ({ cls := "DoughBorderModel", name := "bake", desc := "(I)Z" } : Jvm.MethodName) ({ cls := "DoughBorderModel", name := "bake", desc := "(I)Z" } : Jvm.MethodName)) ∈ lw_all := lw_g (lw_at lw_m7 121 rfl) rfl
theorem q1681 : (Jvm.Cond.code ({ cls := "DoughBorderModel", name := "bake", desc := "(I)Z" } : Jvm.MethodName) prog_17_method_80_code (2 : Nat) (Option.some Jvm.ClassFile.FieldType.boolean)) ∈ lw_all := lw_g (lw_at lw_m7 122 rfl) rfl
theorem q1683 : (Jvm.Cond.instanceMethod ({ cls := "DoughBorderModel", name := "ahead", desc := "(III)I" } : Jvm.MethodName)) ∈ lw_all := lw_g (lw_at lw_m7 124 rfl) rfl
theorem q1684 : (Jvm.Cond.selects "DoughBorderModel" ({ cls := "DoughBorderModel", name := "ahead", desc := "(III)I" } : Jvm.MethodName) ({ cls := "DoughBorderModel", name := "ahead", desc := "(III)I" } : Jvm.MethodName)) ∈ lw_all := lw_g (lw_at lw_m7 125 rfl) rfl
theorem q1685 : (Jvm.Cond.code ({ cls := "DoughBorderModel", name := "ahead", desc := "(III)I" } : Jvm.MethodName) prog_17_method_84_code (5 : Nat) (Option.some Jvm.ClassFile.FieldType.int)) ∈ lw_all := lw_g (lw_at lw_m7 126 rfl) rfl
theorem q1686 : (Jvm.Cond.constantLong "DoughBorderModel" (478 : Nat) (100 : Int64)) ∈ lw_all := lw_g (lw_at lw_m7 127 rfl) rfl
theorem q1687 : (Jvm.Cond.constantLong "DoughBorderModel" (480 : Nat) (2 : Int64)) ∈ lw_all := lw_g (lw_at lw_m7 128 rfl) rfl
theorem q1688 : (Jvm.Cond.methodLink "DoughBorderModel" (482 : Nat) ({ cls := "DoughBorderModel", name := "keepsAll", desc := "()V" } : Jvm.MethodName)) ∈ lw_all := lw_g (lw_at lw_m7 129 rfl) rfl
theorem q1689 : (Jvm.Cond.privateMethod ({ cls := "DoughBorderModel", name := "keepsAll", desc := "()V" } : Jvm.MethodName)) ∈ lw_tbl := lw_at lw_m7 130 rfl
theorem q1690 : (Jvm.Cond.instanceMethod ({ cls := "DoughBorderModel", name := "keepsAll", desc := "()V" } : Jvm.MethodName)) ∈ lw_all := lw_g (lw_at lw_m7 131 rfl) rfl
theorem q1691 : (Jvm.Cond.code ({ cls := "DoughBorderModel", name := "keepsAll", desc := "()V" } : Jvm.MethodName) prog_17_method_81_code (1 : Nat) (Option.none : Option Jvm.ClassFile.FieldType)) ∈ lw_all := lw_g (lw_at lw_m7 132 rfl) rfl
theorem q1692 : (Jvm.Cond.methodLink "DoughBorderModel" (475 : Nat) ({ cls := "DoughBorderModel", name := "carriesAll", desc := "(IZ)V" } : Jvm.MethodName)) ∈ lw_all := lw_g (lw_at lw_m7 133 rfl) rfl
theorem q1693 : (Jvm.Cond.privateMethod ({ cls := "DoughBorderModel", name := "carriesAll", desc := "(IZ)V" } : Jvm.MethodName)) ∈ lw_tbl := lw_at lw_m7 134 rfl
theorem q1694 : (Jvm.Cond.instanceMethod ({ cls := "DoughBorderModel", name := "carriesAll", desc := "(IZ)V" } : Jvm.MethodName)) ∈ lw_all := lw_g (lw_at lw_m7 135 rfl) rfl
theorem q1695 : (Jvm.Cond.code ({ cls := "DoughBorderModel", name := "carriesAll", desc := "(IZ)V" } : Jvm.MethodName) prog_17_method_113_code (3 : Nat) (Option.none : Option Jvm.ClassFile.FieldType)) ∈ lw_all := lw_g (lw_at lw_m7 136 rfl) rfl
theorem q1696 : (Jvm.Cond.methodLink "DoughBorderModel" (570 : Nat) ({ cls := "DoughBorderModel", name := "carryRow", desc := "([I)V" } : Jvm.MethodName)) ∈ lw_all := lw_g (lw_at lw_m7 137 rfl) rfl
theorem q1697 : (Jvm.Cond.privateMethod ({ cls := "DoughBorderModel", name := "carryRow", desc := "([I)V" } : Jvm.MethodName)) ∈ lw_tbl := lw_at lw_m7 138 rfl
theorem q1698 : (Jvm.Cond.instanceMethod ({ cls := "DoughBorderModel", name := "carryRow", desc := "([I)V" } : Jvm.MethodName)) ∈ lw_all := lw_g (lw_at lw_m7 139 rfl) rfl
theorem q1699 : (Jvm.Cond.code ({ cls := "DoughBorderModel", name := "carryRow", desc := "([I)V" } : Jvm.MethodName) prog_17_method_112_code (3 : Nat) (Option.none : Option Jvm.ClassFile.FieldType)) ∈ lw_all := lw_g (lw_at lw_m7 140 rfl) rfl
theorem q1700 : (Jvm.Cond.methodLink "DoughBorderModel" (485 : Nat) ({ cls := "DoughBorderModel", name := "goes", desc := "(I)I" } : Jvm.MethodName)) ∈ lw_all := lw_g (lw_at lw_m7 141 rfl) rfl
theorem q1701 : (Jvm.Cond.privateMethod ({ cls := "DoughBorderModel", name := "goes", desc := "(I)I" } : Jvm.MethodName)) ∈ lw_tbl := lw_at lw_m7 142 rfl
theorem q1702 : (Jvm.Cond.instanceMethod ({ cls := "DoughBorderModel", name := "goes", desc := "(I)I" } : Jvm.MethodName)) ∈ lw_all := lw_g (lw_at lw_m7 143 rfl) rfl
theorem q1703 : (Jvm.Cond.code ({ cls := "DoughBorderModel", name := "goes", desc := "(I)I" } : Jvm.MethodName) prog_17_method_68_code (4 : Nat) (Option.some Jvm.ClassFile.FieldType.int)) ∈ lw_all := lw_g (lw_at lw_m7 144 rfl) rfl
theorem q1704 : (Jvm.Cond.methodLink "DoughBorderModel" (488 : Nat) ({ cls := "DoughBorderModel", name := "villagesOn", desc := "(I)I" } : Jvm.MethodName)) ∈ lw_all := lw_g (lw_at lw_m7 145 rfl) rfl
theorem q1705 : (Jvm.Cond.privateMethod ({ cls := "DoughBorderModel", name := "villagesOn", desc := "(I)I" } : Jvm.MethodName)) ∈ lw_tbl := lw_at lw_m7 146 rfl
theorem q1706 : (Jvm.Cond.instanceMethod ({ cls := "DoughBorderModel", name := "villagesOn", desc := "(I)I" } : Jvm.MethodName)) ∈ lw_all := lw_g (lw_at lw_m7 147 rfl) rfl
theorem q1707 : (Jvm.Cond.code ({ cls := "DoughBorderModel", name := "villagesOn", desc := "(I)I" } : Jvm.MethodName) prog_17_method_83_code (4 : Nat) (Option.some Jvm.ClassFile.FieldType.int)) ∈ lw_all := lw_g (lw_at lw_m7 148 rfl) rfl
theorem q1708 : (Jvm.Cond.methodLink "DoughBorderModel" (491 : Nat) ({ cls := "DoughBorderModel", name := "laysBack", desc := "()V" } : Jvm.MethodName)) ∈ lw_all := lw_g (lw_at lw_m7 149 rfl) rfl
theorem q1709 : (Jvm.Cond.privateMethod ({ cls := "DoughBorderModel", name := "laysBack", desc := "()V" } : Jvm.MethodName)) ∈ lw_tbl := lw_at lw_m7 150 rfl
theorem q1710 : (Jvm.Cond.instanceMethod ({ cls := "DoughBorderModel", name := "laysBack", desc := "()V" } : Jvm.MethodName)) ∈ lw_all := lw_g (lw_at lw_m7 151 rfl) rfl
theorem q1711 : (Jvm.Cond.code ({ cls := "DoughBorderModel", name := "laysBack", desc := "()V" } : Jvm.MethodName) prog_17_method_82_code (1 : Nat) (Option.none : Option Jvm.ClassFile.FieldType)) ∈ lw_all := lw_g (lw_at lw_m7 152 rfl) rfl
theorem q1713 : (Jvm.Cond.instanceMethod ({ cls := "DoughBorderModel", name := "crosses", desc := "(I)I" } : Jvm.MethodName)) ∈ lw_all := lw_g (lw_at lw_m7 154 rfl) rfl
theorem q1714 : (Jvm.Cond.selects "DoughBorderModel" ({ cls := "DoughBorderModel", name := "crosses", desc := "(I)I" } : Jvm.MethodName) ({ cls := "DoughBorderModel", name := "crosses", desc := "(I)I" } : Jvm.MethodName)) ∈ lw_all := lw_g (lw_at lw_m7 155 rfl) rfl
theorem q1715 : (Jvm.Cond.code ({ cls := "DoughBorderModel", name := "crosses", desc := "(I)I" } : Jvm.MethodName) prog_17_method_85_code (5 : Nat) (Option.some Jvm.ClassFile.FieldType.int)) ∈ lw_all := lw_g (lw_at lw_m7 156 rfl) rfl
theorem q1717 : (Jvm.Cond.instanceMethod ({ cls := "DoughBorderModel", name := "push", desc := "(II)I" } : Jvm.MethodName)) ∈ lw_all := lw_g (lw_at lw_m7 158 rfl) rfl
theorem q1718 : (Jvm.Cond.selects "DoughBorderModel" ({ cls := "DoughBorderModel", name := "push", desc := "(II)I" } : Jvm.MethodName) ({ cls := "DoughBorderModel", name := "push", desc := "(II)I" } : Jvm.MethodName)) ∈ lw_all := lw_g (lw_at lw_m7 159 rfl) rfl
theorem q1719 : (Jvm.Cond.code ({ cls := "DoughBorderModel", name := "push", desc := "(II)I" } : Jvm.MethodName) prog_17_method_89_code (4 : Nat) (Option.some Jvm.ClassFile.FieldType.int)) ∈ lw_all := lw_g (lw_at lw_m7 160 rfl) rfl
theorem q1720 : (Jvm.Cond.methodLink "DoughBorderModel" (500 : Nat) ({ cls := "DoughBorderModel", name := "findsPush", desc := "(I)I" } : Jvm.MethodName)) ∈ lw_all := lw_g (lw_at lw_m7 161 rfl) rfl
theorem q1721 : (Jvm.Cond.privateMethod ({ cls := "DoughBorderModel", name := "findsPush", desc := "(I)I" } : Jvm.MethodName)) ∈ lw_tbl := lw_at lw_m7 162 rfl
theorem q1722 : (Jvm.Cond.instanceMethod ({ cls := "DoughBorderModel", name := "findsPush", desc := "(I)I" } : Jvm.MethodName)) ∈ lw_all := lw_g (lw_at lw_m7 163 rfl) rfl
theorem q1723 : (Jvm.Cond.code ({ cls := "DoughBorderModel", name := "findsPush", desc := "(I)I" } : Jvm.MethodName) prog_17_method_88_code (8 : Nat) (Option.some Jvm.ClassFile.FieldType.int)) ∈ lw_all := lw_g (lw_at lw_m7 164 rfl) rfl
theorem q1724 : (Jvm.Cond.methodLink "DoughBorderModel" (497 : Nat) ({ cls := "DoughBorderModel", name := "pushesBy", desc := "(I)I" } : Jvm.MethodName)) ∈ lw_all := lw_g (lw_at lw_m7 165 rfl) rfl
theorem q1725 : (Jvm.Cond.privateMethod ({ cls := "DoughBorderModel", name := "pushesBy", desc := "(I)I" } : Jvm.MethodName)) ∈ lw_tbl := lw_at lw_m7 166 rfl
theorem q1726 : (Jvm.Cond.instanceMethod ({ cls := "DoughBorderModel", name := "pushesBy", desc := "(I)I" } : Jvm.MethodName)) ∈ lw_all := lw_g (lw_at lw_m7 167 rfl) rfl
theorem q1727 : (Jvm.Cond.code ({ cls := "DoughBorderModel", name := "pushesBy", desc := "(I)I" } : Jvm.MethodName) prog_17_method_87_code (6 : Nat) (Option.some Jvm.ClassFile.FieldType.int)) ∈ lw_all := lw_g (lw_at lw_m7 168 rfl) rfl
theorem q1728 : (Jvm.Cond.methodLink "DoughBorderModel" (494 : Nat) ({ cls := "DoughBorderModel", name := "areWantsSo", desc := "()Z" } : Jvm.MethodName)) ∈ lw_all := lw_g (lw_at lw_m7 169 rfl) rfl
theorem q1729 : (Jvm.Cond.privateMethod ({ cls := "DoughBorderModel", name := "areWantsSo", desc := "()Z" } : Jvm.MethodName)) ∈ lw_tbl := lw_at lw_m7 170 rfl
theorem q1730 : (Jvm.Cond.instanceMethod ({ cls := "DoughBorderModel", name := "areWantsSo", desc := "()Z" } : Jvm.MethodName)) ∈ lw_all := lw_g (lw_at lw_m7 171 rfl) rfl
theorem q1731 : (Jvm.Cond.code ({ cls := "DoughBorderModel", name := "areWantsSo", desc := "()Z" } : Jvm.MethodName) prog_17_method_86_code (2 : Nat) (Option.some Jvm.ClassFile.FieldType.boolean)) ∈ lw_all := lw_g (lw_at lw_m7 172 rfl) rfl
theorem q1733 : (Jvm.Cond.instanceMethod ({ cls := "DoughBorderModel", name := "dukes", desc := "(II)I" } : Jvm.MethodName)) ∈ lw_all := lw_g (lw_at lw_m7 174 rfl) rfl
theorem q1734 : (Jvm.Cond.selects "DoughBorderModel" ({ cls := "DoughBorderModel", name := "dukes", desc := "(II)I" } : Jvm.MethodName) ({ cls := "DoughBorderModel", name := "dukes", desc := "(II)I" } : Jvm.MethodName)) ∈ lw_all := lw_g (lw_at lw_m7 175 rfl) rfl
theorem q1735 : (Jvm.Cond.code ({ cls := "DoughBorderModel", name := "dukes", desc := "(II)I" } : Jvm.MethodName) prog_17_method_97_code (4 : Nat) (Option.some Jvm.ClassFile.FieldType.int)) ∈ lw_all := lw_g (lw_at lw_m7 176 rfl) rfl
theorem q1736 : (Jvm.Cond.methodLink "DoughBorderModel" (528 : Nat) ({ cls := "DoughBorderModel", name := "playsDukes", desc := "(I)I" } : Jvm.MethodName)) ∈ lw_all := lw_g (lw_at lw_m7 177 rfl) rfl
theorem q1737 : (Jvm.Cond.privateMethod ({ cls := "DoughBorderModel", name := "playsDukes", desc := "(I)I" } : Jvm.MethodName)) ∈ lw_tbl := lw_at lw_m7 178 rfl
theorem q1738 : (Jvm.Cond.instanceMethod ({ cls := "DoughBorderModel", name := "playsDukes", desc := "(I)I" } : Jvm.MethodName)) ∈ lw_all := lw_g (lw_at lw_m7 179 rfl) rfl
theorem q1739 : (Jvm.Cond.code ({ cls := "DoughBorderModel", name := "playsDukes", desc := "(I)I" } : Jvm.MethodName) prog_17_method_93_code (3 : Nat) (Option.some Jvm.ClassFile.FieldType.int)) ∈ lw_all := lw_g (lw_at lw_m7 180 rfl) rfl
theorem q1740 : (Jvm.Cond.methodLink "DoughBorderModel" (506 : Nat) ({ cls := "DoughBorderModel", name := "movesDuke", desc := "(IZ)V" } : Jvm.MethodName)) ∈ lw_all := lw_g (lw_at lw_m7 181 rfl) rfl
theorem q1741 : (Jvm.Cond.privateMethod ({ cls := "DoughBorderModel", name := "movesDuke", desc := "(IZ)V" } : Jvm.MethodName)) ∈ lw_tbl := lw_at lw_m7 182 rfl
theorem q1742 : (Jvm.Cond.instanceMethod ({ cls := "DoughBorderModel", name := "movesDuke", desc := "(IZ)V" } : Jvm.MethodName)) ∈ lw_all := lw_g (lw_at lw_m7 183 rfl) rfl
theorem q1743 : (Jvm.Cond.code ({ cls := "DoughBorderModel", name := "movesDuke", desc := "(IZ)V" } : Jvm.MethodName) prog_17_method_90_code (5 : Nat) (Option.none : Option Jvm.ClassFile.FieldType)) ∈ lw_all := lw_g (lw_at lw_m7 184 rfl) rfl
theorem q1744 : (Jvm.Cond.methodLink "DoughBorderModel" (512 : Nat) ({ cls := "DoughBorderModel", name := "westLessEast", desc := "()I" } : Jvm.MethodName)) ∈ lw_all := lw_g (lw_at lw_m7 185 rfl) rfl
theorem q1745 : (Jvm.Cond.privateMethod ({ cls := "DoughBorderModel", name := "westLessEast", desc := "()I" } : Jvm.MethodName)) ∈ lw_tbl := lw_at lw_m7 186 rfl
theorem q1746 : (Jvm.Cond.instanceMethod ({ cls := "DoughBorderModel", name := "westLessEast", desc := "()I" } : Jvm.MethodName)) ∈ lw_all := lw_g (lw_at lw_m7 187 rfl) rfl
theorem q1747 : (Jvm.Cond.code ({ cls := "DoughBorderModel", name := "westLessEast", desc := "()I" } : Jvm.MethodName) prog_17_method_91_code (1 : Nat) (Option.some Jvm.ClassFile.FieldType.int)) ∈ lw_all := lw_g (lw_at lw_m7 188 rfl) rfl
theorem q1748 : (Jvm.Cond.methodLink "DoughBorderModel" (503 : Nat) ({ cls := "DoughBorderModel", name := "bits", desc := "(I)I" } : Jvm.MethodName)) ∈ lw_all := lw_g (lw_at lw_m7 189 rfl) rfl
theorem q1749 : (Jvm.Cond.static ({ cls := "DoughBorderModel", name := "bits", desc := "(I)I" } : Jvm.MethodName)) ∈ lw_all := lw_g (lw_at lw_m7 190 rfl) rfl
theorem q1750 : (Jvm.Cond.code ({ cls := "DoughBorderModel", name := "bits", desc := "(I)I" } : Jvm.MethodName) prog_17_method_4_code (3 : Nat) (Option.some Jvm.ClassFile.FieldType.int)) ∈ lw_all := lw_g (lw_at lw_m7 191 rfl) rfl
theorem q1751 : (Jvm.Cond.methodLink "DoughBorderModel" (515 : Nat) ({ cls := "DoughBorderModel", name := "takesWorth", desc := "(II)V" } : Jvm.MethodName)) ∈ lw_all := lw_g (lw_at lw_m7 192 rfl) rfl
theorem q1752 : (Jvm.Cond.privateMethod ({ cls := "DoughBorderModel", name := "takesWorth", desc := "(II)V" } : Jvm.MethodName)) ∈ lw_tbl := lw_at lw_m7 193 rfl
theorem q1753 : (Jvm.Cond.instanceMethod ({ cls := "DoughBorderModel", name := "takesWorth", desc := "(II)V" } : Jvm.MethodName)) ∈ lw_all := lw_g (lw_at lw_m7 194 rfl) rfl
theorem q1754 : (Jvm.Cond.code ({ cls := "DoughBorderModel", name := "takesWorth", desc := "(II)V" } : Jvm.MethodName) prog_17_method_96_code (3 : Nat) (Option.none : Option Jvm.ClassFile.FieldType)) ∈ lw_all := lw_g (lw_at lw_m7 195 rfl) rfl
theorem q1755 : (Jvm.Cond.methodLink "DoughBorderModel" (524 : Nat) ({ cls := "DoughBorderModel", name := "isBetter", desc := "(III)Z" } : Jvm.MethodName)) ∈ lw_all := lw_g (lw_at lw_m7 196 rfl) rfl
theorem q1756 : (Jvm.Cond.static ({ cls := "DoughBorderModel", name := "isBetter", desc := "(III)Z" } : Jvm.MethodName)) ∈ lw_all := lw_g (lw_at lw_m7 197 rfl) rfl
theorem q1757 : (Jvm.Cond.code ({ cls := "DoughBorderModel", name := "isBetter", desc := "(III)Z" } : Jvm.MethodName) prog_17_method_92_code (3 : Nat) (Option.some Jvm.ClassFile.FieldType.boolean)) ∈ lw_all := lw_g (lw_at lw_m7 198 rfl) rfl
theorem q1758 : (Jvm.Cond.methodLink "DoughBorderModel" (518 : Nat) ({ cls := "DoughBorderModel", name := "goesDuke", desc := "(I)V" } : Jvm.MethodName)) ∈ lw_all := lw_g (lw_at lw_m7 199 rfl) rfl
theorem q1759 : (Jvm.Cond.privateMethod ({ cls := "DoughBorderModel", name := "goesDuke", desc := "(I)V" } : Jvm.MethodName)) ∈ lw_tbl := lw_at lw_m7 200 rfl
theorem q1760 : (Jvm.Cond.instanceMethod ({ cls := "DoughBorderModel", name := "goesDuke", desc := "(I)V" } : Jvm.MethodName)) ∈ lw_all := lw_g (lw_at lw_m7 201 rfl) rfl
theorem q1761 : (Jvm.Cond.code ({ cls := "DoughBorderModel", name := "goesDuke", desc := "(I)V" } : Jvm.MethodName) prog_17_method_94_code (2 : Nat) (Option.none : Option Jvm.ClassFile.FieldType)) ∈ lw_all := lw_g (lw_at lw_m7 202 rfl) rfl
theorem q1762 : (Jvm.Cond.methodLink "DoughBorderModel" (521 : Nat) ({ cls := "DoughBorderModel", name := "opensDuke", desc := "(II)V" } : Jvm.MethodName)) ∈ lw_all := lw_g (lw_at lw_m7 203 rfl) rfl
theorem q1763 : (Jvm.Cond.privateMethod ({ cls := "DoughBorderModel", name := "opensDuke", desc := "(II)V" } : Jvm.MethodName)) ∈ lw_tbl := lw_at lw_m7 204 rfl
theorem q1764 : (Jvm.Cond.instanceMethod ({ cls := "DoughBorderModel", name := "opensDuke", desc := "(II)V" } : Jvm.MethodName)) ∈ lw_all := lw_g (lw_at lw_m7 205 rfl) rfl
theorem q1765 : (Jvm.Cond.code ({ cls := "DoughBorderModel", name := "opensDuke", desc := "(II)V" } : Jvm.MethodName) prog_17_method_95_code (3 : Nat) (Option.none : Option Jvm.ClassFile.FieldType)) ∈ lw_all := lw_g (lw_at lw_m7 206 rfl) rfl
theorem q1767 : (Jvm.Cond.instanceMethod ({ cls := "DoughBorderModel", name := "log", desc := "(III)I" } : Jvm.MethodName)) ∈ lw_all := lw_g (lw_at lw_m7 208 rfl) rfl
theorem q1768 : (Jvm.Cond.selects "DoughBorderModel" ({ cls := "DoughBorderModel", name := "log", desc := "(III)I" } : Jvm.MethodName) ({ cls := "DoughBorderModel", name := "log", desc := "(III)I" } : Jvm.MethodName)) ∈ lw_all := lw_g (lw_at lw_m7 209 rfl) rfl
theorem q1769 : (Jvm.Cond.code ({ cls := "DoughBorderModel", name := "log", desc := "(III)I" } : Jvm.MethodName) prog_17_method_98_code (5 : Nat) (Option.some Jvm.ClassFile.FieldType.int)) ∈ lw_all := lw_g (lw_at lw_m7 210 rfl) rfl
theorem q1770 : (Jvm.Cond.constantLong "DoughBorderModel" (531 : Nat) (30 : Int64)) ∈ lw_all := lw_g (lw_at lw_m7 211 rfl) rfl
theorem q1772 : (Jvm.Cond.instanceMethod ({ cls := "DoughBorderModel", name := "theft", desc := "(II)I" } : Jvm.MethodName)) ∈ lw_all := lw_g (lw_at lw_m7 213 rfl) rfl
theorem q1773 : (Jvm.Cond.selects "DoughBorderModel" ({ cls := "DoughBorderModel", name := "theft", desc := "(II)I" } : Jvm.MethodName) ({ cls := "DoughBorderModel", name := "theft", desc := "(II)I" } : Jvm.MethodName)) ∈ lw_all := lw_g (lw_at lw_m7 214 rfl) rfl
theorem q1774 : (Jvm.Cond.code ({ cls := "DoughBorderModel", name := "theft", desc := "(II)I" } : Jvm.MethodName) prog_17_method_101_code (8 : Nat) (Option.some Jvm.ClassFile.FieldType.int)) ∈ lw_all := lw_g (lw_at lw_m7 215 rfl) rfl
theorem q1775 : (Jvm.Cond.methodLink "DoughBorderModel" (540 : Nat) ({ cls := "DoughBorderModel", name := "doesFit", desc := "(III)Z" } : Jvm.MethodName)) ∈ lw_all := lw_g (lw_at lw_m7 216 rfl) rfl
theorem q1776 : (Jvm.Cond.privateMethod ({ cls := "DoughBorderModel", name := "doesFit", desc := "(III)Z" } : Jvm.MethodName)) ∈ lw_tbl := lw_at lw_m7 217 rfl
theorem q1777 : (Jvm.Cond.instanceMethod ({ cls := "DoughBorderModel", name := "doesFit", desc := "(III)Z" } : Jvm.MethodName)) ∈ lw_all := lw_g (lw_at lw_m7 218 rfl) rfl
theorem q1778 : (Jvm.Cond.code ({ cls := "DoughBorderModel", name := "doesFit", desc := "(III)Z" } : Jvm.MethodName) prog_17_method_100_code (6 : Nat) (Option.some Jvm.ClassFile.FieldType.boolean)) ∈ lw_all := lw_g (lw_at lw_m7 219 rfl) rfl
theorem q1779 : (Jvm.Cond.methodLink "DoughBorderModel" (536 : Nat) ({ cls := "DoughBorderModel", name := "laysCourse", desc := "(IIII)V" } : Jvm.MethodName)) ∈ lw_all := lw_g (lw_at lw_m7 220 rfl) rfl
theorem q1780 : (Jvm.Cond.privateMethod ({ cls := "DoughBorderModel", name := "laysCourse", desc := "(IIII)V" } : Jvm.MethodName)) ∈ lw_tbl := lw_at lw_m7 221 rfl
theorem q1781 : (Jvm.Cond.instanceMethod ({ cls := "DoughBorderModel", name := "laysCourse", desc := "(IIII)V" } : Jvm.MethodName)) ∈ lw_all := lw_g (lw_at lw_m7 222 rfl) rfl
theorem q1782 : (Jvm.Cond.code ({ cls := "DoughBorderModel", name := "laysCourse", desc := "(IIII)V" } : Jvm.MethodName) prog_17_method_99_code (8 : Nat) (Option.none : Option Jvm.ClassFile.FieldType)) ∈ lw_all := lw_g (lw_at lw_m7 223 rfl) rfl
theorem q1784 : (Jvm.Cond.instanceMethod ({ cls := "DoughBorderModel", name := "weigh", desc := "(III)I" } : Jvm.MethodName)) ∈ lw_all := lw_g (lw_at lw_m7 225 rfl) rfl
theorem q1785 : (Jvm.Cond.selects "DoughBorderModel" ({ cls := "DoughBorderModel", name := "weigh", desc := "(III)I" } : Jvm.MethodName) ({ cls := "DoughBorderModel", name := "weigh", desc := "(III)I" } : Jvm.MethodName)) ∈ lw_all := lw_g (lw_at lw_m7 226 rfl) rfl
theorem q1786 : (Jvm.Cond.code ({ cls := "DoughBorderModel", name := "weigh", desc := "(III)I" } : Jvm.MethodName) prog_17_method_102_code (10 : Nat) (Option.some Jvm.ClassFile.FieldType.int)) ∈ lw_all := lw_g (lw_at lw_m7 227 rfl) rfl
theorem q1788 : (Jvm.Cond.instanceMethod ({ cls := "DoughBorderModel", name := "crust", desc := "(IIII)I" } : Jvm.MethodName)) ∈ lw_all := lw_g (lw_at lw_m7 229 rfl) rfl
theorem q1789 : (Jvm.Cond.selects "DoughBorderModel" ({ cls := "DoughBorderModel", name := "crust", desc := "(IIII)I" } : Jvm.MethodName) ({ cls := "DoughBorderModel", name := "crust", desc := "(IIII)I" } : Jvm.MethodName)) ∈ lw_all := lw_g (lw_at lw_m7 230 rfl) rfl
theorem q1790 : (Jvm.Cond.code ({ cls := "DoughBorderModel", name := "crust", desc := "(IIII)I" } : Jvm.MethodName) prog_17_method_104_code (9 : Nat) (Option.some Jvm.ClassFile.FieldType.int)) ∈ lw_all := lw_g (lw_at lw_m7 231 rfl) rfl
theorem q1791 : (Jvm.Cond.constantLong "DoughBorderModel" (543 : Nat) (60 : Int64)) ∈ lw_all := lw_g (lw_at lw_m7 232 rfl) rfl
theorem q1792 : (Jvm.Cond.methodLink "DoughBorderModel" (545 : Nat) ({ cls := "DoughBorderModel", name := "ownNights", desc := "(IIII)I" } : Jvm.MethodName)) ∈ lw_all := lw_g (lw_at lw_m7 233 rfl) rfl
theorem q1793 : (Jvm.Cond.privateMethod ({ cls := "DoughBorderModel", name := "ownNights", desc := "(IIII)I" } : Jvm.MethodName)) ∈ lw_tbl := lw_at lw_m7 234 rfl
theorem q1794 : (Jvm.Cond.instanceMethod ({ cls := "DoughBorderModel", name := "ownNights", desc := "(IIII)I" } : Jvm.MethodName)) ∈ lw_all := lw_g (lw_at lw_m7 235 rfl) rfl
theorem q1795 : (Jvm.Cond.code ({ cls := "DoughBorderModel", name := "ownNights", desc := "(IIII)I" } : Jvm.MethodName) prog_17_method_103_code (7 : Nat) (Option.some Jvm.ClassFile.FieldType.int)) ∈ lw_all := lw_g (lw_at lw_m7 236 rfl) rfl
theorem q1797 : (Jvm.Cond.instanceMethod ({ cls := "DoughBorderModel", name := "peace", desc := "(II)I" } : Jvm.MethodName)) ∈ lw_all := lw_g (lw_at lw_m7 238 rfl) rfl
theorem q1798 : (Jvm.Cond.selects "DoughBorderModel" ({ cls := "DoughBorderModel", name := "peace", desc := "(II)I" } : Jvm.MethodName) ({ cls := "DoughBorderModel", name := "peace", desc := "(II)I" } : Jvm.MethodName)) ∈ lw_all := lw_g (lw_at lw_m7 239 rfl) rfl
theorem q1799 : (Jvm.Cond.code ({ cls := "DoughBorderModel", name := "peace", desc := "(II)I" } : Jvm.MethodName) prog_17_method_105_code (6 : Nat) (Option.some Jvm.ClassFile.FieldType.int)) ∈ lw_all := lw_g (lw_at lw_m8 0 rfl) rfl
theorem q1801 : (Jvm.Cond.instanceMethod ({ cls := "DoughBorderModel", name := "part", desc := "(I)I" } : Jvm.MethodName)) ∈ lw_all := lw_g (lw_at lw_m8 2 rfl) rfl
theorem q1802 : (Jvm.Cond.selects "DoughBorderModel" ({ cls := "DoughBorderModel", name := "part", desc := "(I)I" } : Jvm.MethodName) ({ cls := "DoughBorderModel", name := "part", desc := "(I)I" } : Jvm.MethodName)) ∈ lw_all := lw_g (lw_at lw_m8 3 rfl) rfl
theorem q1803 : (Jvm.Cond.code ({ cls := "DoughBorderModel", name := "part", desc := "(I)I" } : Jvm.MethodName) prog_17_method_106_code (7 : Nat) (Option.some Jvm.ClassFile.FieldType.int)) ∈ lw_all := lw_g (lw_at lw_m8 4 rfl) rfl
theorem q1805 : (Jvm.Cond.instanceMethod ({ cls := "DoughBorderModel", name := "seed", desc := "(I)I" } : Jvm.MethodName)) ∈ lw_all := lw_g (lw_at lw_m8 6 rfl) rfl
theorem q1806 : (Jvm.Cond.selects "DoughBorderModel" ({ cls := "DoughBorderModel", name := "seed", desc := "(I)I" } : Jvm.MethodName) ({ cls := "DoughBorderModel", name := "seed", desc := "(I)I" } : Jvm.MethodName)) ∈ lw_all := lw_g (lw_at lw_m8 7 rfl) rfl
theorem q1807 : (Jvm.Cond.code ({ cls := "DoughBorderModel", name := "seed", desc := "(I)I" } : Jvm.MethodName) prog_17_method_107_code (3 : Nat) (Option.some Jvm.ClassFile.FieldType.int)) ∈ lw_all := lw_g (lw_at lw_m8 8 rfl) rfl
theorem q1809 : (Jvm.Cond.instanceMethod ({ cls := "DoughBorderModel", name := "summers", desc := "(III)I" } : Jvm.MethodName)) ∈ lw_all := lw_g (lw_at lw_m8 10 rfl) rfl
theorem q1810 : (Jvm.Cond.selects "DoughBorderModel" ({ cls := "DoughBorderModel", name := "summers", desc := "(III)I" } : Jvm.MethodName) ({ cls := "DoughBorderModel", name := "summers", desc := "(III)I" } : Jvm.MethodName)) ∈ lw_all := lw_g (lw_at lw_m8 11 rfl) rfl
theorem q1811 : (Jvm.Cond.code ({ cls := "DoughBorderModel", name := "summers", desc := "(III)I" } : Jvm.MethodName) prog_17_method_109_code (10 : Nat) (Option.some Jvm.ClassFile.FieldType.int)) ∈ lw_all := lw_g (lw_at lw_m8 12 rfl) rfl
theorem q1812 : (Jvm.Cond.constantLong "DoughBorderModel" (556 : Nat) (10 : Int64)) ∈ lw_all := lw_g (lw_at lw_m8 13 rfl) rfl
theorem q1813 : (Jvm.Cond.methodLink "DoughBorderModel" (558 : Nat) ({ cls := "DoughBorderModel", name := "draws", desc := "(I)I" } : Jvm.MethodName)) ∈ lw_all := lw_g (lw_at lw_m8 14 rfl) rfl
theorem q1814 : (Jvm.Cond.privateMethod ({ cls := "DoughBorderModel", name := "draws", desc := "(I)I" } : Jvm.MethodName)) ∈ lw_tbl := lw_at lw_m8 15 rfl
theorem q1815 : (Jvm.Cond.instanceMethod ({ cls := "DoughBorderModel", name := "draws", desc := "(I)I" } : Jvm.MethodName)) ∈ lw_all := lw_g (lw_at lw_m8 16 rfl) rfl
theorem q1816 : (Jvm.Cond.code ({ cls := "DoughBorderModel", name := "draws", desc := "(I)I" } : Jvm.MethodName) prog_17_method_108_code (2 : Nat) (Option.some Jvm.ClassFile.FieldType.int)) ∈ lw_all := lw_g (lw_at lw_m8 17 rfl) rfl
theorem q1817 : (Jvm.Cond.constantLong "DoughBorderModel" (549 : Nat) (1103515245 : Int64)) ∈ lw_all := lw_g (lw_at lw_m8 18 rfl) rfl
theorem q1818 : (Jvm.Cond.constantLong "DoughBorderModel" (551 : Nat) (12345 : Int64)) ∈ lw_all := lw_g (lw_at lw_m8 19 rfl) rfl
theorem q1819 : (Jvm.Cond.constantLong "DoughBorderModel" (553 : Nat) (2147483648 : Int64)) ∈ lw_all := lw_g (lw_at lw_m8 20 rfl) rfl
theorem q1820 : (Jvm.Cond.constant "DoughBorderModel" (555 : Nat) (65536 : Int32)) ∈ lw_all := lw_g (lw_at lw_m8 21 rfl) rfl
theorem q1822 : (Jvm.Cond.instanceMethod ({ cls := "DoughBorderModel", name := "count", desc := "(I)I" } : Jvm.MethodName)) ∈ lw_all := lw_g (lw_at lw_m8 23 rfl) rfl
theorem q1823 : (Jvm.Cond.selects "DoughBorderModel" ({ cls := "DoughBorderModel", name := "count", desc := "(I)I" } : Jvm.MethodName) ({ cls := "DoughBorderModel", name := "count", desc := "(I)I" } : Jvm.MethodName)) ∈ lw_all := lw_g (lw_at lw_m8 24 rfl) rfl
theorem q1824 : (Jvm.Cond.code ({ cls := "DoughBorderModel", name := "count", desc := "(I)I" } : Jvm.MethodName) prog_17_method_111_code (2 : Nat) (Option.some Jvm.ClassFile.FieldType.int)) ∈ lw_all := lw_g (lw_at lw_m8 25 rfl) rfl
theorem q1825 : (Jvm.Cond.methodLink "DoughBorderModel" (561 : Nat) ({ cls := "DoughBorderModel", name := "crossedAll", desc := "()I" } : Jvm.MethodName)) ∈ lw_all := lw_g (lw_at lw_m8 26 rfl) rfl
theorem q1826 : (Jvm.Cond.privateMethod ({ cls := "DoughBorderModel", name := "crossedAll", desc := "()I" } : Jvm.MethodName)) ∈ lw_tbl := lw_at lw_m8 27 rfl
theorem q1827 : (Jvm.Cond.instanceMethod ({ cls := "DoughBorderModel", name := "crossedAll", desc := "()I" } : Jvm.MethodName)) ∈ lw_all := lw_g (lw_at lw_m8 28 rfl) rfl
theorem q1828 : (Jvm.Cond.code ({ cls := "DoughBorderModel", name := "crossedAll", desc := "()I" } : Jvm.MethodName) prog_17_method_110_code (3 : Nat) (Option.some Jvm.ClassFile.FieldType.int)) ∈ lw_all := lw_g (lw_at lw_m8 29 rfl) rfl
theorem q1830 : (Jvm.Cond.instanceMethod ({ cls := "DoughBorderModel", name := "image", desc := "(I)I" } : Jvm.MethodName)) ∈ lw_all := lw_g (lw_at lw_m8 31 rfl) rfl
theorem q1831 : (Jvm.Cond.selects "DoughBorderModel" ({ cls := "DoughBorderModel", name := "image", desc := "(I)I" } : Jvm.MethodName) ({ cls := "DoughBorderModel", name := "image", desc := "(I)I" } : Jvm.MethodName)) ∈ lw_all := lw_g (lw_at lw_m8 32 rfl) rfl
theorem q1832 : (Jvm.Cond.code ({ cls := "DoughBorderModel", name := "image", desc := "(I)I" } : Jvm.MethodName) prog_17_method_114_code (2 : Nat) (Option.some Jvm.ClassFile.FieldType.int)) ∈ lw_all := lw_g (lw_at lw_m8 33 rfl) rfl
theorem q1834 : (Jvm.Cond.instanceMethod ({ cls := "DoughBorderModel", name := "back", desc := "(I)I" } : Jvm.MethodName)) ∈ lw_all := lw_g (lw_at lw_m8 35 rfl) rfl
theorem q1835 : (Jvm.Cond.selects "DoughBorderModel" ({ cls := "DoughBorderModel", name := "back", desc := "(I)I" } : Jvm.MethodName) ({ cls := "DoughBorderModel", name := "back", desc := "(I)I" } : Jvm.MethodName)) ∈ lw_all := lw_g (lw_at lw_m8 36 rfl) rfl
theorem q1836 : (Jvm.Cond.code ({ cls := "DoughBorderModel", name := "back", desc := "(I)I" } : Jvm.MethodName) prog_17_method_115_code (2 : Nat) (Option.some Jvm.ClassFile.FieldType.int)) ∈ lw_all := lw_g (lw_at lw_m8 37 rfl) rfl
theorem in_X3 : ∀ w ∈ wsX30, w ∈ lw_all := lw_in wsX30 [1216, 1218, 1220, 1222, 1224, 1226, 1228, 1230, 1232, 1234, 1236, 1238, 1240, 1242, 1244, 1246, 1248, 1250, 1252, 1254, 1256, 1258, 1260, 1262, 1264, 1266, 1268, 1270, 1272, 1274, 1276, 1278, 1280, 1282, 1284, 1286, 1288, 1290, 1292, 1294, 1296, 1298, 1300, 1302, 1304, 1306, 1308, 1310, 1312, 1314, 1316, 1318, 1320, 1322, 1324, 1326, 1328, 1330, 1332, 1334, 1336, 1338, 1340, 1342, 1344, 1346, 1348, 1350] (by decide +kernel) (by decide +kernel)
