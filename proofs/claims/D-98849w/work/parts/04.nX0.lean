/-! DoughBorder -/
set_option maxRecDepth 100000
def RX0 : String := "DoughBorder"
def TX0 : u_T := fun k => match k with
  | 0 => ("DoughBorder", "dough", "LDoughBorder$Dough;", false)
  | 1 => ("DoughBorder", "own", "LDoughBorder$Dough;", true)
  | 2 => ("DoughBorder", "spare", "LDoughBorder$Dough;", true)
  | 3 => ("DoughBorder", "deep", "[LDoughBorder$Dough;", true)
  | 4 => ("DoughBorder", "reading", "LDoughBorder$Dough;", true)
  | 5 => ("DoughBorder", "blank", "LDoughBorder$Dough;", true)
  | 6 => ("DoughBorder", "x", "I", false)
  | 7 => ("DoughBorder", "inForce", "I", false)
  | 8 => ("DoughBorder", "fault", "LDoughBorder$Fault;", true)
  | 9 => ("DoughBorder", "tape", "[B", true)
  | 10 => ("DoughBorder", "taped", "I", false)
  | 11 => ("DoughBorder", "lineWords", "[Ljava/lang/String;", true)
  | 12 => ("DoughBorder", "clauseWords", "[Ljava/lang/String;", true)
  | 13 => ("DoughBorder", "wordNames", "[Ljava/lang/String;", true)
  | 14 => ("DoughBorder", "rules", "[LDoughBorder$Rule;", true)
  | 15 => ("DoughBorder", "ruleMany", "I", false)
  | 16 => ("DoughBorder", "pushRow", "[I", true)
  | 17 => ("DoughBorder", "bestRow", "[I", true)
  | 18 => ("DoughBorder", "bestMany", "I", false)
  | 19 => ("DoughBorder", "firstPush", "I", false)
  | 20 => ("DoughBorder", "theft", "[I", true)
  | 21 => ("DoughBorder", "theftMany", "I", false)
  | 22 => ("DoughBorder", "alike", "[I", true)
  | 23 => ("DoughBorder", "drawX", "I", false)
  | _ => ("DoughBorder", "images", "[LDoughBorder$Image;", true)
def tyX0 : Nat → FieldType := fun k => match k with
  | 0 => .object "DoughBorder$Dough"
  | 1 => .object "DoughBorder$Dough"
  | 2 => .object "DoughBorder$Dough"
  | 3 => .array (.object "DoughBorder$Dough")
  | 4 => .object "DoughBorder$Dough"
  | 5 => .object "DoughBorder$Dough"
  | 6 => .int
  | 7 => .int
  | 8 => .object "DoughBorder$Fault"
  | 9 => .array .byte
  | 10 => .int
  | 11 => .array (.object "java/lang/String")
  | 12 => .array (.object "java/lang/String")
  | 13 => .array (.object "java/lang/String")
  | 14 => .array (.object "DoughBorder$Rule")
  | 15 => .int
  | 16 => .array .int
  | 17 => .array .int
  | 18 => .int
  | 19 => .int
  | 20 => .array .int
  | 21 => .int
  | 22 => .array .int
  | 23 => .int
  | _ => .array (.object "DoughBorder$Image")
abbrev wsX00 : List Cond := u_ws RX0 TX0 25
set_option maxRecDepth 100000 in
theorem nmX0 : ∀ a, a < 25 → ∀ b, b < 25 → a ≠ b → (TX0 a).2.1 ≠ (TX0 b).2.1 := by decide +kernel
set_option maxRecDepth 100000 in
theorem tyX0_ok : ∀ k, k < 25 → parseFieldDescriptor (TX0 k).2.2.1 = some (tyX0 k) := by decide +kernel
abbrev cX0_init : ByteArray := prog_1_method_4_code
def yX0_init : MethodName := ⟨RX0, "<init>", "()V"⟩
def dkwX0_init_12 : List UInt8 := [188, 10, 181, 0, 112, 42, 16, 100, 188, 10, 181, 0, 115, 42, 7, 189, 0, 118, 181, 0, 120, 177]
abbrev dktX0_init_12 : List UInt8 := dkwX0_init_12 ++ []
def dkwX0_init_11 : List UInt8 := [189, 0, 99, 181, 0, 101, 42, 6, 188, 10, 181, 0, 105, 42, 6, 188, 10, 181, 0, 109, 42, 17, 1, 44]
abbrev dktX0_init_11 : List UInt8 := dkwX0_init_11 ++ dktX0_init_12
def dkwX0_init_10 : List UInt8 := [16, 9, 18, 90, 83, 89, 16, 10, 18, 92, 83, 89, 16, 11, 18, 94, 83, 181, 0, 96, 42, 16, 6]
abbrev dktX0_init_10 : List UInt8 := dkwX0_init_10 ++ dktX0_init_11
def dkwX0_init_9 : List UInt8 := [8, 18, 59, 83, 89, 16, 6, 18, 84, 83, 89, 16, 7, 18, 86, 83, 89, 16, 8, 18, 88, 83, 89]
abbrev dktX0_init_9 : List UInt8 := dkwX0_init_9 ++ dktX0_init_10
def dkwX0_init_8 : List UInt8 := [18, 57, 83, 89, 4, 18, 76, 83, 89, 5, 18, 78, 83, 89, 6, 18, 80, 83, 89, 7, 18, 82, 83, 89]
abbrev dktX0_init_8 : List UInt8 := dkwX0_init_8 ++ dktX0_init_9
def dkwX0_init_7 : List UInt8 := [181, 0, 67, 42, 4, 189, 0, 53, 89, 3, 18, 71, 83, 181, 0, 73, 42, 16, 12, 189, 0, 53, 89, 3]
abbrev dktX0_init_7 : List UInt8 := dkwX0_init_7 ++ dktX0_init_8
def dkwX0_init_6 : List UInt8 := [4, 18, 57, 83, 89, 5, 18, 59, 83, 89, 6, 18, 61, 83, 89, 7, 18, 63, 83, 89, 8, 18, 65, 83]
abbrev dktX0_init_6 : List UInt8 := dkwX0_init_6 ++ dktX0_init_7
def dkwX0_init_5 : List UInt8 := [181, 0, 45, 42, 17, 1, 144, 188, 8, 181, 0, 49, 42, 16, 6, 189, 0, 53, 89, 3, 18, 55, 83, 89]
abbrev dktX0_init_5 : List UInt8 := dkwX0_init_5 ++ dktX0_init_6
def dkwX0_init_4 : List UInt8 := [42, 187, 0, 16, 89, 183, 0, 18, 181, 0, 35, 42, 2, 181, 0, 38, 42, 187, 0, 42, 89, 183, 0, 44]
abbrev dktX0_init_4 : List UInt8 := dkwX0_init_4 ++ dktX0_init_5
def dkwX0_init_3 : List UInt8 := [89, 7, 187, 0, 16, 89, 183, 0, 18, 83, 181, 0, 28, 42, 187, 0, 16, 89, 183, 0, 18, 181, 0, 32]
abbrev dktX0_init_3 : List UInt8 := dkwX0_init_3 ++ dktX0_init_4
def dkwX0_init_2 : List UInt8 := [183, 0, 18, 83, 89, 5, 187, 0, 16, 89, 183, 0, 18, 83, 89, 6, 187, 0, 16, 89, 183, 0, 18, 83]
abbrev dktX0_init_2 : List UInt8 := dkwX0_init_2 ++ dktX0_init_3
def dkwX0_init_1 : List UInt8 := [181, 0, 25, 42, 8, 189, 0, 16, 89, 3, 187, 0, 16, 89, 183, 0, 18, 83, 89, 4, 187, 0, 16, 89]
abbrev dktX0_init_1 : List UInt8 := dkwX0_init_1 ++ dktX0_init_2
def dkwX0_init_0 : List UInt8 := [42, 183, 0, 10, 42, 187, 0, 16, 89, 183, 0, 18, 181, 0, 19, 42, 187, 0, 16, 89, 183, 0, 18]
abbrev dktX0_init_0 : List UInt8 := dkwX0_init_0 ++ dktX0_init_1
theorem dksX0_init_0 : cX0_init.data.toList.drop 0 = dktX0_init_0 := by decide +kernel
theorem dksX0_init_1 : cX0_init.data.toList.drop 23 = dktX0_init_1 := dk_seg dksX0_init_0 23 rfl rfl
theorem dksX0_init_2 : cX0_init.data.toList.drop 47 = dktX0_init_2 := dk_seg dksX0_init_1 24 rfl rfl
theorem dksX0_init_3 : cX0_init.data.toList.drop 71 = dktX0_init_3 := dk_seg dksX0_init_2 24 rfl rfl
theorem dksX0_init_4 : cX0_init.data.toList.drop 95 = dktX0_init_4 := dk_seg dksX0_init_3 24 rfl rfl
theorem dksX0_init_5 : cX0_init.data.toList.drop 119 = dktX0_init_5 := dk_seg dksX0_init_4 24 rfl rfl
theorem dksX0_init_6 : cX0_init.data.toList.drop 143 = dktX0_init_6 := dk_seg dksX0_init_5 24 rfl rfl
theorem dksX0_init_7 : cX0_init.data.toList.drop 167 = dktX0_init_7 := dk_seg dksX0_init_6 24 rfl rfl
theorem dksX0_init_8 : cX0_init.data.toList.drop 191 = dktX0_init_8 := dk_seg dksX0_init_7 24 rfl rfl
theorem dksX0_init_9 : cX0_init.data.toList.drop 215 = dktX0_init_9 := dk_seg dksX0_init_8 24 rfl rfl
theorem dksX0_init_10 : cX0_init.data.toList.drop 238 = dktX0_init_10 := dk_seg dksX0_init_9 23 rfl rfl
theorem dksX0_init_11 : cX0_init.data.toList.drop 261 = dktX0_init_11 := dk_seg dksX0_init_10 23 rfl rfl
theorem dksX0_init_12 : cX0_init.data.toList.drop 285 = dktX0_init_12 := dk_seg dksX0_init_11 24 rfl rfl
theorem dX0_init_0 : decode cX0_init 0 = .ok (.aload_n 0, 1) := dk_42 (dk_at dksX0_init_0 0 rfl rfl)
theorem dX0_init_1 : decode cX0_init 1 = .ok (.invokespecial 10, 3) := dk_183 0 10 (dk_at dksX0_init_0 1 rfl rfl)
theorem dX0_init_4 : decode cX0_init 4 = .ok (.aload_n 0, 1) := dk_42 (dk_at dksX0_init_0 4 rfl rfl)
theorem dX0_init_5 : decode cX0_init 5 = .ok (.new 16, 3) := dk_187 0 16 (dk_at dksX0_init_0 5 rfl rfl)
theorem dX0_init_8 : decode cX0_init 8 = .ok (.dup, 1) := dk_89 (dk_at dksX0_init_0 8 rfl rfl)
theorem dX0_init_9 : decode cX0_init 9 = .ok (.invokespecial 18, 3) := dk_183 0 18 (dk_at dksX0_init_0 9 rfl rfl)
theorem dX0_init_12 : decode cX0_init 12 = .ok (.putfield 19, 3) := dk_181 0 19 (dk_at dksX0_init_0 12 rfl rfl)
theorem dX0_init_15 : decode cX0_init 15 = .ok (.aload_n 0, 1) := dk_42 (dk_at dksX0_init_0 15 rfl rfl)
theorem dX0_init_16 : decode cX0_init 16 = .ok (.new 16, 3) := dk_187 0 16 (dk_at dksX0_init_0 16 rfl rfl)
theorem dX0_init_19 : decode cX0_init 19 = .ok (.dup, 1) := dk_89 (dk_at dksX0_init_0 19 rfl rfl)
theorem dX0_init_20 : decode cX0_init 20 = .ok (.invokespecial 18, 3) := dk_183 0 18 (dk_at dksX0_init_0 20 rfl rfl)
theorem dX0_init_23 : decode cX0_init 23 = .ok (.putfield 25, 3) := dk_181 0 25 (dk_at dksX0_init_1 0 rfl rfl)
theorem dX0_init_26 : decode cX0_init 26 = .ok (.aload_n 0, 1) := dk_42 (dk_at dksX0_init_1 3 rfl rfl)
theorem dX0_init_27 : decode cX0_init 27 = .ok (.iconst 5, 1) := dk_8 (dk_at dksX0_init_1 4 rfl rfl)
theorem dX0_init_28 : decode cX0_init 28 = .ok (.anewarray 16, 3) := dk_189 0 16 (dk_at dksX0_init_1 5 rfl rfl)
theorem dX0_init_31 : decode cX0_init 31 = .ok (.dup, 1) := dk_89 (dk_at dksX0_init_1 8 rfl rfl)
theorem dX0_init_32 : decode cX0_init 32 = .ok (.iconst 0, 1) := dk_3 (dk_at dksX0_init_1 9 rfl rfl)
theorem dX0_init_33 : decode cX0_init 33 = .ok (.new 16, 3) := dk_187 0 16 (dk_at dksX0_init_1 10 rfl rfl)
theorem dX0_init_36 : decode cX0_init 36 = .ok (.dup, 1) := dk_89 (dk_at dksX0_init_1 13 rfl rfl)
theorem dX0_init_37 : decode cX0_init 37 = .ok (.invokespecial 18, 3) := dk_183 0 18 (dk_at dksX0_init_1 14 rfl rfl)
theorem dX0_init_40 : decode cX0_init 40 = .ok (.aastore, 1) := dk_83 (dk_at dksX0_init_1 17 rfl rfl)
theorem dX0_init_41 : decode cX0_init 41 = .ok (.dup, 1) := dk_89 (dk_at dksX0_init_1 18 rfl rfl)
theorem dX0_init_42 : decode cX0_init 42 = .ok (.iconst 1, 1) := dk_4 (dk_at dksX0_init_1 19 rfl rfl)
theorem dX0_init_43 : decode cX0_init 43 = .ok (.new 16, 3) := dk_187 0 16 (dk_at dksX0_init_1 20 rfl rfl)
theorem dX0_init_46 : decode cX0_init 46 = .ok (.dup, 1) := dk_89 (dk_at dksX0_init_1 23 rfl rfl)
theorem dX0_init_47 : decode cX0_init 47 = .ok (.invokespecial 18, 3) := dk_183 0 18 (dk_at dksX0_init_2 0 rfl rfl)
theorem dX0_init_50 : decode cX0_init 50 = .ok (.aastore, 1) := dk_83 (dk_at dksX0_init_2 3 rfl rfl)
theorem dX0_init_51 : decode cX0_init 51 = .ok (.dup, 1) := dk_89 (dk_at dksX0_init_2 4 rfl rfl)
theorem dX0_init_52 : decode cX0_init 52 = .ok (.iconst 2, 1) := dk_5 (dk_at dksX0_init_2 5 rfl rfl)
theorem dX0_init_53 : decode cX0_init 53 = .ok (.new 16, 3) := dk_187 0 16 (dk_at dksX0_init_2 6 rfl rfl)
theorem dX0_init_56 : decode cX0_init 56 = .ok (.dup, 1) := dk_89 (dk_at dksX0_init_2 9 rfl rfl)
theorem dX0_init_57 : decode cX0_init 57 = .ok (.invokespecial 18, 3) := dk_183 0 18 (dk_at dksX0_init_2 10 rfl rfl)
theorem dX0_init_60 : decode cX0_init 60 = .ok (.aastore, 1) := dk_83 (dk_at dksX0_init_2 13 rfl rfl)
theorem dX0_init_61 : decode cX0_init 61 = .ok (.dup, 1) := dk_89 (dk_at dksX0_init_2 14 rfl rfl)
theorem dX0_init_62 : decode cX0_init 62 = .ok (.iconst 3, 1) := dk_6 (dk_at dksX0_init_2 15 rfl rfl)
theorem dX0_init_63 : decode cX0_init 63 = .ok (.new 16, 3) := dk_187 0 16 (dk_at dksX0_init_2 16 rfl rfl)
theorem dX0_init_66 : decode cX0_init 66 = .ok (.dup, 1) := dk_89 (dk_at dksX0_init_2 19 rfl rfl)
theorem dX0_init_67 : decode cX0_init 67 = .ok (.invokespecial 18, 3) := dk_183 0 18 (dk_at dksX0_init_2 20 rfl rfl)
theorem dX0_init_70 : decode cX0_init 70 = .ok (.aastore, 1) := dk_83 (dk_at dksX0_init_2 23 rfl rfl)
theorem dX0_init_71 : decode cX0_init 71 = .ok (.dup, 1) := dk_89 (dk_at dksX0_init_3 0 rfl rfl)
theorem dX0_init_72 : decode cX0_init 72 = .ok (.iconst 4, 1) := dk_7 (dk_at dksX0_init_3 1 rfl rfl)
theorem dX0_init_73 : decode cX0_init 73 = .ok (.new 16, 3) := dk_187 0 16 (dk_at dksX0_init_3 2 rfl rfl)
theorem dX0_init_76 : decode cX0_init 76 = .ok (.dup, 1) := dk_89 (dk_at dksX0_init_3 5 rfl rfl)
theorem dX0_init_77 : decode cX0_init 77 = .ok (.invokespecial 18, 3) := dk_183 0 18 (dk_at dksX0_init_3 6 rfl rfl)
theorem dX0_init_80 : decode cX0_init 80 = .ok (.aastore, 1) := dk_83 (dk_at dksX0_init_3 9 rfl rfl)
theorem dX0_init_81 : decode cX0_init 81 = .ok (.putfield 28, 3) := dk_181 0 28 (dk_at dksX0_init_3 10 rfl rfl)
theorem dX0_init_84 : decode cX0_init 84 = .ok (.aload_n 0, 1) := dk_42 (dk_at dksX0_init_3 13 rfl rfl)
theorem dX0_init_85 : decode cX0_init 85 = .ok (.new 16, 3) := dk_187 0 16 (dk_at dksX0_init_3 14 rfl rfl)
theorem dX0_init_88 : decode cX0_init 88 = .ok (.dup, 1) := dk_89 (dk_at dksX0_init_3 17 rfl rfl)
theorem dX0_init_89 : decode cX0_init 89 = .ok (.invokespecial 18, 3) := dk_183 0 18 (dk_at dksX0_init_3 18 rfl rfl)
theorem dX0_init_92 : decode cX0_init 92 = .ok (.putfield 32, 3) := dk_181 0 32 (dk_at dksX0_init_3 21 rfl rfl)
theorem dX0_init_95 : decode cX0_init 95 = .ok (.aload_n 0, 1) := dk_42 (dk_at dksX0_init_4 0 rfl rfl)
theorem dX0_init_96 : decode cX0_init 96 = .ok (.new 16, 3) := dk_187 0 16 (dk_at dksX0_init_4 1 rfl rfl)
theorem dX0_init_99 : decode cX0_init 99 = .ok (.dup, 1) := dk_89 (dk_at dksX0_init_4 4 rfl rfl)
theorem dX0_init_100 : decode cX0_init 100 = .ok (.invokespecial 18, 3) := dk_183 0 18 (dk_at dksX0_init_4 5 rfl rfl)
theorem dX0_init_103 : decode cX0_init 103 = .ok (.putfield 35, 3) := dk_181 0 35 (dk_at dksX0_init_4 8 rfl rfl)
theorem dX0_init_106 : decode cX0_init 106 = .ok (.aload_n 0, 1) := dk_42 (dk_at dksX0_init_4 11 rfl rfl)
theorem dX0_init_107 : decode cX0_init 107 = .ok (.iconst (-1), 1) := dk_2 (dk_at dksX0_init_4 12 rfl rfl)
theorem dX0_init_108 : decode cX0_init 108 = .ok (.putfield 38, 3) := dk_181 0 38 (dk_at dksX0_init_4 13 rfl rfl)
theorem dX0_init_111 : decode cX0_init 111 = .ok (.aload_n 0, 1) := dk_42 (dk_at dksX0_init_4 16 rfl rfl)
theorem dX0_init_112 : decode cX0_init 112 = .ok (.new 42, 3) := dk_187 0 42 (dk_at dksX0_init_4 17 rfl rfl)
theorem dX0_init_115 : decode cX0_init 115 = .ok (.dup, 1) := dk_89 (dk_at dksX0_init_4 20 rfl rfl)
theorem dX0_init_116 : decode cX0_init 116 = .ok (.invokespecial 44, 3) := dk_183 0 44 (dk_at dksX0_init_4 21 rfl rfl)
theorem dX0_init_119 : decode cX0_init 119 = .ok (.putfield 45, 3) := dk_181 0 45 (dk_at dksX0_init_5 0 rfl rfl)
theorem dX0_init_122 : decode cX0_init 122 = .ok (.aload_n 0, 1) := dk_42 (dk_at dksX0_init_5 3 rfl rfl)
theorem dX0_init_123 : decode cX0_init 123 = .ok (.sipush 400, 3) := dk_17 1 144 (dk_at dksX0_init_5 4 rfl rfl)
theorem dX0_init_126 : decode cX0_init 126 = .ok (.newarray .byte, 2) := dk_188_8 (dk_at dksX0_init_5 7 rfl rfl)
theorem dX0_init_128 : decode cX0_init 128 = .ok (.putfield 49, 3) := dk_181 0 49 (dk_at dksX0_init_5 9 rfl rfl)
theorem dX0_init_131 : decode cX0_init 131 = .ok (.aload_n 0, 1) := dk_42 (dk_at dksX0_init_5 12 rfl rfl)
theorem dX0_init_132 : decode cX0_init 132 = .ok (.bipush 6, 2) := dk_16 6 (dk_at dksX0_init_5 13 rfl rfl)
theorem dX0_init_134 : decode cX0_init 134 = .ok (.anewarray 53, 3) := dk_189 0 53 (dk_at dksX0_init_5 15 rfl rfl)
theorem dX0_init_137 : decode cX0_init 137 = .ok (.dup, 1) := dk_89 (dk_at dksX0_init_5 18 rfl rfl)
theorem dX0_init_138 : decode cX0_init 138 = .ok (.iconst 0, 1) := dk_3 (dk_at dksX0_init_5 19 rfl rfl)
theorem dX0_init_139 : decode cX0_init 139 = .ok (.ldc 55, 2) := dk_18 55 (dk_at dksX0_init_5 20 rfl rfl)
theorem dX0_init_141 : decode cX0_init 141 = .ok (.aastore, 1) := dk_83 (dk_at dksX0_init_5 22 rfl rfl)
theorem dX0_init_142 : decode cX0_init 142 = .ok (.dup, 1) := dk_89 (dk_at dksX0_init_5 23 rfl rfl)
theorem dX0_init_143 : decode cX0_init 143 = .ok (.iconst 1, 1) := dk_4 (dk_at dksX0_init_6 0 rfl rfl)
theorem dX0_init_144 : decode cX0_init 144 = .ok (.ldc 57, 2) := dk_18 57 (dk_at dksX0_init_6 1 rfl rfl)
theorem dX0_init_146 : decode cX0_init 146 = .ok (.aastore, 1) := dk_83 (dk_at dksX0_init_6 3 rfl rfl)
theorem dX0_init_147 : decode cX0_init 147 = .ok (.dup, 1) := dk_89 (dk_at dksX0_init_6 4 rfl rfl)
theorem dX0_init_148 : decode cX0_init 148 = .ok (.iconst 2, 1) := dk_5 (dk_at dksX0_init_6 5 rfl rfl)
theorem dX0_init_149 : decode cX0_init 149 = .ok (.ldc 59, 2) := dk_18 59 (dk_at dksX0_init_6 6 rfl rfl)
theorem dX0_init_151 : decode cX0_init 151 = .ok (.aastore, 1) := dk_83 (dk_at dksX0_init_6 8 rfl rfl)
theorem dX0_init_152 : decode cX0_init 152 = .ok (.dup, 1) := dk_89 (dk_at dksX0_init_6 9 rfl rfl)
theorem dX0_init_153 : decode cX0_init 153 = .ok (.iconst 3, 1) := dk_6 (dk_at dksX0_init_6 10 rfl rfl)
theorem dX0_init_154 : decode cX0_init 154 = .ok (.ldc 61, 2) := dk_18 61 (dk_at dksX0_init_6 11 rfl rfl)
theorem dX0_init_156 : decode cX0_init 156 = .ok (.aastore, 1) := dk_83 (dk_at dksX0_init_6 13 rfl rfl)
theorem dX0_init_157 : decode cX0_init 157 = .ok (.dup, 1) := dk_89 (dk_at dksX0_init_6 14 rfl rfl)
theorem dX0_init_158 : decode cX0_init 158 = .ok (.iconst 4, 1) := dk_7 (dk_at dksX0_init_6 15 rfl rfl)
theorem dX0_init_159 : decode cX0_init 159 = .ok (.ldc 63, 2) := dk_18 63 (dk_at dksX0_init_6 16 rfl rfl)
theorem dX0_init_161 : decode cX0_init 161 = .ok (.aastore, 1) := dk_83 (dk_at dksX0_init_6 18 rfl rfl)
theorem dX0_init_162 : decode cX0_init 162 = .ok (.dup, 1) := dk_89 (dk_at dksX0_init_6 19 rfl rfl)
theorem dX0_init_163 : decode cX0_init 163 = .ok (.iconst 5, 1) := dk_8 (dk_at dksX0_init_6 20 rfl rfl)
theorem dX0_init_164 : decode cX0_init 164 = .ok (.ldc 65, 2) := dk_18 65 (dk_at dksX0_init_6 21 rfl rfl)
theorem dX0_init_166 : decode cX0_init 166 = .ok (.aastore, 1) := dk_83 (dk_at dksX0_init_6 23 rfl rfl)
theorem dX0_init_167 : decode cX0_init 167 = .ok (.putfield 67, 3) := dk_181 0 67 (dk_at dksX0_init_7 0 rfl rfl)
theorem dX0_init_170 : decode cX0_init 170 = .ok (.aload_n 0, 1) := dk_42 (dk_at dksX0_init_7 3 rfl rfl)
theorem dX0_init_171 : decode cX0_init 171 = .ok (.iconst 1, 1) := dk_4 (dk_at dksX0_init_7 4 rfl rfl)
theorem dX0_init_172 : decode cX0_init 172 = .ok (.anewarray 53, 3) := dk_189 0 53 (dk_at dksX0_init_7 5 rfl rfl)
theorem dX0_init_175 : decode cX0_init 175 = .ok (.dup, 1) := dk_89 (dk_at dksX0_init_7 8 rfl rfl)
theorem dX0_init_176 : decode cX0_init 176 = .ok (.iconst 0, 1) := dk_3 (dk_at dksX0_init_7 9 rfl rfl)
theorem dX0_init_177 : decode cX0_init 177 = .ok (.ldc 71, 2) := dk_18 71 (dk_at dksX0_init_7 10 rfl rfl)
theorem dX0_init_179 : decode cX0_init 179 = .ok (.aastore, 1) := dk_83 (dk_at dksX0_init_7 12 rfl rfl)
theorem dX0_init_180 : decode cX0_init 180 = .ok (.putfield 73, 3) := dk_181 0 73 (dk_at dksX0_init_7 13 rfl rfl)
theorem dX0_init_183 : decode cX0_init 183 = .ok (.aload_n 0, 1) := dk_42 (dk_at dksX0_init_7 16 rfl rfl)
theorem dX0_init_184 : decode cX0_init 184 = .ok (.bipush 12, 2) := dk_16 12 (dk_at dksX0_init_7 17 rfl rfl)
theorem dX0_init_186 : decode cX0_init 186 = .ok (.anewarray 53, 3) := dk_189 0 53 (dk_at dksX0_init_7 19 rfl rfl)
theorem dX0_init_189 : decode cX0_init 189 = .ok (.dup, 1) := dk_89 (dk_at dksX0_init_7 22 rfl rfl)
theorem dX0_init_190 : decode cX0_init 190 = .ok (.iconst 0, 1) := dk_3 (dk_at dksX0_init_7 23 rfl rfl)
theorem dX0_init_191 : decode cX0_init 191 = .ok (.ldc 57, 2) := dk_18 57 (dk_at dksX0_init_8 0 rfl rfl)
theorem dX0_init_193 : decode cX0_init 193 = .ok (.aastore, 1) := dk_83 (dk_at dksX0_init_8 2 rfl rfl)
theorem dX0_init_194 : decode cX0_init 194 = .ok (.dup, 1) := dk_89 (dk_at dksX0_init_8 3 rfl rfl)
theorem dX0_init_195 : decode cX0_init 195 = .ok (.iconst 1, 1) := dk_4 (dk_at dksX0_init_8 4 rfl rfl)
theorem dX0_init_196 : decode cX0_init 196 = .ok (.ldc 76, 2) := dk_18 76 (dk_at dksX0_init_8 5 rfl rfl)
theorem dX0_init_198 : decode cX0_init 198 = .ok (.aastore, 1) := dk_83 (dk_at dksX0_init_8 7 rfl rfl)
theorem dX0_init_199 : decode cX0_init 199 = .ok (.dup, 1) := dk_89 (dk_at dksX0_init_8 8 rfl rfl)
theorem dX0_init_200 : decode cX0_init 200 = .ok (.iconst 2, 1) := dk_5 (dk_at dksX0_init_8 9 rfl rfl)
theorem dX0_init_201 : decode cX0_init 201 = .ok (.ldc 78, 2) := dk_18 78 (dk_at dksX0_init_8 10 rfl rfl)
theorem dX0_init_203 : decode cX0_init 203 = .ok (.aastore, 1) := dk_83 (dk_at dksX0_init_8 12 rfl rfl)
theorem dX0_init_204 : decode cX0_init 204 = .ok (.dup, 1) := dk_89 (dk_at dksX0_init_8 13 rfl rfl)
theorem dX0_init_205 : decode cX0_init 205 = .ok (.iconst 3, 1) := dk_6 (dk_at dksX0_init_8 14 rfl rfl)
theorem dX0_init_206 : decode cX0_init 206 = .ok (.ldc 80, 2) := dk_18 80 (dk_at dksX0_init_8 15 rfl rfl)
theorem dX0_init_208 : decode cX0_init 208 = .ok (.aastore, 1) := dk_83 (dk_at dksX0_init_8 17 rfl rfl)
theorem dX0_init_209 : decode cX0_init 209 = .ok (.dup, 1) := dk_89 (dk_at dksX0_init_8 18 rfl rfl)
theorem dX0_init_210 : decode cX0_init 210 = .ok (.iconst 4, 1) := dk_7 (dk_at dksX0_init_8 19 rfl rfl)
theorem dX0_init_211 : decode cX0_init 211 = .ok (.ldc 82, 2) := dk_18 82 (dk_at dksX0_init_8 20 rfl rfl)
theorem dX0_init_213 : decode cX0_init 213 = .ok (.aastore, 1) := dk_83 (dk_at dksX0_init_8 22 rfl rfl)
theorem dX0_init_214 : decode cX0_init 214 = .ok (.dup, 1) := dk_89 (dk_at dksX0_init_8 23 rfl rfl)
theorem dX0_init_215 : decode cX0_init 215 = .ok (.iconst 5, 1) := dk_8 (dk_at dksX0_init_9 0 rfl rfl)
theorem dX0_init_216 : decode cX0_init 216 = .ok (.ldc 59, 2) := dk_18 59 (dk_at dksX0_init_9 1 rfl rfl)
theorem dX0_init_218 : decode cX0_init 218 = .ok (.aastore, 1) := dk_83 (dk_at dksX0_init_9 3 rfl rfl)
theorem dX0_init_219 : decode cX0_init 219 = .ok (.dup, 1) := dk_89 (dk_at dksX0_init_9 4 rfl rfl)
theorem dX0_init_220 : decode cX0_init 220 = .ok (.bipush 6, 2) := dk_16 6 (dk_at dksX0_init_9 5 rfl rfl)
theorem dX0_init_222 : decode cX0_init 222 = .ok (.ldc 84, 2) := dk_18 84 (dk_at dksX0_init_9 7 rfl rfl)
theorem dX0_init_224 : decode cX0_init 224 = .ok (.aastore, 1) := dk_83 (dk_at dksX0_init_9 9 rfl rfl)
theorem dX0_init_225 : decode cX0_init 225 = .ok (.dup, 1) := dk_89 (dk_at dksX0_init_9 10 rfl rfl)
theorem dX0_init_226 : decode cX0_init 226 = .ok (.bipush 7, 2) := dk_16 7 (dk_at dksX0_init_9 11 rfl rfl)
theorem dX0_init_228 : decode cX0_init 228 = .ok (.ldc 86, 2) := dk_18 86 (dk_at dksX0_init_9 13 rfl rfl)
theorem dX0_init_230 : decode cX0_init 230 = .ok (.aastore, 1) := dk_83 (dk_at dksX0_init_9 15 rfl rfl)
theorem dX0_init_231 : decode cX0_init 231 = .ok (.dup, 1) := dk_89 (dk_at dksX0_init_9 16 rfl rfl)
theorem dX0_init_232 : decode cX0_init 232 = .ok (.bipush 8, 2) := dk_16 8 (dk_at dksX0_init_9 17 rfl rfl)
theorem dX0_init_234 : decode cX0_init 234 = .ok (.ldc 88, 2) := dk_18 88 (dk_at dksX0_init_9 19 rfl rfl)
theorem dX0_init_236 : decode cX0_init 236 = .ok (.aastore, 1) := dk_83 (dk_at dksX0_init_9 21 rfl rfl)
theorem dX0_init_237 : decode cX0_init 237 = .ok (.dup, 1) := dk_89 (dk_at dksX0_init_9 22 rfl rfl)
theorem dX0_init_238 : decode cX0_init 238 = .ok (.bipush 9, 2) := dk_16 9 (dk_at dksX0_init_10 0 rfl rfl)
theorem dX0_init_240 : decode cX0_init 240 = .ok (.ldc 90, 2) := dk_18 90 (dk_at dksX0_init_10 2 rfl rfl)
theorem dX0_init_242 : decode cX0_init 242 = .ok (.aastore, 1) := dk_83 (dk_at dksX0_init_10 4 rfl rfl)
theorem dX0_init_243 : decode cX0_init 243 = .ok (.dup, 1) := dk_89 (dk_at dksX0_init_10 5 rfl rfl)
theorem dX0_init_244 : decode cX0_init 244 = .ok (.bipush 10, 2) := dk_16 10 (dk_at dksX0_init_10 6 rfl rfl)
theorem dX0_init_246 : decode cX0_init 246 = .ok (.ldc 92, 2) := dk_18 92 (dk_at dksX0_init_10 8 rfl rfl)
theorem dX0_init_248 : decode cX0_init 248 = .ok (.aastore, 1) := dk_83 (dk_at dksX0_init_10 10 rfl rfl)
theorem dX0_init_249 : decode cX0_init 249 = .ok (.dup, 1) := dk_89 (dk_at dksX0_init_10 11 rfl rfl)
theorem dX0_init_250 : decode cX0_init 250 = .ok (.bipush 11, 2) := dk_16 11 (dk_at dksX0_init_10 12 rfl rfl)
theorem dX0_init_252 : decode cX0_init 252 = .ok (.ldc 94, 2) := dk_18 94 (dk_at dksX0_init_10 14 rfl rfl)
theorem dX0_init_254 : decode cX0_init 254 = .ok (.aastore, 1) := dk_83 (dk_at dksX0_init_10 16 rfl rfl)
theorem dX0_init_255 : decode cX0_init 255 = .ok (.putfield 96, 3) := dk_181 0 96 (dk_at dksX0_init_10 17 rfl rfl)
theorem dX0_init_258 : decode cX0_init 258 = .ok (.aload_n 0, 1) := dk_42 (dk_at dksX0_init_10 20 rfl rfl)
theorem dX0_init_259 : decode cX0_init 259 = .ok (.bipush 6, 2) := dk_16 6 (dk_at dksX0_init_10 21 rfl rfl)
theorem dX0_init_261 : decode cX0_init 261 = .ok (.anewarray 99, 3) := dk_189 0 99 (dk_at dksX0_init_11 0 rfl rfl)
theorem dX0_init_264 : decode cX0_init 264 = .ok (.putfield 101, 3) := dk_181 0 101 (dk_at dksX0_init_11 3 rfl rfl)
theorem dX0_init_267 : decode cX0_init 267 = .ok (.aload_n 0, 1) := dk_42 (dk_at dksX0_init_11 6 rfl rfl)
theorem dX0_init_268 : decode cX0_init 268 = .ok (.iconst 3, 1) := dk_6 (dk_at dksX0_init_11 7 rfl rfl)
theorem dX0_init_269 : decode cX0_init 269 = .ok (.newarray .int, 2) := dk_188_10 (dk_at dksX0_init_11 8 rfl rfl)
theorem dX0_init_271 : decode cX0_init 271 = .ok (.putfield 105, 3) := dk_181 0 105 (dk_at dksX0_init_11 10 rfl rfl)
theorem dX0_init_274 : decode cX0_init 274 = .ok (.aload_n 0, 1) := dk_42 (dk_at dksX0_init_11 13 rfl rfl)
theorem dX0_init_275 : decode cX0_init 275 = .ok (.iconst 3, 1) := dk_6 (dk_at dksX0_init_11 14 rfl rfl)
theorem dX0_init_276 : decode cX0_init 276 = .ok (.newarray .int, 2) := dk_188_10 (dk_at dksX0_init_11 15 rfl rfl)
theorem dX0_init_278 : decode cX0_init 278 = .ok (.putfield 109, 3) := dk_181 0 109 (dk_at dksX0_init_11 17 rfl rfl)
theorem dX0_init_281 : decode cX0_init 281 = .ok (.aload_n 0, 1) := dk_42 (dk_at dksX0_init_11 20 rfl rfl)
theorem dX0_init_282 : decode cX0_init 282 = .ok (.sipush 300, 3) := dk_17 1 44 (dk_at dksX0_init_11 21 rfl rfl)
theorem dX0_init_285 : decode cX0_init 285 = .ok (.newarray .int, 2) := dk_188_10 (dk_at dksX0_init_12 0 rfl rfl)
theorem dX0_init_287 : decode cX0_init 287 = .ok (.putfield 112, 3) := dk_181 0 112 (dk_at dksX0_init_12 2 rfl rfl)
theorem dX0_init_290 : decode cX0_init 290 = .ok (.aload_n 0, 1) := dk_42 (dk_at dksX0_init_12 5 rfl rfl)
theorem dX0_init_291 : decode cX0_init 291 = .ok (.bipush 100, 2) := dk_16 100 (dk_at dksX0_init_12 6 rfl rfl)
theorem dX0_init_293 : decode cX0_init 293 = .ok (.newarray .int, 2) := dk_188_10 (dk_at dksX0_init_12 8 rfl rfl)
theorem dX0_init_295 : decode cX0_init 295 = .ok (.putfield 115, 3) := dk_181 0 115 (dk_at dksX0_init_12 10 rfl rfl)
theorem dX0_init_298 : decode cX0_init 298 = .ok (.aload_n 0, 1) := dk_42 (dk_at dksX0_init_12 13 rfl rfl)
theorem dX0_init_299 : decode cX0_init 299 = .ok (.iconst 4, 1) := dk_7 (dk_at dksX0_init_12 14 rfl rfl)
theorem dX0_init_300 : decode cX0_init 300 = .ok (.anewarray 118, 3) := dk_189 0 118 (dk_at dksX0_init_12 15 rfl rfl)
theorem dX0_init_303 : decode cX0_init 303 = .ok (.putfield 120, 3) := dk_181 0 120 (dk_at dksX0_init_12 18 rfl rfl)
theorem dX0_init_306 : decode cX0_init 306 = .ok (.return_, 1) := dk_177 (dk_at dksX0_init_12 21 rfl rfl)
abbrev cX0_feed : ByteArray := prog_1_method_5_code
def yX0_feed : MethodName := ⟨RX0, "feed", "(IIIII)I"⟩
def dkwX0_feed_2 : List UInt8 := [172]
abbrev dktX0_feed_2 : List UInt8 := dkwX0_feed_2 ++ []
def dkwX0_feed_1 : List UInt8 := [182, 0, 127, 42, 29, 182, 0, 127, 42, 21, 4, 182, 0, 127, 42, 21, 5, 182, 0, 127, 42, 180, 0, 124]
abbrev dktX0_feed_1 : List UInt8 := dkwX0_feed_1 ++ dktX0_feed_2
def dkwX0_feed_0 : List UInt8 := [42, 180, 0, 124, 16, 20, 96, 17, 1, 144, 164, 0, 5, 2, 172, 42, 27, 182, 0, 127, 42, 28]
abbrev dktX0_feed_0 : List UInt8 := dkwX0_feed_0 ++ dktX0_feed_1
theorem dksX0_feed_0 : cX0_feed.data.toList.drop 0 = dktX0_feed_0 := by decide +kernel
theorem dksX0_feed_1 : cX0_feed.data.toList.drop 22 = dktX0_feed_1 := dk_seg dksX0_feed_0 22 rfl rfl
theorem dksX0_feed_2 : cX0_feed.data.toList.drop 46 = dktX0_feed_2 := dk_seg dksX0_feed_1 24 rfl rfl
theorem dX0_feed_0 : decode cX0_feed 0 = .ok (.aload_n 0, 1) := dk_42 (dk_at dksX0_feed_0 0 rfl rfl)
theorem dX0_feed_1 : decode cX0_feed 1 = .ok (.getfield 124, 3) := dk_180 0 124 (dk_at dksX0_feed_0 1 rfl rfl)
theorem dX0_feed_4 : decode cX0_feed 4 = .ok (.bipush 20, 2) := dk_16 20 (dk_at dksX0_feed_0 4 rfl rfl)
theorem dX0_feed_6 : decode cX0_feed 6 = .ok (.iadd, 1) := dk_96 (dk_at dksX0_feed_0 6 rfl rfl)
theorem dX0_feed_7 : decode cX0_feed 7 = .ok (.sipush 400, 3) := dk_17 1 144 (dk_at dksX0_feed_0 7 rfl rfl)
theorem dX0_feed_10 : decode cX0_feed 10 = .ok (.if_icmp .le 5, 3) := dk_164 0 5 (dk_at dksX0_feed_0 10 rfl rfl)
theorem dX0_feed_13 : decode cX0_feed 13 = .ok (.iconst (-1), 1) := dk_2 (dk_at dksX0_feed_0 13 rfl rfl)
theorem dX0_feed_14 : decode cX0_feed 14 = .ok (.ireturn, 1) := dk_172 (dk_at dksX0_feed_0 14 rfl rfl)
theorem dX0_feed_15 : decode cX0_feed 15 = .ok (.aload_n 0, 1) := dk_42 (dk_at dksX0_feed_0 15 rfl rfl)
theorem dX0_feed_16 : decode cX0_feed 16 = .ok (.iload_n 1, 1) := dk_27 (dk_at dksX0_feed_0 16 rfl rfl)
theorem dX0_feed_17 : decode cX0_feed 17 = .ok (.invokevirtual 127, 3) := dk_182 0 127 (dk_at dksX0_feed_0 17 rfl rfl)
theorem dX0_feed_20 : decode cX0_feed 20 = .ok (.aload_n 0, 1) := dk_42 (dk_at dksX0_feed_0 20 rfl rfl)
theorem dX0_feed_21 : decode cX0_feed 21 = .ok (.iload_n 2, 1) := dk_28 (dk_at dksX0_feed_0 21 rfl rfl)
theorem dX0_feed_22 : decode cX0_feed 22 = .ok (.invokevirtual 127, 3) := dk_182 0 127 (dk_at dksX0_feed_1 0 rfl rfl)
theorem dX0_feed_25 : decode cX0_feed 25 = .ok (.aload_n 0, 1) := dk_42 (dk_at dksX0_feed_1 3 rfl rfl)
theorem dX0_feed_26 : decode cX0_feed 26 = .ok (.iload_n 3, 1) := dk_29 (dk_at dksX0_feed_1 4 rfl rfl)
theorem dX0_feed_27 : decode cX0_feed 27 = .ok (.invokevirtual 127, 3) := dk_182 0 127 (dk_at dksX0_feed_1 5 rfl rfl)
theorem dX0_feed_30 : decode cX0_feed 30 = .ok (.aload_n 0, 1) := dk_42 (dk_at dksX0_feed_1 8 rfl rfl)
theorem dX0_feed_31 : decode cX0_feed 31 = .ok (.iload 4, 2) := dk_21 4 (dk_at dksX0_feed_1 9 rfl rfl)
theorem dX0_feed_33 : decode cX0_feed 33 = .ok (.invokevirtual 127, 3) := dk_182 0 127 (dk_at dksX0_feed_1 11 rfl rfl)
theorem dX0_feed_36 : decode cX0_feed 36 = .ok (.aload_n 0, 1) := dk_42 (dk_at dksX0_feed_1 14 rfl rfl)
theorem dX0_feed_37 : decode cX0_feed 37 = .ok (.iload 5, 2) := dk_21 5 (dk_at dksX0_feed_1 15 rfl rfl)
theorem dX0_feed_39 : decode cX0_feed 39 = .ok (.invokevirtual 127, 3) := dk_182 0 127 (dk_at dksX0_feed_1 17 rfl rfl)
theorem dX0_feed_42 : decode cX0_feed 42 = .ok (.aload_n 0, 1) := dk_42 (dk_at dksX0_feed_1 20 rfl rfl)
theorem dX0_feed_43 : decode cX0_feed 43 = .ok (.getfield 124, 3) := dk_180 0 124 (dk_at dksX0_feed_1 21 rfl rfl)
theorem dX0_feed_46 : decode cX0_feed 46 = .ok (.ireturn, 1) := dk_172 (dk_at dksX0_feed_2 0 rfl rfl)
abbrev cX0_four : ByteArray := prog_1_method_6_code
def yX0_four : MethodName := ⟨RX0, "four", "(I)V"⟩
def dkwX0_four_1 : List UInt8 := [180, 0, 124, 4, 96, 181, 0, 124, 132, 2, 248, 167, 255, 226, 177]
abbrev dktX0_four_1 : List UInt8 := dkwX0_four_1 ++ []
def dkwX0_four_0 : List UInt8 := [16, 24, 61, 28, 155, 0, 32, 42, 180, 0, 49, 42, 180, 0, 124, 27, 28, 122, 145, 84, 42, 89]
abbrev dktX0_four_0 : List UInt8 := dkwX0_four_0 ++ dktX0_four_1
theorem dksX0_four_0 : cX0_four.data.toList.drop 0 = dktX0_four_0 := by decide +kernel
theorem dksX0_four_1 : cX0_four.data.toList.drop 22 = dktX0_four_1 := dk_seg dksX0_four_0 22 rfl rfl
theorem dX0_four_0 : decode cX0_four 0 = .ok (.bipush 24, 2) := dk_16 24 (dk_at dksX0_four_0 0 rfl rfl)
theorem dX0_four_2 : decode cX0_four 2 = .ok (.istore_n 2, 1) := dk_61 (dk_at dksX0_four_0 2 rfl rfl)
theorem dX0_four_3 : decode cX0_four 3 = .ok (.iload_n 2, 1) := dk_28 (dk_at dksX0_four_0 3 rfl rfl)
theorem dX0_four_4 : decode cX0_four 4 = .ok (.ifCond .lt 32, 3) := dk_155 0 32 (dk_at dksX0_four_0 4 rfl rfl)
theorem dX0_four_7 : decode cX0_four 7 = .ok (.aload_n 0, 1) := dk_42 (dk_at dksX0_four_0 7 rfl rfl)
theorem dX0_four_8 : decode cX0_four 8 = .ok (.getfield 49, 3) := dk_180 0 49 (dk_at dksX0_four_0 8 rfl rfl)
theorem dX0_four_11 : decode cX0_four 11 = .ok (.aload_n 0, 1) := dk_42 (dk_at dksX0_four_0 11 rfl rfl)
theorem dX0_four_12 : decode cX0_four 12 = .ok (.getfield 124, 3) := dk_180 0 124 (dk_at dksX0_four_0 12 rfl rfl)
theorem dX0_four_15 : decode cX0_four 15 = .ok (.iload_n 1, 1) := dk_27 (dk_at dksX0_four_0 15 rfl rfl)
theorem dX0_four_16 : decode cX0_four 16 = .ok (.iload_n 2, 1) := dk_28 (dk_at dksX0_four_0 16 rfl rfl)
theorem dX0_four_17 : decode cX0_four 17 = .ok (.ishr, 1) := dk_122 (dk_at dksX0_four_0 17 rfl rfl)
theorem dX0_four_18 : decode cX0_four 18 = .ok (.i2b, 1) := dk_145 (dk_at dksX0_four_0 18 rfl rfl)
theorem dX0_four_19 : decode cX0_four 19 = .ok (.bastore, 1) := dk_84 (dk_at dksX0_four_0 19 rfl rfl)
theorem dX0_four_20 : decode cX0_four 20 = .ok (.aload_n 0, 1) := dk_42 (dk_at dksX0_four_0 20 rfl rfl)
theorem dX0_four_21 : decode cX0_four 21 = .ok (.dup, 1) := dk_89 (dk_at dksX0_four_0 21 rfl rfl)
theorem dX0_four_22 : decode cX0_four 22 = .ok (.getfield 124, 3) := dk_180 0 124 (dk_at dksX0_four_1 0 rfl rfl)
theorem dX0_four_25 : decode cX0_four 25 = .ok (.iconst 1, 1) := dk_4 (dk_at dksX0_four_1 3 rfl rfl)
theorem dX0_four_26 : decode cX0_four 26 = .ok (.iadd, 1) := dk_96 (dk_at dksX0_four_1 4 rfl rfl)
theorem dX0_four_27 : decode cX0_four 27 = .ok (.putfield 124, 3) := dk_181 0 124 (dk_at dksX0_four_1 5 rfl rfl)
theorem dX0_four_30 : decode cX0_four 30 = .ok (.iinc 2 (-8), 3) := dk_132 2 248 (dk_at dksX0_four_1 8 rfl rfl)
theorem dX0_four_33 : decode cX0_four 33 = .ok (.goto (-30), 3) := dk_167 255 226 (dk_at dksX0_four_1 11 rfl rfl)
theorem dX0_four_36 : decode cX0_four 36 = .ok (.return_, 1) := dk_177 (dk_at dksX0_four_1 14 rfl rfl)
abbrev cX0_end : ByteArray := prog_1_method_7_code
def yX0_end : MethodName := ⟨RX0, "end", "(I)I"⟩
def dkwX0_end_0 : List UInt8 := [27, 155, 0, 11, 27, 42, 180, 0, 124, 164, 0, 5, 2, 172, 42, 27, 181, 0, 124, 27, 172]
abbrev dktX0_end_0 : List UInt8 := dkwX0_end_0 ++ []
theorem dksX0_end_0 : cX0_end.data.toList.drop 0 = dktX0_end_0 := by decide +kernel
theorem dX0_end_0 : decode cX0_end 0 = .ok (.iload_n 1, 1) := dk_27 (dk_at dksX0_end_0 0 rfl rfl)
theorem dX0_end_1 : decode cX0_end 1 = .ok (.ifCond .lt 11, 3) := dk_155 0 11 (dk_at dksX0_end_0 1 rfl rfl)
theorem dX0_end_4 : decode cX0_end 4 = .ok (.iload_n 1, 1) := dk_27 (dk_at dksX0_end_0 4 rfl rfl)
theorem dX0_end_5 : decode cX0_end 5 = .ok (.aload_n 0, 1) := dk_42 (dk_at dksX0_end_0 5 rfl rfl)
theorem dX0_end_6 : decode cX0_end 6 = .ok (.getfield 124, 3) := dk_180 0 124 (dk_at dksX0_end_0 6 rfl rfl)
theorem dX0_end_9 : decode cX0_end 9 = .ok (.if_icmp .le 5, 3) := dk_164 0 5 (dk_at dksX0_end_0 9 rfl rfl)
theorem dX0_end_12 : decode cX0_end 12 = .ok (.iconst (-1), 1) := dk_2 (dk_at dksX0_end_0 12 rfl rfl)
theorem dX0_end_13 : decode cX0_end 13 = .ok (.ireturn, 1) := dk_172 (dk_at dksX0_end_0 13 rfl rfl)
theorem dX0_end_14 : decode cX0_end 14 = .ok (.aload_n 0, 1) := dk_42 (dk_at dksX0_end_0 14 rfl rfl)
theorem dX0_end_15 : decode cX0_end 15 = .ok (.iload_n 1, 1) := dk_27 (dk_at dksX0_end_0 15 rfl rfl)
theorem dX0_end_16 : decode cX0_end 16 = .ok (.putfield 124, 3) := dk_181 0 124 (dk_at dksX0_end_0 16 rfl rfl)
theorem dX0_end_19 : decode cX0_end 19 = .ok (.iload_n 1, 1) := dk_27 (dk_at dksX0_end_0 19 rfl rfl)
theorem dX0_end_20 : decode cX0_end 20 = .ok (.ireturn, 1) := dk_172 (dk_at dksX0_end_0 20 rfl rfl)
abbrev cX0_strip : ByteArray := prog_1_method_9_code
def yX0_strip : MethodName := ⟨RX0, "strip", "()I"⟩
def dkwX0_strip_1 : List UInt8 := [180, 0, 150, 180, 0, 152, 60, 167, 0, 9, 77, 42, 182, 0, 155, 60, 42, 3, 181, 0, 124, 27, 172]
abbrev dktX0_strip_1 : List UInt8 := dkwX0_strip_1 ++ []
def dkwX0_strip_0 : List UInt8 := [42, 42, 180, 0, 19, 187, 0, 137, 89, 42, 183, 0, 139, 182, 0, 142, 182, 0, 146, 181, 0, 150, 42]
abbrev dktX0_strip_0 : List UInt8 := dkwX0_strip_0 ++ dktX0_strip_1
theorem dksX0_strip_0 : cX0_strip.data.toList.drop 0 = dktX0_strip_0 := by decide +kernel
theorem dksX0_strip_1 : cX0_strip.data.toList.drop 23 = dktX0_strip_1 := dk_seg dksX0_strip_0 23 rfl rfl
theorem dX0_strip_0 : decode cX0_strip 0 = .ok (.aload_n 0, 1) := dk_42 (dk_at dksX0_strip_0 0 rfl rfl)
theorem dX0_strip_1 : decode cX0_strip 1 = .ok (.aload_n 0, 1) := dk_42 (dk_at dksX0_strip_0 1 rfl rfl)
theorem dX0_strip_2 : decode cX0_strip 2 = .ok (.getfield 19, 3) := dk_180 0 19 (dk_at dksX0_strip_0 2 rfl rfl)
theorem dX0_strip_5 : decode cX0_strip 5 = .ok (.new 137, 3) := dk_187 0 137 (dk_at dksX0_strip_0 5 rfl rfl)
theorem dX0_strip_8 : decode cX0_strip 8 = .ok (.dup, 1) := dk_89 (dk_at dksX0_strip_0 8 rfl rfl)
theorem dX0_strip_9 : decode cX0_strip 9 = .ok (.aload_n 0, 1) := dk_42 (dk_at dksX0_strip_0 9 rfl rfl)
theorem dX0_strip_10 : decode cX0_strip 10 = .ok (.invokespecial 139, 3) := dk_183 0 139 (dk_at dksX0_strip_0 10 rfl rfl)
theorem dX0_strip_13 : decode cX0_strip 13 = .ok (.invokevirtual 142, 3) := dk_182 0 142 (dk_at dksX0_strip_0 13 rfl rfl)
theorem dX0_strip_16 : decode cX0_strip 16 = .ok (.invokevirtual 146, 3) := dk_182 0 146 (dk_at dksX0_strip_0 16 rfl rfl)
theorem dX0_strip_19 : decode cX0_strip 19 = .ok (.putfield 150, 3) := dk_181 0 150 (dk_at dksX0_strip_0 19 rfl rfl)
theorem dX0_strip_22 : decode cX0_strip 22 = .ok (.aload_n 0, 1) := dk_42 (dk_at dksX0_strip_0 22 rfl rfl)
theorem dX0_strip_23 : decode cX0_strip 23 = .ok (.getfield 150, 3) := dk_180 0 150 (dk_at dksX0_strip_1 0 rfl rfl)
theorem dX0_strip_26 : decode cX0_strip 26 = .ok (.getfield 152, 3) := dk_180 0 152 (dk_at dksX0_strip_1 3 rfl rfl)
theorem dX0_strip_29 : decode cX0_strip 29 = .ok (.istore_n 1, 1) := dk_60 (dk_at dksX0_strip_1 6 rfl rfl)
theorem dX0_strip_30 : decode cX0_strip 30 = .ok (.goto 9, 3) := dk_167 0 9 (dk_at dksX0_strip_1 7 rfl rfl)
theorem dX0_strip_33 : decode cX0_strip 33 = .ok (.astore_n 2, 1) := dk_77 (dk_at dksX0_strip_1 10 rfl rfl)
theorem dX0_strip_34 : decode cX0_strip 34 = .ok (.aload_n 0, 1) := dk_42 (dk_at dksX0_strip_1 11 rfl rfl)
theorem dX0_strip_35 : decode cX0_strip 35 = .ok (.invokevirtual 155, 3) := dk_182 0 155 (dk_at dksX0_strip_1 12 rfl rfl)
theorem dX0_strip_38 : decode cX0_strip 38 = .ok (.istore_n 1, 1) := dk_60 (dk_at dksX0_strip_1 15 rfl rfl)
theorem dX0_strip_39 : decode cX0_strip 39 = .ok (.aload_n 0, 1) := dk_42 (dk_at dksX0_strip_1 16 rfl rfl)
theorem dX0_strip_40 : decode cX0_strip 40 = .ok (.iconst 0, 1) := dk_3 (dk_at dksX0_strip_1 17 rfl rfl)
theorem dX0_strip_41 : decode cX0_strip 41 = .ok (.putfield 124, 3) := dk_181 0 124 (dk_at dksX0_strip_1 18 rfl rfl)
theorem dX0_strip_44 : decode cX0_strip 44 = .ok (.iload_n 1, 1) := dk_27 (dk_at dksX0_strip_1 21 rfl rfl)
theorem dX0_strip_45 : decode cX0_strip 45 = .ok (.ireturn, 1) := dk_172 (dk_at dksX0_strip_1 22 rfl rfl)
abbrev cX0_in : ByteArray := prog_1_method_1_code
def yX0_in : MethodName := ⟨RX0, "in", "(JJJ)Z"⟩
def dkwX0_in_0 : List UInt8 := [30, 32, 148, 155, 0, 14, 30, 22, 4, 148, 157, 0, 7, 4, 167, 0, 4, 3, 172]
abbrev dktX0_in_0 : List UInt8 := dkwX0_in_0 ++ []
theorem dksX0_in_0 : cX0_in.data.toList.drop 0 = dktX0_in_0 := by decide +kernel
theorem dX0_in_0 : decode cX0_in 0 = .ok (.lload_n 0, 1) := dk_30 (dk_at dksX0_in_0 0 rfl rfl)
theorem dX0_in_1 : decode cX0_in 1 = .ok (.lload_n 2, 1) := dk_32 (dk_at dksX0_in_0 1 rfl rfl)
theorem dX0_in_2 : decode cX0_in 2 = .ok (.lcmp, 1) := dk_148 (dk_at dksX0_in_0 2 rfl rfl)
theorem dX0_in_3 : decode cX0_in 3 = .ok (.ifCond .lt 14, 3) := dk_155 0 14 (dk_at dksX0_in_0 3 rfl rfl)
theorem dX0_in_6 : decode cX0_in 6 = .ok (.lload_n 0, 1) := dk_30 (dk_at dksX0_in_0 6 rfl rfl)
theorem dX0_in_7 : decode cX0_in 7 = .ok (.lload 4, 2) := dk_22 4 (dk_at dksX0_in_0 7 rfl rfl)
theorem dX0_in_9 : decode cX0_in 9 = .ok (.lcmp, 1) := dk_148 (dk_at dksX0_in_0 9 rfl rfl)
theorem dX0_in_10 : decode cX0_in 10 = .ok (.ifCond .gt 7, 3) := dk_157 0 7 (dk_at dksX0_in_0 10 rfl rfl)
theorem dX0_in_13 : decode cX0_in 13 = .ok (.iconst 1, 1) := dk_4 (dk_at dksX0_in_0 13 rfl rfl)
theorem dX0_in_14 : decode cX0_in 14 = .ok (.goto 4, 3) := dk_167 0 4 (dk_at dksX0_in_0 14 rfl rfl)
theorem dX0_in_17 : decode cX0_in 17 = .ok (.iconst 0, 1) := dk_3 (dk_at dksX0_in_0 17 rfl rfl)
theorem dX0_in_18 : decode cX0_in 18 = .ok (.ireturn, 1) := dk_172 (dk_at dksX0_in_0 18 rfl rfl)
abbrev cX0_faulted : ByteArray := prog_1_method_8_code
def yX0_faulted : MethodName := ⟨RX0, "faulted", "()I"⟩
def dkwX0_faulted_0 : List UInt8 := [16, 254, 4, 16, 8, 42, 180, 0, 45, 180, 0, 131, 104, 96, 42, 180, 0, 45, 180, 0, 134, 96, 100, 172]
abbrev dktX0_faulted_0 : List UInt8 := dkwX0_faulted_0 ++ []
theorem dksX0_faulted_0 : cX0_faulted.data.toList.drop 0 = dktX0_faulted_0 := by decide +kernel
theorem dX0_faulted_0 : decode cX0_faulted 0 = .ok (.bipush (-2), 2) := dk_16 254 (dk_at dksX0_faulted_0 0 rfl rfl)
theorem dX0_faulted_2 : decode cX0_faulted 2 = .ok (.iconst 1, 1) := dk_4 (dk_at dksX0_faulted_0 2 rfl rfl)
theorem dX0_faulted_3 : decode cX0_faulted 3 = .ok (.bipush 8, 2) := dk_16 8 (dk_at dksX0_faulted_0 3 rfl rfl)
theorem dX0_faulted_5 : decode cX0_faulted 5 = .ok (.aload_n 0, 1) := dk_42 (dk_at dksX0_faulted_0 5 rfl rfl)
theorem dX0_faulted_6 : decode cX0_faulted 6 = .ok (.getfield 45, 3) := dk_180 0 45 (dk_at dksX0_faulted_0 6 rfl rfl)
theorem dX0_faulted_9 : decode cX0_faulted 9 = .ok (.getfield 131, 3) := dk_180 0 131 (dk_at dksX0_faulted_0 9 rfl rfl)
theorem dX0_faulted_12 : decode cX0_faulted 12 = .ok (.imul, 1) := dk_104 (dk_at dksX0_faulted_0 12 rfl rfl)
theorem dX0_faulted_13 : decode cX0_faulted 13 = .ok (.iadd, 1) := dk_96 (dk_at dksX0_faulted_0 13 rfl rfl)
theorem dX0_faulted_14 : decode cX0_faulted 14 = .ok (.aload_n 0, 1) := dk_42 (dk_at dksX0_faulted_0 14 rfl rfl)
theorem dX0_faulted_15 : decode cX0_faulted 15 = .ok (.getfield 45, 3) := dk_180 0 45 (dk_at dksX0_faulted_0 15 rfl rfl)
theorem dX0_faulted_18 : decode cX0_faulted 18 = .ok (.getfield 134, 3) := dk_180 0 134 (dk_at dksX0_faulted_0 18 rfl rfl)
theorem dX0_faulted_21 : decode cX0_faulted 21 = .ok (.iadd, 1) := dk_96 (dk_at dksX0_faulted_0 21 rfl rfl)
theorem dX0_faulted_22 : decode cX0_faulted 22 = .ok (.isub, 1) := dk_100 (dk_at dksX0_faulted_0 22 rfl rfl)
theorem dX0_faulted_23 : decode cX0_faulted 23 = .ok (.ireturn, 1) := dk_172 (dk_at dksX0_faulted_0 23 rfl rfl)
abbrev cX0_rule : ByteArray := prog_1_method_10_code
def yX0_rule : MethodName := ⟨RX0, "rule", "()I"⟩
def dkwX0_rule_2 : List UInt8 := [167, 0, 9, 77, 42, 182, 0, 155, 60, 42, 3, 181, 0, 124, 27, 172]
abbrev dktX0_rule_2 : List UInt8 := dkwX0_rule_2 ++ []
def dkwX0_rule_1 : List UInt8 := [187, 0, 137, 89, 42, 183, 0, 139, 182, 0, 162, 83, 42, 89, 180, 0, 159, 4, 96, 181, 0, 159]
abbrev dktX0_rule_1 : List UInt8 := dkwX0_rule_1 ++ dktX0_rule_2
def dkwX0_rule_0 : List UInt8 := [42, 180, 0, 159, 16, 6, 160, 0, 5, 2, 172, 42, 180, 0, 159, 60, 42, 180, 0, 101, 42, 180, 0, 159]
abbrev dktX0_rule_0 : List UInt8 := dkwX0_rule_0 ++ dktX0_rule_1
theorem dksX0_rule_0 : cX0_rule.data.toList.drop 0 = dktX0_rule_0 := by decide +kernel
theorem dksX0_rule_1 : cX0_rule.data.toList.drop 24 = dktX0_rule_1 := dk_seg dksX0_rule_0 24 rfl rfl
theorem dksX0_rule_2 : cX0_rule.data.toList.drop 46 = dktX0_rule_2 := dk_seg dksX0_rule_1 22 rfl rfl
theorem dX0_rule_0 : decode cX0_rule 0 = .ok (.aload_n 0, 1) := dk_42 (dk_at dksX0_rule_0 0 rfl rfl)
theorem dX0_rule_1 : decode cX0_rule 1 = .ok (.getfield 159, 3) := dk_180 0 159 (dk_at dksX0_rule_0 1 rfl rfl)
theorem dX0_rule_4 : decode cX0_rule 4 = .ok (.bipush 6, 2) := dk_16 6 (dk_at dksX0_rule_0 4 rfl rfl)
theorem dX0_rule_6 : decode cX0_rule 6 = .ok (.if_icmp .ne 5, 3) := dk_160 0 5 (dk_at dksX0_rule_0 6 rfl rfl)
theorem dX0_rule_9 : decode cX0_rule 9 = .ok (.iconst (-1), 1) := dk_2 (dk_at dksX0_rule_0 9 rfl rfl)
theorem dX0_rule_10 : decode cX0_rule 10 = .ok (.ireturn, 1) := dk_172 (dk_at dksX0_rule_0 10 rfl rfl)
theorem dX0_rule_11 : decode cX0_rule 11 = .ok (.aload_n 0, 1) := dk_42 (dk_at dksX0_rule_0 11 rfl rfl)
theorem dX0_rule_12 : decode cX0_rule 12 = .ok (.getfield 159, 3) := dk_180 0 159 (dk_at dksX0_rule_0 12 rfl rfl)
theorem dX0_rule_15 : decode cX0_rule 15 = .ok (.istore_n 1, 1) := dk_60 (dk_at dksX0_rule_0 15 rfl rfl)
theorem dX0_rule_16 : decode cX0_rule 16 = .ok (.aload_n 0, 1) := dk_42 (dk_at dksX0_rule_0 16 rfl rfl)
theorem dX0_rule_17 : decode cX0_rule 17 = .ok (.getfield 101, 3) := dk_180 0 101 (dk_at dksX0_rule_0 17 rfl rfl)
theorem dX0_rule_20 : decode cX0_rule 20 = .ok (.aload_n 0, 1) := dk_42 (dk_at dksX0_rule_0 20 rfl rfl)
theorem dX0_rule_21 : decode cX0_rule 21 = .ok (.getfield 159, 3) := dk_180 0 159 (dk_at dksX0_rule_0 21 rfl rfl)
theorem dX0_rule_24 : decode cX0_rule 24 = .ok (.new 137, 3) := dk_187 0 137 (dk_at dksX0_rule_1 0 rfl rfl)
theorem dX0_rule_27 : decode cX0_rule 27 = .ok (.dup, 1) := dk_89 (dk_at dksX0_rule_1 3 rfl rfl)
theorem dX0_rule_28 : decode cX0_rule 28 = .ok (.aload_n 0, 1) := dk_42 (dk_at dksX0_rule_1 4 rfl rfl)
theorem dX0_rule_29 : decode cX0_rule 29 = .ok (.invokespecial 139, 3) := dk_183 0 139 (dk_at dksX0_rule_1 5 rfl rfl)
theorem dX0_rule_32 : decode cX0_rule 32 = .ok (.invokevirtual 162, 3) := dk_182 0 162 (dk_at dksX0_rule_1 8 rfl rfl)
theorem dX0_rule_35 : decode cX0_rule 35 = .ok (.aastore, 1) := dk_83 (dk_at dksX0_rule_1 11 rfl rfl)
theorem dX0_rule_36 : decode cX0_rule 36 = .ok (.aload_n 0, 1) := dk_42 (dk_at dksX0_rule_1 12 rfl rfl)
theorem dX0_rule_37 : decode cX0_rule 37 = .ok (.dup, 1) := dk_89 (dk_at dksX0_rule_1 13 rfl rfl)
theorem dX0_rule_38 : decode cX0_rule 38 = .ok (.getfield 159, 3) := dk_180 0 159 (dk_at dksX0_rule_1 14 rfl rfl)
theorem dX0_rule_41 : decode cX0_rule 41 = .ok (.iconst 1, 1) := dk_4 (dk_at dksX0_rule_1 17 rfl rfl)
theorem dX0_rule_42 : decode cX0_rule 42 = .ok (.iadd, 1) := dk_96 (dk_at dksX0_rule_1 18 rfl rfl)
theorem dX0_rule_43 : decode cX0_rule 43 = .ok (.putfield 159, 3) := dk_181 0 159 (dk_at dksX0_rule_1 19 rfl rfl)
theorem dX0_rule_46 : decode cX0_rule 46 = .ok (.goto 9, 3) := dk_167 0 9 (dk_at dksX0_rule_2 0 rfl rfl)
theorem dX0_rule_49 : decode cX0_rule 49 = .ok (.astore_n 2, 1) := dk_77 (dk_at dksX0_rule_2 3 rfl rfl)
theorem dX0_rule_50 : decode cX0_rule 50 = .ok (.aload_n 0, 1) := dk_42 (dk_at dksX0_rule_2 4 rfl rfl)
theorem dX0_rule_51 : decode cX0_rule 51 = .ok (.invokevirtual 155, 3) := dk_182 0 155 (dk_at dksX0_rule_2 5 rfl rfl)
theorem dX0_rule_54 : decode cX0_rule 54 = .ok (.istore_n 1, 1) := dk_60 (dk_at dksX0_rule_2 8 rfl rfl)
theorem dX0_rule_55 : decode cX0_rule 55 = .ok (.aload_n 0, 1) := dk_42 (dk_at dksX0_rule_2 9 rfl rfl)
theorem dX0_rule_56 : decode cX0_rule 56 = .ok (.iconst 0, 1) := dk_3 (dk_at dksX0_rule_2 10 rfl rfl)
theorem dX0_rule_57 : decode cX0_rule 57 = .ok (.putfield 124, 3) := dk_181 0 124 (dk_at dksX0_rule_2 11 rfl rfl)
theorem dX0_rule_60 : decode cX0_rule 60 = .ok (.iload_n 1, 1) := dk_27 (dk_at dksX0_rule_2 14 rfl rfl)
theorem dX0_rule_61 : decode cX0_rule 61 = .ok (.ireturn, 1) := dk_172 (dk_at dksX0_rule_2 15 rfl rfl)
abbrev cX0_force : ByteArray := prog_1_method_11_code
def yX0_force : MethodName := ⟨RX0, "force", "(I)I"⟩
def dkwX0_force_1 : List UInt8 := [61, 42, 27, 181, 0, 38, 28, 172]
abbrev dktX0_force_1 : List UInt8 := dkwX0_force_1 ++ []
def dkwX0_force_0 : List UInt8 := [27, 2, 159, 0, 18, 27, 155, 0, 11, 27, 42, 180, 0, 159, 161, 0, 6, 16, 254, 172, 42, 180, 0, 38]
abbrev dktX0_force_0 : List UInt8 := dkwX0_force_0 ++ dktX0_force_1
theorem dksX0_force_0 : cX0_force.data.toList.drop 0 = dktX0_force_0 := by decide +kernel
theorem dksX0_force_1 : cX0_force.data.toList.drop 24 = dktX0_force_1 := dk_seg dksX0_force_0 24 rfl rfl
theorem dX0_force_0 : decode cX0_force 0 = .ok (.iload_n 1, 1) := dk_27 (dk_at dksX0_force_0 0 rfl rfl)
theorem dX0_force_1 : decode cX0_force 1 = .ok (.iconst (-1), 1) := dk_2 (dk_at dksX0_force_0 1 rfl rfl)
theorem dX0_force_2 : decode cX0_force 2 = .ok (.if_icmp .eq 18, 3) := dk_159 0 18 (dk_at dksX0_force_0 2 rfl rfl)
theorem dX0_force_5 : decode cX0_force 5 = .ok (.iload_n 1, 1) := dk_27 (dk_at dksX0_force_0 5 rfl rfl)
theorem dX0_force_6 : decode cX0_force 6 = .ok (.ifCond .lt 11, 3) := dk_155 0 11 (dk_at dksX0_force_0 6 rfl rfl)
theorem dX0_force_9 : decode cX0_force 9 = .ok (.iload_n 1, 1) := dk_27 (dk_at dksX0_force_0 9 rfl rfl)
theorem dX0_force_10 : decode cX0_force 10 = .ok (.aload_n 0, 1) := dk_42 (dk_at dksX0_force_0 10 rfl rfl)
theorem dX0_force_11 : decode cX0_force 11 = .ok (.getfield 159, 3) := dk_180 0 159 (dk_at dksX0_force_0 11 rfl rfl)
theorem dX0_force_14 : decode cX0_force 14 = .ok (.if_icmp .lt 6, 3) := dk_161 0 6 (dk_at dksX0_force_0 14 rfl rfl)
theorem dX0_force_17 : decode cX0_force 17 = .ok (.bipush (-2), 2) := dk_16 254 (dk_at dksX0_force_0 17 rfl rfl)
theorem dX0_force_19 : decode cX0_force 19 = .ok (.ireturn, 1) := dk_172 (dk_at dksX0_force_0 19 rfl rfl)
theorem dX0_force_20 : decode cX0_force 20 = .ok (.aload_n 0, 1) := dk_42 (dk_at dksX0_force_0 20 rfl rfl)
theorem dX0_force_21 : decode cX0_force 21 = .ok (.getfield 38, 3) := dk_180 0 38 (dk_at dksX0_force_0 21 rfl rfl)
theorem dX0_force_24 : decode cX0_force 24 = .ok (.istore_n 2, 1) := dk_61 (dk_at dksX0_force_1 0 rfl rfl)
theorem dX0_force_25 : decode cX0_force 25 = .ok (.aload_n 0, 1) := dk_42 (dk_at dksX0_force_1 1 rfl rfl)
theorem dX0_force_26 : decode cX0_force 26 = .ok (.iload_n 1, 1) := dk_27 (dk_at dksX0_force_1 2 rfl rfl)
theorem dX0_force_27 : decode cX0_force 27 = .ok (.putfield 38, 3) := dk_181 0 38 (dk_at dksX0_force_1 3 rfl rfl)
theorem dX0_force_30 : decode cX0_force 30 = .ok (.iload_n 2, 1) := dk_28 (dk_at dksX0_force_1 6 rfl rfl)
theorem dX0_force_31 : decode cX0_force 31 = .ok (.ireturn, 1) := dk_172 (dk_at dksX0_force_1 7 rfl rfl)
abbrev cX0_mile : ByteArray := prog_1_method_16_code
def yX0_mile : MethodName := ⟨RX0, "mile", "(II)I"⟩
def dkwX0_mile_6 : List UInt8 := [132, 4, 1, 167, 255, 216, 29, 172]
abbrev dktX0_mile_6 : List UInt8 := dkwX0_mile_6 ++ []
def dkwX0_mile_5 : List UInt8 := [42, 180, 0, 150, 180, 0, 182, 21, 4, 46, 27, 160, 0, 10, 4, 21, 4, 120, 167, 0, 4, 3, 128, 62]
abbrev dktX0_mile_5 : List UInt8 := dkwX0_mile_5 ++ dktX0_mile_6
def dkwX0_mile_4 : List UInt8 := [167, 0, 6, 16, 156, 172, 3, 62, 3, 54, 4, 21, 4, 42, 180, 0, 150, 180, 0, 152, 162, 0, 34, 29]
abbrev dktX0_mile_4 : List UInt8 := dkwX0_mile_4 ++ dktX0_mile_5
def dkwX0_mile_3 : List UInt8 := [180, 0, 180, 27, 46, 172, 42, 180, 0, 150, 27, 182, 0, 173, 153, 0, 7, 4, 167, 0, 4, 3, 172]
abbrev dktX0_mile_3 : List UInt8 := dkwX0_mile_3 ++ dktX0_mile_4
def dkwX0_mile_2 : List UInt8 := [42, 180, 0, 150, 180, 0, 176, 27, 46, 172, 42, 180, 0, 150, 180, 0, 178, 27, 46, 172, 42, 180, 0, 150]
abbrev dktX0_mile_2 : List UInt8 := dkwX0_mile_2 ++ dktX0_mile_3
def dkwX0_mile_1 : List UInt8 := [170, 0, 0, 0, 0, 0, 0, 86, 0, 0, 0, 0, 0, 0, 0, 4, 0, 0, 0, 36, 0, 0, 0, 46, 0, 0, 0, 56, 0, 0, 0, 66, 0, 0, 0, 83]
abbrev dktX0_mile_1 : List UInt8 := dkwX0_mile_1 ++ dktX0_mile_2
def dkwX0_mile_0 : List UInt8 := [42, 27, 182, 0, 169, 154, 0, 6, 16, 156, 172, 28]
abbrev dktX0_mile_0 : List UInt8 := dkwX0_mile_0 ++ dktX0_mile_1
theorem dksX0_mile_0 : cX0_mile.data.toList.drop 0 = dktX0_mile_0 := by decide +kernel
theorem dksX0_mile_1 : cX0_mile.data.toList.drop 12 = dktX0_mile_1 := dk_seg dksX0_mile_0 12 rfl rfl
theorem dksX0_mile_2 : cX0_mile.data.toList.drop 48 = dktX0_mile_2 := dk_seg dksX0_mile_1 36 rfl rfl
theorem dksX0_mile_3 : cX0_mile.data.toList.drop 72 = dktX0_mile_3 := dk_seg dksX0_mile_2 24 rfl rfl
theorem dksX0_mile_4 : cX0_mile.data.toList.drop 95 = dktX0_mile_4 := dk_seg dksX0_mile_3 23 rfl rfl
theorem dksX0_mile_5 : cX0_mile.data.toList.drop 119 = dktX0_mile_5 := dk_seg dksX0_mile_4 24 rfl rfl
theorem dksX0_mile_6 : cX0_mile.data.toList.drop 143 = dktX0_mile_6 := dk_seg dksX0_mile_5 24 rfl rfl
theorem dX0_mile_0 : decode cX0_mile 0 = .ok (.aload_n 0, 1) := dk_42 (dk_at dksX0_mile_0 0 rfl rfl)
theorem dX0_mile_1 : decode cX0_mile 1 = .ok (.iload_n 1, 1) := dk_27 (dk_at dksX0_mile_0 1 rfl rfl)
theorem dX0_mile_2 : decode cX0_mile 2 = .ok (.invokevirtual 169, 3) := dk_182 0 169 (dk_at dksX0_mile_0 2 rfl rfl)
theorem dX0_mile_5 : decode cX0_mile 5 = .ok (.ifCond .ne 6, 3) := dk_154 0 6 (dk_at dksX0_mile_0 5 rfl rfl)
theorem dX0_mile_8 : decode cX0_mile 8 = .ok (.bipush (-100), 2) := dk_16 156 (dk_at dksX0_mile_0 8 rfl rfl)
theorem dX0_mile_10 : decode cX0_mile 10 = .ok (.ireturn, 1) := dk_172 (dk_at dksX0_mile_0 10 rfl rfl)
theorem dX0_mile_11 : decode cX0_mile 11 = .ok (.iload_n 2, 1) := dk_28 (dk_at dksX0_mile_0 11 rfl rfl)
theorem dX0_mile_12 : decode cX0_mile 12 = .ok (.tableswitch 86 0 4 #[36, 46, 56, 66, 83], 36) := by decide +kernel
theorem dX0_mile_48 : decode cX0_mile 48 = .ok (.aload_n 0, 1) := dk_42 (dk_at dksX0_mile_2 0 rfl rfl)
theorem dX0_mile_49 : decode cX0_mile 49 = .ok (.getfield 150, 3) := dk_180 0 150 (dk_at dksX0_mile_2 1 rfl rfl)
theorem dX0_mile_52 : decode cX0_mile 52 = .ok (.getfield 176, 3) := dk_180 0 176 (dk_at dksX0_mile_2 4 rfl rfl)
theorem dX0_mile_55 : decode cX0_mile 55 = .ok (.iload_n 1, 1) := dk_27 (dk_at dksX0_mile_2 7 rfl rfl)
theorem dX0_mile_56 : decode cX0_mile 56 = .ok (.iaload, 1) := dk_46 (dk_at dksX0_mile_2 8 rfl rfl)
theorem dX0_mile_57 : decode cX0_mile 57 = .ok (.ireturn, 1) := dk_172 (dk_at dksX0_mile_2 9 rfl rfl)
theorem dX0_mile_58 : decode cX0_mile 58 = .ok (.aload_n 0, 1) := dk_42 (dk_at dksX0_mile_2 10 rfl rfl)
theorem dX0_mile_59 : decode cX0_mile 59 = .ok (.getfield 150, 3) := dk_180 0 150 (dk_at dksX0_mile_2 11 rfl rfl)
theorem dX0_mile_62 : decode cX0_mile 62 = .ok (.getfield 178, 3) := dk_180 0 178 (dk_at dksX0_mile_2 14 rfl rfl)
theorem dX0_mile_65 : decode cX0_mile 65 = .ok (.iload_n 1, 1) := dk_27 (dk_at dksX0_mile_2 17 rfl rfl)
theorem dX0_mile_66 : decode cX0_mile 66 = .ok (.iaload, 1) := dk_46 (dk_at dksX0_mile_2 18 rfl rfl)
theorem dX0_mile_67 : decode cX0_mile 67 = .ok (.ireturn, 1) := dk_172 (dk_at dksX0_mile_2 19 rfl rfl)
theorem dX0_mile_68 : decode cX0_mile 68 = .ok (.aload_n 0, 1) := dk_42 (dk_at dksX0_mile_2 20 rfl rfl)
theorem dX0_mile_69 : decode cX0_mile 69 = .ok (.getfield 150, 3) := dk_180 0 150 (dk_at dksX0_mile_2 21 rfl rfl)
theorem dX0_mile_72 : decode cX0_mile 72 = .ok (.getfield 180, 3) := dk_180 0 180 (dk_at dksX0_mile_3 0 rfl rfl)
theorem dX0_mile_75 : decode cX0_mile 75 = .ok (.iload_n 1, 1) := dk_27 (dk_at dksX0_mile_3 3 rfl rfl)
theorem dX0_mile_76 : decode cX0_mile 76 = .ok (.iaload, 1) := dk_46 (dk_at dksX0_mile_3 4 rfl rfl)
theorem dX0_mile_77 : decode cX0_mile 77 = .ok (.ireturn, 1) := dk_172 (dk_at dksX0_mile_3 5 rfl rfl)
theorem dX0_mile_78 : decode cX0_mile 78 = .ok (.aload_n 0, 1) := dk_42 (dk_at dksX0_mile_3 6 rfl rfl)
theorem dX0_mile_79 : decode cX0_mile 79 = .ok (.getfield 150, 3) := dk_180 0 150 (dk_at dksX0_mile_3 7 rfl rfl)
theorem dX0_mile_82 : decode cX0_mile 82 = .ok (.iload_n 1, 1) := dk_27 (dk_at dksX0_mile_3 10 rfl rfl)
theorem dX0_mile_83 : decode cX0_mile 83 = .ok (.invokevirtual 173, 3) := dk_182 0 173 (dk_at dksX0_mile_3 11 rfl rfl)
theorem dX0_mile_86 : decode cX0_mile 86 = .ok (.ifCond .eq 7, 3) := dk_153 0 7 (dk_at dksX0_mile_3 14 rfl rfl)
theorem dX0_mile_89 : decode cX0_mile 89 = .ok (.iconst 1, 1) := dk_4 (dk_at dksX0_mile_3 17 rfl rfl)
theorem dX0_mile_90 : decode cX0_mile 90 = .ok (.goto 4, 3) := dk_167 0 4 (dk_at dksX0_mile_3 18 rfl rfl)
theorem dX0_mile_93 : decode cX0_mile 93 = .ok (.iconst 0, 1) := dk_3 (dk_at dksX0_mile_3 21 rfl rfl)
theorem dX0_mile_94 : decode cX0_mile 94 = .ok (.ireturn, 1) := dk_172 (dk_at dksX0_mile_3 22 rfl rfl)
theorem dX0_mile_95 : decode cX0_mile 95 = .ok (.goto 6, 3) := dk_167 0 6 (dk_at dksX0_mile_4 0 rfl rfl)
theorem dX0_mile_98 : decode cX0_mile 98 = .ok (.bipush (-100), 2) := dk_16 156 (dk_at dksX0_mile_4 3 rfl rfl)
theorem dX0_mile_100 : decode cX0_mile 100 = .ok (.ireturn, 1) := dk_172 (dk_at dksX0_mile_4 5 rfl rfl)
theorem dX0_mile_101 : decode cX0_mile 101 = .ok (.iconst 0, 1) := dk_3 (dk_at dksX0_mile_4 6 rfl rfl)
theorem dX0_mile_102 : decode cX0_mile 102 = .ok (.istore_n 3, 1) := dk_62 (dk_at dksX0_mile_4 7 rfl rfl)
theorem dX0_mile_103 : decode cX0_mile 103 = .ok (.iconst 0, 1) := dk_3 (dk_at dksX0_mile_4 8 rfl rfl)
theorem dX0_mile_104 : decode cX0_mile 104 = .ok (.istore 4, 2) := dk_54 4 (dk_at dksX0_mile_4 9 rfl rfl)
theorem dX0_mile_106 : decode cX0_mile 106 = .ok (.iload 4, 2) := dk_21 4 (dk_at dksX0_mile_4 11 rfl rfl)
theorem dX0_mile_108 : decode cX0_mile 108 = .ok (.aload_n 0, 1) := dk_42 (dk_at dksX0_mile_4 13 rfl rfl)
theorem dX0_mile_109 : decode cX0_mile 109 = .ok (.getfield 150, 3) := dk_180 0 150 (dk_at dksX0_mile_4 14 rfl rfl)
theorem dX0_mile_112 : decode cX0_mile 112 = .ok (.getfield 152, 3) := dk_180 0 152 (dk_at dksX0_mile_4 17 rfl rfl)
theorem dX0_mile_115 : decode cX0_mile 115 = .ok (.if_icmp .ge 34, 3) := dk_162 0 34 (dk_at dksX0_mile_4 20 rfl rfl)
theorem dX0_mile_118 : decode cX0_mile 118 = .ok (.iload_n 3, 1) := dk_29 (dk_at dksX0_mile_4 23 rfl rfl)
theorem dX0_mile_119 : decode cX0_mile 119 = .ok (.aload_n 0, 1) := dk_42 (dk_at dksX0_mile_5 0 rfl rfl)
theorem dX0_mile_120 : decode cX0_mile 120 = .ok (.getfield 150, 3) := dk_180 0 150 (dk_at dksX0_mile_5 1 rfl rfl)
theorem dX0_mile_123 : decode cX0_mile 123 = .ok (.getfield 182, 3) := dk_180 0 182 (dk_at dksX0_mile_5 4 rfl rfl)
theorem dX0_mile_126 : decode cX0_mile 126 = .ok (.iload 4, 2) := dk_21 4 (dk_at dksX0_mile_5 7 rfl rfl)
theorem dX0_mile_128 : decode cX0_mile 128 = .ok (.iaload, 1) := dk_46 (dk_at dksX0_mile_5 9 rfl rfl)
theorem dX0_mile_129 : decode cX0_mile 129 = .ok (.iload_n 1, 1) := dk_27 (dk_at dksX0_mile_5 10 rfl rfl)
theorem dX0_mile_130 : decode cX0_mile 130 = .ok (.if_icmp .ne 10, 3) := dk_160 0 10 (dk_at dksX0_mile_5 11 rfl rfl)
theorem dX0_mile_133 : decode cX0_mile 133 = .ok (.iconst 1, 1) := dk_4 (dk_at dksX0_mile_5 14 rfl rfl)
theorem dX0_mile_134 : decode cX0_mile 134 = .ok (.iload 4, 2) := dk_21 4 (dk_at dksX0_mile_5 15 rfl rfl)
theorem dX0_mile_136 : decode cX0_mile 136 = .ok (.ishl, 1) := dk_120 (dk_at dksX0_mile_5 17 rfl rfl)
theorem dX0_mile_137 : decode cX0_mile 137 = .ok (.goto 4, 3) := dk_167 0 4 (dk_at dksX0_mile_5 18 rfl rfl)
theorem dX0_mile_140 : decode cX0_mile 140 = .ok (.iconst 0, 1) := dk_3 (dk_at dksX0_mile_5 21 rfl rfl)
theorem dX0_mile_141 : decode cX0_mile 141 = .ok (.ior, 1) := dk_128 (dk_at dksX0_mile_5 22 rfl rfl)
theorem dX0_mile_142 : decode cX0_mile 142 = .ok (.istore_n 3, 1) := dk_62 (dk_at dksX0_mile_5 23 rfl rfl)
theorem dX0_mile_143 : decode cX0_mile 143 = .ok (.iinc 4 1, 3) := dk_132 4 1 (dk_at dksX0_mile_6 0 rfl rfl)
theorem dX0_mile_146 : decode cX0_mile 146 = .ok (.goto (-40), 3) := dk_167 255 216 (dk_at dksX0_mile_6 3 rfl rfl)
theorem dX0_mile_149 : decode cX0_mile 149 = .ok (.iload_n 3, 1) := dk_29 (dk_at dksX0_mile_6 6 rfl rfl)
theorem dX0_mile_150 : decode cX0_mile 150 = .ok (.ireturn, 1) := dk_172 (dk_at dksX0_mile_6 7 rfl rfl)
abbrev cX0_isMile : ByteArray := prog_1_method_13_code
def yX0_isMile : MethodName := ⟨RX0, "isMile", "(I)Z"⟩
def dkwX0_isMile_1 : List UInt8 := [167, 0, 4, 3, 172]
abbrev dktX0_isMile_1 : List UInt8 := dkwX0_isMile_1 ++ []
def dkwX0_isMile_0 : List UInt8 := [42, 180, 0, 150, 198, 0, 22, 27, 155, 0, 18, 27, 42, 180, 0, 150, 180, 0, 166, 162, 0, 7, 4]
abbrev dktX0_isMile_0 : List UInt8 := dkwX0_isMile_0 ++ dktX0_isMile_1
theorem dksX0_isMile_0 : cX0_isMile.data.toList.drop 0 = dktX0_isMile_0 := by decide +kernel
theorem dksX0_isMile_1 : cX0_isMile.data.toList.drop 23 = dktX0_isMile_1 := dk_seg dksX0_isMile_0 23 rfl rfl
theorem dX0_isMile_0 : decode cX0_isMile 0 = .ok (.aload_n 0, 1) := dk_42 (dk_at dksX0_isMile_0 0 rfl rfl)
theorem dX0_isMile_1 : decode cX0_isMile 1 = .ok (.getfield 150, 3) := dk_180 0 150 (dk_at dksX0_isMile_0 1 rfl rfl)
theorem dX0_isMile_4 : decode cX0_isMile 4 = .ok (.ifnull 22, 3) := dk_198 0 22 (dk_at dksX0_isMile_0 4 rfl rfl)
theorem dX0_isMile_7 : decode cX0_isMile 7 = .ok (.iload_n 1, 1) := dk_27 (dk_at dksX0_isMile_0 7 rfl rfl)
theorem dX0_isMile_8 : decode cX0_isMile 8 = .ok (.ifCond .lt 18, 3) := dk_155 0 18 (dk_at dksX0_isMile_0 8 rfl rfl)
theorem dX0_isMile_11 : decode cX0_isMile 11 = .ok (.iload_n 1, 1) := dk_27 (dk_at dksX0_isMile_0 11 rfl rfl)
theorem dX0_isMile_12 : decode cX0_isMile 12 = .ok (.aload_n 0, 1) := dk_42 (dk_at dksX0_isMile_0 12 rfl rfl)
theorem dX0_isMile_13 : decode cX0_isMile 13 = .ok (.getfield 150, 3) := dk_180 0 150 (dk_at dksX0_isMile_0 13 rfl rfl)
theorem dX0_isMile_16 : decode cX0_isMile 16 = .ok (.getfield 166, 3) := dk_180 0 166 (dk_at dksX0_isMile_0 16 rfl rfl)
theorem dX0_isMile_19 : decode cX0_isMile 19 = .ok (.if_icmp .ge 7, 3) := dk_162 0 7 (dk_at dksX0_isMile_0 19 rfl rfl)
theorem dX0_isMile_22 : decode cX0_isMile 22 = .ok (.iconst 1, 1) := dk_4 (dk_at dksX0_isMile_0 22 rfl rfl)
theorem dX0_isMile_23 : decode cX0_isMile 23 = .ok (.goto 4, 3) := dk_167 0 4 (dk_at dksX0_isMile_1 0 rfl rfl)
theorem dX0_isMile_26 : decode cX0_isMile 26 = .ok (.iconst 0, 1) := dk_3 (dk_at dksX0_isMile_1 3 rfl rfl)
theorem dX0_isMile_27 : decode cX0_isMile 27 = .ok (.ireturn, 1) := dk_172 (dk_at dksX0_isMile_1 4 rfl rfl)
abbrev cX0_has : ByteArray := prog_1_method_2_code
def yX0_has : MethodName := ⟨RX0, "has", "(II)Z"⟩
def dkwX0_has_0 : List UInt8 := [26, 27, 122, 4, 126, 4, 160, 0, 7, 4, 167, 0, 4, 3, 172]
abbrev dktX0_has_0 : List UInt8 := dkwX0_has_0 ++ []
theorem dksX0_has_0 : cX0_has.data.toList.drop 0 = dktX0_has_0 := by decide +kernel
theorem dX0_has_0 : decode cX0_has 0 = .ok (.iload_n 0, 1) := dk_26 (dk_at dksX0_has_0 0 rfl rfl)
theorem dX0_has_1 : decode cX0_has 1 = .ok (.iload_n 1, 1) := dk_27 (dk_at dksX0_has_0 1 rfl rfl)
theorem dX0_has_2 : decode cX0_has 2 = .ok (.ishr, 1) := dk_122 (dk_at dksX0_has_0 2 rfl rfl)
theorem dX0_has_3 : decode cX0_has 3 = .ok (.iconst 1, 1) := dk_4 (dk_at dksX0_has_0 3 rfl rfl)
theorem dX0_has_4 : decode cX0_has 4 = .ok (.iand, 1) := dk_126 (dk_at dksX0_has_0 4 rfl rfl)
theorem dX0_has_5 : decode cX0_has 5 = .ok (.iconst 1, 1) := dk_4 (dk_at dksX0_has_0 5 rfl rfl)
theorem dX0_has_6 : decode cX0_has 6 = .ok (.if_icmp .ne 7, 3) := dk_160 0 7 (dk_at dksX0_has_0 6 rfl rfl)
theorem dX0_has_9 : decode cX0_has 9 = .ok (.iconst 1, 1) := dk_4 (dk_at dksX0_has_0 9 rfl rfl)
theorem dX0_has_10 : decode cX0_has 10 = .ok (.goto 4, 3) := dk_167 0 4 (dk_at dksX0_has_0 10 rfl rfl)
theorem dX0_has_13 : decode cX0_has 13 = .ok (.iconst 0, 1) := dk_3 (dk_at dksX0_has_0 13 rfl rfl)
theorem dX0_has_14 : decode cX0_has 14 = .ok (.ireturn, 1) := dk_172 (dk_at dksX0_has_0 14 rfl rfl)
abbrev cX0_village : ByteArray := prog_1_method_17_code
def yX0_village : MethodName := ⟨RX0, "village", "(II)I"⟩
def dkwX0_village_4 : List UInt8 := [172, 16, 156, 172]
abbrev dktX0_village_4 : List UInt8 := dkwX0_village_4 ++ []
def dkwX0_village_3 : List UInt8 := [180, 0, 190, 27, 46, 172, 42, 180, 0, 150, 27, 182, 0, 193, 172, 42, 180, 0, 150, 180, 0, 197, 27, 46]
abbrev dktX0_village_3 : List UInt8 := dkwX0_village_3 ++ dktX0_village_4
def dkwX0_village_2 : List UInt8 := [42, 180, 0, 150, 180, 0, 182, 27, 46, 172, 42, 180, 0, 150, 180, 0, 188, 27, 46, 172, 42, 180, 0, 150]
abbrev dktX0_village_2 : List UInt8 := dkwX0_village_2 ++ dktX0_village_3
def dkwX0_village_1 : List UInt8 := [170, 0, 0, 0, 0, 0, 0, 85, 0, 0, 0, 0, 0, 0, 0, 4, 0, 0, 0, 36, 0, 0, 0, 46, 0, 0, 0, 56, 0, 0, 0, 66, 0, 0, 0, 75]
abbrev dktX0_village_1 : List UInt8 := dkwX0_village_1 ++ dktX0_village_2
def dkwX0_village_0 : List UInt8 := [42, 27, 182, 0, 185, 154, 0, 6, 16, 156, 172, 28]
abbrev dktX0_village_0 : List UInt8 := dkwX0_village_0 ++ dktX0_village_1
theorem dksX0_village_0 : cX0_village.data.toList.drop 0 = dktX0_village_0 := by decide +kernel
theorem dksX0_village_1 : cX0_village.data.toList.drop 12 = dktX0_village_1 := dk_seg dksX0_village_0 12 rfl rfl
theorem dksX0_village_2 : cX0_village.data.toList.drop 48 = dktX0_village_2 := dk_seg dksX0_village_1 36 rfl rfl
theorem dksX0_village_3 : cX0_village.data.toList.drop 72 = dktX0_village_3 := dk_seg dksX0_village_2 24 rfl rfl
theorem dksX0_village_4 : cX0_village.data.toList.drop 96 = dktX0_village_4 := dk_seg dksX0_village_3 24 rfl rfl
theorem dX0_village_0 : decode cX0_village 0 = .ok (.aload_n 0, 1) := dk_42 (dk_at dksX0_village_0 0 rfl rfl)
theorem dX0_village_1 : decode cX0_village 1 = .ok (.iload_n 1, 1) := dk_27 (dk_at dksX0_village_0 1 rfl rfl)
theorem dX0_village_2 : decode cX0_village 2 = .ok (.invokevirtual 185, 3) := dk_182 0 185 (dk_at dksX0_village_0 2 rfl rfl)
theorem dX0_village_5 : decode cX0_village 5 = .ok (.ifCond .ne 6, 3) := dk_154 0 6 (dk_at dksX0_village_0 5 rfl rfl)
theorem dX0_village_8 : decode cX0_village 8 = .ok (.bipush (-100), 2) := dk_16 156 (dk_at dksX0_village_0 8 rfl rfl)
theorem dX0_village_10 : decode cX0_village 10 = .ok (.ireturn, 1) := dk_172 (dk_at dksX0_village_0 10 rfl rfl)
theorem dX0_village_11 : decode cX0_village 11 = .ok (.iload_n 2, 1) := dk_28 (dk_at dksX0_village_0 11 rfl rfl)
theorem dX0_village_12 : decode cX0_village 12 = .ok (.tableswitch 85 0 4 #[36, 46, 56, 66, 75], 36) := by decide +kernel
theorem dX0_village_48 : decode cX0_village 48 = .ok (.aload_n 0, 1) := dk_42 (dk_at dksX0_village_2 0 rfl rfl)
theorem dX0_village_49 : decode cX0_village 49 = .ok (.getfield 150, 3) := dk_180 0 150 (dk_at dksX0_village_2 1 rfl rfl)
theorem dX0_village_52 : decode cX0_village 52 = .ok (.getfield 182, 3) := dk_180 0 182 (dk_at dksX0_village_2 4 rfl rfl)
theorem dX0_village_55 : decode cX0_village 55 = .ok (.iload_n 1, 1) := dk_27 (dk_at dksX0_village_2 7 rfl rfl)
theorem dX0_village_56 : decode cX0_village 56 = .ok (.iaload, 1) := dk_46 (dk_at dksX0_village_2 8 rfl rfl)
theorem dX0_village_57 : decode cX0_village 57 = .ok (.ireturn, 1) := dk_172 (dk_at dksX0_village_2 9 rfl rfl)
theorem dX0_village_58 : decode cX0_village 58 = .ok (.aload_n 0, 1) := dk_42 (dk_at dksX0_village_2 10 rfl rfl)
theorem dX0_village_59 : decode cX0_village 59 = .ok (.getfield 150, 3) := dk_180 0 150 (dk_at dksX0_village_2 11 rfl rfl)
theorem dX0_village_62 : decode cX0_village 62 = .ok (.getfield 188, 3) := dk_180 0 188 (dk_at dksX0_village_2 14 rfl rfl)
theorem dX0_village_65 : decode cX0_village 65 = .ok (.iload_n 1, 1) := dk_27 (dk_at dksX0_village_2 17 rfl rfl)
theorem dX0_village_66 : decode cX0_village 66 = .ok (.iaload, 1) := dk_46 (dk_at dksX0_village_2 18 rfl rfl)
theorem dX0_village_67 : decode cX0_village 67 = .ok (.ireturn, 1) := dk_172 (dk_at dksX0_village_2 19 rfl rfl)
theorem dX0_village_68 : decode cX0_village 68 = .ok (.aload_n 0, 1) := dk_42 (dk_at dksX0_village_2 20 rfl rfl)
theorem dX0_village_69 : decode cX0_village 69 = .ok (.getfield 150, 3) := dk_180 0 150 (dk_at dksX0_village_2 21 rfl rfl)
theorem dX0_village_72 : decode cX0_village 72 = .ok (.getfield 190, 3) := dk_180 0 190 (dk_at dksX0_village_3 0 rfl rfl)
theorem dX0_village_75 : decode cX0_village 75 = .ok (.iload_n 1, 1) := dk_27 (dk_at dksX0_village_3 3 rfl rfl)
theorem dX0_village_76 : decode cX0_village 76 = .ok (.iaload, 1) := dk_46 (dk_at dksX0_village_3 4 rfl rfl)
theorem dX0_village_77 : decode cX0_village 77 = .ok (.ireturn, 1) := dk_172 (dk_at dksX0_village_3 5 rfl rfl)
theorem dX0_village_78 : decode cX0_village 78 = .ok (.aload_n 0, 1) := dk_42 (dk_at dksX0_village_3 6 rfl rfl)
theorem dX0_village_79 : decode cX0_village 79 = .ok (.getfield 150, 3) := dk_180 0 150 (dk_at dksX0_village_3 7 rfl rfl)
theorem dX0_village_82 : decode cX0_village 82 = .ok (.iload_n 1, 1) := dk_27 (dk_at dksX0_village_3 10 rfl rfl)
theorem dX0_village_83 : decode cX0_village 83 = .ok (.invokevirtual 193, 3) := dk_182 0 193 (dk_at dksX0_village_3 11 rfl rfl)
theorem dX0_village_86 : decode cX0_village 86 = .ok (.ireturn, 1) := dk_172 (dk_at dksX0_village_3 14 rfl rfl)
theorem dX0_village_87 : decode cX0_village 87 = .ok (.aload_n 0, 1) := dk_42 (dk_at dksX0_village_3 15 rfl rfl)
theorem dX0_village_88 : decode cX0_village 88 = .ok (.getfield 150, 3) := dk_180 0 150 (dk_at dksX0_village_3 16 rfl rfl)
theorem dX0_village_91 : decode cX0_village 91 = .ok (.getfield 197, 3) := dk_180 0 197 (dk_at dksX0_village_3 19 rfl rfl)
theorem dX0_village_94 : decode cX0_village 94 = .ok (.iload_n 1, 1) := dk_27 (dk_at dksX0_village_3 22 rfl rfl)
theorem dX0_village_95 : decode cX0_village 95 = .ok (.iaload, 1) := dk_46 (dk_at dksX0_village_3 23 rfl rfl)
theorem dX0_village_96 : decode cX0_village 96 = .ok (.ireturn, 1) := dk_172 (dk_at dksX0_village_4 0 rfl rfl)
theorem dX0_village_97 : decode cX0_village 97 = .ok (.bipush (-100), 2) := dk_16 156 (dk_at dksX0_village_4 1 rfl rfl)
theorem dX0_village_99 : decode cX0_village 99 = .ok (.ireturn, 1) := dk_172 (dk_at dksX0_village_4 3 rfl rfl)
abbrev cX0_isVillage : ByteArray := prog_1_method_15_code
def yX0_isVillage : MethodName := ⟨RX0, "isVillage", "(I)Z"⟩
def dkwX0_isVillage_1 : List UInt8 := [167, 0, 4, 3, 172]
abbrev dktX0_isVillage_1 : List UInt8 := dkwX0_isVillage_1 ++ []
def dkwX0_isVillage_0 : List UInt8 := [42, 180, 0, 150, 198, 0, 22, 27, 155, 0, 18, 27, 42, 180, 0, 150, 180, 0, 152, 162, 0, 7, 4]
abbrev dktX0_isVillage_0 : List UInt8 := dkwX0_isVillage_0 ++ dktX0_isVillage_1
theorem dksX0_isVillage_0 : cX0_isVillage.data.toList.drop 0 = dktX0_isVillage_0 := by decide +kernel
theorem dksX0_isVillage_1 : cX0_isVillage.data.toList.drop 23 = dktX0_isVillage_1 := dk_seg dksX0_isVillage_0 23 rfl rfl
theorem dX0_isVillage_0 : decode cX0_isVillage 0 = .ok (.aload_n 0, 1) := dk_42 (dk_at dksX0_isVillage_0 0 rfl rfl)
theorem dX0_isVillage_1 : decode cX0_isVillage 1 = .ok (.getfield 150, 3) := dk_180 0 150 (dk_at dksX0_isVillage_0 1 rfl rfl)
theorem dX0_isVillage_4 : decode cX0_isVillage 4 = .ok (.ifnull 22, 3) := dk_198 0 22 (dk_at dksX0_isVillage_0 4 rfl rfl)
theorem dX0_isVillage_7 : decode cX0_isVillage 7 = .ok (.iload_n 1, 1) := dk_27 (dk_at dksX0_isVillage_0 7 rfl rfl)
theorem dX0_isVillage_8 : decode cX0_isVillage 8 = .ok (.ifCond .lt 18, 3) := dk_155 0 18 (dk_at dksX0_isVillage_0 8 rfl rfl)
theorem dX0_isVillage_11 : decode cX0_isVillage 11 = .ok (.iload_n 1, 1) := dk_27 (dk_at dksX0_isVillage_0 11 rfl rfl)
theorem dX0_isVillage_12 : decode cX0_isVillage 12 = .ok (.aload_n 0, 1) := dk_42 (dk_at dksX0_isVillage_0 12 rfl rfl)
theorem dX0_isVillage_13 : decode cX0_isVillage 13 = .ok (.getfield 150, 3) := dk_180 0 150 (dk_at dksX0_isVillage_0 13 rfl rfl)
theorem dX0_isVillage_16 : decode cX0_isVillage 16 = .ok (.getfield 152, 3) := dk_180 0 152 (dk_at dksX0_isVillage_0 16 rfl rfl)
theorem dX0_isVillage_19 : decode cX0_isVillage 19 = .ok (.if_icmp .ge 7, 3) := dk_162 0 7 (dk_at dksX0_isVillage_0 19 rfl rfl)
theorem dX0_isVillage_22 : decode cX0_isVillage 22 = .ok (.iconst 1, 1) := dk_4 (dk_at dksX0_isVillage_0 22 rfl rfl)
theorem dX0_isVillage_23 : decode cX0_isVillage 23 = .ok (.goto 4, 3) := dk_167 0 4 (dk_at dksX0_isVillage_1 0 rfl rfl)
theorem dX0_isVillage_26 : decode cX0_isVillage 26 = .ok (.iconst 0, 1) := dk_3 (dk_at dksX0_isVillage_1 3 rfl rfl)
theorem dX0_isVillage_27 : decode cX0_isVillage 27 = .ok (.ireturn, 1) := dk_172 (dk_at dksX0_isVillage_1 4 rfl rfl)
abbrev cX0_warm : ByteArray := prog_1_method_18_code
def yX0_warm : MethodName := ⟨RX0, "warm", "(I)I"⟩
def dkwX0_warm_0 : List UInt8 := [42, 180, 0, 150, 198, 0, 7, 27, 156, 0, 7, 2, 167, 0, 11, 42, 180, 0, 150, 27, 182, 0, 200, 172]
abbrev dktX0_warm_0 : List UInt8 := dkwX0_warm_0 ++ []
theorem dksX0_warm_0 : cX0_warm.data.toList.drop 0 = dktX0_warm_0 := by decide +kernel
theorem dX0_warm_0 : decode cX0_warm 0 = .ok (.aload_n 0, 1) := dk_42 (dk_at dksX0_warm_0 0 rfl rfl)
theorem dX0_warm_1 : decode cX0_warm 1 = .ok (.getfield 150, 3) := dk_180 0 150 (dk_at dksX0_warm_0 1 rfl rfl)
theorem dX0_warm_4 : decode cX0_warm 4 = .ok (.ifnull 7, 3) := dk_198 0 7 (dk_at dksX0_warm_0 4 rfl rfl)
theorem dX0_warm_7 : decode cX0_warm 7 = .ok (.iload_n 1, 1) := dk_27 (dk_at dksX0_warm_0 7 rfl rfl)
theorem dX0_warm_8 : decode cX0_warm 8 = .ok (.ifCond .ge 7, 3) := dk_156 0 7 (dk_at dksX0_warm_0 8 rfl rfl)
theorem dX0_warm_11 : decode cX0_warm 11 = .ok (.iconst (-1), 1) := dk_2 (dk_at dksX0_warm_0 11 rfl rfl)
theorem dX0_warm_12 : decode cX0_warm 12 = .ok (.goto 11, 3) := dk_167 0 11 (dk_at dksX0_warm_0 12 rfl rfl)
theorem dX0_warm_15 : decode cX0_warm 15 = .ok (.aload_n 0, 1) := dk_42 (dk_at dksX0_warm_0 15 rfl rfl)
theorem dX0_warm_16 : decode cX0_warm 16 = .ok (.getfield 150, 3) := dk_180 0 150 (dk_at dksX0_warm_0 16 rfl rfl)
theorem dX0_warm_19 : decode cX0_warm 19 = .ok (.iload_n 1, 1) := dk_27 (dk_at dksX0_warm_0 19 rfl rfl)
theorem dX0_warm_20 : decode cX0_warm 20 = .ok (.invokevirtual 200, 3) := dk_182 0 200 (dk_at dksX0_warm_0 20 rfl rfl)
theorem dX0_warm_23 : decode cX0_warm 23 = .ok (.ireturn, 1) := dk_172 (dk_at dksX0_warm_0 23 rfl rfl)
abbrev cX0_undo : ByteArray := prog_1_method_20_code
def yX0_undo : MethodName := ⟨RX0, "undo", "()I"⟩
def dkwX0_undo_2 : List UInt8 := [180, 0, 150, 180, 0, 203, 172]
abbrev dktX0_undo_2 : List UInt8 := dkwX0_undo_2 ++ []
def dkwX0_undo_1 : List UInt8 := [89, 180, 0, 203, 4, 100, 181, 0, 203, 42, 180, 0, 150, 42, 180, 0, 150, 180, 0, 203, 182, 0, 218, 42]
abbrev dktX0_undo_1 : List UInt8 := dkwX0_undo_1 ++ dktX0_undo_2
def dkwX0_undo_0 : List UInt8 := [42, 180, 0, 150, 198, 0, 13, 42, 180, 0, 150, 180, 0, 203, 154, 0, 6, 16, 254, 172, 42, 180, 0, 150]
abbrev dktX0_undo_0 : List UInt8 := dkwX0_undo_0 ++ dktX0_undo_1
theorem dksX0_undo_0 : cX0_undo.data.toList.drop 0 = dktX0_undo_0 := by decide +kernel
theorem dksX0_undo_1 : cX0_undo.data.toList.drop 24 = dktX0_undo_1 := dk_seg dksX0_undo_0 24 rfl rfl
theorem dksX0_undo_2 : cX0_undo.data.toList.drop 48 = dktX0_undo_2 := dk_seg dksX0_undo_1 24 rfl rfl
theorem dX0_undo_0 : decode cX0_undo 0 = .ok (.aload_n 0, 1) := dk_42 (dk_at dksX0_undo_0 0 rfl rfl)
theorem dX0_undo_1 : decode cX0_undo 1 = .ok (.getfield 150, 3) := dk_180 0 150 (dk_at dksX0_undo_0 1 rfl rfl)
theorem dX0_undo_4 : decode cX0_undo 4 = .ok (.ifnull 13, 3) := dk_198 0 13 (dk_at dksX0_undo_0 4 rfl rfl)
theorem dX0_undo_7 : decode cX0_undo 7 = .ok (.aload_n 0, 1) := dk_42 (dk_at dksX0_undo_0 7 rfl rfl)
theorem dX0_undo_8 : decode cX0_undo 8 = .ok (.getfield 150, 3) := dk_180 0 150 (dk_at dksX0_undo_0 8 rfl rfl)
theorem dX0_undo_11 : decode cX0_undo 11 = .ok (.getfield 203, 3) := dk_180 0 203 (dk_at dksX0_undo_0 11 rfl rfl)
theorem dX0_undo_14 : decode cX0_undo 14 = .ok (.ifCond .ne 6, 3) := dk_154 0 6 (dk_at dksX0_undo_0 14 rfl rfl)
theorem dX0_undo_17 : decode cX0_undo 17 = .ok (.bipush (-2), 2) := dk_16 254 (dk_at dksX0_undo_0 17 rfl rfl)
theorem dX0_undo_19 : decode cX0_undo 19 = .ok (.ireturn, 1) := dk_172 (dk_at dksX0_undo_0 19 rfl rfl)
theorem dX0_undo_20 : decode cX0_undo 20 = .ok (.aload_n 0, 1) := dk_42 (dk_at dksX0_undo_0 20 rfl rfl)
theorem dX0_undo_21 : decode cX0_undo 21 = .ok (.getfield 150, 3) := dk_180 0 150 (dk_at dksX0_undo_0 21 rfl rfl)
theorem dX0_undo_24 : decode cX0_undo 24 = .ok (.dup, 1) := dk_89 (dk_at dksX0_undo_1 0 rfl rfl)
theorem dX0_undo_25 : decode cX0_undo 25 = .ok (.getfield 203, 3) := dk_180 0 203 (dk_at dksX0_undo_1 1 rfl rfl)
theorem dX0_undo_28 : decode cX0_undo 28 = .ok (.iconst 1, 1) := dk_4 (dk_at dksX0_undo_1 4 rfl rfl)
theorem dX0_undo_29 : decode cX0_undo 29 = .ok (.isub, 1) := dk_100 (dk_at dksX0_undo_1 5 rfl rfl)
theorem dX0_undo_30 : decode cX0_undo 30 = .ok (.putfield 203, 3) := dk_181 0 203 (dk_at dksX0_undo_1 6 rfl rfl)
theorem dX0_undo_33 : decode cX0_undo 33 = .ok (.aload_n 0, 1) := dk_42 (dk_at dksX0_undo_1 9 rfl rfl)
theorem dX0_undo_34 : decode cX0_undo 34 = .ok (.getfield 150, 3) := dk_180 0 150 (dk_at dksX0_undo_1 10 rfl rfl)
theorem dX0_undo_37 : decode cX0_undo 37 = .ok (.aload_n 0, 1) := dk_42 (dk_at dksX0_undo_1 13 rfl rfl)
theorem dX0_undo_38 : decode cX0_undo 38 = .ok (.getfield 150, 3) := dk_180 0 150 (dk_at dksX0_undo_1 14 rfl rfl)
theorem dX0_undo_41 : decode cX0_undo 41 = .ok (.getfield 203, 3) := dk_180 0 203 (dk_at dksX0_undo_1 17 rfl rfl)
theorem dX0_undo_44 : decode cX0_undo 44 = .ok (.invokevirtual 218, 3) := dk_182 0 218 (dk_at dksX0_undo_1 20 rfl rfl)
theorem dX0_undo_47 : decode cX0_undo 47 = .ok (.aload_n 0, 1) := dk_42 (dk_at dksX0_undo_1 23 rfl rfl)
theorem dX0_undo_48 : decode cX0_undo 48 = .ok (.getfield 150, 3) := dk_180 0 150 (dk_at dksX0_undo_2 0 rfl rfl)
theorem dX0_undo_51 : decode cX0_undo 51 = .ok (.getfield 203, 3) := dk_180 0 203 (dk_at dksX0_undo_2 3 rfl rfl)
theorem dX0_undo_54 : decode cX0_undo 54 = .ok (.ireturn, 1) := dk_172 (dk_at dksX0_undo_2 6 rfl rfl)
abbrev cX0_night : ByteArray := prog_1_method_21_code
def yX0_night : MethodName := ⟨RX0, "night", "()I"⟩
def dkwX0_night_1 : List UInt8 := [182, 0, 224, 42, 180, 0, 150, 42, 182, 0, 227, 182, 0, 230, 172]
abbrev dktX0_night_1 : List UInt8 := dkwX0_night_1 ++ []
def dkwX0_night_0 : List UInt8 := [42, 180, 0, 150, 198, 0, 16, 42, 180, 0, 150, 180, 0, 221, 17, 3, 231, 160, 0, 5, 2, 172, 42]
abbrev dktX0_night_0 : List UInt8 := dkwX0_night_0 ++ dktX0_night_1
theorem dksX0_night_0 : cX0_night.data.toList.drop 0 = dktX0_night_0 := by decide +kernel
theorem dksX0_night_1 : cX0_night.data.toList.drop 23 = dktX0_night_1 := dk_seg dksX0_night_0 23 rfl rfl
theorem dX0_night_0 : decode cX0_night 0 = .ok (.aload_n 0, 1) := dk_42 (dk_at dksX0_night_0 0 rfl rfl)
theorem dX0_night_1 : decode cX0_night 1 = .ok (.getfield 150, 3) := dk_180 0 150 (dk_at dksX0_night_0 1 rfl rfl)
theorem dX0_night_4 : decode cX0_night 4 = .ok (.ifnull 16, 3) := dk_198 0 16 (dk_at dksX0_night_0 4 rfl rfl)
theorem dX0_night_7 : decode cX0_night 7 = .ok (.aload_n 0, 1) := dk_42 (dk_at dksX0_night_0 7 rfl rfl)
theorem dX0_night_8 : decode cX0_night 8 = .ok (.getfield 150, 3) := dk_180 0 150 (dk_at dksX0_night_0 8 rfl rfl)
theorem dX0_night_11 : decode cX0_night 11 = .ok (.getfield 221, 3) := dk_180 0 221 (dk_at dksX0_night_0 11 rfl rfl)
theorem dX0_night_14 : decode cX0_night 14 = .ok (.sipush 999, 3) := dk_17 3 231 (dk_at dksX0_night_0 14 rfl rfl)
theorem dX0_night_17 : decode cX0_night 17 = .ok (.if_icmp .ne 5, 3) := dk_160 0 5 (dk_at dksX0_night_0 17 rfl rfl)
theorem dX0_night_20 : decode cX0_night 20 = .ok (.iconst (-1), 1) := dk_2 (dk_at dksX0_night_0 20 rfl rfl)
theorem dX0_night_21 : decode cX0_night 21 = .ok (.ireturn, 1) := dk_172 (dk_at dksX0_night_0 21 rfl rfl)
theorem dX0_night_22 : decode cX0_night 22 = .ok (.aload_n 0, 1) := dk_42 (dk_at dksX0_night_0 22 rfl rfl)
theorem dX0_night_23 : decode cX0_night 23 = .ok (.invokevirtual 224, 3) := dk_182 0 224 (dk_at dksX0_night_1 0 rfl rfl)
theorem dX0_night_26 : decode cX0_night 26 = .ok (.aload_n 0, 1) := dk_42 (dk_at dksX0_night_1 3 rfl rfl)
theorem dX0_night_27 : decode cX0_night 27 = .ok (.getfield 150, 3) := dk_180 0 150 (dk_at dksX0_night_1 4 rfl rfl)
theorem dX0_night_30 : decode cX0_night 30 = .ok (.aload_n 0, 1) := dk_42 (dk_at dksX0_night_1 7 rfl rfl)
theorem dX0_night_31 : decode cX0_night 31 = .ok (.invokevirtual 227, 3) := dk_182 0 227 (dk_at dksX0_night_1 8 rfl rfl)
theorem dX0_night_34 : decode cX0_night 34 = .ok (.invokevirtual 230, 3) := dk_182 0 230 (dk_at dksX0_night_1 11 rfl rfl)
theorem dX0_night_37 : decode cX0_night 37 = .ok (.ireturn, 1) := dk_172 (dk_at dksX0_night_1 14 rfl rfl)
abbrev cX0_keepsAct : ByteArray := prog_1_method_19_code
def yX0_keepsAct : MethodName := ⟨RX0, "keepsAct", "()V"⟩
def dkwX0_keepsAct_3 : List UInt8 := [180, 0, 203, 4, 96, 181, 0, 203, 177]
abbrev dktX0_keepsAct_3 : List UInt8 := dkwX0_keepsAct_3 ++ []
def dkwX0_keepsAct_2 : List UInt8 := [181, 0, 203, 42, 180, 0, 150, 42, 180, 0, 150, 180, 0, 203, 182, 0, 215, 42, 180, 0, 150, 89]
abbrev dktX0_keepsAct_2 : List UInt8 := dkwX0_keepsAct_2 ++ dktX0_keepsAct_3
def dkwX0_keepsAct_1 : List UInt8 := [180, 0, 150, 180, 0, 206, 3, 17, 2, 248, 184, 0, 209, 42, 180, 0, 150, 89, 180, 0, 203, 4, 100]
abbrev dktX0_keepsAct_1 : List UInt8 := dkwX0_keepsAct_1 ++ dktX0_keepsAct_2
def dkwX0_keepsAct_0 : List UInt8 := [42, 180, 0, 150, 180, 0, 203, 16, 20, 160, 0, 39, 42, 180, 0, 150, 180, 0, 206, 16, 40, 42]
abbrev dktX0_keepsAct_0 : List UInt8 := dkwX0_keepsAct_0 ++ dktX0_keepsAct_1
theorem dksX0_keepsAct_0 : cX0_keepsAct.data.toList.drop 0 = dktX0_keepsAct_0 := by decide +kernel
theorem dksX0_keepsAct_1 : cX0_keepsAct.data.toList.drop 22 = dktX0_keepsAct_1 := dk_seg dksX0_keepsAct_0 22 rfl rfl
theorem dksX0_keepsAct_2 : cX0_keepsAct.data.toList.drop 45 = dktX0_keepsAct_2 := dk_seg dksX0_keepsAct_1 23 rfl rfl
theorem dksX0_keepsAct_3 : cX0_keepsAct.data.toList.drop 67 = dktX0_keepsAct_3 := dk_seg dksX0_keepsAct_2 22 rfl rfl
theorem dX0_keepsAct_0 : decode cX0_keepsAct 0 = .ok (.aload_n 0, 1) := dk_42 (dk_at dksX0_keepsAct_0 0 rfl rfl)
theorem dX0_keepsAct_1 : decode cX0_keepsAct 1 = .ok (.getfield 150, 3) := dk_180 0 150 (dk_at dksX0_keepsAct_0 1 rfl rfl)
theorem dX0_keepsAct_4 : decode cX0_keepsAct 4 = .ok (.getfield 203, 3) := dk_180 0 203 (dk_at dksX0_keepsAct_0 4 rfl rfl)
theorem dX0_keepsAct_7 : decode cX0_keepsAct 7 = .ok (.bipush 20, 2) := dk_16 20 (dk_at dksX0_keepsAct_0 7 rfl rfl)
theorem dX0_keepsAct_9 : decode cX0_keepsAct 9 = .ok (.if_icmp .ne 39, 3) := dk_160 0 39 (dk_at dksX0_keepsAct_0 9 rfl rfl)
theorem dX0_keepsAct_12 : decode cX0_keepsAct 12 = .ok (.aload_n 0, 1) := dk_42 (dk_at dksX0_keepsAct_0 12 rfl rfl)
theorem dX0_keepsAct_13 : decode cX0_keepsAct 13 = .ok (.getfield 150, 3) := dk_180 0 150 (dk_at dksX0_keepsAct_0 13 rfl rfl)
theorem dX0_keepsAct_16 : decode cX0_keepsAct 16 = .ok (.getfield 206, 3) := dk_180 0 206 (dk_at dksX0_keepsAct_0 16 rfl rfl)
theorem dX0_keepsAct_19 : decode cX0_keepsAct 19 = .ok (.bipush 40, 2) := dk_16 40 (dk_at dksX0_keepsAct_0 19 rfl rfl)
theorem dX0_keepsAct_21 : decode cX0_keepsAct 21 = .ok (.aload_n 0, 1) := dk_42 (dk_at dksX0_keepsAct_0 21 rfl rfl)
theorem dX0_keepsAct_22 : decode cX0_keepsAct 22 = .ok (.getfield 150, 3) := dk_180 0 150 (dk_at dksX0_keepsAct_1 0 rfl rfl)
theorem dX0_keepsAct_25 : decode cX0_keepsAct 25 = .ok (.getfield 206, 3) := dk_180 0 206 (dk_at dksX0_keepsAct_1 3 rfl rfl)
theorem dX0_keepsAct_28 : decode cX0_keepsAct 28 = .ok (.iconst 0, 1) := dk_3 (dk_at dksX0_keepsAct_1 6 rfl rfl)
theorem dX0_keepsAct_29 : decode cX0_keepsAct 29 = .ok (.sipush 760, 3) := dk_17 2 248 (dk_at dksX0_keepsAct_1 7 rfl rfl)
theorem dX0_keepsAct_32 : decode cX0_keepsAct 32 = .ok (.invokestatic 209, 3) := dk_184 0 209 (dk_at dksX0_keepsAct_1 10 rfl rfl)
theorem dX0_keepsAct_35 : decode cX0_keepsAct 35 = .ok (.aload_n 0, 1) := dk_42 (dk_at dksX0_keepsAct_1 13 rfl rfl)
theorem dX0_keepsAct_36 : decode cX0_keepsAct 36 = .ok (.getfield 150, 3) := dk_180 0 150 (dk_at dksX0_keepsAct_1 14 rfl rfl)
theorem dX0_keepsAct_39 : decode cX0_keepsAct 39 = .ok (.dup, 1) := dk_89 (dk_at dksX0_keepsAct_1 17 rfl rfl)
theorem dX0_keepsAct_40 : decode cX0_keepsAct 40 = .ok (.getfield 203, 3) := dk_180 0 203 (dk_at dksX0_keepsAct_1 18 rfl rfl)
theorem dX0_keepsAct_43 : decode cX0_keepsAct 43 = .ok (.iconst 1, 1) := dk_4 (dk_at dksX0_keepsAct_1 21 rfl rfl)
theorem dX0_keepsAct_44 : decode cX0_keepsAct 44 = .ok (.isub, 1) := dk_100 (dk_at dksX0_keepsAct_1 22 rfl rfl)
theorem dX0_keepsAct_45 : decode cX0_keepsAct 45 = .ok (.putfield 203, 3) := dk_181 0 203 (dk_at dksX0_keepsAct_2 0 rfl rfl)
theorem dX0_keepsAct_48 : decode cX0_keepsAct 48 = .ok (.aload_n 0, 1) := dk_42 (dk_at dksX0_keepsAct_2 3 rfl rfl)
theorem dX0_keepsAct_49 : decode cX0_keepsAct 49 = .ok (.getfield 150, 3) := dk_180 0 150 (dk_at dksX0_keepsAct_2 4 rfl rfl)
theorem dX0_keepsAct_52 : decode cX0_keepsAct 52 = .ok (.aload_n 0, 1) := dk_42 (dk_at dksX0_keepsAct_2 7 rfl rfl)
theorem dX0_keepsAct_53 : decode cX0_keepsAct 53 = .ok (.getfield 150, 3) := dk_180 0 150 (dk_at dksX0_keepsAct_2 8 rfl rfl)
theorem dX0_keepsAct_56 : decode cX0_keepsAct 56 = .ok (.getfield 203, 3) := dk_180 0 203 (dk_at dksX0_keepsAct_2 11 rfl rfl)
theorem dX0_keepsAct_59 : decode cX0_keepsAct 59 = .ok (.invokevirtual 215, 3) := dk_182 0 215 (dk_at dksX0_keepsAct_2 14 rfl rfl)
theorem dX0_keepsAct_62 : decode cX0_keepsAct 62 = .ok (.aload_n 0, 1) := dk_42 (dk_at dksX0_keepsAct_2 17 rfl rfl)
theorem dX0_keepsAct_63 : decode cX0_keepsAct 63 = .ok (.getfield 150, 3) := dk_180 0 150 (dk_at dksX0_keepsAct_2 18 rfl rfl)
theorem dX0_keepsAct_66 : decode cX0_keepsAct 66 = .ok (.dup, 1) := dk_89 (dk_at dksX0_keepsAct_2 21 rfl rfl)
theorem dX0_keepsAct_67 : decode cX0_keepsAct 67 = .ok (.getfield 203, 3) := dk_180 0 203 (dk_at dksX0_keepsAct_3 0 rfl rfl)
theorem dX0_keepsAct_70 : decode cX0_keepsAct 70 = .ok (.iconst 1, 1) := dk_4 (dk_at dksX0_keepsAct_3 3 rfl rfl)
theorem dX0_keepsAct_71 : decode cX0_keepsAct 71 = .ok (.iadd, 1) := dk_96 (dk_at dksX0_keepsAct_3 4 rfl rfl)
theorem dX0_keepsAct_72 : decode cX0_keepsAct 72 = .ok (.putfield 203, 3) := dk_181 0 203 (dk_at dksX0_keepsAct_3 5 rfl rfl)
theorem dX0_keepsAct_75 : decode cX0_keepsAct 75 = .ok (.return_, 1) := dk_177 (dk_at dksX0_keepsAct_3 8 rfl rfl)
abbrev cX0_law : ByteArray := prog_1_method_12_code
def yX0_law : MethodName := ⟨RX0, "law", "()LDoughBorder$Rule;"⟩
def dkwX0_law_0 : List UInt8 := [42, 180, 0, 38, 2, 160, 0, 7, 1, 167, 0, 12, 42, 180, 0, 101, 42, 180, 0, 38, 50, 176]
abbrev dktX0_law_0 : List UInt8 := dkwX0_law_0 ++ []
theorem dksX0_law_0 : cX0_law.data.toList.drop 0 = dktX0_law_0 := by decide +kernel
theorem dX0_law_0 : decode cX0_law 0 = .ok (.aload_n 0, 1) := dk_42 (dk_at dksX0_law_0 0 rfl rfl)
theorem dX0_law_1 : decode cX0_law 1 = .ok (.getfield 38, 3) := dk_180 0 38 (dk_at dksX0_law_0 1 rfl rfl)
theorem dX0_law_4 : decode cX0_law 4 = .ok (.iconst (-1), 1) := dk_2 (dk_at dksX0_law_0 4 rfl rfl)
theorem dX0_law_5 : decode cX0_law 5 = .ok (.if_icmp .ne 7, 3) := dk_160 0 7 (dk_at dksX0_law_0 5 rfl rfl)
theorem dX0_law_8 : decode cX0_law 8 = .ok (.aconst_null, 1) := dk_1 (dk_at dksX0_law_0 8 rfl rfl)
theorem dX0_law_9 : decode cX0_law 9 = .ok (.goto 12, 3) := dk_167 0 12 (dk_at dksX0_law_0 9 rfl rfl)
theorem dX0_law_12 : decode cX0_law 12 = .ok (.aload_n 0, 1) := dk_42 (dk_at dksX0_law_0 12 rfl rfl)
theorem dX0_law_13 : decode cX0_law 13 = .ok (.getfield 101, 3) := dk_180 0 101 (dk_at dksX0_law_0 13 rfl rfl)
theorem dX0_law_16 : decode cX0_law 16 = .ok (.aload_n 0, 1) := dk_42 (dk_at dksX0_law_0 16 rfl rfl)
theorem dX0_law_17 : decode cX0_law 17 = .ok (.getfield 38, 3) := dk_180 0 38 (dk_at dksX0_law_0 17 rfl rfl)
theorem dX0_law_20 : decode cX0_law 20 = .ok (.aaload, 1) := dk_50 (dk_at dksX0_law_0 20 rfl rfl)
theorem dX0_law_21 : decode cX0_law 21 = .ok (.areturn, 1) := dk_176 (dk_at dksX0_law_0 21 rfl rfl)
abbrev cX0_held : ByteArray := prog_1_method_3_code
def yX0_held : MethodName := ⟨RX0, "held", "(II)I"⟩
def dkwX0_held_0 : List UInt8 := [27, 116, 27, 26, 184, 0, 1, 184, 0, 7, 172]
abbrev dktX0_held_0 : List UInt8 := dkwX0_held_0 ++ []
theorem dksX0_held_0 : cX0_held.data.toList.drop 0 = dktX0_held_0 := by decide +kernel
theorem dX0_held_0 : decode cX0_held 0 = .ok (.iload_n 1, 1) := dk_27 (dk_at dksX0_held_0 0 rfl rfl)
theorem dX0_held_1 : decode cX0_held 1 = .ok (.ineg, 1) := dk_116 (dk_at dksX0_held_0 1 rfl rfl)
theorem dX0_held_2 : decode cX0_held 2 = .ok (.iload_n 1, 1) := dk_27 (dk_at dksX0_held_0 2 rfl rfl)
theorem dX0_held_3 : decode cX0_held 3 = .ok (.iload_n 0, 1) := dk_26 (dk_at dksX0_held_0 3 rfl rfl)
theorem dX0_held_4 : decode cX0_held 4 = .ok (.invokestatic 1, 3) := dk_184 0 1 (dk_at dksX0_held_0 4 rfl rfl)
theorem dX0_held_7 : decode cX0_held 7 = .ok (.invokestatic 7, 3) := dk_184 0 7 (dk_at dksX0_held_0 7 rfl rfl)
theorem dX0_held_10 : decode cX0_held 10 = .ok (.ireturn, 1) := dk_172 (dk_at dksX0_held_0 10 rfl rfl)
abbrev cX0_horses : ByteArray := prog_1_method_22_code
def yX0_horses : MethodName := ⟨RX0, "horses", "(II)I"⟩
def dkwX0_horses_2 : List UInt8 := [180, 0, 176, 27, 46, 172]
abbrev dktX0_horses_2 : List UInt8 := dkwX0_horses_2 ++ []
def dkwX0_horses_1 : List UInt8 := [154, 0, 6, 16, 156, 172, 42, 182, 0, 224, 42, 180, 0, 150, 27, 28, 182, 0, 245, 42, 180, 0, 150]
abbrev dktX0_horses_1 : List UInt8 := dkwX0_horses_1 ++ dktX0_horses_2
def dkwX0_horses_0 : List UInt8 := [42, 27, 182, 0, 234, 153, 0, 21, 28, 133, 20, 0, 237, 20, 0, 239, 184, 0, 241, 153, 0, 7, 28]
abbrev dktX0_horses_0 : List UInt8 := dkwX0_horses_0 ++ dktX0_horses_1
theorem dksX0_horses_0 : cX0_horses.data.toList.drop 0 = dktX0_horses_0 := by decide +kernel
theorem dksX0_horses_1 : cX0_horses.data.toList.drop 23 = dktX0_horses_1 := dk_seg dksX0_horses_0 23 rfl rfl
theorem dksX0_horses_2 : cX0_horses.data.toList.drop 46 = dktX0_horses_2 := dk_seg dksX0_horses_1 23 rfl rfl
theorem dX0_horses_0 : decode cX0_horses 0 = .ok (.aload_n 0, 1) := dk_42 (dk_at dksX0_horses_0 0 rfl rfl)
theorem dX0_horses_1 : decode cX0_horses 1 = .ok (.iload_n 1, 1) := dk_27 (dk_at dksX0_horses_0 1 rfl rfl)
theorem dX0_horses_2 : decode cX0_horses 2 = .ok (.invokevirtual 234, 3) := dk_182 0 234 (dk_at dksX0_horses_0 2 rfl rfl)
theorem dX0_horses_5 : decode cX0_horses 5 = .ok (.ifCond .eq 21, 3) := dk_153 0 21 (dk_at dksX0_horses_0 5 rfl rfl)
theorem dX0_horses_8 : decode cX0_horses 8 = .ok (.iload_n 2, 1) := dk_28 (dk_at dksX0_horses_0 8 rfl rfl)
theorem dX0_horses_9 : decode cX0_horses 9 = .ok (.i2l, 1) := dk_133 (dk_at dksX0_horses_0 9 rfl rfl)
theorem dX0_horses_10 : decode cX0_horses 10 = .ok (.ldc2_w 237, 3) := dk_20 0 237 (dk_at dksX0_horses_0 10 rfl rfl)
theorem dX0_horses_13 : decode cX0_horses 13 = .ok (.ldc2_w 239, 3) := dk_20 0 239 (dk_at dksX0_horses_0 13 rfl rfl)
theorem dX0_horses_16 : decode cX0_horses 16 = .ok (.invokestatic 241, 3) := dk_184 0 241 (dk_at dksX0_horses_0 16 rfl rfl)
theorem dX0_horses_19 : decode cX0_horses 19 = .ok (.ifCond .eq 7, 3) := dk_153 0 7 (dk_at dksX0_horses_0 19 rfl rfl)
theorem dX0_horses_22 : decode cX0_horses 22 = .ok (.iload_n 2, 1) := dk_28 (dk_at dksX0_horses_0 22 rfl rfl)
theorem dX0_horses_23 : decode cX0_horses 23 = .ok (.ifCond .ne 6, 3) := dk_154 0 6 (dk_at dksX0_horses_1 0 rfl rfl)
theorem dX0_horses_26 : decode cX0_horses 26 = .ok (.bipush (-100), 2) := dk_16 156 (dk_at dksX0_horses_1 3 rfl rfl)
theorem dX0_horses_28 : decode cX0_horses 28 = .ok (.ireturn, 1) := dk_172 (dk_at dksX0_horses_1 5 rfl rfl)
theorem dX0_horses_29 : decode cX0_horses 29 = .ok (.aload_n 0, 1) := dk_42 (dk_at dksX0_horses_1 6 rfl rfl)
theorem dX0_horses_30 : decode cX0_horses 30 = .ok (.invokevirtual 224, 3) := dk_182 0 224 (dk_at dksX0_horses_1 7 rfl rfl)
theorem dX0_horses_33 : decode cX0_horses 33 = .ok (.aload_n 0, 1) := dk_42 (dk_at dksX0_horses_1 10 rfl rfl)
theorem dX0_horses_34 : decode cX0_horses 34 = .ok (.getfield 150, 3) := dk_180 0 150 (dk_at dksX0_horses_1 11 rfl rfl)
theorem dX0_horses_37 : decode cX0_horses 37 = .ok (.iload_n 1, 1) := dk_27 (dk_at dksX0_horses_1 14 rfl rfl)
theorem dX0_horses_38 : decode cX0_horses 38 = .ok (.iload_n 2, 1) := dk_28 (dk_at dksX0_horses_1 15 rfl rfl)
theorem dX0_horses_39 : decode cX0_horses 39 = .ok (.invokevirtual 245, 3) := dk_182 0 245 (dk_at dksX0_horses_1 16 rfl rfl)
theorem dX0_horses_42 : decode cX0_horses 42 = .ok (.aload_n 0, 1) := dk_42 (dk_at dksX0_horses_1 19 rfl rfl)
theorem dX0_horses_43 : decode cX0_horses 43 = .ok (.getfield 150, 3) := dk_180 0 150 (dk_at dksX0_horses_1 20 rfl rfl)
theorem dX0_horses_46 : decode cX0_horses 46 = .ok (.getfield 176, 3) := dk_180 0 176 (dk_at dksX0_horses_2 0 rfl rfl)
theorem dX0_horses_49 : decode cX0_horses 49 = .ok (.iload_n 1, 1) := dk_27 (dk_at dksX0_horses_2 3 rfl rfl)
theorem dX0_horses_50 : decode cX0_horses 50 = .ok (.iaload, 1) := dk_46 (dk_at dksX0_horses_2 4 rfl rfl)
theorem dX0_horses_51 : decode cX0_horses 51 = .ok (.ireturn, 1) := dk_172 (dk_at dksX0_horses_2 5 rfl rfl)
abbrev cX0_isSoft : ByteArray := prog_1_method_14_code
def yX0_isSoft : MethodName := ⟨RX0, "isSoft", "(I)Z"⟩
def dkwX0_isSoft_1 : List UInt8 := [172]
abbrev dktX0_isSoft_1 : List UInt8 := dkwX0_isSoft_1 ++ []
def dkwX0_isSoft_0 : List UInt8 := [42, 27, 182, 0, 169, 153, 0, 18, 42, 180, 0, 150, 27, 182, 0, 173, 154, 0, 7, 4, 167, 0, 4, 3]
abbrev dktX0_isSoft_0 : List UInt8 := dkwX0_isSoft_0 ++ dktX0_isSoft_1
theorem dksX0_isSoft_0 : cX0_isSoft.data.toList.drop 0 = dktX0_isSoft_0 := by decide +kernel
theorem dksX0_isSoft_1 : cX0_isSoft.data.toList.drop 24 = dktX0_isSoft_1 := dk_seg dksX0_isSoft_0 24 rfl rfl
theorem dX0_isSoft_0 : decode cX0_isSoft 0 = .ok (.aload_n 0, 1) := dk_42 (dk_at dksX0_isSoft_0 0 rfl rfl)
theorem dX0_isSoft_1 : decode cX0_isSoft 1 = .ok (.iload_n 1, 1) := dk_27 (dk_at dksX0_isSoft_0 1 rfl rfl)
theorem dX0_isSoft_2 : decode cX0_isSoft 2 = .ok (.invokevirtual 169, 3) := dk_182 0 169 (dk_at dksX0_isSoft_0 2 rfl rfl)
theorem dX0_isSoft_5 : decode cX0_isSoft 5 = .ok (.ifCond .eq 18, 3) := dk_153 0 18 (dk_at dksX0_isSoft_0 5 rfl rfl)
theorem dX0_isSoft_8 : decode cX0_isSoft 8 = .ok (.aload_n 0, 1) := dk_42 (dk_at dksX0_isSoft_0 8 rfl rfl)
theorem dX0_isSoft_9 : decode cX0_isSoft 9 = .ok (.getfield 150, 3) := dk_180 0 150 (dk_at dksX0_isSoft_0 9 rfl rfl)
theorem dX0_isSoft_12 : decode cX0_isSoft 12 = .ok (.iload_n 1, 1) := dk_27 (dk_at dksX0_isSoft_0 12 rfl rfl)
theorem dX0_isSoft_13 : decode cX0_isSoft 13 = .ok (.invokevirtual 173, 3) := dk_182 0 173 (dk_at dksX0_isSoft_0 13 rfl rfl)
theorem dX0_isSoft_16 : decode cX0_isSoft 16 = .ok (.ifCond .ne 7, 3) := dk_154 0 7 (dk_at dksX0_isSoft_0 16 rfl rfl)
theorem dX0_isSoft_19 : decode cX0_isSoft 19 = .ok (.iconst 1, 1) := dk_4 (dk_at dksX0_isSoft_0 19 rfl rfl)
theorem dX0_isSoft_20 : decode cX0_isSoft 20 = .ok (.goto 4, 3) := dk_167 0 4 (dk_at dksX0_isSoft_0 20 rfl rfl)
theorem dX0_isSoft_23 : decode cX0_isSoft 23 = .ok (.iconst 0, 1) := dk_3 (dk_at dksX0_isSoft_0 23 rfl rfl)
theorem dX0_isSoft_24 : decode cX0_isSoft 24 = .ok (.ireturn, 1) := dk_172 (dk_at dksX0_isSoft_1 0 rfl rfl)
abbrev cX0_salt : ByteArray := prog_1_method_23_code
def yX0_salt : MethodName := ⟨RX0, "salt", "(I)I"⟩
def dkwX0_salt_2 : List UInt8 := [27, 46, 172]
abbrev dktX0_salt_2 : List UInt8 := dkwX0_salt_2 ++ []
def dkwX0_salt_1 : List UInt8 := [42, 182, 0, 224, 42, 180, 0, 150, 180, 0, 180, 27, 92, 46, 4, 96, 79, 42, 180, 0, 150, 180, 0, 180]
abbrev dktX0_salt_1 : List UInt8 := dkwX0_salt_1 ++ dktX0_salt_2
def dkwX0_salt_0 : List UInt8 := [42, 27, 182, 0, 169, 153, 0, 17, 42, 180, 0, 150, 180, 0, 180, 27, 46, 16, 9, 160, 0, 5, 2, 172]
abbrev dktX0_salt_0 : List UInt8 := dkwX0_salt_0 ++ dktX0_salt_1
theorem dksX0_salt_0 : cX0_salt.data.toList.drop 0 = dktX0_salt_0 := by decide +kernel
theorem dksX0_salt_1 : cX0_salt.data.toList.drop 24 = dktX0_salt_1 := dk_seg dksX0_salt_0 24 rfl rfl
theorem dksX0_salt_2 : cX0_salt.data.toList.drop 48 = dktX0_salt_2 := dk_seg dksX0_salt_1 24 rfl rfl
theorem dX0_salt_0 : decode cX0_salt 0 = .ok (.aload_n 0, 1) := dk_42 (dk_at dksX0_salt_0 0 rfl rfl)
theorem dX0_salt_1 : decode cX0_salt 1 = .ok (.iload_n 1, 1) := dk_27 (dk_at dksX0_salt_0 1 rfl rfl)
theorem dX0_salt_2 : decode cX0_salt 2 = .ok (.invokevirtual 169, 3) := dk_182 0 169 (dk_at dksX0_salt_0 2 rfl rfl)
theorem dX0_salt_5 : decode cX0_salt 5 = .ok (.ifCond .eq 17, 3) := dk_153 0 17 (dk_at dksX0_salt_0 5 rfl rfl)
theorem dX0_salt_8 : decode cX0_salt 8 = .ok (.aload_n 0, 1) := dk_42 (dk_at dksX0_salt_0 8 rfl rfl)
theorem dX0_salt_9 : decode cX0_salt 9 = .ok (.getfield 150, 3) := dk_180 0 150 (dk_at dksX0_salt_0 9 rfl rfl)
theorem dX0_salt_12 : decode cX0_salt 12 = .ok (.getfield 180, 3) := dk_180 0 180 (dk_at dksX0_salt_0 12 rfl rfl)
theorem dX0_salt_15 : decode cX0_salt 15 = .ok (.iload_n 1, 1) := dk_27 (dk_at dksX0_salt_0 15 rfl rfl)
theorem dX0_salt_16 : decode cX0_salt 16 = .ok (.iaload, 1) := dk_46 (dk_at dksX0_salt_0 16 rfl rfl)
theorem dX0_salt_17 : decode cX0_salt 17 = .ok (.bipush 9, 2) := dk_16 9 (dk_at dksX0_salt_0 17 rfl rfl)
theorem dX0_salt_19 : decode cX0_salt 19 = .ok (.if_icmp .ne 5, 3) := dk_160 0 5 (dk_at dksX0_salt_0 19 rfl rfl)
theorem dX0_salt_22 : decode cX0_salt 22 = .ok (.iconst (-1), 1) := dk_2 (dk_at dksX0_salt_0 22 rfl rfl)
theorem dX0_salt_23 : decode cX0_salt 23 = .ok (.ireturn, 1) := dk_172 (dk_at dksX0_salt_0 23 rfl rfl)
theorem dX0_salt_24 : decode cX0_salt 24 = .ok (.aload_n 0, 1) := dk_42 (dk_at dksX0_salt_1 0 rfl rfl)
theorem dX0_salt_25 : decode cX0_salt 25 = .ok (.invokevirtual 224, 3) := dk_182 0 224 (dk_at dksX0_salt_1 1 rfl rfl)
theorem dX0_salt_28 : decode cX0_salt 28 = .ok (.aload_n 0, 1) := dk_42 (dk_at dksX0_salt_1 4 rfl rfl)
theorem dX0_salt_29 : decode cX0_salt 29 = .ok (.getfield 150, 3) := dk_180 0 150 (dk_at dksX0_salt_1 5 rfl rfl)
theorem dX0_salt_32 : decode cX0_salt 32 = .ok (.getfield 180, 3) := dk_180 0 180 (dk_at dksX0_salt_1 8 rfl rfl)
theorem dX0_salt_35 : decode cX0_salt 35 = .ok (.iload_n 1, 1) := dk_27 (dk_at dksX0_salt_1 11 rfl rfl)
theorem dX0_salt_36 : decode cX0_salt 36 = .ok (.dup2, 1) := dk_92 (dk_at dksX0_salt_1 12 rfl rfl)
theorem dX0_salt_37 : decode cX0_salt 37 = .ok (.iaload, 1) := dk_46 (dk_at dksX0_salt_1 13 rfl rfl)
theorem dX0_salt_38 : decode cX0_salt 38 = .ok (.iconst 1, 1) := dk_4 (dk_at dksX0_salt_1 14 rfl rfl)
theorem dX0_salt_39 : decode cX0_salt 39 = .ok (.iadd, 1) := dk_96 (dk_at dksX0_salt_1 15 rfl rfl)
theorem dX0_salt_40 : decode cX0_salt 40 = .ok (.iastore, 1) := dk_79 (dk_at dksX0_salt_1 16 rfl rfl)
theorem dX0_salt_41 : decode cX0_salt 41 = .ok (.aload_n 0, 1) := dk_42 (dk_at dksX0_salt_1 17 rfl rfl)
theorem dX0_salt_42 : decode cX0_salt 42 = .ok (.getfield 150, 3) := dk_180 0 150 (dk_at dksX0_salt_1 18 rfl rfl)
theorem dX0_salt_45 : decode cX0_salt 45 = .ok (.getfield 180, 3) := dk_180 0 180 (dk_at dksX0_salt_1 21 rfl rfl)
theorem dX0_salt_48 : decode cX0_salt 48 = .ok (.iload_n 1, 1) := dk_27 (dk_at dksX0_salt_2 0 rfl rfl)
theorem dX0_salt_49 : decode cX0_salt 49 = .ok (.iaload, 1) := dk_46 (dk_at dksX0_salt_2 1 rfl rfl)
theorem dX0_salt_50 : decode cX0_salt 50 = .ok (.ireturn, 1) := dk_172 (dk_at dksX0_salt_2 2 rfl rfl)
abbrev cX0_sugar : ByteArray := prog_1_method_24_code
def yX0_sugar : MethodName := ⟨RX0, "sugar", "(I)I"⟩
def dkwX0_sugar_3 : List UInt8 := [46, 172]
abbrev dktX0_sugar_3 : List UInt8 := dkwX0_sugar_3 ++ []
def dkwX0_sugar_2 : List UInt8 := [42, 180, 0, 150, 180, 0, 178, 27, 46, 16, 10, 96, 184, 0, 1, 79, 42, 180, 0, 150, 180, 0, 178, 27]
abbrev dktX0_sugar_2 : List UInt8 := dkwX0_sugar_2 ++ dktX0_sugar_3
def dkwX0_sugar_1 : List UInt8 := [180, 0, 150, 180, 0, 180, 27, 46, 4, 100, 184, 0, 7, 79, 42, 180, 0, 150, 180, 0, 178, 27, 16, 99]
abbrev dktX0_sugar_1 : List UInt8 := dkwX0_sugar_1 ++ dktX0_sugar_2
def dkwX0_sugar_0 : List UInt8 := [42, 27, 182, 0, 234, 154, 0, 5, 2, 172, 42, 182, 0, 224, 42, 180, 0, 150, 180, 0, 180, 27, 3, 42]
abbrev dktX0_sugar_0 : List UInt8 := dkwX0_sugar_0 ++ dktX0_sugar_1
theorem dksX0_sugar_0 : cX0_sugar.data.toList.drop 0 = dktX0_sugar_0 := by decide +kernel
theorem dksX0_sugar_1 : cX0_sugar.data.toList.drop 24 = dktX0_sugar_1 := dk_seg dksX0_sugar_0 24 rfl rfl
theorem dksX0_sugar_2 : cX0_sugar.data.toList.drop 48 = dktX0_sugar_2 := dk_seg dksX0_sugar_1 24 rfl rfl
theorem dksX0_sugar_3 : cX0_sugar.data.toList.drop 72 = dktX0_sugar_3 := dk_seg dksX0_sugar_2 24 rfl rfl
theorem dX0_sugar_0 : decode cX0_sugar 0 = .ok (.aload_n 0, 1) := dk_42 (dk_at dksX0_sugar_0 0 rfl rfl)
theorem dX0_sugar_1 : decode cX0_sugar 1 = .ok (.iload_n 1, 1) := dk_27 (dk_at dksX0_sugar_0 1 rfl rfl)
theorem dX0_sugar_2 : decode cX0_sugar 2 = .ok (.invokevirtual 234, 3) := dk_182 0 234 (dk_at dksX0_sugar_0 2 rfl rfl)
theorem dX0_sugar_5 : decode cX0_sugar 5 = .ok (.ifCond .ne 5, 3) := dk_154 0 5 (dk_at dksX0_sugar_0 5 rfl rfl)
theorem dX0_sugar_8 : decode cX0_sugar 8 = .ok (.iconst (-1), 1) := dk_2 (dk_at dksX0_sugar_0 8 rfl rfl)
theorem dX0_sugar_9 : decode cX0_sugar 9 = .ok (.ireturn, 1) := dk_172 (dk_at dksX0_sugar_0 9 rfl rfl)
theorem dX0_sugar_10 : decode cX0_sugar 10 = .ok (.aload_n 0, 1) := dk_42 (dk_at dksX0_sugar_0 10 rfl rfl)
theorem dX0_sugar_11 : decode cX0_sugar 11 = .ok (.invokevirtual 224, 3) := dk_182 0 224 (dk_at dksX0_sugar_0 11 rfl rfl)
theorem dX0_sugar_14 : decode cX0_sugar 14 = .ok (.aload_n 0, 1) := dk_42 (dk_at dksX0_sugar_0 14 rfl rfl)
theorem dX0_sugar_15 : decode cX0_sugar 15 = .ok (.getfield 150, 3) := dk_180 0 150 (dk_at dksX0_sugar_0 15 rfl rfl)
theorem dX0_sugar_18 : decode cX0_sugar 18 = .ok (.getfield 180, 3) := dk_180 0 180 (dk_at dksX0_sugar_0 18 rfl rfl)
theorem dX0_sugar_21 : decode cX0_sugar 21 = .ok (.iload_n 1, 1) := dk_27 (dk_at dksX0_sugar_0 21 rfl rfl)
theorem dX0_sugar_22 : decode cX0_sugar 22 = .ok (.iconst 0, 1) := dk_3 (dk_at dksX0_sugar_0 22 rfl rfl)
theorem dX0_sugar_23 : decode cX0_sugar 23 = .ok (.aload_n 0, 1) := dk_42 (dk_at dksX0_sugar_0 23 rfl rfl)
theorem dX0_sugar_24 : decode cX0_sugar 24 = .ok (.getfield 150, 3) := dk_180 0 150 (dk_at dksX0_sugar_1 0 rfl rfl)
theorem dX0_sugar_27 : decode cX0_sugar 27 = .ok (.getfield 180, 3) := dk_180 0 180 (dk_at dksX0_sugar_1 3 rfl rfl)
theorem dX0_sugar_30 : decode cX0_sugar 30 = .ok (.iload_n 1, 1) := dk_27 (dk_at dksX0_sugar_1 6 rfl rfl)
theorem dX0_sugar_31 : decode cX0_sugar 31 = .ok (.iaload, 1) := dk_46 (dk_at dksX0_sugar_1 7 rfl rfl)
theorem dX0_sugar_32 : decode cX0_sugar 32 = .ok (.iconst 1, 1) := dk_4 (dk_at dksX0_sugar_1 8 rfl rfl)
theorem dX0_sugar_33 : decode cX0_sugar 33 = .ok (.isub, 1) := dk_100 (dk_at dksX0_sugar_1 9 rfl rfl)
theorem dX0_sugar_34 : decode cX0_sugar 34 = .ok (.invokestatic 7, 3) := dk_184 0 7 (dk_at dksX0_sugar_1 10 rfl rfl)
theorem dX0_sugar_37 : decode cX0_sugar 37 = .ok (.iastore, 1) := dk_79 (dk_at dksX0_sugar_1 13 rfl rfl)
theorem dX0_sugar_38 : decode cX0_sugar 38 = .ok (.aload_n 0, 1) := dk_42 (dk_at dksX0_sugar_1 14 rfl rfl)
theorem dX0_sugar_39 : decode cX0_sugar 39 = .ok (.getfield 150, 3) := dk_180 0 150 (dk_at dksX0_sugar_1 15 rfl rfl)
theorem dX0_sugar_42 : decode cX0_sugar 42 = .ok (.getfield 178, 3) := dk_180 0 178 (dk_at dksX0_sugar_1 18 rfl rfl)
theorem dX0_sugar_45 : decode cX0_sugar 45 = .ok (.iload_n 1, 1) := dk_27 (dk_at dksX0_sugar_1 21 rfl rfl)
theorem dX0_sugar_46 : decode cX0_sugar 46 = .ok (.bipush 99, 2) := dk_16 99 (dk_at dksX0_sugar_1 22 rfl rfl)
theorem dX0_sugar_48 : decode cX0_sugar 48 = .ok (.aload_n 0, 1) := dk_42 (dk_at dksX0_sugar_2 0 rfl rfl)
theorem dX0_sugar_49 : decode cX0_sugar 49 = .ok (.getfield 150, 3) := dk_180 0 150 (dk_at dksX0_sugar_2 1 rfl rfl)
theorem dX0_sugar_52 : decode cX0_sugar 52 = .ok (.getfield 178, 3) := dk_180 0 178 (dk_at dksX0_sugar_2 4 rfl rfl)
theorem dX0_sugar_55 : decode cX0_sugar 55 = .ok (.iload_n 1, 1) := dk_27 (dk_at dksX0_sugar_2 7 rfl rfl)
theorem dX0_sugar_56 : decode cX0_sugar 56 = .ok (.iaload, 1) := dk_46 (dk_at dksX0_sugar_2 8 rfl rfl)
theorem dX0_sugar_57 : decode cX0_sugar 57 = .ok (.bipush 10, 2) := dk_16 10 (dk_at dksX0_sugar_2 9 rfl rfl)
theorem dX0_sugar_59 : decode cX0_sugar 59 = .ok (.iadd, 1) := dk_96 (dk_at dksX0_sugar_2 11 rfl rfl)
theorem dX0_sugar_60 : decode cX0_sugar 60 = .ok (.invokestatic 1, 3) := dk_184 0 1 (dk_at dksX0_sugar_2 12 rfl rfl)
theorem dX0_sugar_63 : decode cX0_sugar 63 = .ok (.iastore, 1) := dk_79 (dk_at dksX0_sugar_2 15 rfl rfl)
theorem dX0_sugar_64 : decode cX0_sugar 64 = .ok (.aload_n 0, 1) := dk_42 (dk_at dksX0_sugar_2 16 rfl rfl)
theorem dX0_sugar_65 : decode cX0_sugar 65 = .ok (.getfield 150, 3) := dk_180 0 150 (dk_at dksX0_sugar_2 17 rfl rfl)
theorem dX0_sugar_68 : decode cX0_sugar 68 = .ok (.getfield 178, 3) := dk_180 0 178 (dk_at dksX0_sugar_2 20 rfl rfl)
theorem dX0_sugar_71 : decode cX0_sugar 71 = .ok (.iload_n 1, 1) := dk_27 (dk_at dksX0_sugar_2 23 rfl rfl)
theorem dX0_sugar_72 : decode cX0_sugar 72 = .ok (.iaload, 1) := dk_46 (dk_at dksX0_sugar_3 0 rfl rfl)
theorem dX0_sugar_73 : decode cX0_sugar 73 = .ok (.ireturn, 1) := dk_172 (dk_at dksX0_sugar_3 1 rfl rfl)
abbrev cX0_slice : ByteArray := prog_1_method_25_code
def yX0_slice : MethodName := ⟨RX0, "slice", "(II)I"⟩
def dkwX0_slice_2 : List UInt8 := [46, 28, 100, 79, 42, 180, 0, 150, 180, 0, 178, 27, 46, 172]
abbrev dktX0_slice_2 : List UInt8 := dkwX0_slice_2 ++ []
def dkwX0_slice_1 : List UInt8 := [180, 0, 178, 27, 46, 28, 162, 0, 5, 2, 172, 42, 182, 0, 224, 42, 180, 0, 150, 180, 0, 178, 27, 92]
abbrev dktX0_slice_1 : List UInt8 := dkwX0_slice_1 ++ dktX0_slice_2
def dkwX0_slice_0 : List UInt8 := [42, 27, 182, 0, 234, 153, 0, 28, 28, 133, 10, 20, 0, 249, 184, 0, 241, 153, 0, 16, 42, 180, 0, 150]
abbrev dktX0_slice_0 : List UInt8 := dkwX0_slice_0 ++ dktX0_slice_1
theorem dksX0_slice_0 : cX0_slice.data.toList.drop 0 = dktX0_slice_0 := by decide +kernel
theorem dksX0_slice_1 : cX0_slice.data.toList.drop 24 = dktX0_slice_1 := dk_seg dksX0_slice_0 24 rfl rfl
theorem dksX0_slice_2 : cX0_slice.data.toList.drop 48 = dktX0_slice_2 := dk_seg dksX0_slice_1 24 rfl rfl
theorem dX0_slice_0 : decode cX0_slice 0 = .ok (.aload_n 0, 1) := dk_42 (dk_at dksX0_slice_0 0 rfl rfl)
theorem dX0_slice_1 : decode cX0_slice 1 = .ok (.iload_n 1, 1) := dk_27 (dk_at dksX0_slice_0 1 rfl rfl)
theorem dX0_slice_2 : decode cX0_slice 2 = .ok (.invokevirtual 234, 3) := dk_182 0 234 (dk_at dksX0_slice_0 2 rfl rfl)
theorem dX0_slice_5 : decode cX0_slice 5 = .ok (.ifCond .eq 28, 3) := dk_153 0 28 (dk_at dksX0_slice_0 5 rfl rfl)
theorem dX0_slice_8 : decode cX0_slice 8 = .ok (.iload_n 2, 1) := dk_28 (dk_at dksX0_slice_0 8 rfl rfl)
theorem dX0_slice_9 : decode cX0_slice 9 = .ok (.i2l, 1) := dk_133 (dk_at dksX0_slice_0 9 rfl rfl)
theorem dX0_slice_10 : decode cX0_slice 10 = .ok (.lconst 1, 1) := dk_10 (dk_at dksX0_slice_0 10 rfl rfl)
theorem dX0_slice_11 : decode cX0_slice 11 = .ok (.ldc2_w 249, 3) := dk_20 0 249 (dk_at dksX0_slice_0 11 rfl rfl)
theorem dX0_slice_14 : decode cX0_slice 14 = .ok (.invokestatic 241, 3) := dk_184 0 241 (dk_at dksX0_slice_0 14 rfl rfl)
theorem dX0_slice_17 : decode cX0_slice 17 = .ok (.ifCond .eq 16, 3) := dk_153 0 16 (dk_at dksX0_slice_0 17 rfl rfl)
theorem dX0_slice_20 : decode cX0_slice 20 = .ok (.aload_n 0, 1) := dk_42 (dk_at dksX0_slice_0 20 rfl rfl)
theorem dX0_slice_21 : decode cX0_slice 21 = .ok (.getfield 150, 3) := dk_180 0 150 (dk_at dksX0_slice_0 21 rfl rfl)
theorem dX0_slice_24 : decode cX0_slice 24 = .ok (.getfield 178, 3) := dk_180 0 178 (dk_at dksX0_slice_1 0 rfl rfl)
theorem dX0_slice_27 : decode cX0_slice 27 = .ok (.iload_n 1, 1) := dk_27 (dk_at dksX0_slice_1 3 rfl rfl)
theorem dX0_slice_28 : decode cX0_slice 28 = .ok (.iaload, 1) := dk_46 (dk_at dksX0_slice_1 4 rfl rfl)
theorem dX0_slice_29 : decode cX0_slice 29 = .ok (.iload_n 2, 1) := dk_28 (dk_at dksX0_slice_1 5 rfl rfl)
theorem dX0_slice_30 : decode cX0_slice 30 = .ok (.if_icmp .ge 5, 3) := dk_162 0 5 (dk_at dksX0_slice_1 6 rfl rfl)
theorem dX0_slice_33 : decode cX0_slice 33 = .ok (.iconst (-1), 1) := dk_2 (dk_at dksX0_slice_1 9 rfl rfl)
theorem dX0_slice_34 : decode cX0_slice 34 = .ok (.ireturn, 1) := dk_172 (dk_at dksX0_slice_1 10 rfl rfl)
theorem dX0_slice_35 : decode cX0_slice 35 = .ok (.aload_n 0, 1) := dk_42 (dk_at dksX0_slice_1 11 rfl rfl)
theorem dX0_slice_36 : decode cX0_slice 36 = .ok (.invokevirtual 224, 3) := dk_182 0 224 (dk_at dksX0_slice_1 12 rfl rfl)
theorem dX0_slice_39 : decode cX0_slice 39 = .ok (.aload_n 0, 1) := dk_42 (dk_at dksX0_slice_1 15 rfl rfl)
theorem dX0_slice_40 : decode cX0_slice 40 = .ok (.getfield 150, 3) := dk_180 0 150 (dk_at dksX0_slice_1 16 rfl rfl)
theorem dX0_slice_43 : decode cX0_slice 43 = .ok (.getfield 178, 3) := dk_180 0 178 (dk_at dksX0_slice_1 19 rfl rfl)
theorem dX0_slice_46 : decode cX0_slice 46 = .ok (.iload_n 1, 1) := dk_27 (dk_at dksX0_slice_1 22 rfl rfl)
theorem dX0_slice_47 : decode cX0_slice 47 = .ok (.dup2, 1) := dk_92 (dk_at dksX0_slice_1 23 rfl rfl)
theorem dX0_slice_48 : decode cX0_slice 48 = .ok (.iaload, 1) := dk_46 (dk_at dksX0_slice_2 0 rfl rfl)
theorem dX0_slice_49 : decode cX0_slice 49 = .ok (.iload_n 2, 1) := dk_28 (dk_at dksX0_slice_2 1 rfl rfl)
theorem dX0_slice_50 : decode cX0_slice 50 = .ok (.isub, 1) := dk_100 (dk_at dksX0_slice_2 2 rfl rfl)
theorem dX0_slice_51 : decode cX0_slice 51 = .ok (.iastore, 1) := dk_79 (dk_at dksX0_slice_2 3 rfl rfl)
theorem dX0_slice_52 : decode cX0_slice 52 = .ok (.aload_n 0, 1) := dk_42 (dk_at dksX0_slice_2 4 rfl rfl)
theorem dX0_slice_53 : decode cX0_slice 53 = .ok (.getfield 150, 3) := dk_180 0 150 (dk_at dksX0_slice_2 5 rfl rfl)
theorem dX0_slice_56 : decode cX0_slice 56 = .ok (.getfield 178, 3) := dk_180 0 178 (dk_at dksX0_slice_2 8 rfl rfl)
theorem dX0_slice_59 : decode cX0_slice 59 = .ok (.iload_n 1, 1) := dk_27 (dk_at dksX0_slice_2 11 rfl rfl)
theorem dX0_slice_60 : decode cX0_slice 60 = .ok (.iaload, 1) := dk_46 (dk_at dksX0_slice_2 12 rfl rfl)
theorem dX0_slice_61 : decode cX0_slice 61 = .ok (.ireturn, 1) := dk_172 (dk_at dksX0_slice_2 13 rfl rfl)
abbrev cX0_bake : ByteArray := prog_1_method_26_code
def yX0_bake : MethodName := ⟨RX0, "bake", "(I)Z"⟩
def dkwX0_bake_1 : List UInt8 := [120, 128, 181, 0, 251, 4, 172]
abbrev dktX0_bake_1 : List UInt8 := dkwX0_bake_1 ++ []
def dkwX0_bake_0 : List UInt8 := [42, 27, 182, 0, 234, 154, 0, 5, 3, 172, 42, 182, 0, 224, 42, 180, 0, 150, 89, 180, 0, 251, 4, 27]
abbrev dktX0_bake_0 : List UInt8 := dkwX0_bake_0 ++ dktX0_bake_1
theorem dksX0_bake_0 : cX0_bake.data.toList.drop 0 = dktX0_bake_0 := by decide +kernel
theorem dksX0_bake_1 : cX0_bake.data.toList.drop 24 = dktX0_bake_1 := dk_seg dksX0_bake_0 24 rfl rfl
theorem dX0_bake_0 : decode cX0_bake 0 = .ok (.aload_n 0, 1) := dk_42 (dk_at dksX0_bake_0 0 rfl rfl)
theorem dX0_bake_1 : decode cX0_bake 1 = .ok (.iload_n 1, 1) := dk_27 (dk_at dksX0_bake_0 1 rfl rfl)
theorem dX0_bake_2 : decode cX0_bake 2 = .ok (.invokevirtual 234, 3) := dk_182 0 234 (dk_at dksX0_bake_0 2 rfl rfl)
theorem dX0_bake_5 : decode cX0_bake 5 = .ok (.ifCond .ne 5, 3) := dk_154 0 5 (dk_at dksX0_bake_0 5 rfl rfl)
theorem dX0_bake_8 : decode cX0_bake 8 = .ok (.iconst 0, 1) := dk_3 (dk_at dksX0_bake_0 8 rfl rfl)
theorem dX0_bake_9 : decode cX0_bake 9 = .ok (.ireturn, 1) := dk_172 (dk_at dksX0_bake_0 9 rfl rfl)
theorem dX0_bake_10 : decode cX0_bake 10 = .ok (.aload_n 0, 1) := dk_42 (dk_at dksX0_bake_0 10 rfl rfl)
theorem dX0_bake_11 : decode cX0_bake 11 = .ok (.invokevirtual 224, 3) := dk_182 0 224 (dk_at dksX0_bake_0 11 rfl rfl)
theorem dX0_bake_14 : decode cX0_bake 14 = .ok (.aload_n 0, 1) := dk_42 (dk_at dksX0_bake_0 14 rfl rfl)
theorem dX0_bake_15 : decode cX0_bake 15 = .ok (.getfield 150, 3) := dk_180 0 150 (dk_at dksX0_bake_0 15 rfl rfl)
theorem dX0_bake_18 : decode cX0_bake 18 = .ok (.dup, 1) := dk_89 (dk_at dksX0_bake_0 18 rfl rfl)
theorem dX0_bake_19 : decode cX0_bake 19 = .ok (.getfield 251, 3) := dk_180 0 251 (dk_at dksX0_bake_0 19 rfl rfl)
theorem dX0_bake_22 : decode cX0_bake 22 = .ok (.iconst 1, 1) := dk_4 (dk_at dksX0_bake_0 22 rfl rfl)
theorem dX0_bake_23 : decode cX0_bake 23 = .ok (.iload_n 1, 1) := dk_27 (dk_at dksX0_bake_0 23 rfl rfl)
theorem dX0_bake_24 : decode cX0_bake 24 = .ok (.ishl, 1) := dk_120 (dk_at dksX0_bake_1 0 rfl rfl)
theorem dX0_bake_25 : decode cX0_bake 25 = .ok (.ior, 1) := dk_128 (dk_at dksX0_bake_1 1 rfl rfl)
theorem dX0_bake_26 : decode cX0_bake 26 = .ok (.putfield 251, 3) := dk_181 0 251 (dk_at dksX0_bake_1 2 rfl rfl)
theorem dX0_bake_29 : decode cX0_bake 29 = .ok (.iconst 1, 1) := dk_4 (dk_at dksX0_bake_1 5 rfl rfl)
theorem dX0_bake_30 : decode cX0_bake 30 = .ok (.ireturn, 1) := dk_172 (dk_at dksX0_bake_1 6 rfl rfl)
abbrev cX0_ahead : ByteArray := prog_1_method_27_code
def yX0_ahead : MethodName := ⟨RX0, "ahead", "(III)I"⟩
def dkwX0_ahead_4 : List UInt8 := [180, 0, 178, 27, 46, 167, 0, 8, 25, 4, 182, 1, 1, 172]
abbrev dktX0_ahead_4 : List UInt8 := dkwX0_ahead_4 ++ []
def dkwX0_ahead_3 : List UInt8 := [167, 255, 237, 29, 154, 0, 13, 25, 4, 180, 0, 176, 27, 46, 167, 0, 23, 29, 4, 160, 0, 13, 25, 4]
abbrev dktX0_ahead_3 : List UInt8 := dkwX0_ahead_3 ++ dktX0_ahead_4
def dkwX0_ahead_2 : List UInt8 := [58, 4, 3, 54, 5, 21, 5, 28, 162, 0, 19, 25, 4, 42, 182, 0, 227, 182, 0, 230, 87, 132, 5, 1]
abbrev dktX0_ahead_2 : List UInt8 := dkwX0_ahead_2 ++ dktX0_ahead_3
def dkwX0_ahead_1 : List UInt8 := [20, 0, 255, 184, 0, 241, 154, 0, 6, 16, 156, 172, 42, 180, 0, 25, 42, 180, 0, 150, 182, 0, 146]
abbrev dktX0_ahead_1 : List UInt8 := dkwX0_ahead_1 ++ dktX0_ahead_2
def dkwX0_ahead_0 : List UInt8 := [42, 27, 182, 0, 169, 153, 0, 27, 28, 133, 9, 20, 0, 253, 184, 0, 241, 153, 0, 15, 29, 133, 9]
abbrev dktX0_ahead_0 : List UInt8 := dkwX0_ahead_0 ++ dktX0_ahead_1
theorem dksX0_ahead_0 : cX0_ahead.data.toList.drop 0 = dktX0_ahead_0 := by decide +kernel
theorem dksX0_ahead_1 : cX0_ahead.data.toList.drop 23 = dktX0_ahead_1 := dk_seg dksX0_ahead_0 23 rfl rfl
theorem dksX0_ahead_2 : cX0_ahead.data.toList.drop 46 = dktX0_ahead_2 := dk_seg dksX0_ahead_1 23 rfl rfl
theorem dksX0_ahead_3 : cX0_ahead.data.toList.drop 70 = dktX0_ahead_3 := dk_seg dksX0_ahead_2 24 rfl rfl
theorem dksX0_ahead_4 : cX0_ahead.data.toList.drop 94 = dktX0_ahead_4 := dk_seg dksX0_ahead_3 24 rfl rfl
theorem dX0_ahead_0 : decode cX0_ahead 0 = .ok (.aload_n 0, 1) := dk_42 (dk_at dksX0_ahead_0 0 rfl rfl)
theorem dX0_ahead_1 : decode cX0_ahead 1 = .ok (.iload_n 1, 1) := dk_27 (dk_at dksX0_ahead_0 1 rfl rfl)
theorem dX0_ahead_2 : decode cX0_ahead 2 = .ok (.invokevirtual 169, 3) := dk_182 0 169 (dk_at dksX0_ahead_0 2 rfl rfl)
theorem dX0_ahead_5 : decode cX0_ahead 5 = .ok (.ifCond .eq 27, 3) := dk_153 0 27 (dk_at dksX0_ahead_0 5 rfl rfl)
theorem dX0_ahead_8 : decode cX0_ahead 8 = .ok (.iload_n 2, 1) := dk_28 (dk_at dksX0_ahead_0 8 rfl rfl)
theorem dX0_ahead_9 : decode cX0_ahead 9 = .ok (.i2l, 1) := dk_133 (dk_at dksX0_ahead_0 9 rfl rfl)
theorem dX0_ahead_10 : decode cX0_ahead 10 = .ok (.lconst 0, 1) := dk_9 (dk_at dksX0_ahead_0 10 rfl rfl)
theorem dX0_ahead_11 : decode cX0_ahead 11 = .ok (.ldc2_w 253, 3) := dk_20 0 253 (dk_at dksX0_ahead_0 11 rfl rfl)
theorem dX0_ahead_14 : decode cX0_ahead 14 = .ok (.invokestatic 241, 3) := dk_184 0 241 (dk_at dksX0_ahead_0 14 rfl rfl)
theorem dX0_ahead_17 : decode cX0_ahead 17 = .ok (.ifCond .eq 15, 3) := dk_153 0 15 (dk_at dksX0_ahead_0 17 rfl rfl)
theorem dX0_ahead_20 : decode cX0_ahead 20 = .ok (.iload_n 3, 1) := dk_29 (dk_at dksX0_ahead_0 20 rfl rfl)
theorem dX0_ahead_21 : decode cX0_ahead 21 = .ok (.i2l, 1) := dk_133 (dk_at dksX0_ahead_0 21 rfl rfl)
theorem dX0_ahead_22 : decode cX0_ahead 22 = .ok (.lconst 0, 1) := dk_9 (dk_at dksX0_ahead_0 22 rfl rfl)
theorem dX0_ahead_23 : decode cX0_ahead 23 = .ok (.ldc2_w 255, 3) := dk_20 0 255 (dk_at dksX0_ahead_1 0 rfl rfl)
theorem dX0_ahead_26 : decode cX0_ahead 26 = .ok (.invokestatic 241, 3) := dk_184 0 241 (dk_at dksX0_ahead_1 3 rfl rfl)
theorem dX0_ahead_29 : decode cX0_ahead 29 = .ok (.ifCond .ne 6, 3) := dk_154 0 6 (dk_at dksX0_ahead_1 6 rfl rfl)
theorem dX0_ahead_32 : decode cX0_ahead 32 = .ok (.bipush (-100), 2) := dk_16 156 (dk_at dksX0_ahead_1 9 rfl rfl)
theorem dX0_ahead_34 : decode cX0_ahead 34 = .ok (.ireturn, 1) := dk_172 (dk_at dksX0_ahead_1 11 rfl rfl)
theorem dX0_ahead_35 : decode cX0_ahead 35 = .ok (.aload_n 0, 1) := dk_42 (dk_at dksX0_ahead_1 12 rfl rfl)
theorem dX0_ahead_36 : decode cX0_ahead 36 = .ok (.getfield 25, 3) := dk_180 0 25 (dk_at dksX0_ahead_1 13 rfl rfl)
theorem dX0_ahead_39 : decode cX0_ahead 39 = .ok (.aload_n 0, 1) := dk_42 (dk_at dksX0_ahead_1 16 rfl rfl)
theorem dX0_ahead_40 : decode cX0_ahead 40 = .ok (.getfield 150, 3) := dk_180 0 150 (dk_at dksX0_ahead_1 17 rfl rfl)
theorem dX0_ahead_43 : decode cX0_ahead 43 = .ok (.invokevirtual 146, 3) := dk_182 0 146 (dk_at dksX0_ahead_1 20 rfl rfl)
theorem dX0_ahead_46 : decode cX0_ahead 46 = .ok (.astore 4, 2) := dk_58 4 (dk_at dksX0_ahead_2 0 rfl rfl)
theorem dX0_ahead_48 : decode cX0_ahead 48 = .ok (.iconst 0, 1) := dk_3 (dk_at dksX0_ahead_2 2 rfl rfl)
theorem dX0_ahead_49 : decode cX0_ahead 49 = .ok (.istore 5, 2) := dk_54 5 (dk_at dksX0_ahead_2 3 rfl rfl)
theorem dX0_ahead_51 : decode cX0_ahead 51 = .ok (.iload 5, 2) := dk_21 5 (dk_at dksX0_ahead_2 5 rfl rfl)
theorem dX0_ahead_53 : decode cX0_ahead 53 = .ok (.iload_n 2, 1) := dk_28 (dk_at dksX0_ahead_2 7 rfl rfl)
theorem dX0_ahead_54 : decode cX0_ahead 54 = .ok (.if_icmp .ge 19, 3) := dk_162 0 19 (dk_at dksX0_ahead_2 8 rfl rfl)
theorem dX0_ahead_57 : decode cX0_ahead 57 = .ok (.aload 4, 2) := dk_25 4 (dk_at dksX0_ahead_2 11 rfl rfl)
theorem dX0_ahead_59 : decode cX0_ahead 59 = .ok (.aload_n 0, 1) := dk_42 (dk_at dksX0_ahead_2 13 rfl rfl)
theorem dX0_ahead_60 : decode cX0_ahead 60 = .ok (.invokevirtual 227, 3) := dk_182 0 227 (dk_at dksX0_ahead_2 14 rfl rfl)
theorem dX0_ahead_63 : decode cX0_ahead 63 = .ok (.invokevirtual 230, 3) := dk_182 0 230 (dk_at dksX0_ahead_2 17 rfl rfl)
theorem dX0_ahead_66 : decode cX0_ahead 66 = .ok (.pop, 1) := dk_87 (dk_at dksX0_ahead_2 20 rfl rfl)
theorem dX0_ahead_67 : decode cX0_ahead 67 = .ok (.iinc 5 1, 3) := dk_132 5 1 (dk_at dksX0_ahead_2 21 rfl rfl)
theorem dX0_ahead_70 : decode cX0_ahead 70 = .ok (.goto (-19), 3) := dk_167 255 237 (dk_at dksX0_ahead_3 0 rfl rfl)
theorem dX0_ahead_73 : decode cX0_ahead 73 = .ok (.iload_n 3, 1) := dk_29 (dk_at dksX0_ahead_3 3 rfl rfl)
theorem dX0_ahead_74 : decode cX0_ahead 74 = .ok (.ifCond .ne 13, 3) := dk_154 0 13 (dk_at dksX0_ahead_3 4 rfl rfl)
theorem dX0_ahead_77 : decode cX0_ahead 77 = .ok (.aload 4, 2) := dk_25 4 (dk_at dksX0_ahead_3 7 rfl rfl)
theorem dX0_ahead_79 : decode cX0_ahead 79 = .ok (.getfield 176, 3) := dk_180 0 176 (dk_at dksX0_ahead_3 9 rfl rfl)
theorem dX0_ahead_82 : decode cX0_ahead 82 = .ok (.iload_n 1, 1) := dk_27 (dk_at dksX0_ahead_3 12 rfl rfl)
theorem dX0_ahead_83 : decode cX0_ahead 83 = .ok (.iaload, 1) := dk_46 (dk_at dksX0_ahead_3 13 rfl rfl)
theorem dX0_ahead_84 : decode cX0_ahead 84 = .ok (.goto 23, 3) := dk_167 0 23 (dk_at dksX0_ahead_3 14 rfl rfl)
theorem dX0_ahead_87 : decode cX0_ahead 87 = .ok (.iload_n 3, 1) := dk_29 (dk_at dksX0_ahead_3 17 rfl rfl)
theorem dX0_ahead_88 : decode cX0_ahead 88 = .ok (.iconst 1, 1) := dk_4 (dk_at dksX0_ahead_3 18 rfl rfl)
theorem dX0_ahead_89 : decode cX0_ahead 89 = .ok (.if_icmp .ne 13, 3) := dk_160 0 13 (dk_at dksX0_ahead_3 19 rfl rfl)
theorem dX0_ahead_92 : decode cX0_ahead 92 = .ok (.aload 4, 2) := dk_25 4 (dk_at dksX0_ahead_3 22 rfl rfl)
theorem dX0_ahead_94 : decode cX0_ahead 94 = .ok (.getfield 178, 3) := dk_180 0 178 (dk_at dksX0_ahead_4 0 rfl rfl)
theorem dX0_ahead_97 : decode cX0_ahead 97 = .ok (.iload_n 1, 1) := dk_27 (dk_at dksX0_ahead_4 3 rfl rfl)
theorem dX0_ahead_98 : decode cX0_ahead 98 = .ok (.iaload, 1) := dk_46 (dk_at dksX0_ahead_4 4 rfl rfl)
theorem dX0_ahead_99 : decode cX0_ahead 99 = .ok (.goto 8, 3) := dk_167 0 8 (dk_at dksX0_ahead_4 5 rfl rfl)
theorem dX0_ahead_102 : decode cX0_ahead 102 = .ok (.aload 4, 2) := dk_25 4 (dk_at dksX0_ahead_4 8 rfl rfl)
theorem dX0_ahead_104 : decode cX0_ahead 104 = .ok (.invokevirtual 257, 3) := dk_182 1 1 (dk_at dksX0_ahead_4 10 rfl rfl)
theorem dX0_ahead_107 : decode cX0_ahead 107 = .ok (.ireturn, 1) := dk_172 (dk_at dksX0_ahead_4 13 rfl rfl)
abbrev cX0_crosses : ByteArray := prog_1_method_28_code
def yX0_crosses : MethodName := ⟨RX0, "crosses", "(I)I"⟩
def dkwX0_crosses_3 : List UInt8 := [167, 255, 210, 16, 254, 172]
abbrev dktX0_crosses_3 : List UInt8 := dkwX0_crosses_3 ++ []
def dkwX0_crosses_2 : List UInt8 := [180, 0, 150, 180, 0, 197, 27, 46, 164, 0, 13, 42, 180, 0, 150, 180, 0, 221, 29, 96, 172, 132, 3, 1]
abbrev dktX0_crosses_2 : List UInt8 := dkwX0_crosses_2 ++ dktX0_crosses_3
def dkwX0_crosses_1 : List UInt8 := [29, 16, 60, 162, 0, 46, 44, 42, 182, 0, 227, 182, 0, 230, 87, 44, 180, 0, 197, 27, 46, 42]
abbrev dktX0_crosses_1 : List UInt8 := dkwX0_crosses_1 ++ dktX0_crosses_2
def dkwX0_crosses_0 : List UInt8 := [42, 27, 182, 0, 185, 154, 0, 5, 2, 172, 42, 180, 0, 25, 42, 180, 0, 150, 182, 0, 146, 77, 3, 62]
abbrev dktX0_crosses_0 : List UInt8 := dkwX0_crosses_0 ++ dktX0_crosses_1
theorem dksX0_crosses_0 : cX0_crosses.data.toList.drop 0 = dktX0_crosses_0 := by decide +kernel
theorem dksX0_crosses_1 : cX0_crosses.data.toList.drop 24 = dktX0_crosses_1 := dk_seg dksX0_crosses_0 24 rfl rfl
theorem dksX0_crosses_2 : cX0_crosses.data.toList.drop 46 = dktX0_crosses_2 := dk_seg dksX0_crosses_1 22 rfl rfl
theorem dksX0_crosses_3 : cX0_crosses.data.toList.drop 70 = dktX0_crosses_3 := dk_seg dksX0_crosses_2 24 rfl rfl
theorem dX0_crosses_0 : decode cX0_crosses 0 = .ok (.aload_n 0, 1) := dk_42 (dk_at dksX0_crosses_0 0 rfl rfl)
theorem dX0_crosses_1 : decode cX0_crosses 1 = .ok (.iload_n 1, 1) := dk_27 (dk_at dksX0_crosses_0 1 rfl rfl)
theorem dX0_crosses_2 : decode cX0_crosses 2 = .ok (.invokevirtual 185, 3) := dk_182 0 185 (dk_at dksX0_crosses_0 2 rfl rfl)
theorem dX0_crosses_5 : decode cX0_crosses 5 = .ok (.ifCond .ne 5, 3) := dk_154 0 5 (dk_at dksX0_crosses_0 5 rfl rfl)
theorem dX0_crosses_8 : decode cX0_crosses 8 = .ok (.iconst (-1), 1) := dk_2 (dk_at dksX0_crosses_0 8 rfl rfl)
theorem dX0_crosses_9 : decode cX0_crosses 9 = .ok (.ireturn, 1) := dk_172 (dk_at dksX0_crosses_0 9 rfl rfl)
theorem dX0_crosses_10 : decode cX0_crosses 10 = .ok (.aload_n 0, 1) := dk_42 (dk_at dksX0_crosses_0 10 rfl rfl)
theorem dX0_crosses_11 : decode cX0_crosses 11 = .ok (.getfield 25, 3) := dk_180 0 25 (dk_at dksX0_crosses_0 11 rfl rfl)
theorem dX0_crosses_14 : decode cX0_crosses 14 = .ok (.aload_n 0, 1) := dk_42 (dk_at dksX0_crosses_0 14 rfl rfl)
theorem dX0_crosses_15 : decode cX0_crosses 15 = .ok (.getfield 150, 3) := dk_180 0 150 (dk_at dksX0_crosses_0 15 rfl rfl)
theorem dX0_crosses_18 : decode cX0_crosses 18 = .ok (.invokevirtual 146, 3) := dk_182 0 146 (dk_at dksX0_crosses_0 18 rfl rfl)
theorem dX0_crosses_21 : decode cX0_crosses 21 = .ok (.astore_n 2, 1) := dk_77 (dk_at dksX0_crosses_0 21 rfl rfl)
theorem dX0_crosses_22 : decode cX0_crosses 22 = .ok (.iconst 0, 1) := dk_3 (dk_at dksX0_crosses_0 22 rfl rfl)
theorem dX0_crosses_23 : decode cX0_crosses 23 = .ok (.istore_n 3, 1) := dk_62 (dk_at dksX0_crosses_0 23 rfl rfl)
theorem dX0_crosses_24 : decode cX0_crosses 24 = .ok (.iload_n 3, 1) := dk_29 (dk_at dksX0_crosses_1 0 rfl rfl)
theorem dX0_crosses_25 : decode cX0_crosses 25 = .ok (.bipush 60, 2) := dk_16 60 (dk_at dksX0_crosses_1 1 rfl rfl)
theorem dX0_crosses_27 : decode cX0_crosses 27 = .ok (.if_icmp .ge 46, 3) := dk_162 0 46 (dk_at dksX0_crosses_1 3 rfl rfl)
theorem dX0_crosses_30 : decode cX0_crosses 30 = .ok (.aload_n 2, 1) := dk_44 (dk_at dksX0_crosses_1 6 rfl rfl)
theorem dX0_crosses_31 : decode cX0_crosses 31 = .ok (.aload_n 0, 1) := dk_42 (dk_at dksX0_crosses_1 7 rfl rfl)
theorem dX0_crosses_32 : decode cX0_crosses 32 = .ok (.invokevirtual 227, 3) := dk_182 0 227 (dk_at dksX0_crosses_1 8 rfl rfl)
theorem dX0_crosses_35 : decode cX0_crosses 35 = .ok (.invokevirtual 230, 3) := dk_182 0 230 (dk_at dksX0_crosses_1 11 rfl rfl)
theorem dX0_crosses_38 : decode cX0_crosses 38 = .ok (.pop, 1) := dk_87 (dk_at dksX0_crosses_1 14 rfl rfl)
theorem dX0_crosses_39 : decode cX0_crosses 39 = .ok (.aload_n 2, 1) := dk_44 (dk_at dksX0_crosses_1 15 rfl rfl)
theorem dX0_crosses_40 : decode cX0_crosses 40 = .ok (.getfield 197, 3) := dk_180 0 197 (dk_at dksX0_crosses_1 16 rfl rfl)
theorem dX0_crosses_43 : decode cX0_crosses 43 = .ok (.iload_n 1, 1) := dk_27 (dk_at dksX0_crosses_1 19 rfl rfl)
theorem dX0_crosses_44 : decode cX0_crosses 44 = .ok (.iaload, 1) := dk_46 (dk_at dksX0_crosses_1 20 rfl rfl)
theorem dX0_crosses_45 : decode cX0_crosses 45 = .ok (.aload_n 0, 1) := dk_42 (dk_at dksX0_crosses_1 21 rfl rfl)
theorem dX0_crosses_46 : decode cX0_crosses 46 = .ok (.getfield 150, 3) := dk_180 0 150 (dk_at dksX0_crosses_2 0 rfl rfl)
theorem dX0_crosses_49 : decode cX0_crosses 49 = .ok (.getfield 197, 3) := dk_180 0 197 (dk_at dksX0_crosses_2 3 rfl rfl)
theorem dX0_crosses_52 : decode cX0_crosses 52 = .ok (.iload_n 1, 1) := dk_27 (dk_at dksX0_crosses_2 6 rfl rfl)
theorem dX0_crosses_53 : decode cX0_crosses 53 = .ok (.iaload, 1) := dk_46 (dk_at dksX0_crosses_2 7 rfl rfl)
theorem dX0_crosses_54 : decode cX0_crosses 54 = .ok (.if_icmp .le 13, 3) := dk_164 0 13 (dk_at dksX0_crosses_2 8 rfl rfl)
theorem dX0_crosses_57 : decode cX0_crosses 57 = .ok (.aload_n 0, 1) := dk_42 (dk_at dksX0_crosses_2 11 rfl rfl)
theorem dX0_crosses_58 : decode cX0_crosses 58 = .ok (.getfield 150, 3) := dk_180 0 150 (dk_at dksX0_crosses_2 12 rfl rfl)
theorem dX0_crosses_61 : decode cX0_crosses 61 = .ok (.getfield 221, 3) := dk_180 0 221 (dk_at dksX0_crosses_2 15 rfl rfl)
theorem dX0_crosses_64 : decode cX0_crosses 64 = .ok (.iload_n 3, 1) := dk_29 (dk_at dksX0_crosses_2 18 rfl rfl)
theorem dX0_crosses_65 : decode cX0_crosses 65 = .ok (.iadd, 1) := dk_96 (dk_at dksX0_crosses_2 19 rfl rfl)
theorem dX0_crosses_66 : decode cX0_crosses 66 = .ok (.ireturn, 1) := dk_172 (dk_at dksX0_crosses_2 20 rfl rfl)
theorem dX0_crosses_67 : decode cX0_crosses 67 = .ok (.iinc 3 1, 3) := dk_132 3 1 (dk_at dksX0_crosses_2 21 rfl rfl)
theorem dX0_crosses_70 : decode cX0_crosses 70 = .ok (.goto (-46), 3) := dk_167 255 210 (dk_at dksX0_crosses_3 0 rfl rfl)
theorem dX0_crosses_73 : decode cX0_crosses 73 = .ok (.bipush (-2), 2) := dk_16 254 (dk_at dksX0_crosses_3 3 rfl rfl)
theorem dX0_crosses_75 : decode cX0_crosses 75 = .ok (.ireturn, 1) := dk_172 (dk_at dksX0_crosses_3 5 rfl rfl)
abbrev cX0_push : ByteArray := prog_1_method_31_code
def yX0_push : MethodName := ⟨RX0, "push", "(II)I"⟩
def dkwX0_push_3 : List UInt8 := [167, 0, 21, 28, 27, 164, 0, 8, 16, 254, 167, 0, 11, 42, 180, 0, 109, 28, 4, 100, 46, 172]
abbrev dktX0_push_3 : List UInt8 := dkwX0_push_3 ++ []
def dkwX0_push_2 : List UInt8 := [27, 3, 182, 1, 14, 42, 180, 1, 4, 2, 160, 0, 6, 16, 254, 172, 28, 154, 0, 10, 42, 180, 1, 4]
abbrev dktX0_push_2 : List UInt8 := dkwX0_push_2 ++ dktX0_push_3
def dkwX0_push_1 : List UInt8 := [20, 0, 239, 184, 0, 241, 154, 0, 6, 16, 253, 172, 42, 27, 182, 1, 18, 42, 2, 181, 1, 4, 42, 3]
abbrev dktX0_push_1 : List UInt8 := dkwX0_push_1 ++ dktX0_push_2
def dkwX0_push_0 : List UInt8 := [42, 180, 0, 150, 198, 0, 27, 27, 133, 10, 20, 0, 239, 184, 0, 241, 153, 0, 15, 28, 133, 9]
abbrev dktX0_push_0 : List UInt8 := dkwX0_push_0 ++ dktX0_push_1
theorem dksX0_push_0 : cX0_push.data.toList.drop 0 = dktX0_push_0 := by decide +kernel
theorem dksX0_push_1 : cX0_push.data.toList.drop 22 = dktX0_push_1 := dk_seg dksX0_push_0 22 rfl rfl
theorem dksX0_push_2 : cX0_push.data.toList.drop 46 = dktX0_push_2 := dk_seg dksX0_push_1 24 rfl rfl
theorem dksX0_push_3 : cX0_push.data.toList.drop 70 = dktX0_push_3 := dk_seg dksX0_push_2 24 rfl rfl
theorem dX0_push_0 : decode cX0_push 0 = .ok (.aload_n 0, 1) := dk_42 (dk_at dksX0_push_0 0 rfl rfl)
theorem dX0_push_1 : decode cX0_push 1 = .ok (.getfield 150, 3) := dk_180 0 150 (dk_at dksX0_push_0 1 rfl rfl)
theorem dX0_push_4 : decode cX0_push 4 = .ok (.ifnull 27, 3) := dk_198 0 27 (dk_at dksX0_push_0 4 rfl rfl)
theorem dX0_push_7 : decode cX0_push 7 = .ok (.iload_n 1, 1) := dk_27 (dk_at dksX0_push_0 7 rfl rfl)
theorem dX0_push_8 : decode cX0_push 8 = .ok (.i2l, 1) := dk_133 (dk_at dksX0_push_0 8 rfl rfl)
theorem dX0_push_9 : decode cX0_push 9 = .ok (.lconst 1, 1) := dk_10 (dk_at dksX0_push_0 9 rfl rfl)
theorem dX0_push_10 : decode cX0_push 10 = .ok (.ldc2_w 239, 3) := dk_20 0 239 (dk_at dksX0_push_0 10 rfl rfl)
theorem dX0_push_13 : decode cX0_push 13 = .ok (.invokestatic 241, 3) := dk_184 0 241 (dk_at dksX0_push_0 13 rfl rfl)
theorem dX0_push_16 : decode cX0_push 16 = .ok (.ifCond .eq 15, 3) := dk_153 0 15 (dk_at dksX0_push_0 16 rfl rfl)
theorem dX0_push_19 : decode cX0_push 19 = .ok (.iload_n 2, 1) := dk_28 (dk_at dksX0_push_0 19 rfl rfl)
theorem dX0_push_20 : decode cX0_push 20 = .ok (.i2l, 1) := dk_133 (dk_at dksX0_push_0 20 rfl rfl)
theorem dX0_push_21 : decode cX0_push 21 = .ok (.lconst 0, 1) := dk_9 (dk_at dksX0_push_0 21 rfl rfl)
theorem dX0_push_22 : decode cX0_push 22 = .ok (.ldc2_w 239, 3) := dk_20 0 239 (dk_at dksX0_push_1 0 rfl rfl)
theorem dX0_push_25 : decode cX0_push 25 = .ok (.invokestatic 241, 3) := dk_184 0 241 (dk_at dksX0_push_1 3 rfl rfl)
theorem dX0_push_28 : decode cX0_push 28 = .ok (.ifCond .ne 6, 3) := dk_154 0 6 (dk_at dksX0_push_1 6 rfl rfl)
theorem dX0_push_31 : decode cX0_push 31 = .ok (.bipush (-3), 2) := dk_16 253 (dk_at dksX0_push_1 9 rfl rfl)
theorem dX0_push_33 : decode cX0_push 33 = .ok (.ireturn, 1) := dk_172 (dk_at dksX0_push_1 11 rfl rfl)
theorem dX0_push_34 : decode cX0_push 34 = .ok (.aload_n 0, 1) := dk_42 (dk_at dksX0_push_1 12 rfl rfl)
theorem dX0_push_35 : decode cX0_push 35 = .ok (.iload_n 1, 1) := dk_27 (dk_at dksX0_push_1 13 rfl rfl)
theorem dX0_push_36 : decode cX0_push 36 = .ok (.invokevirtual 274, 3) := dk_182 1 18 (dk_at dksX0_push_1 14 rfl rfl)
theorem dX0_push_39 : decode cX0_push 39 = .ok (.aload_n 0, 1) := dk_42 (dk_at dksX0_push_1 17 rfl rfl)
theorem dX0_push_40 : decode cX0_push 40 = .ok (.iconst (-1), 1) := dk_2 (dk_at dksX0_push_1 18 rfl rfl)
theorem dX0_push_41 : decode cX0_push 41 = .ok (.putfield 260, 3) := dk_181 1 4 (dk_at dksX0_push_1 19 rfl rfl)
theorem dX0_push_44 : decode cX0_push 44 = .ok (.aload_n 0, 1) := dk_42 (dk_at dksX0_push_1 22 rfl rfl)
theorem dX0_push_45 : decode cX0_push 45 = .ok (.iconst 0, 1) := dk_3 (dk_at dksX0_push_1 23 rfl rfl)
theorem dX0_push_46 : decode cX0_push 46 = .ok (.iload_n 1, 1) := dk_27 (dk_at dksX0_push_2 0 rfl rfl)
theorem dX0_push_47 : decode cX0_push 47 = .ok (.iconst 0, 1) := dk_3 (dk_at dksX0_push_2 1 rfl rfl)
theorem dX0_push_48 : decode cX0_push 48 = .ok (.invokevirtual 270, 3) := dk_182 1 14 (dk_at dksX0_push_2 2 rfl rfl)
theorem dX0_push_51 : decode cX0_push 51 = .ok (.aload_n 0, 1) := dk_42 (dk_at dksX0_push_2 5 rfl rfl)
theorem dX0_push_52 : decode cX0_push 52 = .ok (.getfield 260, 3) := dk_180 1 4 (dk_at dksX0_push_2 6 rfl rfl)
theorem dX0_push_55 : decode cX0_push 55 = .ok (.iconst (-1), 1) := dk_2 (dk_at dksX0_push_2 9 rfl rfl)
theorem dX0_push_56 : decode cX0_push 56 = .ok (.if_icmp .ne 6, 3) := dk_160 0 6 (dk_at dksX0_push_2 10 rfl rfl)
theorem dX0_push_59 : decode cX0_push 59 = .ok (.bipush (-2), 2) := dk_16 254 (dk_at dksX0_push_2 13 rfl rfl)
theorem dX0_push_61 : decode cX0_push 61 = .ok (.ireturn, 1) := dk_172 (dk_at dksX0_push_2 15 rfl rfl)
theorem dX0_push_62 : decode cX0_push 62 = .ok (.iload_n 2, 1) := dk_28 (dk_at dksX0_push_2 16 rfl rfl)
theorem dX0_push_63 : decode cX0_push 63 = .ok (.ifCond .ne 10, 3) := dk_154 0 10 (dk_at dksX0_push_2 17 rfl rfl)
theorem dX0_push_66 : decode cX0_push 66 = .ok (.aload_n 0, 1) := dk_42 (dk_at dksX0_push_2 20 rfl rfl)
theorem dX0_push_67 : decode cX0_push 67 = .ok (.getfield 260, 3) := dk_180 1 4 (dk_at dksX0_push_2 21 rfl rfl)
theorem dX0_push_70 : decode cX0_push 70 = .ok (.goto 21, 3) := dk_167 0 21 (dk_at dksX0_push_3 0 rfl rfl)
theorem dX0_push_73 : decode cX0_push 73 = .ok (.iload_n 2, 1) := dk_28 (dk_at dksX0_push_3 3 rfl rfl)
theorem dX0_push_74 : decode cX0_push 74 = .ok (.iload_n 1, 1) := dk_27 (dk_at dksX0_push_3 4 rfl rfl)
theorem dX0_push_75 : decode cX0_push 75 = .ok (.if_icmp .le 8, 3) := dk_164 0 8 (dk_at dksX0_push_3 5 rfl rfl)
theorem dX0_push_78 : decode cX0_push 78 = .ok (.bipush (-2), 2) := dk_16 254 (dk_at dksX0_push_3 8 rfl rfl)
theorem dX0_push_80 : decode cX0_push 80 = .ok (.goto 11, 3) := dk_167 0 11 (dk_at dksX0_push_3 10 rfl rfl)
theorem dX0_push_83 : decode cX0_push 83 = .ok (.aload_n 0, 1) := dk_42 (dk_at dksX0_push_3 13 rfl rfl)
theorem dX0_push_84 : decode cX0_push 84 = .ok (.getfield 109, 3) := dk_180 0 109 (dk_at dksX0_push_3 14 rfl rfl)
theorem dX0_push_87 : decode cX0_push 87 = .ok (.iload_n 2, 1) := dk_28 (dk_at dksX0_push_3 17 rfl rfl)
theorem dX0_push_88 : decode cX0_push 88 = .ok (.iconst 1, 1) := dk_4 (dk_at dksX0_push_3 18 rfl rfl)
theorem dX0_push_89 : decode cX0_push 89 = .ok (.isub, 1) := dk_100 (dk_at dksX0_push_3 19 rfl rfl)
theorem dX0_push_90 : decode cX0_push 90 = .ok (.iaload, 1) := dk_46 (dk_at dksX0_push_3 20 rfl rfl)
theorem dX0_push_91 : decode cX0_push 91 = .ok (.ireturn, 1) := dk_172 (dk_at dksX0_push_3 21 rfl rfl)
abbrev cX0_preparesDeep : ByteArray := prog_1_method_30_code
def yX0_preparesDeep : MethodName := ⟨RX0, "preparesDeep", "(I)V"⟩
def dkwX0_preparesDeep_1 : List UInt8 := [167, 255, 234, 177]
abbrev dktX0_preparesDeep_1 : List UInt8 := dkwX0_preparesDeep_1 ++ []
def dkwX0_preparesDeep_0 : List UInt8 := [3, 61, 28, 27, 163, 0, 23, 42, 180, 0, 28, 28, 50, 42, 180, 0, 150, 182, 0, 146, 87, 132, 2, 1]
abbrev dktX0_preparesDeep_0 : List UInt8 := dkwX0_preparesDeep_0 ++ dktX0_preparesDeep_1
theorem dksX0_preparesDeep_0 : cX0_preparesDeep.data.toList.drop 0 = dktX0_preparesDeep_0 := by decide +kernel
theorem dksX0_preparesDeep_1 : cX0_preparesDeep.data.toList.drop 24 = dktX0_preparesDeep_1 := dk_seg dksX0_preparesDeep_0 24 rfl rfl
theorem dX0_preparesDeep_0 : decode cX0_preparesDeep 0 = .ok (.iconst 0, 1) := dk_3 (dk_at dksX0_preparesDeep_0 0 rfl rfl)
theorem dX0_preparesDeep_1 : decode cX0_preparesDeep 1 = .ok (.istore_n 2, 1) := dk_61 (dk_at dksX0_preparesDeep_0 1 rfl rfl)
theorem dX0_preparesDeep_2 : decode cX0_preparesDeep 2 = .ok (.iload_n 2, 1) := dk_28 (dk_at dksX0_preparesDeep_0 2 rfl rfl)
theorem dX0_preparesDeep_3 : decode cX0_preparesDeep 3 = .ok (.iload_n 1, 1) := dk_27 (dk_at dksX0_preparesDeep_0 3 rfl rfl)
theorem dX0_preparesDeep_4 : decode cX0_preparesDeep 4 = .ok (.if_icmp .gt 23, 3) := dk_163 0 23 (dk_at dksX0_preparesDeep_0 4 rfl rfl)
theorem dX0_preparesDeep_7 : decode cX0_preparesDeep 7 = .ok (.aload_n 0, 1) := dk_42 (dk_at dksX0_preparesDeep_0 7 rfl rfl)
theorem dX0_preparesDeep_8 : decode cX0_preparesDeep 8 = .ok (.getfield 28, 3) := dk_180 0 28 (dk_at dksX0_preparesDeep_0 8 rfl rfl)
theorem dX0_preparesDeep_11 : decode cX0_preparesDeep 11 = .ok (.iload_n 2, 1) := dk_28 (dk_at dksX0_preparesDeep_0 11 rfl rfl)
theorem dX0_preparesDeep_12 : decode cX0_preparesDeep 12 = .ok (.aaload, 1) := dk_50 (dk_at dksX0_preparesDeep_0 12 rfl rfl)
theorem dX0_preparesDeep_13 : decode cX0_preparesDeep 13 = .ok (.aload_n 0, 1) := dk_42 (dk_at dksX0_preparesDeep_0 13 rfl rfl)
theorem dX0_preparesDeep_14 : decode cX0_preparesDeep 14 = .ok (.getfield 150, 3) := dk_180 0 150 (dk_at dksX0_preparesDeep_0 14 rfl rfl)
theorem dX0_preparesDeep_17 : decode cX0_preparesDeep 17 = .ok (.invokevirtual 146, 3) := dk_182 0 146 (dk_at dksX0_preparesDeep_0 17 rfl rfl)
theorem dX0_preparesDeep_20 : decode cX0_preparesDeep 20 = .ok (.pop, 1) := dk_87 (dk_at dksX0_preparesDeep_0 20 rfl rfl)
theorem dX0_preparesDeep_21 : decode cX0_preparesDeep 21 = .ok (.iinc 2 1, 3) := dk_132 2 1 (dk_at dksX0_preparesDeep_0 21 rfl rfl)
theorem dX0_preparesDeep_24 : decode cX0_preparesDeep 24 = .ok (.goto (-22), 3) := dk_167 255 234 (dk_at dksX0_preparesDeep_1 0 rfl rfl)
theorem dX0_preparesDeep_27 : decode cX0_preparesDeep 27 = .ok (.return_, 1) := dk_177 (dk_at dksX0_preparesDeep_1 3 rfl rfl)
abbrev cX0_triesPushes : ByteArray := prog_1_method_29_code
def yX0_triesPushes : MethodName := ⟨RX0, "triesPushes", "(III)V"⟩
def dkwX0_triesPushes_8 : List UInt8 := [177]
abbrev dktX0_triesPushes_8 : List UInt8 := dkwX0_triesPushes_8 ++ []
def dkwX0_triesPushes_7 : List UInt8 := [96, 28, 21, 4, 2, 160, 0, 7, 29, 167, 0, 6, 29, 4, 96, 182, 1, 14, 132, 4, 1, 167, 255, 130]
abbrev dktX0_triesPushes_7 : List UInt8 := dkwX0_triesPushes_7 ++ dktX0_triesPushes_8
def dkwX0_triesPushes_6 : List UInt8 := [182, 0, 245, 25, 5, 42, 182, 0, 227, 182, 0, 230, 87, 42, 180, 0, 105, 27, 21, 4, 79, 42, 27, 4]
abbrev dktX0_triesPushes_6 : List UInt8 := dkwX0_triesPushes_6 ++ dktX0_triesPushes_7
def dkwX0_triesPushes_5 : List UInt8 := [2, 159, 0, 25, 25, 5, 21, 4, 5, 108, 21, 4, 5, 112, 154, 0, 8, 16, 254, 167, 0, 4, 5]
abbrev dktX0_triesPushes_5 : List UInt8 := dkwX0_triesPushes_5 ++ dktX0_triesPushes_6
def dkwX0_triesPushes_4 : List UInt8 := [167, 0, 89, 42, 180, 0, 28, 27, 4, 96, 50, 42, 180, 0, 28, 27, 50, 182, 1, 11, 58, 5, 21, 4]
abbrev dktX0_triesPushes_4 : List UInt8 := dkwX0_triesPushes_4 ++ dktX0_triesPushes_5
def dkwX0_triesPushes_3 : List UInt8 := [162, 0, 118, 21, 4, 2, 159, 0, 20, 42, 180, 0, 150, 21, 4, 5, 108, 182, 0, 173, 153, 0, 6]
abbrev dktX0_triesPushes_3 : List UInt8 := dkwX0_triesPushes_3 ++ dktX0_triesPushes_4
def dkwX0_triesPushes_2 : List UInt8 := [180, 0, 109, 3, 6, 184, 0, 209, 177, 2, 54, 4, 21, 4, 5, 42, 180, 0, 150, 180, 0, 166, 104]
abbrev dktX0_triesPushes_2 : List UInt8 := dkwX0_triesPushes_2 ++ dktX0_triesPushes_3
def dkwX0_triesPushes_1 : List UInt8 := [180, 0, 28, 27, 50, 182, 1, 7, 154, 0, 4, 177, 42, 29, 181, 1, 4, 42, 180, 0, 105, 3, 42]
abbrev dktX0_triesPushes_1 : List UInt8 := dkwX0_triesPushes_1 ++ dktX0_triesPushes_2
def dkwX0_triesPushes_0 : List UInt8 := [42, 180, 1, 4, 2, 159, 0, 12, 29, 42, 180, 1, 4, 161, 0, 4, 177, 27, 28, 160, 0, 36, 42]
abbrev dktX0_triesPushes_0 : List UInt8 := dkwX0_triesPushes_0 ++ dktX0_triesPushes_1
theorem dksX0_triesPushes_0 : cX0_triesPushes.data.toList.drop 0 = dktX0_triesPushes_0 := by decide +kernel
theorem dksX0_triesPushes_1 : cX0_triesPushes.data.toList.drop 23 = dktX0_triesPushes_1 := dk_seg dksX0_triesPushes_0 23 rfl rfl
theorem dksX0_triesPushes_2 : cX0_triesPushes.data.toList.drop 46 = dktX0_triesPushes_2 := dk_seg dksX0_triesPushes_1 23 rfl rfl
theorem dksX0_triesPushes_3 : cX0_triesPushes.data.toList.drop 69 = dktX0_triesPushes_3 := dk_seg dksX0_triesPushes_2 23 rfl rfl
theorem dksX0_triesPushes_4 : cX0_triesPushes.data.toList.drop 92 = dktX0_triesPushes_4 := dk_seg dksX0_triesPushes_3 23 rfl rfl
theorem dksX0_triesPushes_5 : cX0_triesPushes.data.toList.drop 116 = dktX0_triesPushes_5 := dk_seg dksX0_triesPushes_4 24 rfl rfl
theorem dksX0_triesPushes_6 : cX0_triesPushes.data.toList.drop 139 = dktX0_triesPushes_6 := dk_seg dksX0_triesPushes_5 23 rfl rfl
theorem dksX0_triesPushes_7 : cX0_triesPushes.data.toList.drop 163 = dktX0_triesPushes_7 := dk_seg dksX0_triesPushes_6 24 rfl rfl
theorem dksX0_triesPushes_8 : cX0_triesPushes.data.toList.drop 187 = dktX0_triesPushes_8 := dk_seg dksX0_triesPushes_7 24 rfl rfl
theorem dX0_triesPushes_0 : decode cX0_triesPushes 0 = .ok (.aload_n 0, 1) := dk_42 (dk_at dksX0_triesPushes_0 0 rfl rfl)
theorem dX0_triesPushes_1 : decode cX0_triesPushes 1 = .ok (.getfield 260, 3) := dk_180 1 4 (dk_at dksX0_triesPushes_0 1 rfl rfl)
theorem dX0_triesPushes_4 : decode cX0_triesPushes 4 = .ok (.iconst (-1), 1) := dk_2 (dk_at dksX0_triesPushes_0 4 rfl rfl)
theorem dX0_triesPushes_5 : decode cX0_triesPushes 5 = .ok (.if_icmp .eq 12, 3) := dk_159 0 12 (dk_at dksX0_triesPushes_0 5 rfl rfl)
theorem dX0_triesPushes_8 : decode cX0_triesPushes 8 = .ok (.iload_n 3, 1) := dk_29 (dk_at dksX0_triesPushes_0 8 rfl rfl)
theorem dX0_triesPushes_9 : decode cX0_triesPushes 9 = .ok (.aload_n 0, 1) := dk_42 (dk_at dksX0_triesPushes_0 9 rfl rfl)
theorem dX0_triesPushes_10 : decode cX0_triesPushes 10 = .ok (.getfield 260, 3) := dk_180 1 4 (dk_at dksX0_triesPushes_0 10 rfl rfl)
theorem dX0_triesPushes_13 : decode cX0_triesPushes 13 = .ok (.if_icmp .lt 4, 3) := dk_161 0 4 (dk_at dksX0_triesPushes_0 13 rfl rfl)
theorem dX0_triesPushes_16 : decode cX0_triesPushes 16 = .ok (.return_, 1) := dk_177 (dk_at dksX0_triesPushes_0 16 rfl rfl)
theorem dX0_triesPushes_17 : decode cX0_triesPushes 17 = .ok (.iload_n 1, 1) := dk_27 (dk_at dksX0_triesPushes_0 17 rfl rfl)
theorem dX0_triesPushes_18 : decode cX0_triesPushes 18 = .ok (.iload_n 2, 1) := dk_28 (dk_at dksX0_triesPushes_0 18 rfl rfl)
theorem dX0_triesPushes_19 : decode cX0_triesPushes 19 = .ok (.if_icmp .ne 36, 3) := dk_160 0 36 (dk_at dksX0_triesPushes_0 19 rfl rfl)
theorem dX0_triesPushes_22 : decode cX0_triesPushes 22 = .ok (.aload_n 0, 1) := dk_42 (dk_at dksX0_triesPushes_0 22 rfl rfl)
theorem dX0_triesPushes_23 : decode cX0_triesPushes 23 = .ok (.getfield 28, 3) := dk_180 0 28 (dk_at dksX0_triesPushes_1 0 rfl rfl)
theorem dX0_triesPushes_26 : decode cX0_triesPushes 26 = .ok (.iload_n 1, 1) := dk_27 (dk_at dksX0_triesPushes_1 3 rfl rfl)
theorem dX0_triesPushes_27 : decode cX0_triesPushes 27 = .ok (.aaload, 1) := dk_50 (dk_at dksX0_triesPushes_1 4 rfl rfl)
theorem dX0_triesPushes_28 : decode cX0_triesPushes 28 = .ok (.invokevirtual 263, 3) := dk_182 1 7 (dk_at dksX0_triesPushes_1 5 rfl rfl)
theorem dX0_triesPushes_31 : decode cX0_triesPushes 31 = .ok (.ifCond .ne 4, 3) := dk_154 0 4 (dk_at dksX0_triesPushes_1 8 rfl rfl)
theorem dX0_triesPushes_34 : decode cX0_triesPushes 34 = .ok (.return_, 1) := dk_177 (dk_at dksX0_triesPushes_1 11 rfl rfl)
theorem dX0_triesPushes_35 : decode cX0_triesPushes 35 = .ok (.aload_n 0, 1) := dk_42 (dk_at dksX0_triesPushes_1 12 rfl rfl)
theorem dX0_triesPushes_36 : decode cX0_triesPushes 36 = .ok (.iload_n 3, 1) := dk_29 (dk_at dksX0_triesPushes_1 13 rfl rfl)
theorem dX0_triesPushes_37 : decode cX0_triesPushes 37 = .ok (.putfield 260, 3) := dk_181 1 4 (dk_at dksX0_triesPushes_1 14 rfl rfl)
theorem dX0_triesPushes_40 : decode cX0_triesPushes 40 = .ok (.aload_n 0, 1) := dk_42 (dk_at dksX0_triesPushes_1 17 rfl rfl)
theorem dX0_triesPushes_41 : decode cX0_triesPushes 41 = .ok (.getfield 105, 3) := dk_180 0 105 (dk_at dksX0_triesPushes_1 18 rfl rfl)
theorem dX0_triesPushes_44 : decode cX0_triesPushes 44 = .ok (.iconst 0, 1) := dk_3 (dk_at dksX0_triesPushes_1 21 rfl rfl)
theorem dX0_triesPushes_45 : decode cX0_triesPushes 45 = .ok (.aload_n 0, 1) := dk_42 (dk_at dksX0_triesPushes_1 22 rfl rfl)
theorem dX0_triesPushes_46 : decode cX0_triesPushes 46 = .ok (.getfield 109, 3) := dk_180 0 109 (dk_at dksX0_triesPushes_2 0 rfl rfl)
theorem dX0_triesPushes_49 : decode cX0_triesPushes 49 = .ok (.iconst 0, 1) := dk_3 (dk_at dksX0_triesPushes_2 3 rfl rfl)
theorem dX0_triesPushes_50 : decode cX0_triesPushes 50 = .ok (.iconst 3, 1) := dk_6 (dk_at dksX0_triesPushes_2 4 rfl rfl)
theorem dX0_triesPushes_51 : decode cX0_triesPushes 51 = .ok (.invokestatic 209, 3) := dk_184 0 209 (dk_at dksX0_triesPushes_2 5 rfl rfl)
theorem dX0_triesPushes_54 : decode cX0_triesPushes 54 = .ok (.return_, 1) := dk_177 (dk_at dksX0_triesPushes_2 8 rfl rfl)
theorem dX0_triesPushes_55 : decode cX0_triesPushes 55 = .ok (.iconst (-1), 1) := dk_2 (dk_at dksX0_triesPushes_2 9 rfl rfl)
theorem dX0_triesPushes_56 : decode cX0_triesPushes 56 = .ok (.istore 4, 2) := dk_54 4 (dk_at dksX0_triesPushes_2 10 rfl rfl)
theorem dX0_triesPushes_58 : decode cX0_triesPushes 58 = .ok (.iload 4, 2) := dk_21 4 (dk_at dksX0_triesPushes_2 12 rfl rfl)
theorem dX0_triesPushes_60 : decode cX0_triesPushes 60 = .ok (.iconst 2, 1) := dk_5 (dk_at dksX0_triesPushes_2 14 rfl rfl)
theorem dX0_triesPushes_61 : decode cX0_triesPushes 61 = .ok (.aload_n 0, 1) := dk_42 (dk_at dksX0_triesPushes_2 15 rfl rfl)
theorem dX0_triesPushes_62 : decode cX0_triesPushes 62 = .ok (.getfield 150, 3) := dk_180 0 150 (dk_at dksX0_triesPushes_2 16 rfl rfl)
theorem dX0_triesPushes_65 : decode cX0_triesPushes 65 = .ok (.getfield 166, 3) := dk_180 0 166 (dk_at dksX0_triesPushes_2 19 rfl rfl)
theorem dX0_triesPushes_68 : decode cX0_triesPushes 68 = .ok (.imul, 1) := dk_104 (dk_at dksX0_triesPushes_2 22 rfl rfl)
theorem dX0_triesPushes_69 : decode cX0_triesPushes 69 = .ok (.if_icmp .ge 118, 3) := dk_162 0 118 (dk_at dksX0_triesPushes_3 0 rfl rfl)
theorem dX0_triesPushes_72 : decode cX0_triesPushes 72 = .ok (.iload 4, 2) := dk_21 4 (dk_at dksX0_triesPushes_3 3 rfl rfl)
theorem dX0_triesPushes_74 : decode cX0_triesPushes 74 = .ok (.iconst (-1), 1) := dk_2 (dk_at dksX0_triesPushes_3 5 rfl rfl)
theorem dX0_triesPushes_75 : decode cX0_triesPushes 75 = .ok (.if_icmp .eq 20, 3) := dk_159 0 20 (dk_at dksX0_triesPushes_3 6 rfl rfl)
theorem dX0_triesPushes_78 : decode cX0_triesPushes 78 = .ok (.aload_n 0, 1) := dk_42 (dk_at dksX0_triesPushes_3 9 rfl rfl)
theorem dX0_triesPushes_79 : decode cX0_triesPushes 79 = .ok (.getfield 150, 3) := dk_180 0 150 (dk_at dksX0_triesPushes_3 10 rfl rfl)
theorem dX0_triesPushes_82 : decode cX0_triesPushes 82 = .ok (.iload 4, 2) := dk_21 4 (dk_at dksX0_triesPushes_3 13 rfl rfl)
theorem dX0_triesPushes_84 : decode cX0_triesPushes 84 = .ok (.iconst 2, 1) := dk_5 (dk_at dksX0_triesPushes_3 15 rfl rfl)
theorem dX0_triesPushes_85 : decode cX0_triesPushes 85 = .ok (.idiv, 1) := dk_108 (dk_at dksX0_triesPushes_3 16 rfl rfl)
theorem dX0_triesPushes_86 : decode cX0_triesPushes 86 = .ok (.invokevirtual 173, 3) := dk_182 0 173 (dk_at dksX0_triesPushes_3 17 rfl rfl)
theorem dX0_triesPushes_89 : decode cX0_triesPushes 89 = .ok (.ifCond .eq 6, 3) := dk_153 0 6 (dk_at dksX0_triesPushes_3 20 rfl rfl)
theorem dX0_triesPushes_92 : decode cX0_triesPushes 92 = .ok (.goto 89, 3) := dk_167 0 89 (dk_at dksX0_triesPushes_4 0 rfl rfl)
theorem dX0_triesPushes_95 : decode cX0_triesPushes 95 = .ok (.aload_n 0, 1) := dk_42 (dk_at dksX0_triesPushes_4 3 rfl rfl)
theorem dX0_triesPushes_96 : decode cX0_triesPushes 96 = .ok (.getfield 28, 3) := dk_180 0 28 (dk_at dksX0_triesPushes_4 4 rfl rfl)
theorem dX0_triesPushes_99 : decode cX0_triesPushes 99 = .ok (.iload_n 1, 1) := dk_27 (dk_at dksX0_triesPushes_4 7 rfl rfl)
theorem dX0_triesPushes_100 : decode cX0_triesPushes 100 = .ok (.iconst 1, 1) := dk_4 (dk_at dksX0_triesPushes_4 8 rfl rfl)
theorem dX0_triesPushes_101 : decode cX0_triesPushes 101 = .ok (.iadd, 1) := dk_96 (dk_at dksX0_triesPushes_4 9 rfl rfl)
theorem dX0_triesPushes_102 : decode cX0_triesPushes 102 = .ok (.aaload, 1) := dk_50 (dk_at dksX0_triesPushes_4 10 rfl rfl)
theorem dX0_triesPushes_103 : decode cX0_triesPushes 103 = .ok (.aload_n 0, 1) := dk_42 (dk_at dksX0_triesPushes_4 11 rfl rfl)
theorem dX0_triesPushes_104 : decode cX0_triesPushes 104 = .ok (.getfield 28, 3) := dk_180 0 28 (dk_at dksX0_triesPushes_4 12 rfl rfl)
theorem dX0_triesPushes_107 : decode cX0_triesPushes 107 = .ok (.iload_n 1, 1) := dk_27 (dk_at dksX0_triesPushes_4 15 rfl rfl)
theorem dX0_triesPushes_108 : decode cX0_triesPushes 108 = .ok (.aaload, 1) := dk_50 (dk_at dksX0_triesPushes_4 16 rfl rfl)
theorem dX0_triesPushes_109 : decode cX0_triesPushes 109 = .ok (.invokevirtual 267, 3) := dk_182 1 11 (dk_at dksX0_triesPushes_4 17 rfl rfl)
theorem dX0_triesPushes_112 : decode cX0_triesPushes 112 = .ok (.astore 5, 2) := dk_58 5 (dk_at dksX0_triesPushes_4 20 rfl rfl)
theorem dX0_triesPushes_114 : decode cX0_triesPushes 114 = .ok (.iload 4, 2) := dk_21 4 (dk_at dksX0_triesPushes_4 22 rfl rfl)
theorem dX0_triesPushes_116 : decode cX0_triesPushes 116 = .ok (.iconst (-1), 1) := dk_2 (dk_at dksX0_triesPushes_5 0 rfl rfl)
theorem dX0_triesPushes_117 : decode cX0_triesPushes 117 = .ok (.if_icmp .eq 25, 3) := dk_159 0 25 (dk_at dksX0_triesPushes_5 1 rfl rfl)
theorem dX0_triesPushes_120 : decode cX0_triesPushes 120 = .ok (.aload 5, 2) := dk_25 5 (dk_at dksX0_triesPushes_5 4 rfl rfl)
theorem dX0_triesPushes_122 : decode cX0_triesPushes 122 = .ok (.iload 4, 2) := dk_21 4 (dk_at dksX0_triesPushes_5 6 rfl rfl)
theorem dX0_triesPushes_124 : decode cX0_triesPushes 124 = .ok (.iconst 2, 1) := dk_5 (dk_at dksX0_triesPushes_5 8 rfl rfl)
theorem dX0_triesPushes_125 : decode cX0_triesPushes 125 = .ok (.idiv, 1) := dk_108 (dk_at dksX0_triesPushes_5 9 rfl rfl)
theorem dX0_triesPushes_126 : decode cX0_triesPushes 126 = .ok (.iload 4, 2) := dk_21 4 (dk_at dksX0_triesPushes_5 10 rfl rfl)
theorem dX0_triesPushes_128 : decode cX0_triesPushes 128 = .ok (.iconst 2, 1) := dk_5 (dk_at dksX0_triesPushes_5 12 rfl rfl)
theorem dX0_triesPushes_129 : decode cX0_triesPushes 129 = .ok (.irem, 1) := dk_112 (dk_at dksX0_triesPushes_5 13 rfl rfl)
theorem dX0_triesPushes_130 : decode cX0_triesPushes 130 = .ok (.ifCond .ne 8, 3) := dk_154 0 8 (dk_at dksX0_triesPushes_5 14 rfl rfl)
theorem dX0_triesPushes_133 : decode cX0_triesPushes 133 = .ok (.bipush (-2), 2) := dk_16 254 (dk_at dksX0_triesPushes_5 17 rfl rfl)
theorem dX0_triesPushes_135 : decode cX0_triesPushes 135 = .ok (.goto 4, 3) := dk_167 0 4 (dk_at dksX0_triesPushes_5 19 rfl rfl)
theorem dX0_triesPushes_138 : decode cX0_triesPushes 138 = .ok (.iconst 2, 1) := dk_5 (dk_at dksX0_triesPushes_5 22 rfl rfl)
theorem dX0_triesPushes_139 : decode cX0_triesPushes 139 = .ok (.invokevirtual 245, 3) := dk_182 0 245 (dk_at dksX0_triesPushes_6 0 rfl rfl)
theorem dX0_triesPushes_142 : decode cX0_triesPushes 142 = .ok (.aload 5, 2) := dk_25 5 (dk_at dksX0_triesPushes_6 3 rfl rfl)
theorem dX0_triesPushes_144 : decode cX0_triesPushes 144 = .ok (.aload_n 0, 1) := dk_42 (dk_at dksX0_triesPushes_6 5 rfl rfl)
theorem dX0_triesPushes_145 : decode cX0_triesPushes 145 = .ok (.invokevirtual 227, 3) := dk_182 0 227 (dk_at dksX0_triesPushes_6 6 rfl rfl)
theorem dX0_triesPushes_148 : decode cX0_triesPushes 148 = .ok (.invokevirtual 230, 3) := dk_182 0 230 (dk_at dksX0_triesPushes_6 9 rfl rfl)
theorem dX0_triesPushes_151 : decode cX0_triesPushes 151 = .ok (.pop, 1) := dk_87 (dk_at dksX0_triesPushes_6 12 rfl rfl)
theorem dX0_triesPushes_152 : decode cX0_triesPushes 152 = .ok (.aload_n 0, 1) := dk_42 (dk_at dksX0_triesPushes_6 13 rfl rfl)
theorem dX0_triesPushes_153 : decode cX0_triesPushes 153 = .ok (.getfield 105, 3) := dk_180 0 105 (dk_at dksX0_triesPushes_6 14 rfl rfl)
theorem dX0_triesPushes_156 : decode cX0_triesPushes 156 = .ok (.iload_n 1, 1) := dk_27 (dk_at dksX0_triesPushes_6 17 rfl rfl)
theorem dX0_triesPushes_157 : decode cX0_triesPushes 157 = .ok (.iload 4, 2) := dk_21 4 (dk_at dksX0_triesPushes_6 18 rfl rfl)
theorem dX0_triesPushes_159 : decode cX0_triesPushes 159 = .ok (.iastore, 1) := dk_79 (dk_at dksX0_triesPushes_6 20 rfl rfl)
theorem dX0_triesPushes_160 : decode cX0_triesPushes 160 = .ok (.aload_n 0, 1) := dk_42 (dk_at dksX0_triesPushes_6 21 rfl rfl)
theorem dX0_triesPushes_161 : decode cX0_triesPushes 161 = .ok (.iload_n 1, 1) := dk_27 (dk_at dksX0_triesPushes_6 22 rfl rfl)
theorem dX0_triesPushes_162 : decode cX0_triesPushes 162 = .ok (.iconst 1, 1) := dk_4 (dk_at dksX0_triesPushes_6 23 rfl rfl)
theorem dX0_triesPushes_163 : decode cX0_triesPushes 163 = .ok (.iadd, 1) := dk_96 (dk_at dksX0_triesPushes_7 0 rfl rfl)
theorem dX0_triesPushes_164 : decode cX0_triesPushes 164 = .ok (.iload_n 2, 1) := dk_28 (dk_at dksX0_triesPushes_7 1 rfl rfl)
theorem dX0_triesPushes_165 : decode cX0_triesPushes 165 = .ok (.iload 4, 2) := dk_21 4 (dk_at dksX0_triesPushes_7 2 rfl rfl)
theorem dX0_triesPushes_167 : decode cX0_triesPushes 167 = .ok (.iconst (-1), 1) := dk_2 (dk_at dksX0_triesPushes_7 4 rfl rfl)
theorem dX0_triesPushes_168 : decode cX0_triesPushes 168 = .ok (.if_icmp .ne 7, 3) := dk_160 0 7 (dk_at dksX0_triesPushes_7 5 rfl rfl)
theorem dX0_triesPushes_171 : decode cX0_triesPushes 171 = .ok (.iload_n 3, 1) := dk_29 (dk_at dksX0_triesPushes_7 8 rfl rfl)
theorem dX0_triesPushes_172 : decode cX0_triesPushes 172 = .ok (.goto 6, 3) := dk_167 0 6 (dk_at dksX0_triesPushes_7 9 rfl rfl)
theorem dX0_triesPushes_175 : decode cX0_triesPushes 175 = .ok (.iload_n 3, 1) := dk_29 (dk_at dksX0_triesPushes_7 12 rfl rfl)
theorem dX0_triesPushes_176 : decode cX0_triesPushes 176 = .ok (.iconst 1, 1) := dk_4 (dk_at dksX0_triesPushes_7 13 rfl rfl)
theorem dX0_triesPushes_177 : decode cX0_triesPushes 177 = .ok (.iadd, 1) := dk_96 (dk_at dksX0_triesPushes_7 14 rfl rfl)
theorem dX0_triesPushes_178 : decode cX0_triesPushes 178 = .ok (.invokevirtual 270, 3) := dk_182 1 14 (dk_at dksX0_triesPushes_7 15 rfl rfl)
theorem dX0_triesPushes_181 : decode cX0_triesPushes 181 = .ok (.iinc 4 1, 3) := dk_132 4 1 (dk_at dksX0_triesPushes_7 18 rfl rfl)
theorem dX0_triesPushes_184 : decode cX0_triesPushes 184 = .ok (.goto (-126), 3) := dk_167 255 130 (dk_at dksX0_triesPushes_7 21 rfl rfl)
theorem dX0_triesPushes_187 : decode cX0_triesPushes 187 = .ok (.return_, 1) := dk_177 (dk_at dksX0_triesPushes_8 0 rfl rfl)
abbrev cX0_dukes : ByteArray := prog_1_method_33_code
def yX0_dukes : MethodName := ⟨RX0, "dukes", "(II)I"⟩
def dkwX0_dukes_2 : List UInt8 := [154, 0, 7, 29, 167, 0, 7, 42, 180, 1, 26, 172]
abbrev dktX0_dukes_2 : List UInt8 := dkwX0_dukes_2 ++ []
def dkwX0_dukes_1 : List UInt8 := [184, 0, 241, 154, 0, 6, 16, 156, 172, 42, 27, 182, 1, 18, 42, 3, 27, 182, 1, 23, 62, 28]
abbrev dktX0_dukes_1 : List UInt8 := dkwX0_dukes_1 ++ dktX0_dukes_2
def dkwX0_dukes_0 : List UInt8 := [42, 180, 0, 150, 198, 0, 25, 27, 133, 10, 20, 1, 29, 184, 0, 241, 153, 0, 13, 28, 133, 9, 10]
abbrev dktX0_dukes_0 : List UInt8 := dkwX0_dukes_0 ++ dktX0_dukes_1
theorem dksX0_dukes_0 : cX0_dukes.data.toList.drop 0 = dktX0_dukes_0 := by decide +kernel
theorem dksX0_dukes_1 : cX0_dukes.data.toList.drop 23 = dktX0_dukes_1 := dk_seg dksX0_dukes_0 23 rfl rfl
theorem dksX0_dukes_2 : cX0_dukes.data.toList.drop 45 = dktX0_dukes_2 := dk_seg dksX0_dukes_1 22 rfl rfl
theorem dX0_dukes_0 : decode cX0_dukes 0 = .ok (.aload_n 0, 1) := dk_42 (dk_at dksX0_dukes_0 0 rfl rfl)
theorem dX0_dukes_1 : decode cX0_dukes 1 = .ok (.getfield 150, 3) := dk_180 0 150 (dk_at dksX0_dukes_0 1 rfl rfl)
theorem dX0_dukes_4 : decode cX0_dukes 4 = .ok (.ifnull 25, 3) := dk_198 0 25 (dk_at dksX0_dukes_0 4 rfl rfl)
theorem dX0_dukes_7 : decode cX0_dukes 7 = .ok (.iload_n 1, 1) := dk_27 (dk_at dksX0_dukes_0 7 rfl rfl)
theorem dX0_dukes_8 : decode cX0_dukes 8 = .ok (.i2l, 1) := dk_133 (dk_at dksX0_dukes_0 8 rfl rfl)
theorem dX0_dukes_9 : decode cX0_dukes 9 = .ok (.lconst 1, 1) := dk_10 (dk_at dksX0_dukes_0 9 rfl rfl)
theorem dX0_dukes_10 : decode cX0_dukes 10 = .ok (.ldc2_w 285, 3) := dk_20 1 29 (dk_at dksX0_dukes_0 10 rfl rfl)
theorem dX0_dukes_13 : decode cX0_dukes 13 = .ok (.invokestatic 241, 3) := dk_184 0 241 (dk_at dksX0_dukes_0 13 rfl rfl)
theorem dX0_dukes_16 : decode cX0_dukes 16 = .ok (.ifCond .eq 13, 3) := dk_153 0 13 (dk_at dksX0_dukes_0 16 rfl rfl)
theorem dX0_dukes_19 : decode cX0_dukes 19 = .ok (.iload_n 2, 1) := dk_28 (dk_at dksX0_dukes_0 19 rfl rfl)
theorem dX0_dukes_20 : decode cX0_dukes 20 = .ok (.i2l, 1) := dk_133 (dk_at dksX0_dukes_0 20 rfl rfl)
theorem dX0_dukes_21 : decode cX0_dukes 21 = .ok (.lconst 0, 1) := dk_9 (dk_at dksX0_dukes_0 21 rfl rfl)
theorem dX0_dukes_22 : decode cX0_dukes 22 = .ok (.lconst 1, 1) := dk_10 (dk_at dksX0_dukes_0 22 rfl rfl)
theorem dX0_dukes_23 : decode cX0_dukes 23 = .ok (.invokestatic 241, 3) := dk_184 0 241 (dk_at dksX0_dukes_1 0 rfl rfl)
theorem dX0_dukes_26 : decode cX0_dukes 26 = .ok (.ifCond .ne 6, 3) := dk_154 0 6 (dk_at dksX0_dukes_1 3 rfl rfl)
theorem dX0_dukes_29 : decode cX0_dukes 29 = .ok (.bipush (-100), 2) := dk_16 156 (dk_at dksX0_dukes_1 6 rfl rfl)
theorem dX0_dukes_31 : decode cX0_dukes 31 = .ok (.ireturn, 1) := dk_172 (dk_at dksX0_dukes_1 8 rfl rfl)
theorem dX0_dukes_32 : decode cX0_dukes 32 = .ok (.aload_n 0, 1) := dk_42 (dk_at dksX0_dukes_1 9 rfl rfl)
theorem dX0_dukes_33 : decode cX0_dukes 33 = .ok (.iload_n 1, 1) := dk_27 (dk_at dksX0_dukes_1 10 rfl rfl)
theorem dX0_dukes_34 : decode cX0_dukes 34 = .ok (.invokevirtual 274, 3) := dk_182 1 18 (dk_at dksX0_dukes_1 11 rfl rfl)
theorem dX0_dukes_37 : decode cX0_dukes 37 = .ok (.aload_n 0, 1) := dk_42 (dk_at dksX0_dukes_1 14 rfl rfl)
theorem dX0_dukes_38 : decode cX0_dukes 38 = .ok (.iconst 0, 1) := dk_3 (dk_at dksX0_dukes_1 15 rfl rfl)
theorem dX0_dukes_39 : decode cX0_dukes 39 = .ok (.iload_n 1, 1) := dk_27 (dk_at dksX0_dukes_1 16 rfl rfl)
theorem dX0_dukes_40 : decode cX0_dukes 40 = .ok (.invokevirtual 279, 3) := dk_182 1 23 (dk_at dksX0_dukes_1 17 rfl rfl)
theorem dX0_dukes_43 : decode cX0_dukes 43 = .ok (.istore_n 3, 1) := dk_62 (dk_at dksX0_dukes_1 20 rfl rfl)
theorem dX0_dukes_44 : decode cX0_dukes 44 = .ok (.iload_n 2, 1) := dk_28 (dk_at dksX0_dukes_1 21 rfl rfl)
theorem dX0_dukes_45 : decode cX0_dukes 45 = .ok (.ifCond .ne 7, 3) := dk_154 0 7 (dk_at dksX0_dukes_2 0 rfl rfl)
theorem dX0_dukes_48 : decode cX0_dukes 48 = .ok (.iload_n 3, 1) := dk_29 (dk_at dksX0_dukes_2 3 rfl rfl)
theorem dX0_dukes_49 : decode cX0_dukes 49 = .ok (.goto 7, 3) := dk_167 0 7 (dk_at dksX0_dukes_2 4 rfl rfl)
theorem dX0_dukes_52 : decode cX0_dukes 52 = .ok (.aload_n 0, 1) := dk_42 (dk_at dksX0_dukes_2 7 rfl rfl)
theorem dX0_dukes_53 : decode cX0_dukes 53 = .ok (.getfield 282, 3) := dk_180 1 26 (dk_at dksX0_dukes_2 8 rfl rfl)
theorem dX0_dukes_56 : decode cX0_dukes 56 = .ok (.ireturn, 1) := dk_172 (dk_at dksX0_dukes_2 11 rfl rfl)
abbrev cX0_worthFrom : ByteArray := prog_1_method_32_code
def yX0_worthFrom : MethodName := ⟨RX0, "worthFrom", "(II)I"⟩
def dkwX0_worthFrom_7 : List UInt8 := [27, 154, 0, 9, 42, 21, 5, 181, 1, 26, 132, 5, 1, 167, 255, 115, 21, 4, 172]
abbrev dktX0_worthFrom_7 : List UInt8 := dkwX0_worthFrom_7 ++ []
def dkwX0_worthFrom_6 : List UInt8 := [21, 7, 21, 4, 163, 0, 16, 167, 0, 27, 21, 7, 21, 4, 161, 0, 6, 167, 0, 17, 21, 7, 54, 4]
abbrev dktX0_worthFrom_6 : List UInt8 := dkwX0_worthFrom_6 ++ dktX0_worthFrom_7
def dkwX0_worthFrom_5 : List UInt8 := [182, 0, 230, 87, 42, 27, 4, 96, 28, 182, 1, 23, 54, 7, 21, 5, 2, 159, 0, 27, 29, 153, 0, 13]
abbrev dktX0_worthFrom_5 : List UInt8 := dkwX0_worthFrom_5 ++ dktX0_worthFrom_6
def dkwX0_worthFrom_4 : List UInt8 := [25, 6, 21, 5, 29, 153, 0, 7, 4, 167, 0, 4, 2, 182, 0, 245, 25, 6, 42, 182, 0, 227]
abbrev dktX0_worthFrom_4 : List UInt8 := dkwX0_worthFrom_4 ++ dktX0_worthFrom_5
def dkwX0_worthFrom_3 : List UInt8 := [180, 0, 28, 27, 4, 96, 50, 42, 180, 0, 28, 27, 50, 182, 1, 11, 58, 6, 21, 5, 2, 159, 0, 19]
abbrev dktX0_worthFrom_3 : List UInt8 := dkwX0_worthFrom_3 ++ dktX0_worthFrom_4
def dkwX0_worthFrom_2 : List UInt8 := [21, 5, 2, 159, 0, 18, 42, 180, 0, 150, 21, 5, 182, 0, 173, 153, 0, 6, 167, 0, 108, 42]
abbrev dktX0_worthFrom_2 : List UInt8 := dkwX0_worthFrom_2 ++ dktX0_worthFrom_3
def dkwX0_worthFrom_1 : List UInt8 := [167, 0, 4, 3, 62, 3, 54, 4, 2, 54, 5, 21, 5, 42, 180, 0, 150, 180, 0, 166, 162, 0, 135]
abbrev dktX0_worthFrom_1 : List UInt8 := dkwX0_worthFrom_1 ++ dktX0_worthFrom_2
def dkwX0_worthFrom_0 : List UInt8 := [27, 28, 160, 0, 13, 42, 180, 0, 28, 27, 50, 182, 1, 21, 172, 27, 5, 112, 154, 0, 7, 4]
abbrev dktX0_worthFrom_0 : List UInt8 := dkwX0_worthFrom_0 ++ dktX0_worthFrom_1
theorem dksX0_worthFrom_0 : cX0_worthFrom.data.toList.drop 0 = dktX0_worthFrom_0 := by decide +kernel
theorem dksX0_worthFrom_1 : cX0_worthFrom.data.toList.drop 22 = dktX0_worthFrom_1 := dk_seg dksX0_worthFrom_0 22 rfl rfl
theorem dksX0_worthFrom_2 : cX0_worthFrom.data.toList.drop 45 = dktX0_worthFrom_2 := dk_seg dksX0_worthFrom_1 23 rfl rfl
theorem dksX0_worthFrom_3 : cX0_worthFrom.data.toList.drop 67 = dktX0_worthFrom_3 := dk_seg dksX0_worthFrom_2 22 rfl rfl
theorem dksX0_worthFrom_4 : cX0_worthFrom.data.toList.drop 91 = dktX0_worthFrom_4 := dk_seg dksX0_worthFrom_3 24 rfl rfl
theorem dksX0_worthFrom_5 : cX0_worthFrom.data.toList.drop 113 = dktX0_worthFrom_5 := dk_seg dksX0_worthFrom_4 22 rfl rfl
theorem dksX0_worthFrom_6 : cX0_worthFrom.data.toList.drop 137 = dktX0_worthFrom_6 := dk_seg dksX0_worthFrom_5 24 rfl rfl
theorem dksX0_worthFrom_7 : cX0_worthFrom.data.toList.drop 161 = dktX0_worthFrom_7 := dk_seg dksX0_worthFrom_6 24 rfl rfl
theorem dX0_worthFrom_0 : decode cX0_worthFrom 0 = .ok (.iload_n 1, 1) := dk_27 (dk_at dksX0_worthFrom_0 0 rfl rfl)
theorem dX0_worthFrom_1 : decode cX0_worthFrom 1 = .ok (.iload_n 2, 1) := dk_28 (dk_at dksX0_worthFrom_0 1 rfl rfl)
theorem dX0_worthFrom_2 : decode cX0_worthFrom 2 = .ok (.if_icmp .ne 13, 3) := dk_160 0 13 (dk_at dksX0_worthFrom_0 2 rfl rfl)
theorem dX0_worthFrom_5 : decode cX0_worthFrom 5 = .ok (.aload_n 0, 1) := dk_42 (dk_at dksX0_worthFrom_0 5 rfl rfl)
theorem dX0_worthFrom_6 : decode cX0_worthFrom 6 = .ok (.getfield 28, 3) := dk_180 0 28 (dk_at dksX0_worthFrom_0 6 rfl rfl)
theorem dX0_worthFrom_9 : decode cX0_worthFrom 9 = .ok (.iload_n 1, 1) := dk_27 (dk_at dksX0_worthFrom_0 9 rfl rfl)
theorem dX0_worthFrom_10 : decode cX0_worthFrom 10 = .ok (.aaload, 1) := dk_50 (dk_at dksX0_worthFrom_0 10 rfl rfl)
theorem dX0_worthFrom_11 : decode cX0_worthFrom 11 = .ok (.invokevirtual 277, 3) := dk_182 1 21 (dk_at dksX0_worthFrom_0 11 rfl rfl)
theorem dX0_worthFrom_14 : decode cX0_worthFrom 14 = .ok (.ireturn, 1) := dk_172 (dk_at dksX0_worthFrom_0 14 rfl rfl)
theorem dX0_worthFrom_15 : decode cX0_worthFrom 15 = .ok (.iload_n 1, 1) := dk_27 (dk_at dksX0_worthFrom_0 15 rfl rfl)
theorem dX0_worthFrom_16 : decode cX0_worthFrom 16 = .ok (.iconst 2, 1) := dk_5 (dk_at dksX0_worthFrom_0 16 rfl rfl)
theorem dX0_worthFrom_17 : decode cX0_worthFrom 17 = .ok (.irem, 1) := dk_112 (dk_at dksX0_worthFrom_0 17 rfl rfl)
theorem dX0_worthFrom_18 : decode cX0_worthFrom 18 = .ok (.ifCond .ne 7, 3) := dk_154 0 7 (dk_at dksX0_worthFrom_0 18 rfl rfl)
theorem dX0_worthFrom_21 : decode cX0_worthFrom 21 = .ok (.iconst 1, 1) := dk_4 (dk_at dksX0_worthFrom_0 21 rfl rfl)
theorem dX0_worthFrom_22 : decode cX0_worthFrom 22 = .ok (.goto 4, 3) := dk_167 0 4 (dk_at dksX0_worthFrom_1 0 rfl rfl)
theorem dX0_worthFrom_25 : decode cX0_worthFrom 25 = .ok (.iconst 0, 1) := dk_3 (dk_at dksX0_worthFrom_1 3 rfl rfl)
theorem dX0_worthFrom_26 : decode cX0_worthFrom 26 = .ok (.istore_n 3, 1) := dk_62 (dk_at dksX0_worthFrom_1 4 rfl rfl)
theorem dX0_worthFrom_27 : decode cX0_worthFrom 27 = .ok (.iconst 0, 1) := dk_3 (dk_at dksX0_worthFrom_1 5 rfl rfl)
theorem dX0_worthFrom_28 : decode cX0_worthFrom 28 = .ok (.istore 4, 2) := dk_54 4 (dk_at dksX0_worthFrom_1 6 rfl rfl)
theorem dX0_worthFrom_30 : decode cX0_worthFrom 30 = .ok (.iconst (-1), 1) := dk_2 (dk_at dksX0_worthFrom_1 8 rfl rfl)
theorem dX0_worthFrom_31 : decode cX0_worthFrom 31 = .ok (.istore 5, 2) := dk_54 5 (dk_at dksX0_worthFrom_1 9 rfl rfl)
theorem dX0_worthFrom_33 : decode cX0_worthFrom 33 = .ok (.iload 5, 2) := dk_21 5 (dk_at dksX0_worthFrom_1 11 rfl rfl)
theorem dX0_worthFrom_35 : decode cX0_worthFrom 35 = .ok (.aload_n 0, 1) := dk_42 (dk_at dksX0_worthFrom_1 13 rfl rfl)
theorem dX0_worthFrom_36 : decode cX0_worthFrom 36 = .ok (.getfield 150, 3) := dk_180 0 150 (dk_at dksX0_worthFrom_1 14 rfl rfl)
theorem dX0_worthFrom_39 : decode cX0_worthFrom 39 = .ok (.getfield 166, 3) := dk_180 0 166 (dk_at dksX0_worthFrom_1 17 rfl rfl)
theorem dX0_worthFrom_42 : decode cX0_worthFrom 42 = .ok (.if_icmp .ge 135, 3) := dk_162 0 135 (dk_at dksX0_worthFrom_1 20 rfl rfl)
theorem dX0_worthFrom_45 : decode cX0_worthFrom 45 = .ok (.iload 5, 2) := dk_21 5 (dk_at dksX0_worthFrom_2 0 rfl rfl)
theorem dX0_worthFrom_47 : decode cX0_worthFrom 47 = .ok (.iconst (-1), 1) := dk_2 (dk_at dksX0_worthFrom_2 2 rfl rfl)
theorem dX0_worthFrom_48 : decode cX0_worthFrom 48 = .ok (.if_icmp .eq 18, 3) := dk_159 0 18 (dk_at dksX0_worthFrom_2 3 rfl rfl)
theorem dX0_worthFrom_51 : decode cX0_worthFrom 51 = .ok (.aload_n 0, 1) := dk_42 (dk_at dksX0_worthFrom_2 6 rfl rfl)
theorem dX0_worthFrom_52 : decode cX0_worthFrom 52 = .ok (.getfield 150, 3) := dk_180 0 150 (dk_at dksX0_worthFrom_2 7 rfl rfl)
theorem dX0_worthFrom_55 : decode cX0_worthFrom 55 = .ok (.iload 5, 2) := dk_21 5 (dk_at dksX0_worthFrom_2 10 rfl rfl)
theorem dX0_worthFrom_57 : decode cX0_worthFrom 57 = .ok (.invokevirtual 173, 3) := dk_182 0 173 (dk_at dksX0_worthFrom_2 12 rfl rfl)
theorem dX0_worthFrom_60 : decode cX0_worthFrom 60 = .ok (.ifCond .eq 6, 3) := dk_153 0 6 (dk_at dksX0_worthFrom_2 15 rfl rfl)
theorem dX0_worthFrom_63 : decode cX0_worthFrom 63 = .ok (.goto 108, 3) := dk_167 0 108 (dk_at dksX0_worthFrom_2 18 rfl rfl)
theorem dX0_worthFrom_66 : decode cX0_worthFrom 66 = .ok (.aload_n 0, 1) := dk_42 (dk_at dksX0_worthFrom_2 21 rfl rfl)
theorem dX0_worthFrom_67 : decode cX0_worthFrom 67 = .ok (.getfield 28, 3) := dk_180 0 28 (dk_at dksX0_worthFrom_3 0 rfl rfl)
theorem dX0_worthFrom_70 : decode cX0_worthFrom 70 = .ok (.iload_n 1, 1) := dk_27 (dk_at dksX0_worthFrom_3 3 rfl rfl)
theorem dX0_worthFrom_71 : decode cX0_worthFrom 71 = .ok (.iconst 1, 1) := dk_4 (dk_at dksX0_worthFrom_3 4 rfl rfl)
theorem dX0_worthFrom_72 : decode cX0_worthFrom 72 = .ok (.iadd, 1) := dk_96 (dk_at dksX0_worthFrom_3 5 rfl rfl)
theorem dX0_worthFrom_73 : decode cX0_worthFrom 73 = .ok (.aaload, 1) := dk_50 (dk_at dksX0_worthFrom_3 6 rfl rfl)
theorem dX0_worthFrom_74 : decode cX0_worthFrom 74 = .ok (.aload_n 0, 1) := dk_42 (dk_at dksX0_worthFrom_3 7 rfl rfl)
theorem dX0_worthFrom_75 : decode cX0_worthFrom 75 = .ok (.getfield 28, 3) := dk_180 0 28 (dk_at dksX0_worthFrom_3 8 rfl rfl)
theorem dX0_worthFrom_78 : decode cX0_worthFrom 78 = .ok (.iload_n 1, 1) := dk_27 (dk_at dksX0_worthFrom_3 11 rfl rfl)
theorem dX0_worthFrom_79 : decode cX0_worthFrom 79 = .ok (.aaload, 1) := dk_50 (dk_at dksX0_worthFrom_3 12 rfl rfl)
theorem dX0_worthFrom_80 : decode cX0_worthFrom 80 = .ok (.invokevirtual 267, 3) := dk_182 1 11 (dk_at dksX0_worthFrom_3 13 rfl rfl)
theorem dX0_worthFrom_83 : decode cX0_worthFrom 83 = .ok (.astore 6, 2) := dk_58 6 (dk_at dksX0_worthFrom_3 16 rfl rfl)
theorem dX0_worthFrom_85 : decode cX0_worthFrom 85 = .ok (.iload 5, 2) := dk_21 5 (dk_at dksX0_worthFrom_3 18 rfl rfl)
theorem dX0_worthFrom_87 : decode cX0_worthFrom 87 = .ok (.iconst (-1), 1) := dk_2 (dk_at dksX0_worthFrom_3 20 rfl rfl)
theorem dX0_worthFrom_88 : decode cX0_worthFrom 88 = .ok (.if_icmp .eq 19, 3) := dk_159 0 19 (dk_at dksX0_worthFrom_3 21 rfl rfl)
theorem dX0_worthFrom_91 : decode cX0_worthFrom 91 = .ok (.aload 6, 2) := dk_25 6 (dk_at dksX0_worthFrom_4 0 rfl rfl)
theorem dX0_worthFrom_93 : decode cX0_worthFrom 93 = .ok (.iload 5, 2) := dk_21 5 (dk_at dksX0_worthFrom_4 2 rfl rfl)
theorem dX0_worthFrom_95 : decode cX0_worthFrom 95 = .ok (.iload_n 3, 1) := dk_29 (dk_at dksX0_worthFrom_4 4 rfl rfl)
theorem dX0_worthFrom_96 : decode cX0_worthFrom 96 = .ok (.ifCond .eq 7, 3) := dk_153 0 7 (dk_at dksX0_worthFrom_4 5 rfl rfl)
theorem dX0_worthFrom_99 : decode cX0_worthFrom 99 = .ok (.iconst 1, 1) := dk_4 (dk_at dksX0_worthFrom_4 8 rfl rfl)
theorem dX0_worthFrom_100 : decode cX0_worthFrom 100 = .ok (.goto 4, 3) := dk_167 0 4 (dk_at dksX0_worthFrom_4 9 rfl rfl)
theorem dX0_worthFrom_103 : decode cX0_worthFrom 103 = .ok (.iconst (-1), 1) := dk_2 (dk_at dksX0_worthFrom_4 12 rfl rfl)
theorem dX0_worthFrom_104 : decode cX0_worthFrom 104 = .ok (.invokevirtual 245, 3) := dk_182 0 245 (dk_at dksX0_worthFrom_4 13 rfl rfl)
theorem dX0_worthFrom_107 : decode cX0_worthFrom 107 = .ok (.aload 6, 2) := dk_25 6 (dk_at dksX0_worthFrom_4 16 rfl rfl)
theorem dX0_worthFrom_109 : decode cX0_worthFrom 109 = .ok (.aload_n 0, 1) := dk_42 (dk_at dksX0_worthFrom_4 18 rfl rfl)
theorem dX0_worthFrom_110 : decode cX0_worthFrom 110 = .ok (.invokevirtual 227, 3) := dk_182 0 227 (dk_at dksX0_worthFrom_4 19 rfl rfl)
theorem dX0_worthFrom_113 : decode cX0_worthFrom 113 = .ok (.invokevirtual 230, 3) := dk_182 0 230 (dk_at dksX0_worthFrom_5 0 rfl rfl)
theorem dX0_worthFrom_116 : decode cX0_worthFrom 116 = .ok (.pop, 1) := dk_87 (dk_at dksX0_worthFrom_5 3 rfl rfl)
theorem dX0_worthFrom_117 : decode cX0_worthFrom 117 = .ok (.aload_n 0, 1) := dk_42 (dk_at dksX0_worthFrom_5 4 rfl rfl)
theorem dX0_worthFrom_118 : decode cX0_worthFrom 118 = .ok (.iload_n 1, 1) := dk_27 (dk_at dksX0_worthFrom_5 5 rfl rfl)
theorem dX0_worthFrom_119 : decode cX0_worthFrom 119 = .ok (.iconst 1, 1) := dk_4 (dk_at dksX0_worthFrom_5 6 rfl rfl)
theorem dX0_worthFrom_120 : decode cX0_worthFrom 120 = .ok (.iadd, 1) := dk_96 (dk_at dksX0_worthFrom_5 7 rfl rfl)
theorem dX0_worthFrom_121 : decode cX0_worthFrom 121 = .ok (.iload_n 2, 1) := dk_28 (dk_at dksX0_worthFrom_5 8 rfl rfl)
theorem dX0_worthFrom_122 : decode cX0_worthFrom 122 = .ok (.invokevirtual 279, 3) := dk_182 1 23 (dk_at dksX0_worthFrom_5 9 rfl rfl)
theorem dX0_worthFrom_125 : decode cX0_worthFrom 125 = .ok (.istore 7, 2) := dk_54 7 (dk_at dksX0_worthFrom_5 12 rfl rfl)
theorem dX0_worthFrom_127 : decode cX0_worthFrom 127 = .ok (.iload 5, 2) := dk_21 5 (dk_at dksX0_worthFrom_5 14 rfl rfl)
theorem dX0_worthFrom_129 : decode cX0_worthFrom 129 = .ok (.iconst (-1), 1) := dk_2 (dk_at dksX0_worthFrom_5 16 rfl rfl)
theorem dX0_worthFrom_130 : decode cX0_worthFrom 130 = .ok (.if_icmp .eq 27, 3) := dk_159 0 27 (dk_at dksX0_worthFrom_5 17 rfl rfl)
theorem dX0_worthFrom_133 : decode cX0_worthFrom 133 = .ok (.iload_n 3, 1) := dk_29 (dk_at dksX0_worthFrom_5 20 rfl rfl)
theorem dX0_worthFrom_134 : decode cX0_worthFrom 134 = .ok (.ifCond .eq 13, 3) := dk_153 0 13 (dk_at dksX0_worthFrom_5 21 rfl rfl)
theorem dX0_worthFrom_137 : decode cX0_worthFrom 137 = .ok (.iload 7, 2) := dk_21 7 (dk_at dksX0_worthFrom_6 0 rfl rfl)
theorem dX0_worthFrom_139 : decode cX0_worthFrom 139 = .ok (.iload 4, 2) := dk_21 4 (dk_at dksX0_worthFrom_6 2 rfl rfl)
theorem dX0_worthFrom_141 : decode cX0_worthFrom 141 = .ok (.if_icmp .gt 16, 3) := dk_163 0 16 (dk_at dksX0_worthFrom_6 4 rfl rfl)
theorem dX0_worthFrom_144 : decode cX0_worthFrom 144 = .ok (.goto 27, 3) := dk_167 0 27 (dk_at dksX0_worthFrom_6 7 rfl rfl)
theorem dX0_worthFrom_147 : decode cX0_worthFrom 147 = .ok (.iload 7, 2) := dk_21 7 (dk_at dksX0_worthFrom_6 10 rfl rfl)
theorem dX0_worthFrom_149 : decode cX0_worthFrom 149 = .ok (.iload 4, 2) := dk_21 4 (dk_at dksX0_worthFrom_6 12 rfl rfl)
theorem dX0_worthFrom_151 : decode cX0_worthFrom 151 = .ok (.if_icmp .lt 6, 3) := dk_161 0 6 (dk_at dksX0_worthFrom_6 14 rfl rfl)
theorem dX0_worthFrom_154 : decode cX0_worthFrom 154 = .ok (.goto 17, 3) := dk_167 0 17 (dk_at dksX0_worthFrom_6 17 rfl rfl)
theorem dX0_worthFrom_157 : decode cX0_worthFrom 157 = .ok (.iload 7, 2) := dk_21 7 (dk_at dksX0_worthFrom_6 20 rfl rfl)
theorem dX0_worthFrom_159 : decode cX0_worthFrom 159 = .ok (.istore 4, 2) := dk_54 4 (dk_at dksX0_worthFrom_6 22 rfl rfl)
theorem dX0_worthFrom_161 : decode cX0_worthFrom 161 = .ok (.iload_n 1, 1) := dk_27 (dk_at dksX0_worthFrom_7 0 rfl rfl)
theorem dX0_worthFrom_162 : decode cX0_worthFrom 162 = .ok (.ifCond .ne 9, 3) := dk_154 0 9 (dk_at dksX0_worthFrom_7 1 rfl rfl)
theorem dX0_worthFrom_165 : decode cX0_worthFrom 165 = .ok (.aload_n 0, 1) := dk_42 (dk_at dksX0_worthFrom_7 4 rfl rfl)
theorem dX0_worthFrom_166 : decode cX0_worthFrom 166 = .ok (.iload 5, 2) := dk_21 5 (dk_at dksX0_worthFrom_7 5 rfl rfl)
theorem dX0_worthFrom_168 : decode cX0_worthFrom 168 = .ok (.putfield 282, 3) := dk_181 1 26 (dk_at dksX0_worthFrom_7 7 rfl rfl)
theorem dX0_worthFrom_171 : decode cX0_worthFrom 171 = .ok (.iinc 5 1, 3) := dk_132 5 1 (dk_at dksX0_worthFrom_7 10 rfl rfl)
theorem dX0_worthFrom_174 : decode cX0_worthFrom 174 = .ok (.goto (-141), 3) := dk_167 255 115 (dk_at dksX0_worthFrom_7 13 rfl rfl)
theorem dX0_worthFrom_177 : decode cX0_worthFrom 177 = .ok (.iload 4, 2) := dk_21 4 (dk_at dksX0_worthFrom_7 16 rfl rfl)
theorem dX0_worthFrom_179 : decode cX0_worthFrom 179 = .ok (.ireturn, 1) := dk_172 (dk_at dksX0_worthFrom_7 18 rfl rfl)
abbrev cX0_log : ByteArray := prog_1_method_34_code
def yX0_log : MethodName := ⟨RX0, "log", "(III)I"⟩
def dkwX0_log_5 : List UInt8 := [180, 0, 150, 89, 180, 1, 31, 4, 96, 181, 1, 31, 42, 180, 0, 150, 180, 1, 31, 172]
abbrev dktX0_log_5 : List UInt8 := dkwX0_log_5 ++ []
def dkwX0_log_4 : List UInt8 := [180, 1, 36, 21, 4, 4, 96, 28, 79, 42, 180, 0, 150, 180, 1, 36, 21, 4, 5, 96, 29, 79, 42]
abbrev dktX0_log_4 : List UInt8 := dkwX0_log_4 ++ dktX0_log_5
def dkwX0_log_3 : List UInt8 := [180, 0, 150, 180, 1, 31, 104, 54, 4, 42, 180, 0, 150, 180, 1, 36, 21, 4, 27, 79, 42, 180, 0, 150]
abbrev dktX0_log_3 : List UInt8 := dkwX0_log_3 ++ dktX0_log_4
def dkwX0_log_2 : List UInt8 := [184, 0, 241, 153, 0, 15, 42, 180, 0, 150, 180, 1, 31, 16, 10, 160, 0, 6, 16, 254, 172, 6, 42]
abbrev dktX0_log_2 : List UInt8 := dkwX0_log_2 ++ dktX0_log_3
def dkwX0_log_1 : List UInt8 := [9, 20, 1, 34, 184, 0, 241, 153, 0, 35, 42, 28, 182, 0, 169, 153, 0, 27, 29, 133, 9, 20, 0, 249]
abbrev dktX0_log_1 : List UInt8 := dkwX0_log_1 ++ dktX0_log_2
def dkwX0_log_0 : List UInt8 := [27, 2, 160, 0, 20, 42, 180, 0, 150, 198, 0, 11, 42, 180, 0, 150, 3, 181, 1, 31, 3, 172, 27, 133]
abbrev dktX0_log_0 : List UInt8 := dkwX0_log_0 ++ dktX0_log_1
theorem dksX0_log_0 : cX0_log.data.toList.drop 0 = dktX0_log_0 := by decide +kernel
theorem dksX0_log_1 : cX0_log.data.toList.drop 24 = dktX0_log_1 := dk_seg dksX0_log_0 24 rfl rfl
theorem dksX0_log_2 : cX0_log.data.toList.drop 48 = dktX0_log_2 := dk_seg dksX0_log_1 24 rfl rfl
theorem dksX0_log_3 : cX0_log.data.toList.drop 71 = dktX0_log_3 := dk_seg dksX0_log_2 23 rfl rfl
theorem dksX0_log_4 : cX0_log.data.toList.drop 95 = dktX0_log_4 := dk_seg dksX0_log_3 24 rfl rfl
theorem dksX0_log_5 : cX0_log.data.toList.drop 118 = dktX0_log_5 := dk_seg dksX0_log_4 23 rfl rfl
theorem dX0_log_0 : decode cX0_log 0 = .ok (.iload_n 1, 1) := dk_27 (dk_at dksX0_log_0 0 rfl rfl)
theorem dX0_log_1 : decode cX0_log 1 = .ok (.iconst (-1), 1) := dk_2 (dk_at dksX0_log_0 1 rfl rfl)
theorem dX0_log_2 : decode cX0_log 2 = .ok (.if_icmp .ne 20, 3) := dk_160 0 20 (dk_at dksX0_log_0 2 rfl rfl)
theorem dX0_log_5 : decode cX0_log 5 = .ok (.aload_n 0, 1) := dk_42 (dk_at dksX0_log_0 5 rfl rfl)
theorem dX0_log_6 : decode cX0_log 6 = .ok (.getfield 150, 3) := dk_180 0 150 (dk_at dksX0_log_0 6 rfl rfl)
theorem dX0_log_9 : decode cX0_log 9 = .ok (.ifnull 11, 3) := dk_198 0 11 (dk_at dksX0_log_0 9 rfl rfl)
theorem dX0_log_12 : decode cX0_log 12 = .ok (.aload_n 0, 1) := dk_42 (dk_at dksX0_log_0 12 rfl rfl)
theorem dX0_log_13 : decode cX0_log 13 = .ok (.getfield 150, 3) := dk_180 0 150 (dk_at dksX0_log_0 13 rfl rfl)
theorem dX0_log_16 : decode cX0_log 16 = .ok (.iconst 0, 1) := dk_3 (dk_at dksX0_log_0 16 rfl rfl)
theorem dX0_log_17 : decode cX0_log 17 = .ok (.putfield 287, 3) := dk_181 1 31 (dk_at dksX0_log_0 17 rfl rfl)
theorem dX0_log_20 : decode cX0_log 20 = .ok (.iconst 0, 1) := dk_3 (dk_at dksX0_log_0 20 rfl rfl)
theorem dX0_log_21 : decode cX0_log 21 = .ok (.ireturn, 1) := dk_172 (dk_at dksX0_log_0 21 rfl rfl)
theorem dX0_log_22 : decode cX0_log 22 = .ok (.iload_n 1, 1) := dk_27 (dk_at dksX0_log_0 22 rfl rfl)
theorem dX0_log_23 : decode cX0_log 23 = .ok (.i2l, 1) := dk_133 (dk_at dksX0_log_0 23 rfl rfl)
theorem dX0_log_24 : decode cX0_log 24 = .ok (.lconst 0, 1) := dk_9 (dk_at dksX0_log_1 0 rfl rfl)
theorem dX0_log_25 : decode cX0_log 25 = .ok (.ldc2_w 290, 3) := dk_20 1 34 (dk_at dksX0_log_1 1 rfl rfl)
theorem dX0_log_28 : decode cX0_log 28 = .ok (.invokestatic 241, 3) := dk_184 0 241 (dk_at dksX0_log_1 4 rfl rfl)
theorem dX0_log_31 : decode cX0_log 31 = .ok (.ifCond .eq 35, 3) := dk_153 0 35 (dk_at dksX0_log_1 7 rfl rfl)
theorem dX0_log_34 : decode cX0_log 34 = .ok (.aload_n 0, 1) := dk_42 (dk_at dksX0_log_1 10 rfl rfl)
theorem dX0_log_35 : decode cX0_log 35 = .ok (.iload_n 2, 1) := dk_28 (dk_at dksX0_log_1 11 rfl rfl)
theorem dX0_log_36 : decode cX0_log 36 = .ok (.invokevirtual 169, 3) := dk_182 0 169 (dk_at dksX0_log_1 12 rfl rfl)
theorem dX0_log_39 : decode cX0_log 39 = .ok (.ifCond .eq 27, 3) := dk_153 0 27 (dk_at dksX0_log_1 15 rfl rfl)
theorem dX0_log_42 : decode cX0_log 42 = .ok (.iload_n 3, 1) := dk_29 (dk_at dksX0_log_1 18 rfl rfl)
theorem dX0_log_43 : decode cX0_log 43 = .ok (.i2l, 1) := dk_133 (dk_at dksX0_log_1 19 rfl rfl)
theorem dX0_log_44 : decode cX0_log 44 = .ok (.lconst 0, 1) := dk_9 (dk_at dksX0_log_1 20 rfl rfl)
theorem dX0_log_45 : decode cX0_log 45 = .ok (.ldc2_w 249, 3) := dk_20 0 249 (dk_at dksX0_log_1 21 rfl rfl)
theorem dX0_log_48 : decode cX0_log 48 = .ok (.invokestatic 241, 3) := dk_184 0 241 (dk_at dksX0_log_2 0 rfl rfl)
theorem dX0_log_51 : decode cX0_log 51 = .ok (.ifCond .eq 15, 3) := dk_153 0 15 (dk_at dksX0_log_2 3 rfl rfl)
theorem dX0_log_54 : decode cX0_log 54 = .ok (.aload_n 0, 1) := dk_42 (dk_at dksX0_log_2 6 rfl rfl)
theorem dX0_log_55 : decode cX0_log 55 = .ok (.getfield 150, 3) := dk_180 0 150 (dk_at dksX0_log_2 7 rfl rfl)
theorem dX0_log_58 : decode cX0_log 58 = .ok (.getfield 287, 3) := dk_180 1 31 (dk_at dksX0_log_2 10 rfl rfl)
theorem dX0_log_61 : decode cX0_log 61 = .ok (.bipush 10, 2) := dk_16 10 (dk_at dksX0_log_2 13 rfl rfl)
theorem dX0_log_63 : decode cX0_log 63 = .ok (.if_icmp .ne 6, 3) := dk_160 0 6 (dk_at dksX0_log_2 15 rfl rfl)
theorem dX0_log_66 : decode cX0_log 66 = .ok (.bipush (-2), 2) := dk_16 254 (dk_at dksX0_log_2 18 rfl rfl)
theorem dX0_log_68 : decode cX0_log 68 = .ok (.ireturn, 1) := dk_172 (dk_at dksX0_log_2 20 rfl rfl)
theorem dX0_log_69 : decode cX0_log 69 = .ok (.iconst 3, 1) := dk_6 (dk_at dksX0_log_2 21 rfl rfl)
theorem dX0_log_70 : decode cX0_log 70 = .ok (.aload_n 0, 1) := dk_42 (dk_at dksX0_log_2 22 rfl rfl)
theorem dX0_log_71 : decode cX0_log 71 = .ok (.getfield 150, 3) := dk_180 0 150 (dk_at dksX0_log_3 0 rfl rfl)
theorem dX0_log_74 : decode cX0_log 74 = .ok (.getfield 287, 3) := dk_180 1 31 (dk_at dksX0_log_3 3 rfl rfl)
theorem dX0_log_77 : decode cX0_log 77 = .ok (.imul, 1) := dk_104 (dk_at dksX0_log_3 6 rfl rfl)
theorem dX0_log_78 : decode cX0_log 78 = .ok (.istore 4, 2) := dk_54 4 (dk_at dksX0_log_3 7 rfl rfl)
theorem dX0_log_80 : decode cX0_log 80 = .ok (.aload_n 0, 1) := dk_42 (dk_at dksX0_log_3 9 rfl rfl)
theorem dX0_log_81 : decode cX0_log 81 = .ok (.getfield 150, 3) := dk_180 0 150 (dk_at dksX0_log_3 10 rfl rfl)
theorem dX0_log_84 : decode cX0_log 84 = .ok (.getfield 292, 3) := dk_180 1 36 (dk_at dksX0_log_3 13 rfl rfl)
theorem dX0_log_87 : decode cX0_log 87 = .ok (.iload 4, 2) := dk_21 4 (dk_at dksX0_log_3 16 rfl rfl)
theorem dX0_log_89 : decode cX0_log 89 = .ok (.iload_n 1, 1) := dk_27 (dk_at dksX0_log_3 18 rfl rfl)
theorem dX0_log_90 : decode cX0_log 90 = .ok (.iastore, 1) := dk_79 (dk_at dksX0_log_3 19 rfl rfl)
theorem dX0_log_91 : decode cX0_log 91 = .ok (.aload_n 0, 1) := dk_42 (dk_at dksX0_log_3 20 rfl rfl)
theorem dX0_log_92 : decode cX0_log 92 = .ok (.getfield 150, 3) := dk_180 0 150 (dk_at dksX0_log_3 21 rfl rfl)
theorem dX0_log_95 : decode cX0_log 95 = .ok (.getfield 292, 3) := dk_180 1 36 (dk_at dksX0_log_4 0 rfl rfl)
theorem dX0_log_98 : decode cX0_log 98 = .ok (.iload 4, 2) := dk_21 4 (dk_at dksX0_log_4 3 rfl rfl)
theorem dX0_log_100 : decode cX0_log 100 = .ok (.iconst 1, 1) := dk_4 (dk_at dksX0_log_4 5 rfl rfl)
theorem dX0_log_101 : decode cX0_log 101 = .ok (.iadd, 1) := dk_96 (dk_at dksX0_log_4 6 rfl rfl)
theorem dX0_log_102 : decode cX0_log 102 = .ok (.iload_n 2, 1) := dk_28 (dk_at dksX0_log_4 7 rfl rfl)
theorem dX0_log_103 : decode cX0_log 103 = .ok (.iastore, 1) := dk_79 (dk_at dksX0_log_4 8 rfl rfl)
theorem dX0_log_104 : decode cX0_log 104 = .ok (.aload_n 0, 1) := dk_42 (dk_at dksX0_log_4 9 rfl rfl)
theorem dX0_log_105 : decode cX0_log 105 = .ok (.getfield 150, 3) := dk_180 0 150 (dk_at dksX0_log_4 10 rfl rfl)
theorem dX0_log_108 : decode cX0_log 108 = .ok (.getfield 292, 3) := dk_180 1 36 (dk_at dksX0_log_4 13 rfl rfl)
theorem dX0_log_111 : decode cX0_log 111 = .ok (.iload 4, 2) := dk_21 4 (dk_at dksX0_log_4 16 rfl rfl)
theorem dX0_log_113 : decode cX0_log 113 = .ok (.iconst 2, 1) := dk_5 (dk_at dksX0_log_4 18 rfl rfl)
theorem dX0_log_114 : decode cX0_log 114 = .ok (.iadd, 1) := dk_96 (dk_at dksX0_log_4 19 rfl rfl)
theorem dX0_log_115 : decode cX0_log 115 = .ok (.iload_n 3, 1) := dk_29 (dk_at dksX0_log_4 20 rfl rfl)
theorem dX0_log_116 : decode cX0_log 116 = .ok (.iastore, 1) := dk_79 (dk_at dksX0_log_4 21 rfl rfl)
theorem dX0_log_117 : decode cX0_log 117 = .ok (.aload_n 0, 1) := dk_42 (dk_at dksX0_log_4 22 rfl rfl)
theorem dX0_log_118 : decode cX0_log 118 = .ok (.getfield 150, 3) := dk_180 0 150 (dk_at dksX0_log_5 0 rfl rfl)
theorem dX0_log_121 : decode cX0_log 121 = .ok (.dup, 1) := dk_89 (dk_at dksX0_log_5 3 rfl rfl)
theorem dX0_log_122 : decode cX0_log 122 = .ok (.getfield 287, 3) := dk_180 1 31 (dk_at dksX0_log_5 4 rfl rfl)
theorem dX0_log_125 : decode cX0_log 125 = .ok (.iconst 1, 1) := dk_4 (dk_at dksX0_log_5 7 rfl rfl)
theorem dX0_log_126 : decode cX0_log 126 = .ok (.iadd, 1) := dk_96 (dk_at dksX0_log_5 8 rfl rfl)
theorem dX0_log_127 : decode cX0_log 127 = .ok (.putfield 287, 3) := dk_181 1 31 (dk_at dksX0_log_5 9 rfl rfl)
theorem dX0_log_130 : decode cX0_log 130 = .ok (.aload_n 0, 1) := dk_42 (dk_at dksX0_log_5 12 rfl rfl)
theorem dX0_log_131 : decode cX0_log 131 = .ok (.getfield 150, 3) := dk_180 0 150 (dk_at dksX0_log_5 13 rfl rfl)
theorem dX0_log_134 : decode cX0_log 134 = .ok (.getfield 287, 3) := dk_180 1 31 (dk_at dksX0_log_5 16 rfl rfl)
theorem dX0_log_137 : decode cX0_log 137 = .ok (.ireturn, 1) := dk_172 (dk_at dksX0_log_5 19 rfl rfl)
abbrev cX0_theft : ByteArray := prog_1_method_38_code
def yX0_theft : MethodName := ⟨RX0, "theft", "(II)I"⟩
def dkwX0_theft_3 : List UInt8 := [16, 30, 108, 167, 0, 12, 42, 180, 0, 112, 3, 46, 16, 30, 112, 172]
abbrev dktX0_theft_3 : List UInt8 := dkwX0_theft_3 ++ []
def dkwX0_theft_2 : List UInt8 := [172, 42, 180, 1, 55, 154, 0, 8, 16, 254, 167, 0, 29, 28, 4, 160, 0, 15, 42, 180, 0, 112, 3, 46]
abbrev dktX0_theft_2 : List UInt8 := dkwX0_theft_2 ++ dktX0_theft_3
def dkwX0_theft_1 : List UInt8 := [20, 0, 255, 184, 0, 241, 154, 0, 5, 2, 172, 42, 27, 182, 1, 62, 28, 154, 0, 8, 42, 180, 1, 55]
abbrev dktX0_theft_1 : List UInt8 := dkwX0_theft_1 ++ dktX0_theft_2
def dkwX0_theft_0 : List UInt8 := [42, 180, 0, 150, 198, 0, 27, 27, 133, 10, 20, 0, 249, 184, 0, 241, 153, 0, 15, 28, 133, 9]
abbrev dktX0_theft_0 : List UInt8 := dkwX0_theft_0 ++ dktX0_theft_1
theorem dksX0_theft_0 : cX0_theft.data.toList.drop 0 = dktX0_theft_0 := by decide +kernel
theorem dksX0_theft_1 : cX0_theft.data.toList.drop 22 = dktX0_theft_1 := dk_seg dksX0_theft_0 22 rfl rfl
theorem dksX0_theft_2 : cX0_theft.data.toList.drop 46 = dktX0_theft_2 := dk_seg dksX0_theft_1 24 rfl rfl
theorem dksX0_theft_3 : cX0_theft.data.toList.drop 70 = dktX0_theft_3 := dk_seg dksX0_theft_2 24 rfl rfl
theorem dX0_theft_0 : decode cX0_theft 0 = .ok (.aload_n 0, 1) := dk_42 (dk_at dksX0_theft_0 0 rfl rfl)
theorem dX0_theft_1 : decode cX0_theft 1 = .ok (.getfield 150, 3) := dk_180 0 150 (dk_at dksX0_theft_0 1 rfl rfl)
theorem dX0_theft_4 : decode cX0_theft 4 = .ok (.ifnull 27, 3) := dk_198 0 27 (dk_at dksX0_theft_0 4 rfl rfl)
theorem dX0_theft_7 : decode cX0_theft 7 = .ok (.iload_n 1, 1) := dk_27 (dk_at dksX0_theft_0 7 rfl rfl)
theorem dX0_theft_8 : decode cX0_theft 8 = .ok (.i2l, 1) := dk_133 (dk_at dksX0_theft_0 8 rfl rfl)
theorem dX0_theft_9 : decode cX0_theft 9 = .ok (.lconst 1, 1) := dk_10 (dk_at dksX0_theft_0 9 rfl rfl)
theorem dX0_theft_10 : decode cX0_theft 10 = .ok (.ldc2_w 249, 3) := dk_20 0 249 (dk_at dksX0_theft_0 10 rfl rfl)
theorem dX0_theft_13 : decode cX0_theft 13 = .ok (.invokestatic 241, 3) := dk_184 0 241 (dk_at dksX0_theft_0 13 rfl rfl)
theorem dX0_theft_16 : decode cX0_theft 16 = .ok (.ifCond .eq 15, 3) := dk_153 0 15 (dk_at dksX0_theft_0 16 rfl rfl)
theorem dX0_theft_19 : decode cX0_theft 19 = .ok (.iload_n 2, 1) := dk_28 (dk_at dksX0_theft_0 19 rfl rfl)
theorem dX0_theft_20 : decode cX0_theft 20 = .ok (.i2l, 1) := dk_133 (dk_at dksX0_theft_0 20 rfl rfl)
theorem dX0_theft_21 : decode cX0_theft 21 = .ok (.lconst 0, 1) := dk_9 (dk_at dksX0_theft_0 21 rfl rfl)
theorem dX0_theft_22 : decode cX0_theft 22 = .ok (.ldc2_w 255, 3) := dk_20 0 255 (dk_at dksX0_theft_1 0 rfl rfl)
theorem dX0_theft_25 : decode cX0_theft 25 = .ok (.invokestatic 241, 3) := dk_184 0 241 (dk_at dksX0_theft_1 3 rfl rfl)
theorem dX0_theft_28 : decode cX0_theft 28 = .ok (.ifCond .ne 5, 3) := dk_154 0 5 (dk_at dksX0_theft_1 6 rfl rfl)
theorem dX0_theft_31 : decode cX0_theft 31 = .ok (.iconst (-1), 1) := dk_2 (dk_at dksX0_theft_1 9 rfl rfl)
theorem dX0_theft_32 : decode cX0_theft 32 = .ok (.ireturn, 1) := dk_172 (dk_at dksX0_theft_1 10 rfl rfl)
theorem dX0_theft_33 : decode cX0_theft 33 = .ok (.aload_n 0, 1) := dk_42 (dk_at dksX0_theft_1 11 rfl rfl)
theorem dX0_theft_34 : decode cX0_theft 34 = .ok (.iload_n 1, 1) := dk_27 (dk_at dksX0_theft_1 12 rfl rfl)
theorem dX0_theft_35 : decode cX0_theft 35 = .ok (.invokevirtual 318, 3) := dk_182 1 62 (dk_at dksX0_theft_1 13 rfl rfl)
theorem dX0_theft_38 : decode cX0_theft 38 = .ok (.iload_n 2, 1) := dk_28 (dk_at dksX0_theft_1 16 rfl rfl)
theorem dX0_theft_39 : decode cX0_theft 39 = .ok (.ifCond .ne 8, 3) := dk_154 0 8 (dk_at dksX0_theft_1 17 rfl rfl)
theorem dX0_theft_42 : decode cX0_theft 42 = .ok (.aload_n 0, 1) := dk_42 (dk_at dksX0_theft_1 20 rfl rfl)
theorem dX0_theft_43 : decode cX0_theft 43 = .ok (.getfield 311, 3) := dk_180 1 55 (dk_at dksX0_theft_1 21 rfl rfl)
theorem dX0_theft_46 : decode cX0_theft 46 = .ok (.ireturn, 1) := dk_172 (dk_at dksX0_theft_2 0 rfl rfl)
theorem dX0_theft_47 : decode cX0_theft 47 = .ok (.aload_n 0, 1) := dk_42 (dk_at dksX0_theft_2 1 rfl rfl)
theorem dX0_theft_48 : decode cX0_theft 48 = .ok (.getfield 311, 3) := dk_180 1 55 (dk_at dksX0_theft_2 2 rfl rfl)
theorem dX0_theft_51 : decode cX0_theft 51 = .ok (.ifCond .ne 8, 3) := dk_154 0 8 (dk_at dksX0_theft_2 5 rfl rfl)
theorem dX0_theft_54 : decode cX0_theft 54 = .ok (.bipush (-2), 2) := dk_16 254 (dk_at dksX0_theft_2 8 rfl rfl)
theorem dX0_theft_56 : decode cX0_theft 56 = .ok (.goto 29, 3) := dk_167 0 29 (dk_at dksX0_theft_2 10 rfl rfl)
theorem dX0_theft_59 : decode cX0_theft 59 = .ok (.iload_n 2, 1) := dk_28 (dk_at dksX0_theft_2 13 rfl rfl)
theorem dX0_theft_60 : decode cX0_theft 60 = .ok (.iconst 1, 1) := dk_4 (dk_at dksX0_theft_2 14 rfl rfl)
theorem dX0_theft_61 : decode cX0_theft 61 = .ok (.if_icmp .ne 15, 3) := dk_160 0 15 (dk_at dksX0_theft_2 15 rfl rfl)
theorem dX0_theft_64 : decode cX0_theft 64 = .ok (.aload_n 0, 1) := dk_42 (dk_at dksX0_theft_2 18 rfl rfl)
theorem dX0_theft_65 : decode cX0_theft 65 = .ok (.getfield 112, 3) := dk_180 0 112 (dk_at dksX0_theft_2 19 rfl rfl)
theorem dX0_theft_68 : decode cX0_theft 68 = .ok (.iconst 0, 1) := dk_3 (dk_at dksX0_theft_2 22 rfl rfl)
theorem dX0_theft_69 : decode cX0_theft 69 = .ok (.iaload, 1) := dk_46 (dk_at dksX0_theft_2 23 rfl rfl)
theorem dX0_theft_70 : decode cX0_theft 70 = .ok (.bipush 30, 2) := dk_16 30 (dk_at dksX0_theft_3 0 rfl rfl)
theorem dX0_theft_72 : decode cX0_theft 72 = .ok (.idiv, 1) := dk_108 (dk_at dksX0_theft_3 2 rfl rfl)
theorem dX0_theft_73 : decode cX0_theft 73 = .ok (.goto 12, 3) := dk_167 0 12 (dk_at dksX0_theft_3 3 rfl rfl)
theorem dX0_theft_76 : decode cX0_theft 76 = .ok (.aload_n 0, 1) := dk_42 (dk_at dksX0_theft_3 6 rfl rfl)
theorem dX0_theft_77 : decode cX0_theft 77 = .ok (.getfield 112, 3) := dk_180 0 112 (dk_at dksX0_theft_3 7 rfl rfl)
theorem dX0_theft_80 : decode cX0_theft 80 = .ok (.iconst 0, 1) := dk_3 (dk_at dksX0_theft_3 10 rfl rfl)
theorem dX0_theft_81 : decode cX0_theft 81 = .ok (.iaload, 1) := dk_46 (dk_at dksX0_theft_3 11 rfl rfl)
theorem dX0_theft_82 : decode cX0_theft 82 = .ok (.bipush 30, 2) := dk_16 30 (dk_at dksX0_theft_3 12 rfl rfl)
theorem dX0_theft_84 : decode cX0_theft 84 = .ok (.irem, 1) := dk_112 (dk_at dksX0_theft_3 14 rfl rfl)
theorem dX0_theft_85 : decode cX0_theft 85 = .ok (.ireturn, 1) := dk_172 (dk_at dksX0_theft_3 15 rfl rfl)
abbrev cX0_gathersThefts : ByteArray := prog_1_method_37_code
def yX0_gathersThefts : MethodName := ⟨RX0, "gathersThefts", "(I)V"⟩
def dkwX0_gathersThefts_2 : List UInt8 := [180, 1, 55, 28, 79, 42, 89, 180, 1, 55, 4, 96, 181, 1, 55, 132, 2, 1, 167, 255, 200, 177]
abbrev dktX0_gathersThefts_2 : List UInt8 := dkwX0_gathersThefts_2 ++ []
def dkwX0_gathersThefts_1 : List UInt8 := [16, 30, 108, 28, 16, 30, 112, 27, 182, 1, 58, 154, 0, 6, 167, 0, 23, 42, 180, 0, 112, 42]
abbrev dktX0_gathersThefts_1 : List UInt8 := dkwX0_gathersThefts_1 ++ dktX0_gathersThefts_2
def dkwX0_gathersThefts_0 : List UInt8 := [42, 3, 181, 1, 55, 3, 61, 28, 16, 30, 42, 180, 0, 150, 180, 0, 166, 104, 162, 0, 48, 42, 28]
abbrev dktX0_gathersThefts_0 : List UInt8 := dkwX0_gathersThefts_0 ++ dktX0_gathersThefts_1
theorem dksX0_gathersThefts_0 : cX0_gathersThefts.data.toList.drop 0 = dktX0_gathersThefts_0 := by decide +kernel
theorem dksX0_gathersThefts_1 : cX0_gathersThefts.data.toList.drop 23 = dktX0_gathersThefts_1 := dk_seg dksX0_gathersThefts_0 23 rfl rfl
theorem dksX0_gathersThefts_2 : cX0_gathersThefts.data.toList.drop 45 = dktX0_gathersThefts_2 := dk_seg dksX0_gathersThefts_1 22 rfl rfl
theorem dX0_gathersThefts_0 : decode cX0_gathersThefts 0 = .ok (.aload_n 0, 1) := dk_42 (dk_at dksX0_gathersThefts_0 0 rfl rfl)
theorem dX0_gathersThefts_1 : decode cX0_gathersThefts 1 = .ok (.iconst 0, 1) := dk_3 (dk_at dksX0_gathersThefts_0 1 rfl rfl)
theorem dX0_gathersThefts_2 : decode cX0_gathersThefts 2 = .ok (.putfield 311, 3) := dk_181 1 55 (dk_at dksX0_gathersThefts_0 2 rfl rfl)
theorem dX0_gathersThefts_5 : decode cX0_gathersThefts 5 = .ok (.iconst 0, 1) := dk_3 (dk_at dksX0_gathersThefts_0 5 rfl rfl)
theorem dX0_gathersThefts_6 : decode cX0_gathersThefts 6 = .ok (.istore_n 2, 1) := dk_61 (dk_at dksX0_gathersThefts_0 6 rfl rfl)
theorem dX0_gathersThefts_7 : decode cX0_gathersThefts 7 = .ok (.iload_n 2, 1) := dk_28 (dk_at dksX0_gathersThefts_0 7 rfl rfl)
theorem dX0_gathersThefts_8 : decode cX0_gathersThefts 8 = .ok (.bipush 30, 2) := dk_16 30 (dk_at dksX0_gathersThefts_0 8 rfl rfl)
theorem dX0_gathersThefts_10 : decode cX0_gathersThefts 10 = .ok (.aload_n 0, 1) := dk_42 (dk_at dksX0_gathersThefts_0 10 rfl rfl)
theorem dX0_gathersThefts_11 : decode cX0_gathersThefts 11 = .ok (.getfield 150, 3) := dk_180 0 150 (dk_at dksX0_gathersThefts_0 11 rfl rfl)
theorem dX0_gathersThefts_14 : decode cX0_gathersThefts 14 = .ok (.getfield 166, 3) := dk_180 0 166 (dk_at dksX0_gathersThefts_0 14 rfl rfl)
theorem dX0_gathersThefts_17 : decode cX0_gathersThefts 17 = .ok (.imul, 1) := dk_104 (dk_at dksX0_gathersThefts_0 17 rfl rfl)
theorem dX0_gathersThefts_18 : decode cX0_gathersThefts 18 = .ok (.if_icmp .ge 48, 3) := dk_162 0 48 (dk_at dksX0_gathersThefts_0 18 rfl rfl)
theorem dX0_gathersThefts_21 : decode cX0_gathersThefts 21 = .ok (.aload_n 0, 1) := dk_42 (dk_at dksX0_gathersThefts_0 21 rfl rfl)
theorem dX0_gathersThefts_22 : decode cX0_gathersThefts 22 = .ok (.iload_n 2, 1) := dk_28 (dk_at dksX0_gathersThefts_0 22 rfl rfl)
theorem dX0_gathersThefts_23 : decode cX0_gathersThefts 23 = .ok (.bipush 30, 2) := dk_16 30 (dk_at dksX0_gathersThefts_1 0 rfl rfl)
theorem dX0_gathersThefts_25 : decode cX0_gathersThefts 25 = .ok (.idiv, 1) := dk_108 (dk_at dksX0_gathersThefts_1 2 rfl rfl)
theorem dX0_gathersThefts_26 : decode cX0_gathersThefts 26 = .ok (.iload_n 2, 1) := dk_28 (dk_at dksX0_gathersThefts_1 3 rfl rfl)
theorem dX0_gathersThefts_27 : decode cX0_gathersThefts 27 = .ok (.bipush 30, 2) := dk_16 30 (dk_at dksX0_gathersThefts_1 4 rfl rfl)
theorem dX0_gathersThefts_29 : decode cX0_gathersThefts 29 = .ok (.irem, 1) := dk_112 (dk_at dksX0_gathersThefts_1 6 rfl rfl)
theorem dX0_gathersThefts_30 : decode cX0_gathersThefts 30 = .ok (.iload_n 1, 1) := dk_27 (dk_at dksX0_gathersThefts_1 7 rfl rfl)
theorem dX0_gathersThefts_31 : decode cX0_gathersThefts 31 = .ok (.invokevirtual 314, 3) := dk_182 1 58 (dk_at dksX0_gathersThefts_1 8 rfl rfl)
theorem dX0_gathersThefts_34 : decode cX0_gathersThefts 34 = .ok (.ifCond .ne 6, 3) := dk_154 0 6 (dk_at dksX0_gathersThefts_1 11 rfl rfl)
theorem dX0_gathersThefts_37 : decode cX0_gathersThefts 37 = .ok (.goto 23, 3) := dk_167 0 23 (dk_at dksX0_gathersThefts_1 14 rfl rfl)
theorem dX0_gathersThefts_40 : decode cX0_gathersThefts 40 = .ok (.aload_n 0, 1) := dk_42 (dk_at dksX0_gathersThefts_1 17 rfl rfl)
theorem dX0_gathersThefts_41 : decode cX0_gathersThefts 41 = .ok (.getfield 112, 3) := dk_180 0 112 (dk_at dksX0_gathersThefts_1 18 rfl rfl)
theorem dX0_gathersThefts_44 : decode cX0_gathersThefts 44 = .ok (.aload_n 0, 1) := dk_42 (dk_at dksX0_gathersThefts_1 21 rfl rfl)
theorem dX0_gathersThefts_45 : decode cX0_gathersThefts 45 = .ok (.getfield 311, 3) := dk_180 1 55 (dk_at dksX0_gathersThefts_2 0 rfl rfl)
theorem dX0_gathersThefts_48 : decode cX0_gathersThefts 48 = .ok (.iload_n 2, 1) := dk_28 (dk_at dksX0_gathersThefts_2 3 rfl rfl)
theorem dX0_gathersThefts_49 : decode cX0_gathersThefts 49 = .ok (.iastore, 1) := dk_79 (dk_at dksX0_gathersThefts_2 4 rfl rfl)
theorem dX0_gathersThefts_50 : decode cX0_gathersThefts 50 = .ok (.aload_n 0, 1) := dk_42 (dk_at dksX0_gathersThefts_2 5 rfl rfl)
theorem dX0_gathersThefts_51 : decode cX0_gathersThefts 51 = .ok (.dup, 1) := dk_89 (dk_at dksX0_gathersThefts_2 6 rfl rfl)
theorem dX0_gathersThefts_52 : decode cX0_gathersThefts 52 = .ok (.getfield 311, 3) := dk_180 1 55 (dk_at dksX0_gathersThefts_2 7 rfl rfl)
theorem dX0_gathersThefts_55 : decode cX0_gathersThefts 55 = .ok (.iconst 1, 1) := dk_4 (dk_at dksX0_gathersThefts_2 10 rfl rfl)
theorem dX0_gathersThefts_56 : decode cX0_gathersThefts 56 = .ok (.iadd, 1) := dk_96 (dk_at dksX0_gathersThefts_2 11 rfl rfl)
theorem dX0_gathersThefts_57 : decode cX0_gathersThefts 57 = .ok (.putfield 311, 3) := dk_181 1 55 (dk_at dksX0_gathersThefts_2 12 rfl rfl)
theorem dX0_gathersThefts_60 : decode cX0_gathersThefts 60 = .ok (.iinc 2 1, 3) := dk_132 2 1 (dk_at dksX0_gathersThefts_2 15 rfl rfl)
theorem dX0_gathersThefts_63 : decode cX0_gathersThefts 63 = .ok (.goto (-56), 3) := dk_167 255 200 (dk_at dksX0_gathersThefts_2 18 rfl rfl)
theorem dX0_gathersThefts_66 : decode cX0_gathersThefts 66 = .ok (.return_, 1) := dk_177 (dk_at dksX0_gathersThefts_2 21 rfl rfl)
abbrev cX0_canBeTheft : ByteArray := prog_1_method_36_code
def yX0_canBeTheft : MethodName := ⟨RX0, "canBeTheft", "(III)Z"⟩
def dkwX0_canBeTheft_4 : List UInt8 := [167, 255, 193, 4, 172]
abbrev dktX0_canBeTheft_4 : List UInt8 := dkwX0_canBeTheft_4 ++ []
def dkwX0_canBeTheft_3 : List UInt8 := [182, 1, 51, 42, 180, 0, 150, 180, 1, 36, 21, 4, 5, 96, 46, 159, 0, 5, 3, 172, 132, 4, 3]
abbrev dktX0_canBeTheft_3 : List UInt8 := dkwX0_canBeTheft_3 ++ dktX0_canBeTheft_4
def dkwX0_canBeTheft_2 : List UInt8 := [180, 0, 150, 180, 1, 36, 21, 4, 4, 96, 46, 42, 180, 0, 150, 180, 1, 36, 21, 4, 46, 27, 28, 29]
abbrev dktX0_canBeTheft_2 : List UInt8 := dkwX0_canBeTheft_2 ++ dktX0_canBeTheft_3
def dkwX0_canBeTheft_1 : List UInt8 := [160, 0, 5, 3, 172, 3, 54, 4, 21, 4, 6, 42, 180, 0, 150, 180, 1, 31, 104, 162, 0, 55, 42, 42]
abbrev dktX0_canBeTheft_1 : List UInt8 := dkwX0_canBeTheft_1 ++ dktX0_canBeTheft_2
def dkwX0_canBeTheft_0 : List UInt8 := [42, 180, 0, 150, 180, 1, 42, 27, 184, 1, 45, 154, 0, 16, 42, 27, 28, 27, 28, 29, 182, 1, 51, 2]
abbrev dktX0_canBeTheft_0 : List UInt8 := dkwX0_canBeTheft_0 ++ dktX0_canBeTheft_1
theorem dksX0_canBeTheft_0 : cX0_canBeTheft.data.toList.drop 0 = dktX0_canBeTheft_0 := by decide +kernel
theorem dksX0_canBeTheft_1 : cX0_canBeTheft.data.toList.drop 24 = dktX0_canBeTheft_1 := dk_seg dksX0_canBeTheft_0 24 rfl rfl
theorem dksX0_canBeTheft_2 : cX0_canBeTheft.data.toList.drop 48 = dktX0_canBeTheft_2 := dk_seg dksX0_canBeTheft_1 24 rfl rfl
theorem dksX0_canBeTheft_3 : cX0_canBeTheft.data.toList.drop 72 = dktX0_canBeTheft_3 := dk_seg dksX0_canBeTheft_2 24 rfl rfl
theorem dksX0_canBeTheft_4 : cX0_canBeTheft.data.toList.drop 95 = dktX0_canBeTheft_4 := dk_seg dksX0_canBeTheft_3 23 rfl rfl
theorem dX0_canBeTheft_0 : decode cX0_canBeTheft 0 = .ok (.aload_n 0, 1) := dk_42 (dk_at dksX0_canBeTheft_0 0 rfl rfl)
theorem dX0_canBeTheft_1 : decode cX0_canBeTheft 1 = .ok (.getfield 150, 3) := dk_180 0 150 (dk_at dksX0_canBeTheft_0 1 rfl rfl)
theorem dX0_canBeTheft_4 : decode cX0_canBeTheft 4 = .ok (.getfield 298, 3) := dk_180 1 42 (dk_at dksX0_canBeTheft_0 4 rfl rfl)
theorem dX0_canBeTheft_7 : decode cX0_canBeTheft 7 = .ok (.iload_n 1, 1) := dk_27 (dk_at dksX0_canBeTheft_0 7 rfl rfl)
theorem dX0_canBeTheft_8 : decode cX0_canBeTheft 8 = .ok (.invokestatic 301, 3) := dk_184 1 45 (dk_at dksX0_canBeTheft_0 8 rfl rfl)
theorem dX0_canBeTheft_11 : decode cX0_canBeTheft 11 = .ok (.ifCond .ne 16, 3) := dk_154 0 16 (dk_at dksX0_canBeTheft_0 11 rfl rfl)
theorem dX0_canBeTheft_14 : decode cX0_canBeTheft 14 = .ok (.aload_n 0, 1) := dk_42 (dk_at dksX0_canBeTheft_0 14 rfl rfl)
theorem dX0_canBeTheft_15 : decode cX0_canBeTheft 15 = .ok (.iload_n 1, 1) := dk_27 (dk_at dksX0_canBeTheft_0 15 rfl rfl)
theorem dX0_canBeTheft_16 : decode cX0_canBeTheft 16 = .ok (.iload_n 2, 1) := dk_28 (dk_at dksX0_canBeTheft_0 16 rfl rfl)
theorem dX0_canBeTheft_17 : decode cX0_canBeTheft 17 = .ok (.iload_n 1, 1) := dk_27 (dk_at dksX0_canBeTheft_0 17 rfl rfl)
theorem dX0_canBeTheft_18 : decode cX0_canBeTheft 18 = .ok (.iload_n 2, 1) := dk_28 (dk_at dksX0_canBeTheft_0 18 rfl rfl)
theorem dX0_canBeTheft_19 : decode cX0_canBeTheft 19 = .ok (.iload_n 3, 1) := dk_29 (dk_at dksX0_canBeTheft_0 19 rfl rfl)
theorem dX0_canBeTheft_20 : decode cX0_canBeTheft 20 = .ok (.invokevirtual 307, 3) := dk_182 1 51 (dk_at dksX0_canBeTheft_0 20 rfl rfl)
theorem dX0_canBeTheft_23 : decode cX0_canBeTheft 23 = .ok (.iconst (-1), 1) := dk_2 (dk_at dksX0_canBeTheft_0 23 rfl rfl)
theorem dX0_canBeTheft_24 : decode cX0_canBeTheft 24 = .ok (.if_icmp .ne 5, 3) := dk_160 0 5 (dk_at dksX0_canBeTheft_1 0 rfl rfl)
theorem dX0_canBeTheft_27 : decode cX0_canBeTheft 27 = .ok (.iconst 0, 1) := dk_3 (dk_at dksX0_canBeTheft_1 3 rfl rfl)
theorem dX0_canBeTheft_28 : decode cX0_canBeTheft 28 = .ok (.ireturn, 1) := dk_172 (dk_at dksX0_canBeTheft_1 4 rfl rfl)
theorem dX0_canBeTheft_29 : decode cX0_canBeTheft 29 = .ok (.iconst 0, 1) := dk_3 (dk_at dksX0_canBeTheft_1 5 rfl rfl)
theorem dX0_canBeTheft_30 : decode cX0_canBeTheft 30 = .ok (.istore 4, 2) := dk_54 4 (dk_at dksX0_canBeTheft_1 6 rfl rfl)
theorem dX0_canBeTheft_32 : decode cX0_canBeTheft 32 = .ok (.iload 4, 2) := dk_21 4 (dk_at dksX0_canBeTheft_1 8 rfl rfl)
theorem dX0_canBeTheft_34 : decode cX0_canBeTheft 34 = .ok (.iconst 3, 1) := dk_6 (dk_at dksX0_canBeTheft_1 10 rfl rfl)
theorem dX0_canBeTheft_35 : decode cX0_canBeTheft 35 = .ok (.aload_n 0, 1) := dk_42 (dk_at dksX0_canBeTheft_1 11 rfl rfl)
theorem dX0_canBeTheft_36 : decode cX0_canBeTheft 36 = .ok (.getfield 150, 3) := dk_180 0 150 (dk_at dksX0_canBeTheft_1 12 rfl rfl)
theorem dX0_canBeTheft_39 : decode cX0_canBeTheft 39 = .ok (.getfield 287, 3) := dk_180 1 31 (dk_at dksX0_canBeTheft_1 15 rfl rfl)
theorem dX0_canBeTheft_42 : decode cX0_canBeTheft 42 = .ok (.imul, 1) := dk_104 (dk_at dksX0_canBeTheft_1 18 rfl rfl)
theorem dX0_canBeTheft_43 : decode cX0_canBeTheft 43 = .ok (.if_icmp .ge 55, 3) := dk_162 0 55 (dk_at dksX0_canBeTheft_1 19 rfl rfl)
theorem dX0_canBeTheft_46 : decode cX0_canBeTheft 46 = .ok (.aload_n 0, 1) := dk_42 (dk_at dksX0_canBeTheft_1 22 rfl rfl)
theorem dX0_canBeTheft_47 : decode cX0_canBeTheft 47 = .ok (.aload_n 0, 1) := dk_42 (dk_at dksX0_canBeTheft_1 23 rfl rfl)
theorem dX0_canBeTheft_48 : decode cX0_canBeTheft 48 = .ok (.getfield 150, 3) := dk_180 0 150 (dk_at dksX0_canBeTheft_2 0 rfl rfl)
theorem dX0_canBeTheft_51 : decode cX0_canBeTheft 51 = .ok (.getfield 292, 3) := dk_180 1 36 (dk_at dksX0_canBeTheft_2 3 rfl rfl)
theorem dX0_canBeTheft_54 : decode cX0_canBeTheft 54 = .ok (.iload 4, 2) := dk_21 4 (dk_at dksX0_canBeTheft_2 6 rfl rfl)
theorem dX0_canBeTheft_56 : decode cX0_canBeTheft 56 = .ok (.iconst 1, 1) := dk_4 (dk_at dksX0_canBeTheft_2 8 rfl rfl)
theorem dX0_canBeTheft_57 : decode cX0_canBeTheft 57 = .ok (.iadd, 1) := dk_96 (dk_at dksX0_canBeTheft_2 9 rfl rfl)
theorem dX0_canBeTheft_58 : decode cX0_canBeTheft 58 = .ok (.iaload, 1) := dk_46 (dk_at dksX0_canBeTheft_2 10 rfl rfl)
theorem dX0_canBeTheft_59 : decode cX0_canBeTheft 59 = .ok (.aload_n 0, 1) := dk_42 (dk_at dksX0_canBeTheft_2 11 rfl rfl)
theorem dX0_canBeTheft_60 : decode cX0_canBeTheft 60 = .ok (.getfield 150, 3) := dk_180 0 150 (dk_at dksX0_canBeTheft_2 12 rfl rfl)
theorem dX0_canBeTheft_63 : decode cX0_canBeTheft 63 = .ok (.getfield 292, 3) := dk_180 1 36 (dk_at dksX0_canBeTheft_2 15 rfl rfl)
theorem dX0_canBeTheft_66 : decode cX0_canBeTheft 66 = .ok (.iload 4, 2) := dk_21 4 (dk_at dksX0_canBeTheft_2 18 rfl rfl)
theorem dX0_canBeTheft_68 : decode cX0_canBeTheft 68 = .ok (.iaload, 1) := dk_46 (dk_at dksX0_canBeTheft_2 20 rfl rfl)
theorem dX0_canBeTheft_69 : decode cX0_canBeTheft 69 = .ok (.iload_n 1, 1) := dk_27 (dk_at dksX0_canBeTheft_2 21 rfl rfl)
theorem dX0_canBeTheft_70 : decode cX0_canBeTheft 70 = .ok (.iload_n 2, 1) := dk_28 (dk_at dksX0_canBeTheft_2 22 rfl rfl)
theorem dX0_canBeTheft_71 : decode cX0_canBeTheft 71 = .ok (.iload_n 3, 1) := dk_29 (dk_at dksX0_canBeTheft_2 23 rfl rfl)
theorem dX0_canBeTheft_72 : decode cX0_canBeTheft 72 = .ok (.invokevirtual 307, 3) := dk_182 1 51 (dk_at dksX0_canBeTheft_3 0 rfl rfl)
theorem dX0_canBeTheft_75 : decode cX0_canBeTheft 75 = .ok (.aload_n 0, 1) := dk_42 (dk_at dksX0_canBeTheft_3 3 rfl rfl)
theorem dX0_canBeTheft_76 : decode cX0_canBeTheft 76 = .ok (.getfield 150, 3) := dk_180 0 150 (dk_at dksX0_canBeTheft_3 4 rfl rfl)
theorem dX0_canBeTheft_79 : decode cX0_canBeTheft 79 = .ok (.getfield 292, 3) := dk_180 1 36 (dk_at dksX0_canBeTheft_3 7 rfl rfl)
theorem dX0_canBeTheft_82 : decode cX0_canBeTheft 82 = .ok (.iload 4, 2) := dk_21 4 (dk_at dksX0_canBeTheft_3 10 rfl rfl)
theorem dX0_canBeTheft_84 : decode cX0_canBeTheft 84 = .ok (.iconst 2, 1) := dk_5 (dk_at dksX0_canBeTheft_3 12 rfl rfl)
theorem dX0_canBeTheft_85 : decode cX0_canBeTheft 85 = .ok (.iadd, 1) := dk_96 (dk_at dksX0_canBeTheft_3 13 rfl rfl)
theorem dX0_canBeTheft_86 : decode cX0_canBeTheft 86 = .ok (.iaload, 1) := dk_46 (dk_at dksX0_canBeTheft_3 14 rfl rfl)
theorem dX0_canBeTheft_87 : decode cX0_canBeTheft 87 = .ok (.if_icmp .eq 5, 3) := dk_159 0 5 (dk_at dksX0_canBeTheft_3 15 rfl rfl)
theorem dX0_canBeTheft_90 : decode cX0_canBeTheft 90 = .ok (.iconst 0, 1) := dk_3 (dk_at dksX0_canBeTheft_3 18 rfl rfl)
theorem dX0_canBeTheft_91 : decode cX0_canBeTheft 91 = .ok (.ireturn, 1) := dk_172 (dk_at dksX0_canBeTheft_3 19 rfl rfl)
theorem dX0_canBeTheft_92 : decode cX0_canBeTheft 92 = .ok (.iinc 4 3, 3) := dk_132 4 3 (dk_at dksX0_canBeTheft_3 20 rfl rfl)
theorem dX0_canBeTheft_95 : decode cX0_canBeTheft 95 = .ok (.goto (-63), 3) := dk_167 255 193 (dk_at dksX0_canBeTheft_4 0 rfl rfl)
theorem dX0_canBeTheft_98 : decode cX0_canBeTheft 98 = .ok (.iconst 1, 1) := dk_4 (dk_at dksX0_canBeTheft_4 3 rfl rfl)
theorem dX0_canBeTheft_99 : decode cX0_canBeTheft 99 = .ok (.ireturn, 1) := dk_172 (dk_at dksX0_canBeTheft_4 4 rfl rfl)
abbrev cX0_doughAt : ByteArray := prog_1_method_35_code
def yX0_doughAt : MethodName := ⟨RX0, "doughAt", "(IIIII)I"⟩
def dkwX0_doughAt_4 : List UInt8 := [167, 255, 180, 21, 6, 172]
abbrev dktX0_doughAt_4 : List UInt8 := dkwX0_doughAt_4 ++ []
def dkwX0_doughAt_3 : List UInt8 := [21, 4, 160, 0, 10, 21, 6, 21, 5, 100, 54, 6, 21, 6, 156, 0, 5, 2, 172, 132, 7, 1]
abbrev dktX0_doughAt_3 : List UInt8 := dkwX0_doughAt_3 ++ dktX0_doughAt_4
def dkwX0_doughAt_2 : List UInt8 := [180, 0, 150, 180, 1, 49, 21, 7, 4, 100, 46, 96, 184, 0, 1, 54, 6, 27, 29, 160, 0, 17, 21, 7]
abbrev dktX0_doughAt_2 : List UInt8 := dkwX0_doughAt_2 ++ dktX0_doughAt_3
def dkwX0_doughAt_1 : List UInt8 := [158, 0, 39, 42, 180, 0, 150, 180, 1, 42, 27, 184, 1, 45, 154, 0, 25, 16, 99, 21, 6, 42]
abbrev dktX0_doughAt_1 : List UInt8 := dkwX0_doughAt_1 ++ dktX0_doughAt_2
def dkwX0_doughAt_0 : List UInt8 := [42, 180, 0, 150, 180, 1, 39, 27, 46, 54, 6, 3, 54, 7, 21, 7, 28, 163, 0, 76, 21, 7]
abbrev dktX0_doughAt_0 : List UInt8 := dkwX0_doughAt_0 ++ dktX0_doughAt_1
theorem dksX0_doughAt_0 : cX0_doughAt.data.toList.drop 0 = dktX0_doughAt_0 := by decide +kernel
theorem dksX0_doughAt_1 : cX0_doughAt.data.toList.drop 22 = dktX0_doughAt_1 := dk_seg dksX0_doughAt_0 22 rfl rfl
theorem dksX0_doughAt_2 : cX0_doughAt.data.toList.drop 44 = dktX0_doughAt_2 := dk_seg dksX0_doughAt_1 22 rfl rfl
theorem dksX0_doughAt_3 : cX0_doughAt.data.toList.drop 68 = dktX0_doughAt_3 := dk_seg dksX0_doughAt_2 24 rfl rfl
theorem dksX0_doughAt_4 : cX0_doughAt.data.toList.drop 90 = dktX0_doughAt_4 := dk_seg dksX0_doughAt_3 22 rfl rfl
theorem dX0_doughAt_0 : decode cX0_doughAt 0 = .ok (.aload_n 0, 1) := dk_42 (dk_at dksX0_doughAt_0 0 rfl rfl)
theorem dX0_doughAt_1 : decode cX0_doughAt 1 = .ok (.getfield 150, 3) := dk_180 0 150 (dk_at dksX0_doughAt_0 1 rfl rfl)
theorem dX0_doughAt_4 : decode cX0_doughAt 4 = .ok (.getfield 295, 3) := dk_180 1 39 (dk_at dksX0_doughAt_0 4 rfl rfl)
theorem dX0_doughAt_7 : decode cX0_doughAt 7 = .ok (.iload_n 1, 1) := dk_27 (dk_at dksX0_doughAt_0 7 rfl rfl)
theorem dX0_doughAt_8 : decode cX0_doughAt 8 = .ok (.iaload, 1) := dk_46 (dk_at dksX0_doughAt_0 8 rfl rfl)
theorem dX0_doughAt_9 : decode cX0_doughAt 9 = .ok (.istore 6, 2) := dk_54 6 (dk_at dksX0_doughAt_0 9 rfl rfl)
theorem dX0_doughAt_11 : decode cX0_doughAt 11 = .ok (.iconst 0, 1) := dk_3 (dk_at dksX0_doughAt_0 11 rfl rfl)
theorem dX0_doughAt_12 : decode cX0_doughAt 12 = .ok (.istore 7, 2) := dk_54 7 (dk_at dksX0_doughAt_0 12 rfl rfl)
theorem dX0_doughAt_14 : decode cX0_doughAt 14 = .ok (.iload 7, 2) := dk_21 7 (dk_at dksX0_doughAt_0 14 rfl rfl)
theorem dX0_doughAt_16 : decode cX0_doughAt 16 = .ok (.iload_n 2, 1) := dk_28 (dk_at dksX0_doughAt_0 16 rfl rfl)
theorem dX0_doughAt_17 : decode cX0_doughAt 17 = .ok (.if_icmp .gt 76, 3) := dk_163 0 76 (dk_at dksX0_doughAt_0 17 rfl rfl)
theorem dX0_doughAt_20 : decode cX0_doughAt 20 = .ok (.iload 7, 2) := dk_21 7 (dk_at dksX0_doughAt_0 20 rfl rfl)
theorem dX0_doughAt_22 : decode cX0_doughAt 22 = .ok (.ifCond .le 39, 3) := dk_158 0 39 (dk_at dksX0_doughAt_1 0 rfl rfl)
theorem dX0_doughAt_25 : decode cX0_doughAt 25 = .ok (.aload_n 0, 1) := dk_42 (dk_at dksX0_doughAt_1 3 rfl rfl)
theorem dX0_doughAt_26 : decode cX0_doughAt 26 = .ok (.getfield 150, 3) := dk_180 0 150 (dk_at dksX0_doughAt_1 4 rfl rfl)
theorem dX0_doughAt_29 : decode cX0_doughAt 29 = .ok (.getfield 298, 3) := dk_180 1 42 (dk_at dksX0_doughAt_1 7 rfl rfl)
theorem dX0_doughAt_32 : decode cX0_doughAt 32 = .ok (.iload_n 1, 1) := dk_27 (dk_at dksX0_doughAt_1 10 rfl rfl)
theorem dX0_doughAt_33 : decode cX0_doughAt 33 = .ok (.invokestatic 301, 3) := dk_184 1 45 (dk_at dksX0_doughAt_1 11 rfl rfl)
theorem dX0_doughAt_36 : decode cX0_doughAt 36 = .ok (.ifCond .ne 25, 3) := dk_154 0 25 (dk_at dksX0_doughAt_1 14 rfl rfl)
theorem dX0_doughAt_39 : decode cX0_doughAt 39 = .ok (.bipush 99, 2) := dk_16 99 (dk_at dksX0_doughAt_1 17 rfl rfl)
theorem dX0_doughAt_41 : decode cX0_doughAt 41 = .ok (.iload 6, 2) := dk_21 6 (dk_at dksX0_doughAt_1 19 rfl rfl)
theorem dX0_doughAt_43 : decode cX0_doughAt 43 = .ok (.aload_n 0, 1) := dk_42 (dk_at dksX0_doughAt_1 21 rfl rfl)
theorem dX0_doughAt_44 : decode cX0_doughAt 44 = .ok (.getfield 150, 3) := dk_180 0 150 (dk_at dksX0_doughAt_2 0 rfl rfl)
theorem dX0_doughAt_47 : decode cX0_doughAt 47 = .ok (.getfield 305, 3) := dk_180 1 49 (dk_at dksX0_doughAt_2 3 rfl rfl)
theorem dX0_doughAt_50 : decode cX0_doughAt 50 = .ok (.iload 7, 2) := dk_21 7 (dk_at dksX0_doughAt_2 6 rfl rfl)
theorem dX0_doughAt_52 : decode cX0_doughAt 52 = .ok (.iconst 1, 1) := dk_4 (dk_at dksX0_doughAt_2 8 rfl rfl)
theorem dX0_doughAt_53 : decode cX0_doughAt 53 = .ok (.isub, 1) := dk_100 (dk_at dksX0_doughAt_2 9 rfl rfl)
theorem dX0_doughAt_54 : decode cX0_doughAt 54 = .ok (.iaload, 1) := dk_46 (dk_at dksX0_doughAt_2 10 rfl rfl)
theorem dX0_doughAt_55 : decode cX0_doughAt 55 = .ok (.iadd, 1) := dk_96 (dk_at dksX0_doughAt_2 11 rfl rfl)
theorem dX0_doughAt_56 : decode cX0_doughAt 56 = .ok (.invokestatic 1, 3) := dk_184 0 1 (dk_at dksX0_doughAt_2 12 rfl rfl)
theorem dX0_doughAt_59 : decode cX0_doughAt 59 = .ok (.istore 6, 2) := dk_54 6 (dk_at dksX0_doughAt_2 15 rfl rfl)
theorem dX0_doughAt_61 : decode cX0_doughAt 61 = .ok (.iload_n 1, 1) := dk_27 (dk_at dksX0_doughAt_2 17 rfl rfl)
theorem dX0_doughAt_62 : decode cX0_doughAt 62 = .ok (.iload_n 3, 1) := dk_29 (dk_at dksX0_doughAt_2 18 rfl rfl)
theorem dX0_doughAt_63 : decode cX0_doughAt 63 = .ok (.if_icmp .ne 17, 3) := dk_160 0 17 (dk_at dksX0_doughAt_2 19 rfl rfl)
theorem dX0_doughAt_66 : decode cX0_doughAt 66 = .ok (.iload 7, 2) := dk_21 7 (dk_at dksX0_doughAt_2 22 rfl rfl)
theorem dX0_doughAt_68 : decode cX0_doughAt 68 = .ok (.iload 4, 2) := dk_21 4 (dk_at dksX0_doughAt_3 0 rfl rfl)
theorem dX0_doughAt_70 : decode cX0_doughAt 70 = .ok (.if_icmp .ne 10, 3) := dk_160 0 10 (dk_at dksX0_doughAt_3 2 rfl rfl)
theorem dX0_doughAt_73 : decode cX0_doughAt 73 = .ok (.iload 6, 2) := dk_21 6 (dk_at dksX0_doughAt_3 5 rfl rfl)
theorem dX0_doughAt_75 : decode cX0_doughAt 75 = .ok (.iload 5, 2) := dk_21 5 (dk_at dksX0_doughAt_3 7 rfl rfl)
theorem dX0_doughAt_77 : decode cX0_doughAt 77 = .ok (.isub, 1) := dk_100 (dk_at dksX0_doughAt_3 9 rfl rfl)
theorem dX0_doughAt_78 : decode cX0_doughAt 78 = .ok (.istore 6, 2) := dk_54 6 (dk_at dksX0_doughAt_3 10 rfl rfl)
theorem dX0_doughAt_80 : decode cX0_doughAt 80 = .ok (.iload 6, 2) := dk_21 6 (dk_at dksX0_doughAt_3 12 rfl rfl)
theorem dX0_doughAt_82 : decode cX0_doughAt 82 = .ok (.ifCond .ge 5, 3) := dk_156 0 5 (dk_at dksX0_doughAt_3 14 rfl rfl)
theorem dX0_doughAt_85 : decode cX0_doughAt 85 = .ok (.iconst (-1), 1) := dk_2 (dk_at dksX0_doughAt_3 17 rfl rfl)
theorem dX0_doughAt_86 : decode cX0_doughAt 86 = .ok (.ireturn, 1) := dk_172 (dk_at dksX0_doughAt_3 18 rfl rfl)
theorem dX0_doughAt_87 : decode cX0_doughAt 87 = .ok (.iinc 7 1, 3) := dk_132 7 1 (dk_at dksX0_doughAt_3 19 rfl rfl)
theorem dX0_doughAt_90 : decode cX0_doughAt 90 = .ok (.goto (-76), 3) := dk_167 255 180 (dk_at dksX0_doughAt_4 0 rfl rfl)
theorem dX0_doughAt_93 : decode cX0_doughAt 93 = .ok (.iload 6, 2) := dk_21 6 (dk_at dksX0_doughAt_4 3 rfl rfl)
theorem dX0_doughAt_95 : decode cX0_doughAt 95 = .ok (.ireturn, 1) := dk_172 (dk_at dksX0_doughAt_4 5 rfl rfl)
abbrev cX0_weigh : ByteArray := prog_1_method_40_code
def yX0_weigh : MethodName := ⟨RX0, "weigh", "(III)I"⟩
def dkwX0_weigh_5 : List UInt8 := [132, 6, 1, 167, 255, 213, 29, 154, 0, 8, 21, 4, 167, 0, 5, 21, 5, 172]
abbrev dktX0_weigh_5 : List UInt8 := dkwX0_weigh_5 ++ []
def dkwX0_weigh_4 : List UInt8 := [182, 1, 65, 54, 7, 21, 7, 21, 5, 161, 0, 6, 167, 0, 11, 21, 6, 54, 4, 21, 7, 54, 5]
abbrev dktX0_weigh_4 : List UInt8 := dkwX0_weigh_4 ++ dktX0_weigh_5
def dkwX0_weigh_3 : List UInt8 := [54, 5, 4, 54, 6, 21, 6, 42, 180, 0, 150, 180, 0, 166, 162, 0, 37, 42, 21, 6, 28, 27]
abbrev dktX0_weigh_3 : List UInt8 := dkwX0_weigh_3 ++ dktX0_weigh_4
def dkwX0_weigh_2 : List UInt8 := [182, 1, 62, 42, 180, 1, 55, 154, 0, 6, 16, 254, 172, 3, 54, 4, 42, 3, 28, 27, 182, 1, 65]
abbrev dktX0_weigh_2 : List UInt8 := dkwX0_weigh_2 ++ dktX0_weigh_3
def dkwX0_weigh_1 : List UInt8 := [20, 1, 34, 184, 0, 241, 153, 0, 13, 29, 133, 9, 10, 184, 0, 241, 154, 0, 5, 2, 172, 42, 27]
abbrev dktX0_weigh_1 : List UInt8 := dkwX0_weigh_1 ++ dktX0_weigh_2
def dkwX0_weigh_0 : List UInt8 := [42, 180, 0, 150, 198, 0, 37, 27, 133, 10, 20, 0, 249, 184, 0, 241, 153, 0, 25, 28, 133, 9]
abbrev dktX0_weigh_0 : List UInt8 := dkwX0_weigh_0 ++ dktX0_weigh_1
theorem dksX0_weigh_0 : cX0_weigh.data.toList.drop 0 = dktX0_weigh_0 := by decide +kernel
theorem dksX0_weigh_1 : cX0_weigh.data.toList.drop 22 = dktX0_weigh_1 := dk_seg dksX0_weigh_0 22 rfl rfl
theorem dksX0_weigh_2 : cX0_weigh.data.toList.drop 45 = dktX0_weigh_2 := dk_seg dksX0_weigh_1 23 rfl rfl
theorem dksX0_weigh_3 : cX0_weigh.data.toList.drop 68 = dktX0_weigh_3 := dk_seg dksX0_weigh_2 23 rfl rfl
theorem dksX0_weigh_4 : cX0_weigh.data.toList.drop 90 = dktX0_weigh_4 := dk_seg dksX0_weigh_3 22 rfl rfl
theorem dksX0_weigh_5 : cX0_weigh.data.toList.drop 113 = dktX0_weigh_5 := dk_seg dksX0_weigh_4 23 rfl rfl
theorem dX0_weigh_0 : decode cX0_weigh 0 = .ok (.aload_n 0, 1) := dk_42 (dk_at dksX0_weigh_0 0 rfl rfl)
theorem dX0_weigh_1 : decode cX0_weigh 1 = .ok (.getfield 150, 3) := dk_180 0 150 (dk_at dksX0_weigh_0 1 rfl rfl)
theorem dX0_weigh_4 : decode cX0_weigh 4 = .ok (.ifnull 37, 3) := dk_198 0 37 (dk_at dksX0_weigh_0 4 rfl rfl)
theorem dX0_weigh_7 : decode cX0_weigh 7 = .ok (.iload_n 1, 1) := dk_27 (dk_at dksX0_weigh_0 7 rfl rfl)
theorem dX0_weigh_8 : decode cX0_weigh 8 = .ok (.i2l, 1) := dk_133 (dk_at dksX0_weigh_0 8 rfl rfl)
theorem dX0_weigh_9 : decode cX0_weigh 9 = .ok (.lconst 1, 1) := dk_10 (dk_at dksX0_weigh_0 9 rfl rfl)
theorem dX0_weigh_10 : decode cX0_weigh 10 = .ok (.ldc2_w 249, 3) := dk_20 0 249 (dk_at dksX0_weigh_0 10 rfl rfl)
theorem dX0_weigh_13 : decode cX0_weigh 13 = .ok (.invokestatic 241, 3) := dk_184 0 241 (dk_at dksX0_weigh_0 13 rfl rfl)
theorem dX0_weigh_16 : decode cX0_weigh 16 = .ok (.ifCond .eq 25, 3) := dk_153 0 25 (dk_at dksX0_weigh_0 16 rfl rfl)
theorem dX0_weigh_19 : decode cX0_weigh 19 = .ok (.iload_n 2, 1) := dk_28 (dk_at dksX0_weigh_0 19 rfl rfl)
theorem dX0_weigh_20 : decode cX0_weigh 20 = .ok (.i2l, 1) := dk_133 (dk_at dksX0_weigh_0 20 rfl rfl)
theorem dX0_weigh_21 : decode cX0_weigh 21 = .ok (.lconst 0, 1) := dk_9 (dk_at dksX0_weigh_0 21 rfl rfl)
theorem dX0_weigh_22 : decode cX0_weigh 22 = .ok (.ldc2_w 290, 3) := dk_20 1 34 (dk_at dksX0_weigh_1 0 rfl rfl)
theorem dX0_weigh_25 : decode cX0_weigh 25 = .ok (.invokestatic 241, 3) := dk_184 0 241 (dk_at dksX0_weigh_1 3 rfl rfl)
theorem dX0_weigh_28 : decode cX0_weigh 28 = .ok (.ifCond .eq 13, 3) := dk_153 0 13 (dk_at dksX0_weigh_1 6 rfl rfl)
theorem dX0_weigh_31 : decode cX0_weigh 31 = .ok (.iload_n 3, 1) := dk_29 (dk_at dksX0_weigh_1 9 rfl rfl)
theorem dX0_weigh_32 : decode cX0_weigh 32 = .ok (.i2l, 1) := dk_133 (dk_at dksX0_weigh_1 10 rfl rfl)
theorem dX0_weigh_33 : decode cX0_weigh 33 = .ok (.lconst 0, 1) := dk_9 (dk_at dksX0_weigh_1 11 rfl rfl)
theorem dX0_weigh_34 : decode cX0_weigh 34 = .ok (.lconst 1, 1) := dk_10 (dk_at dksX0_weigh_1 12 rfl rfl)
theorem dX0_weigh_35 : decode cX0_weigh 35 = .ok (.invokestatic 241, 3) := dk_184 0 241 (dk_at dksX0_weigh_1 13 rfl rfl)
theorem dX0_weigh_38 : decode cX0_weigh 38 = .ok (.ifCond .ne 5, 3) := dk_154 0 5 (dk_at dksX0_weigh_1 16 rfl rfl)
theorem dX0_weigh_41 : decode cX0_weigh 41 = .ok (.iconst (-1), 1) := dk_2 (dk_at dksX0_weigh_1 19 rfl rfl)
theorem dX0_weigh_42 : decode cX0_weigh 42 = .ok (.ireturn, 1) := dk_172 (dk_at dksX0_weigh_1 20 rfl rfl)
theorem dX0_weigh_43 : decode cX0_weigh 43 = .ok (.aload_n 0, 1) := dk_42 (dk_at dksX0_weigh_1 21 rfl rfl)
theorem dX0_weigh_44 : decode cX0_weigh 44 = .ok (.iload_n 1, 1) := dk_27 (dk_at dksX0_weigh_1 22 rfl rfl)
theorem dX0_weigh_45 : decode cX0_weigh 45 = .ok (.invokevirtual 318, 3) := dk_182 1 62 (dk_at dksX0_weigh_2 0 rfl rfl)
theorem dX0_weigh_48 : decode cX0_weigh 48 = .ok (.aload_n 0, 1) := dk_42 (dk_at dksX0_weigh_2 3 rfl rfl)
theorem dX0_weigh_49 : decode cX0_weigh 49 = .ok (.getfield 311, 3) := dk_180 1 55 (dk_at dksX0_weigh_2 4 rfl rfl)
theorem dX0_weigh_52 : decode cX0_weigh 52 = .ok (.ifCond .ne 6, 3) := dk_154 0 6 (dk_at dksX0_weigh_2 7 rfl rfl)
theorem dX0_weigh_55 : decode cX0_weigh 55 = .ok (.bipush (-2), 2) := dk_16 254 (dk_at dksX0_weigh_2 10 rfl rfl)
theorem dX0_weigh_57 : decode cX0_weigh 57 = .ok (.ireturn, 1) := dk_172 (dk_at dksX0_weigh_2 12 rfl rfl)
theorem dX0_weigh_58 : decode cX0_weigh 58 = .ok (.iconst 0, 1) := dk_3 (dk_at dksX0_weigh_2 13 rfl rfl)
theorem dX0_weigh_59 : decode cX0_weigh 59 = .ok (.istore 4, 2) := dk_54 4 (dk_at dksX0_weigh_2 14 rfl rfl)
theorem dX0_weigh_61 : decode cX0_weigh 61 = .ok (.aload_n 0, 1) := dk_42 (dk_at dksX0_weigh_2 16 rfl rfl)
theorem dX0_weigh_62 : decode cX0_weigh 62 = .ok (.iconst 0, 1) := dk_3 (dk_at dksX0_weigh_2 17 rfl rfl)
theorem dX0_weigh_63 : decode cX0_weigh 63 = .ok (.iload_n 2, 1) := dk_28 (dk_at dksX0_weigh_2 18 rfl rfl)
theorem dX0_weigh_64 : decode cX0_weigh 64 = .ok (.iload_n 1, 1) := dk_27 (dk_at dksX0_weigh_2 19 rfl rfl)
theorem dX0_weigh_65 : decode cX0_weigh 65 = .ok (.invokevirtual 321, 3) := dk_182 1 65 (dk_at dksX0_weigh_2 20 rfl rfl)
theorem dX0_weigh_68 : decode cX0_weigh 68 = .ok (.istore 5, 2) := dk_54 5 (dk_at dksX0_weigh_3 0 rfl rfl)
theorem dX0_weigh_70 : decode cX0_weigh 70 = .ok (.iconst 1, 1) := dk_4 (dk_at dksX0_weigh_3 2 rfl rfl)
theorem dX0_weigh_71 : decode cX0_weigh 71 = .ok (.istore 6, 2) := dk_54 6 (dk_at dksX0_weigh_3 3 rfl rfl)
theorem dX0_weigh_73 : decode cX0_weigh 73 = .ok (.iload 6, 2) := dk_21 6 (dk_at dksX0_weigh_3 5 rfl rfl)
theorem dX0_weigh_75 : decode cX0_weigh 75 = .ok (.aload_n 0, 1) := dk_42 (dk_at dksX0_weigh_3 7 rfl rfl)
theorem dX0_weigh_76 : decode cX0_weigh 76 = .ok (.getfield 150, 3) := dk_180 0 150 (dk_at dksX0_weigh_3 8 rfl rfl)
theorem dX0_weigh_79 : decode cX0_weigh 79 = .ok (.getfield 166, 3) := dk_180 0 166 (dk_at dksX0_weigh_3 11 rfl rfl)
theorem dX0_weigh_82 : decode cX0_weigh 82 = .ok (.if_icmp .ge 37, 3) := dk_162 0 37 (dk_at dksX0_weigh_3 14 rfl rfl)
theorem dX0_weigh_85 : decode cX0_weigh 85 = .ok (.aload_n 0, 1) := dk_42 (dk_at dksX0_weigh_3 17 rfl rfl)
theorem dX0_weigh_86 : decode cX0_weigh 86 = .ok (.iload 6, 2) := dk_21 6 (dk_at dksX0_weigh_3 18 rfl rfl)
theorem dX0_weigh_88 : decode cX0_weigh 88 = .ok (.iload_n 2, 1) := dk_28 (dk_at dksX0_weigh_3 20 rfl rfl)
theorem dX0_weigh_89 : decode cX0_weigh 89 = .ok (.iload_n 1, 1) := dk_27 (dk_at dksX0_weigh_3 21 rfl rfl)
theorem dX0_weigh_90 : decode cX0_weigh 90 = .ok (.invokevirtual 321, 3) := dk_182 1 65 (dk_at dksX0_weigh_4 0 rfl rfl)
theorem dX0_weigh_93 : decode cX0_weigh 93 = .ok (.istore 7, 2) := dk_54 7 (dk_at dksX0_weigh_4 3 rfl rfl)
theorem dX0_weigh_95 : decode cX0_weigh 95 = .ok (.iload 7, 2) := dk_21 7 (dk_at dksX0_weigh_4 5 rfl rfl)
theorem dX0_weigh_97 : decode cX0_weigh 97 = .ok (.iload 5, 2) := dk_21 5 (dk_at dksX0_weigh_4 7 rfl rfl)
theorem dX0_weigh_99 : decode cX0_weigh 99 = .ok (.if_icmp .lt 6, 3) := dk_161 0 6 (dk_at dksX0_weigh_4 9 rfl rfl)
theorem dX0_weigh_102 : decode cX0_weigh 102 = .ok (.goto 11, 3) := dk_167 0 11 (dk_at dksX0_weigh_4 12 rfl rfl)
theorem dX0_weigh_105 : decode cX0_weigh 105 = .ok (.iload 6, 2) := dk_21 6 (dk_at dksX0_weigh_4 15 rfl rfl)
theorem dX0_weigh_107 : decode cX0_weigh 107 = .ok (.istore 4, 2) := dk_54 4 (dk_at dksX0_weigh_4 17 rfl rfl)
theorem dX0_weigh_109 : decode cX0_weigh 109 = .ok (.iload 7, 2) := dk_21 7 (dk_at dksX0_weigh_4 19 rfl rfl)
theorem dX0_weigh_111 : decode cX0_weigh 111 = .ok (.istore 5, 2) := dk_54 5 (dk_at dksX0_weigh_4 21 rfl rfl)
theorem dX0_weigh_113 : decode cX0_weigh 113 = .ok (.iinc 6 1, 3) := dk_132 6 1 (dk_at dksX0_weigh_5 0 rfl rfl)
theorem dX0_weigh_116 : decode cX0_weigh 116 = .ok (.goto (-43), 3) := dk_167 255 213 (dk_at dksX0_weigh_5 3 rfl rfl)
theorem dX0_weigh_119 : decode cX0_weigh 119 = .ok (.iload_n 3, 1) := dk_29 (dk_at dksX0_weigh_5 6 rfl rfl)
theorem dX0_weigh_120 : decode cX0_weigh 120 = .ok (.ifCond .ne 8, 3) := dk_154 0 8 (dk_at dksX0_weigh_5 7 rfl rfl)
theorem dX0_weigh_123 : decode cX0_weigh 123 = .ok (.iload 4, 2) := dk_21 4 (dk_at dksX0_weigh_5 10 rfl rfl)
theorem dX0_weigh_125 : decode cX0_weigh 125 = .ok (.goto 5, 3) := dk_167 0 5 (dk_at dksX0_weigh_5 12 rfl rfl)
theorem dX0_weigh_128 : decode cX0_weigh 128 = .ok (.iload 5, 2) := dk_21 5 (dk_at dksX0_weigh_5 15 rfl rfl)
theorem dX0_weigh_130 : decode cX0_weigh 130 = .ok (.ireturn, 1) := dk_172 (dk_at dksX0_weigh_5 17 rfl rfl)
abbrev cX0_alikeAt : ByteArray := prog_1_method_39_code
def yX0_alikeAt : MethodName := ⟨RX0, "alikeAt", "(III)I"⟩
def dkwX0_alikeAt_4 : List UInt8 := [167, 255, 190, 21, 4, 172]
abbrev dktX0_alikeAt_4 : List UInt8 := dkwX0_alikeAt_4 ++ []
def dkwX0_alikeAt_3 : List UInt8 := [21, 6, 92, 46, 4, 96, 79, 21, 4, 42, 180, 0, 115, 21, 6, 46, 184, 0, 7, 54, 4, 132, 5, 1]
abbrev dktX0_alikeAt_3 : List UInt8 := dkwX0_alikeAt_3 ++ dktX0_alikeAt_4
def dkwX0_alikeAt_2 : List UInt8 := [46, 16, 30, 108, 42, 180, 0, 112, 21, 5, 46, 16, 30, 112, 29, 182, 1, 51, 54, 6, 42, 180, 0, 115]
abbrev dktX0_alikeAt_2 : List UInt8 := dkwX0_alikeAt_2 ++ dktX0_alikeAt_3
def dkwX0_alikeAt_1 : List UInt8 := [167, 255, 238, 3, 54, 5, 21, 5, 42, 180, 1, 55, 162, 0, 63, 42, 27, 28, 42, 180, 0, 112, 21, 5]
abbrev dktX0_alikeAt_1 : List UInt8 := dkwX0_alikeAt_1 ++ dktX0_alikeAt_2
def dkwX0_alikeAt_0 : List UInt8 := [3, 54, 4, 3, 54, 5, 21, 5, 16, 100, 162, 0, 17, 42, 180, 0, 115, 21, 5, 3, 79, 132, 5, 1]
abbrev dktX0_alikeAt_0 : List UInt8 := dkwX0_alikeAt_0 ++ dktX0_alikeAt_1
theorem dksX0_alikeAt_0 : cX0_alikeAt.data.toList.drop 0 = dktX0_alikeAt_0 := by decide +kernel
theorem dksX0_alikeAt_1 : cX0_alikeAt.data.toList.drop 24 = dktX0_alikeAt_1 := dk_seg dksX0_alikeAt_0 24 rfl rfl
theorem dksX0_alikeAt_2 : cX0_alikeAt.data.toList.drop 48 = dktX0_alikeAt_2 := dk_seg dksX0_alikeAt_1 24 rfl rfl
theorem dksX0_alikeAt_3 : cX0_alikeAt.data.toList.drop 72 = dktX0_alikeAt_3 := dk_seg dksX0_alikeAt_2 24 rfl rfl
theorem dksX0_alikeAt_4 : cX0_alikeAt.data.toList.drop 96 = dktX0_alikeAt_4 := dk_seg dksX0_alikeAt_3 24 rfl rfl
theorem dX0_alikeAt_0 : decode cX0_alikeAt 0 = .ok (.iconst 0, 1) := dk_3 (dk_at dksX0_alikeAt_0 0 rfl rfl)
theorem dX0_alikeAt_1 : decode cX0_alikeAt 1 = .ok (.istore 4, 2) := dk_54 4 (dk_at dksX0_alikeAt_0 1 rfl rfl)
theorem dX0_alikeAt_3 : decode cX0_alikeAt 3 = .ok (.iconst 0, 1) := dk_3 (dk_at dksX0_alikeAt_0 3 rfl rfl)
theorem dX0_alikeAt_4 : decode cX0_alikeAt 4 = .ok (.istore 5, 2) := dk_54 5 (dk_at dksX0_alikeAt_0 4 rfl rfl)
theorem dX0_alikeAt_6 : decode cX0_alikeAt 6 = .ok (.iload 5, 2) := dk_21 5 (dk_at dksX0_alikeAt_0 6 rfl rfl)
theorem dX0_alikeAt_8 : decode cX0_alikeAt 8 = .ok (.bipush 100, 2) := dk_16 100 (dk_at dksX0_alikeAt_0 8 rfl rfl)
theorem dX0_alikeAt_10 : decode cX0_alikeAt 10 = .ok (.if_icmp .ge 17, 3) := dk_162 0 17 (dk_at dksX0_alikeAt_0 10 rfl rfl)
theorem dX0_alikeAt_13 : decode cX0_alikeAt 13 = .ok (.aload_n 0, 1) := dk_42 (dk_at dksX0_alikeAt_0 13 rfl rfl)
theorem dX0_alikeAt_14 : decode cX0_alikeAt 14 = .ok (.getfield 115, 3) := dk_180 0 115 (dk_at dksX0_alikeAt_0 14 rfl rfl)
theorem dX0_alikeAt_17 : decode cX0_alikeAt 17 = .ok (.iload 5, 2) := dk_21 5 (dk_at dksX0_alikeAt_0 17 rfl rfl)
theorem dX0_alikeAt_19 : decode cX0_alikeAt 19 = .ok (.iconst 0, 1) := dk_3 (dk_at dksX0_alikeAt_0 19 rfl rfl)
theorem dX0_alikeAt_20 : decode cX0_alikeAt 20 = .ok (.iastore, 1) := dk_79 (dk_at dksX0_alikeAt_0 20 rfl rfl)
theorem dX0_alikeAt_21 : decode cX0_alikeAt 21 = .ok (.iinc 5 1, 3) := dk_132 5 1 (dk_at dksX0_alikeAt_0 21 rfl rfl)
theorem dX0_alikeAt_24 : decode cX0_alikeAt 24 = .ok (.goto (-18), 3) := dk_167 255 238 (dk_at dksX0_alikeAt_1 0 rfl rfl)
theorem dX0_alikeAt_27 : decode cX0_alikeAt 27 = .ok (.iconst 0, 1) := dk_3 (dk_at dksX0_alikeAt_1 3 rfl rfl)
theorem dX0_alikeAt_28 : decode cX0_alikeAt 28 = .ok (.istore 5, 2) := dk_54 5 (dk_at dksX0_alikeAt_1 4 rfl rfl)
theorem dX0_alikeAt_30 : decode cX0_alikeAt 30 = .ok (.iload 5, 2) := dk_21 5 (dk_at dksX0_alikeAt_1 6 rfl rfl)
theorem dX0_alikeAt_32 : decode cX0_alikeAt 32 = .ok (.aload_n 0, 1) := dk_42 (dk_at dksX0_alikeAt_1 8 rfl rfl)
theorem dX0_alikeAt_33 : decode cX0_alikeAt 33 = .ok (.getfield 311, 3) := dk_180 1 55 (dk_at dksX0_alikeAt_1 9 rfl rfl)
theorem dX0_alikeAt_36 : decode cX0_alikeAt 36 = .ok (.if_icmp .ge 63, 3) := dk_162 0 63 (dk_at dksX0_alikeAt_1 12 rfl rfl)
theorem dX0_alikeAt_39 : decode cX0_alikeAt 39 = .ok (.aload_n 0, 1) := dk_42 (dk_at dksX0_alikeAt_1 15 rfl rfl)
theorem dX0_alikeAt_40 : decode cX0_alikeAt 40 = .ok (.iload_n 1, 1) := dk_27 (dk_at dksX0_alikeAt_1 16 rfl rfl)
theorem dX0_alikeAt_41 : decode cX0_alikeAt 41 = .ok (.iload_n 2, 1) := dk_28 (dk_at dksX0_alikeAt_1 17 rfl rfl)
theorem dX0_alikeAt_42 : decode cX0_alikeAt 42 = .ok (.aload_n 0, 1) := dk_42 (dk_at dksX0_alikeAt_1 18 rfl rfl)
theorem dX0_alikeAt_43 : decode cX0_alikeAt 43 = .ok (.getfield 112, 3) := dk_180 0 112 (dk_at dksX0_alikeAt_1 19 rfl rfl)
theorem dX0_alikeAt_46 : decode cX0_alikeAt 46 = .ok (.iload 5, 2) := dk_21 5 (dk_at dksX0_alikeAt_1 22 rfl rfl)
theorem dX0_alikeAt_48 : decode cX0_alikeAt 48 = .ok (.iaload, 1) := dk_46 (dk_at dksX0_alikeAt_2 0 rfl rfl)
theorem dX0_alikeAt_49 : decode cX0_alikeAt 49 = .ok (.bipush 30, 2) := dk_16 30 (dk_at dksX0_alikeAt_2 1 rfl rfl)
theorem dX0_alikeAt_51 : decode cX0_alikeAt 51 = .ok (.idiv, 1) := dk_108 (dk_at dksX0_alikeAt_2 3 rfl rfl)
theorem dX0_alikeAt_52 : decode cX0_alikeAt 52 = .ok (.aload_n 0, 1) := dk_42 (dk_at dksX0_alikeAt_2 4 rfl rfl)
theorem dX0_alikeAt_53 : decode cX0_alikeAt 53 = .ok (.getfield 112, 3) := dk_180 0 112 (dk_at dksX0_alikeAt_2 5 rfl rfl)
theorem dX0_alikeAt_56 : decode cX0_alikeAt 56 = .ok (.iload 5, 2) := dk_21 5 (dk_at dksX0_alikeAt_2 8 rfl rfl)
theorem dX0_alikeAt_58 : decode cX0_alikeAt 58 = .ok (.iaload, 1) := dk_46 (dk_at dksX0_alikeAt_2 10 rfl rfl)
theorem dX0_alikeAt_59 : decode cX0_alikeAt 59 = .ok (.bipush 30, 2) := dk_16 30 (dk_at dksX0_alikeAt_2 11 rfl rfl)
theorem dX0_alikeAt_61 : decode cX0_alikeAt 61 = .ok (.irem, 1) := dk_112 (dk_at dksX0_alikeAt_2 13 rfl rfl)
theorem dX0_alikeAt_62 : decode cX0_alikeAt 62 = .ok (.iload_n 3, 1) := dk_29 (dk_at dksX0_alikeAt_2 14 rfl rfl)
theorem dX0_alikeAt_63 : decode cX0_alikeAt 63 = .ok (.invokevirtual 307, 3) := dk_182 1 51 (dk_at dksX0_alikeAt_2 15 rfl rfl)
theorem dX0_alikeAt_66 : decode cX0_alikeAt 66 = .ok (.istore 6, 2) := dk_54 6 (dk_at dksX0_alikeAt_2 18 rfl rfl)
theorem dX0_alikeAt_68 : decode cX0_alikeAt 68 = .ok (.aload_n 0, 1) := dk_42 (dk_at dksX0_alikeAt_2 20 rfl rfl)
theorem dX0_alikeAt_69 : decode cX0_alikeAt 69 = .ok (.getfield 115, 3) := dk_180 0 115 (dk_at dksX0_alikeAt_2 21 rfl rfl)
theorem dX0_alikeAt_72 : decode cX0_alikeAt 72 = .ok (.iload 6, 2) := dk_21 6 (dk_at dksX0_alikeAt_3 0 rfl rfl)
theorem dX0_alikeAt_74 : decode cX0_alikeAt 74 = .ok (.dup2, 1) := dk_92 (dk_at dksX0_alikeAt_3 2 rfl rfl)
theorem dX0_alikeAt_75 : decode cX0_alikeAt 75 = .ok (.iaload, 1) := dk_46 (dk_at dksX0_alikeAt_3 3 rfl rfl)
theorem dX0_alikeAt_76 : decode cX0_alikeAt 76 = .ok (.iconst 1, 1) := dk_4 (dk_at dksX0_alikeAt_3 4 rfl rfl)
theorem dX0_alikeAt_77 : decode cX0_alikeAt 77 = .ok (.iadd, 1) := dk_96 (dk_at dksX0_alikeAt_3 5 rfl rfl)
theorem dX0_alikeAt_78 : decode cX0_alikeAt 78 = .ok (.iastore, 1) := dk_79 (dk_at dksX0_alikeAt_3 6 rfl rfl)
theorem dX0_alikeAt_79 : decode cX0_alikeAt 79 = .ok (.iload 4, 2) := dk_21 4 (dk_at dksX0_alikeAt_3 7 rfl rfl)
theorem dX0_alikeAt_81 : decode cX0_alikeAt 81 = .ok (.aload_n 0, 1) := dk_42 (dk_at dksX0_alikeAt_3 9 rfl rfl)
theorem dX0_alikeAt_82 : decode cX0_alikeAt 82 = .ok (.getfield 115, 3) := dk_180 0 115 (dk_at dksX0_alikeAt_3 10 rfl rfl)
theorem dX0_alikeAt_85 : decode cX0_alikeAt 85 = .ok (.iload 6, 2) := dk_21 6 (dk_at dksX0_alikeAt_3 13 rfl rfl)
theorem dX0_alikeAt_87 : decode cX0_alikeAt 87 = .ok (.iaload, 1) := dk_46 (dk_at dksX0_alikeAt_3 15 rfl rfl)
theorem dX0_alikeAt_88 : decode cX0_alikeAt 88 = .ok (.invokestatic 7, 3) := dk_184 0 7 (dk_at dksX0_alikeAt_3 16 rfl rfl)
theorem dX0_alikeAt_91 : decode cX0_alikeAt 91 = .ok (.istore 4, 2) := dk_54 4 (dk_at dksX0_alikeAt_3 19 rfl rfl)
theorem dX0_alikeAt_93 : decode cX0_alikeAt 93 = .ok (.iinc 5 1, 3) := dk_132 5 1 (dk_at dksX0_alikeAt_3 21 rfl rfl)
theorem dX0_alikeAt_96 : decode cX0_alikeAt 96 = .ok (.goto (-66), 3) := dk_167 255 190 (dk_at dksX0_alikeAt_4 0 rfl rfl)
theorem dX0_alikeAt_99 : decode cX0_alikeAt 99 = .ok (.iload 4, 2) := dk_21 4 (dk_at dksX0_alikeAt_4 3 rfl rfl)
theorem dX0_alikeAt_101 : decode cX0_alikeAt 101 = .ok (.ireturn, 1) := dk_172 (dk_at dksX0_alikeAt_4 5 rfl rfl)
abbrev cX0_crust : ByteArray := prog_1_method_42_code
def yX0_crust : MethodName := ⟨RX0, "crust", "(IIII)I"⟩
def dkwX0_crust_6 : List UInt8 := [96, 172]
abbrev dktX0_crust_6 : List UInt8 := dkwX0_crust_6 ++ []
def dkwX0_crust_5 : List UInt8 := [21, 6, 167, 0, 23, 21, 5, 2, 160, 0, 7, 2, 167, 0, 13, 42, 180, 0, 150, 180, 0, 221, 21, 5]
abbrev dktX0_crust_5 : List UInt8 := dkwX0_crust_5 ++ dktX0_crust_6
def dkwX0_crust_4 : List UInt8 := [167, 0, 11, 21, 7, 54, 5, 21, 8, 54, 6, 132, 7, 255, 167, 255, 208, 21, 4, 4, 160, 0, 8]
abbrev dktX0_crust_4 : List UInt8 := dkwX0_crust_4 ++ dktX0_crust_5
def dkwX0_crust_3 : List UInt8 := [182, 0, 173, 154, 0, 38, 42, 27, 28, 29, 21, 7, 182, 1, 71, 54, 8, 21, 8, 21, 6, 163, 0, 6]
abbrev dktX0_crust_3 : List UInt8 := dkwX0_crust_3 ++ dktX0_crust_4
def dkwX0_crust_2 : List UInt8 := [27, 28, 29, 2, 182, 1, 71, 54, 6, 29, 4, 100, 54, 7, 21, 7, 155, 0, 49, 42, 180, 0, 150, 27]
abbrev dktX0_crust_2 : List UInt8 := dkwX0_crust_2 ++ dktX0_crust_3
def dkwX0_crust_1 : List UInt8 := [184, 0, 241, 153, 0, 14, 21, 4, 133, 9, 10, 184, 0, 241, 154, 0, 6, 16, 254, 172, 2, 54, 5, 42]
abbrev dktX0_crust_1 : List UInt8 := dkwX0_crust_1 ++ dktX0_crust_2
def dkwX0_crust_0 : List UInt8 := [42, 27, 182, 0, 169, 153, 0, 34, 42, 28, 182, 0, 185, 153, 0, 26, 29, 133, 10, 20, 1, 69]
abbrev dktX0_crust_0 : List UInt8 := dkwX0_crust_0 ++ dktX0_crust_1
theorem dksX0_crust_0 : cX0_crust.data.toList.drop 0 = dktX0_crust_0 := by decide +kernel
theorem dksX0_crust_1 : cX0_crust.data.toList.drop 22 = dktX0_crust_1 := dk_seg dksX0_crust_0 22 rfl rfl
theorem dksX0_crust_2 : cX0_crust.data.toList.drop 46 = dktX0_crust_2 := dk_seg dksX0_crust_1 24 rfl rfl
theorem dksX0_crust_3 : cX0_crust.data.toList.drop 70 = dktX0_crust_3 := dk_seg dksX0_crust_2 24 rfl rfl
theorem dksX0_crust_4 : cX0_crust.data.toList.drop 94 = dktX0_crust_4 := dk_seg dksX0_crust_3 24 rfl rfl
theorem dksX0_crust_5 : cX0_crust.data.toList.drop 117 = dktX0_crust_5 := dk_seg dksX0_crust_4 23 rfl rfl
theorem dksX0_crust_6 : cX0_crust.data.toList.drop 141 = dktX0_crust_6 := dk_seg dksX0_crust_5 24 rfl rfl
theorem dX0_crust_0 : decode cX0_crust 0 = .ok (.aload_n 0, 1) := dk_42 (dk_at dksX0_crust_0 0 rfl rfl)
theorem dX0_crust_1 : decode cX0_crust 1 = .ok (.iload_n 1, 1) := dk_27 (dk_at dksX0_crust_0 1 rfl rfl)
theorem dX0_crust_2 : decode cX0_crust 2 = .ok (.invokevirtual 169, 3) := dk_182 0 169 (dk_at dksX0_crust_0 2 rfl rfl)
theorem dX0_crust_5 : decode cX0_crust 5 = .ok (.ifCond .eq 34, 3) := dk_153 0 34 (dk_at dksX0_crust_0 5 rfl rfl)
theorem dX0_crust_8 : decode cX0_crust 8 = .ok (.aload_n 0, 1) := dk_42 (dk_at dksX0_crust_0 8 rfl rfl)
theorem dX0_crust_9 : decode cX0_crust 9 = .ok (.iload_n 2, 1) := dk_28 (dk_at dksX0_crust_0 9 rfl rfl)
theorem dX0_crust_10 : decode cX0_crust 10 = .ok (.invokevirtual 185, 3) := dk_182 0 185 (dk_at dksX0_crust_0 10 rfl rfl)
theorem dX0_crust_13 : decode cX0_crust 13 = .ok (.ifCond .eq 26, 3) := dk_153 0 26 (dk_at dksX0_crust_0 13 rfl rfl)
theorem dX0_crust_16 : decode cX0_crust 16 = .ok (.iload_n 3, 1) := dk_29 (dk_at dksX0_crust_0 16 rfl rfl)
theorem dX0_crust_17 : decode cX0_crust 17 = .ok (.i2l, 1) := dk_133 (dk_at dksX0_crust_0 17 rfl rfl)
theorem dX0_crust_18 : decode cX0_crust 18 = .ok (.lconst 1, 1) := dk_10 (dk_at dksX0_crust_0 18 rfl rfl)
theorem dX0_crust_19 : decode cX0_crust 19 = .ok (.ldc2_w 325, 3) := dk_20 1 69 (dk_at dksX0_crust_0 19 rfl rfl)
theorem dX0_crust_22 : decode cX0_crust 22 = .ok (.invokestatic 241, 3) := dk_184 0 241 (dk_at dksX0_crust_1 0 rfl rfl)
theorem dX0_crust_25 : decode cX0_crust 25 = .ok (.ifCond .eq 14, 3) := dk_153 0 14 (dk_at dksX0_crust_1 3 rfl rfl)
theorem dX0_crust_28 : decode cX0_crust 28 = .ok (.iload 4, 2) := dk_21 4 (dk_at dksX0_crust_1 6 rfl rfl)
theorem dX0_crust_30 : decode cX0_crust 30 = .ok (.i2l, 1) := dk_133 (dk_at dksX0_crust_1 8 rfl rfl)
theorem dX0_crust_31 : decode cX0_crust 31 = .ok (.lconst 0, 1) := dk_9 (dk_at dksX0_crust_1 9 rfl rfl)
theorem dX0_crust_32 : decode cX0_crust 32 = .ok (.lconst 1, 1) := dk_10 (dk_at dksX0_crust_1 10 rfl rfl)
theorem dX0_crust_33 : decode cX0_crust 33 = .ok (.invokestatic 241, 3) := dk_184 0 241 (dk_at dksX0_crust_1 11 rfl rfl)
theorem dX0_crust_36 : decode cX0_crust 36 = .ok (.ifCond .ne 6, 3) := dk_154 0 6 (dk_at dksX0_crust_1 14 rfl rfl)
theorem dX0_crust_39 : decode cX0_crust 39 = .ok (.bipush (-2), 2) := dk_16 254 (dk_at dksX0_crust_1 17 rfl rfl)
theorem dX0_crust_41 : decode cX0_crust 41 = .ok (.ireturn, 1) := dk_172 (dk_at dksX0_crust_1 19 rfl rfl)
theorem dX0_crust_42 : decode cX0_crust 42 = .ok (.iconst (-1), 1) := dk_2 (dk_at dksX0_crust_1 20 rfl rfl)
theorem dX0_crust_43 : decode cX0_crust 43 = .ok (.istore 5, 2) := dk_54 5 (dk_at dksX0_crust_1 21 rfl rfl)
theorem dX0_crust_45 : decode cX0_crust 45 = .ok (.aload_n 0, 1) := dk_42 (dk_at dksX0_crust_1 23 rfl rfl)
theorem dX0_crust_46 : decode cX0_crust 46 = .ok (.iload_n 1, 1) := dk_27 (dk_at dksX0_crust_2 0 rfl rfl)
theorem dX0_crust_47 : decode cX0_crust 47 = .ok (.iload_n 2, 1) := dk_28 (dk_at dksX0_crust_2 1 rfl rfl)
theorem dX0_crust_48 : decode cX0_crust 48 = .ok (.iload_n 3, 1) := dk_29 (dk_at dksX0_crust_2 2 rfl rfl)
theorem dX0_crust_49 : decode cX0_crust 49 = .ok (.iconst (-1), 1) := dk_2 (dk_at dksX0_crust_2 3 rfl rfl)
theorem dX0_crust_50 : decode cX0_crust 50 = .ok (.invokevirtual 327, 3) := dk_182 1 71 (dk_at dksX0_crust_2 4 rfl rfl)
theorem dX0_crust_53 : decode cX0_crust 53 = .ok (.istore 6, 2) := dk_54 6 (dk_at dksX0_crust_2 7 rfl rfl)
theorem dX0_crust_55 : decode cX0_crust 55 = .ok (.iload_n 3, 1) := dk_29 (dk_at dksX0_crust_2 9 rfl rfl)
theorem dX0_crust_56 : decode cX0_crust 56 = .ok (.iconst 1, 1) := dk_4 (dk_at dksX0_crust_2 10 rfl rfl)
theorem dX0_crust_57 : decode cX0_crust 57 = .ok (.isub, 1) := dk_100 (dk_at dksX0_crust_2 11 rfl rfl)
theorem dX0_crust_58 : decode cX0_crust 58 = .ok (.istore 7, 2) := dk_54 7 (dk_at dksX0_crust_2 12 rfl rfl)
theorem dX0_crust_60 : decode cX0_crust 60 = .ok (.iload 7, 2) := dk_21 7 (dk_at dksX0_crust_2 14 rfl rfl)
theorem dX0_crust_62 : decode cX0_crust 62 = .ok (.ifCond .lt 49, 3) := dk_155 0 49 (dk_at dksX0_crust_2 16 rfl rfl)
theorem dX0_crust_65 : decode cX0_crust 65 = .ok (.aload_n 0, 1) := dk_42 (dk_at dksX0_crust_2 19 rfl rfl)
theorem dX0_crust_66 : decode cX0_crust 66 = .ok (.getfield 150, 3) := dk_180 0 150 (dk_at dksX0_crust_2 20 rfl rfl)
theorem dX0_crust_69 : decode cX0_crust 69 = .ok (.iload_n 1, 1) := dk_27 (dk_at dksX0_crust_2 23 rfl rfl)
theorem dX0_crust_70 : decode cX0_crust 70 = .ok (.invokevirtual 173, 3) := dk_182 0 173 (dk_at dksX0_crust_3 0 rfl rfl)
theorem dX0_crust_73 : decode cX0_crust 73 = .ok (.ifCond .ne 38, 3) := dk_154 0 38 (dk_at dksX0_crust_3 3 rfl rfl)
theorem dX0_crust_76 : decode cX0_crust 76 = .ok (.aload_n 0, 1) := dk_42 (dk_at dksX0_crust_3 6 rfl rfl)
theorem dX0_crust_77 : decode cX0_crust 77 = .ok (.iload_n 1, 1) := dk_27 (dk_at dksX0_crust_3 7 rfl rfl)
theorem dX0_crust_78 : decode cX0_crust 78 = .ok (.iload_n 2, 1) := dk_28 (dk_at dksX0_crust_3 8 rfl rfl)
theorem dX0_crust_79 : decode cX0_crust 79 = .ok (.iload_n 3, 1) := dk_29 (dk_at dksX0_crust_3 9 rfl rfl)
theorem dX0_crust_80 : decode cX0_crust 80 = .ok (.iload 7, 2) := dk_21 7 (dk_at dksX0_crust_3 10 rfl rfl)
theorem dX0_crust_82 : decode cX0_crust 82 = .ok (.invokevirtual 327, 3) := dk_182 1 71 (dk_at dksX0_crust_3 12 rfl rfl)
theorem dX0_crust_85 : decode cX0_crust 85 = .ok (.istore 8, 2) := dk_54 8 (dk_at dksX0_crust_3 15 rfl rfl)
theorem dX0_crust_87 : decode cX0_crust 87 = .ok (.iload 8, 2) := dk_21 8 (dk_at dksX0_crust_3 17 rfl rfl)
theorem dX0_crust_89 : decode cX0_crust 89 = .ok (.iload 6, 2) := dk_21 6 (dk_at dksX0_crust_3 19 rfl rfl)
theorem dX0_crust_91 : decode cX0_crust 91 = .ok (.if_icmp .gt 6, 3) := dk_163 0 6 (dk_at dksX0_crust_3 21 rfl rfl)
theorem dX0_crust_94 : decode cX0_crust 94 = .ok (.goto 11, 3) := dk_167 0 11 (dk_at dksX0_crust_4 0 rfl rfl)
theorem dX0_crust_97 : decode cX0_crust 97 = .ok (.iload 7, 2) := dk_21 7 (dk_at dksX0_crust_4 3 rfl rfl)
theorem dX0_crust_99 : decode cX0_crust 99 = .ok (.istore 5, 2) := dk_54 5 (dk_at dksX0_crust_4 5 rfl rfl)
theorem dX0_crust_101 : decode cX0_crust 101 = .ok (.iload 8, 2) := dk_21 8 (dk_at dksX0_crust_4 7 rfl rfl)
theorem dX0_crust_103 : decode cX0_crust 103 = .ok (.istore 6, 2) := dk_54 6 (dk_at dksX0_crust_4 9 rfl rfl)
theorem dX0_crust_105 : decode cX0_crust 105 = .ok (.iinc 7 (-1), 3) := dk_132 7 255 (dk_at dksX0_crust_4 11 rfl rfl)
theorem dX0_crust_108 : decode cX0_crust 108 = .ok (.goto (-48), 3) := dk_167 255 208 (dk_at dksX0_crust_4 14 rfl rfl)
theorem dX0_crust_111 : decode cX0_crust 111 = .ok (.iload 4, 2) := dk_21 4 (dk_at dksX0_crust_4 17 rfl rfl)
theorem dX0_crust_113 : decode cX0_crust 113 = .ok (.iconst 1, 1) := dk_4 (dk_at dksX0_crust_4 19 rfl rfl)
theorem dX0_crust_114 : decode cX0_crust 114 = .ok (.if_icmp .ne 8, 3) := dk_160 0 8 (dk_at dksX0_crust_4 20 rfl rfl)
theorem dX0_crust_117 : decode cX0_crust 117 = .ok (.iload 6, 2) := dk_21 6 (dk_at dksX0_crust_5 0 rfl rfl)
theorem dX0_crust_119 : decode cX0_crust 119 = .ok (.goto 23, 3) := dk_167 0 23 (dk_at dksX0_crust_5 2 rfl rfl)
theorem dX0_crust_122 : decode cX0_crust 122 = .ok (.iload 5, 2) := dk_21 5 (dk_at dksX0_crust_5 5 rfl rfl)
theorem dX0_crust_124 : decode cX0_crust 124 = .ok (.iconst (-1), 1) := dk_2 (dk_at dksX0_crust_5 7 rfl rfl)
theorem dX0_crust_125 : decode cX0_crust 125 = .ok (.if_icmp .ne 7, 3) := dk_160 0 7 (dk_at dksX0_crust_5 8 rfl rfl)
theorem dX0_crust_128 : decode cX0_crust 128 = .ok (.iconst (-1), 1) := dk_2 (dk_at dksX0_crust_5 11 rfl rfl)
theorem dX0_crust_129 : decode cX0_crust 129 = .ok (.goto 13, 3) := dk_167 0 13 (dk_at dksX0_crust_5 12 rfl rfl)
theorem dX0_crust_132 : decode cX0_crust 132 = .ok (.aload_n 0, 1) := dk_42 (dk_at dksX0_crust_5 15 rfl rfl)
theorem dX0_crust_133 : decode cX0_crust 133 = .ok (.getfield 150, 3) := dk_180 0 150 (dk_at dksX0_crust_5 16 rfl rfl)
theorem dX0_crust_136 : decode cX0_crust 136 = .ok (.getfield 221, 3) := dk_180 0 221 (dk_at dksX0_crust_5 19 rfl rfl)
theorem dX0_crust_139 : decode cX0_crust 139 = .ok (.iload 5, 2) := dk_21 5 (dk_at dksX0_crust_5 22 rfl rfl)
theorem dX0_crust_141 : decode cX0_crust 141 = .ok (.iadd, 1) := dk_96 (dk_at dksX0_crust_6 0 rfl rfl)
theorem dX0_crust_142 : decode cX0_crust 142 = .ok (.ireturn, 1) := dk_172 (dk_at dksX0_crust_6 1 rfl rfl)
abbrev cX0_ownNights : ByteArray := prog_1_method_41_code
def yX0_ownNights : MethodName := ⟨RX0, "ownNights", "(IIII)I"⟩
def dkwX0_ownNights_3 : List UInt8 := [46, 160, 0, 7, 4, 167, 0, 4, 3, 96, 54, 6, 132, 7, 1, 167, 255, 191, 21, 6, 172]
abbrev dktX0_ownNights_3 : List UInt8 := dkwX0_ownNights_3 ++ []
def dkwX0_ownNights_2 : List UInt8 := [25, 5, 42, 182, 0, 227, 182, 0, 230, 87, 21, 6, 25, 5, 28, 182, 0, 193, 25, 5, 180, 0, 190, 28]
abbrev dktX0_ownNights_2 : List UInt8 := dkwX0_ownNights_2 ++ dktX0_ownNights_3
def dkwX0_ownNights_1 : List UInt8 := [162, 0, 65, 21, 7, 21, 4, 160, 0, 16, 25, 5, 89, 180, 0, 251, 4, 27, 120, 128, 181, 0, 251]
abbrev dktX0_ownNights_1 : List UInt8 := dkwX0_ownNights_1 ++ dktX0_ownNights_2
def dkwX0_ownNights_0 : List UInt8 := [42, 180, 0, 25, 42, 180, 0, 150, 182, 0, 146, 58, 5, 3, 54, 6, 3, 54, 7, 21, 7, 29]
abbrev dktX0_ownNights_0 : List UInt8 := dkwX0_ownNights_0 ++ dktX0_ownNights_1
theorem dksX0_ownNights_0 : cX0_ownNights.data.toList.drop 0 = dktX0_ownNights_0 := by decide +kernel
theorem dksX0_ownNights_1 : cX0_ownNights.data.toList.drop 22 = dktX0_ownNights_1 := dk_seg dksX0_ownNights_0 22 rfl rfl
theorem dksX0_ownNights_2 : cX0_ownNights.data.toList.drop 45 = dktX0_ownNights_2 := dk_seg dksX0_ownNights_1 23 rfl rfl
theorem dksX0_ownNights_3 : cX0_ownNights.data.toList.drop 69 = dktX0_ownNights_3 := dk_seg dksX0_ownNights_2 24 rfl rfl
theorem dX0_ownNights_0 : decode cX0_ownNights 0 = .ok (.aload_n 0, 1) := dk_42 (dk_at dksX0_ownNights_0 0 rfl rfl)
theorem dX0_ownNights_1 : decode cX0_ownNights 1 = .ok (.getfield 25, 3) := dk_180 0 25 (dk_at dksX0_ownNights_0 1 rfl rfl)
theorem dX0_ownNights_4 : decode cX0_ownNights 4 = .ok (.aload_n 0, 1) := dk_42 (dk_at dksX0_ownNights_0 4 rfl rfl)
theorem dX0_ownNights_5 : decode cX0_ownNights 5 = .ok (.getfield 150, 3) := dk_180 0 150 (dk_at dksX0_ownNights_0 5 rfl rfl)
theorem dX0_ownNights_8 : decode cX0_ownNights 8 = .ok (.invokevirtual 146, 3) := dk_182 0 146 (dk_at dksX0_ownNights_0 8 rfl rfl)
theorem dX0_ownNights_11 : decode cX0_ownNights 11 = .ok (.astore 5, 2) := dk_58 5 (dk_at dksX0_ownNights_0 11 rfl rfl)
theorem dX0_ownNights_13 : decode cX0_ownNights 13 = .ok (.iconst 0, 1) := dk_3 (dk_at dksX0_ownNights_0 13 rfl rfl)
theorem dX0_ownNights_14 : decode cX0_ownNights 14 = .ok (.istore 6, 2) := dk_54 6 (dk_at dksX0_ownNights_0 14 rfl rfl)
theorem dX0_ownNights_16 : decode cX0_ownNights 16 = .ok (.iconst 0, 1) := dk_3 (dk_at dksX0_ownNights_0 16 rfl rfl)
theorem dX0_ownNights_17 : decode cX0_ownNights 17 = .ok (.istore 7, 2) := dk_54 7 (dk_at dksX0_ownNights_0 17 rfl rfl)
theorem dX0_ownNights_19 : decode cX0_ownNights 19 = .ok (.iload 7, 2) := dk_21 7 (dk_at dksX0_ownNights_0 19 rfl rfl)
theorem dX0_ownNights_21 : decode cX0_ownNights 21 = .ok (.iload_n 3, 1) := dk_29 (dk_at dksX0_ownNights_0 21 rfl rfl)
theorem dX0_ownNights_22 : decode cX0_ownNights 22 = .ok (.if_icmp .ge 65, 3) := dk_162 0 65 (dk_at dksX0_ownNights_1 0 rfl rfl)
theorem dX0_ownNights_25 : decode cX0_ownNights 25 = .ok (.iload 7, 2) := dk_21 7 (dk_at dksX0_ownNights_1 3 rfl rfl)
theorem dX0_ownNights_27 : decode cX0_ownNights 27 = .ok (.iload 4, 2) := dk_21 4 (dk_at dksX0_ownNights_1 5 rfl rfl)
theorem dX0_ownNights_29 : decode cX0_ownNights 29 = .ok (.if_icmp .ne 16, 3) := dk_160 0 16 (dk_at dksX0_ownNights_1 7 rfl rfl)
theorem dX0_ownNights_32 : decode cX0_ownNights 32 = .ok (.aload 5, 2) := dk_25 5 (dk_at dksX0_ownNights_1 10 rfl rfl)
theorem dX0_ownNights_34 : decode cX0_ownNights 34 = .ok (.dup, 1) := dk_89 (dk_at dksX0_ownNights_1 12 rfl rfl)
theorem dX0_ownNights_35 : decode cX0_ownNights 35 = .ok (.getfield 251, 3) := dk_180 0 251 (dk_at dksX0_ownNights_1 13 rfl rfl)
theorem dX0_ownNights_38 : decode cX0_ownNights 38 = .ok (.iconst 1, 1) := dk_4 (dk_at dksX0_ownNights_1 16 rfl rfl)
theorem dX0_ownNights_39 : decode cX0_ownNights 39 = .ok (.iload_n 1, 1) := dk_27 (dk_at dksX0_ownNights_1 17 rfl rfl)
theorem dX0_ownNights_40 : decode cX0_ownNights 40 = .ok (.ishl, 1) := dk_120 (dk_at dksX0_ownNights_1 18 rfl rfl)
theorem dX0_ownNights_41 : decode cX0_ownNights 41 = .ok (.ior, 1) := dk_128 (dk_at dksX0_ownNights_1 19 rfl rfl)
theorem dX0_ownNights_42 : decode cX0_ownNights 42 = .ok (.putfield 251, 3) := dk_181 0 251 (dk_at dksX0_ownNights_1 20 rfl rfl)
theorem dX0_ownNights_45 : decode cX0_ownNights 45 = .ok (.aload 5, 2) := dk_25 5 (dk_at dksX0_ownNights_2 0 rfl rfl)
theorem dX0_ownNights_47 : decode cX0_ownNights 47 = .ok (.aload_n 0, 1) := dk_42 (dk_at dksX0_ownNights_2 2 rfl rfl)
theorem dX0_ownNights_48 : decode cX0_ownNights 48 = .ok (.invokevirtual 227, 3) := dk_182 0 227 (dk_at dksX0_ownNights_2 3 rfl rfl)
theorem dX0_ownNights_51 : decode cX0_ownNights 51 = .ok (.invokevirtual 230, 3) := dk_182 0 230 (dk_at dksX0_ownNights_2 6 rfl rfl)
theorem dX0_ownNights_54 : decode cX0_ownNights 54 = .ok (.pop, 1) := dk_87 (dk_at dksX0_ownNights_2 9 rfl rfl)
theorem dX0_ownNights_55 : decode cX0_ownNights 55 = .ok (.iload 6, 2) := dk_21 6 (dk_at dksX0_ownNights_2 10 rfl rfl)
theorem dX0_ownNights_57 : decode cX0_ownNights 57 = .ok (.aload 5, 2) := dk_25 5 (dk_at dksX0_ownNights_2 12 rfl rfl)
theorem dX0_ownNights_59 : decode cX0_ownNights 59 = .ok (.iload_n 2, 1) := dk_28 (dk_at dksX0_ownNights_2 14 rfl rfl)
theorem dX0_ownNights_60 : decode cX0_ownNights 60 = .ok (.invokevirtual 193, 3) := dk_182 0 193 (dk_at dksX0_ownNights_2 15 rfl rfl)
theorem dX0_ownNights_63 : decode cX0_ownNights 63 = .ok (.aload 5, 2) := dk_25 5 (dk_at dksX0_ownNights_2 18 rfl rfl)
theorem dX0_ownNights_65 : decode cX0_ownNights 65 = .ok (.getfield 190, 3) := dk_180 0 190 (dk_at dksX0_ownNights_2 20 rfl rfl)
theorem dX0_ownNights_68 : decode cX0_ownNights 68 = .ok (.iload_n 2, 1) := dk_28 (dk_at dksX0_ownNights_2 23 rfl rfl)
theorem dX0_ownNights_69 : decode cX0_ownNights 69 = .ok (.iaload, 1) := dk_46 (dk_at dksX0_ownNights_3 0 rfl rfl)
theorem dX0_ownNights_70 : decode cX0_ownNights 70 = .ok (.if_icmp .ne 7, 3) := dk_160 0 7 (dk_at dksX0_ownNights_3 1 rfl rfl)
theorem dX0_ownNights_73 : decode cX0_ownNights 73 = .ok (.iconst 1, 1) := dk_4 (dk_at dksX0_ownNights_3 4 rfl rfl)
theorem dX0_ownNights_74 : decode cX0_ownNights 74 = .ok (.goto 4, 3) := dk_167 0 4 (dk_at dksX0_ownNights_3 5 rfl rfl)
theorem dX0_ownNights_77 : decode cX0_ownNights 77 = .ok (.iconst 0, 1) := dk_3 (dk_at dksX0_ownNights_3 8 rfl rfl)
theorem dX0_ownNights_78 : decode cX0_ownNights 78 = .ok (.iadd, 1) := dk_96 (dk_at dksX0_ownNights_3 9 rfl rfl)
theorem dX0_ownNights_79 : decode cX0_ownNights 79 = .ok (.istore 6, 2) := dk_54 6 (dk_at dksX0_ownNights_3 10 rfl rfl)
theorem dX0_ownNights_81 : decode cX0_ownNights 81 = .ok (.iinc 7 1, 3) := dk_132 7 1 (dk_at dksX0_ownNights_3 12 rfl rfl)
theorem dX0_ownNights_84 : decode cX0_ownNights 84 = .ok (.goto (-65), 3) := dk_167 255 191 (dk_at dksX0_ownNights_3 15 rfl rfl)
theorem dX0_ownNights_87 : decode cX0_ownNights 87 = .ok (.iload 6, 2) := dk_21 6 (dk_at dksX0_ownNights_3 18 rfl rfl)
theorem dX0_ownNights_89 : decode cX0_ownNights 89 = .ok (.ireturn, 1) := dk_172 (dk_at dksX0_ownNights_3 20 rfl rfl)
abbrev cX0_peace : ByteArray := prog_1_method_44_code
def yX0_peace : MethodName := ⟨RX0, "peace", "(II)I"⟩
def dkwX0_peace_5 : List UInt8 := [184, 1, 75, 167, 0, 4, 29, 172]
abbrev dktX0_peace_5 : List UInt8 := dkwX0_peace_5 ++ []
def dkwX0_peace_4 : List UInt8 := [21, 4, 62, 132, 4, 1, 167, 255, 193, 29, 2, 160, 0, 8, 16, 254, 167, 0, 15, 28, 154, 0, 10, 29]
abbrev dktX0_peace_4 : List UInt8 := dkwX0_peace_4 ++ dktX0_peace_5
def dkwX0_peace_3 : List UInt8 := [184, 1, 75, 29, 184, 1, 75, 161, 0, 6, 167, 0, 16, 42, 21, 4, 27, 182, 1, 80, 153, 0, 6]
abbrev dktX0_peace_3 : List UInt8 := dkwX0_peace_3 ++ dktX0_peace_4
def dkwX0_peace_2 : List UInt8 := [162, 0, 55, 21, 4, 42, 180, 0, 150, 180, 0, 251, 126, 154, 0, 36, 29, 2, 159, 0, 18, 21, 4]
abbrev dktX0_peace_2 : List UInt8 := dkwX0_peace_2 ++ dktX0_peace_3
def dkwX0_peace_1 : List UInt8 := [184, 0, 241, 154, 0, 5, 2, 172, 2, 62, 3, 54, 4, 21, 4, 4, 42, 180, 0, 150, 180, 0, 166, 120]
abbrev dktX0_peace_1 : List UInt8 := dkwX0_peace_1 ++ dktX0_peace_2
def dkwX0_peace_0 : List UInt8 := [42, 180, 0, 150, 198, 0, 25, 27, 133, 10, 20, 1, 69, 184, 0, 241, 153, 0, 13, 28, 133, 9, 10]
abbrev dktX0_peace_0 : List UInt8 := dkwX0_peace_0 ++ dktX0_peace_1
theorem dksX0_peace_0 : cX0_peace.data.toList.drop 0 = dktX0_peace_0 := by decide +kernel
theorem dksX0_peace_1 : cX0_peace.data.toList.drop 23 = dktX0_peace_1 := dk_seg dksX0_peace_0 23 rfl rfl
theorem dksX0_peace_2 : cX0_peace.data.toList.drop 47 = dktX0_peace_2 := dk_seg dksX0_peace_1 24 rfl rfl
theorem dksX0_peace_3 : cX0_peace.data.toList.drop 70 = dktX0_peace_3 := dk_seg dksX0_peace_2 23 rfl rfl
theorem dksX0_peace_4 : cX0_peace.data.toList.drop 93 = dktX0_peace_4 := dk_seg dksX0_peace_3 23 rfl rfl
theorem dksX0_peace_5 : cX0_peace.data.toList.drop 117 = dktX0_peace_5 := dk_seg dksX0_peace_4 24 rfl rfl
theorem dX0_peace_0 : decode cX0_peace 0 = .ok (.aload_n 0, 1) := dk_42 (dk_at dksX0_peace_0 0 rfl rfl)
theorem dX0_peace_1 : decode cX0_peace 1 = .ok (.getfield 150, 3) := dk_180 0 150 (dk_at dksX0_peace_0 1 rfl rfl)
theorem dX0_peace_4 : decode cX0_peace 4 = .ok (.ifnull 25, 3) := dk_198 0 25 (dk_at dksX0_peace_0 4 rfl rfl)
theorem dX0_peace_7 : decode cX0_peace 7 = .ok (.iload_n 1, 1) := dk_27 (dk_at dksX0_peace_0 7 rfl rfl)
theorem dX0_peace_8 : decode cX0_peace 8 = .ok (.i2l, 1) := dk_133 (dk_at dksX0_peace_0 8 rfl rfl)
theorem dX0_peace_9 : decode cX0_peace 9 = .ok (.lconst 1, 1) := dk_10 (dk_at dksX0_peace_0 9 rfl rfl)
theorem dX0_peace_10 : decode cX0_peace 10 = .ok (.ldc2_w 325, 3) := dk_20 1 69 (dk_at dksX0_peace_0 10 rfl rfl)
theorem dX0_peace_13 : decode cX0_peace 13 = .ok (.invokestatic 241, 3) := dk_184 0 241 (dk_at dksX0_peace_0 13 rfl rfl)
theorem dX0_peace_16 : decode cX0_peace 16 = .ok (.ifCond .eq 13, 3) := dk_153 0 13 (dk_at dksX0_peace_0 16 rfl rfl)
theorem dX0_peace_19 : decode cX0_peace 19 = .ok (.iload_n 2, 1) := dk_28 (dk_at dksX0_peace_0 19 rfl rfl)
theorem dX0_peace_20 : decode cX0_peace 20 = .ok (.i2l, 1) := dk_133 (dk_at dksX0_peace_0 20 rfl rfl)
theorem dX0_peace_21 : decode cX0_peace 21 = .ok (.lconst 0, 1) := dk_9 (dk_at dksX0_peace_0 21 rfl rfl)
theorem dX0_peace_22 : decode cX0_peace 22 = .ok (.lconst 1, 1) := dk_10 (dk_at dksX0_peace_0 22 rfl rfl)
theorem dX0_peace_23 : decode cX0_peace 23 = .ok (.invokestatic 241, 3) := dk_184 0 241 (dk_at dksX0_peace_1 0 rfl rfl)
theorem dX0_peace_26 : decode cX0_peace 26 = .ok (.ifCond .ne 5, 3) := dk_154 0 5 (dk_at dksX0_peace_1 3 rfl rfl)
theorem dX0_peace_29 : decode cX0_peace 29 = .ok (.iconst (-1), 1) := dk_2 (dk_at dksX0_peace_1 6 rfl rfl)
theorem dX0_peace_30 : decode cX0_peace 30 = .ok (.ireturn, 1) := dk_172 (dk_at dksX0_peace_1 7 rfl rfl)
theorem dX0_peace_31 : decode cX0_peace 31 = .ok (.iconst (-1), 1) := dk_2 (dk_at dksX0_peace_1 8 rfl rfl)
theorem dX0_peace_32 : decode cX0_peace 32 = .ok (.istore_n 3, 1) := dk_62 (dk_at dksX0_peace_1 9 rfl rfl)
theorem dX0_peace_33 : decode cX0_peace 33 = .ok (.iconst 0, 1) := dk_3 (dk_at dksX0_peace_1 10 rfl rfl)
theorem dX0_peace_34 : decode cX0_peace 34 = .ok (.istore 4, 2) := dk_54 4 (dk_at dksX0_peace_1 11 rfl rfl)
theorem dX0_peace_36 : decode cX0_peace 36 = .ok (.iload 4, 2) := dk_21 4 (dk_at dksX0_peace_1 13 rfl rfl)
theorem dX0_peace_38 : decode cX0_peace 38 = .ok (.iconst 1, 1) := dk_4 (dk_at dksX0_peace_1 15 rfl rfl)
theorem dX0_peace_39 : decode cX0_peace 39 = .ok (.aload_n 0, 1) := dk_42 (dk_at dksX0_peace_1 16 rfl rfl)
theorem dX0_peace_40 : decode cX0_peace 40 = .ok (.getfield 150, 3) := dk_180 0 150 (dk_at dksX0_peace_1 17 rfl rfl)
theorem dX0_peace_43 : decode cX0_peace 43 = .ok (.getfield 166, 3) := dk_180 0 166 (dk_at dksX0_peace_1 20 rfl rfl)
theorem dX0_peace_46 : decode cX0_peace 46 = .ok (.ishl, 1) := dk_120 (dk_at dksX0_peace_1 23 rfl rfl)
theorem dX0_peace_47 : decode cX0_peace 47 = .ok (.if_icmp .ge 55, 3) := dk_162 0 55 (dk_at dksX0_peace_2 0 rfl rfl)
theorem dX0_peace_50 : decode cX0_peace 50 = .ok (.iload 4, 2) := dk_21 4 (dk_at dksX0_peace_2 3 rfl rfl)
theorem dX0_peace_52 : decode cX0_peace 52 = .ok (.aload_n 0, 1) := dk_42 (dk_at dksX0_peace_2 5 rfl rfl)
theorem dX0_peace_53 : decode cX0_peace 53 = .ok (.getfield 150, 3) := dk_180 0 150 (dk_at dksX0_peace_2 6 rfl rfl)
theorem dX0_peace_56 : decode cX0_peace 56 = .ok (.getfield 251, 3) := dk_180 0 251 (dk_at dksX0_peace_2 9 rfl rfl)
theorem dX0_peace_59 : decode cX0_peace 59 = .ok (.iand, 1) := dk_126 (dk_at dksX0_peace_2 12 rfl rfl)
theorem dX0_peace_60 : decode cX0_peace 60 = .ok (.ifCond .ne 36, 3) := dk_154 0 36 (dk_at dksX0_peace_2 13 rfl rfl)
theorem dX0_peace_63 : decode cX0_peace 63 = .ok (.iload_n 3, 1) := dk_29 (dk_at dksX0_peace_2 16 rfl rfl)
theorem dX0_peace_64 : decode cX0_peace 64 = .ok (.iconst (-1), 1) := dk_2 (dk_at dksX0_peace_2 17 rfl rfl)
theorem dX0_peace_65 : decode cX0_peace 65 = .ok (.if_icmp .eq 18, 3) := dk_159 0 18 (dk_at dksX0_peace_2 18 rfl rfl)
theorem dX0_peace_68 : decode cX0_peace 68 = .ok (.iload 4, 2) := dk_21 4 (dk_at dksX0_peace_2 21 rfl rfl)
theorem dX0_peace_70 : decode cX0_peace 70 = .ok (.invokestatic 331, 3) := dk_184 1 75 (dk_at dksX0_peace_3 0 rfl rfl)
theorem dX0_peace_73 : decode cX0_peace 73 = .ok (.iload_n 3, 1) := dk_29 (dk_at dksX0_peace_3 3 rfl rfl)
theorem dX0_peace_74 : decode cX0_peace 74 = .ok (.invokestatic 331, 3) := dk_184 1 75 (dk_at dksX0_peace_3 4 rfl rfl)
theorem dX0_peace_77 : decode cX0_peace 77 = .ok (.if_icmp .lt 6, 3) := dk_161 0 6 (dk_at dksX0_peace_3 7 rfl rfl)
theorem dX0_peace_80 : decode cX0_peace 80 = .ok (.goto 16, 3) := dk_167 0 16 (dk_at dksX0_peace_3 10 rfl rfl)
theorem dX0_peace_83 : decode cX0_peace 83 = .ok (.aload_n 0, 1) := dk_42 (dk_at dksX0_peace_3 13 rfl rfl)
theorem dX0_peace_84 : decode cX0_peace 84 = .ok (.iload 4, 2) := dk_21 4 (dk_at dksX0_peace_3 14 rfl rfl)
theorem dX0_peace_86 : decode cX0_peace 86 = .ok (.iload_n 1, 1) := dk_27 (dk_at dksX0_peace_3 16 rfl rfl)
theorem dX0_peace_87 : decode cX0_peace 87 = .ok (.invokevirtual 336, 3) := dk_182 1 80 (dk_at dksX0_peace_3 17 rfl rfl)
theorem dX0_peace_90 : decode cX0_peace 90 = .ok (.ifCond .eq 6, 3) := dk_153 0 6 (dk_at dksX0_peace_3 20 rfl rfl)
theorem dX0_peace_93 : decode cX0_peace 93 = .ok (.iload 4, 2) := dk_21 4 (dk_at dksX0_peace_4 0 rfl rfl)
theorem dX0_peace_95 : decode cX0_peace 95 = .ok (.istore_n 3, 1) := dk_62 (dk_at dksX0_peace_4 2 rfl rfl)
theorem dX0_peace_96 : decode cX0_peace 96 = .ok (.iinc 4 1, 3) := dk_132 4 1 (dk_at dksX0_peace_4 3 rfl rfl)
theorem dX0_peace_99 : decode cX0_peace 99 = .ok (.goto (-63), 3) := dk_167 255 193 (dk_at dksX0_peace_4 6 rfl rfl)
theorem dX0_peace_102 : decode cX0_peace 102 = .ok (.iload_n 3, 1) := dk_29 (dk_at dksX0_peace_4 9 rfl rfl)
theorem dX0_peace_103 : decode cX0_peace 103 = .ok (.iconst (-1), 1) := dk_2 (dk_at dksX0_peace_4 10 rfl rfl)
theorem dX0_peace_104 : decode cX0_peace 104 = .ok (.if_icmp .ne 8, 3) := dk_160 0 8 (dk_at dksX0_peace_4 11 rfl rfl)
theorem dX0_peace_107 : decode cX0_peace 107 = .ok (.bipush (-2), 2) := dk_16 254 (dk_at dksX0_peace_4 14 rfl rfl)
theorem dX0_peace_109 : decode cX0_peace 109 = .ok (.goto 15, 3) := dk_167 0 15 (dk_at dksX0_peace_4 16 rfl rfl)
theorem dX0_peace_112 : decode cX0_peace 112 = .ok (.iload_n 2, 1) := dk_28 (dk_at dksX0_peace_4 19 rfl rfl)
theorem dX0_peace_113 : decode cX0_peace 113 = .ok (.ifCond .ne 10, 3) := dk_154 0 10 (dk_at dksX0_peace_4 20 rfl rfl)
theorem dX0_peace_116 : decode cX0_peace 116 = .ok (.iload_n 3, 1) := dk_29 (dk_at dksX0_peace_4 23 rfl rfl)
theorem dX0_peace_117 : decode cX0_peace 117 = .ok (.invokestatic 331, 3) := dk_184 1 75 (dk_at dksX0_peace_5 0 rfl rfl)
theorem dX0_peace_120 : decode cX0_peace 120 = .ok (.goto 4, 3) := dk_167 0 4 (dk_at dksX0_peace_5 3 rfl rfl)
theorem dX0_peace_123 : decode cX0_peace 123 = .ok (.iload_n 3, 1) := dk_29 (dk_at dksX0_peace_5 6 rfl rfl)
theorem dX0_peace_124 : decode cX0_peace 124 = .ok (.ireturn, 1) := dk_172 (dk_at dksX0_peace_5 7 rfl rfl)
abbrev cX0_isPeace : ByteArray := prog_1_method_43_code
def yX0_isPeace : MethodName := ⟨RX0, "isPeace", "(II)Z"⟩
def dkwX0_isPeace_2 : List UInt8 := [167, 255, 234, 4, 172]
abbrev dktX0_isPeace_2 : List UInt8 := dkwX0_isPeace_2 ++ []
def dkwX0_isPeace_1 : List UInt8 := [54, 4, 21, 4, 28, 162, 0, 22, 45, 42, 182, 0, 227, 182, 0, 230, 158, 0, 5, 3, 172, 132, 4, 1]
abbrev dktX0_isPeace_1 : List UInt8 := dkwX0_isPeace_1 ++ dktX0_isPeace_2
def dkwX0_isPeace_0 : List UInt8 := [42, 180, 0, 25, 42, 180, 0, 150, 182, 0, 146, 78, 45, 89, 180, 0, 251, 27, 128, 181, 0, 251, 3]
abbrev dktX0_isPeace_0 : List UInt8 := dkwX0_isPeace_0 ++ dktX0_isPeace_1
theorem dksX0_isPeace_0 : cX0_isPeace.data.toList.drop 0 = dktX0_isPeace_0 := by decide +kernel
theorem dksX0_isPeace_1 : cX0_isPeace.data.toList.drop 23 = dktX0_isPeace_1 := dk_seg dksX0_isPeace_0 23 rfl rfl
theorem dksX0_isPeace_2 : cX0_isPeace.data.toList.drop 47 = dktX0_isPeace_2 := dk_seg dksX0_isPeace_1 24 rfl rfl
theorem dX0_isPeace_0 : decode cX0_isPeace 0 = .ok (.aload_n 0, 1) := dk_42 (dk_at dksX0_isPeace_0 0 rfl rfl)
theorem dX0_isPeace_1 : decode cX0_isPeace 1 = .ok (.getfield 25, 3) := dk_180 0 25 (dk_at dksX0_isPeace_0 1 rfl rfl)
theorem dX0_isPeace_4 : decode cX0_isPeace 4 = .ok (.aload_n 0, 1) := dk_42 (dk_at dksX0_isPeace_0 4 rfl rfl)
theorem dX0_isPeace_5 : decode cX0_isPeace 5 = .ok (.getfield 150, 3) := dk_180 0 150 (dk_at dksX0_isPeace_0 5 rfl rfl)
theorem dX0_isPeace_8 : decode cX0_isPeace 8 = .ok (.invokevirtual 146, 3) := dk_182 0 146 (dk_at dksX0_isPeace_0 8 rfl rfl)
theorem dX0_isPeace_11 : decode cX0_isPeace 11 = .ok (.astore_n 3, 1) := dk_78 (dk_at dksX0_isPeace_0 11 rfl rfl)
theorem dX0_isPeace_12 : decode cX0_isPeace 12 = .ok (.aload_n 3, 1) := dk_45 (dk_at dksX0_isPeace_0 12 rfl rfl)
theorem dX0_isPeace_13 : decode cX0_isPeace 13 = .ok (.dup, 1) := dk_89 (dk_at dksX0_isPeace_0 13 rfl rfl)
theorem dX0_isPeace_14 : decode cX0_isPeace 14 = .ok (.getfield 251, 3) := dk_180 0 251 (dk_at dksX0_isPeace_0 14 rfl rfl)
theorem dX0_isPeace_17 : decode cX0_isPeace 17 = .ok (.iload_n 1, 1) := dk_27 (dk_at dksX0_isPeace_0 17 rfl rfl)
theorem dX0_isPeace_18 : decode cX0_isPeace 18 = .ok (.ior, 1) := dk_128 (dk_at dksX0_isPeace_0 18 rfl rfl)
theorem dX0_isPeace_19 : decode cX0_isPeace 19 = .ok (.putfield 251, 3) := dk_181 0 251 (dk_at dksX0_isPeace_0 19 rfl rfl)
theorem dX0_isPeace_22 : decode cX0_isPeace 22 = .ok (.iconst 0, 1) := dk_3 (dk_at dksX0_isPeace_0 22 rfl rfl)
theorem dX0_isPeace_23 : decode cX0_isPeace 23 = .ok (.istore 4, 2) := dk_54 4 (dk_at dksX0_isPeace_1 0 rfl rfl)
theorem dX0_isPeace_25 : decode cX0_isPeace 25 = .ok (.iload 4, 2) := dk_21 4 (dk_at dksX0_isPeace_1 2 rfl rfl)
theorem dX0_isPeace_27 : decode cX0_isPeace 27 = .ok (.iload_n 2, 1) := dk_28 (dk_at dksX0_isPeace_1 4 rfl rfl)
theorem dX0_isPeace_28 : decode cX0_isPeace 28 = .ok (.if_icmp .ge 22, 3) := dk_162 0 22 (dk_at dksX0_isPeace_1 5 rfl rfl)
theorem dX0_isPeace_31 : decode cX0_isPeace 31 = .ok (.aload_n 3, 1) := dk_45 (dk_at dksX0_isPeace_1 8 rfl rfl)
theorem dX0_isPeace_32 : decode cX0_isPeace 32 = .ok (.aload_n 0, 1) := dk_42 (dk_at dksX0_isPeace_1 9 rfl rfl)
theorem dX0_isPeace_33 : decode cX0_isPeace 33 = .ok (.invokevirtual 227, 3) := dk_182 0 227 (dk_at dksX0_isPeace_1 10 rfl rfl)
theorem dX0_isPeace_36 : decode cX0_isPeace 36 = .ok (.invokevirtual 230, 3) := dk_182 0 230 (dk_at dksX0_isPeace_1 13 rfl rfl)
theorem dX0_isPeace_39 : decode cX0_isPeace 39 = .ok (.ifCond .le 5, 3) := dk_158 0 5 (dk_at dksX0_isPeace_1 16 rfl rfl)
theorem dX0_isPeace_42 : decode cX0_isPeace 42 = .ok (.iconst 0, 1) := dk_3 (dk_at dksX0_isPeace_1 19 rfl rfl)
theorem dX0_isPeace_43 : decode cX0_isPeace 43 = .ok (.ireturn, 1) := dk_172 (dk_at dksX0_isPeace_1 20 rfl rfl)
theorem dX0_isPeace_44 : decode cX0_isPeace 44 = .ok (.iinc 4 1, 3) := dk_132 4 1 (dk_at dksX0_isPeace_1 21 rfl rfl)
theorem dX0_isPeace_47 : decode cX0_isPeace 47 = .ok (.goto (-22), 3) := dk_167 255 234 (dk_at dksX0_isPeace_2 0 rfl rfl)
theorem dX0_isPeace_50 : decode cX0_isPeace 50 = .ok (.iconst 1, 1) := dk_4 (dk_at dksX0_isPeace_2 3 rfl rfl)
theorem dX0_isPeace_51 : decode cX0_isPeace 51 = .ok (.ireturn, 1) := dk_172 (dk_at dksX0_isPeace_2 4 rfl rfl)
abbrev cX0_part : ByteArray := prog_1_method_46_code
def yX0_part : MethodName := ⟨RX0, "part", "(I)I"⟩
def dkwX0_part_3 : List UInt8 := [167, 0, 4, 29, 29, 28, 184, 1, 83, 108, 172]
abbrev dktX0_part_3 : List UInt8 := dkwX0_part_3 ++ []
def dkwX0_part_2 : List UInt8 := [61, 132, 3, 1, 167, 255, 227, 16, 41, 42, 180, 0, 150, 180, 0, 166, 104, 62, 27, 154, 0, 7, 28]
abbrev dktX0_part_2 : List UInt8 := dkwX0_part_2 ++ dktX0_part_3
def dkwX0_part_1 : List UInt8 := [42, 180, 0, 150, 180, 0, 166, 162, 0, 24, 28, 42, 180, 0, 150, 180, 0, 176, 29, 46, 16, 20, 96, 96]
abbrev dktX0_part_1 : List UInt8 := dkwX0_part_1 ++ dktX0_part_2
def dkwX0_part_0 : List UInt8 := [42, 180, 0, 150, 198, 0, 13, 27, 133, 9, 10, 184, 0, 241, 154, 0, 5, 2, 172, 3, 61, 3, 62, 29]
abbrev dktX0_part_0 : List UInt8 := dkwX0_part_0 ++ dktX0_part_1
theorem dksX0_part_0 : cX0_part.data.toList.drop 0 = dktX0_part_0 := by decide +kernel
theorem dksX0_part_1 : cX0_part.data.toList.drop 24 = dktX0_part_1 := dk_seg dksX0_part_0 24 rfl rfl
theorem dksX0_part_2 : cX0_part.data.toList.drop 48 = dktX0_part_2 := dk_seg dksX0_part_1 24 rfl rfl
theorem dksX0_part_3 : cX0_part.data.toList.drop 71 = dktX0_part_3 := dk_seg dksX0_part_2 23 rfl rfl
theorem dX0_part_0 : decode cX0_part 0 = .ok (.aload_n 0, 1) := dk_42 (dk_at dksX0_part_0 0 rfl rfl)
theorem dX0_part_1 : decode cX0_part 1 = .ok (.getfield 150, 3) := dk_180 0 150 (dk_at dksX0_part_0 1 rfl rfl)
theorem dX0_part_4 : decode cX0_part 4 = .ok (.ifnull 13, 3) := dk_198 0 13 (dk_at dksX0_part_0 4 rfl rfl)
theorem dX0_part_7 : decode cX0_part 7 = .ok (.iload_n 1, 1) := dk_27 (dk_at dksX0_part_0 7 rfl rfl)
theorem dX0_part_8 : decode cX0_part 8 = .ok (.i2l, 1) := dk_133 (dk_at dksX0_part_0 8 rfl rfl)
theorem dX0_part_9 : decode cX0_part 9 = .ok (.lconst 0, 1) := dk_9 (dk_at dksX0_part_0 9 rfl rfl)
theorem dX0_part_10 : decode cX0_part 10 = .ok (.lconst 1, 1) := dk_10 (dk_at dksX0_part_0 10 rfl rfl)
theorem dX0_part_11 : decode cX0_part 11 = .ok (.invokestatic 241, 3) := dk_184 0 241 (dk_at dksX0_part_0 11 rfl rfl)
theorem dX0_part_14 : decode cX0_part 14 = .ok (.ifCond .ne 5, 3) := dk_154 0 5 (dk_at dksX0_part_0 14 rfl rfl)
theorem dX0_part_17 : decode cX0_part 17 = .ok (.iconst (-1), 1) := dk_2 (dk_at dksX0_part_0 17 rfl rfl)
theorem dX0_part_18 : decode cX0_part 18 = .ok (.ireturn, 1) := dk_172 (dk_at dksX0_part_0 18 rfl rfl)
theorem dX0_part_19 : decode cX0_part 19 = .ok (.iconst 0, 1) := dk_3 (dk_at dksX0_part_0 19 rfl rfl)
theorem dX0_part_20 : decode cX0_part 20 = .ok (.istore_n 2, 1) := dk_61 (dk_at dksX0_part_0 20 rfl rfl)
theorem dX0_part_21 : decode cX0_part 21 = .ok (.iconst 0, 1) := dk_3 (dk_at dksX0_part_0 21 rfl rfl)
theorem dX0_part_22 : decode cX0_part 22 = .ok (.istore_n 3, 1) := dk_62 (dk_at dksX0_part_0 22 rfl rfl)
theorem dX0_part_23 : decode cX0_part 23 = .ok (.iload_n 3, 1) := dk_29 (dk_at dksX0_part_0 23 rfl rfl)
theorem dX0_part_24 : decode cX0_part 24 = .ok (.aload_n 0, 1) := dk_42 (dk_at dksX0_part_1 0 rfl rfl)
theorem dX0_part_25 : decode cX0_part 25 = .ok (.getfield 150, 3) := dk_180 0 150 (dk_at dksX0_part_1 1 rfl rfl)
theorem dX0_part_28 : decode cX0_part 28 = .ok (.getfield 166, 3) := dk_180 0 166 (dk_at dksX0_part_1 4 rfl rfl)
theorem dX0_part_31 : decode cX0_part 31 = .ok (.if_icmp .ge 24, 3) := dk_162 0 24 (dk_at dksX0_part_1 7 rfl rfl)
theorem dX0_part_34 : decode cX0_part 34 = .ok (.iload_n 2, 1) := dk_28 (dk_at dksX0_part_1 10 rfl rfl)
theorem dX0_part_35 : decode cX0_part 35 = .ok (.aload_n 0, 1) := dk_42 (dk_at dksX0_part_1 11 rfl rfl)
theorem dX0_part_36 : decode cX0_part 36 = .ok (.getfield 150, 3) := dk_180 0 150 (dk_at dksX0_part_1 12 rfl rfl)
theorem dX0_part_39 : decode cX0_part 39 = .ok (.getfield 176, 3) := dk_180 0 176 (dk_at dksX0_part_1 15 rfl rfl)
theorem dX0_part_42 : decode cX0_part 42 = .ok (.iload_n 3, 1) := dk_29 (dk_at dksX0_part_1 18 rfl rfl)
theorem dX0_part_43 : decode cX0_part 43 = .ok (.iaload, 1) := dk_46 (dk_at dksX0_part_1 19 rfl rfl)
theorem dX0_part_44 : decode cX0_part 44 = .ok (.bipush 20, 2) := dk_16 20 (dk_at dksX0_part_1 20 rfl rfl)
theorem dX0_part_46 : decode cX0_part 46 = .ok (.iadd, 1) := dk_96 (dk_at dksX0_part_1 22 rfl rfl)
theorem dX0_part_47 : decode cX0_part 47 = .ok (.iadd, 1) := dk_96 (dk_at dksX0_part_1 23 rfl rfl)
theorem dX0_part_48 : decode cX0_part 48 = .ok (.istore_n 2, 1) := dk_61 (dk_at dksX0_part_2 0 rfl rfl)
theorem dX0_part_49 : decode cX0_part 49 = .ok (.iinc 3 1, 3) := dk_132 3 1 (dk_at dksX0_part_2 1 rfl rfl)
theorem dX0_part_52 : decode cX0_part 52 = .ok (.goto (-29), 3) := dk_167 255 227 (dk_at dksX0_part_2 4 rfl rfl)
theorem dX0_part_55 : decode cX0_part 55 = .ok (.bipush 41, 2) := dk_16 41 (dk_at dksX0_part_2 7 rfl rfl)
theorem dX0_part_57 : decode cX0_part 57 = .ok (.aload_n 0, 1) := dk_42 (dk_at dksX0_part_2 9 rfl rfl)
theorem dX0_part_58 : decode cX0_part 58 = .ok (.getfield 150, 3) := dk_180 0 150 (dk_at dksX0_part_2 10 rfl rfl)
theorem dX0_part_61 : decode cX0_part 61 = .ok (.getfield 166, 3) := dk_180 0 166 (dk_at dksX0_part_2 13 rfl rfl)
theorem dX0_part_64 : decode cX0_part 64 = .ok (.imul, 1) := dk_104 (dk_at dksX0_part_2 16 rfl rfl)
theorem dX0_part_65 : decode cX0_part 65 = .ok (.istore_n 3, 1) := dk_62 (dk_at dksX0_part_2 17 rfl rfl)
theorem dX0_part_66 : decode cX0_part 66 = .ok (.iload_n 1, 1) := dk_27 (dk_at dksX0_part_2 18 rfl rfl)
theorem dX0_part_67 : decode cX0_part 67 = .ok (.ifCond .ne 7, 3) := dk_154 0 7 (dk_at dksX0_part_2 19 rfl rfl)
theorem dX0_part_70 : decode cX0_part 70 = .ok (.iload_n 2, 1) := dk_28 (dk_at dksX0_part_2 22 rfl rfl)
theorem dX0_part_71 : decode cX0_part 71 = .ok (.goto 4, 3) := dk_167 0 4 (dk_at dksX0_part_3 0 rfl rfl)
theorem dX0_part_74 : decode cX0_part 74 = .ok (.iload_n 3, 1) := dk_29 (dk_at dksX0_part_3 3 rfl rfl)
theorem dX0_part_75 : decode cX0_part 75 = .ok (.iload_n 3, 1) := dk_29 (dk_at dksX0_part_3 4 rfl rfl)
theorem dX0_part_76 : decode cX0_part 76 = .ok (.iload_n 2, 1) := dk_28 (dk_at dksX0_part_3 5 rfl rfl)
theorem dX0_part_77 : decode cX0_part 77 = .ok (.invokestatic 339, 3) := dk_184 1 83 (dk_at dksX0_part_3 6 rfl rfl)
theorem dX0_part_80 : decode cX0_part 80 = .ok (.idiv, 1) := dk_108 (dk_at dksX0_part_3 9 rfl rfl)
theorem dX0_part_81 : decode cX0_part 81 = .ok (.ireturn, 1) := dk_172 (dk_at dksX0_part_3 10 rfl rfl)
abbrev cX0_divisor : ByteArray := prog_1_method_45_code
def yX0_divisor : MethodName := ⟨RX0, "divisor", "(II)I"⟩
def dkwX0_divisor_0 : List UInt8 := [27, 154, 0, 7, 26, 167, 0, 10, 27, 26, 27, 112, 184, 1, 83, 172]
abbrev dktX0_divisor_0 : List UInt8 := dkwX0_divisor_0 ++ []
theorem dksX0_divisor_0 : cX0_divisor.data.toList.drop 0 = dktX0_divisor_0 := by decide +kernel
theorem dX0_divisor_0 : decode cX0_divisor 0 = .ok (.iload_n 1, 1) := dk_27 (dk_at dksX0_divisor_0 0 rfl rfl)
theorem dX0_divisor_1 : decode cX0_divisor 1 = .ok (.ifCond .ne 7, 3) := dk_154 0 7 (dk_at dksX0_divisor_0 1 rfl rfl)
theorem dX0_divisor_4 : decode cX0_divisor 4 = .ok (.iload_n 0, 1) := dk_26 (dk_at dksX0_divisor_0 4 rfl rfl)
theorem dX0_divisor_5 : decode cX0_divisor 5 = .ok (.goto 10, 3) := dk_167 0 10 (dk_at dksX0_divisor_0 5 rfl rfl)
theorem dX0_divisor_8 : decode cX0_divisor 8 = .ok (.iload_n 1, 1) := dk_27 (dk_at dksX0_divisor_0 8 rfl rfl)
theorem dX0_divisor_9 : decode cX0_divisor 9 = .ok (.iload_n 0, 1) := dk_26 (dk_at dksX0_divisor_0 9 rfl rfl)
theorem dX0_divisor_10 : decode cX0_divisor 10 = .ok (.iload_n 1, 1) := dk_27 (dk_at dksX0_divisor_0 10 rfl rfl)
theorem dX0_divisor_11 : decode cX0_divisor 11 = .ok (.irem, 1) := dk_112 (dk_at dksX0_divisor_0 11 rfl rfl)
theorem dX0_divisor_12 : decode cX0_divisor 12 = .ok (.invokestatic 339, 3) := dk_184 1 83 (dk_at dksX0_divisor_0 12 rfl rfl)
theorem dX0_divisor_15 : decode cX0_divisor 15 = .ok (.ireturn, 1) := dk_172 (dk_at dksX0_divisor_0 15 rfl rfl)
abbrev cX0_seed : ByteArray := prog_1_method_47_code
def yX0_seed : MethodName := ⟨RX0, "seed", "(I)I"⟩
def dkwX0_seed_0 : List UInt8 := [27, 156, 0, 5, 2, 172, 42, 180, 1, 86, 61, 42, 27, 181, 1, 86, 28, 172]
abbrev dktX0_seed_0 : List UInt8 := dkwX0_seed_0 ++ []
theorem dksX0_seed_0 : cX0_seed.data.toList.drop 0 = dktX0_seed_0 := by decide +kernel
theorem dX0_seed_0 : decode cX0_seed 0 = .ok (.iload_n 1, 1) := dk_27 (dk_at dksX0_seed_0 0 rfl rfl)
theorem dX0_seed_1 : decode cX0_seed 1 = .ok (.ifCond .ge 5, 3) := dk_156 0 5 (dk_at dksX0_seed_0 1 rfl rfl)
theorem dX0_seed_4 : decode cX0_seed 4 = .ok (.iconst (-1), 1) := dk_2 (dk_at dksX0_seed_0 4 rfl rfl)
theorem dX0_seed_5 : decode cX0_seed 5 = .ok (.ireturn, 1) := dk_172 (dk_at dksX0_seed_0 5 rfl rfl)
theorem dX0_seed_6 : decode cX0_seed 6 = .ok (.aload_n 0, 1) := dk_42 (dk_at dksX0_seed_0 6 rfl rfl)
theorem dX0_seed_7 : decode cX0_seed 7 = .ok (.getfield 342, 3) := dk_180 1 86 (dk_at dksX0_seed_0 7 rfl rfl)
theorem dX0_seed_10 : decode cX0_seed 10 = .ok (.istore_n 2, 1) := dk_61 (dk_at dksX0_seed_0 10 rfl rfl)
theorem dX0_seed_11 : decode cX0_seed 11 = .ok (.aload_n 0, 1) := dk_42 (dk_at dksX0_seed_0 11 rfl rfl)
theorem dX0_seed_12 : decode cX0_seed 12 = .ok (.iload_n 1, 1) := dk_27 (dk_at dksX0_seed_0 12 rfl rfl)
theorem dX0_seed_13 : decode cX0_seed 13 = .ok (.putfield 342, 3) := dk_181 1 86 (dk_at dksX0_seed_0 13 rfl rfl)
theorem dX0_seed_16 : decode cX0_seed 16 = .ok (.iload_n 2, 1) := dk_28 (dk_at dksX0_seed_0 16 rfl rfl)
theorem dX0_seed_17 : decode cX0_seed 17 = .ok (.ireturn, 1) := dk_172 (dk_at dksX0_seed_0 17 rfl rfl)
abbrev cX0_summers : ByteArray := prog_1_method_49_code
def yX0_summers : MethodName := ⟨RX0, "summers", "(III)I"⟩
def dkwX0_summers_8 : List UInt8 := [21, 5, 172]
abbrev dktX0_summers_8 : List UInt8 := dkwX0_summers_8 ++ []
def dkwX0_summers_7 : List UInt8 := [96, 54, 5, 132, 8, 1, 167, 255, 214, 132, 7, 1, 167, 255, 154, 29, 154, 0, 8, 21, 4, 167, 0, 5]
abbrev dktX0_summers_7 : List UInt8 := dkwX0_summers_7 ++ dktX0_summers_8
def dkwX0_summers_6 : List UInt8 := [21, 5, 25, 6, 180, 0, 176, 21, 8, 46, 42, 180, 0, 150, 180, 0, 176, 21, 8, 46, 100, 184, 1, 108]
abbrev dktX0_summers_6 : List UInt8 := dkwX0_summers_6 ++ dktX0_summers_7
def dkwX0_summers_5 : List UInt8 := [54, 4, 132, 8, 1, 167, 255, 227, 3, 54, 8, 21, 8, 42, 180, 0, 150, 180, 0, 166, 162, 0, 36]
abbrev dktX0_summers_5 : List UInt8 := dkwX0_summers_5 ++ dktX0_summers_6
def dkwX0_summers_4 : List UInt8 := [21, 8, 28, 162, 0, 29, 21, 4, 25, 6, 42, 16, 10, 182, 1, 101, 42, 182, 0, 227, 182, 1, 104, 96]
abbrev dktX0_summers_4 : List UInt8 := dkwX0_summers_4 ++ dktX0_summers_5
def dkwX0_summers_3 : List UInt8 := [58, 6, 3, 54, 7, 21, 7, 27, 162, 0, 102, 25, 6, 42, 180, 0, 150, 182, 1, 11, 87, 3, 54, 8]
abbrev dktX0_summers_3 : List UInt8 := dkwX0_summers_3 ++ dktX0_summers_4
def dkwX0_summers_2 : List UInt8 := [180, 1, 86, 181, 1, 89, 3, 54, 4, 3, 54, 5, 42, 180, 0, 25, 42, 180, 0, 150, 182, 0, 146]
abbrev dktX0_summers_2 : List UInt8 := dkwX0_summers_2 ++ dktX0_summers_3
def dkwX0_summers_1 : List UInt8 := [20, 1, 69, 184, 0, 241, 153, 0, 13, 29, 133, 9, 10, 184, 0, 241, 154, 0, 5, 2, 172, 42, 42]
abbrev dktX0_summers_1 : List UInt8 := dkwX0_summers_1 ++ dktX0_summers_2
def dkwX0_summers_0 : List UInt8 := [42, 180, 0, 150, 198, 0, 37, 27, 133, 10, 20, 1, 99, 184, 0, 241, 153, 0, 25, 28, 133, 10]
abbrev dktX0_summers_0 : List UInt8 := dkwX0_summers_0 ++ dktX0_summers_1
theorem dksX0_summers_0 : cX0_summers.data.toList.drop 0 = dktX0_summers_0 := by decide +kernel
theorem dksX0_summers_1 : cX0_summers.data.toList.drop 22 = dktX0_summers_1 := dk_seg dksX0_summers_0 22 rfl rfl
theorem dksX0_summers_2 : cX0_summers.data.toList.drop 45 = dktX0_summers_2 := dk_seg dksX0_summers_1 23 rfl rfl
theorem dksX0_summers_3 : cX0_summers.data.toList.drop 68 = dktX0_summers_3 := dk_seg dksX0_summers_2 23 rfl rfl
theorem dksX0_summers_4 : cX0_summers.data.toList.drop 92 = dktX0_summers_4 := dk_seg dksX0_summers_3 24 rfl rfl
theorem dksX0_summers_5 : cX0_summers.data.toList.drop 116 = dktX0_summers_5 := dk_seg dksX0_summers_4 24 rfl rfl
theorem dksX0_summers_6 : cX0_summers.data.toList.drop 139 = dktX0_summers_6 := dk_seg dksX0_summers_5 23 rfl rfl
theorem dksX0_summers_7 : cX0_summers.data.toList.drop 163 = dktX0_summers_7 := dk_seg dksX0_summers_6 24 rfl rfl
theorem dksX0_summers_8 : cX0_summers.data.toList.drop 187 = dktX0_summers_8 := dk_seg dksX0_summers_7 24 rfl rfl
theorem dX0_summers_0 : decode cX0_summers 0 = .ok (.aload_n 0, 1) := dk_42 (dk_at dksX0_summers_0 0 rfl rfl)
theorem dX0_summers_1 : decode cX0_summers 1 = .ok (.getfield 150, 3) := dk_180 0 150 (dk_at dksX0_summers_0 1 rfl rfl)
theorem dX0_summers_4 : decode cX0_summers 4 = .ok (.ifnull 37, 3) := dk_198 0 37 (dk_at dksX0_summers_0 4 rfl rfl)
theorem dX0_summers_7 : decode cX0_summers 7 = .ok (.iload_n 1, 1) := dk_27 (dk_at dksX0_summers_0 7 rfl rfl)
theorem dX0_summers_8 : decode cX0_summers 8 = .ok (.i2l, 1) := dk_133 (dk_at dksX0_summers_0 8 rfl rfl)
theorem dX0_summers_9 : decode cX0_summers 9 = .ok (.lconst 1, 1) := dk_10 (dk_at dksX0_summers_0 9 rfl rfl)
theorem dX0_summers_10 : decode cX0_summers 10 = .ok (.ldc2_w 355, 3) := dk_20 1 99 (dk_at dksX0_summers_0 10 rfl rfl)
theorem dX0_summers_13 : decode cX0_summers 13 = .ok (.invokestatic 241, 3) := dk_184 0 241 (dk_at dksX0_summers_0 13 rfl rfl)
theorem dX0_summers_16 : decode cX0_summers 16 = .ok (.ifCond .eq 25, 3) := dk_153 0 25 (dk_at dksX0_summers_0 16 rfl rfl)
theorem dX0_summers_19 : decode cX0_summers 19 = .ok (.iload_n 2, 1) := dk_28 (dk_at dksX0_summers_0 19 rfl rfl)
theorem dX0_summers_20 : decode cX0_summers 20 = .ok (.i2l, 1) := dk_133 (dk_at dksX0_summers_0 20 rfl rfl)
theorem dX0_summers_21 : decode cX0_summers 21 = .ok (.lconst 1, 1) := dk_10 (dk_at dksX0_summers_0 21 rfl rfl)
theorem dX0_summers_22 : decode cX0_summers 22 = .ok (.ldc2_w 325, 3) := dk_20 1 69 (dk_at dksX0_summers_1 0 rfl rfl)
theorem dX0_summers_25 : decode cX0_summers 25 = .ok (.invokestatic 241, 3) := dk_184 0 241 (dk_at dksX0_summers_1 3 rfl rfl)
theorem dX0_summers_28 : decode cX0_summers 28 = .ok (.ifCond .eq 13, 3) := dk_153 0 13 (dk_at dksX0_summers_1 6 rfl rfl)
theorem dX0_summers_31 : decode cX0_summers 31 = .ok (.iload_n 3, 1) := dk_29 (dk_at dksX0_summers_1 9 rfl rfl)
theorem dX0_summers_32 : decode cX0_summers 32 = .ok (.i2l, 1) := dk_133 (dk_at dksX0_summers_1 10 rfl rfl)
theorem dX0_summers_33 : decode cX0_summers 33 = .ok (.lconst 0, 1) := dk_9 (dk_at dksX0_summers_1 11 rfl rfl)
theorem dX0_summers_34 : decode cX0_summers 34 = .ok (.lconst 1, 1) := dk_10 (dk_at dksX0_summers_1 12 rfl rfl)
theorem dX0_summers_35 : decode cX0_summers 35 = .ok (.invokestatic 241, 3) := dk_184 0 241 (dk_at dksX0_summers_1 13 rfl rfl)
theorem dX0_summers_38 : decode cX0_summers 38 = .ok (.ifCond .ne 5, 3) := dk_154 0 5 (dk_at dksX0_summers_1 16 rfl rfl)
theorem dX0_summers_41 : decode cX0_summers 41 = .ok (.iconst (-1), 1) := dk_2 (dk_at dksX0_summers_1 19 rfl rfl)
theorem dX0_summers_42 : decode cX0_summers 42 = .ok (.ireturn, 1) := dk_172 (dk_at dksX0_summers_1 20 rfl rfl)
theorem dX0_summers_43 : decode cX0_summers 43 = .ok (.aload_n 0, 1) := dk_42 (dk_at dksX0_summers_1 21 rfl rfl)
theorem dX0_summers_44 : decode cX0_summers 44 = .ok (.aload_n 0, 1) := dk_42 (dk_at dksX0_summers_1 22 rfl rfl)
theorem dX0_summers_45 : decode cX0_summers 45 = .ok (.getfield 342, 3) := dk_180 1 86 (dk_at dksX0_summers_2 0 rfl rfl)
theorem dX0_summers_48 : decode cX0_summers 48 = .ok (.putfield 345, 3) := dk_181 1 89 (dk_at dksX0_summers_2 3 rfl rfl)
theorem dX0_summers_51 : decode cX0_summers 51 = .ok (.iconst 0, 1) := dk_3 (dk_at dksX0_summers_2 6 rfl rfl)
theorem dX0_summers_52 : decode cX0_summers 52 = .ok (.istore 4, 2) := dk_54 4 (dk_at dksX0_summers_2 7 rfl rfl)
theorem dX0_summers_54 : decode cX0_summers 54 = .ok (.iconst 0, 1) := dk_3 (dk_at dksX0_summers_2 9 rfl rfl)
theorem dX0_summers_55 : decode cX0_summers 55 = .ok (.istore 5, 2) := dk_54 5 (dk_at dksX0_summers_2 10 rfl rfl)
theorem dX0_summers_57 : decode cX0_summers 57 = .ok (.aload_n 0, 1) := dk_42 (dk_at dksX0_summers_2 12 rfl rfl)
theorem dX0_summers_58 : decode cX0_summers 58 = .ok (.getfield 25, 3) := dk_180 0 25 (dk_at dksX0_summers_2 13 rfl rfl)
theorem dX0_summers_61 : decode cX0_summers 61 = .ok (.aload_n 0, 1) := dk_42 (dk_at dksX0_summers_2 16 rfl rfl)
theorem dX0_summers_62 : decode cX0_summers 62 = .ok (.getfield 150, 3) := dk_180 0 150 (dk_at dksX0_summers_2 17 rfl rfl)
theorem dX0_summers_65 : decode cX0_summers 65 = .ok (.invokevirtual 146, 3) := dk_182 0 146 (dk_at dksX0_summers_2 20 rfl rfl)
theorem dX0_summers_68 : decode cX0_summers 68 = .ok (.astore 6, 2) := dk_58 6 (dk_at dksX0_summers_3 0 rfl rfl)
theorem dX0_summers_70 : decode cX0_summers 70 = .ok (.iconst 0, 1) := dk_3 (dk_at dksX0_summers_3 2 rfl rfl)
theorem dX0_summers_71 : decode cX0_summers 71 = .ok (.istore 7, 2) := dk_54 7 (dk_at dksX0_summers_3 3 rfl rfl)
theorem dX0_summers_73 : decode cX0_summers 73 = .ok (.iload 7, 2) := dk_21 7 (dk_at dksX0_summers_3 5 rfl rfl)
theorem dX0_summers_75 : decode cX0_summers 75 = .ok (.iload_n 1, 1) := dk_27 (dk_at dksX0_summers_3 7 rfl rfl)
theorem dX0_summers_76 : decode cX0_summers 76 = .ok (.if_icmp .ge 102, 3) := dk_162 0 102 (dk_at dksX0_summers_3 8 rfl rfl)
theorem dX0_summers_79 : decode cX0_summers 79 = .ok (.aload 6, 2) := dk_25 6 (dk_at dksX0_summers_3 11 rfl rfl)
theorem dX0_summers_81 : decode cX0_summers 81 = .ok (.aload_n 0, 1) := dk_42 (dk_at dksX0_summers_3 13 rfl rfl)
theorem dX0_summers_82 : decode cX0_summers 82 = .ok (.getfield 150, 3) := dk_180 0 150 (dk_at dksX0_summers_3 14 rfl rfl)
theorem dX0_summers_85 : decode cX0_summers 85 = .ok (.invokevirtual 267, 3) := dk_182 1 11 (dk_at dksX0_summers_3 17 rfl rfl)
theorem dX0_summers_88 : decode cX0_summers 88 = .ok (.pop, 1) := dk_87 (dk_at dksX0_summers_3 20 rfl rfl)
theorem dX0_summers_89 : decode cX0_summers 89 = .ok (.iconst 0, 1) := dk_3 (dk_at dksX0_summers_3 21 rfl rfl)
theorem dX0_summers_90 : decode cX0_summers 90 = .ok (.istore 8, 2) := dk_54 8 (dk_at dksX0_summers_3 22 rfl rfl)
theorem dX0_summers_92 : decode cX0_summers 92 = .ok (.iload 8, 2) := dk_21 8 (dk_at dksX0_summers_4 0 rfl rfl)
theorem dX0_summers_94 : decode cX0_summers 94 = .ok (.iload_n 2, 1) := dk_28 (dk_at dksX0_summers_4 2 rfl rfl)
theorem dX0_summers_95 : decode cX0_summers 95 = .ok (.if_icmp .ge 29, 3) := dk_162 0 29 (dk_at dksX0_summers_4 3 rfl rfl)
theorem dX0_summers_98 : decode cX0_summers 98 = .ok (.iload 4, 2) := dk_21 4 (dk_at dksX0_summers_4 6 rfl rfl)
theorem dX0_summers_100 : decode cX0_summers 100 = .ok (.aload 6, 2) := dk_25 6 (dk_at dksX0_summers_4 8 rfl rfl)
theorem dX0_summers_102 : decode cX0_summers 102 = .ok (.aload_n 0, 1) := dk_42 (dk_at dksX0_summers_4 10 rfl rfl)
theorem dX0_summers_103 : decode cX0_summers 103 = .ok (.bipush 10, 2) := dk_16 10 (dk_at dksX0_summers_4 11 rfl rfl)
theorem dX0_summers_105 : decode cX0_summers 105 = .ok (.invokevirtual 357, 3) := dk_182 1 101 (dk_at dksX0_summers_4 13 rfl rfl)
theorem dX0_summers_108 : decode cX0_summers 108 = .ok (.aload_n 0, 1) := dk_42 (dk_at dksX0_summers_4 16 rfl rfl)
theorem dX0_summers_109 : decode cX0_summers 109 = .ok (.invokevirtual 227, 3) := dk_182 0 227 (dk_at dksX0_summers_4 17 rfl rfl)
theorem dX0_summers_112 : decode cX0_summers 112 = .ok (.invokevirtual 360, 3) := dk_182 1 104 (dk_at dksX0_summers_4 20 rfl rfl)
theorem dX0_summers_115 : decode cX0_summers 115 = .ok (.iadd, 1) := dk_96 (dk_at dksX0_summers_4 23 rfl rfl)
theorem dX0_summers_116 : decode cX0_summers 116 = .ok (.istore 4, 2) := dk_54 4 (dk_at dksX0_summers_5 0 rfl rfl)
theorem dX0_summers_118 : decode cX0_summers 118 = .ok (.iinc 8 1, 3) := dk_132 8 1 (dk_at dksX0_summers_5 2 rfl rfl)
theorem dX0_summers_121 : decode cX0_summers 121 = .ok (.goto (-29), 3) := dk_167 255 227 (dk_at dksX0_summers_5 5 rfl rfl)
theorem dX0_summers_124 : decode cX0_summers 124 = .ok (.iconst 0, 1) := dk_3 (dk_at dksX0_summers_5 8 rfl rfl)
theorem dX0_summers_125 : decode cX0_summers 125 = .ok (.istore 8, 2) := dk_54 8 (dk_at dksX0_summers_5 9 rfl rfl)
theorem dX0_summers_127 : decode cX0_summers 127 = .ok (.iload 8, 2) := dk_21 8 (dk_at dksX0_summers_5 11 rfl rfl)
theorem dX0_summers_129 : decode cX0_summers 129 = .ok (.aload_n 0, 1) := dk_42 (dk_at dksX0_summers_5 13 rfl rfl)
theorem dX0_summers_130 : decode cX0_summers 130 = .ok (.getfield 150, 3) := dk_180 0 150 (dk_at dksX0_summers_5 14 rfl rfl)
theorem dX0_summers_133 : decode cX0_summers 133 = .ok (.getfield 166, 3) := dk_180 0 166 (dk_at dksX0_summers_5 17 rfl rfl)
theorem dX0_summers_136 : decode cX0_summers 136 = .ok (.if_icmp .ge 36, 3) := dk_162 0 36 (dk_at dksX0_summers_5 20 rfl rfl)
theorem dX0_summers_139 : decode cX0_summers 139 = .ok (.iload 5, 2) := dk_21 5 (dk_at dksX0_summers_6 0 rfl rfl)
theorem dX0_summers_141 : decode cX0_summers 141 = .ok (.aload 6, 2) := dk_25 6 (dk_at dksX0_summers_6 2 rfl rfl)
theorem dX0_summers_143 : decode cX0_summers 143 = .ok (.getfield 176, 3) := dk_180 0 176 (dk_at dksX0_summers_6 4 rfl rfl)
theorem dX0_summers_146 : decode cX0_summers 146 = .ok (.iload 8, 2) := dk_21 8 (dk_at dksX0_summers_6 7 rfl rfl)
theorem dX0_summers_148 : decode cX0_summers 148 = .ok (.iaload, 1) := dk_46 (dk_at dksX0_summers_6 9 rfl rfl)
theorem dX0_summers_149 : decode cX0_summers 149 = .ok (.aload_n 0, 1) := dk_42 (dk_at dksX0_summers_6 10 rfl rfl)
theorem dX0_summers_150 : decode cX0_summers 150 = .ok (.getfield 150, 3) := dk_180 0 150 (dk_at dksX0_summers_6 11 rfl rfl)
theorem dX0_summers_153 : decode cX0_summers 153 = .ok (.getfield 176, 3) := dk_180 0 176 (dk_at dksX0_summers_6 14 rfl rfl)
theorem dX0_summers_156 : decode cX0_summers 156 = .ok (.iload 8, 2) := dk_21 8 (dk_at dksX0_summers_6 17 rfl rfl)
theorem dX0_summers_158 : decode cX0_summers 158 = .ok (.iaload, 1) := dk_46 (dk_at dksX0_summers_6 19 rfl rfl)
theorem dX0_summers_159 : decode cX0_summers 159 = .ok (.isub, 1) := dk_100 (dk_at dksX0_summers_6 20 rfl rfl)
theorem dX0_summers_160 : decode cX0_summers 160 = .ok (.invokestatic 364, 3) := dk_184 1 108 (dk_at dksX0_summers_6 21 rfl rfl)
theorem dX0_summers_163 : decode cX0_summers 163 = .ok (.iadd, 1) := dk_96 (dk_at dksX0_summers_7 0 rfl rfl)
theorem dX0_summers_164 : decode cX0_summers 164 = .ok (.istore 5, 2) := dk_54 5 (dk_at dksX0_summers_7 1 rfl rfl)
theorem dX0_summers_166 : decode cX0_summers 166 = .ok (.iinc 8 1, 3) := dk_132 8 1 (dk_at dksX0_summers_7 3 rfl rfl)
theorem dX0_summers_169 : decode cX0_summers 169 = .ok (.goto (-42), 3) := dk_167 255 214 (dk_at dksX0_summers_7 6 rfl rfl)
theorem dX0_summers_172 : decode cX0_summers 172 = .ok (.iinc 7 1, 3) := dk_132 7 1 (dk_at dksX0_summers_7 9 rfl rfl)
theorem dX0_summers_175 : decode cX0_summers 175 = .ok (.goto (-102), 3) := dk_167 255 154 (dk_at dksX0_summers_7 12 rfl rfl)
theorem dX0_summers_178 : decode cX0_summers 178 = .ok (.iload_n 3, 1) := dk_29 (dk_at dksX0_summers_7 15 rfl rfl)
theorem dX0_summers_179 : decode cX0_summers 179 = .ok (.ifCond .ne 8, 3) := dk_154 0 8 (dk_at dksX0_summers_7 16 rfl rfl)
theorem dX0_summers_182 : decode cX0_summers 182 = .ok (.iload 4, 2) := dk_21 4 (dk_at dksX0_summers_7 19 rfl rfl)
theorem dX0_summers_184 : decode cX0_summers 184 = .ok (.goto 5, 3) := dk_167 0 5 (dk_at dksX0_summers_7 21 rfl rfl)
theorem dX0_summers_187 : decode cX0_summers 187 = .ok (.iload 5, 2) := dk_21 5 (dk_at dksX0_summers_8 0 rfl rfl)
theorem dX0_summers_189 : decode cX0_summers 189 = .ok (.ireturn, 1) := dk_172 (dk_at dksX0_summers_8 2 rfl rfl)
abbrev cX0_draw : ByteArray := prog_1_method_48_code
def yX0_draw : MethodName := ⟨RX0, "draw", "(I)I"⟩
def dkwX0_draw_1 : List UInt8 := [180, 1, 89, 19, 1, 98, 108, 27, 112, 172]
abbrev dktX0_draw_1 : List UInt8 := dkwX0_draw_1 ++ []
def dkwX0_draw_0 : List UInt8 := [42, 42, 180, 1, 89, 133, 20, 1, 92, 105, 20, 1, 94, 97, 20, 1, 96, 113, 136, 181, 1, 89, 42]
abbrev dktX0_draw_0 : List UInt8 := dkwX0_draw_0 ++ dktX0_draw_1
theorem dksX0_draw_0 : cX0_draw.data.toList.drop 0 = dktX0_draw_0 := by decide +kernel
theorem dksX0_draw_1 : cX0_draw.data.toList.drop 23 = dktX0_draw_1 := dk_seg dksX0_draw_0 23 rfl rfl
theorem dX0_draw_0 : decode cX0_draw 0 = .ok (.aload_n 0, 1) := dk_42 (dk_at dksX0_draw_0 0 rfl rfl)
theorem dX0_draw_1 : decode cX0_draw 1 = .ok (.aload_n 0, 1) := dk_42 (dk_at dksX0_draw_0 1 rfl rfl)
theorem dX0_draw_2 : decode cX0_draw 2 = .ok (.getfield 345, 3) := dk_180 1 89 (dk_at dksX0_draw_0 2 rfl rfl)
theorem dX0_draw_5 : decode cX0_draw 5 = .ok (.i2l, 1) := dk_133 (dk_at dksX0_draw_0 5 rfl rfl)
theorem dX0_draw_6 : decode cX0_draw 6 = .ok (.ldc2_w 348, 3) := dk_20 1 92 (dk_at dksX0_draw_0 6 rfl rfl)
theorem dX0_draw_9 : decode cX0_draw 9 = .ok (.lmul, 1) := dk_105 (dk_at dksX0_draw_0 9 rfl rfl)
theorem dX0_draw_10 : decode cX0_draw 10 = .ok (.ldc2_w 350, 3) := dk_20 1 94 (dk_at dksX0_draw_0 10 rfl rfl)
theorem dX0_draw_13 : decode cX0_draw 13 = .ok (.ladd, 1) := dk_97 (dk_at dksX0_draw_0 13 rfl rfl)
theorem dX0_draw_14 : decode cX0_draw 14 = .ok (.ldc2_w 352, 3) := dk_20 1 96 (dk_at dksX0_draw_0 14 rfl rfl)
theorem dX0_draw_17 : decode cX0_draw 17 = .ok (.lrem, 1) := dk_113 (dk_at dksX0_draw_0 17 rfl rfl)
theorem dX0_draw_18 : decode cX0_draw 18 = .ok (.l2i, 1) := dk_136 (dk_at dksX0_draw_0 18 rfl rfl)
theorem dX0_draw_19 : decode cX0_draw 19 = .ok (.putfield 345, 3) := dk_181 1 89 (dk_at dksX0_draw_0 19 rfl rfl)
theorem dX0_draw_22 : decode cX0_draw 22 = .ok (.aload_n 0, 1) := dk_42 (dk_at dksX0_draw_0 22 rfl rfl)
theorem dX0_draw_23 : decode cX0_draw 23 = .ok (.getfield 345, 3) := dk_180 1 89 (dk_at dksX0_draw_1 0 rfl rfl)
theorem dX0_draw_26 : decode cX0_draw 26 = .ok (.ldc_w 354, 3) := dk_19 1 98 (dk_at dksX0_draw_1 3 rfl rfl)
theorem dX0_draw_29 : decode cX0_draw 29 = .ok (.idiv, 1) := dk_108 (dk_at dksX0_draw_1 6 rfl rfl)
theorem dX0_draw_30 : decode cX0_draw 30 = .ok (.iload_n 1, 1) := dk_27 (dk_at dksX0_draw_1 7 rfl rfl)
theorem dX0_draw_31 : decode cX0_draw 31 = .ok (.irem, 1) := dk_112 (dk_at dksX0_draw_1 8 rfl rfl)
theorem dX0_draw_32 : decode cX0_draw 32 = .ok (.ireturn, 1) := dk_172 (dk_at dksX0_draw_1 9 rfl rfl)
abbrev cX0_count : ByteArray := prog_1_method_50_code
def yX0_count : MethodName := ⟨RX0, "count", "(I)I"⟩
def dkwX0_count_9 : List UInt8 := [172]
abbrev dktX0_count_9 : List UInt8 := dkwX0_count_9 ++ []
def dkwX0_count_8 : List UInt8 := [61, 132, 3, 1, 167, 255, 230, 28, 172, 42, 180, 0, 150, 180, 1, 31, 172, 42, 180, 0, 150, 180, 0, 203]
abbrev dktX0_count_8 : List UInt8 := dkwX0_count_8 ++ dktX0_count_9
def dkwX0_count_7 : List UInt8 := [3, 62, 29, 42, 180, 0, 150, 180, 0, 152, 162, 0, 21, 28, 42, 180, 0, 150, 180, 0, 197, 29, 46, 96]
abbrev dktX0_count_7 : List UInt8 := dkwX0_count_7 ++ dktX0_count_8
def dkwX0_count_6 : List UInt8 := [42, 180, 0, 150, 180, 1, 115, 172, 42, 180, 0, 150, 180, 0, 221, 172, 42, 180, 0, 150, 180, 0, 251, 172]
abbrev dktX0_count_6 : List UInt8 := dkwX0_count_6 ++ dktX0_count_7
def dkwX0_count_5 : List UInt8 := [42, 180, 0, 150, 180, 0, 166, 172, 42, 180, 0, 150, 180, 1, 113, 172, 42, 180, 0, 150, 180, 0, 152, 172]
abbrev dktX0_count_5 : List UInt8 := dkwX0_count_5 ++ dktX0_count_6
def dkwX0_count_4 : List UInt8 := [170, 0, 0, 0, 0, 143, 0, 0, 0, 0, 0, 0, 0, 9, 0, 0, 0, 54, 0, 0, 0, 62, 0, 0, 0, 70, 0, 0, 0, 78, 0, 0, 0, 143, 0, 0, 0, 143, 0, 0, 0, 86, 0, 0, 0, 94, 0, 0, 0, 102, 0, 0, 0, 135]
abbrev dktX0_count_4 : List UInt8 := dkwX0_count_4 ++ dktX0_count_5
def dkwX0_count_3 : List UInt8 := [20, 1, 111, 184, 0, 241, 154, 0, 5, 2, 172, 42, 180, 0, 150, 199, 0, 5, 3, 172, 3, 61, 27]
abbrev dktX0_count_3 : List UInt8 := dkwX0_count_3 ++ dktX0_count_4
def dkwX0_count_2 : List UInt8 := [42, 180, 0, 159, 172, 42, 180, 0, 38, 172, 42, 180, 1, 86, 172, 42, 180, 0, 124, 172, 27, 133, 9]
abbrev dktX0_count_2 : List UInt8 := dkwX0_count_2 ++ dktX0_count_3
def dkwX0_count_1 : List UInt8 := [170, 0, 0, 0, 0, 0, 71, 0, 0, 0, 4, 0, 0, 0, 12, 0, 0, 0, 51, 0, 0, 0, 56, 0, 0, 0, 71, 0, 0, 0, 71, 0, 0, 0, 71, 0, 0, 0, 71, 0, 0, 0, 71, 0, 0, 0, 61, 0, 0, 0, 66]
abbrev dktX0_count_1 : List UInt8 := dkwX0_count_1 ++ dktX0_count_2
def dkwX0_count_0 : List UInt8 := [27]
abbrev dktX0_count_0 : List UInt8 := dkwX0_count_0 ++ dktX0_count_1
theorem dksX0_count_0 : cX0_count.data.toList.drop 0 = dktX0_count_0 := by decide +kernel
theorem dksX0_count_1 : cX0_count.data.toList.drop 1 = dktX0_count_1 := dk_seg dksX0_count_0 1 rfl rfl
theorem dksX0_count_2 : cX0_count.data.toList.drop 52 = dktX0_count_2 := dk_seg dksX0_count_1 51 rfl rfl
theorem dksX0_count_3 : cX0_count.data.toList.drop 75 = dktX0_count_3 := dk_seg dksX0_count_2 23 rfl rfl
theorem dksX0_count_4 : cX0_count.data.toList.drop 98 = dktX0_count_4 := dk_seg dksX0_count_3 23 rfl rfl
theorem dksX0_count_5 : cX0_count.data.toList.drop 152 = dktX0_count_5 := dk_seg dksX0_count_4 54 rfl rfl
theorem dksX0_count_6 : cX0_count.data.toList.drop 176 = dktX0_count_6 := dk_seg dksX0_count_5 24 rfl rfl
theorem dksX0_count_7 : cX0_count.data.toList.drop 200 = dktX0_count_7 := dk_seg dksX0_count_6 24 rfl rfl
theorem dksX0_count_8 : cX0_count.data.toList.drop 224 = dktX0_count_8 := dk_seg dksX0_count_7 24 rfl rfl
theorem dksX0_count_9 : cX0_count.data.toList.drop 248 = dktX0_count_9 := dk_seg dksX0_count_8 24 rfl rfl
theorem dX0_count_0 : decode cX0_count 0 = .ok (.iload_n 1, 1) := dk_27 (dk_at dksX0_count_0 0 rfl rfl)
theorem dX0_count_1 : decode cX0_count 1 = .ok (.tableswitch 71 4 12 #[51, 56, 71, 71, 71, 71, 71, 61, 66], 51) := by decide +kernel
theorem dX0_count_52 : decode cX0_count 52 = .ok (.aload_n 0, 1) := dk_42 (dk_at dksX0_count_2 0 rfl rfl)
theorem dX0_count_53 : decode cX0_count 53 = .ok (.getfield 159, 3) := dk_180 0 159 (dk_at dksX0_count_2 1 rfl rfl)
theorem dX0_count_56 : decode cX0_count 56 = .ok (.ireturn, 1) := dk_172 (dk_at dksX0_count_2 4 rfl rfl)
theorem dX0_count_57 : decode cX0_count 57 = .ok (.aload_n 0, 1) := dk_42 (dk_at dksX0_count_2 5 rfl rfl)
theorem dX0_count_58 : decode cX0_count 58 = .ok (.getfield 38, 3) := dk_180 0 38 (dk_at dksX0_count_2 6 rfl rfl)
theorem dX0_count_61 : decode cX0_count 61 = .ok (.ireturn, 1) := dk_172 (dk_at dksX0_count_2 9 rfl rfl)
theorem dX0_count_62 : decode cX0_count 62 = .ok (.aload_n 0, 1) := dk_42 (dk_at dksX0_count_2 10 rfl rfl)
theorem dX0_count_63 : decode cX0_count 63 = .ok (.getfield 342, 3) := dk_180 1 86 (dk_at dksX0_count_2 11 rfl rfl)
theorem dX0_count_66 : decode cX0_count 66 = .ok (.ireturn, 1) := dk_172 (dk_at dksX0_count_2 14 rfl rfl)
theorem dX0_count_67 : decode cX0_count 67 = .ok (.aload_n 0, 1) := dk_42 (dk_at dksX0_count_2 15 rfl rfl)
theorem dX0_count_68 : decode cX0_count 68 = .ok (.getfield 124, 3) := dk_180 0 124 (dk_at dksX0_count_2 16 rfl rfl)
theorem dX0_count_71 : decode cX0_count 71 = .ok (.ireturn, 1) := dk_172 (dk_at dksX0_count_2 19 rfl rfl)
theorem dX0_count_72 : decode cX0_count 72 = .ok (.iload_n 1, 1) := dk_27 (dk_at dksX0_count_2 20 rfl rfl)
theorem dX0_count_73 : decode cX0_count 73 = .ok (.i2l, 1) := dk_133 (dk_at dksX0_count_2 21 rfl rfl)
theorem dX0_count_74 : decode cX0_count 74 = .ok (.lconst 0, 1) := dk_9 (dk_at dksX0_count_2 22 rfl rfl)
theorem dX0_count_75 : decode cX0_count 75 = .ok (.ldc2_w 367, 3) := dk_20 1 111 (dk_at dksX0_count_3 0 rfl rfl)
theorem dX0_count_78 : decode cX0_count 78 = .ok (.invokestatic 241, 3) := dk_184 0 241 (dk_at dksX0_count_3 3 rfl rfl)
theorem dX0_count_81 : decode cX0_count 81 = .ok (.ifCond .ne 5, 3) := dk_154 0 5 (dk_at dksX0_count_3 6 rfl rfl)
theorem dX0_count_84 : decode cX0_count 84 = .ok (.iconst (-1), 1) := dk_2 (dk_at dksX0_count_3 9 rfl rfl)
theorem dX0_count_85 : decode cX0_count 85 = .ok (.ireturn, 1) := dk_172 (dk_at dksX0_count_3 10 rfl rfl)
theorem dX0_count_86 : decode cX0_count 86 = .ok (.aload_n 0, 1) := dk_42 (dk_at dksX0_count_3 11 rfl rfl)
theorem dX0_count_87 : decode cX0_count 87 = .ok (.getfield 150, 3) := dk_180 0 150 (dk_at dksX0_count_3 12 rfl rfl)
theorem dX0_count_90 : decode cX0_count 90 = .ok (.ifnonnull 5, 3) := dk_199 0 5 (dk_at dksX0_count_3 15 rfl rfl)
theorem dX0_count_93 : decode cX0_count 93 = .ok (.iconst 0, 1) := dk_3 (dk_at dksX0_count_3 18 rfl rfl)
theorem dX0_count_94 : decode cX0_count 94 = .ok (.ireturn, 1) := dk_172 (dk_at dksX0_count_3 19 rfl rfl)
theorem dX0_count_95 : decode cX0_count 95 = .ok (.iconst 0, 1) := dk_3 (dk_at dksX0_count_3 20 rfl rfl)
theorem dX0_count_96 : decode cX0_count 96 = .ok (.istore_n 2, 1) := dk_61 (dk_at dksX0_count_3 21 rfl rfl)
theorem dX0_count_97 : decode cX0_count 97 = .ok (.iload_n 1, 1) := dk_27 (dk_at dksX0_count_3 22 rfl rfl)
theorem dX0_count_98 : decode cX0_count 98 = .ok (.tableswitch 143 0 9 #[54, 62, 70, 78, 143, 143, 86, 94, 102, 135], 54) := by decide +kernel
theorem dX0_count_152 : decode cX0_count 152 = .ok (.aload_n 0, 1) := dk_42 (dk_at dksX0_count_5 0 rfl rfl)
theorem dX0_count_153 : decode cX0_count 153 = .ok (.getfield 150, 3) := dk_180 0 150 (dk_at dksX0_count_5 1 rfl rfl)
theorem dX0_count_156 : decode cX0_count 156 = .ok (.getfield 166, 3) := dk_180 0 166 (dk_at dksX0_count_5 4 rfl rfl)
theorem dX0_count_159 : decode cX0_count 159 = .ok (.ireturn, 1) := dk_172 (dk_at dksX0_count_5 7 rfl rfl)
theorem dX0_count_160 : decode cX0_count 160 = .ok (.aload_n 0, 1) := dk_42 (dk_at dksX0_count_5 8 rfl rfl)
theorem dX0_count_161 : decode cX0_count 161 = .ok (.getfield 150, 3) := dk_180 0 150 (dk_at dksX0_count_5 9 rfl rfl)
theorem dX0_count_164 : decode cX0_count 164 = .ok (.getfield 369, 3) := dk_180 1 113 (dk_at dksX0_count_5 12 rfl rfl)
theorem dX0_count_167 : decode cX0_count 167 = .ok (.ireturn, 1) := dk_172 (dk_at dksX0_count_5 15 rfl rfl)
theorem dX0_count_168 : decode cX0_count 168 = .ok (.aload_n 0, 1) := dk_42 (dk_at dksX0_count_5 16 rfl rfl)
theorem dX0_count_169 : decode cX0_count 169 = .ok (.getfield 150, 3) := dk_180 0 150 (dk_at dksX0_count_5 17 rfl rfl)
theorem dX0_count_172 : decode cX0_count 172 = .ok (.getfield 152, 3) := dk_180 0 152 (dk_at dksX0_count_5 20 rfl rfl)
theorem dX0_count_175 : decode cX0_count 175 = .ok (.ireturn, 1) := dk_172 (dk_at dksX0_count_5 23 rfl rfl)
theorem dX0_count_176 : decode cX0_count 176 = .ok (.aload_n 0, 1) := dk_42 (dk_at dksX0_count_6 0 rfl rfl)
theorem dX0_count_177 : decode cX0_count 177 = .ok (.getfield 150, 3) := dk_180 0 150 (dk_at dksX0_count_6 1 rfl rfl)
theorem dX0_count_180 : decode cX0_count 180 = .ok (.getfield 371, 3) := dk_180 1 115 (dk_at dksX0_count_6 4 rfl rfl)
theorem dX0_count_183 : decode cX0_count 183 = .ok (.ireturn, 1) := dk_172 (dk_at dksX0_count_6 7 rfl rfl)
theorem dX0_count_184 : decode cX0_count 184 = .ok (.aload_n 0, 1) := dk_42 (dk_at dksX0_count_6 8 rfl rfl)
theorem dX0_count_185 : decode cX0_count 185 = .ok (.getfield 150, 3) := dk_180 0 150 (dk_at dksX0_count_6 9 rfl rfl)
theorem dX0_count_188 : decode cX0_count 188 = .ok (.getfield 221, 3) := dk_180 0 221 (dk_at dksX0_count_6 12 rfl rfl)
theorem dX0_count_191 : decode cX0_count 191 = .ok (.ireturn, 1) := dk_172 (dk_at dksX0_count_6 15 rfl rfl)
theorem dX0_count_192 : decode cX0_count 192 = .ok (.aload_n 0, 1) := dk_42 (dk_at dksX0_count_6 16 rfl rfl)
theorem dX0_count_193 : decode cX0_count 193 = .ok (.getfield 150, 3) := dk_180 0 150 (dk_at dksX0_count_6 17 rfl rfl)
theorem dX0_count_196 : decode cX0_count 196 = .ok (.getfield 251, 3) := dk_180 0 251 (dk_at dksX0_count_6 20 rfl rfl)
theorem dX0_count_199 : decode cX0_count 199 = .ok (.ireturn, 1) := dk_172 (dk_at dksX0_count_6 23 rfl rfl)
theorem dX0_count_200 : decode cX0_count 200 = .ok (.iconst 0, 1) := dk_3 (dk_at dksX0_count_7 0 rfl rfl)
theorem dX0_count_201 : decode cX0_count 201 = .ok (.istore_n 3, 1) := dk_62 (dk_at dksX0_count_7 1 rfl rfl)
theorem dX0_count_202 : decode cX0_count 202 = .ok (.iload_n 3, 1) := dk_29 (dk_at dksX0_count_7 2 rfl rfl)
theorem dX0_count_203 : decode cX0_count 203 = .ok (.aload_n 0, 1) := dk_42 (dk_at dksX0_count_7 3 rfl rfl)
theorem dX0_count_204 : decode cX0_count 204 = .ok (.getfield 150, 3) := dk_180 0 150 (dk_at dksX0_count_7 4 rfl rfl)
theorem dX0_count_207 : decode cX0_count 207 = .ok (.getfield 152, 3) := dk_180 0 152 (dk_at dksX0_count_7 7 rfl rfl)
theorem dX0_count_210 : decode cX0_count 210 = .ok (.if_icmp .ge 21, 3) := dk_162 0 21 (dk_at dksX0_count_7 10 rfl rfl)
theorem dX0_count_213 : decode cX0_count 213 = .ok (.iload_n 2, 1) := dk_28 (dk_at dksX0_count_7 13 rfl rfl)
theorem dX0_count_214 : decode cX0_count 214 = .ok (.aload_n 0, 1) := dk_42 (dk_at dksX0_count_7 14 rfl rfl)
theorem dX0_count_215 : decode cX0_count 215 = .ok (.getfield 150, 3) := dk_180 0 150 (dk_at dksX0_count_7 15 rfl rfl)
theorem dX0_count_218 : decode cX0_count 218 = .ok (.getfield 197, 3) := dk_180 0 197 (dk_at dksX0_count_7 18 rfl rfl)
theorem dX0_count_221 : decode cX0_count 221 = .ok (.iload_n 3, 1) := dk_29 (dk_at dksX0_count_7 21 rfl rfl)
theorem dX0_count_222 : decode cX0_count 222 = .ok (.iaload, 1) := dk_46 (dk_at dksX0_count_7 22 rfl rfl)
theorem dX0_count_223 : decode cX0_count 223 = .ok (.iadd, 1) := dk_96 (dk_at dksX0_count_7 23 rfl rfl)
theorem dX0_count_224 : decode cX0_count 224 = .ok (.istore_n 2, 1) := dk_61 (dk_at dksX0_count_8 0 rfl rfl)
theorem dX0_count_225 : decode cX0_count 225 = .ok (.iinc 3 1, 3) := dk_132 3 1 (dk_at dksX0_count_8 1 rfl rfl)
theorem dX0_count_228 : decode cX0_count 228 = .ok (.goto (-26), 3) := dk_167 255 230 (dk_at dksX0_count_8 4 rfl rfl)
theorem dX0_count_231 : decode cX0_count 231 = .ok (.iload_n 2, 1) := dk_28 (dk_at dksX0_count_8 7 rfl rfl)
theorem dX0_count_232 : decode cX0_count 232 = .ok (.ireturn, 1) := dk_172 (dk_at dksX0_count_8 8 rfl rfl)
theorem dX0_count_233 : decode cX0_count 233 = .ok (.aload_n 0, 1) := dk_42 (dk_at dksX0_count_8 9 rfl rfl)
theorem dX0_count_234 : decode cX0_count 234 = .ok (.getfield 150, 3) := dk_180 0 150 (dk_at dksX0_count_8 10 rfl rfl)
theorem dX0_count_237 : decode cX0_count 237 = .ok (.getfield 287, 3) := dk_180 1 31 (dk_at dksX0_count_8 13 rfl rfl)
theorem dX0_count_240 : decode cX0_count 240 = .ok (.ireturn, 1) := dk_172 (dk_at dksX0_count_8 16 rfl rfl)
theorem dX0_count_241 : decode cX0_count 241 = .ok (.aload_n 0, 1) := dk_42 (dk_at dksX0_count_8 17 rfl rfl)
theorem dX0_count_242 : decode cX0_count 242 = .ok (.getfield 150, 3) := dk_180 0 150 (dk_at dksX0_count_8 18 rfl rfl)
theorem dX0_count_245 : decode cX0_count 245 = .ok (.getfield 203, 3) := dk_180 0 203 (dk_at dksX0_count_8 21 rfl rfl)
theorem dX0_count_248 : decode cX0_count 248 = .ok (.ireturn, 1) := dk_172 (dk_at dksX0_count_9 0 rfl rfl)
abbrev cX0_image : ByteArray := prog_1_method_51_code
def yX0_image : MethodName := ⟨RX0, "image", "(I)I"⟩
def dkwX0_image_4 : List UInt8 := [42, 180, 0, 150, 180, 0, 221, 172]
abbrev dktX0_image_4 : List UInt8 := dkwX0_image_4 ++ []
def dkwX0_image_3 : List UInt8 := [181, 1, 124, 42, 180, 0, 150, 199, 0, 5, 3, 172, 44, 180, 1, 125, 42, 180, 0, 150, 182, 0, 146, 87]
abbrev dktX0_image_3 : List UInt8 := dkwX0_image_3 ++ dktX0_image_4
def dkwX0_image_2 : List UInt8 := [198, 0, 7, 4, 167, 0, 4, 3, 181, 1, 119, 44, 42, 180, 1, 86, 181, 1, 123, 44, 42, 180, 0, 38]
abbrev dktX0_image_2 : List UInt8 := dkwX0_image_2 ++ dktX0_image_3
def dkwX0_image_1 : List UInt8 := [180, 0, 120, 27, 187, 0, 118, 89, 183, 1, 118, 83, 42, 180, 0, 120, 27, 50, 77, 44, 42, 180, 0, 150]
abbrev dktX0_image_1 : List UInt8 := dkwX0_image_1 ++ dktX0_image_2
def dkwX0_image_0 : List UInt8 := [27, 133, 9, 20, 0, 239, 184, 0, 241, 154, 0, 5, 2, 172, 42, 180, 0, 120, 27, 50, 199, 0, 16, 42]
abbrev dktX0_image_0 : List UInt8 := dkwX0_image_0 ++ dktX0_image_1
theorem dksX0_image_0 : cX0_image.data.toList.drop 0 = dktX0_image_0 := by decide +kernel
theorem dksX0_image_1 : cX0_image.data.toList.drop 24 = dktX0_image_1 := dk_seg dksX0_image_0 24 rfl rfl
theorem dksX0_image_2 : cX0_image.data.toList.drop 48 = dktX0_image_2 := dk_seg dksX0_image_1 24 rfl rfl
theorem dksX0_image_3 : cX0_image.data.toList.drop 72 = dktX0_image_3 := dk_seg dksX0_image_2 24 rfl rfl
theorem dksX0_image_4 : cX0_image.data.toList.drop 96 = dktX0_image_4 := dk_seg dksX0_image_3 24 rfl rfl
theorem dX0_image_0 : decode cX0_image 0 = .ok (.iload_n 1, 1) := dk_27 (dk_at dksX0_image_0 0 rfl rfl)
theorem dX0_image_1 : decode cX0_image 1 = .ok (.i2l, 1) := dk_133 (dk_at dksX0_image_0 1 rfl rfl)
theorem dX0_image_2 : decode cX0_image 2 = .ok (.lconst 0, 1) := dk_9 (dk_at dksX0_image_0 2 rfl rfl)
theorem dX0_image_3 : decode cX0_image 3 = .ok (.ldc2_w 239, 3) := dk_20 0 239 (dk_at dksX0_image_0 3 rfl rfl)
theorem dX0_image_6 : decode cX0_image 6 = .ok (.invokestatic 241, 3) := dk_184 0 241 (dk_at dksX0_image_0 6 rfl rfl)
theorem dX0_image_9 : decode cX0_image 9 = .ok (.ifCond .ne 5, 3) := dk_154 0 5 (dk_at dksX0_image_0 9 rfl rfl)
theorem dX0_image_12 : decode cX0_image 12 = .ok (.iconst (-1), 1) := dk_2 (dk_at dksX0_image_0 12 rfl rfl)
theorem dX0_image_13 : decode cX0_image 13 = .ok (.ireturn, 1) := dk_172 (dk_at dksX0_image_0 13 rfl rfl)
theorem dX0_image_14 : decode cX0_image 14 = .ok (.aload_n 0, 1) := dk_42 (dk_at dksX0_image_0 14 rfl rfl)
theorem dX0_image_15 : decode cX0_image 15 = .ok (.getfield 120, 3) := dk_180 0 120 (dk_at dksX0_image_0 15 rfl rfl)
theorem dX0_image_18 : decode cX0_image 18 = .ok (.iload_n 1, 1) := dk_27 (dk_at dksX0_image_0 18 rfl rfl)
theorem dX0_image_19 : decode cX0_image 19 = .ok (.aaload, 1) := dk_50 (dk_at dksX0_image_0 19 rfl rfl)
theorem dX0_image_20 : decode cX0_image 20 = .ok (.ifnonnull 16, 3) := dk_199 0 16 (dk_at dksX0_image_0 20 rfl rfl)
theorem dX0_image_23 : decode cX0_image 23 = .ok (.aload_n 0, 1) := dk_42 (dk_at dksX0_image_0 23 rfl rfl)
theorem dX0_image_24 : decode cX0_image 24 = .ok (.getfield 120, 3) := dk_180 0 120 (dk_at dksX0_image_1 0 rfl rfl)
theorem dX0_image_27 : decode cX0_image 27 = .ok (.iload_n 1, 1) := dk_27 (dk_at dksX0_image_1 3 rfl rfl)
theorem dX0_image_28 : decode cX0_image 28 = .ok (.new 118, 3) := dk_187 0 118 (dk_at dksX0_image_1 4 rfl rfl)
theorem dX0_image_31 : decode cX0_image 31 = .ok (.dup, 1) := dk_89 (dk_at dksX0_image_1 7 rfl rfl)
theorem dX0_image_32 : decode cX0_image 32 = .ok (.invokespecial 374, 3) := dk_183 1 118 (dk_at dksX0_image_1 8 rfl rfl)
theorem dX0_image_35 : decode cX0_image 35 = .ok (.aastore, 1) := dk_83 (dk_at dksX0_image_1 11 rfl rfl)
theorem dX0_image_36 : decode cX0_image 36 = .ok (.aload_n 0, 1) := dk_42 (dk_at dksX0_image_1 12 rfl rfl)
theorem dX0_image_37 : decode cX0_image 37 = .ok (.getfield 120, 3) := dk_180 0 120 (dk_at dksX0_image_1 13 rfl rfl)
theorem dX0_image_40 : decode cX0_image 40 = .ok (.iload_n 1, 1) := dk_27 (dk_at dksX0_image_1 16 rfl rfl)
theorem dX0_image_41 : decode cX0_image 41 = .ok (.aaload, 1) := dk_50 (dk_at dksX0_image_1 17 rfl rfl)
theorem dX0_image_42 : decode cX0_image 42 = .ok (.astore_n 2, 1) := dk_77 (dk_at dksX0_image_1 18 rfl rfl)
theorem dX0_image_43 : decode cX0_image 43 = .ok (.aload_n 2, 1) := dk_44 (dk_at dksX0_image_1 19 rfl rfl)
theorem dX0_image_44 : decode cX0_image 44 = .ok (.aload_n 0, 1) := dk_42 (dk_at dksX0_image_1 20 rfl rfl)
theorem dX0_image_45 : decode cX0_image 45 = .ok (.getfield 150, 3) := dk_180 0 150 (dk_at dksX0_image_1 21 rfl rfl)
theorem dX0_image_48 : decode cX0_image 48 = .ok (.ifnull 7, 3) := dk_198 0 7 (dk_at dksX0_image_2 0 rfl rfl)
theorem dX0_image_51 : decode cX0_image 51 = .ok (.iconst 1, 1) := dk_4 (dk_at dksX0_image_2 3 rfl rfl)
theorem dX0_image_52 : decode cX0_image 52 = .ok (.goto 4, 3) := dk_167 0 4 (dk_at dksX0_image_2 4 rfl rfl)
theorem dX0_image_55 : decode cX0_image 55 = .ok (.iconst 0, 1) := dk_3 (dk_at dksX0_image_2 7 rfl rfl)
theorem dX0_image_56 : decode cX0_image 56 = .ok (.putfield 375, 3) := dk_181 1 119 (dk_at dksX0_image_2 8 rfl rfl)
theorem dX0_image_59 : decode cX0_image 59 = .ok (.aload_n 2, 1) := dk_44 (dk_at dksX0_image_2 11 rfl rfl)
theorem dX0_image_60 : decode cX0_image 60 = .ok (.aload_n 0, 1) := dk_42 (dk_at dksX0_image_2 12 rfl rfl)
theorem dX0_image_61 : decode cX0_image 61 = .ok (.getfield 342, 3) := dk_180 1 86 (dk_at dksX0_image_2 13 rfl rfl)
theorem dX0_image_64 : decode cX0_image 64 = .ok (.putfield 379, 3) := dk_181 1 123 (dk_at dksX0_image_2 16 rfl rfl)
theorem dX0_image_67 : decode cX0_image 67 = .ok (.aload_n 2, 1) := dk_44 (dk_at dksX0_image_2 19 rfl rfl)
theorem dX0_image_68 : decode cX0_image 68 = .ok (.aload_n 0, 1) := dk_42 (dk_at dksX0_image_2 20 rfl rfl)
theorem dX0_image_69 : decode cX0_image 69 = .ok (.getfield 38, 3) := dk_180 0 38 (dk_at dksX0_image_2 21 rfl rfl)
theorem dX0_image_72 : decode cX0_image 72 = .ok (.putfield 380, 3) := dk_181 1 124 (dk_at dksX0_image_3 0 rfl rfl)
theorem dX0_image_75 : decode cX0_image 75 = .ok (.aload_n 0, 1) := dk_42 (dk_at dksX0_image_3 3 rfl rfl)
theorem dX0_image_76 : decode cX0_image 76 = .ok (.getfield 150, 3) := dk_180 0 150 (dk_at dksX0_image_3 4 rfl rfl)
theorem dX0_image_79 : decode cX0_image 79 = .ok (.ifnonnull 5, 3) := dk_199 0 5 (dk_at dksX0_image_3 7 rfl rfl)
theorem dX0_image_82 : decode cX0_image 82 = .ok (.iconst 0, 1) := dk_3 (dk_at dksX0_image_3 10 rfl rfl)
theorem dX0_image_83 : decode cX0_image 83 = .ok (.ireturn, 1) := dk_172 (dk_at dksX0_image_3 11 rfl rfl)
theorem dX0_image_84 : decode cX0_image 84 = .ok (.aload_n 2, 1) := dk_44 (dk_at dksX0_image_3 12 rfl rfl)
theorem dX0_image_85 : decode cX0_image 85 = .ok (.getfield 381, 3) := dk_180 1 125 (dk_at dksX0_image_3 13 rfl rfl)
theorem dX0_image_88 : decode cX0_image 88 = .ok (.aload_n 0, 1) := dk_42 (dk_at dksX0_image_3 16 rfl rfl)
theorem dX0_image_89 : decode cX0_image 89 = .ok (.getfield 150, 3) := dk_180 0 150 (dk_at dksX0_image_3 17 rfl rfl)
theorem dX0_image_92 : decode cX0_image 92 = .ok (.invokevirtual 146, 3) := dk_182 0 146 (dk_at dksX0_image_3 20 rfl rfl)
theorem dX0_image_95 : decode cX0_image 95 = .ok (.pop, 1) := dk_87 (dk_at dksX0_image_3 23 rfl rfl)
theorem dX0_image_96 : decode cX0_image 96 = .ok (.aload_n 0, 1) := dk_42 (dk_at dksX0_image_4 0 rfl rfl)
theorem dX0_image_97 : decode cX0_image 97 = .ok (.getfield 150, 3) := dk_180 0 150 (dk_at dksX0_image_4 1 rfl rfl)
theorem dX0_image_100 : decode cX0_image 100 = .ok (.getfield 221, 3) := dk_180 0 221 (dk_at dksX0_image_4 4 rfl rfl)
theorem dX0_image_103 : decode cX0_image 103 = .ok (.ireturn, 1) := dk_172 (dk_at dksX0_image_4 7 rfl rfl)
abbrev cX0_back : ByteArray := prog_1_method_52_code
def yX0_back : MethodName := ⟨RX0, "back", "(I)I"⟩
def dkwX0_back_4 : List UInt8 := [167, 0, 10, 42, 180, 0, 150, 180, 0, 221, 172]
abbrev dktX0_back_4 : List UInt8 := dkwX0_back_4 ++ []
def dkwX0_back_3 : List UInt8 := [181, 1, 86, 42, 42, 180, 0, 120, 27, 50, 180, 1, 124, 181, 0, 38, 42, 180, 0, 150, 199, 0, 7, 3]
abbrev dktX0_back_3 : List UInt8 := dkwX0_back_3 ++ dktX0_back_4
def dkwX0_back_2 : List UInt8 := [180, 1, 125, 182, 0, 146, 167, 0, 4, 1, 181, 0, 150, 42, 42, 180, 0, 120, 27, 50, 180, 1, 123]
abbrev dktX0_back_2 : List UInt8 := dkwX0_back_2 ++ dktX0_back_3
def dkwX0_back_1 : List UInt8 := [42, 180, 0, 120, 27, 50, 180, 1, 119, 153, 0, 22, 42, 180, 0, 19, 42, 180, 0, 120, 27, 50]
abbrev dktX0_back_1 : List UInt8 := dkwX0_back_1 ++ dktX0_back_2
def dkwX0_back_0 : List UInt8 := [27, 133, 9, 20, 0, 239, 184, 0, 241, 153, 0, 12, 42, 180, 0, 120, 27, 50, 199, 0, 5, 2, 172, 42]
abbrev dktX0_back_0 : List UInt8 := dkwX0_back_0 ++ dktX0_back_1
theorem dksX0_back_0 : cX0_back.data.toList.drop 0 = dktX0_back_0 := by decide +kernel
theorem dksX0_back_1 : cX0_back.data.toList.drop 24 = dktX0_back_1 := dk_seg dksX0_back_0 24 rfl rfl
theorem dksX0_back_2 : cX0_back.data.toList.drop 46 = dktX0_back_2 := dk_seg dksX0_back_1 22 rfl rfl
theorem dksX0_back_3 : cX0_back.data.toList.drop 69 = dktX0_back_3 := dk_seg dksX0_back_2 23 rfl rfl
theorem dksX0_back_4 : cX0_back.data.toList.drop 93 = dktX0_back_4 := dk_seg dksX0_back_3 24 rfl rfl
theorem dX0_back_0 : decode cX0_back 0 = .ok (.iload_n 1, 1) := dk_27 (dk_at dksX0_back_0 0 rfl rfl)
theorem dX0_back_1 : decode cX0_back 1 = .ok (.i2l, 1) := dk_133 (dk_at dksX0_back_0 1 rfl rfl)
theorem dX0_back_2 : decode cX0_back 2 = .ok (.lconst 0, 1) := dk_9 (dk_at dksX0_back_0 2 rfl rfl)
theorem dX0_back_3 : decode cX0_back 3 = .ok (.ldc2_w 239, 3) := dk_20 0 239 (dk_at dksX0_back_0 3 rfl rfl)
theorem dX0_back_6 : decode cX0_back 6 = .ok (.invokestatic 241, 3) := dk_184 0 241 (dk_at dksX0_back_0 6 rfl rfl)
theorem dX0_back_9 : decode cX0_back 9 = .ok (.ifCond .eq 12, 3) := dk_153 0 12 (dk_at dksX0_back_0 9 rfl rfl)
theorem dX0_back_12 : decode cX0_back 12 = .ok (.aload_n 0, 1) := dk_42 (dk_at dksX0_back_0 12 rfl rfl)
theorem dX0_back_13 : decode cX0_back 13 = .ok (.getfield 120, 3) := dk_180 0 120 (dk_at dksX0_back_0 13 rfl rfl)
theorem dX0_back_16 : decode cX0_back 16 = .ok (.iload_n 1, 1) := dk_27 (dk_at dksX0_back_0 16 rfl rfl)
theorem dX0_back_17 : decode cX0_back 17 = .ok (.aaload, 1) := dk_50 (dk_at dksX0_back_0 17 rfl rfl)
theorem dX0_back_18 : decode cX0_back 18 = .ok (.ifnonnull 5, 3) := dk_199 0 5 (dk_at dksX0_back_0 18 rfl rfl)
theorem dX0_back_21 : decode cX0_back 21 = .ok (.iconst (-1), 1) := dk_2 (dk_at dksX0_back_0 21 rfl rfl)
theorem dX0_back_22 : decode cX0_back 22 = .ok (.ireturn, 1) := dk_172 (dk_at dksX0_back_0 22 rfl rfl)
theorem dX0_back_23 : decode cX0_back 23 = .ok (.aload_n 0, 1) := dk_42 (dk_at dksX0_back_0 23 rfl rfl)
theorem dX0_back_24 : decode cX0_back 24 = .ok (.aload_n 0, 1) := dk_42 (dk_at dksX0_back_1 0 rfl rfl)
theorem dX0_back_25 : decode cX0_back 25 = .ok (.getfield 120, 3) := dk_180 0 120 (dk_at dksX0_back_1 1 rfl rfl)
theorem dX0_back_28 : decode cX0_back 28 = .ok (.iload_n 1, 1) := dk_27 (dk_at dksX0_back_1 4 rfl rfl)
theorem dX0_back_29 : decode cX0_back 29 = .ok (.aaload, 1) := dk_50 (dk_at dksX0_back_1 5 rfl rfl)
theorem dX0_back_30 : decode cX0_back 30 = .ok (.getfield 375, 3) := dk_180 1 119 (dk_at dksX0_back_1 6 rfl rfl)
theorem dX0_back_33 : decode cX0_back 33 = .ok (.ifCond .eq 22, 3) := dk_153 0 22 (dk_at dksX0_back_1 9 rfl rfl)
theorem dX0_back_36 : decode cX0_back 36 = .ok (.aload_n 0, 1) := dk_42 (dk_at dksX0_back_1 12 rfl rfl)
theorem dX0_back_37 : decode cX0_back 37 = .ok (.getfield 19, 3) := dk_180 0 19 (dk_at dksX0_back_1 13 rfl rfl)
theorem dX0_back_40 : decode cX0_back 40 = .ok (.aload_n 0, 1) := dk_42 (dk_at dksX0_back_1 16 rfl rfl)
theorem dX0_back_41 : decode cX0_back 41 = .ok (.getfield 120, 3) := dk_180 0 120 (dk_at dksX0_back_1 17 rfl rfl)
theorem dX0_back_44 : decode cX0_back 44 = .ok (.iload_n 1, 1) := dk_27 (dk_at dksX0_back_1 20 rfl rfl)
theorem dX0_back_45 : decode cX0_back 45 = .ok (.aaload, 1) := dk_50 (dk_at dksX0_back_1 21 rfl rfl)
theorem dX0_back_46 : decode cX0_back 46 = .ok (.getfield 381, 3) := dk_180 1 125 (dk_at dksX0_back_2 0 rfl rfl)
theorem dX0_back_49 : decode cX0_back 49 = .ok (.invokevirtual 146, 3) := dk_182 0 146 (dk_at dksX0_back_2 3 rfl rfl)
theorem dX0_back_52 : decode cX0_back 52 = .ok (.goto 4, 3) := dk_167 0 4 (dk_at dksX0_back_2 6 rfl rfl)
theorem dX0_back_55 : decode cX0_back 55 = .ok (.aconst_null, 1) := dk_1 (dk_at dksX0_back_2 9 rfl rfl)
theorem dX0_back_56 : decode cX0_back 56 = .ok (.putfield 150, 3) := dk_181 0 150 (dk_at dksX0_back_2 10 rfl rfl)
theorem dX0_back_59 : decode cX0_back 59 = .ok (.aload_n 0, 1) := dk_42 (dk_at dksX0_back_2 13 rfl rfl)
theorem dX0_back_60 : decode cX0_back 60 = .ok (.aload_n 0, 1) := dk_42 (dk_at dksX0_back_2 14 rfl rfl)
theorem dX0_back_61 : decode cX0_back 61 = .ok (.getfield 120, 3) := dk_180 0 120 (dk_at dksX0_back_2 15 rfl rfl)
theorem dX0_back_64 : decode cX0_back 64 = .ok (.iload_n 1, 1) := dk_27 (dk_at dksX0_back_2 18 rfl rfl)
theorem dX0_back_65 : decode cX0_back 65 = .ok (.aaload, 1) := dk_50 (dk_at dksX0_back_2 19 rfl rfl)
theorem dX0_back_66 : decode cX0_back 66 = .ok (.getfield 379, 3) := dk_180 1 123 (dk_at dksX0_back_2 20 rfl rfl)
theorem dX0_back_69 : decode cX0_back 69 = .ok (.putfield 342, 3) := dk_181 1 86 (dk_at dksX0_back_3 0 rfl rfl)
theorem dX0_back_72 : decode cX0_back 72 = .ok (.aload_n 0, 1) := dk_42 (dk_at dksX0_back_3 3 rfl rfl)
theorem dX0_back_73 : decode cX0_back 73 = .ok (.aload_n 0, 1) := dk_42 (dk_at dksX0_back_3 4 rfl rfl)
theorem dX0_back_74 : decode cX0_back 74 = .ok (.getfield 120, 3) := dk_180 0 120 (dk_at dksX0_back_3 5 rfl rfl)
theorem dX0_back_77 : decode cX0_back 77 = .ok (.iload_n 1, 1) := dk_27 (dk_at dksX0_back_3 8 rfl rfl)
theorem dX0_back_78 : decode cX0_back 78 = .ok (.aaload, 1) := dk_50 (dk_at dksX0_back_3 9 rfl rfl)
theorem dX0_back_79 : decode cX0_back 79 = .ok (.getfield 380, 3) := dk_180 1 124 (dk_at dksX0_back_3 10 rfl rfl)
theorem dX0_back_82 : decode cX0_back 82 = .ok (.putfield 38, 3) := dk_181 0 38 (dk_at dksX0_back_3 13 rfl rfl)
theorem dX0_back_85 : decode cX0_back 85 = .ok (.aload_n 0, 1) := dk_42 (dk_at dksX0_back_3 16 rfl rfl)
theorem dX0_back_86 : decode cX0_back 86 = .ok (.getfield 150, 3) := dk_180 0 150 (dk_at dksX0_back_3 17 rfl rfl)
theorem dX0_back_89 : decode cX0_back 89 = .ok (.ifnonnull 7, 3) := dk_199 0 7 (dk_at dksX0_back_3 20 rfl rfl)
theorem dX0_back_92 : decode cX0_back 92 = .ok (.iconst 0, 1) := dk_3 (dk_at dksX0_back_3 23 rfl rfl)
theorem dX0_back_93 : decode cX0_back 93 = .ok (.goto 10, 3) := dk_167 0 10 (dk_at dksX0_back_4 0 rfl rfl)
theorem dX0_back_96 : decode cX0_back 96 = .ok (.aload_n 0, 1) := dk_42 (dk_at dksX0_back_4 3 rfl rfl)
theorem dX0_back_97 : decode cX0_back 97 = .ok (.getfield 150, 3) := dk_180 0 150 (dk_at dksX0_back_4 4 rfl rfl)
theorem dX0_back_100 : decode cX0_back 100 = .ok (.getfield 221, 3) := dk_180 0 221 (dk_at dksX0_back_4 7 rfl rfl)
theorem dX0_back_103 : decode cX0_back 103 = .ok (.ireturn, 1) := dk_172 (dk_at dksX0_back_4 10 rfl rfl)
theorem q120 : (Jvm.Cond.initialized "DoughBorder") ∈ lw_all := lw_g (lw_at lw_m1 1 rfl) rfl
theorem q147 : (Jvm.Cond.instantiable "DoughBorder" (25 : Nat)) ∈ lw_all := lw_g (lw_at lw_m1 28 rfl) rfl
theorem q149 : (Jvm.Cond.instanceMethod ({ cls := "DoughBorder", name := "<init>", desc := "()V" } : Jvm.MethodName)) ∈ lw_all := lw_g (lw_at lw_m1 30 rfl) rfl
theorem q150 : (Jvm.Cond.code ({ cls := "DoughBorder", name := "<init>", desc := "()V" } : Jvm.MethodName) prog_1_method_4_code (1 : Nat) (Option.none : Option Jvm.ClassFile.FieldType)) ∈ lw_all := lw_g (lw_at lw_m1 31 rfl) rfl
theorem q151 : (Jvm.Cond.methodLink "DoughBorder" (10 : Nat) ({ cls := "java/lang/Object", name := "<init>", desc := "()V" } : Jvm.MethodName)) ∈ lw_all := lw_g (lw_at lw_m1 32 rfl) rfl
theorem q154 : (Jvm.Cond.classLink "DoughBorder" (16 : Nat) "DoughBorder$Dough") ∈ lw_all := lw_g (lw_at lw_m1 35 rfl) rfl
theorem q156 : (Jvm.Cond.methodLinkNest "DoughBorder" (18 : Nat) ({ cls := "DoughBorder$Dough", name := "<init>", desc := "()V" } : Jvm.MethodName) "DoughBorder") ∈ lw_tbl := lw_at lw_m1 37 rfl
theorem q161 : (Jvm.Cond.fieldLinkNest "DoughBorder" (166 : Nat) "DoughBorder$Dough" "mileMany" "I" "DoughBorder") ∈ lw_tbl := lw_at lw_m1 42 rfl
theorem q165 : (Jvm.Cond.fieldLinkNest "DoughBorder" (369 : Nat) "DoughBorder$Dough" "damp" "I" "DoughBorder") ∈ lw_tbl := lw_at lw_m1 46 rfl
theorem q167 : (Jvm.Cond.fieldLinkNest "DoughBorder" (152 : Nat) "DoughBorder$Dough" "villageMany" "I" "DoughBorder") ∈ lw_tbl := lw_at lw_m1 48 rfl
theorem q171 : (Jvm.Cond.fieldLinkNest "DoughBorder" (371 : Nat) "DoughBorder$Dough" "wantMany" "I" "DoughBorder") ∈ lw_tbl := lw_at lw_m1 52 rfl
theorem q173 : (Jvm.Cond.fieldLinkNest "DoughBorder" (287 : Nat) "DoughBorder$Dough" "logMany" "I" "DoughBorder") ∈ lw_tbl := lw_at lw_m1 54 rfl
theorem q175 : (Jvm.Cond.fieldLinkNest "DoughBorder" (203 : Nat) "DoughBorder$Dough" "undoMany" "I" "DoughBorder") ∈ lw_tbl := lw_at lw_m1 56 rfl
theorem q178 : (Jvm.Cond.fieldLinkNest "DoughBorder" (298 : Nat) "DoughBorder$Dough" "toldBaked" "I" "DoughBorder") ∈ lw_tbl := lw_at lw_m1 59 rfl
theorem q181 : (Jvm.Cond.fieldLinkNest "DoughBorder" (251 : Nat) "DoughBorder$Dough" "baked" "I" "DoughBorder") ∈ lw_tbl := lw_at lw_m1 62 rfl
theorem q183 : (Jvm.Cond.fieldLinkNest "DoughBorder" (221 : Nat) "DoughBorder$Dough" "now" "I" "DoughBorder") ∈ lw_tbl := lw_at lw_m1 64 rfl
theorem q186 : (Jvm.Cond.fieldLinkNest "DoughBorder" (295 : Nat) "DoughBorder$Dough" "toldDough" "[I" "DoughBorder") ∈ lw_tbl := lw_at lw_m1 67 rfl
theorem q189 : (Jvm.Cond.fieldLinkNest "DoughBorder" (305 : Nat) "DoughBorder$Dough" "warm" "[I" "DoughBorder") ∈ lw_tbl := lw_at lw_m1 70 rfl
theorem q191 : (Jvm.Cond.fieldLinkNest "DoughBorder" (182 : Nat) "DoughBorder$Dough" "villageMile" "[I" "DoughBorder") ∈ lw_tbl := lw_at lw_m1 72 rfl
theorem q194 : (Jvm.Cond.fieldLinkNest "DoughBorder" (188 : Nat) "DoughBorder$Dough" "place" "[I" "DoughBorder") ∈ lw_tbl := lw_at lw_m1 75 rfl
theorem q197 : (Jvm.Cond.fieldLinkNest "DoughBorder" (190 : Nat) "DoughBorder$Dough" "whose" "[I" "DoughBorder") ∈ lw_tbl := lw_at lw_m1 78 rfl
theorem q202 : (Jvm.Cond.fieldLinkNest "DoughBorder" (292 : Nat) "DoughBorder$Dough" "logs" "[I" "DoughBorder") ∈ lw_tbl := lw_at lw_m1 83 rfl
theorem q204 : (Jvm.Cond.fieldLinkNest "DoughBorder" (176 : Nat) "DoughBorder$Dough" "line" "[I" "DoughBorder") ∈ lw_tbl := lw_at lw_m1 85 rfl
theorem q208 : (Jvm.Cond.fieldLinkNest "DoughBorder" (178 : Nat) "DoughBorder$Dough" "dough" "[I" "DoughBorder") ∈ lw_tbl := lw_at lw_m1 89 rfl
theorem q210 : (Jvm.Cond.fieldLinkNest "DoughBorder" (180 : Nat) "DoughBorder$Dough" "salt" "[I" "DoughBorder") ∈ lw_tbl := lw_at lw_m1 91 rfl
theorem q213 : (Jvm.Cond.fieldLinkNest "DoughBorder" (197 : Nat) "DoughBorder$Dough" "crossed" "[I" "DoughBorder") ∈ lw_tbl := lw_at lw_m1 94 rfl
theorem q215 : (Jvm.Cond.fieldLinkNest "DoughBorder" (206 : Nat) "DoughBorder$Dough" "undo" "[I" "DoughBorder") ∈ lw_tbl := lw_at lw_m1 96 rfl
theorem q271 : (Jvm.Cond.classLink "DoughBorder" (42 : Nat) "DoughBorder$Fault") ∈ lw_all := lw_g (lw_at lw_m1 152 rfl) rfl
theorem q310 : (Jvm.Cond.methodLink "DoughBorder" (44 : Nat) ({ cls := "DoughBorder$Fault", name := "<init>", desc := "()V" } : Jvm.MethodName)) ∈ lw_all := lw_g (lw_at lw_m1 191 rfl) rfl
theorem q324 : (Jvm.Cond.fieldLinkNest "DoughBorder" (134 : Nat) "DoughBorder$Fault" "kind" "I" "DoughBorder") ∈ lw_tbl := lw_at lw_m1 205 rfl
theorem q326 : (Jvm.Cond.fieldLinkNest "DoughBorder" (131 : Nat) "DoughBorder$Fault" "place" "I" "DoughBorder") ∈ lw_tbl := lw_at lw_m1 207 rfl
theorem q345 : (Jvm.Cond.classLink "DoughBorder" (53 : Nat) "java/lang/String") ∈ lw_all := lw_g (lw_at lw_m1 226 rfl) rfl
theorem q347 : (Jvm.Cond.stringRef "DoughBorder" (55 : Nat) "strip") ∈ lw_tbl := lw_at lw_m1 228 rfl
theorem q348 : (Jvm.Cond.stringRef "DoughBorder" (57 : Nat) "mile") ∈ lw_tbl := lw_at lw_m1 229 rfl
theorem q349 : (Jvm.Cond.stringRef "DoughBorder" (59 : Nat) "warm") ∈ lw_tbl := lw_at lw_m1 230 rfl
theorem q350 : (Jvm.Cond.stringRef "DoughBorder" (61 : Nat) "baked") ∈ lw_tbl := lw_at lw_m1 231 rfl
theorem q351 : (Jvm.Cond.stringRef "DoughBorder" (63 : Nat) "village") ∈ lw_tbl := lw_at lw_m1 232 rfl
theorem q352 : (Jvm.Cond.stringRef "DoughBorder" (65 : Nat) "want") ∈ lw_tbl := lw_at lw_m1 233 rfl
theorem q353 : (Jvm.Cond.stringRef "DoughBorder" (71 : Nat) "creep") ∈ lw_tbl := lw_at lw_m1 234 rfl
theorem q354 : (Jvm.Cond.stringRef "DoughBorder" (76 : Nat) "line") ∈ lw_tbl := lw_at lw_m1 235 rfl
theorem q355 : (Jvm.Cond.stringRef "DoughBorder" (78 : Nat) "dough") ∈ lw_tbl := lw_at lw_m1 236 rfl
theorem q356 : (Jvm.Cond.stringRef "DoughBorder" (80 : Nat) "salt") ∈ lw_tbl := lw_at lw_m1 237 rfl
theorem q357 : (Jvm.Cond.stringRef "DoughBorder" (82 : Nat) "damp") ∈ lw_tbl := lw_at lw_m1 238 rfl
theorem q358 : (Jvm.Cond.stringRef "DoughBorder" (84 : Nat) "night") ∈ lw_tbl := lw_at lw_m1 239 rfl
theorem q359 : (Jvm.Cond.stringRef "DoughBorder" (86 : Nat) "above") ∈ lw_tbl := lw_at lw_m2 0 rfl
theorem q360 : (Jvm.Cond.stringRef "DoughBorder" (88 : Nat) "below") ∈ lw_tbl := lw_at lw_m2 1 rfl
theorem q361 : (Jvm.Cond.stringRef "DoughBorder" (90 : Nat) "west") ∈ lw_tbl := lw_at lw_m2 2 rfl
theorem q362 : (Jvm.Cond.stringRef "DoughBorder" (92 : Nat) "east") ∈ lw_tbl := lw_at lw_m2 3 rfl
theorem q363 : (Jvm.Cond.stringRef "DoughBorder" (94 : Nat) "crust") ∈ lw_tbl := lw_at lw_m2 4 rfl
theorem q364 : (Jvm.Cond.classLink "DoughBorder" (99 : Nat) "DoughBorder$Rule") ∈ lw_all := lw_g (lw_at lw_m2 5 rfl) rfl
theorem q366 : (Jvm.Cond.classLink "DoughBorder" (118 : Nat) "DoughBorder$Image") ∈ lw_all := lw_g (lw_at lw_m2 7 rfl) rfl
theorem q368 : (Jvm.Cond.fieldLink "DoughBorder" (150 : Nat) "DoughBorder" "dough" "LDoughBorder$Dough;") ∈ lw_all := lw_g (lw_at lw_m2 9 rfl) rfl
theorem q369 : (Jvm.Cond.fieldLink "DoughBorder" (19 : Nat) "DoughBorder" "own" "LDoughBorder$Dough;") ∈ lw_all := lw_g (lw_at lw_m2 10 rfl) rfl
theorem q370 : (Jvm.Cond.fieldLink "DoughBorder" (25 : Nat) "DoughBorder" "spare" "LDoughBorder$Dough;") ∈ lw_all := lw_g (lw_at lw_m2 11 rfl) rfl
theorem q371 : (Jvm.Cond.fieldLink "DoughBorder" (28 : Nat) "DoughBorder" "deep" "[LDoughBorder$Dough;") ∈ lw_all := lw_g (lw_at lw_m2 12 rfl) rfl
theorem q373 : (Jvm.Cond.fieldLink "DoughBorder" (32 : Nat) "DoughBorder" "reading" "LDoughBorder$Dough;") ∈ lw_all := lw_g (lw_at lw_m2 14 rfl) rfl
theorem q374 : (Jvm.Cond.fieldLink "DoughBorder" (35 : Nat) "DoughBorder" "blank" "LDoughBorder$Dough;") ∈ lw_all := lw_g (lw_at lw_m2 15 rfl) rfl
theorem q376 : (Jvm.Cond.fieldLink "DoughBorder" (342 : Nat) "DoughBorder" "x" "I") ∈ lw_all := lw_g (lw_at lw_m2 17 rfl) rfl
theorem q377 : (Jvm.Cond.fieldLink "DoughBorder" (38 : Nat) "DoughBorder" "inForce" "I") ∈ lw_all := lw_g (lw_at lw_m2 18 rfl) rfl
theorem q379 : (Jvm.Cond.fieldLink "DoughBorder" (45 : Nat) "DoughBorder" "fault" "LDoughBorder$Fault;") ∈ lw_all := lw_g (lw_at lw_m2 20 rfl) rfl
theorem q381 : (Jvm.Cond.fieldLink "DoughBorder" (49 : Nat) "DoughBorder" "tape" "[B") ∈ lw_all := lw_g (lw_at lw_m2 22 rfl) rfl
theorem q383 : (Jvm.Cond.fieldLink "DoughBorder" (124 : Nat) "DoughBorder" "taped" "I") ∈ lw_all := lw_g (lw_at lw_m2 24 rfl) rfl
theorem q384 : (Jvm.Cond.fieldLink "DoughBorder" (67 : Nat) "DoughBorder" "lineWords" "[Ljava/lang/String;") ∈ lw_all := lw_g (lw_at lw_m2 25 rfl) rfl
theorem q386 : (Jvm.Cond.fieldLink "DoughBorder" (73 : Nat) "DoughBorder" "clauseWords" "[Ljava/lang/String;") ∈ lw_all := lw_g (lw_at lw_m2 27 rfl) rfl
theorem q389 : (Jvm.Cond.fieldLink "DoughBorder" (96 : Nat) "DoughBorder" "wordNames" "[Ljava/lang/String;") ∈ lw_all := lw_g (lw_at lw_m2 30 rfl) rfl
theorem q390 : (Jvm.Cond.fieldLink "DoughBorder" (101 : Nat) "DoughBorder" "rules" "[LDoughBorder$Rule;") ∈ lw_all := lw_g (lw_at lw_m2 31 rfl) rfl
theorem q391 : (Jvm.Cond.fieldLink "DoughBorder" (159 : Nat) "DoughBorder" "ruleMany" "I") ∈ lw_all := lw_g (lw_at lw_m2 32 rfl) rfl
theorem q392 : (Jvm.Cond.fieldLink "DoughBorder" (105 : Nat) "DoughBorder" "pushRow" "[I") ∈ lw_all := lw_g (lw_at lw_m2 33 rfl) rfl
theorem q393 : (Jvm.Cond.fieldLink "DoughBorder" (109 : Nat) "DoughBorder" "bestRow" "[I") ∈ lw_all := lw_g (lw_at lw_m2 34 rfl) rfl
theorem q394 : (Jvm.Cond.fieldLink "DoughBorder" (260 : Nat) "DoughBorder" "bestMany" "I") ∈ lw_all := lw_g (lw_at lw_m2 35 rfl) rfl
theorem q395 : (Jvm.Cond.fieldLink "DoughBorder" (282 : Nat) "DoughBorder" "firstPush" "I") ∈ lw_all := lw_g (lw_at lw_m2 36 rfl) rfl
theorem q396 : (Jvm.Cond.fieldLink "DoughBorder" (112 : Nat) "DoughBorder" "theft" "[I") ∈ lw_all := lw_g (lw_at lw_m2 37 rfl) rfl
theorem q397 : (Jvm.Cond.fieldLink "DoughBorder" (311 : Nat) "DoughBorder" "theftMany" "I") ∈ lw_all := lw_g (lw_at lw_m2 38 rfl) rfl
theorem q398 : (Jvm.Cond.fieldLink "DoughBorder" (115 : Nat) "DoughBorder" "alike" "[I") ∈ lw_all := lw_g (lw_at lw_m2 39 rfl) rfl
theorem q399 : (Jvm.Cond.fieldLink "DoughBorder" (345 : Nat) "DoughBorder" "drawX" "I") ∈ lw_all := lw_g (lw_at lw_m2 40 rfl) rfl
theorem q400 : (Jvm.Cond.fieldLink "DoughBorder" (120 : Nat) "DoughBorder" "images" "[LDoughBorder$Image;") ∈ lw_all := lw_g (lw_at lw_m2 41 rfl) rfl
theorem q401 : (Jvm.Cond.lays "DoughBorder" "DoughBorder" "dough" "LDoughBorder$Dough;") ∈ lw_all := lw_g (lw_at lw_m2 42 rfl) rfl
theorem q402 : (Jvm.Cond.soleField "DoughBorder" "dough") ∈ lw_all := lw_g (lw_at lw_m2 43 rfl) rfl
theorem q403 : (Jvm.Cond.laysFinal "DoughBorder" "DoughBorder" "own" "LDoughBorder$Dough;") ∈ lw_all := lw_g (lw_at lw_m2 44 rfl) rfl
theorem q404 : (Jvm.Cond.soleField "DoughBorder" "own") ∈ lw_all := lw_g (lw_at lw_m2 45 rfl) rfl
theorem q405 : (Jvm.Cond.laysFinal "DoughBorder" "DoughBorder" "spare" "LDoughBorder$Dough;") ∈ lw_all := lw_g (lw_at lw_m2 46 rfl) rfl
theorem q406 : (Jvm.Cond.soleField "DoughBorder" "spare") ∈ lw_all := lw_g (lw_at lw_m2 47 rfl) rfl
theorem q407 : (Jvm.Cond.laysFinal "DoughBorder" "DoughBorder" "deep" "[LDoughBorder$Dough;") ∈ lw_all := lw_g (lw_at lw_m2 48 rfl) rfl
theorem q408 : (Jvm.Cond.soleField "DoughBorder" "deep") ∈ lw_all := lw_g (lw_at lw_m2 49 rfl) rfl
theorem q409 : (Jvm.Cond.laysFinal "DoughBorder" "DoughBorder" "reading" "LDoughBorder$Dough;") ∈ lw_all := lw_g (lw_at lw_m2 50 rfl) rfl
theorem q410 : (Jvm.Cond.soleField "DoughBorder" "reading") ∈ lw_all := lw_g (lw_at lw_m2 51 rfl) rfl
theorem q411 : (Jvm.Cond.laysFinal "DoughBorder" "DoughBorder" "blank" "LDoughBorder$Dough;") ∈ lw_all := lw_g (lw_at lw_m2 52 rfl) rfl
theorem q412 : (Jvm.Cond.soleField "DoughBorder" "blank") ∈ lw_all := lw_g (lw_at lw_m2 53 rfl) rfl
theorem q413 : (Jvm.Cond.lays "DoughBorder" "DoughBorder" "x" "I") ∈ lw_all := lw_g (lw_at lw_m2 54 rfl) rfl
theorem q414 : (Jvm.Cond.soleField "DoughBorder" "x") ∈ lw_all := lw_g (lw_at lw_m2 55 rfl) rfl
theorem q415 : (Jvm.Cond.lays "DoughBorder" "DoughBorder" "inForce" "I") ∈ lw_all := lw_g (lw_at lw_m2 56 rfl) rfl
theorem q416 : (Jvm.Cond.soleField "DoughBorder" "inForce") ∈ lw_all := lw_g (lw_at lw_m2 57 rfl) rfl
theorem q417 : (Jvm.Cond.laysFinal "DoughBorder" "DoughBorder" "fault" "LDoughBorder$Fault;") ∈ lw_all := lw_g (lw_at lw_m2 58 rfl) rfl
theorem q418 : (Jvm.Cond.soleField "DoughBorder" "fault") ∈ lw_all := lw_g (lw_at lw_m2 59 rfl) rfl
theorem q419 : (Jvm.Cond.laysFinal "DoughBorder" "DoughBorder" "tape" "[B") ∈ lw_all := lw_g (lw_at lw_m2 60 rfl) rfl
theorem q420 : (Jvm.Cond.soleField "DoughBorder" "tape") ∈ lw_all := lw_g (lw_at lw_m2 61 rfl) rfl
theorem q421 : (Jvm.Cond.lays "DoughBorder" "DoughBorder" "taped" "I") ∈ lw_all := lw_g (lw_at lw_m2 62 rfl) rfl
theorem q422 : (Jvm.Cond.soleField "DoughBorder" "taped") ∈ lw_all := lw_g (lw_at lw_m2 63 rfl) rfl
theorem q423 : (Jvm.Cond.laysFinal "DoughBorder" "DoughBorder" "lineWords" "[Ljava/lang/String;") ∈ lw_all := lw_g (lw_at lw_m2 64 rfl) rfl
theorem q424 : (Jvm.Cond.soleField "DoughBorder" "lineWords") ∈ lw_all := lw_g (lw_at lw_m2 65 rfl) rfl
theorem q425 : (Jvm.Cond.laysFinal "DoughBorder" "DoughBorder" "clauseWords" "[Ljava/lang/String;") ∈ lw_all := lw_g (lw_at lw_m2 66 rfl) rfl
theorem q426 : (Jvm.Cond.soleField "DoughBorder" "clauseWords") ∈ lw_all := lw_g (lw_at lw_m2 67 rfl) rfl
theorem q427 : (Jvm.Cond.laysFinal "DoughBorder" "DoughBorder" "wordNames" "[Ljava/lang/String;") ∈ lw_all := lw_g (lw_at lw_m2 68 rfl) rfl
theorem q428 : (Jvm.Cond.soleField "DoughBorder" "wordNames") ∈ lw_all := lw_g (lw_at lw_m2 69 rfl) rfl
theorem q429 : (Jvm.Cond.laysFinal "DoughBorder" "DoughBorder" "rules" "[LDoughBorder$Rule;") ∈ lw_all := lw_g (lw_at lw_m2 70 rfl) rfl
theorem q430 : (Jvm.Cond.soleField "DoughBorder" "rules") ∈ lw_all := lw_g (lw_at lw_m2 71 rfl) rfl
theorem q431 : (Jvm.Cond.lays "DoughBorder" "DoughBorder" "ruleMany" "I") ∈ lw_all := lw_g (lw_at lw_m2 72 rfl) rfl
theorem q432 : (Jvm.Cond.soleField "DoughBorder" "ruleMany") ∈ lw_all := lw_g (lw_at lw_m2 73 rfl) rfl
theorem q433 : (Jvm.Cond.laysFinal "DoughBorder" "DoughBorder" "pushRow" "[I") ∈ lw_all := lw_g (lw_at lw_m2 74 rfl) rfl
theorem q434 : (Jvm.Cond.soleField "DoughBorder" "pushRow") ∈ lw_all := lw_g (lw_at lw_m2 75 rfl) rfl
theorem q435 : (Jvm.Cond.laysFinal "DoughBorder" "DoughBorder" "bestRow" "[I") ∈ lw_all := lw_g (lw_at lw_m2 76 rfl) rfl
theorem q436 : (Jvm.Cond.soleField "DoughBorder" "bestRow") ∈ lw_all := lw_g (lw_at lw_m2 77 rfl) rfl
theorem q437 : (Jvm.Cond.lays "DoughBorder" "DoughBorder" "bestMany" "I") ∈ lw_all := lw_g (lw_at lw_m2 78 rfl) rfl
theorem q438 : (Jvm.Cond.soleField "DoughBorder" "bestMany") ∈ lw_all := lw_g (lw_at lw_m2 79 rfl) rfl
theorem q439 : (Jvm.Cond.lays "DoughBorder" "DoughBorder" "firstPush" "I") ∈ lw_all := lw_g (lw_at lw_m2 80 rfl) rfl
theorem q440 : (Jvm.Cond.soleField "DoughBorder" "firstPush") ∈ lw_all := lw_g (lw_at lw_m2 81 rfl) rfl
theorem q441 : (Jvm.Cond.laysFinal "DoughBorder" "DoughBorder" "theft" "[I") ∈ lw_all := lw_g (lw_at lw_m2 82 rfl) rfl
theorem q442 : (Jvm.Cond.soleField "DoughBorder" "theft") ∈ lw_all := lw_g (lw_at lw_m2 83 rfl) rfl
theorem q443 : (Jvm.Cond.lays "DoughBorder" "DoughBorder" "theftMany" "I") ∈ lw_all := lw_g (lw_at lw_m2 84 rfl) rfl
theorem q444 : (Jvm.Cond.soleField "DoughBorder" "theftMany") ∈ lw_all := lw_g (lw_at lw_m2 85 rfl) rfl
theorem q445 : (Jvm.Cond.laysFinal "DoughBorder" "DoughBorder" "alike" "[I") ∈ lw_all := lw_g (lw_at lw_m2 86 rfl) rfl
theorem q446 : (Jvm.Cond.soleField "DoughBorder" "alike") ∈ lw_all := lw_g (lw_at lw_m2 87 rfl) rfl
theorem q447 : (Jvm.Cond.lays "DoughBorder" "DoughBorder" "drawX" "I") ∈ lw_all := lw_g (lw_at lw_m2 88 rfl) rfl
theorem q448 : (Jvm.Cond.soleField "DoughBorder" "drawX") ∈ lw_all := lw_g (lw_at lw_m2 89 rfl) rfl
theorem q449 : (Jvm.Cond.laysFinal "DoughBorder" "DoughBorder" "images" "[LDoughBorder$Image;") ∈ lw_all := lw_g (lw_at lw_m2 90 rfl) rfl
theorem q450 : (Jvm.Cond.soleField "DoughBorder" "images") ∈ lw_all := lw_g (lw_at lw_m2 91 rfl) rfl
theorem q451 : (Jvm.Cond.superclass "DoughBorder" "java/lang/Object") ∈ lw_all := lw_g (lw_at lw_m2 92 rfl) rfl
theorem q453 : (Jvm.Cond.instanceMethod ({ cls := "DoughBorder", name := "feed", desc := "(IIIII)I" } : Jvm.MethodName)) ∈ lw_all := lw_g (lw_at lw_m2 94 rfl) rfl
theorem q454 : (Jvm.Cond.selects "DoughBorder" ({ cls := "DoughBorder", name := "feed", desc := "(IIIII)I" } : Jvm.MethodName) ({ cls := "DoughBorder", name := "feed", desc := "(IIIII)I" } : Jvm.MethodName)) ∈ lw_all := lw_g (lw_at lw_m2 95 rfl) rfl
theorem q455 : (Jvm.Cond.code ({ cls := "DoughBorder", name := "feed", desc := "(IIIII)I" } : Jvm.MethodName) prog_1_method_5_code (6 : Nat) (Option.some Jvm.ClassFile.FieldType.int)) ∈ lw_all := lw_g (lw_at lw_m2 96 rfl) rfl
theorem q456 : (Jvm.Cond.methodLink "DoughBorder" (127 : Nat) ({ cls := "DoughBorder", name := "four", desc := "(I)V" } : Jvm.MethodName)) ∈ lw_all := lw_g (lw_at lw_m2 97 rfl) rfl
theorem q457 : (Jvm.Cond.privateMethod ({ cls := "DoughBorder", name := "four", desc := "(I)V" } : Jvm.MethodName)) ∈ lw_tbl := lw_at lw_m2 98 rfl
theorem q458 : (Jvm.Cond.instanceMethod ({ cls := "DoughBorder", name := "four", desc := "(I)V" } : Jvm.MethodName)) ∈ lw_all := lw_g (lw_at lw_m2 99 rfl) rfl
theorem q459 : (Jvm.Cond.code ({ cls := "DoughBorder", name := "four", desc := "(I)V" } : Jvm.MethodName) prog_1_method_6_code (3 : Nat) (Option.none : Option Jvm.ClassFile.FieldType)) ∈ lw_all := lw_g (lw_at lw_m2 100 rfl) rfl
theorem q461 : (Jvm.Cond.instanceMethod ({ cls := "DoughBorder", name := "end", desc := "(I)I" } : Jvm.MethodName)) ∈ lw_all := lw_g (lw_at lw_m2 102 rfl) rfl
theorem q462 : (Jvm.Cond.selects "DoughBorder" ({ cls := "DoughBorder", name := "end", desc := "(I)I" } : Jvm.MethodName) ({ cls := "DoughBorder", name := "end", desc := "(I)I" } : Jvm.MethodName)) ∈ lw_all := lw_g (lw_at lw_m2 103 rfl) rfl
theorem q463 : (Jvm.Cond.code ({ cls := "DoughBorder", name := "end", desc := "(I)I" } : Jvm.MethodName) prog_1_method_7_code (2 : Nat) (Option.some Jvm.ClassFile.FieldType.int)) ∈ lw_all := lw_g (lw_at lw_m2 104 rfl) rfl
theorem q465 : (Jvm.Cond.instanceMethod ({ cls := "DoughBorder", name := "strip", desc := "()I" } : Jvm.MethodName)) ∈ lw_all := lw_g (lw_at lw_m2 106 rfl) rfl
theorem q466 : (Jvm.Cond.selects "DoughBorder" ({ cls := "DoughBorder", name := "strip", desc := "()I" } : Jvm.MethodName) ({ cls := "DoughBorder", name := "strip", desc := "()I" } : Jvm.MethodName)) ∈ lw_all := lw_g (lw_at lw_m2 107 rfl) rfl
theorem q467 : (Jvm.Cond.codeWith ({ cls := "DoughBorder", name := "strip", desc := "()I" } : Jvm.MethodName) prog_1_method_9_code (3 : Nat) (Option.some Jvm.ClassFile.FieldType.int) [((0 : Nat), (30 : Nat), (33 : Nat), (42 : Nat))]) ∈ lw_all := lw_g (lw_at lw_m2 108 rfl) rfl
theorem q468 : (Jvm.Cond.classLink "DoughBorder" (137 : Nat) "DoughBorder$Text") ∈ lw_all := lw_g (lw_at lw_m2 109 rfl) rfl
theorem q470 : (Jvm.Cond.methodLinkNest "DoughBorder" (139 : Nat) ({ cls := "DoughBorder$Text", name := "<init>", desc := "(LDoughBorder;)V" } : Jvm.MethodName) "DoughBorder") ∈ lw_tbl := lw_at lw_m2 111 rfl
theorem q496 : (Jvm.Cond.methodLink "DoughBorder" (142 : Nat) ({ cls := "DoughBorder$Text", name := "stripTold", desc := "()LDoughBorder$Dough;" } : Jvm.MethodName)) ∈ lw_all := lw_g (lw_at lw_m2 137 rfl) rfl
theorem q600 : (Jvm.Cond.static ({ cls := "DoughBorder", name := "in", desc := "(JJJ)Z" } : Jvm.MethodName)) ∈ lw_all := lw_g (lw_at lw_m3 1 rfl) rfl
theorem q601 : (Jvm.Cond.code ({ cls := "DoughBorder", name := "in", desc := "(JJJ)Z" } : Jvm.MethodName) prog_1_method_1_code (6 : Nat) (Option.some Jvm.ClassFile.FieldType.boolean)) ∈ lw_all := lw_g (lw_at lw_m3 2 rfl) rfl
theorem q619 : (Jvm.Cond.methodLink "DoughBorder" (146 : Nat) ({ cls := "DoughBorder$Dough", name := "copies", desc := "(LDoughBorder$Dough;)LDoughBorder$Dough;" } : Jvm.MethodName)) ∈ lw_all := lw_g (lw_at lw_m3 20 rfl) rfl
theorem q620 : (Jvm.Cond.methodLink "DoughBorder" (155 : Nat) ({ cls := "DoughBorder", name := "faulted", desc := "()I" } : Jvm.MethodName)) ∈ lw_all := lw_g (lw_at lw_m3 21 rfl) rfl
theorem q621 : (Jvm.Cond.privateMethod ({ cls := "DoughBorder", name := "faulted", desc := "()I" } : Jvm.MethodName)) ∈ lw_tbl := lw_at lw_m3 22 rfl
theorem q622 : (Jvm.Cond.instanceMethod ({ cls := "DoughBorder", name := "faulted", desc := "()I" } : Jvm.MethodName)) ∈ lw_all := lw_g (lw_at lw_m3 23 rfl) rfl
theorem q623 : (Jvm.Cond.code ({ cls := "DoughBorder", name := "faulted", desc := "()I" } : Jvm.MethodName) prog_1_method_8_code (1 : Nat) (Option.some Jvm.ClassFile.FieldType.int)) ∈ lw_all := lw_g (lw_at lw_m3 24 rfl) rfl
theorem q625 : (Jvm.Cond.instanceMethod ({ cls := "DoughBorder", name := "rule", desc := "()I" } : Jvm.MethodName)) ∈ lw_all := lw_g (lw_at lw_m3 26 rfl) rfl
theorem q626 : (Jvm.Cond.selects "DoughBorder" ({ cls := "DoughBorder", name := "rule", desc := "()I" } : Jvm.MethodName) ({ cls := "DoughBorder", name := "rule", desc := "()I" } : Jvm.MethodName)) ∈ lw_all := lw_g (lw_at lw_m3 27 rfl) rfl
theorem q627 : (Jvm.Cond.codeWith ({ cls := "DoughBorder", name := "rule", desc := "()I" } : Jvm.MethodName) prog_1_method_10_code (3 : Nat) (Option.some Jvm.ClassFile.FieldType.int) [((16 : Nat), (46 : Nat), (49 : Nat), (42 : Nat))]) ∈ lw_all := lw_g (lw_at lw_m3 28 rfl) rfl
theorem q628 : (Jvm.Cond.methodLink "DoughBorder" (162 : Nat) ({ cls := "DoughBorder$Text", name := "ruleTold", desc := "()LDoughBorder$Rule;" } : Jvm.MethodName)) ∈ lw_all := lw_g (lw_at lw_m3 29 rfl) rfl
theorem q798 : (Jvm.Cond.instanceMethod ({ cls := "DoughBorder", name := "force", desc := "(I)I" } : Jvm.MethodName)) ∈ lw_all := lw_g (lw_at lw_m3 199 rfl) rfl
theorem q799 : (Jvm.Cond.selects "DoughBorder" ({ cls := "DoughBorder", name := "force", desc := "(I)I" } : Jvm.MethodName) ({ cls := "DoughBorder", name := "force", desc := "(I)I" } : Jvm.MethodName)) ∈ lw_all := lw_g (lw_at lw_m3 200 rfl) rfl
theorem q800 : (Jvm.Cond.code ({ cls := "DoughBorder", name := "force", desc := "(I)I" } : Jvm.MethodName) prog_1_method_11_code (3 : Nat) (Option.some Jvm.ClassFile.FieldType.int)) ∈ lw_all := lw_g (lw_at lw_m3 201 rfl) rfl
theorem q802 : (Jvm.Cond.instanceMethod ({ cls := "DoughBorder", name := "mile", desc := "(II)I" } : Jvm.MethodName)) ∈ lw_all := lw_g (lw_at lw_m3 203 rfl) rfl
theorem q803 : (Jvm.Cond.selects "DoughBorder" ({ cls := "DoughBorder", name := "mile", desc := "(II)I" } : Jvm.MethodName) ({ cls := "DoughBorder", name := "mile", desc := "(II)I" } : Jvm.MethodName)) ∈ lw_all := lw_g (lw_at lw_m3 204 rfl) rfl
theorem q804 : (Jvm.Cond.code ({ cls := "DoughBorder", name := "mile", desc := "(II)I" } : Jvm.MethodName) prog_1_method_16_code (5 : Nat) (Option.some Jvm.ClassFile.FieldType.int)) ∈ lw_all := lw_g (lw_at lw_m3 205 rfl) rfl
theorem q805 : (Jvm.Cond.methodLink "DoughBorder" (169 : Nat) ({ cls := "DoughBorder", name := "isMile", desc := "(I)Z" } : Jvm.MethodName)) ∈ lw_all := lw_g (lw_at lw_m3 206 rfl) rfl
theorem q806 : (Jvm.Cond.privateMethod ({ cls := "DoughBorder", name := "isMile", desc := "(I)Z" } : Jvm.MethodName)) ∈ lw_tbl := lw_at lw_m3 207 rfl
theorem q807 : (Jvm.Cond.instanceMethod ({ cls := "DoughBorder", name := "isMile", desc := "(I)Z" } : Jvm.MethodName)) ∈ lw_all := lw_g (lw_at lw_m3 208 rfl) rfl
theorem q808 : (Jvm.Cond.code ({ cls := "DoughBorder", name := "isMile", desc := "(I)Z" } : Jvm.MethodName) prog_1_method_13_code (2 : Nat) (Option.some Jvm.ClassFile.FieldType.boolean)) ∈ lw_all := lw_g (lw_at lw_m3 209 rfl) rfl
theorem q809 : (Jvm.Cond.methodLink "DoughBorder" (173 : Nat) ({ cls := "DoughBorder$Dough", name := "isBaked", desc := "(I)Z" } : Jvm.MethodName)) ∈ lw_all := lw_g (lw_at lw_m3 210 rfl) rfl
theorem q814 : (Jvm.Cond.static ({ cls := "DoughBorder", name := "has", desc := "(II)Z" } : Jvm.MethodName)) ∈ lw_all := lw_g (lw_at lw_m3 215 rfl) rfl
theorem q815 : (Jvm.Cond.code ({ cls := "DoughBorder", name := "has", desc := "(II)Z" } : Jvm.MethodName) prog_1_method_2_code (2 : Nat) (Option.some Jvm.ClassFile.FieldType.boolean)) ∈ lw_all := lw_g (lw_at lw_m3 216 rfl) rfl
theorem q817 : (Jvm.Cond.instanceMethod ({ cls := "DoughBorder", name := "village", desc := "(II)I" } : Jvm.MethodName)) ∈ lw_all := lw_g (lw_at lw_m3 218 rfl) rfl
theorem q818 : (Jvm.Cond.selects "DoughBorder" ({ cls := "DoughBorder", name := "village", desc := "(II)I" } : Jvm.MethodName) ({ cls := "DoughBorder", name := "village", desc := "(II)I" } : Jvm.MethodName)) ∈ lw_all := lw_g (lw_at lw_m3 219 rfl) rfl
theorem q819 : (Jvm.Cond.code ({ cls := "DoughBorder", name := "village", desc := "(II)I" } : Jvm.MethodName) prog_1_method_17_code (3 : Nat) (Option.some Jvm.ClassFile.FieldType.int)) ∈ lw_all := lw_g (lw_at lw_m3 220 rfl) rfl
theorem q820 : (Jvm.Cond.methodLink "DoughBorder" (185 : Nat) ({ cls := "DoughBorder", name := "isVillage", desc := "(I)Z" } : Jvm.MethodName)) ∈ lw_all := lw_g (lw_at lw_m3 221 rfl) rfl
theorem q821 : (Jvm.Cond.privateMethod ({ cls := "DoughBorder", name := "isVillage", desc := "(I)Z" } : Jvm.MethodName)) ∈ lw_tbl := lw_at lw_m3 222 rfl
theorem q822 : (Jvm.Cond.instanceMethod ({ cls := "DoughBorder", name := "isVillage", desc := "(I)Z" } : Jvm.MethodName)) ∈ lw_all := lw_g (lw_at lw_m3 223 rfl) rfl
theorem q823 : (Jvm.Cond.code ({ cls := "DoughBorder", name := "isVillage", desc := "(I)Z" } : Jvm.MethodName) prog_1_method_15_code (2 : Nat) (Option.some Jvm.ClassFile.FieldType.boolean)) ∈ lw_all := lw_g (lw_at lw_m3 224 rfl) rfl
theorem q824 : (Jvm.Cond.methodLink "DoughBorder" (193 : Nat) ({ cls := "DoughBorder$Dough", name := "sideOf", desc := "(I)I" } : Jvm.MethodName)) ∈ lw_all := lw_g (lw_at lw_m3 225 rfl) rfl
theorem q829 : (Jvm.Cond.instanceMethod ({ cls := "DoughBorder", name := "warm", desc := "(I)I" } : Jvm.MethodName)) ∈ lw_all := lw_g (lw_at lw_m3 230 rfl) rfl
theorem q830 : (Jvm.Cond.selects "DoughBorder" ({ cls := "DoughBorder", name := "warm", desc := "(I)I" } : Jvm.MethodName) ({ cls := "DoughBorder", name := "warm", desc := "(I)I" } : Jvm.MethodName)) ∈ lw_all := lw_g (lw_at lw_m3 231 rfl) rfl
theorem q831 : (Jvm.Cond.code ({ cls := "DoughBorder", name := "warm", desc := "(I)I" } : Jvm.MethodName) prog_1_method_18_code (2 : Nat) (Option.some Jvm.ClassFile.FieldType.int)) ∈ lw_all := lw_g (lw_at lw_m3 232 rfl) rfl
theorem q832 : (Jvm.Cond.methodLink "DoughBorder" (200 : Nat) ({ cls := "DoughBorder$Dough", name := "warmOn", desc := "(I)I" } : Jvm.MethodName)) ∈ lw_all := lw_g (lw_at lw_m3 233 rfl) rfl
theorem q837 : (Jvm.Cond.instanceMethod ({ cls := "DoughBorder", name := "undo", desc := "()I" } : Jvm.MethodName)) ∈ lw_all := lw_g (lw_at lw_m3 238 rfl) rfl
theorem q838 : (Jvm.Cond.selects "DoughBorder" ({ cls := "DoughBorder", name := "undo", desc := "()I" } : Jvm.MethodName) ({ cls := "DoughBorder", name := "undo", desc := "()I" } : Jvm.MethodName)) ∈ lw_all := lw_g (lw_at lw_m3 239 rfl) rfl
theorem q839 : (Jvm.Cond.code ({ cls := "DoughBorder", name := "undo", desc := "()I" } : Jvm.MethodName) prog_1_method_20_code (1 : Nat) (Option.some Jvm.ClassFile.FieldType.int)) ∈ lw_all := lw_g (lw_at lw_m4 0 rfl) rfl
theorem q840 : (Jvm.Cond.methodLink "DoughBorder" (218 : Nat) ({ cls := "DoughBorder$Dough", name := "takes", desc := "(I)V" } : Jvm.MethodName)) ∈ lw_all := lw_g (lw_at lw_m4 1 rfl) rfl
theorem q845 : (Jvm.Cond.instanceMethod ({ cls := "DoughBorder", name := "night", desc := "()I" } : Jvm.MethodName)) ∈ lw_all := lw_g (lw_at lw_m4 6 rfl) rfl
theorem q846 : (Jvm.Cond.selects "DoughBorder" ({ cls := "DoughBorder", name := "night", desc := "()I" } : Jvm.MethodName) ({ cls := "DoughBorder", name := "night", desc := "()I" } : Jvm.MethodName)) ∈ lw_all := lw_g (lw_at lw_m4 7 rfl) rfl
theorem q847 : (Jvm.Cond.code ({ cls := "DoughBorder", name := "night", desc := "()I" } : Jvm.MethodName) prog_1_method_21_code (1 : Nat) (Option.some Jvm.ClassFile.FieldType.int)) ∈ lw_all := lw_g (lw_at lw_m4 8 rfl) rfl
theorem q848 : (Jvm.Cond.methodLink "DoughBorder" (224 : Nat) ({ cls := "DoughBorder", name := "keepsAct", desc := "()V" } : Jvm.MethodName)) ∈ lw_all := lw_g (lw_at lw_m4 9 rfl) rfl
theorem q849 : (Jvm.Cond.privateMethod ({ cls := "DoughBorder", name := "keepsAct", desc := "()V" } : Jvm.MethodName)) ∈ lw_tbl := lw_at lw_m4 10 rfl
theorem q850 : (Jvm.Cond.instanceMethod ({ cls := "DoughBorder", name := "keepsAct", desc := "()V" } : Jvm.MethodName)) ∈ lw_all := lw_g (lw_at lw_m4 11 rfl) rfl
theorem q851 : (Jvm.Cond.code ({ cls := "DoughBorder", name := "keepsAct", desc := "()V" } : Jvm.MethodName) prog_1_method_19_code (1 : Nat) (Option.none : Option Jvm.ClassFile.FieldType)) ∈ lw_all := lw_g (lw_at lw_m4 12 rfl) rfl
theorem q852 : (Jvm.Cond.methodLink "DoughBorder" (209 : Nat) ({ cls := "java/lang/System", name := "arraycopy", desc := "(Ljava/lang/Object;ILjava/lang/Object;II)V" } : Jvm.MethodName)) ∈ lw_all := lw_g (lw_at lw_m4 13 rfl) rfl
theorem q853 : (Jvm.Cond.methodLink "DoughBorder" (215 : Nat) ({ cls := "DoughBorder$Dough", name := "lays", desc := "(I)V" } : Jvm.MethodName)) ∈ lw_all := lw_g (lw_at lw_m4 14 rfl) rfl
theorem q857 : (Jvm.Cond.methodLink "DoughBorder" (227 : Nat) ({ cls := "DoughBorder", name := "law", desc := "()LDoughBorder$Rule;" } : Jvm.MethodName)) ∈ lw_all := lw_g (lw_at lw_m4 18 rfl) rfl
theorem q858 : (Jvm.Cond.privateMethod ({ cls := "DoughBorder", name := "law", desc := "()LDoughBorder$Rule;" } : Jvm.MethodName)) ∈ lw_tbl := lw_at lw_m4 19 rfl
theorem q859 : (Jvm.Cond.instanceMethod ({ cls := "DoughBorder", name := "law", desc := "()LDoughBorder$Rule;" } : Jvm.MethodName)) ∈ lw_all := lw_g (lw_at lw_m4 20 rfl) rfl
theorem q860 : (Jvm.Cond.code ({ cls := "DoughBorder", name := "law", desc := "()LDoughBorder$Rule;" } : Jvm.MethodName) prog_1_method_12_code (1 : Nat) (Option.some (Jvm.ClassFile.FieldType.object "DoughBorder$Rule"))) ∈ lw_all := lw_g (lw_at lw_m4 21 rfl) rfl
theorem q861 : (Jvm.Cond.methodLink "DoughBorder" (230 : Nat) ({ cls := "DoughBorder$Dough", name := "goes", desc := "(LDoughBorder$Rule;)I" } : Jvm.MethodName)) ∈ lw_all := lw_g (lw_at lw_m4 22 rfl) rfl
theorem q884 : (Jvm.Cond.static ({ cls := "DoughBorder", name := "held", desc := "(II)I" } : Jvm.MethodName)) ∈ lw_all := lw_g (lw_at lw_m4 45 rfl) rfl
theorem q885 : (Jvm.Cond.code ({ cls := "DoughBorder", name := "held", desc := "(II)I" } : Jvm.MethodName) prog_1_method_3_code (2 : Nat) (Option.some Jvm.ClassFile.FieldType.int)) ∈ lw_all := lw_g (lw_at lw_m4 46 rfl) rfl
theorem q886 : (Jvm.Cond.methodLink "DoughBorder" (1 : Nat) ({ cls := "java/lang/Math", name := "min", desc := "(II)I" } : Jvm.MethodName)) ∈ lw_all := lw_g (lw_at lw_m4 47 rfl) rfl
theorem q887 : (Jvm.Cond.methodLink "DoughBorder" (7 : Nat) ({ cls := "java/lang/Math", name := "max", desc := "(II)I" } : Jvm.MethodName)) ∈ lw_all := lw_g (lw_at lw_m4 48 rfl) rfl
theorem q955 : (Jvm.Cond.instanceMethod ({ cls := "DoughBorder", name := "horses", desc := "(II)I" } : Jvm.MethodName)) ∈ lw_all := lw_g (lw_at lw_m4 116 rfl) rfl
theorem q956 : (Jvm.Cond.selects "DoughBorder" ({ cls := "DoughBorder", name := "horses", desc := "(II)I" } : Jvm.MethodName) ({ cls := "DoughBorder", name := "horses", desc := "(II)I" } : Jvm.MethodName)) ∈ lw_all := lw_g (lw_at lw_m4 117 rfl) rfl
theorem q957 : (Jvm.Cond.code ({ cls := "DoughBorder", name := "horses", desc := "(II)I" } : Jvm.MethodName) prog_1_method_22_code (3 : Nat) (Option.some Jvm.ClassFile.FieldType.int)) ∈ lw_all := lw_g (lw_at lw_m4 118 rfl) rfl
theorem q958 : (Jvm.Cond.methodLink "DoughBorder" (234 : Nat) ({ cls := "DoughBorder", name := "isSoft", desc := "(I)Z" } : Jvm.MethodName)) ∈ lw_all := lw_g (lw_at lw_m4 119 rfl) rfl
theorem q959 : (Jvm.Cond.privateMethod ({ cls := "DoughBorder", name := "isSoft", desc := "(I)Z" } : Jvm.MethodName)) ∈ lw_tbl := lw_at lw_m4 120 rfl
theorem q960 : (Jvm.Cond.instanceMethod ({ cls := "DoughBorder", name := "isSoft", desc := "(I)Z" } : Jvm.MethodName)) ∈ lw_all := lw_g (lw_at lw_m4 121 rfl) rfl
theorem q961 : (Jvm.Cond.code ({ cls := "DoughBorder", name := "isSoft", desc := "(I)Z" } : Jvm.MethodName) prog_1_method_14_code (2 : Nat) (Option.some Jvm.ClassFile.FieldType.boolean)) ∈ lw_all := lw_g (lw_at lw_m4 122 rfl) rfl
theorem q962 : (Jvm.Cond.constantLong "DoughBorder" (237 : Nat) (-3 : Int64)) ∈ lw_all := lw_g (lw_at lw_m4 123 rfl) rfl
theorem q963 : (Jvm.Cond.constantLong "DoughBorder" (239 : Nat) (3 : Int64)) ∈ lw_all := lw_g (lw_at lw_m4 124 rfl) rfl
theorem q964 : (Jvm.Cond.methodLink "DoughBorder" (241 : Nat) ({ cls := "DoughBorder", name := "in", desc := "(JJJ)Z" } : Jvm.MethodName)) ∈ lw_all := lw_g (lw_at lw_m4 125 rfl) rfl
theorem q965 : (Jvm.Cond.methodLink "DoughBorder" (245 : Nat) ({ cls := "DoughBorder$Dough", name := "pushes", desc := "(II)V" } : Jvm.MethodName)) ∈ lw_all := lw_g (lw_at lw_m4 126 rfl) rfl
theorem q970 : (Jvm.Cond.instanceMethod ({ cls := "DoughBorder", name := "salt", desc := "(I)I" } : Jvm.MethodName)) ∈ lw_all := lw_g (lw_at lw_m4 131 rfl) rfl
theorem q971 : (Jvm.Cond.selects "DoughBorder" ({ cls := "DoughBorder", name := "salt", desc := "(I)I" } : Jvm.MethodName) ({ cls := "DoughBorder", name := "salt", desc := "(I)I" } : Jvm.MethodName)) ∈ lw_all := lw_g (lw_at lw_m4 132 rfl) rfl
theorem q972 : (Jvm.Cond.code ({ cls := "DoughBorder", name := "salt", desc := "(I)I" } : Jvm.MethodName) prog_1_method_23_code (2 : Nat) (Option.some Jvm.ClassFile.FieldType.int)) ∈ lw_all := lw_g (lw_at lw_m4 133 rfl) rfl
theorem q974 : (Jvm.Cond.instanceMethod ({ cls := "DoughBorder", name := "sugar", desc := "(I)I" } : Jvm.MethodName)) ∈ lw_all := lw_g (lw_at lw_m4 135 rfl) rfl
theorem q975 : (Jvm.Cond.selects "DoughBorder" ({ cls := "DoughBorder", name := "sugar", desc := "(I)I" } : Jvm.MethodName) ({ cls := "DoughBorder", name := "sugar", desc := "(I)I" } : Jvm.MethodName)) ∈ lw_all := lw_g (lw_at lw_m4 136 rfl) rfl
theorem q976 : (Jvm.Cond.code ({ cls := "DoughBorder", name := "sugar", desc := "(I)I" } : Jvm.MethodName) prog_1_method_24_code (2 : Nat) (Option.some Jvm.ClassFile.FieldType.int)) ∈ lw_all := lw_g (lw_at lw_m4 137 rfl) rfl
theorem q978 : (Jvm.Cond.instanceMethod ({ cls := "DoughBorder", name := "slice", desc := "(II)I" } : Jvm.MethodName)) ∈ lw_all := lw_g (lw_at lw_m4 139 rfl) rfl
theorem q979 : (Jvm.Cond.selects "DoughBorder" ({ cls := "DoughBorder", name := "slice", desc := "(II)I" } : Jvm.MethodName) ({ cls := "DoughBorder", name := "slice", desc := "(II)I" } : Jvm.MethodName)) ∈ lw_all := lw_g (lw_at lw_m4 140 rfl) rfl
theorem q980 : (Jvm.Cond.code ({ cls := "DoughBorder", name := "slice", desc := "(II)I" } : Jvm.MethodName) prog_1_method_25_code (3 : Nat) (Option.some Jvm.ClassFile.FieldType.int)) ∈ lw_all := lw_g (lw_at lw_m4 141 rfl) rfl
theorem q981 : (Jvm.Cond.constantLong "DoughBorder" (249 : Nat) (99 : Int64)) ∈ lw_all := lw_g (lw_at lw_m4 142 rfl) rfl
theorem q983 : (Jvm.Cond.instanceMethod ({ cls := "DoughBorder", name := "bake", desc := "(I)Z" } : Jvm.MethodName)) ∈ lw_all := lw_g (lw_at lw_m4 144 rfl) rfl
theorem q984 : (Jvm.Cond.selects "DoughBorder" ({ cls := "DoughBorder", name := "bake", desc := "(I)Z" } : Jvm.MethodName) ({ cls := "DoughBorder", name := "bake", desc := "(I)Z" } : Jvm.MethodName)) ∈ lw_all := lw_g (lw_at lw_m4 145 rfl) rfl
theorem q985 : (Jvm.Cond.code ({ cls := "DoughBorder", name := "bake", desc := "(I)Z" } : Jvm.MethodName) prog_1_method_26_code (2 : Nat) (Option.some Jvm.ClassFile.FieldType.boolean)) ∈ lw_all := lw_g (lw_at lw_m4 146 rfl) rfl
theorem q987 : (Jvm.Cond.instanceMethod ({ cls := "DoughBorder", name := "ahead", desc := "(III)I" } : Jvm.MethodName)) ∈ lw_all := lw_g (lw_at lw_m4 148 rfl) rfl
theorem q988 : (Jvm.Cond.selects "DoughBorder" ({ cls := "DoughBorder", name := "ahead", desc := "(III)I" } : Jvm.MethodName) ({ cls := "DoughBorder", name := "ahead", desc := "(III)I" } : Jvm.MethodName)) ∈ lw_all := lw_g (lw_at lw_m4 149 rfl) rfl
theorem q989 : (Jvm.Cond.code ({ cls := "DoughBorder", name := "ahead", desc := "(III)I" } : Jvm.MethodName) prog_1_method_27_code (6 : Nat) (Option.some Jvm.ClassFile.FieldType.int)) ∈ lw_all := lw_g (lw_at lw_m4 150 rfl) rfl
theorem q990 : (Jvm.Cond.constantLong "DoughBorder" (253 : Nat) (100 : Int64)) ∈ lw_all := lw_g (lw_at lw_m4 151 rfl) rfl
theorem q991 : (Jvm.Cond.constantLong "DoughBorder" (255 : Nat) (2 : Int64)) ∈ lw_all := lw_g (lw_at lw_m4 152 rfl) rfl
theorem q992 : (Jvm.Cond.methodLink "DoughBorder" (257 : Nat) ({ cls := "DoughBorder$Dough", name := "easts", desc := "()I" } : Jvm.MethodName)) ∈ lw_all := lw_g (lw_at lw_m4 153 rfl) rfl
theorem q997 : (Jvm.Cond.instanceMethod ({ cls := "DoughBorder", name := "crosses", desc := "(I)I" } : Jvm.MethodName)) ∈ lw_all := lw_g (lw_at lw_m4 158 rfl) rfl
theorem q998 : (Jvm.Cond.selects "DoughBorder" ({ cls := "DoughBorder", name := "crosses", desc := "(I)I" } : Jvm.MethodName) ({ cls := "DoughBorder", name := "crosses", desc := "(I)I" } : Jvm.MethodName)) ∈ lw_all := lw_g (lw_at lw_m4 159 rfl) rfl
theorem q999 : (Jvm.Cond.code ({ cls := "DoughBorder", name := "crosses", desc := "(I)I" } : Jvm.MethodName) prog_1_method_28_code (4 : Nat) (Option.some Jvm.ClassFile.FieldType.int)) ∈ lw_all := lw_g (lw_at lw_m4 160 rfl) rfl
theorem q1001 : (Jvm.Cond.instanceMethod ({ cls := "DoughBorder", name := "push", desc := "(II)I" } : Jvm.MethodName)) ∈ lw_all := lw_g (lw_at lw_m4 162 rfl) rfl
theorem q1002 : (Jvm.Cond.selects "DoughBorder" ({ cls := "DoughBorder", name := "push", desc := "(II)I" } : Jvm.MethodName) ({ cls := "DoughBorder", name := "push", desc := "(II)I" } : Jvm.MethodName)) ∈ lw_all := lw_g (lw_at lw_m4 163 rfl) rfl
theorem q1003 : (Jvm.Cond.code ({ cls := "DoughBorder", name := "push", desc := "(II)I" } : Jvm.MethodName) prog_1_method_31_code (3 : Nat) (Option.some Jvm.ClassFile.FieldType.int)) ∈ lw_all := lw_g (lw_at lw_m4 164 rfl) rfl
theorem q1004 : (Jvm.Cond.methodLink "DoughBorder" (274 : Nat) ({ cls := "DoughBorder", name := "preparesDeep", desc := "(I)V" } : Jvm.MethodName)) ∈ lw_all := lw_g (lw_at lw_m4 165 rfl) rfl
theorem q1005 : (Jvm.Cond.privateMethod ({ cls := "DoughBorder", name := "preparesDeep", desc := "(I)V" } : Jvm.MethodName)) ∈ lw_tbl := lw_at lw_m4 166 rfl
theorem q1006 : (Jvm.Cond.instanceMethod ({ cls := "DoughBorder", name := "preparesDeep", desc := "(I)V" } : Jvm.MethodName)) ∈ lw_all := lw_g (lw_at lw_m4 167 rfl) rfl
theorem q1007 : (Jvm.Cond.code ({ cls := "DoughBorder", name := "preparesDeep", desc := "(I)V" } : Jvm.MethodName) prog_1_method_30_code (3 : Nat) (Option.none : Option Jvm.ClassFile.FieldType)) ∈ lw_all := lw_g (lw_at lw_m4 168 rfl) rfl
theorem q1008 : (Jvm.Cond.methodLink "DoughBorder" (270 : Nat) ({ cls := "DoughBorder", name := "triesPushes", desc := "(III)V" } : Jvm.MethodName)) ∈ lw_all := lw_g (lw_at lw_m4 169 rfl) rfl
theorem q1009 : (Jvm.Cond.privateMethod ({ cls := "DoughBorder", name := "triesPushes", desc := "(III)V" } : Jvm.MethodName)) ∈ lw_tbl := lw_at lw_m4 170 rfl
theorem q1010 : (Jvm.Cond.instanceMethod ({ cls := "DoughBorder", name := "triesPushes", desc := "(III)V" } : Jvm.MethodName)) ∈ lw_all := lw_g (lw_at lw_m4 171 rfl) rfl
theorem q1011 : (Jvm.Cond.code ({ cls := "DoughBorder", name := "triesPushes", desc := "(III)V" } : Jvm.MethodName) prog_1_method_29_code (6 : Nat) (Option.none : Option Jvm.ClassFile.FieldType)) ∈ lw_all := lw_g (lw_at lw_m4 172 rfl) rfl
theorem q1012 : (Jvm.Cond.methodLink "DoughBorder" (263 : Nat) ({ cls := "DoughBorder$Dough", name := "areWants", desc := "()Z" } : Jvm.MethodName)) ∈ lw_all := lw_g (lw_at lw_m4 173 rfl) rfl
theorem q1016 : (Jvm.Cond.methodLink "DoughBorder" (267 : Nat) ({ cls := "DoughBorder$Dough", name := "standsAs", desc := "(LDoughBorder$Dough;)LDoughBorder$Dough;" } : Jvm.MethodName)) ∈ lw_all := lw_g (lw_at lw_m4 177 rfl) rfl
theorem q1018 : (Jvm.Cond.instanceMethod ({ cls := "DoughBorder", name := "dukes", desc := "(II)I" } : Jvm.MethodName)) ∈ lw_all := lw_g (lw_at lw_m4 179 rfl) rfl
theorem q1019 : (Jvm.Cond.selects "DoughBorder" ({ cls := "DoughBorder", name := "dukes", desc := "(II)I" } : Jvm.MethodName) ({ cls := "DoughBorder", name := "dukes", desc := "(II)I" } : Jvm.MethodName)) ∈ lw_all := lw_g (lw_at lw_m4 180 rfl) rfl
theorem q1020 : (Jvm.Cond.code ({ cls := "DoughBorder", name := "dukes", desc := "(II)I" } : Jvm.MethodName) prog_1_method_33_code (4 : Nat) (Option.some Jvm.ClassFile.FieldType.int)) ∈ lw_all := lw_g (lw_at lw_m4 181 rfl) rfl
theorem q1021 : (Jvm.Cond.constantLong "DoughBorder" (285 : Nat) (4 : Int64)) ∈ lw_all := lw_g (lw_at lw_m4 182 rfl) rfl
theorem q1022 : (Jvm.Cond.methodLink "DoughBorder" (279 : Nat) ({ cls := "DoughBorder", name := "worthFrom", desc := "(II)I" } : Jvm.MethodName)) ∈ lw_all := lw_g (lw_at lw_m4 183 rfl) rfl
theorem q1023 : (Jvm.Cond.privateMethod ({ cls := "DoughBorder", name := "worthFrom", desc := "(II)I" } : Jvm.MethodName)) ∈ lw_tbl := lw_at lw_m4 184 rfl
theorem q1024 : (Jvm.Cond.instanceMethod ({ cls := "DoughBorder", name := "worthFrom", desc := "(II)I" } : Jvm.MethodName)) ∈ lw_all := lw_g (lw_at lw_m4 185 rfl) rfl
theorem q1025 : (Jvm.Cond.code ({ cls := "DoughBorder", name := "worthFrom", desc := "(II)I" } : Jvm.MethodName) prog_1_method_32_code (8 : Nat) (Option.some Jvm.ClassFile.FieldType.int)) ∈ lw_all := lw_g (lw_at lw_m4 186 rfl) rfl
theorem q1026 : (Jvm.Cond.methodLink "DoughBorder" (277 : Nat) ({ cls := "DoughBorder$Dough", name := "west", desc := "()I" } : Jvm.MethodName)) ∈ lw_all := lw_g (lw_at lw_m4 187 rfl) rfl
theorem q1031 : (Jvm.Cond.instanceMethod ({ cls := "DoughBorder", name := "log", desc := "(III)I" } : Jvm.MethodName)) ∈ lw_all := lw_g (lw_at lw_m4 192 rfl) rfl
theorem q1032 : (Jvm.Cond.selects "DoughBorder" ({ cls := "DoughBorder", name := "log", desc := "(III)I" } : Jvm.MethodName) ({ cls := "DoughBorder", name := "log", desc := "(III)I" } : Jvm.MethodName)) ∈ lw_all := lw_g (lw_at lw_m4 193 rfl) rfl
theorem q1033 : (Jvm.Cond.code ({ cls := "DoughBorder", name := "log", desc := "(III)I" } : Jvm.MethodName) prog_1_method_34_code (5 : Nat) (Option.some Jvm.ClassFile.FieldType.int)) ∈ lw_all := lw_g (lw_at lw_m4 194 rfl) rfl
theorem q1034 : (Jvm.Cond.constantLong "DoughBorder" (290 : Nat) (30 : Int64)) ∈ lw_all := lw_g (lw_at lw_m4 195 rfl) rfl
theorem q1036 : (Jvm.Cond.instanceMethod ({ cls := "DoughBorder", name := "theft", desc := "(II)I" } : Jvm.MethodName)) ∈ lw_all := lw_g (lw_at lw_m4 197 rfl) rfl
theorem q1037 : (Jvm.Cond.selects "DoughBorder" ({ cls := "DoughBorder", name := "theft", desc := "(II)I" } : Jvm.MethodName) ({ cls := "DoughBorder", name := "theft", desc := "(II)I" } : Jvm.MethodName)) ∈ lw_all := lw_g (lw_at lw_m4 198 rfl) rfl
theorem q1038 : (Jvm.Cond.code ({ cls := "DoughBorder", name := "theft", desc := "(II)I" } : Jvm.MethodName) prog_1_method_38_code (3 : Nat) (Option.some Jvm.ClassFile.FieldType.int)) ∈ lw_all := lw_g (lw_at lw_m4 199 rfl) rfl
theorem q1039 : (Jvm.Cond.methodLink "DoughBorder" (318 : Nat) ({ cls := "DoughBorder", name := "gathersThefts", desc := "(I)V" } : Jvm.MethodName)) ∈ lw_all := lw_g (lw_at lw_m4 200 rfl) rfl
theorem q1040 : (Jvm.Cond.privateMethod ({ cls := "DoughBorder", name := "gathersThefts", desc := "(I)V" } : Jvm.MethodName)) ∈ lw_tbl := lw_at lw_m4 201 rfl
theorem q1041 : (Jvm.Cond.instanceMethod ({ cls := "DoughBorder", name := "gathersThefts", desc := "(I)V" } : Jvm.MethodName)) ∈ lw_all := lw_g (lw_at lw_m4 202 rfl) rfl
theorem q1042 : (Jvm.Cond.code ({ cls := "DoughBorder", name := "gathersThefts", desc := "(I)V" } : Jvm.MethodName) prog_1_method_37_code (3 : Nat) (Option.none : Option Jvm.ClassFile.FieldType)) ∈ lw_all := lw_g (lw_at lw_m4 203 rfl) rfl
theorem q1043 : (Jvm.Cond.methodLink "DoughBorder" (314 : Nat) ({ cls := "DoughBorder", name := "canBeTheft", desc := "(III)Z" } : Jvm.MethodName)) ∈ lw_all := lw_g (lw_at lw_m4 204 rfl) rfl
theorem q1044 : (Jvm.Cond.privateMethod ({ cls := "DoughBorder", name := "canBeTheft", desc := "(III)Z" } : Jvm.MethodName)) ∈ lw_tbl := lw_at lw_m4 205 rfl
theorem q1045 : (Jvm.Cond.instanceMethod ({ cls := "DoughBorder", name := "canBeTheft", desc := "(III)Z" } : Jvm.MethodName)) ∈ lw_all := lw_g (lw_at lw_m4 206 rfl) rfl
theorem q1046 : (Jvm.Cond.code ({ cls := "DoughBorder", name := "canBeTheft", desc := "(III)Z" } : Jvm.MethodName) prog_1_method_36_code (5 : Nat) (Option.some Jvm.ClassFile.FieldType.boolean)) ∈ lw_all := lw_g (lw_at lw_m4 207 rfl) rfl
theorem q1047 : (Jvm.Cond.methodLink "DoughBorder" (301 : Nat) ({ cls := "DoughBorder", name := "has", desc := "(II)Z" } : Jvm.MethodName)) ∈ lw_all := lw_g (lw_at lw_m4 208 rfl) rfl
theorem q1048 : (Jvm.Cond.methodLink "DoughBorder" (307 : Nat) ({ cls := "DoughBorder", name := "doughAt", desc := "(IIIII)I" } : Jvm.MethodName)) ∈ lw_all := lw_g (lw_at lw_m4 209 rfl) rfl
theorem q1049 : (Jvm.Cond.privateMethod ({ cls := "DoughBorder", name := "doughAt", desc := "(IIIII)I" } : Jvm.MethodName)) ∈ lw_tbl := lw_at lw_m4 210 rfl
theorem q1050 : (Jvm.Cond.instanceMethod ({ cls := "DoughBorder", name := "doughAt", desc := "(IIIII)I" } : Jvm.MethodName)) ∈ lw_all := lw_g (lw_at lw_m4 211 rfl) rfl
theorem q1051 : (Jvm.Cond.code ({ cls := "DoughBorder", name := "doughAt", desc := "(IIIII)I" } : Jvm.MethodName) prog_1_method_35_code (8 : Nat) (Option.some Jvm.ClassFile.FieldType.int)) ∈ lw_all := lw_g (lw_at lw_m4 212 rfl) rfl
theorem q1053 : (Jvm.Cond.instanceMethod ({ cls := "DoughBorder", name := "weigh", desc := "(III)I" } : Jvm.MethodName)) ∈ lw_all := lw_g (lw_at lw_m4 214 rfl) rfl
theorem q1054 : (Jvm.Cond.selects "DoughBorder" ({ cls := "DoughBorder", name := "weigh", desc := "(III)I" } : Jvm.MethodName) ({ cls := "DoughBorder", name := "weigh", desc := "(III)I" } : Jvm.MethodName)) ∈ lw_all := lw_g (lw_at lw_m4 215 rfl) rfl
theorem q1055 : (Jvm.Cond.code ({ cls := "DoughBorder", name := "weigh", desc := "(III)I" } : Jvm.MethodName) prog_1_method_40_code (8 : Nat) (Option.some Jvm.ClassFile.FieldType.int)) ∈ lw_all := lw_g (lw_at lw_m4 216 rfl) rfl
theorem q1056 : (Jvm.Cond.methodLink "DoughBorder" (321 : Nat) ({ cls := "DoughBorder", name := "alikeAt", desc := "(III)I" } : Jvm.MethodName)) ∈ lw_all := lw_g (lw_at lw_m4 217 rfl) rfl
theorem q1057 : (Jvm.Cond.privateMethod ({ cls := "DoughBorder", name := "alikeAt", desc := "(III)I" } : Jvm.MethodName)) ∈ lw_tbl := lw_at lw_m4 218 rfl
theorem q1058 : (Jvm.Cond.instanceMethod ({ cls := "DoughBorder", name := "alikeAt", desc := "(III)I" } : Jvm.MethodName)) ∈ lw_all := lw_g (lw_at lw_m4 219 rfl) rfl
theorem q1059 : (Jvm.Cond.code ({ cls := "DoughBorder", name := "alikeAt", desc := "(III)I" } : Jvm.MethodName) prog_1_method_39_code (7 : Nat) (Option.some Jvm.ClassFile.FieldType.int)) ∈ lw_all := lw_g (lw_at lw_m4 220 rfl) rfl
theorem q1061 : (Jvm.Cond.instanceMethod ({ cls := "DoughBorder", name := "crust", desc := "(IIII)I" } : Jvm.MethodName)) ∈ lw_all := lw_g (lw_at lw_m4 222 rfl) rfl
theorem q1062 : (Jvm.Cond.selects "DoughBorder" ({ cls := "DoughBorder", name := "crust", desc := "(IIII)I" } : Jvm.MethodName) ({ cls := "DoughBorder", name := "crust", desc := "(IIII)I" } : Jvm.MethodName)) ∈ lw_all := lw_g (lw_at lw_m4 223 rfl) rfl
theorem q1063 : (Jvm.Cond.code ({ cls := "DoughBorder", name := "crust", desc := "(IIII)I" } : Jvm.MethodName) prog_1_method_42_code (9 : Nat) (Option.some Jvm.ClassFile.FieldType.int)) ∈ lw_all := lw_g (lw_at lw_m4 224 rfl) rfl
theorem q1064 : (Jvm.Cond.constantLong "DoughBorder" (325 : Nat) (60 : Int64)) ∈ lw_all := lw_g (lw_at lw_m4 225 rfl) rfl
theorem q1065 : (Jvm.Cond.methodLink "DoughBorder" (327 : Nat) ({ cls := "DoughBorder", name := "ownNights", desc := "(IIII)I" } : Jvm.MethodName)) ∈ lw_all := lw_g (lw_at lw_m4 226 rfl) rfl
theorem q1066 : (Jvm.Cond.privateMethod ({ cls := "DoughBorder", name := "ownNights", desc := "(IIII)I" } : Jvm.MethodName)) ∈ lw_tbl := lw_at lw_m4 227 rfl
theorem q1067 : (Jvm.Cond.instanceMethod ({ cls := "DoughBorder", name := "ownNights", desc := "(IIII)I" } : Jvm.MethodName)) ∈ lw_all := lw_g (lw_at lw_m4 228 rfl) rfl
theorem q1068 : (Jvm.Cond.code ({ cls := "DoughBorder", name := "ownNights", desc := "(IIII)I" } : Jvm.MethodName) prog_1_method_41_code (8 : Nat) (Option.some Jvm.ClassFile.FieldType.int)) ∈ lw_all := lw_g (lw_at lw_m4 229 rfl) rfl
theorem q1070 : (Jvm.Cond.instanceMethod ({ cls := "DoughBorder", name := "peace", desc := "(II)I" } : Jvm.MethodName)) ∈ lw_all := lw_g (lw_at lw_m4 231 rfl) rfl
theorem q1071 : (Jvm.Cond.selects "DoughBorder" ({ cls := "DoughBorder", name := "peace", desc := "(II)I" } : Jvm.MethodName) ({ cls := "DoughBorder", name := "peace", desc := "(II)I" } : Jvm.MethodName)) ∈ lw_all := lw_g (lw_at lw_m4 232 rfl) rfl
theorem q1072 : (Jvm.Cond.code ({ cls := "DoughBorder", name := "peace", desc := "(II)I" } : Jvm.MethodName) prog_1_method_44_code (5 : Nat) (Option.some Jvm.ClassFile.FieldType.int)) ∈ lw_all := lw_g (lw_at lw_m4 233 rfl) rfl
theorem q1073 : (Jvm.Cond.methodLink "DoughBorder" (331 : Nat) ({ cls := "java/lang/Integer", name := "bitCount", desc := "(I)I" } : Jvm.MethodName)) ∈ lw_all := lw_g (lw_at lw_m4 234 rfl) rfl
theorem q1079 : (Jvm.Cond.methodLink "DoughBorder" (336 : Nat) ({ cls := "DoughBorder", name := "isPeace", desc := "(II)Z" } : Jvm.MethodName)) ∈ lw_all := lw_g (lw_at lw_m5 0 rfl) rfl
theorem q1080 : (Jvm.Cond.privateMethod ({ cls := "DoughBorder", name := "isPeace", desc := "(II)Z" } : Jvm.MethodName)) ∈ lw_tbl := lw_at lw_m5 1 rfl
theorem q1081 : (Jvm.Cond.instanceMethod ({ cls := "DoughBorder", name := "isPeace", desc := "(II)Z" } : Jvm.MethodName)) ∈ lw_all := lw_g (lw_at lw_m5 2 rfl) rfl
theorem q1082 : (Jvm.Cond.code ({ cls := "DoughBorder", name := "isPeace", desc := "(II)Z" } : Jvm.MethodName) prog_1_method_43_code (5 : Nat) (Option.some Jvm.ClassFile.FieldType.boolean)) ∈ lw_all := lw_g (lw_at lw_m5 3 rfl) rfl
theorem q1084 : (Jvm.Cond.instanceMethod ({ cls := "DoughBorder", name := "part", desc := "(I)I" } : Jvm.MethodName)) ∈ lw_all := lw_g (lw_at lw_m5 5 rfl) rfl
theorem q1085 : (Jvm.Cond.selects "DoughBorder" ({ cls := "DoughBorder", name := "part", desc := "(I)I" } : Jvm.MethodName) ({ cls := "DoughBorder", name := "part", desc := "(I)I" } : Jvm.MethodName)) ∈ lw_all := lw_g (lw_at lw_m5 6 rfl) rfl
theorem q1086 : (Jvm.Cond.code ({ cls := "DoughBorder", name := "part", desc := "(I)I" } : Jvm.MethodName) prog_1_method_46_code (4 : Nat) (Option.some Jvm.ClassFile.FieldType.int)) ∈ lw_all := lw_g (lw_at lw_m5 7 rfl) rfl
theorem q1087 : (Jvm.Cond.methodLink "DoughBorder" (339 : Nat) ({ cls := "DoughBorder", name := "divisor", desc := "(II)I" } : Jvm.MethodName)) ∈ lw_all := lw_g (lw_at lw_m5 8 rfl) rfl
theorem q1088 : (Jvm.Cond.static ({ cls := "DoughBorder", name := "divisor", desc := "(II)I" } : Jvm.MethodName)) ∈ lw_all := lw_g (lw_at lw_m5 9 rfl) rfl
theorem q1089 : (Jvm.Cond.code ({ cls := "DoughBorder", name := "divisor", desc := "(II)I" } : Jvm.MethodName) prog_1_method_45_code (2 : Nat) (Option.some Jvm.ClassFile.FieldType.int)) ∈ lw_all := lw_g (lw_at lw_m5 10 rfl) rfl
theorem q1091 : (Jvm.Cond.instanceMethod ({ cls := "DoughBorder", name := "seed", desc := "(I)I" } : Jvm.MethodName)) ∈ lw_all := lw_g (lw_at lw_m5 12 rfl) rfl
theorem q1092 : (Jvm.Cond.selects "DoughBorder" ({ cls := "DoughBorder", name := "seed", desc := "(I)I" } : Jvm.MethodName) ({ cls := "DoughBorder", name := "seed", desc := "(I)I" } : Jvm.MethodName)) ∈ lw_all := lw_g (lw_at lw_m5 13 rfl) rfl
theorem q1093 : (Jvm.Cond.code ({ cls := "DoughBorder", name := "seed", desc := "(I)I" } : Jvm.MethodName) prog_1_method_47_code (3 : Nat) (Option.some Jvm.ClassFile.FieldType.int)) ∈ lw_all := lw_g (lw_at lw_m5 14 rfl) rfl
theorem q1095 : (Jvm.Cond.instanceMethod ({ cls := "DoughBorder", name := "summers", desc := "(III)I" } : Jvm.MethodName)) ∈ lw_all := lw_g (lw_at lw_m5 16 rfl) rfl
theorem q1096 : (Jvm.Cond.selects "DoughBorder" ({ cls := "DoughBorder", name := "summers", desc := "(III)I" } : Jvm.MethodName) ({ cls := "DoughBorder", name := "summers", desc := "(III)I" } : Jvm.MethodName)) ∈ lw_all := lw_g (lw_at lw_m5 17 rfl) rfl
theorem q1097 : (Jvm.Cond.code ({ cls := "DoughBorder", name := "summers", desc := "(III)I" } : Jvm.MethodName) prog_1_method_49_code (9 : Nat) (Option.some Jvm.ClassFile.FieldType.int)) ∈ lw_all := lw_g (lw_at lw_m5 18 rfl) rfl
theorem q1098 : (Jvm.Cond.constantLong "DoughBorder" (355 : Nat) (10 : Int64)) ∈ lw_all := lw_g (lw_at lw_m5 19 rfl) rfl
theorem q1099 : (Jvm.Cond.methodLink "DoughBorder" (357 : Nat) ({ cls := "DoughBorder", name := "draw", desc := "(I)I" } : Jvm.MethodName)) ∈ lw_all := lw_g (lw_at lw_m5 20 rfl) rfl
theorem q1100 : (Jvm.Cond.privateMethod ({ cls := "DoughBorder", name := "draw", desc := "(I)I" } : Jvm.MethodName)) ∈ lw_tbl := lw_at lw_m5 21 rfl
theorem q1101 : (Jvm.Cond.instanceMethod ({ cls := "DoughBorder", name := "draw", desc := "(I)I" } : Jvm.MethodName)) ∈ lw_all := lw_g (lw_at lw_m5 22 rfl) rfl
theorem q1102 : (Jvm.Cond.code ({ cls := "DoughBorder", name := "draw", desc := "(I)I" } : Jvm.MethodName) prog_1_method_48_code (2 : Nat) (Option.some Jvm.ClassFile.FieldType.int)) ∈ lw_all := lw_g (lw_at lw_m5 23 rfl) rfl
theorem q1103 : (Jvm.Cond.constantLong "DoughBorder" (348 : Nat) (1103515245 : Int64)) ∈ lw_all := lw_g (lw_at lw_m5 24 rfl) rfl
theorem q1104 : (Jvm.Cond.constantLong "DoughBorder" (350 : Nat) (12345 : Int64)) ∈ lw_all := lw_g (lw_at lw_m5 25 rfl) rfl
theorem q1105 : (Jvm.Cond.constantLong "DoughBorder" (352 : Nat) (2147483648 : Int64)) ∈ lw_all := lw_g (lw_at lw_m5 26 rfl) rfl
theorem q1106 : (Jvm.Cond.constant "DoughBorder" (354 : Nat) (65536 : Int32)) ∈ lw_all := lw_g (lw_at lw_m5 27 rfl) rfl
theorem q1107 : (Jvm.Cond.methodLink "DoughBorder" (360 : Nat) ({ cls := "DoughBorder$Dough", name := "passes", desc := "(ILDoughBorder$Rule;)I" } : Jvm.MethodName)) ∈ lw_all := lw_g (lw_at lw_m5 28 rfl) rfl
theorem q1108 : (Jvm.Cond.methodLink "DoughBorder" (364 : Nat) ({ cls := "java/lang/Math", name := "abs", desc := "(I)I" } : Jvm.MethodName)) ∈ lw_all := lw_g (lw_at lw_m5 29 rfl) rfl
theorem q1110 : (Jvm.Cond.instanceMethod ({ cls := "DoughBorder", name := "count", desc := "(I)I" } : Jvm.MethodName)) ∈ lw_all := lw_g (lw_at lw_m5 31 rfl) rfl
theorem q1111 : (Jvm.Cond.selects "DoughBorder" ({ cls := "DoughBorder", name := "count", desc := "(I)I" } : Jvm.MethodName) ({ cls := "DoughBorder", name := "count", desc := "(I)I" } : Jvm.MethodName)) ∈ lw_all := lw_g (lw_at lw_m5 32 rfl) rfl
theorem q1112 : (Jvm.Cond.code ({ cls := "DoughBorder", name := "count", desc := "(I)I" } : Jvm.MethodName) prog_1_method_50_code (4 : Nat) (Option.some Jvm.ClassFile.FieldType.int)) ∈ lw_all := lw_g (lw_at lw_m5 33 rfl) rfl
theorem q1113 : (Jvm.Cond.constantLong "DoughBorder" (367 : Nat) (12 : Int64)) ∈ lw_all := lw_g (lw_at lw_m5 34 rfl) rfl
theorem q1115 : (Jvm.Cond.instanceMethod ({ cls := "DoughBorder", name := "image", desc := "(I)I" } : Jvm.MethodName)) ∈ lw_all := lw_g (lw_at lw_m5 36 rfl) rfl
theorem q1116 : (Jvm.Cond.selects "DoughBorder" ({ cls := "DoughBorder", name := "image", desc := "(I)I" } : Jvm.MethodName) ({ cls := "DoughBorder", name := "image", desc := "(I)I" } : Jvm.MethodName)) ∈ lw_all := lw_g (lw_at lw_m5 37 rfl) rfl
theorem q1117 : (Jvm.Cond.code ({ cls := "DoughBorder", name := "image", desc := "(I)I" } : Jvm.MethodName) prog_1_method_51_code (3 : Nat) (Option.some Jvm.ClassFile.FieldType.int)) ∈ lw_all := lw_g (lw_at lw_m5 38 rfl) rfl
theorem q1119 : (Jvm.Cond.methodLinkNest "DoughBorder" (374 : Nat) ({ cls := "DoughBorder$Image", name := "<init>", desc := "()V" } : Jvm.MethodName) "DoughBorder") ∈ lw_tbl := lw_at lw_m5 40 rfl
theorem q1126 : (Jvm.Cond.fieldLinkNest "DoughBorder" (381 : Nat) "DoughBorder$Image" "dough" "LDoughBorder$Dough;" "DoughBorder") ∈ lw_tbl := lw_at lw_m5 47 rfl
theorem q1127 : (Jvm.Cond.fieldLinkNest "DoughBorder" (375 : Nat) "DoughBorder$Image" "isTold" "Z" "DoughBorder") ∈ lw_tbl := lw_at lw_m5 48 rfl
theorem q1128 : (Jvm.Cond.fieldLinkNest "DoughBorder" (379 : Nat) "DoughBorder$Image" "x" "I" "DoughBorder") ∈ lw_tbl := lw_at lw_m5 49 rfl
theorem q1129 : (Jvm.Cond.fieldLinkNest "DoughBorder" (380 : Nat) "DoughBorder$Image" "inForce" "I" "DoughBorder") ∈ lw_tbl := lw_at lw_m5 50 rfl
theorem q1140 : (Jvm.Cond.instanceMethod ({ cls := "DoughBorder", name := "back", desc := "(I)I" } : Jvm.MethodName)) ∈ lw_all := lw_g (lw_at lw_m5 61 rfl) rfl
theorem q1141 : (Jvm.Cond.selects "DoughBorder" ({ cls := "DoughBorder", name := "back", desc := "(I)I" } : Jvm.MethodName) ({ cls := "DoughBorder", name := "back", desc := "(I)I" } : Jvm.MethodName)) ∈ lw_all := lw_g (lw_at lw_m5 62 rfl) rfl
theorem q1142 : (Jvm.Cond.code ({ cls := "DoughBorder", name := "back", desc := "(I)I" } : Jvm.MethodName) prog_1_method_52_code (2 : Nat) (Option.some Jvm.ClassFile.FieldType.int)) ∈ lw_all := lw_g (lw_at lw_m5 63 rfl) rfl
theorem in_X0 : ∀ w ∈ wsX00, w ∈ lw_all := lw_in wsX00 [401, 403, 405, 407, 409, 411, 413, 415, 417, 419, 421, 423, 425, 427, 429, 431, 433, 435, 437, 439, 441, 443, 445, 447, 449] (by decide +kernel) (by decide +kernel)
