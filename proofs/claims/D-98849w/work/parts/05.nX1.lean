/-! DoughBorder$Dough -/
set_option maxRecDepth 100000
def RX1 : String := "DoughBorder$Dough"
def TX1 : u_T := fun k => match k with
  | 0 => ("DoughBorder$Dough", "mileMany", "I", false)
  | 1 => ("DoughBorder$Dough", "damp", "I", false)
  | 2 => ("DoughBorder$Dough", "villageMany", "I", false)
  | 3 => ("DoughBorder$Dough", "wantMany", "I", false)
  | 4 => ("DoughBorder$Dough", "logMany", "I", false)
  | 5 => ("DoughBorder$Dough", "undoMany", "I", false)
  | 6 => ("DoughBorder$Dough", "toldBaked", "I", false)
  | 7 => ("DoughBorder$Dough", "baked", "I", false)
  | 8 => ("DoughBorder$Dough", "now", "I", false)
  | 9 => ("DoughBorder$Dough", "toldDough", "[I", true)
  | 10 => ("DoughBorder$Dough", "warm", "[I", true)
  | 11 => ("DoughBorder$Dough", "villageMile", "[I", true)
  | 12 => ("DoughBorder$Dough", "place", "[I", true)
  | 13 => ("DoughBorder$Dough", "whose", "[I", true)
  | 14 => ("DoughBorder$Dough", "want", "[I", true)
  | 15 => ("DoughBorder$Dough", "logs", "[I", true)
  | 16 => ("DoughBorder$Dough", "line", "[I", true)
  | 17 => ("DoughBorder$Dough", "dough", "[I", true)
  | 18 => ("DoughBorder$Dough", "salt", "[I", true)
  | 19 => ("DoughBorder$Dough", "crossed", "[I", true)
  | 20 => ("DoughBorder$Dough", "undo", "[I", true)
  | 21 => ("DoughBorder$Dough", "creeps", "[I", true)
  | 22 => ("DoughBorder$Dough", "lay", "[I", true)
  | _ => ("DoughBorder$Dough", "words", "[J", true)
def tyX1 : Nat → FieldType := fun k => match k with
  | 0 => .int
  | 1 => .int
  | 2 => .int
  | 3 => .int
  | 4 => .int
  | 5 => .int
  | 6 => .int
  | 7 => .int
  | 8 => .int
  | 9 => .array .int
  | 10 => .array .int
  | 11 => .array .int
  | 12 => .array .int
  | 13 => .array .int
  | 14 => .array .int
  | 15 => .array .int
  | 16 => .array .int
  | 17 => .array .int
  | 18 => .array .int
  | 19 => .array .int
  | 20 => .array .int
  | 21 => .array .int
  | 22 => .array .int
  | _ => .array .long
abbrev wsX10 : List Cond := u_ws RX1 TX1 24
set_option maxRecDepth 100000 in
theorem nmX1 : ∀ a, a < 24 → ∀ b, b < 24 → a ≠ b → (TX1 a).2.1 ≠ (TX1 b).2.1 := by decide +kernel
set_option maxRecDepth 100000 in
theorem tyX1_ok : ∀ k, k < 24 → parseFieldDescriptor (TX1 k).2.2.1 = some (tyX1 k) := by decide +kernel
abbrev cX1_init : ByteArray := prog_5_method_1_code
def yX1_init : MethodName := ⟨RX1, "<init>", "()V"⟩
def dkwX1_init_5 : List UInt8 := [42, 16, 12, 188, 11, 181, 0, 54, 177]
abbrev dktX1_init_5 : List UInt8 := dkwX1_init_5 ++ []
def dkwX1_init_4 : List UInt8 := [17, 3, 32, 188, 10, 181, 0, 45, 42, 16, 10, 188, 10, 181, 0, 48, 42, 16, 8, 188, 10, 181, 0, 51]
abbrev dktX1_init_4 : List UInt8 := dkwX1_init_4 ++ dktX1_init_5
def dkwX1_init_3 : List UInt8 := [188, 10, 181, 0, 36, 42, 16, 10, 188, 10, 181, 0, 39, 42, 16, 8, 188, 10, 181, 0, 42, 42]
abbrev dktX1_init_3 : List UInt8 := dkwX1_init_3 ++ dktX1_init_4
def dkwX1_init_2 : List UInt8 := [188, 10, 181, 0, 27, 42, 16, 30, 188, 10, 181, 0, 30, 42, 16, 10, 188, 10, 181, 0, 33, 42, 16, 10]
abbrev dktX1_init_2 : List UInt8 := dkwX1_init_2 ++ dktX1_init_3
def dkwX1_init_1 : List UInt8 := [188, 10, 181, 0, 18, 42, 16, 8, 188, 10, 181, 0, 21, 42, 16, 8, 188, 10, 181, 0, 24, 42, 16, 16]
abbrev dktX1_init_1 : List UInt8 := dkwX1_init_1 ++ dktX1_init_2
def dkwX1_init_0 : List UInt8 := [42, 183, 0, 3, 42, 16, 10, 188, 10, 181, 0, 9, 42, 16, 100, 188, 10, 181, 0, 15, 42, 16, 8]
abbrev dktX1_init_0 : List UInt8 := dkwX1_init_0 ++ dktX1_init_1
theorem dksX1_init_0 : cX1_init.data.toList.drop 0 = dktX1_init_0 := by decide +kernel
theorem dksX1_init_1 : cX1_init.data.toList.drop 23 = dktX1_init_1 := dk_seg dksX1_init_0 23 rfl rfl
theorem dksX1_init_2 : cX1_init.data.toList.drop 47 = dktX1_init_2 := dk_seg dksX1_init_1 24 rfl rfl
theorem dksX1_init_3 : cX1_init.data.toList.drop 71 = dktX1_init_3 := dk_seg dksX1_init_2 24 rfl rfl
theorem dksX1_init_4 : cX1_init.data.toList.drop 93 = dktX1_init_4 := dk_seg dksX1_init_3 22 rfl rfl
theorem dksX1_init_5 : cX1_init.data.toList.drop 117 = dktX1_init_5 := dk_seg dksX1_init_4 24 rfl rfl
theorem dX1_init_0 : decode cX1_init 0 = .ok (.aload_n 0, 1) := dk_42 (dk_at dksX1_init_0 0 rfl rfl)
theorem dX1_init_1 : decode cX1_init 1 = .ok (.invokespecial 3, 3) := dk_183 0 3 (dk_at dksX1_init_0 1 rfl rfl)
theorem dX1_init_4 : decode cX1_init 4 = .ok (.aload_n 0, 1) := dk_42 (dk_at dksX1_init_0 4 rfl rfl)
theorem dX1_init_5 : decode cX1_init 5 = .ok (.bipush 10, 2) := dk_16 10 (dk_at dksX1_init_0 5 rfl rfl)
theorem dX1_init_7 : decode cX1_init 7 = .ok (.newarray .int, 2) := dk_188_10 (dk_at dksX1_init_0 7 rfl rfl)
theorem dX1_init_9 : decode cX1_init 9 = .ok (.putfield 9, 3) := dk_181 0 9 (dk_at dksX1_init_0 9 rfl rfl)
theorem dX1_init_12 : decode cX1_init 12 = .ok (.aload_n 0, 1) := dk_42 (dk_at dksX1_init_0 12 rfl rfl)
theorem dX1_init_13 : decode cX1_init 13 = .ok (.bipush 100, 2) := dk_16 100 (dk_at dksX1_init_0 13 rfl rfl)
theorem dX1_init_15 : decode cX1_init 15 = .ok (.newarray .int, 2) := dk_188_10 (dk_at dksX1_init_0 15 rfl rfl)
theorem dX1_init_17 : decode cX1_init 17 = .ok (.putfield 15, 3) := dk_181 0 15 (dk_at dksX1_init_0 17 rfl rfl)
theorem dX1_init_20 : decode cX1_init 20 = .ok (.aload_n 0, 1) := dk_42 (dk_at dksX1_init_0 20 rfl rfl)
theorem dX1_init_21 : decode cX1_init 21 = .ok (.bipush 8, 2) := dk_16 8 (dk_at dksX1_init_0 21 rfl rfl)
theorem dX1_init_23 : decode cX1_init 23 = .ok (.newarray .int, 2) := dk_188_10 (dk_at dksX1_init_1 0 rfl rfl)
theorem dX1_init_25 : decode cX1_init 25 = .ok (.putfield 18, 3) := dk_181 0 18 (dk_at dksX1_init_1 2 rfl rfl)
theorem dX1_init_28 : decode cX1_init 28 = .ok (.aload_n 0, 1) := dk_42 (dk_at dksX1_init_1 5 rfl rfl)
theorem dX1_init_29 : decode cX1_init 29 = .ok (.bipush 8, 2) := dk_16 8 (dk_at dksX1_init_1 6 rfl rfl)
theorem dX1_init_31 : decode cX1_init 31 = .ok (.newarray .int, 2) := dk_188_10 (dk_at dksX1_init_1 8 rfl rfl)
theorem dX1_init_33 : decode cX1_init 33 = .ok (.putfield 21, 3) := dk_181 0 21 (dk_at dksX1_init_1 10 rfl rfl)
theorem dX1_init_36 : decode cX1_init 36 = .ok (.aload_n 0, 1) := dk_42 (dk_at dksX1_init_1 13 rfl rfl)
theorem dX1_init_37 : decode cX1_init 37 = .ok (.bipush 8, 2) := dk_16 8 (dk_at dksX1_init_1 14 rfl rfl)
theorem dX1_init_39 : decode cX1_init 39 = .ok (.newarray .int, 2) := dk_188_10 (dk_at dksX1_init_1 16 rfl rfl)
theorem dX1_init_41 : decode cX1_init 41 = .ok (.putfield 24, 3) := dk_181 0 24 (dk_at dksX1_init_1 18 rfl rfl)
theorem dX1_init_44 : decode cX1_init 44 = .ok (.aload_n 0, 1) := dk_42 (dk_at dksX1_init_1 21 rfl rfl)
theorem dX1_init_45 : decode cX1_init 45 = .ok (.bipush 16, 2) := dk_16 16 (dk_at dksX1_init_1 22 rfl rfl)
theorem dX1_init_47 : decode cX1_init 47 = .ok (.newarray .int, 2) := dk_188_10 (dk_at dksX1_init_2 0 rfl rfl)
theorem dX1_init_49 : decode cX1_init 49 = .ok (.putfield 27, 3) := dk_181 0 27 (dk_at dksX1_init_2 2 rfl rfl)
theorem dX1_init_52 : decode cX1_init 52 = .ok (.aload_n 0, 1) := dk_42 (dk_at dksX1_init_2 5 rfl rfl)
theorem dX1_init_53 : decode cX1_init 53 = .ok (.bipush 30, 2) := dk_16 30 (dk_at dksX1_init_2 6 rfl rfl)
theorem dX1_init_55 : decode cX1_init 55 = .ok (.newarray .int, 2) := dk_188_10 (dk_at dksX1_init_2 8 rfl rfl)
theorem dX1_init_57 : decode cX1_init 57 = .ok (.putfield 30, 3) := dk_181 0 30 (dk_at dksX1_init_2 10 rfl rfl)
theorem dX1_init_60 : decode cX1_init 60 = .ok (.aload_n 0, 1) := dk_42 (dk_at dksX1_init_2 13 rfl rfl)
theorem dX1_init_61 : decode cX1_init 61 = .ok (.bipush 10, 2) := dk_16 10 (dk_at dksX1_init_2 14 rfl rfl)
theorem dX1_init_63 : decode cX1_init 63 = .ok (.newarray .int, 2) := dk_188_10 (dk_at dksX1_init_2 16 rfl rfl)
theorem dX1_init_65 : decode cX1_init 65 = .ok (.putfield 33, 3) := dk_181 0 33 (dk_at dksX1_init_2 18 rfl rfl)
theorem dX1_init_68 : decode cX1_init 68 = .ok (.aload_n 0, 1) := dk_42 (dk_at dksX1_init_2 21 rfl rfl)
theorem dX1_init_69 : decode cX1_init 69 = .ok (.bipush 10, 2) := dk_16 10 (dk_at dksX1_init_2 22 rfl rfl)
theorem dX1_init_71 : decode cX1_init 71 = .ok (.newarray .int, 2) := dk_188_10 (dk_at dksX1_init_3 0 rfl rfl)
theorem dX1_init_73 : decode cX1_init 73 = .ok (.putfield 36, 3) := dk_181 0 36 (dk_at dksX1_init_3 2 rfl rfl)
theorem dX1_init_76 : decode cX1_init 76 = .ok (.aload_n 0, 1) := dk_42 (dk_at dksX1_init_3 5 rfl rfl)
theorem dX1_init_77 : decode cX1_init 77 = .ok (.bipush 10, 2) := dk_16 10 (dk_at dksX1_init_3 6 rfl rfl)
theorem dX1_init_79 : decode cX1_init 79 = .ok (.newarray .int, 2) := dk_188_10 (dk_at dksX1_init_3 8 rfl rfl)
theorem dX1_init_81 : decode cX1_init 81 = .ok (.putfield 39, 3) := dk_181 0 39 (dk_at dksX1_init_3 10 rfl rfl)
theorem dX1_init_84 : decode cX1_init 84 = .ok (.aload_n 0, 1) := dk_42 (dk_at dksX1_init_3 13 rfl rfl)
theorem dX1_init_85 : decode cX1_init 85 = .ok (.bipush 8, 2) := dk_16 8 (dk_at dksX1_init_3 14 rfl rfl)
theorem dX1_init_87 : decode cX1_init 87 = .ok (.newarray .int, 2) := dk_188_10 (dk_at dksX1_init_3 16 rfl rfl)
theorem dX1_init_89 : decode cX1_init 89 = .ok (.putfield 42, 3) := dk_181 0 42 (dk_at dksX1_init_3 18 rfl rfl)
theorem dX1_init_92 : decode cX1_init 92 = .ok (.aload_n 0, 1) := dk_42 (dk_at dksX1_init_3 21 rfl rfl)
theorem dX1_init_93 : decode cX1_init 93 = .ok (.sipush 800, 3) := dk_17 3 32 (dk_at dksX1_init_4 0 rfl rfl)
theorem dX1_init_96 : decode cX1_init 96 = .ok (.newarray .int, 2) := dk_188_10 (dk_at dksX1_init_4 3 rfl rfl)
theorem dX1_init_98 : decode cX1_init 98 = .ok (.putfield 45, 3) := dk_181 0 45 (dk_at dksX1_init_4 5 rfl rfl)
theorem dX1_init_101 : decode cX1_init 101 = .ok (.aload_n 0, 1) := dk_42 (dk_at dksX1_init_4 8 rfl rfl)
theorem dX1_init_102 : decode cX1_init 102 = .ok (.bipush 10, 2) := dk_16 10 (dk_at dksX1_init_4 9 rfl rfl)
theorem dX1_init_104 : decode cX1_init 104 = .ok (.newarray .int, 2) := dk_188_10 (dk_at dksX1_init_4 11 rfl rfl)
theorem dX1_init_106 : decode cX1_init 106 = .ok (.putfield 48, 3) := dk_181 0 48 (dk_at dksX1_init_4 13 rfl rfl)
theorem dX1_init_109 : decode cX1_init 109 = .ok (.aload_n 0, 1) := dk_42 (dk_at dksX1_init_4 16 rfl rfl)
theorem dX1_init_110 : decode cX1_init 110 = .ok (.bipush 8, 2) := dk_16 8 (dk_at dksX1_init_4 17 rfl rfl)
theorem dX1_init_112 : decode cX1_init 112 = .ok (.newarray .int, 2) := dk_188_10 (dk_at dksX1_init_4 19 rfl rfl)
theorem dX1_init_114 : decode cX1_init 114 = .ok (.putfield 51, 3) := dk_181 0 51 (dk_at dksX1_init_4 21 rfl rfl)
theorem dX1_init_117 : decode cX1_init 117 = .ok (.aload_n 0, 1) := dk_42 (dk_at dksX1_init_5 0 rfl rfl)
theorem dX1_init_118 : decode cX1_init 118 = .ok (.bipush 12, 2) := dk_16 12 (dk_at dksX1_init_5 1 rfl rfl)
theorem dX1_init_120 : decode cX1_init 120 = .ok (.newarray .long, 2) := dk_188_11 (dk_at dksX1_init_5 3 rfl rfl)
theorem dX1_init_122 : decode cX1_init 122 = .ok (.putfield 54, 3) := dk_181 0 54 (dk_at dksX1_init_5 5 rfl rfl)
theorem dX1_init_125 : decode cX1_init 125 = .ok (.return_, 1) := dk_177 (dk_at dksX1_init_5 8 rfl rfl)
abbrev cX1_copies : ByteArray := prog_5_method_2_code
def yX1_copies : MethodName := ⟨RX1, "copies", "(LDoughBorder$Dough;)LDoughBorder$Dough;"⟩
def dkwX1_copies_7 : List UInt8 := [180, 0, 45, 3, 17, 3, 32, 184, 0, 80, 42, 43, 182, 0, 86, 176]
abbrev dktX1_copies_7 : List UInt8 := dkwX1_copies_7 ++ []
def dkwX1_copies_6 : List UInt8 := [184, 0, 80, 43, 180, 0, 30, 3, 42, 180, 0, 30, 3, 16, 30, 184, 0, 80, 43, 180, 0, 45, 3, 42]
abbrev dktX1_copies_6 : List UInt8 := dkwX1_copies_6 ++ dktX1_copies_7
def dkwX1_copies_5 : List UInt8 := [3, 42, 180, 0, 24, 3, 16, 8, 184, 0, 80, 43, 180, 0, 27, 3, 42, 180, 0, 27, 3, 16, 16]
abbrev dktX1_copies_5 : List UInt8 := dkwX1_copies_5 ++ dktX1_copies_6
def dkwX1_copies_4 : List UInt8 := [16, 8, 184, 0, 80, 43, 180, 0, 21, 3, 42, 180, 0, 21, 3, 16, 8, 184, 0, 80, 43, 180, 0, 24]
abbrev dktX1_copies_4 : List UInt8 := dkwX1_copies_4 ++ dktX1_copies_5
def dkwX1_copies_3 : List UInt8 := [180, 0, 15, 3, 42, 180, 0, 15, 3, 16, 100, 184, 0, 80, 43, 180, 0, 18, 3, 42, 180, 0, 18, 3]
abbrev dktX1_copies_3 : List UInt8 := dkwX1_copies_3 ++ dktX1_copies_4
def dkwX1_copies_2 : List UInt8 := [42, 43, 180, 0, 77, 181, 0, 77, 43, 180, 0, 9, 3, 42, 180, 0, 9, 3, 16, 10, 184, 0, 80, 43]
abbrev dktX1_copies_2 : List UInt8 := dkwX1_copies_2 ++ dktX1_copies_3
def dkwX1_copies_1 : List UInt8 := [42, 43, 180, 0, 68, 181, 0, 68, 42, 43, 180, 0, 71, 181, 0, 71, 42, 43, 180, 0, 74, 181, 0, 74]
abbrev dktX1_copies_1 : List UInt8 := dkwX1_copies_1 ++ dktX1_copies_2
def dkwX1_copies_0 : List UInt8 := [42, 43, 180, 0, 58, 181, 0, 58, 42, 43, 180, 0, 62, 181, 0, 62, 42, 43, 180, 0, 65, 181, 0, 65]
abbrev dktX1_copies_0 : List UInt8 := dkwX1_copies_0 ++ dktX1_copies_1
theorem dksX1_copies_0 : cX1_copies.data.toList.drop 0 = dktX1_copies_0 := by decide +kernel
theorem dksX1_copies_1 : cX1_copies.data.toList.drop 24 = dktX1_copies_1 := dk_seg dksX1_copies_0 24 rfl rfl
theorem dksX1_copies_2 : cX1_copies.data.toList.drop 48 = dktX1_copies_2 := dk_seg dksX1_copies_1 24 rfl rfl
theorem dksX1_copies_3 : cX1_copies.data.toList.drop 72 = dktX1_copies_3 := dk_seg dksX1_copies_2 24 rfl rfl
theorem dksX1_copies_4 : cX1_copies.data.toList.drop 96 = dktX1_copies_4 := dk_seg dksX1_copies_3 24 rfl rfl
theorem dksX1_copies_5 : cX1_copies.data.toList.drop 120 = dktX1_copies_5 := dk_seg dksX1_copies_4 24 rfl rfl
theorem dksX1_copies_6 : cX1_copies.data.toList.drop 143 = dktX1_copies_6 := dk_seg dksX1_copies_5 23 rfl rfl
theorem dksX1_copies_7 : cX1_copies.data.toList.drop 167 = dktX1_copies_7 := dk_seg dksX1_copies_6 24 rfl rfl
theorem dX1_copies_0 : decode cX1_copies 0 = .ok (.aload_n 0, 1) := dk_42 (dk_at dksX1_copies_0 0 rfl rfl)
theorem dX1_copies_1 : decode cX1_copies 1 = .ok (.aload_n 1, 1) := dk_43 (dk_at dksX1_copies_0 1 rfl rfl)
theorem dX1_copies_2 : decode cX1_copies 2 = .ok (.getfield 58, 3) := dk_180 0 58 (dk_at dksX1_copies_0 2 rfl rfl)
theorem dX1_copies_5 : decode cX1_copies 5 = .ok (.putfield 58, 3) := dk_181 0 58 (dk_at dksX1_copies_0 5 rfl rfl)
theorem dX1_copies_8 : decode cX1_copies 8 = .ok (.aload_n 0, 1) := dk_42 (dk_at dksX1_copies_0 8 rfl rfl)
theorem dX1_copies_9 : decode cX1_copies 9 = .ok (.aload_n 1, 1) := dk_43 (dk_at dksX1_copies_0 9 rfl rfl)
theorem dX1_copies_10 : decode cX1_copies 10 = .ok (.getfield 62, 3) := dk_180 0 62 (dk_at dksX1_copies_0 10 rfl rfl)
theorem dX1_copies_13 : decode cX1_copies 13 = .ok (.putfield 62, 3) := dk_181 0 62 (dk_at dksX1_copies_0 13 rfl rfl)
theorem dX1_copies_16 : decode cX1_copies 16 = .ok (.aload_n 0, 1) := dk_42 (dk_at dksX1_copies_0 16 rfl rfl)
theorem dX1_copies_17 : decode cX1_copies 17 = .ok (.aload_n 1, 1) := dk_43 (dk_at dksX1_copies_0 17 rfl rfl)
theorem dX1_copies_18 : decode cX1_copies 18 = .ok (.getfield 65, 3) := dk_180 0 65 (dk_at dksX1_copies_0 18 rfl rfl)
theorem dX1_copies_21 : decode cX1_copies 21 = .ok (.putfield 65, 3) := dk_181 0 65 (dk_at dksX1_copies_0 21 rfl rfl)
theorem dX1_copies_24 : decode cX1_copies 24 = .ok (.aload_n 0, 1) := dk_42 (dk_at dksX1_copies_1 0 rfl rfl)
theorem dX1_copies_25 : decode cX1_copies 25 = .ok (.aload_n 1, 1) := dk_43 (dk_at dksX1_copies_1 1 rfl rfl)
theorem dX1_copies_26 : decode cX1_copies 26 = .ok (.getfield 68, 3) := dk_180 0 68 (dk_at dksX1_copies_1 2 rfl rfl)
theorem dX1_copies_29 : decode cX1_copies 29 = .ok (.putfield 68, 3) := dk_181 0 68 (dk_at dksX1_copies_1 5 rfl rfl)
theorem dX1_copies_32 : decode cX1_copies 32 = .ok (.aload_n 0, 1) := dk_42 (dk_at dksX1_copies_1 8 rfl rfl)
theorem dX1_copies_33 : decode cX1_copies 33 = .ok (.aload_n 1, 1) := dk_43 (dk_at dksX1_copies_1 9 rfl rfl)
theorem dX1_copies_34 : decode cX1_copies 34 = .ok (.getfield 71, 3) := dk_180 0 71 (dk_at dksX1_copies_1 10 rfl rfl)
theorem dX1_copies_37 : decode cX1_copies 37 = .ok (.putfield 71, 3) := dk_181 0 71 (dk_at dksX1_copies_1 13 rfl rfl)
theorem dX1_copies_40 : decode cX1_copies 40 = .ok (.aload_n 0, 1) := dk_42 (dk_at dksX1_copies_1 16 rfl rfl)
theorem dX1_copies_41 : decode cX1_copies 41 = .ok (.aload_n 1, 1) := dk_43 (dk_at dksX1_copies_1 17 rfl rfl)
theorem dX1_copies_42 : decode cX1_copies 42 = .ok (.getfield 74, 3) := dk_180 0 74 (dk_at dksX1_copies_1 18 rfl rfl)
theorem dX1_copies_45 : decode cX1_copies 45 = .ok (.putfield 74, 3) := dk_181 0 74 (dk_at dksX1_copies_1 21 rfl rfl)
theorem dX1_copies_48 : decode cX1_copies 48 = .ok (.aload_n 0, 1) := dk_42 (dk_at dksX1_copies_2 0 rfl rfl)
theorem dX1_copies_49 : decode cX1_copies 49 = .ok (.aload_n 1, 1) := dk_43 (dk_at dksX1_copies_2 1 rfl rfl)
theorem dX1_copies_50 : decode cX1_copies 50 = .ok (.getfield 77, 3) := dk_180 0 77 (dk_at dksX1_copies_2 2 rfl rfl)
theorem dX1_copies_53 : decode cX1_copies 53 = .ok (.putfield 77, 3) := dk_181 0 77 (dk_at dksX1_copies_2 5 rfl rfl)
theorem dX1_copies_56 : decode cX1_copies 56 = .ok (.aload_n 1, 1) := dk_43 (dk_at dksX1_copies_2 8 rfl rfl)
theorem dX1_copies_57 : decode cX1_copies 57 = .ok (.getfield 9, 3) := dk_180 0 9 (dk_at dksX1_copies_2 9 rfl rfl)
theorem dX1_copies_60 : decode cX1_copies 60 = .ok (.iconst 0, 1) := dk_3 (dk_at dksX1_copies_2 12 rfl rfl)
theorem dX1_copies_61 : decode cX1_copies 61 = .ok (.aload_n 0, 1) := dk_42 (dk_at dksX1_copies_2 13 rfl rfl)
theorem dX1_copies_62 : decode cX1_copies 62 = .ok (.getfield 9, 3) := dk_180 0 9 (dk_at dksX1_copies_2 14 rfl rfl)
theorem dX1_copies_65 : decode cX1_copies 65 = .ok (.iconst 0, 1) := dk_3 (dk_at dksX1_copies_2 17 rfl rfl)
theorem dX1_copies_66 : decode cX1_copies 66 = .ok (.bipush 10, 2) := dk_16 10 (dk_at dksX1_copies_2 18 rfl rfl)
theorem dX1_copies_68 : decode cX1_copies 68 = .ok (.invokestatic 80, 3) := dk_184 0 80 (dk_at dksX1_copies_2 20 rfl rfl)
theorem dX1_copies_71 : decode cX1_copies 71 = .ok (.aload_n 1, 1) := dk_43 (dk_at dksX1_copies_2 23 rfl rfl)
theorem dX1_copies_72 : decode cX1_copies 72 = .ok (.getfield 15, 3) := dk_180 0 15 (dk_at dksX1_copies_3 0 rfl rfl)
theorem dX1_copies_75 : decode cX1_copies 75 = .ok (.iconst 0, 1) := dk_3 (dk_at dksX1_copies_3 3 rfl rfl)
theorem dX1_copies_76 : decode cX1_copies 76 = .ok (.aload_n 0, 1) := dk_42 (dk_at dksX1_copies_3 4 rfl rfl)
theorem dX1_copies_77 : decode cX1_copies 77 = .ok (.getfield 15, 3) := dk_180 0 15 (dk_at dksX1_copies_3 5 rfl rfl)
theorem dX1_copies_80 : decode cX1_copies 80 = .ok (.iconst 0, 1) := dk_3 (dk_at dksX1_copies_3 8 rfl rfl)
theorem dX1_copies_81 : decode cX1_copies 81 = .ok (.bipush 100, 2) := dk_16 100 (dk_at dksX1_copies_3 9 rfl rfl)
theorem dX1_copies_83 : decode cX1_copies 83 = .ok (.invokestatic 80, 3) := dk_184 0 80 (dk_at dksX1_copies_3 11 rfl rfl)
theorem dX1_copies_86 : decode cX1_copies 86 = .ok (.aload_n 1, 1) := dk_43 (dk_at dksX1_copies_3 14 rfl rfl)
theorem dX1_copies_87 : decode cX1_copies 87 = .ok (.getfield 18, 3) := dk_180 0 18 (dk_at dksX1_copies_3 15 rfl rfl)
theorem dX1_copies_90 : decode cX1_copies 90 = .ok (.iconst 0, 1) := dk_3 (dk_at dksX1_copies_3 18 rfl rfl)
theorem dX1_copies_91 : decode cX1_copies 91 = .ok (.aload_n 0, 1) := dk_42 (dk_at dksX1_copies_3 19 rfl rfl)
theorem dX1_copies_92 : decode cX1_copies 92 = .ok (.getfield 18, 3) := dk_180 0 18 (dk_at dksX1_copies_3 20 rfl rfl)
theorem dX1_copies_95 : decode cX1_copies 95 = .ok (.iconst 0, 1) := dk_3 (dk_at dksX1_copies_3 23 rfl rfl)
theorem dX1_copies_96 : decode cX1_copies 96 = .ok (.bipush 8, 2) := dk_16 8 (dk_at dksX1_copies_4 0 rfl rfl)
theorem dX1_copies_98 : decode cX1_copies 98 = .ok (.invokestatic 80, 3) := dk_184 0 80 (dk_at dksX1_copies_4 2 rfl rfl)
theorem dX1_copies_101 : decode cX1_copies 101 = .ok (.aload_n 1, 1) := dk_43 (dk_at dksX1_copies_4 5 rfl rfl)
theorem dX1_copies_102 : decode cX1_copies 102 = .ok (.getfield 21, 3) := dk_180 0 21 (dk_at dksX1_copies_4 6 rfl rfl)
theorem dX1_copies_105 : decode cX1_copies 105 = .ok (.iconst 0, 1) := dk_3 (dk_at dksX1_copies_4 9 rfl rfl)
theorem dX1_copies_106 : decode cX1_copies 106 = .ok (.aload_n 0, 1) := dk_42 (dk_at dksX1_copies_4 10 rfl rfl)
theorem dX1_copies_107 : decode cX1_copies 107 = .ok (.getfield 21, 3) := dk_180 0 21 (dk_at dksX1_copies_4 11 rfl rfl)
theorem dX1_copies_110 : decode cX1_copies 110 = .ok (.iconst 0, 1) := dk_3 (dk_at dksX1_copies_4 14 rfl rfl)
theorem dX1_copies_111 : decode cX1_copies 111 = .ok (.bipush 8, 2) := dk_16 8 (dk_at dksX1_copies_4 15 rfl rfl)
theorem dX1_copies_113 : decode cX1_copies 113 = .ok (.invokestatic 80, 3) := dk_184 0 80 (dk_at dksX1_copies_4 17 rfl rfl)
theorem dX1_copies_116 : decode cX1_copies 116 = .ok (.aload_n 1, 1) := dk_43 (dk_at dksX1_copies_4 20 rfl rfl)
theorem dX1_copies_117 : decode cX1_copies 117 = .ok (.getfield 24, 3) := dk_180 0 24 (dk_at dksX1_copies_4 21 rfl rfl)
theorem dX1_copies_120 : decode cX1_copies 120 = .ok (.iconst 0, 1) := dk_3 (dk_at dksX1_copies_5 0 rfl rfl)
theorem dX1_copies_121 : decode cX1_copies 121 = .ok (.aload_n 0, 1) := dk_42 (dk_at dksX1_copies_5 1 rfl rfl)
theorem dX1_copies_122 : decode cX1_copies 122 = .ok (.getfield 24, 3) := dk_180 0 24 (dk_at dksX1_copies_5 2 rfl rfl)
theorem dX1_copies_125 : decode cX1_copies 125 = .ok (.iconst 0, 1) := dk_3 (dk_at dksX1_copies_5 5 rfl rfl)
theorem dX1_copies_126 : decode cX1_copies 126 = .ok (.bipush 8, 2) := dk_16 8 (dk_at dksX1_copies_5 6 rfl rfl)
theorem dX1_copies_128 : decode cX1_copies 128 = .ok (.invokestatic 80, 3) := dk_184 0 80 (dk_at dksX1_copies_5 8 rfl rfl)
theorem dX1_copies_131 : decode cX1_copies 131 = .ok (.aload_n 1, 1) := dk_43 (dk_at dksX1_copies_5 11 rfl rfl)
theorem dX1_copies_132 : decode cX1_copies 132 = .ok (.getfield 27, 3) := dk_180 0 27 (dk_at dksX1_copies_5 12 rfl rfl)
theorem dX1_copies_135 : decode cX1_copies 135 = .ok (.iconst 0, 1) := dk_3 (dk_at dksX1_copies_5 15 rfl rfl)
theorem dX1_copies_136 : decode cX1_copies 136 = .ok (.aload_n 0, 1) := dk_42 (dk_at dksX1_copies_5 16 rfl rfl)
theorem dX1_copies_137 : decode cX1_copies 137 = .ok (.getfield 27, 3) := dk_180 0 27 (dk_at dksX1_copies_5 17 rfl rfl)
theorem dX1_copies_140 : decode cX1_copies 140 = .ok (.iconst 0, 1) := dk_3 (dk_at dksX1_copies_5 20 rfl rfl)
theorem dX1_copies_141 : decode cX1_copies 141 = .ok (.bipush 16, 2) := dk_16 16 (dk_at dksX1_copies_5 21 rfl rfl)
theorem dX1_copies_143 : decode cX1_copies 143 = .ok (.invokestatic 80, 3) := dk_184 0 80 (dk_at dksX1_copies_6 0 rfl rfl)
theorem dX1_copies_146 : decode cX1_copies 146 = .ok (.aload_n 1, 1) := dk_43 (dk_at dksX1_copies_6 3 rfl rfl)
theorem dX1_copies_147 : decode cX1_copies 147 = .ok (.getfield 30, 3) := dk_180 0 30 (dk_at dksX1_copies_6 4 rfl rfl)
theorem dX1_copies_150 : decode cX1_copies 150 = .ok (.iconst 0, 1) := dk_3 (dk_at dksX1_copies_6 7 rfl rfl)
theorem dX1_copies_151 : decode cX1_copies 151 = .ok (.aload_n 0, 1) := dk_42 (dk_at dksX1_copies_6 8 rfl rfl)
theorem dX1_copies_152 : decode cX1_copies 152 = .ok (.getfield 30, 3) := dk_180 0 30 (dk_at dksX1_copies_6 9 rfl rfl)
theorem dX1_copies_155 : decode cX1_copies 155 = .ok (.iconst 0, 1) := dk_3 (dk_at dksX1_copies_6 12 rfl rfl)
theorem dX1_copies_156 : decode cX1_copies 156 = .ok (.bipush 30, 2) := dk_16 30 (dk_at dksX1_copies_6 13 rfl rfl)
theorem dX1_copies_158 : decode cX1_copies 158 = .ok (.invokestatic 80, 3) := dk_184 0 80 (dk_at dksX1_copies_6 15 rfl rfl)
theorem dX1_copies_161 : decode cX1_copies 161 = .ok (.aload_n 1, 1) := dk_43 (dk_at dksX1_copies_6 18 rfl rfl)
theorem dX1_copies_162 : decode cX1_copies 162 = .ok (.getfield 45, 3) := dk_180 0 45 (dk_at dksX1_copies_6 19 rfl rfl)
theorem dX1_copies_165 : decode cX1_copies 165 = .ok (.iconst 0, 1) := dk_3 (dk_at dksX1_copies_6 22 rfl rfl)
theorem dX1_copies_166 : decode cX1_copies 166 = .ok (.aload_n 0, 1) := dk_42 (dk_at dksX1_copies_6 23 rfl rfl)
theorem dX1_copies_167 : decode cX1_copies 167 = .ok (.getfield 45, 3) := dk_180 0 45 (dk_at dksX1_copies_7 0 rfl rfl)
theorem dX1_copies_170 : decode cX1_copies 170 = .ok (.iconst 0, 1) := dk_3 (dk_at dksX1_copies_7 3 rfl rfl)
theorem dX1_copies_171 : decode cX1_copies 171 = .ok (.sipush 800, 3) := dk_17 3 32 (dk_at dksX1_copies_7 4 rfl rfl)
theorem dX1_copies_174 : decode cX1_copies 174 = .ok (.invokestatic 80, 3) := dk_184 0 80 (dk_at dksX1_copies_7 7 rfl rfl)
theorem dX1_copies_177 : decode cX1_copies 177 = .ok (.aload_n 0, 1) := dk_42 (dk_at dksX1_copies_7 10 rfl rfl)
theorem dX1_copies_178 : decode cX1_copies 178 = .ok (.aload_n 1, 1) := dk_43 (dk_at dksX1_copies_7 11 rfl rfl)
theorem dX1_copies_179 : decode cX1_copies 179 = .ok (.invokevirtual 86, 3) := dk_182 0 86 (dk_at dksX1_copies_7 12 rfl rfl)
theorem dX1_copies_182 : decode cX1_copies 182 = .ok (.areturn, 1) := dk_176 (dk_at dksX1_copies_7 15 rfl rfl)
abbrev cX1_standsAs : ByteArray := prog_5_method_3_code
def yX1_standsAs : MethodName := ⟨RX1, "standsAs", "(LDoughBorder$Dough;)LDoughBorder$Dough;"⟩
def dkwX1_standsAs_3 : List UInt8 := [3, 16, 8, 184, 0, 80, 42, 176]
abbrev dktX1_standsAs_3 : List UInt8 := dkwX1_standsAs_3 ++ []
def dkwX1_standsAs_2 : List UInt8 := [43, 180, 0, 39, 3, 42, 180, 0, 39, 3, 16, 10, 184, 0, 80, 43, 180, 0, 42, 3, 42, 180, 0, 42]
abbrev dktX1_standsAs_2 : List UInt8 := dkwX1_standsAs_2 ++ dktX1_standsAs_3
def dkwX1_standsAs_1 : List UInt8 := [180, 0, 33, 3, 16, 10, 184, 0, 80, 43, 180, 0, 36, 3, 42, 180, 0, 36, 3, 16, 10, 184, 0, 80]
abbrev dktX1_standsAs_1 : List UInt8 := dkwX1_standsAs_1 ++ dktX1_standsAs_2
def dkwX1_standsAs_0 : List UInt8 := [42, 43, 180, 0, 90, 181, 0, 90, 42, 43, 180, 0, 93, 181, 0, 93, 43, 180, 0, 33, 3, 42]
abbrev dktX1_standsAs_0 : List UInt8 := dkwX1_standsAs_0 ++ dktX1_standsAs_1
theorem dksX1_standsAs_0 : cX1_standsAs.data.toList.drop 0 = dktX1_standsAs_0 := by decide +kernel
theorem dksX1_standsAs_1 : cX1_standsAs.data.toList.drop 22 = dktX1_standsAs_1 := dk_seg dksX1_standsAs_0 22 rfl rfl
theorem dksX1_standsAs_2 : cX1_standsAs.data.toList.drop 46 = dktX1_standsAs_2 := dk_seg dksX1_standsAs_1 24 rfl rfl
theorem dksX1_standsAs_3 : cX1_standsAs.data.toList.drop 70 = dktX1_standsAs_3 := dk_seg dksX1_standsAs_2 24 rfl rfl
theorem dX1_standsAs_0 : decode cX1_standsAs 0 = .ok (.aload_n 0, 1) := dk_42 (dk_at dksX1_standsAs_0 0 rfl rfl)
theorem dX1_standsAs_1 : decode cX1_standsAs 1 = .ok (.aload_n 1, 1) := dk_43 (dk_at dksX1_standsAs_0 1 rfl rfl)
theorem dX1_standsAs_2 : decode cX1_standsAs 2 = .ok (.getfield 90, 3) := dk_180 0 90 (dk_at dksX1_standsAs_0 2 rfl rfl)
theorem dX1_standsAs_5 : decode cX1_standsAs 5 = .ok (.putfield 90, 3) := dk_181 0 90 (dk_at dksX1_standsAs_0 5 rfl rfl)
theorem dX1_standsAs_8 : decode cX1_standsAs 8 = .ok (.aload_n 0, 1) := dk_42 (dk_at dksX1_standsAs_0 8 rfl rfl)
theorem dX1_standsAs_9 : decode cX1_standsAs 9 = .ok (.aload_n 1, 1) := dk_43 (dk_at dksX1_standsAs_0 9 rfl rfl)
theorem dX1_standsAs_10 : decode cX1_standsAs 10 = .ok (.getfield 93, 3) := dk_180 0 93 (dk_at dksX1_standsAs_0 10 rfl rfl)
theorem dX1_standsAs_13 : decode cX1_standsAs 13 = .ok (.putfield 93, 3) := dk_181 0 93 (dk_at dksX1_standsAs_0 13 rfl rfl)
theorem dX1_standsAs_16 : decode cX1_standsAs 16 = .ok (.aload_n 1, 1) := dk_43 (dk_at dksX1_standsAs_0 16 rfl rfl)
theorem dX1_standsAs_17 : decode cX1_standsAs 17 = .ok (.getfield 33, 3) := dk_180 0 33 (dk_at dksX1_standsAs_0 17 rfl rfl)
theorem dX1_standsAs_20 : decode cX1_standsAs 20 = .ok (.iconst 0, 1) := dk_3 (dk_at dksX1_standsAs_0 20 rfl rfl)
theorem dX1_standsAs_21 : decode cX1_standsAs 21 = .ok (.aload_n 0, 1) := dk_42 (dk_at dksX1_standsAs_0 21 rfl rfl)
theorem dX1_standsAs_22 : decode cX1_standsAs 22 = .ok (.getfield 33, 3) := dk_180 0 33 (dk_at dksX1_standsAs_1 0 rfl rfl)
theorem dX1_standsAs_25 : decode cX1_standsAs 25 = .ok (.iconst 0, 1) := dk_3 (dk_at dksX1_standsAs_1 3 rfl rfl)
theorem dX1_standsAs_26 : decode cX1_standsAs 26 = .ok (.bipush 10, 2) := dk_16 10 (dk_at dksX1_standsAs_1 4 rfl rfl)
theorem dX1_standsAs_28 : decode cX1_standsAs 28 = .ok (.invokestatic 80, 3) := dk_184 0 80 (dk_at dksX1_standsAs_1 6 rfl rfl)
theorem dX1_standsAs_31 : decode cX1_standsAs 31 = .ok (.aload_n 1, 1) := dk_43 (dk_at dksX1_standsAs_1 9 rfl rfl)
theorem dX1_standsAs_32 : decode cX1_standsAs 32 = .ok (.getfield 36, 3) := dk_180 0 36 (dk_at dksX1_standsAs_1 10 rfl rfl)
theorem dX1_standsAs_35 : decode cX1_standsAs 35 = .ok (.iconst 0, 1) := dk_3 (dk_at dksX1_standsAs_1 13 rfl rfl)
theorem dX1_standsAs_36 : decode cX1_standsAs 36 = .ok (.aload_n 0, 1) := dk_42 (dk_at dksX1_standsAs_1 14 rfl rfl)
theorem dX1_standsAs_37 : decode cX1_standsAs 37 = .ok (.getfield 36, 3) := dk_180 0 36 (dk_at dksX1_standsAs_1 15 rfl rfl)
theorem dX1_standsAs_40 : decode cX1_standsAs 40 = .ok (.iconst 0, 1) := dk_3 (dk_at dksX1_standsAs_1 18 rfl rfl)
theorem dX1_standsAs_41 : decode cX1_standsAs 41 = .ok (.bipush 10, 2) := dk_16 10 (dk_at dksX1_standsAs_1 19 rfl rfl)
theorem dX1_standsAs_43 : decode cX1_standsAs 43 = .ok (.invokestatic 80, 3) := dk_184 0 80 (dk_at dksX1_standsAs_1 21 rfl rfl)
theorem dX1_standsAs_46 : decode cX1_standsAs 46 = .ok (.aload_n 1, 1) := dk_43 (dk_at dksX1_standsAs_2 0 rfl rfl)
theorem dX1_standsAs_47 : decode cX1_standsAs 47 = .ok (.getfield 39, 3) := dk_180 0 39 (dk_at dksX1_standsAs_2 1 rfl rfl)
theorem dX1_standsAs_50 : decode cX1_standsAs 50 = .ok (.iconst 0, 1) := dk_3 (dk_at dksX1_standsAs_2 4 rfl rfl)
theorem dX1_standsAs_51 : decode cX1_standsAs 51 = .ok (.aload_n 0, 1) := dk_42 (dk_at dksX1_standsAs_2 5 rfl rfl)
theorem dX1_standsAs_52 : decode cX1_standsAs 52 = .ok (.getfield 39, 3) := dk_180 0 39 (dk_at dksX1_standsAs_2 6 rfl rfl)
theorem dX1_standsAs_55 : decode cX1_standsAs 55 = .ok (.iconst 0, 1) := dk_3 (dk_at dksX1_standsAs_2 9 rfl rfl)
theorem dX1_standsAs_56 : decode cX1_standsAs 56 = .ok (.bipush 10, 2) := dk_16 10 (dk_at dksX1_standsAs_2 10 rfl rfl)
theorem dX1_standsAs_58 : decode cX1_standsAs 58 = .ok (.invokestatic 80, 3) := dk_184 0 80 (dk_at dksX1_standsAs_2 12 rfl rfl)
theorem dX1_standsAs_61 : decode cX1_standsAs 61 = .ok (.aload_n 1, 1) := dk_43 (dk_at dksX1_standsAs_2 15 rfl rfl)
theorem dX1_standsAs_62 : decode cX1_standsAs 62 = .ok (.getfield 42, 3) := dk_180 0 42 (dk_at dksX1_standsAs_2 16 rfl rfl)
theorem dX1_standsAs_65 : decode cX1_standsAs 65 = .ok (.iconst 0, 1) := dk_3 (dk_at dksX1_standsAs_2 19 rfl rfl)
theorem dX1_standsAs_66 : decode cX1_standsAs 66 = .ok (.aload_n 0, 1) := dk_42 (dk_at dksX1_standsAs_2 20 rfl rfl)
theorem dX1_standsAs_67 : decode cX1_standsAs 67 = .ok (.getfield 42, 3) := dk_180 0 42 (dk_at dksX1_standsAs_2 21 rfl rfl)
theorem dX1_standsAs_70 : decode cX1_standsAs 70 = .ok (.iconst 0, 1) := dk_3 (dk_at dksX1_standsAs_3 0 rfl rfl)
theorem dX1_standsAs_71 : decode cX1_standsAs 71 = .ok (.bipush 8, 2) := dk_16 8 (dk_at dksX1_standsAs_3 1 rfl rfl)
theorem dX1_standsAs_73 : decode cX1_standsAs 73 = .ok (.invokestatic 80, 3) := dk_184 0 80 (dk_at dksX1_standsAs_3 3 rfl rfl)
theorem dX1_standsAs_76 : decode cX1_standsAs 76 = .ok (.aload_n 0, 1) := dk_42 (dk_at dksX1_standsAs_3 6 rfl rfl)
theorem dX1_standsAs_77 : decode cX1_standsAs 77 = .ok (.areturn, 1) := dk_176 (dk_at dksX1_standsAs_3 7 rfl rfl)
abbrev cX1_isBaked : ByteArray := prog_5_method_6_code
def yX1_isBaked : MethodName := ⟨RX1, "isBaked", "(I)Z"⟩
def dkwX1_isBaked_0 : List UInt8 := [42, 180, 0, 90, 27, 184, 0, 96, 172]
abbrev dktX1_isBaked_0 : List UInt8 := dkwX1_isBaked_0 ++ []
theorem dksX1_isBaked_0 : cX1_isBaked.data.toList.drop 0 = dktX1_isBaked_0 := by decide +kernel
theorem dX1_isBaked_0 : decode cX1_isBaked 0 = .ok (.aload_n 0, 1) := dk_42 (dk_at dksX1_isBaked_0 0 rfl rfl)
theorem dX1_isBaked_1 : decode cX1_isBaked 1 = .ok (.getfield 90, 3) := dk_180 0 90 (dk_at dksX1_isBaked_0 1 rfl rfl)
theorem dX1_isBaked_4 : decode cX1_isBaked 4 = .ok (.iload_n 1, 1) := dk_27 (dk_at dksX1_isBaked_0 4 rfl rfl)
theorem dX1_isBaked_5 : decode cX1_isBaked 5 = .ok (.invokestatic 96, 3) := dk_184 0 96 (dk_at dksX1_isBaked_0 5 rfl rfl)
theorem dX1_isBaked_8 : decode cX1_isBaked 8 = .ok (.ireturn, 1) := dk_172 (dk_at dksX1_isBaked_0 8 rfl rfl)
abbrev cX1_sideOf : ByteArray := prog_5_method_8_code
def yX1_sideOf : MethodName := ⟨RX1, "sideOf", "(I)I"⟩
def dkwX1_sideOf_2 : List UInt8 := [5, 172]
abbrev dktX1_sideOf_2 : List UInt8 := dkwX1_sideOf_2 ++ []
def dkwX1_sideOf_1 : List UInt8 := [42, 180, 0, 21, 27, 46, 42, 180, 0, 33, 42, 180, 0, 18, 27, 46, 46, 164, 0, 7, 4, 167, 0, 4]
abbrev dktX1_sideOf_1 : List UInt8 := dkwX1_sideOf_1 ++ dktX1_sideOf_2
def dkwX1_sideOf_0 : List UInt8 := [42, 180, 0, 21, 27, 46, 42, 180, 0, 33, 42, 180, 0, 18, 27, 46, 46, 162, 0, 7, 3, 167, 0, 28]
abbrev dktX1_sideOf_0 : List UInt8 := dkwX1_sideOf_0 ++ dktX1_sideOf_1
theorem dksX1_sideOf_0 : cX1_sideOf.data.toList.drop 0 = dktX1_sideOf_0 := by decide +kernel
theorem dksX1_sideOf_1 : cX1_sideOf.data.toList.drop 24 = dktX1_sideOf_1 := dk_seg dksX1_sideOf_0 24 rfl rfl
theorem dksX1_sideOf_2 : cX1_sideOf.data.toList.drop 48 = dktX1_sideOf_2 := dk_seg dksX1_sideOf_1 24 rfl rfl
theorem dX1_sideOf_0 : decode cX1_sideOf 0 = .ok (.aload_n 0, 1) := dk_42 (dk_at dksX1_sideOf_0 0 rfl rfl)
theorem dX1_sideOf_1 : decode cX1_sideOf 1 = .ok (.getfield 21, 3) := dk_180 0 21 (dk_at dksX1_sideOf_0 1 rfl rfl)
theorem dX1_sideOf_4 : decode cX1_sideOf 4 = .ok (.iload_n 1, 1) := dk_27 (dk_at dksX1_sideOf_0 4 rfl rfl)
theorem dX1_sideOf_5 : decode cX1_sideOf 5 = .ok (.iaload, 1) := dk_46 (dk_at dksX1_sideOf_0 5 rfl rfl)
theorem dX1_sideOf_6 : decode cX1_sideOf 6 = .ok (.aload_n 0, 1) := dk_42 (dk_at dksX1_sideOf_0 6 rfl rfl)
theorem dX1_sideOf_7 : decode cX1_sideOf 7 = .ok (.getfield 33, 3) := dk_180 0 33 (dk_at dksX1_sideOf_0 7 rfl rfl)
theorem dX1_sideOf_10 : decode cX1_sideOf 10 = .ok (.aload_n 0, 1) := dk_42 (dk_at dksX1_sideOf_0 10 rfl rfl)
theorem dX1_sideOf_11 : decode cX1_sideOf 11 = .ok (.getfield 18, 3) := dk_180 0 18 (dk_at dksX1_sideOf_0 11 rfl rfl)
theorem dX1_sideOf_14 : decode cX1_sideOf 14 = .ok (.iload_n 1, 1) := dk_27 (dk_at dksX1_sideOf_0 14 rfl rfl)
theorem dX1_sideOf_15 : decode cX1_sideOf 15 = .ok (.iaload, 1) := dk_46 (dk_at dksX1_sideOf_0 15 rfl rfl)
theorem dX1_sideOf_16 : decode cX1_sideOf 16 = .ok (.iaload, 1) := dk_46 (dk_at dksX1_sideOf_0 16 rfl rfl)
theorem dX1_sideOf_17 : decode cX1_sideOf 17 = .ok (.if_icmp .ge 7, 3) := dk_162 0 7 (dk_at dksX1_sideOf_0 17 rfl rfl)
theorem dX1_sideOf_20 : decode cX1_sideOf 20 = .ok (.iconst 0, 1) := dk_3 (dk_at dksX1_sideOf_0 20 rfl rfl)
theorem dX1_sideOf_21 : decode cX1_sideOf 21 = .ok (.goto 28, 3) := dk_167 0 28 (dk_at dksX1_sideOf_0 21 rfl rfl)
theorem dX1_sideOf_24 : decode cX1_sideOf 24 = .ok (.aload_n 0, 1) := dk_42 (dk_at dksX1_sideOf_1 0 rfl rfl)
theorem dX1_sideOf_25 : decode cX1_sideOf 25 = .ok (.getfield 21, 3) := dk_180 0 21 (dk_at dksX1_sideOf_1 1 rfl rfl)
theorem dX1_sideOf_28 : decode cX1_sideOf 28 = .ok (.iload_n 1, 1) := dk_27 (dk_at dksX1_sideOf_1 4 rfl rfl)
theorem dX1_sideOf_29 : decode cX1_sideOf 29 = .ok (.iaload, 1) := dk_46 (dk_at dksX1_sideOf_1 5 rfl rfl)
theorem dX1_sideOf_30 : decode cX1_sideOf 30 = .ok (.aload_n 0, 1) := dk_42 (dk_at dksX1_sideOf_1 6 rfl rfl)
theorem dX1_sideOf_31 : decode cX1_sideOf 31 = .ok (.getfield 33, 3) := dk_180 0 33 (dk_at dksX1_sideOf_1 7 rfl rfl)
theorem dX1_sideOf_34 : decode cX1_sideOf 34 = .ok (.aload_n 0, 1) := dk_42 (dk_at dksX1_sideOf_1 10 rfl rfl)
theorem dX1_sideOf_35 : decode cX1_sideOf 35 = .ok (.getfield 18, 3) := dk_180 0 18 (dk_at dksX1_sideOf_1 11 rfl rfl)
theorem dX1_sideOf_38 : decode cX1_sideOf 38 = .ok (.iload_n 1, 1) := dk_27 (dk_at dksX1_sideOf_1 14 rfl rfl)
theorem dX1_sideOf_39 : decode cX1_sideOf 39 = .ok (.iaload, 1) := dk_46 (dk_at dksX1_sideOf_1 15 rfl rfl)
theorem dX1_sideOf_40 : decode cX1_sideOf 40 = .ok (.iaload, 1) := dk_46 (dk_at dksX1_sideOf_1 16 rfl rfl)
theorem dX1_sideOf_41 : decode cX1_sideOf 41 = .ok (.if_icmp .le 7, 3) := dk_164 0 7 (dk_at dksX1_sideOf_1 17 rfl rfl)
theorem dX1_sideOf_44 : decode cX1_sideOf 44 = .ok (.iconst 1, 1) := dk_4 (dk_at dksX1_sideOf_1 20 rfl rfl)
theorem dX1_sideOf_45 : decode cX1_sideOf 45 = .ok (.goto 4, 3) := dk_167 0 4 (dk_at dksX1_sideOf_1 21 rfl rfl)
theorem dX1_sideOf_48 : decode cX1_sideOf 48 = .ok (.iconst 2, 1) := dk_5 (dk_at dksX1_sideOf_2 0 rfl rfl)
theorem dX1_sideOf_49 : decode cX1_sideOf 49 = .ok (.ireturn, 1) := dk_172 (dk_at dksX1_sideOf_2 1 rfl rfl)
abbrev cX1_warmOn : ByteArray := prog_5_method_7_code
def yX1_warmOn : MethodName := ⟨RX1, "warmOn", "(I)I"⟩
def dkwX1_warmOn_0 : List UInt8 := [27, 16, 100, 162, 0, 12, 42, 180, 0, 15, 27, 46, 167, 0, 4, 3, 172]
abbrev dktX1_warmOn_0 : List UInt8 := dkwX1_warmOn_0 ++ []
theorem dksX1_warmOn_0 : cX1_warmOn.data.toList.drop 0 = dktX1_warmOn_0 := by decide +kernel
theorem dX1_warmOn_0 : decode cX1_warmOn 0 = .ok (.iload_n 1, 1) := dk_27 (dk_at dksX1_warmOn_0 0 rfl rfl)
theorem dX1_warmOn_1 : decode cX1_warmOn 1 = .ok (.bipush 100, 2) := dk_16 100 (dk_at dksX1_warmOn_0 1 rfl rfl)
theorem dX1_warmOn_3 : decode cX1_warmOn 3 = .ok (.if_icmp .ge 12, 3) := dk_162 0 12 (dk_at dksX1_warmOn_0 3 rfl rfl)
theorem dX1_warmOn_6 : decode cX1_warmOn 6 = .ok (.aload_n 0, 1) := dk_42 (dk_at dksX1_warmOn_0 6 rfl rfl)
theorem dX1_warmOn_7 : decode cX1_warmOn 7 = .ok (.getfield 15, 3) := dk_180 0 15 (dk_at dksX1_warmOn_0 7 rfl rfl)
theorem dX1_warmOn_10 : decode cX1_warmOn 10 = .ok (.iload_n 1, 1) := dk_27 (dk_at dksX1_warmOn_0 10 rfl rfl)
theorem dX1_warmOn_11 : decode cX1_warmOn 11 = .ok (.iaload, 1) := dk_46 (dk_at dksX1_warmOn_0 11 rfl rfl)
theorem dX1_warmOn_12 : decode cX1_warmOn 12 = .ok (.goto 4, 3) := dk_167 0 4 (dk_at dksX1_warmOn_0 12 rfl rfl)
theorem dX1_warmOn_15 : decode cX1_warmOn 15 = .ok (.iconst 0, 1) := dk_3 (dk_at dksX1_warmOn_0 15 rfl rfl)
theorem dX1_warmOn_16 : decode cX1_warmOn 16 = .ok (.ireturn, 1) := dk_172 (dk_at dksX1_warmOn_0 16 rfl rfl)
abbrev cX1_takes : ByteArray := prog_5_method_5_code
def yX1_takes : MethodName := ⟨RX1, "takes", "(I)V"⟩
def dkwX1_takes_4 : List UInt8 := [184, 0, 80, 177]
abbrev dktX1_takes_4 : List UInt8 := dkwX1_takes_4 ++ []
def dkwX1_takes_3 : List UInt8 := [180, 0, 39, 3, 16, 10, 184, 0, 80, 42, 180, 0, 45, 28, 16, 32, 96, 42, 180, 0, 42, 3, 16, 8]
abbrev dktX1_takes_3 : List UInt8 := dkwX1_takes_3 ++ dktX1_takes_4
def dkwX1_takes_2 : List UInt8 := [28, 16, 12, 96, 42, 180, 0, 36, 3, 16, 10, 184, 0, 80, 42, 180, 0, 45, 28, 16, 22, 96, 42]
abbrev dktX1_takes_2 : List UInt8 := dkwX1_takes_2 ++ dktX1_takes_3
def dkwX1_takes_1 : List UInt8 := [181, 0, 93, 42, 180, 0, 45, 28, 5, 96, 42, 180, 0, 33, 3, 16, 10, 184, 0, 80, 42, 180, 0, 45]
abbrev dktX1_takes_1 : List UInt8 := dkwX1_takes_1 ++ dktX1_takes_2
def dkwX1_takes_0 : List UInt8 := [16, 40, 27, 104, 61, 42, 42, 180, 0, 45, 28, 46, 181, 0, 90, 42, 42, 180, 0, 45, 28, 4, 96, 46]
abbrev dktX1_takes_0 : List UInt8 := dkwX1_takes_0 ++ dktX1_takes_1
theorem dksX1_takes_0 : cX1_takes.data.toList.drop 0 = dktX1_takes_0 := by decide +kernel
theorem dksX1_takes_1 : cX1_takes.data.toList.drop 24 = dktX1_takes_1 := dk_seg dksX1_takes_0 24 rfl rfl
theorem dksX1_takes_2 : cX1_takes.data.toList.drop 48 = dktX1_takes_2 := dk_seg dksX1_takes_1 24 rfl rfl
theorem dksX1_takes_3 : cX1_takes.data.toList.drop 71 = dktX1_takes_3 := dk_seg dksX1_takes_2 23 rfl rfl
theorem dksX1_takes_4 : cX1_takes.data.toList.drop 95 = dktX1_takes_4 := dk_seg dksX1_takes_3 24 rfl rfl
theorem dX1_takes_0 : decode cX1_takes 0 = .ok (.bipush 40, 2) := dk_16 40 (dk_at dksX1_takes_0 0 rfl rfl)
theorem dX1_takes_2 : decode cX1_takes 2 = .ok (.iload_n 1, 1) := dk_27 (dk_at dksX1_takes_0 2 rfl rfl)
theorem dX1_takes_3 : decode cX1_takes 3 = .ok (.imul, 1) := dk_104 (dk_at dksX1_takes_0 3 rfl rfl)
theorem dX1_takes_4 : decode cX1_takes 4 = .ok (.istore_n 2, 1) := dk_61 (dk_at dksX1_takes_0 4 rfl rfl)
theorem dX1_takes_5 : decode cX1_takes 5 = .ok (.aload_n 0, 1) := dk_42 (dk_at dksX1_takes_0 5 rfl rfl)
theorem dX1_takes_6 : decode cX1_takes 6 = .ok (.aload_n 0, 1) := dk_42 (dk_at dksX1_takes_0 6 rfl rfl)
theorem dX1_takes_7 : decode cX1_takes 7 = .ok (.getfield 45, 3) := dk_180 0 45 (dk_at dksX1_takes_0 7 rfl rfl)
theorem dX1_takes_10 : decode cX1_takes 10 = .ok (.iload_n 2, 1) := dk_28 (dk_at dksX1_takes_0 10 rfl rfl)
theorem dX1_takes_11 : decode cX1_takes 11 = .ok (.iaload, 1) := dk_46 (dk_at dksX1_takes_0 11 rfl rfl)
theorem dX1_takes_12 : decode cX1_takes 12 = .ok (.putfield 90, 3) := dk_181 0 90 (dk_at dksX1_takes_0 12 rfl rfl)
theorem dX1_takes_15 : decode cX1_takes 15 = .ok (.aload_n 0, 1) := dk_42 (dk_at dksX1_takes_0 15 rfl rfl)
theorem dX1_takes_16 : decode cX1_takes 16 = .ok (.aload_n 0, 1) := dk_42 (dk_at dksX1_takes_0 16 rfl rfl)
theorem dX1_takes_17 : decode cX1_takes 17 = .ok (.getfield 45, 3) := dk_180 0 45 (dk_at dksX1_takes_0 17 rfl rfl)
theorem dX1_takes_20 : decode cX1_takes 20 = .ok (.iload_n 2, 1) := dk_28 (dk_at dksX1_takes_0 20 rfl rfl)
theorem dX1_takes_21 : decode cX1_takes 21 = .ok (.iconst 1, 1) := dk_4 (dk_at dksX1_takes_0 21 rfl rfl)
theorem dX1_takes_22 : decode cX1_takes 22 = .ok (.iadd, 1) := dk_96 (dk_at dksX1_takes_0 22 rfl rfl)
theorem dX1_takes_23 : decode cX1_takes 23 = .ok (.iaload, 1) := dk_46 (dk_at dksX1_takes_0 23 rfl rfl)
theorem dX1_takes_24 : decode cX1_takes 24 = .ok (.putfield 93, 3) := dk_181 0 93 (dk_at dksX1_takes_1 0 rfl rfl)
theorem dX1_takes_27 : decode cX1_takes 27 = .ok (.aload_n 0, 1) := dk_42 (dk_at dksX1_takes_1 3 rfl rfl)
theorem dX1_takes_28 : decode cX1_takes 28 = .ok (.getfield 45, 3) := dk_180 0 45 (dk_at dksX1_takes_1 4 rfl rfl)
theorem dX1_takes_31 : decode cX1_takes 31 = .ok (.iload_n 2, 1) := dk_28 (dk_at dksX1_takes_1 7 rfl rfl)
theorem dX1_takes_32 : decode cX1_takes 32 = .ok (.iconst 2, 1) := dk_5 (dk_at dksX1_takes_1 8 rfl rfl)
theorem dX1_takes_33 : decode cX1_takes 33 = .ok (.iadd, 1) := dk_96 (dk_at dksX1_takes_1 9 rfl rfl)
theorem dX1_takes_34 : decode cX1_takes 34 = .ok (.aload_n 0, 1) := dk_42 (dk_at dksX1_takes_1 10 rfl rfl)
theorem dX1_takes_35 : decode cX1_takes 35 = .ok (.getfield 33, 3) := dk_180 0 33 (dk_at dksX1_takes_1 11 rfl rfl)
theorem dX1_takes_38 : decode cX1_takes 38 = .ok (.iconst 0, 1) := dk_3 (dk_at dksX1_takes_1 14 rfl rfl)
theorem dX1_takes_39 : decode cX1_takes 39 = .ok (.bipush 10, 2) := dk_16 10 (dk_at dksX1_takes_1 15 rfl rfl)
theorem dX1_takes_41 : decode cX1_takes 41 = .ok (.invokestatic 80, 3) := dk_184 0 80 (dk_at dksX1_takes_1 17 rfl rfl)
theorem dX1_takes_44 : decode cX1_takes 44 = .ok (.aload_n 0, 1) := dk_42 (dk_at dksX1_takes_1 20 rfl rfl)
theorem dX1_takes_45 : decode cX1_takes 45 = .ok (.getfield 45, 3) := dk_180 0 45 (dk_at dksX1_takes_1 21 rfl rfl)
theorem dX1_takes_48 : decode cX1_takes 48 = .ok (.iload_n 2, 1) := dk_28 (dk_at dksX1_takes_2 0 rfl rfl)
theorem dX1_takes_49 : decode cX1_takes 49 = .ok (.bipush 12, 2) := dk_16 12 (dk_at dksX1_takes_2 1 rfl rfl)
theorem dX1_takes_51 : decode cX1_takes 51 = .ok (.iadd, 1) := dk_96 (dk_at dksX1_takes_2 3 rfl rfl)
theorem dX1_takes_52 : decode cX1_takes 52 = .ok (.aload_n 0, 1) := dk_42 (dk_at dksX1_takes_2 4 rfl rfl)
theorem dX1_takes_53 : decode cX1_takes 53 = .ok (.getfield 36, 3) := dk_180 0 36 (dk_at dksX1_takes_2 5 rfl rfl)
theorem dX1_takes_56 : decode cX1_takes 56 = .ok (.iconst 0, 1) := dk_3 (dk_at dksX1_takes_2 8 rfl rfl)
theorem dX1_takes_57 : decode cX1_takes 57 = .ok (.bipush 10, 2) := dk_16 10 (dk_at dksX1_takes_2 9 rfl rfl)
theorem dX1_takes_59 : decode cX1_takes 59 = .ok (.invokestatic 80, 3) := dk_184 0 80 (dk_at dksX1_takes_2 11 rfl rfl)
theorem dX1_takes_62 : decode cX1_takes 62 = .ok (.aload_n 0, 1) := dk_42 (dk_at dksX1_takes_2 14 rfl rfl)
theorem dX1_takes_63 : decode cX1_takes 63 = .ok (.getfield 45, 3) := dk_180 0 45 (dk_at dksX1_takes_2 15 rfl rfl)
theorem dX1_takes_66 : decode cX1_takes 66 = .ok (.iload_n 2, 1) := dk_28 (dk_at dksX1_takes_2 18 rfl rfl)
theorem dX1_takes_67 : decode cX1_takes 67 = .ok (.bipush 22, 2) := dk_16 22 (dk_at dksX1_takes_2 19 rfl rfl)
theorem dX1_takes_69 : decode cX1_takes 69 = .ok (.iadd, 1) := dk_96 (dk_at dksX1_takes_2 21 rfl rfl)
theorem dX1_takes_70 : decode cX1_takes 70 = .ok (.aload_n 0, 1) := dk_42 (dk_at dksX1_takes_2 22 rfl rfl)
theorem dX1_takes_71 : decode cX1_takes 71 = .ok (.getfield 39, 3) := dk_180 0 39 (dk_at dksX1_takes_3 0 rfl rfl)
theorem dX1_takes_74 : decode cX1_takes 74 = .ok (.iconst 0, 1) := dk_3 (dk_at dksX1_takes_3 3 rfl rfl)
theorem dX1_takes_75 : decode cX1_takes 75 = .ok (.bipush 10, 2) := dk_16 10 (dk_at dksX1_takes_3 4 rfl rfl)
theorem dX1_takes_77 : decode cX1_takes 77 = .ok (.invokestatic 80, 3) := dk_184 0 80 (dk_at dksX1_takes_3 6 rfl rfl)
theorem dX1_takes_80 : decode cX1_takes 80 = .ok (.aload_n 0, 1) := dk_42 (dk_at dksX1_takes_3 9 rfl rfl)
theorem dX1_takes_81 : decode cX1_takes 81 = .ok (.getfield 45, 3) := dk_180 0 45 (dk_at dksX1_takes_3 10 rfl rfl)
theorem dX1_takes_84 : decode cX1_takes 84 = .ok (.iload_n 2, 1) := dk_28 (dk_at dksX1_takes_3 13 rfl rfl)
theorem dX1_takes_85 : decode cX1_takes 85 = .ok (.bipush 32, 2) := dk_16 32 (dk_at dksX1_takes_3 14 rfl rfl)
theorem dX1_takes_87 : decode cX1_takes 87 = .ok (.iadd, 1) := dk_96 (dk_at dksX1_takes_3 16 rfl rfl)
theorem dX1_takes_88 : decode cX1_takes 88 = .ok (.aload_n 0, 1) := dk_42 (dk_at dksX1_takes_3 17 rfl rfl)
theorem dX1_takes_89 : decode cX1_takes 89 = .ok (.getfield 42, 3) := dk_180 0 42 (dk_at dksX1_takes_3 18 rfl rfl)
theorem dX1_takes_92 : decode cX1_takes 92 = .ok (.iconst 0, 1) := dk_3 (dk_at dksX1_takes_3 21 rfl rfl)
theorem dX1_takes_93 : decode cX1_takes 93 = .ok (.bipush 8, 2) := dk_16 8 (dk_at dksX1_takes_3 22 rfl rfl)
theorem dX1_takes_95 : decode cX1_takes 95 = .ok (.invokestatic 80, 3) := dk_184 0 80 (dk_at dksX1_takes_4 0 rfl rfl)
theorem dX1_takes_98 : decode cX1_takes 98 = .ok (.return_, 1) := dk_177 (dk_at dksX1_takes_4 3 rfl rfl)
abbrev cX1_lays : ByteArray := prog_5_method_4_code
def yX1_lays : MethodName := ⟨RX1, "lays", "(I)V"⟩
def dkwX1_lays_4 : List UInt8 := [96, 16, 8, 184, 0, 80, 177]
abbrev dktX1_lays_4 : List UInt8 := dkwX1_lays_4 ++ []
def dkwX1_lays_3 : List UInt8 := [180, 0, 45, 28, 16, 22, 96, 16, 10, 184, 0, 80, 42, 180, 0, 42, 3, 42, 180, 0, 45, 28, 16, 32]
abbrev dktX1_lays_3 : List UInt8 := dkwX1_lays_3 ++ dktX1_lays_4
def dkwX1_lays_2 : List UInt8 := [180, 0, 36, 3, 42, 180, 0, 45, 28, 16, 12, 96, 16, 10, 184, 0, 80, 42, 180, 0, 39, 3, 42]
abbrev dktX1_lays_2 : List UInt8 := dkwX1_lays_2 ++ dktX1_lays_3
def dkwX1_lays_1 : List UInt8 := [180, 0, 93, 79, 42, 180, 0, 33, 3, 42, 180, 0, 45, 28, 5, 96, 16, 10, 184, 0, 80, 42]
abbrev dktX1_lays_1 : List UInt8 := dkwX1_lays_1 ++ dktX1_lays_2
def dkwX1_lays_0 : List UInt8 := [16, 40, 27, 104, 61, 42, 180, 0, 45, 28, 42, 180, 0, 90, 79, 42, 180, 0, 45, 28, 4, 96, 42]
abbrev dktX1_lays_0 : List UInt8 := dkwX1_lays_0 ++ dktX1_lays_1
theorem dksX1_lays_0 : cX1_lays.data.toList.drop 0 = dktX1_lays_0 := by decide +kernel
theorem dksX1_lays_1 : cX1_lays.data.toList.drop 23 = dktX1_lays_1 := dk_seg dksX1_lays_0 23 rfl rfl
theorem dksX1_lays_2 : cX1_lays.data.toList.drop 45 = dktX1_lays_2 := dk_seg dksX1_lays_1 22 rfl rfl
theorem dksX1_lays_3 : cX1_lays.data.toList.drop 68 = dktX1_lays_3 := dk_seg dksX1_lays_2 23 rfl rfl
theorem dksX1_lays_4 : cX1_lays.data.toList.drop 92 = dktX1_lays_4 := dk_seg dksX1_lays_3 24 rfl rfl
theorem dX1_lays_0 : decode cX1_lays 0 = .ok (.bipush 40, 2) := dk_16 40 (dk_at dksX1_lays_0 0 rfl rfl)
theorem dX1_lays_2 : decode cX1_lays 2 = .ok (.iload_n 1, 1) := dk_27 (dk_at dksX1_lays_0 2 rfl rfl)
theorem dX1_lays_3 : decode cX1_lays 3 = .ok (.imul, 1) := dk_104 (dk_at dksX1_lays_0 3 rfl rfl)
theorem dX1_lays_4 : decode cX1_lays 4 = .ok (.istore_n 2, 1) := dk_61 (dk_at dksX1_lays_0 4 rfl rfl)
theorem dX1_lays_5 : decode cX1_lays 5 = .ok (.aload_n 0, 1) := dk_42 (dk_at dksX1_lays_0 5 rfl rfl)
theorem dX1_lays_6 : decode cX1_lays 6 = .ok (.getfield 45, 3) := dk_180 0 45 (dk_at dksX1_lays_0 6 rfl rfl)
theorem dX1_lays_9 : decode cX1_lays 9 = .ok (.iload_n 2, 1) := dk_28 (dk_at dksX1_lays_0 9 rfl rfl)
theorem dX1_lays_10 : decode cX1_lays 10 = .ok (.aload_n 0, 1) := dk_42 (dk_at dksX1_lays_0 10 rfl rfl)
theorem dX1_lays_11 : decode cX1_lays 11 = .ok (.getfield 90, 3) := dk_180 0 90 (dk_at dksX1_lays_0 11 rfl rfl)
theorem dX1_lays_14 : decode cX1_lays 14 = .ok (.iastore, 1) := dk_79 (dk_at dksX1_lays_0 14 rfl rfl)
theorem dX1_lays_15 : decode cX1_lays 15 = .ok (.aload_n 0, 1) := dk_42 (dk_at dksX1_lays_0 15 rfl rfl)
theorem dX1_lays_16 : decode cX1_lays 16 = .ok (.getfield 45, 3) := dk_180 0 45 (dk_at dksX1_lays_0 16 rfl rfl)
theorem dX1_lays_19 : decode cX1_lays 19 = .ok (.iload_n 2, 1) := dk_28 (dk_at dksX1_lays_0 19 rfl rfl)
theorem dX1_lays_20 : decode cX1_lays 20 = .ok (.iconst 1, 1) := dk_4 (dk_at dksX1_lays_0 20 rfl rfl)
theorem dX1_lays_21 : decode cX1_lays 21 = .ok (.iadd, 1) := dk_96 (dk_at dksX1_lays_0 21 rfl rfl)
theorem dX1_lays_22 : decode cX1_lays 22 = .ok (.aload_n 0, 1) := dk_42 (dk_at dksX1_lays_0 22 rfl rfl)
theorem dX1_lays_23 : decode cX1_lays 23 = .ok (.getfield 93, 3) := dk_180 0 93 (dk_at dksX1_lays_1 0 rfl rfl)
theorem dX1_lays_26 : decode cX1_lays 26 = .ok (.iastore, 1) := dk_79 (dk_at dksX1_lays_1 3 rfl rfl)
theorem dX1_lays_27 : decode cX1_lays 27 = .ok (.aload_n 0, 1) := dk_42 (dk_at dksX1_lays_1 4 rfl rfl)
theorem dX1_lays_28 : decode cX1_lays 28 = .ok (.getfield 33, 3) := dk_180 0 33 (dk_at dksX1_lays_1 5 rfl rfl)
theorem dX1_lays_31 : decode cX1_lays 31 = .ok (.iconst 0, 1) := dk_3 (dk_at dksX1_lays_1 8 rfl rfl)
theorem dX1_lays_32 : decode cX1_lays 32 = .ok (.aload_n 0, 1) := dk_42 (dk_at dksX1_lays_1 9 rfl rfl)
theorem dX1_lays_33 : decode cX1_lays 33 = .ok (.getfield 45, 3) := dk_180 0 45 (dk_at dksX1_lays_1 10 rfl rfl)
theorem dX1_lays_36 : decode cX1_lays 36 = .ok (.iload_n 2, 1) := dk_28 (dk_at dksX1_lays_1 13 rfl rfl)
theorem dX1_lays_37 : decode cX1_lays 37 = .ok (.iconst 2, 1) := dk_5 (dk_at dksX1_lays_1 14 rfl rfl)
theorem dX1_lays_38 : decode cX1_lays 38 = .ok (.iadd, 1) := dk_96 (dk_at dksX1_lays_1 15 rfl rfl)
theorem dX1_lays_39 : decode cX1_lays 39 = .ok (.bipush 10, 2) := dk_16 10 (dk_at dksX1_lays_1 16 rfl rfl)
theorem dX1_lays_41 : decode cX1_lays 41 = .ok (.invokestatic 80, 3) := dk_184 0 80 (dk_at dksX1_lays_1 18 rfl rfl)
theorem dX1_lays_44 : decode cX1_lays 44 = .ok (.aload_n 0, 1) := dk_42 (dk_at dksX1_lays_1 21 rfl rfl)
theorem dX1_lays_45 : decode cX1_lays 45 = .ok (.getfield 36, 3) := dk_180 0 36 (dk_at dksX1_lays_2 0 rfl rfl)
theorem dX1_lays_48 : decode cX1_lays 48 = .ok (.iconst 0, 1) := dk_3 (dk_at dksX1_lays_2 3 rfl rfl)
theorem dX1_lays_49 : decode cX1_lays 49 = .ok (.aload_n 0, 1) := dk_42 (dk_at dksX1_lays_2 4 rfl rfl)
theorem dX1_lays_50 : decode cX1_lays 50 = .ok (.getfield 45, 3) := dk_180 0 45 (dk_at dksX1_lays_2 5 rfl rfl)
theorem dX1_lays_53 : decode cX1_lays 53 = .ok (.iload_n 2, 1) := dk_28 (dk_at dksX1_lays_2 8 rfl rfl)
theorem dX1_lays_54 : decode cX1_lays 54 = .ok (.bipush 12, 2) := dk_16 12 (dk_at dksX1_lays_2 9 rfl rfl)
theorem dX1_lays_56 : decode cX1_lays 56 = .ok (.iadd, 1) := dk_96 (dk_at dksX1_lays_2 11 rfl rfl)
theorem dX1_lays_57 : decode cX1_lays 57 = .ok (.bipush 10, 2) := dk_16 10 (dk_at dksX1_lays_2 12 rfl rfl)
theorem dX1_lays_59 : decode cX1_lays 59 = .ok (.invokestatic 80, 3) := dk_184 0 80 (dk_at dksX1_lays_2 14 rfl rfl)
theorem dX1_lays_62 : decode cX1_lays 62 = .ok (.aload_n 0, 1) := dk_42 (dk_at dksX1_lays_2 17 rfl rfl)
theorem dX1_lays_63 : decode cX1_lays 63 = .ok (.getfield 39, 3) := dk_180 0 39 (dk_at dksX1_lays_2 18 rfl rfl)
theorem dX1_lays_66 : decode cX1_lays 66 = .ok (.iconst 0, 1) := dk_3 (dk_at dksX1_lays_2 21 rfl rfl)
theorem dX1_lays_67 : decode cX1_lays 67 = .ok (.aload_n 0, 1) := dk_42 (dk_at dksX1_lays_2 22 rfl rfl)
theorem dX1_lays_68 : decode cX1_lays 68 = .ok (.getfield 45, 3) := dk_180 0 45 (dk_at dksX1_lays_3 0 rfl rfl)
theorem dX1_lays_71 : decode cX1_lays 71 = .ok (.iload_n 2, 1) := dk_28 (dk_at dksX1_lays_3 3 rfl rfl)
theorem dX1_lays_72 : decode cX1_lays 72 = .ok (.bipush 22, 2) := dk_16 22 (dk_at dksX1_lays_3 4 rfl rfl)
theorem dX1_lays_74 : decode cX1_lays 74 = .ok (.iadd, 1) := dk_96 (dk_at dksX1_lays_3 6 rfl rfl)
theorem dX1_lays_75 : decode cX1_lays 75 = .ok (.bipush 10, 2) := dk_16 10 (dk_at dksX1_lays_3 7 rfl rfl)
theorem dX1_lays_77 : decode cX1_lays 77 = .ok (.invokestatic 80, 3) := dk_184 0 80 (dk_at dksX1_lays_3 9 rfl rfl)
theorem dX1_lays_80 : decode cX1_lays 80 = .ok (.aload_n 0, 1) := dk_42 (dk_at dksX1_lays_3 12 rfl rfl)
theorem dX1_lays_81 : decode cX1_lays 81 = .ok (.getfield 42, 3) := dk_180 0 42 (dk_at dksX1_lays_3 13 rfl rfl)
theorem dX1_lays_84 : decode cX1_lays 84 = .ok (.iconst 0, 1) := dk_3 (dk_at dksX1_lays_3 16 rfl rfl)
theorem dX1_lays_85 : decode cX1_lays 85 = .ok (.aload_n 0, 1) := dk_42 (dk_at dksX1_lays_3 17 rfl rfl)
theorem dX1_lays_86 : decode cX1_lays 86 = .ok (.getfield 45, 3) := dk_180 0 45 (dk_at dksX1_lays_3 18 rfl rfl)
theorem dX1_lays_89 : decode cX1_lays 89 = .ok (.iload_n 2, 1) := dk_28 (dk_at dksX1_lays_3 21 rfl rfl)
theorem dX1_lays_90 : decode cX1_lays 90 = .ok (.bipush 32, 2) := dk_16 32 (dk_at dksX1_lays_3 22 rfl rfl)
theorem dX1_lays_92 : decode cX1_lays 92 = .ok (.iadd, 1) := dk_96 (dk_at dksX1_lays_4 0 rfl rfl)
theorem dX1_lays_93 : decode cX1_lays 93 = .ok (.bipush 8, 2) := dk_16 8 (dk_at dksX1_lays_4 1 rfl rfl)
theorem dX1_lays_95 : decode cX1_lays 95 = .ok (.invokestatic 80, 3) := dk_184 0 80 (dk_at dksX1_lays_4 3 rfl rfl)
theorem dX1_lays_98 : decode cX1_lays 98 = .ok (.return_, 1) := dk_177 (dk_at dksX1_lays_4 6 rfl rfl)
abbrev cX1_goes : ByteArray := prog_5_method_19_code
def yX1_goes : MethodName := ⟨RX1, "goes", "(LDoughBorder$Rule;)I"⟩
def dkwX1_goes_0 : List UInt8 := [42, 42, 42, 180, 0, 93, 182, 0, 151, 43, 182, 0, 154, 172]
abbrev dktX1_goes_0 : List UInt8 := dkwX1_goes_0 ++ []
theorem dksX1_goes_0 : cX1_goes.data.toList.drop 0 = dktX1_goes_0 := by decide +kernel
theorem dX1_goes_0 : decode cX1_goes 0 = .ok (.aload_n 0, 1) := dk_42 (dk_at dksX1_goes_0 0 rfl rfl)
theorem dX1_goes_1 : decode cX1_goes 1 = .ok (.aload_n 0, 1) := dk_42 (dk_at dksX1_goes_0 1 rfl rfl)
theorem dX1_goes_2 : decode cX1_goes 2 = .ok (.aload_n 0, 1) := dk_42 (dk_at dksX1_goes_0 2 rfl rfl)
theorem dX1_goes_3 : decode cX1_goes 3 = .ok (.getfield 93, 3) := dk_180 0 93 (dk_at dksX1_goes_0 3 rfl rfl)
theorem dX1_goes_6 : decode cX1_goes 6 = .ok (.invokevirtual 151, 3) := dk_182 0 151 (dk_at dksX1_goes_0 6 rfl rfl)
theorem dX1_goes_9 : decode cX1_goes 9 = .ok (.aload_n 1, 1) := dk_43 (dk_at dksX1_goes_0 9 rfl rfl)
theorem dX1_goes_10 : decode cX1_goes 10 = .ok (.invokevirtual 154, 3) := dk_182 0 154 (dk_at dksX1_goes_0 10 rfl rfl)
theorem dX1_goes_13 : decode cX1_goes 13 = .ok (.ireturn, 1) := dk_172 (dk_at dksX1_goes_0 13 rfl rfl)
abbrev cX1_passes : ByteArray := prog_5_method_18_code
def yX1_passes : MethodName := ⟨RX1, "passes", "(ILDoughBorder$Rule;)I"⟩
def dkwX1_passes_6 : List UInt8 := [182, 0, 147, 132, 3, 1, 167, 255, 238, 42, 89, 180, 0, 93, 4, 96, 181, 0, 93, 42, 182, 0, 136, 172]
abbrev dktX1_passes_6 : List UInt8 := dkwX1_passes_6 ++ []
def dkwX1_passes_5 : List UInt8 := [184, 0, 120, 79, 132, 3, 1, 167, 255, 221, 3, 62, 29, 4, 96, 42, 180, 0, 58, 162, 0, 14, 42, 29]
abbrev dktX1_passes_5 : List UInt8 := dkwX1_passes_5 ++ dktX1_passes_6
def dkwX1_passes_4 : List UInt8 := [162, 0, 33, 42, 180, 0, 33, 29, 42, 180, 0, 33, 29, 46, 42, 180, 0, 48, 29, 46, 96, 16, 20]
abbrev dktX1_passes_4 : List UInt8 := dkwX1_passes_4 ++ dktX1_passes_5
def dkwX1_passes_3 : List UInt8 := [167, 0, 10, 42, 29, 27, 44, 182, 0, 143, 79, 132, 3, 1, 167, 255, 220, 3, 62, 29, 42, 180, 0, 58]
abbrev dktX1_passes_3 : List UInt8 := dkwX1_passes_3 ++ dktX1_passes_4
def dkwX1_passes_2 : List UInt8 := [3, 62, 29, 42, 180, 0, 58, 162, 0, 34, 42, 180, 0, 48, 29, 42, 29, 182, 0, 116, 153, 0, 7, 3]
abbrev dktX1_passes_2 : List UInt8 := dkwX1_passes_2 ++ dktX1_passes_3
def dkwX1_passes_1 : List UInt8 := [180, 0, 36, 29, 16, 99, 42, 180, 0, 36, 29, 46, 27, 96, 184, 0, 110, 79, 132, 3, 1, 167, 255, 218]
abbrev dktX1_passes_1 : List UInt8 := dkwX1_passes_1 ++ dktX1_passes_2
def dkwX1_passes_0 : List UInt8 := [42, 182, 0, 133, 3, 62, 29, 42, 180, 0, 58, 162, 0, 36, 42, 29, 182, 0, 116, 154, 0, 22, 42]
abbrev dktX1_passes_0 : List UInt8 := dkwX1_passes_0 ++ dktX1_passes_1
theorem dksX1_passes_0 : cX1_passes.data.toList.drop 0 = dktX1_passes_0 := by decide +kernel
theorem dksX1_passes_1 : cX1_passes.data.toList.drop 23 = dktX1_passes_1 := dk_seg dksX1_passes_0 23 rfl rfl
theorem dksX1_passes_2 : cX1_passes.data.toList.drop 47 = dktX1_passes_2 := dk_seg dksX1_passes_1 24 rfl rfl
theorem dksX1_passes_3 : cX1_passes.data.toList.drop 71 = dktX1_passes_3 := dk_seg dksX1_passes_2 24 rfl rfl
theorem dksX1_passes_4 : cX1_passes.data.toList.drop 95 = dktX1_passes_4 := dk_seg dksX1_passes_3 24 rfl rfl
theorem dksX1_passes_5 : cX1_passes.data.toList.drop 118 = dktX1_passes_5 := dk_seg dksX1_passes_4 23 rfl rfl
theorem dksX1_passes_6 : cX1_passes.data.toList.drop 142 = dktX1_passes_6 := dk_seg dksX1_passes_5 24 rfl rfl
theorem dX1_passes_0 : decode cX1_passes 0 = .ok (.aload_n 0, 1) := dk_42 (dk_at dksX1_passes_0 0 rfl rfl)
theorem dX1_passes_1 : decode cX1_passes 1 = .ok (.invokevirtual 133, 3) := dk_182 0 133 (dk_at dksX1_passes_0 1 rfl rfl)
theorem dX1_passes_4 : decode cX1_passes 4 = .ok (.iconst 0, 1) := dk_3 (dk_at dksX1_passes_0 4 rfl rfl)
theorem dX1_passes_5 : decode cX1_passes 5 = .ok (.istore_n 3, 1) := dk_62 (dk_at dksX1_passes_0 5 rfl rfl)
theorem dX1_passes_6 : decode cX1_passes 6 = .ok (.iload_n 3, 1) := dk_29 (dk_at dksX1_passes_0 6 rfl rfl)
theorem dX1_passes_7 : decode cX1_passes 7 = .ok (.aload_n 0, 1) := dk_42 (dk_at dksX1_passes_0 7 rfl rfl)
theorem dX1_passes_8 : decode cX1_passes 8 = .ok (.getfield 58, 3) := dk_180 0 58 (dk_at dksX1_passes_0 8 rfl rfl)
theorem dX1_passes_11 : decode cX1_passes 11 = .ok (.if_icmp .ge 36, 3) := dk_162 0 36 (dk_at dksX1_passes_0 11 rfl rfl)
theorem dX1_passes_14 : decode cX1_passes 14 = .ok (.aload_n 0, 1) := dk_42 (dk_at dksX1_passes_0 14 rfl rfl)
theorem dX1_passes_15 : decode cX1_passes 15 = .ok (.iload_n 3, 1) := dk_29 (dk_at dksX1_passes_0 15 rfl rfl)
theorem dX1_passes_16 : decode cX1_passes 16 = .ok (.invokevirtual 116, 3) := dk_182 0 116 (dk_at dksX1_passes_0 16 rfl rfl)
theorem dX1_passes_19 : decode cX1_passes 19 = .ok (.ifCond .ne 22, 3) := dk_154 0 22 (dk_at dksX1_passes_0 19 rfl rfl)
theorem dX1_passes_22 : decode cX1_passes 22 = .ok (.aload_n 0, 1) := dk_42 (dk_at dksX1_passes_0 22 rfl rfl)
theorem dX1_passes_23 : decode cX1_passes 23 = .ok (.getfield 36, 3) := dk_180 0 36 (dk_at dksX1_passes_1 0 rfl rfl)
theorem dX1_passes_26 : decode cX1_passes 26 = .ok (.iload_n 3, 1) := dk_29 (dk_at dksX1_passes_1 3 rfl rfl)
theorem dX1_passes_27 : decode cX1_passes 27 = .ok (.bipush 99, 2) := dk_16 99 (dk_at dksX1_passes_1 4 rfl rfl)
theorem dX1_passes_29 : decode cX1_passes 29 = .ok (.aload_n 0, 1) := dk_42 (dk_at dksX1_passes_1 6 rfl rfl)
theorem dX1_passes_30 : decode cX1_passes 30 = .ok (.getfield 36, 3) := dk_180 0 36 (dk_at dksX1_passes_1 7 rfl rfl)
theorem dX1_passes_33 : decode cX1_passes 33 = .ok (.iload_n 3, 1) := dk_29 (dk_at dksX1_passes_1 10 rfl rfl)
theorem dX1_passes_34 : decode cX1_passes 34 = .ok (.iaload, 1) := dk_46 (dk_at dksX1_passes_1 11 rfl rfl)
theorem dX1_passes_35 : decode cX1_passes 35 = .ok (.iload_n 1, 1) := dk_27 (dk_at dksX1_passes_1 12 rfl rfl)
theorem dX1_passes_36 : decode cX1_passes 36 = .ok (.iadd, 1) := dk_96 (dk_at dksX1_passes_1 13 rfl rfl)
theorem dX1_passes_37 : decode cX1_passes 37 = .ok (.invokestatic 110, 3) := dk_184 0 110 (dk_at dksX1_passes_1 14 rfl rfl)
theorem dX1_passes_40 : decode cX1_passes 40 = .ok (.iastore, 1) := dk_79 (dk_at dksX1_passes_1 17 rfl rfl)
theorem dX1_passes_41 : decode cX1_passes 41 = .ok (.iinc 3 1, 3) := dk_132 3 1 (dk_at dksX1_passes_1 18 rfl rfl)
theorem dX1_passes_44 : decode cX1_passes 44 = .ok (.goto (-38), 3) := dk_167 255 218 (dk_at dksX1_passes_1 21 rfl rfl)
theorem dX1_passes_47 : decode cX1_passes 47 = .ok (.iconst 0, 1) := dk_3 (dk_at dksX1_passes_2 0 rfl rfl)
theorem dX1_passes_48 : decode cX1_passes 48 = .ok (.istore_n 3, 1) := dk_62 (dk_at dksX1_passes_2 1 rfl rfl)
theorem dX1_passes_49 : decode cX1_passes 49 = .ok (.iload_n 3, 1) := dk_29 (dk_at dksX1_passes_2 2 rfl rfl)
theorem dX1_passes_50 : decode cX1_passes 50 = .ok (.aload_n 0, 1) := dk_42 (dk_at dksX1_passes_2 3 rfl rfl)
theorem dX1_passes_51 : decode cX1_passes 51 = .ok (.getfield 58, 3) := dk_180 0 58 (dk_at dksX1_passes_2 4 rfl rfl)
theorem dX1_passes_54 : decode cX1_passes 54 = .ok (.if_icmp .ge 34, 3) := dk_162 0 34 (dk_at dksX1_passes_2 7 rfl rfl)
theorem dX1_passes_57 : decode cX1_passes 57 = .ok (.aload_n 0, 1) := dk_42 (dk_at dksX1_passes_2 10 rfl rfl)
theorem dX1_passes_58 : decode cX1_passes 58 = .ok (.getfield 48, 3) := dk_180 0 48 (dk_at dksX1_passes_2 11 rfl rfl)
theorem dX1_passes_61 : decode cX1_passes 61 = .ok (.iload_n 3, 1) := dk_29 (dk_at dksX1_passes_2 14 rfl rfl)
theorem dX1_passes_62 : decode cX1_passes 62 = .ok (.aload_n 0, 1) := dk_42 (dk_at dksX1_passes_2 15 rfl rfl)
theorem dX1_passes_63 : decode cX1_passes 63 = .ok (.iload_n 3, 1) := dk_29 (dk_at dksX1_passes_2 16 rfl rfl)
theorem dX1_passes_64 : decode cX1_passes 64 = .ok (.invokevirtual 116, 3) := dk_182 0 116 (dk_at dksX1_passes_2 17 rfl rfl)
theorem dX1_passes_67 : decode cX1_passes 67 = .ok (.ifCond .eq 7, 3) := dk_153 0 7 (dk_at dksX1_passes_2 20 rfl rfl)
theorem dX1_passes_70 : decode cX1_passes 70 = .ok (.iconst 0, 1) := dk_3 (dk_at dksX1_passes_2 23 rfl rfl)
theorem dX1_passes_71 : decode cX1_passes 71 = .ok (.goto 10, 3) := dk_167 0 10 (dk_at dksX1_passes_3 0 rfl rfl)
theorem dX1_passes_74 : decode cX1_passes 74 = .ok (.aload_n 0, 1) := dk_42 (dk_at dksX1_passes_3 3 rfl rfl)
theorem dX1_passes_75 : decode cX1_passes 75 = .ok (.iload_n 3, 1) := dk_29 (dk_at dksX1_passes_3 4 rfl rfl)
theorem dX1_passes_76 : decode cX1_passes 76 = .ok (.iload_n 1, 1) := dk_27 (dk_at dksX1_passes_3 5 rfl rfl)
theorem dX1_passes_77 : decode cX1_passes 77 = .ok (.aload_n 2, 1) := dk_44 (dk_at dksX1_passes_3 6 rfl rfl)
theorem dX1_passes_78 : decode cX1_passes 78 = .ok (.invokevirtual 143, 3) := dk_182 0 143 (dk_at dksX1_passes_3 7 rfl rfl)
theorem dX1_passes_81 : decode cX1_passes 81 = .ok (.iastore, 1) := dk_79 (dk_at dksX1_passes_3 10 rfl rfl)
theorem dX1_passes_82 : decode cX1_passes 82 = .ok (.iinc 3 1, 3) := dk_132 3 1 (dk_at dksX1_passes_3 11 rfl rfl)
theorem dX1_passes_85 : decode cX1_passes 85 = .ok (.goto (-36), 3) := dk_167 255 220 (dk_at dksX1_passes_3 14 rfl rfl)
theorem dX1_passes_88 : decode cX1_passes 88 = .ok (.iconst 0, 1) := dk_3 (dk_at dksX1_passes_3 17 rfl rfl)
theorem dX1_passes_89 : decode cX1_passes 89 = .ok (.istore_n 3, 1) := dk_62 (dk_at dksX1_passes_3 18 rfl rfl)
theorem dX1_passes_90 : decode cX1_passes 90 = .ok (.iload_n 3, 1) := dk_29 (dk_at dksX1_passes_3 19 rfl rfl)
theorem dX1_passes_91 : decode cX1_passes 91 = .ok (.aload_n 0, 1) := dk_42 (dk_at dksX1_passes_3 20 rfl rfl)
theorem dX1_passes_92 : decode cX1_passes 92 = .ok (.getfield 58, 3) := dk_180 0 58 (dk_at dksX1_passes_3 21 rfl rfl)
theorem dX1_passes_95 : decode cX1_passes 95 = .ok (.if_icmp .ge 33, 3) := dk_162 0 33 (dk_at dksX1_passes_4 0 rfl rfl)
theorem dX1_passes_98 : decode cX1_passes 98 = .ok (.aload_n 0, 1) := dk_42 (dk_at dksX1_passes_4 3 rfl rfl)
theorem dX1_passes_99 : decode cX1_passes 99 = .ok (.getfield 33, 3) := dk_180 0 33 (dk_at dksX1_passes_4 4 rfl rfl)
theorem dX1_passes_102 : decode cX1_passes 102 = .ok (.iload_n 3, 1) := dk_29 (dk_at dksX1_passes_4 7 rfl rfl)
theorem dX1_passes_103 : decode cX1_passes 103 = .ok (.aload_n 0, 1) := dk_42 (dk_at dksX1_passes_4 8 rfl rfl)
theorem dX1_passes_104 : decode cX1_passes 104 = .ok (.getfield 33, 3) := dk_180 0 33 (dk_at dksX1_passes_4 9 rfl rfl)
theorem dX1_passes_107 : decode cX1_passes 107 = .ok (.iload_n 3, 1) := dk_29 (dk_at dksX1_passes_4 12 rfl rfl)
theorem dX1_passes_108 : decode cX1_passes 108 = .ok (.iaload, 1) := dk_46 (dk_at dksX1_passes_4 13 rfl rfl)
theorem dX1_passes_109 : decode cX1_passes 109 = .ok (.aload_n 0, 1) := dk_42 (dk_at dksX1_passes_4 14 rfl rfl)
theorem dX1_passes_110 : decode cX1_passes 110 = .ok (.getfield 48, 3) := dk_180 0 48 (dk_at dksX1_passes_4 15 rfl rfl)
theorem dX1_passes_113 : decode cX1_passes 113 = .ok (.iload_n 3, 1) := dk_29 (dk_at dksX1_passes_4 18 rfl rfl)
theorem dX1_passes_114 : decode cX1_passes 114 = .ok (.iaload, 1) := dk_46 (dk_at dksX1_passes_4 19 rfl rfl)
theorem dX1_passes_115 : decode cX1_passes 115 = .ok (.iadd, 1) := dk_96 (dk_at dksX1_passes_4 20 rfl rfl)
theorem dX1_passes_116 : decode cX1_passes 116 = .ok (.bipush 20, 2) := dk_16 20 (dk_at dksX1_passes_4 21 rfl rfl)
theorem dX1_passes_118 : decode cX1_passes 118 = .ok (.invokestatic 120, 3) := dk_184 0 120 (dk_at dksX1_passes_5 0 rfl rfl)
theorem dX1_passes_121 : decode cX1_passes 121 = .ok (.iastore, 1) := dk_79 (dk_at dksX1_passes_5 3 rfl rfl)
theorem dX1_passes_122 : decode cX1_passes 122 = .ok (.iinc 3 1, 3) := dk_132 3 1 (dk_at dksX1_passes_5 4 rfl rfl)
theorem dX1_passes_125 : decode cX1_passes 125 = .ok (.goto (-35), 3) := dk_167 255 221 (dk_at dksX1_passes_5 7 rfl rfl)
theorem dX1_passes_128 : decode cX1_passes 128 = .ok (.iconst 0, 1) := dk_3 (dk_at dksX1_passes_5 10 rfl rfl)
theorem dX1_passes_129 : decode cX1_passes 129 = .ok (.istore_n 3, 1) := dk_62 (dk_at dksX1_passes_5 11 rfl rfl)
theorem dX1_passes_130 : decode cX1_passes 130 = .ok (.iload_n 3, 1) := dk_29 (dk_at dksX1_passes_5 12 rfl rfl)
theorem dX1_passes_131 : decode cX1_passes 131 = .ok (.iconst 1, 1) := dk_4 (dk_at dksX1_passes_5 13 rfl rfl)
theorem dX1_passes_132 : decode cX1_passes 132 = .ok (.iadd, 1) := dk_96 (dk_at dksX1_passes_5 14 rfl rfl)
theorem dX1_passes_133 : decode cX1_passes 133 = .ok (.aload_n 0, 1) := dk_42 (dk_at dksX1_passes_5 15 rfl rfl)
theorem dX1_passes_134 : decode cX1_passes 134 = .ok (.getfield 58, 3) := dk_180 0 58 (dk_at dksX1_passes_5 16 rfl rfl)
theorem dX1_passes_137 : decode cX1_passes 137 = .ok (.if_icmp .ge 14, 3) := dk_162 0 14 (dk_at dksX1_passes_5 19 rfl rfl)
theorem dX1_passes_140 : decode cX1_passes 140 = .ok (.aload_n 0, 1) := dk_42 (dk_at dksX1_passes_5 22 rfl rfl)
theorem dX1_passes_141 : decode cX1_passes 141 = .ok (.iload_n 3, 1) := dk_29 (dk_at dksX1_passes_5 23 rfl rfl)
theorem dX1_passes_142 : decode cX1_passes 142 = .ok (.invokevirtual 147, 3) := dk_182 0 147 (dk_at dksX1_passes_6 0 rfl rfl)
theorem dX1_passes_145 : decode cX1_passes 145 = .ok (.iinc 3 1, 3) := dk_132 3 1 (dk_at dksX1_passes_6 3 rfl rfl)
theorem dX1_passes_148 : decode cX1_passes 148 = .ok (.goto (-18), 3) := dk_167 255 238 (dk_at dksX1_passes_6 6 rfl rfl)
theorem dX1_passes_151 : decode cX1_passes 151 = .ok (.aload_n 0, 1) := dk_42 (dk_at dksX1_passes_6 9 rfl rfl)
theorem dX1_passes_152 : decode cX1_passes 152 = .ok (.dup, 1) := dk_89 (dk_at dksX1_passes_6 10 rfl rfl)
theorem dX1_passes_153 : decode cX1_passes 153 = .ok (.getfield 93, 3) := dk_180 0 93 (dk_at dksX1_passes_6 11 rfl rfl)
theorem dX1_passes_156 : decode cX1_passes 156 = .ok (.iconst 1, 1) := dk_4 (dk_at dksX1_passes_6 14 rfl rfl)
theorem dX1_passes_157 : decode cX1_passes 157 = .ok (.iadd, 1) := dk_96 (dk_at dksX1_passes_6 15 rfl rfl)
theorem dX1_passes_158 : decode cX1_passes 158 = .ok (.putfield 93, 3) := dk_181 0 93 (dk_at dksX1_passes_6 16 rfl rfl)
theorem dX1_passes_161 : decode cX1_passes 161 = .ok (.aload_n 0, 1) := dk_42 (dk_at dksX1_passes_6 19 rfl rfl)
theorem dX1_passes_162 : decode cX1_passes 162 = .ok (.invokevirtual 136, 3) := dk_182 0 136 (dk_at dksX1_passes_6 20 rfl rfl)
theorem dX1_passes_165 : decode cX1_passes 165 = .ok (.ireturn, 1) := dk_172 (dk_at dksX1_passes_6 23 rfl rfl)
abbrev cX1_remembers : ByteArray := prog_5_method_14_code
def yX1_remembers : MethodName := ⟨RX1, "remembers", "()V"⟩
def dkwX1_remembers_1 : List UInt8 := [167, 255, 234, 177]
abbrev dktX1_remembers_1 : List UInt8 := dkwX1_remembers_1 ++ []
def dkwX1_remembers_0 : List UInt8 := [3, 60, 27, 42, 180, 0, 65, 162, 0, 20, 42, 180, 0, 51, 27, 42, 27, 182, 0, 100, 79, 132, 1, 1]
abbrev dktX1_remembers_0 : List UInt8 := dkwX1_remembers_0 ++ dktX1_remembers_1
theorem dksX1_remembers_0 : cX1_remembers.data.toList.drop 0 = dktX1_remembers_0 := by decide +kernel
theorem dksX1_remembers_1 : cX1_remembers.data.toList.drop 24 = dktX1_remembers_1 := dk_seg dksX1_remembers_0 24 rfl rfl
theorem dX1_remembers_0 : decode cX1_remembers 0 = .ok (.iconst 0, 1) := dk_3 (dk_at dksX1_remembers_0 0 rfl rfl)
theorem dX1_remembers_1 : decode cX1_remembers 1 = .ok (.istore_n 1, 1) := dk_60 (dk_at dksX1_remembers_0 1 rfl rfl)
theorem dX1_remembers_2 : decode cX1_remembers 2 = .ok (.iload_n 1, 1) := dk_27 (dk_at dksX1_remembers_0 2 rfl rfl)
theorem dX1_remembers_3 : decode cX1_remembers 3 = .ok (.aload_n 0, 1) := dk_42 (dk_at dksX1_remembers_0 3 rfl rfl)
theorem dX1_remembers_4 : decode cX1_remembers 4 = .ok (.getfield 65, 3) := dk_180 0 65 (dk_at dksX1_remembers_0 4 rfl rfl)
theorem dX1_remembers_7 : decode cX1_remembers 7 = .ok (.if_icmp .ge 20, 3) := dk_162 0 20 (dk_at dksX1_remembers_0 7 rfl rfl)
theorem dX1_remembers_10 : decode cX1_remembers 10 = .ok (.aload_n 0, 1) := dk_42 (dk_at dksX1_remembers_0 10 rfl rfl)
theorem dX1_remembers_11 : decode cX1_remembers 11 = .ok (.getfield 51, 3) := dk_180 0 51 (dk_at dksX1_remembers_0 11 rfl rfl)
theorem dX1_remembers_14 : decode cX1_remembers 14 = .ok (.iload_n 1, 1) := dk_27 (dk_at dksX1_remembers_0 14 rfl rfl)
theorem dX1_remembers_15 : decode cX1_remembers 15 = .ok (.aload_n 0, 1) := dk_42 (dk_at dksX1_remembers_0 15 rfl rfl)
theorem dX1_remembers_16 : decode cX1_remembers 16 = .ok (.iload_n 1, 1) := dk_27 (dk_at dksX1_remembers_0 16 rfl rfl)
theorem dX1_remembers_17 : decode cX1_remembers 17 = .ok (.invokevirtual 100, 3) := dk_182 0 100 (dk_at dksX1_remembers_0 17 rfl rfl)
theorem dX1_remembers_20 : decode cX1_remembers 20 = .ok (.iastore, 1) := dk_79 (dk_at dksX1_remembers_0 20 rfl rfl)
theorem dX1_remembers_21 : decode cX1_remembers 21 = .ok (.iinc 1 1, 3) := dk_132 1 1 (dk_at dksX1_remembers_0 21 rfl rfl)
theorem dX1_remembers_24 : decode cX1_remembers 24 = .ok (.goto (-22), 3) := dk_167 255 234 (dk_at dksX1_remembers_1 0 rfl rfl)
theorem dX1_remembers_27 : decode cX1_remembers 27 = .ok (.return_, 1) := dk_177 (dk_at dksX1_remembers_1 3 rfl rfl)
abbrev cX1_creepOf : ByteArray := prog_5_method_13_code
def yX1_creepOf : MethodName := ⟨RX1, "creepOf", "(IILDoughBorder$Rule;)I"⟩
def dkwX1_creepOf_1 : List UInt8 := [100, 6, 184, 0, 120, 172, 42, 27, 28, 182, 0, 123, 45, 42, 180, 0, 54, 182, 0, 127, 172]
abbrev dktX1_creepOf_1 : List UInt8 := dkwX1_creepOf_1 ++ []
def dkwX1_creepOf_0 : List UInt8 := [45, 199, 0, 29, 42, 180, 0, 36, 27, 46, 16, 20, 108, 42, 180, 0, 62, 96, 42, 180, 0, 39, 27, 46]
abbrev dktX1_creepOf_0 : List UInt8 := dkwX1_creepOf_0 ++ dktX1_creepOf_1
theorem dksX1_creepOf_0 : cX1_creepOf.data.toList.drop 0 = dktX1_creepOf_0 := by decide +kernel
theorem dksX1_creepOf_1 : cX1_creepOf.data.toList.drop 24 = dktX1_creepOf_1 := dk_seg dksX1_creepOf_0 24 rfl rfl
theorem dX1_creepOf_0 : decode cX1_creepOf 0 = .ok (.aload_n 3, 1) := dk_45 (dk_at dksX1_creepOf_0 0 rfl rfl)
theorem dX1_creepOf_1 : decode cX1_creepOf 1 = .ok (.ifnonnull 29, 3) := dk_199 0 29 (dk_at dksX1_creepOf_0 1 rfl rfl)
theorem dX1_creepOf_4 : decode cX1_creepOf 4 = .ok (.aload_n 0, 1) := dk_42 (dk_at dksX1_creepOf_0 4 rfl rfl)
theorem dX1_creepOf_5 : decode cX1_creepOf 5 = .ok (.getfield 36, 3) := dk_180 0 36 (dk_at dksX1_creepOf_0 5 rfl rfl)
theorem dX1_creepOf_8 : decode cX1_creepOf 8 = .ok (.iload_n 1, 1) := dk_27 (dk_at dksX1_creepOf_0 8 rfl rfl)
theorem dX1_creepOf_9 : decode cX1_creepOf 9 = .ok (.iaload, 1) := dk_46 (dk_at dksX1_creepOf_0 9 rfl rfl)
theorem dX1_creepOf_10 : decode cX1_creepOf 10 = .ok (.bipush 20, 2) := dk_16 20 (dk_at dksX1_creepOf_0 10 rfl rfl)
theorem dX1_creepOf_12 : decode cX1_creepOf 12 = .ok (.idiv, 1) := dk_108 (dk_at dksX1_creepOf_0 12 rfl rfl)
theorem dX1_creepOf_13 : decode cX1_creepOf 13 = .ok (.aload_n 0, 1) := dk_42 (dk_at dksX1_creepOf_0 13 rfl rfl)
theorem dX1_creepOf_14 : decode cX1_creepOf 14 = .ok (.getfield 62, 3) := dk_180 0 62 (dk_at dksX1_creepOf_0 14 rfl rfl)
theorem dX1_creepOf_17 : decode cX1_creepOf 17 = .ok (.iadd, 1) := dk_96 (dk_at dksX1_creepOf_0 17 rfl rfl)
theorem dX1_creepOf_18 : decode cX1_creepOf 18 = .ok (.aload_n 0, 1) := dk_42 (dk_at dksX1_creepOf_0 18 rfl rfl)
theorem dX1_creepOf_19 : decode cX1_creepOf 19 = .ok (.getfield 39, 3) := dk_180 0 39 (dk_at dksX1_creepOf_0 19 rfl rfl)
theorem dX1_creepOf_22 : decode cX1_creepOf 22 = .ok (.iload_n 1, 1) := dk_27 (dk_at dksX1_creepOf_0 22 rfl rfl)
theorem dX1_creepOf_23 : decode cX1_creepOf 23 = .ok (.iaload, 1) := dk_46 (dk_at dksX1_creepOf_0 23 rfl rfl)
theorem dX1_creepOf_24 : decode cX1_creepOf 24 = .ok (.isub, 1) := dk_100 (dk_at dksX1_creepOf_1 0 rfl rfl)
theorem dX1_creepOf_25 : decode cX1_creepOf 25 = .ok (.iconst 3, 1) := dk_6 (dk_at dksX1_creepOf_1 1 rfl rfl)
theorem dX1_creepOf_26 : decode cX1_creepOf 26 = .ok (.invokestatic 120, 3) := dk_184 0 120 (dk_at dksX1_creepOf_1 2 rfl rfl)
theorem dX1_creepOf_29 : decode cX1_creepOf 29 = .ok (.ireturn, 1) := dk_172 (dk_at dksX1_creepOf_1 5 rfl rfl)
theorem dX1_creepOf_30 : decode cX1_creepOf 30 = .ok (.aload_n 0, 1) := dk_42 (dk_at dksX1_creepOf_1 6 rfl rfl)
theorem dX1_creepOf_31 : decode cX1_creepOf 31 = .ok (.iload_n 1, 1) := dk_27 (dk_at dksX1_creepOf_1 7 rfl rfl)
theorem dX1_creepOf_32 : decode cX1_creepOf 32 = .ok (.iload_n 2, 1) := dk_28 (dk_at dksX1_creepOf_1 8 rfl rfl)
theorem dX1_creepOf_33 : decode cX1_creepOf 33 = .ok (.invokevirtual 123, 3) := dk_182 0 123 (dk_at dksX1_creepOf_1 9 rfl rfl)
theorem dX1_creepOf_36 : decode cX1_creepOf 36 = .ok (.aload_n 3, 1) := dk_45 (dk_at dksX1_creepOf_1 12 rfl rfl)
theorem dX1_creepOf_37 : decode cX1_creepOf 37 = .ok (.aload_n 0, 1) := dk_42 (dk_at dksX1_creepOf_1 13 rfl rfl)
theorem dX1_creepOf_38 : decode cX1_creepOf 38 = .ok (.getfield 54, 3) := dk_180 0 54 (dk_at dksX1_creepOf_1 14 rfl rfl)
theorem dX1_creepOf_41 : decode cX1_creepOf 41 = .ok (.invokevirtual 127, 3) := dk_182 0 127 (dk_at dksX1_creepOf_1 17 rfl rfl)
theorem dX1_creepOf_44 : decode cX1_creepOf 44 = .ok (.ireturn, 1) := dk_172 (dk_at dksX1_creepOf_1 20 rfl rfl)
abbrev cX1_fillsWords : ByteArray := prog_5_method_12_code
def yX1_fillsWords : MethodName := ⟨RX1, "fillsWords", "(II)V"⟩
def dkwX1_fillsWords_8 : List UInt8 := [42, 27, 4, 96, 182, 0, 116, 153, 0, 7, 4, 167, 0, 4, 3, 96, 133, 80, 177]
abbrev dktX1_fillsWords_8 : List UInt8 := dkwX1_fillsWords_8 ++ []
def dkwX1_fillsWords_7 : List UInt8 := [27, 4, 100, 182, 0, 116, 153, 0, 7, 4, 167, 0, 4, 3, 27, 42, 180, 0, 58, 4, 100, 162, 0, 17]
abbrev dktX1_fillsWords_7 : List UInt8 := dkwX1_fillsWords_7 ++ dktX1_fillsWords_8
def dkwX1_fillsWords_6 : List UInt8 := [180, 0, 54, 16, 10, 42, 27, 4, 182, 0, 113, 133, 80, 42, 180, 0, 54, 16, 11, 27, 158, 0, 17, 42]
abbrev dktX1_fillsWords_6 : List UInt8 := dkwX1_fillsWords_6 ++ dktX1_fillsWords_7
def dkwX1_fillsWords_5 : List UInt8 := [96, 184, 0, 110, 46, 133, 80, 42, 180, 0, 54, 16, 9, 42, 27, 3, 182, 0, 113, 133, 80, 42]
abbrev dktX1_fillsWords_5 : List UInt8 := dkwX1_fillsWords_5 ++ dktX1_fillsWords_6
def dkwX1_fillsWords_4 : List UInt8 := [184, 0, 104, 46, 133, 80, 42, 180, 0, 54, 16, 8, 42, 180, 0, 33, 42, 180, 0, 58, 4, 100, 27, 4]
abbrev dktX1_fillsWords_4 : List UInt8 := dkwX1_fillsWords_4 ++ dktX1_fillsWords_5
def dkwX1_fillsWords_3 : List UInt8 := [16, 6, 42, 180, 0, 93, 133, 80, 42, 180, 0, 54, 16, 7, 42, 180, 0, 33, 3, 27, 4, 100]
abbrev dktX1_fillsWords_3 : List UInt8 := dkwX1_fillsWords_3 ++ dktX1_fillsWords_4
def dkwX1_fillsWords_2 : List UInt8 := [80, 42, 180, 0, 54, 7, 42, 180, 0, 62, 133, 80, 42, 180, 0, 54, 8, 28, 133, 80, 42, 180, 0, 54]
abbrev dktX1_fillsWords_2 : List UInt8 := dkwX1_fillsWords_2 ++ dktX1_fillsWords_3
def dkwX1_fillsWords_1 : List UInt8 := [180, 0, 54, 5, 42, 180, 0, 36, 27, 46, 133, 80, 42, 180, 0, 54, 6, 42, 180, 0, 39, 27, 46, 133]
abbrev dktX1_fillsWords_1 : List UInt8 := dkwX1_fillsWords_1 ++ dktX1_fillsWords_2
def dkwX1_fillsWords_0 : List UInt8 := [42, 180, 0, 54, 3, 27, 133, 80, 42, 180, 0, 54, 4, 42, 180, 0, 33, 27, 46, 133, 80, 42]
abbrev dktX1_fillsWords_0 : List UInt8 := dkwX1_fillsWords_0 ++ dktX1_fillsWords_1
theorem dksX1_fillsWords_0 : cX1_fillsWords.data.toList.drop 0 = dktX1_fillsWords_0 := by decide +kernel
theorem dksX1_fillsWords_1 : cX1_fillsWords.data.toList.drop 22 = dktX1_fillsWords_1 := dk_seg dksX1_fillsWords_0 22 rfl rfl
theorem dksX1_fillsWords_2 : cX1_fillsWords.data.toList.drop 46 = dktX1_fillsWords_2 := dk_seg dksX1_fillsWords_1 24 rfl rfl
theorem dksX1_fillsWords_3 : cX1_fillsWords.data.toList.drop 70 = dktX1_fillsWords_3 := dk_seg dksX1_fillsWords_2 24 rfl rfl
theorem dksX1_fillsWords_4 : cX1_fillsWords.data.toList.drop 92 = dktX1_fillsWords_4 := dk_seg dksX1_fillsWords_3 22 rfl rfl
theorem dksX1_fillsWords_5 : cX1_fillsWords.data.toList.drop 116 = dktX1_fillsWords_5 := dk_seg dksX1_fillsWords_4 24 rfl rfl
theorem dksX1_fillsWords_6 : cX1_fillsWords.data.toList.drop 138 = dktX1_fillsWords_6 := dk_seg dksX1_fillsWords_5 22 rfl rfl
theorem dksX1_fillsWords_7 : cX1_fillsWords.data.toList.drop 162 = dktX1_fillsWords_7 := dk_seg dksX1_fillsWords_6 24 rfl rfl
theorem dksX1_fillsWords_8 : cX1_fillsWords.data.toList.drop 186 = dktX1_fillsWords_8 := dk_seg dksX1_fillsWords_7 24 rfl rfl
theorem dX1_fillsWords_0 : decode cX1_fillsWords 0 = .ok (.aload_n 0, 1) := dk_42 (dk_at dksX1_fillsWords_0 0 rfl rfl)
theorem dX1_fillsWords_1 : decode cX1_fillsWords 1 = .ok (.getfield 54, 3) := dk_180 0 54 (dk_at dksX1_fillsWords_0 1 rfl rfl)
theorem dX1_fillsWords_4 : decode cX1_fillsWords 4 = .ok (.iconst 0, 1) := dk_3 (dk_at dksX1_fillsWords_0 4 rfl rfl)
theorem dX1_fillsWords_5 : decode cX1_fillsWords 5 = .ok (.iload_n 1, 1) := dk_27 (dk_at dksX1_fillsWords_0 5 rfl rfl)
theorem dX1_fillsWords_6 : decode cX1_fillsWords 6 = .ok (.i2l, 1) := dk_133 (dk_at dksX1_fillsWords_0 6 rfl rfl)
theorem dX1_fillsWords_7 : decode cX1_fillsWords 7 = .ok (.lastore, 1) := dk_80 (dk_at dksX1_fillsWords_0 7 rfl rfl)
theorem dX1_fillsWords_8 : decode cX1_fillsWords 8 = .ok (.aload_n 0, 1) := dk_42 (dk_at dksX1_fillsWords_0 8 rfl rfl)
theorem dX1_fillsWords_9 : decode cX1_fillsWords 9 = .ok (.getfield 54, 3) := dk_180 0 54 (dk_at dksX1_fillsWords_0 9 rfl rfl)
theorem dX1_fillsWords_12 : decode cX1_fillsWords 12 = .ok (.iconst 1, 1) := dk_4 (dk_at dksX1_fillsWords_0 12 rfl rfl)
theorem dX1_fillsWords_13 : decode cX1_fillsWords 13 = .ok (.aload_n 0, 1) := dk_42 (dk_at dksX1_fillsWords_0 13 rfl rfl)
theorem dX1_fillsWords_14 : decode cX1_fillsWords 14 = .ok (.getfield 33, 3) := dk_180 0 33 (dk_at dksX1_fillsWords_0 14 rfl rfl)
theorem dX1_fillsWords_17 : decode cX1_fillsWords 17 = .ok (.iload_n 1, 1) := dk_27 (dk_at dksX1_fillsWords_0 17 rfl rfl)
theorem dX1_fillsWords_18 : decode cX1_fillsWords 18 = .ok (.iaload, 1) := dk_46 (dk_at dksX1_fillsWords_0 18 rfl rfl)
theorem dX1_fillsWords_19 : decode cX1_fillsWords 19 = .ok (.i2l, 1) := dk_133 (dk_at dksX1_fillsWords_0 19 rfl rfl)
theorem dX1_fillsWords_20 : decode cX1_fillsWords 20 = .ok (.lastore, 1) := dk_80 (dk_at dksX1_fillsWords_0 20 rfl rfl)
theorem dX1_fillsWords_21 : decode cX1_fillsWords 21 = .ok (.aload_n 0, 1) := dk_42 (dk_at dksX1_fillsWords_0 21 rfl rfl)
theorem dX1_fillsWords_22 : decode cX1_fillsWords 22 = .ok (.getfield 54, 3) := dk_180 0 54 (dk_at dksX1_fillsWords_1 0 rfl rfl)
theorem dX1_fillsWords_25 : decode cX1_fillsWords 25 = .ok (.iconst 2, 1) := dk_5 (dk_at dksX1_fillsWords_1 3 rfl rfl)
theorem dX1_fillsWords_26 : decode cX1_fillsWords 26 = .ok (.aload_n 0, 1) := dk_42 (dk_at dksX1_fillsWords_1 4 rfl rfl)
theorem dX1_fillsWords_27 : decode cX1_fillsWords 27 = .ok (.getfield 36, 3) := dk_180 0 36 (dk_at dksX1_fillsWords_1 5 rfl rfl)
theorem dX1_fillsWords_30 : decode cX1_fillsWords 30 = .ok (.iload_n 1, 1) := dk_27 (dk_at dksX1_fillsWords_1 8 rfl rfl)
theorem dX1_fillsWords_31 : decode cX1_fillsWords 31 = .ok (.iaload, 1) := dk_46 (dk_at dksX1_fillsWords_1 9 rfl rfl)
theorem dX1_fillsWords_32 : decode cX1_fillsWords 32 = .ok (.i2l, 1) := dk_133 (dk_at dksX1_fillsWords_1 10 rfl rfl)
theorem dX1_fillsWords_33 : decode cX1_fillsWords 33 = .ok (.lastore, 1) := dk_80 (dk_at dksX1_fillsWords_1 11 rfl rfl)
theorem dX1_fillsWords_34 : decode cX1_fillsWords 34 = .ok (.aload_n 0, 1) := dk_42 (dk_at dksX1_fillsWords_1 12 rfl rfl)
theorem dX1_fillsWords_35 : decode cX1_fillsWords 35 = .ok (.getfield 54, 3) := dk_180 0 54 (dk_at dksX1_fillsWords_1 13 rfl rfl)
theorem dX1_fillsWords_38 : decode cX1_fillsWords 38 = .ok (.iconst 3, 1) := dk_6 (dk_at dksX1_fillsWords_1 16 rfl rfl)
theorem dX1_fillsWords_39 : decode cX1_fillsWords 39 = .ok (.aload_n 0, 1) := dk_42 (dk_at dksX1_fillsWords_1 17 rfl rfl)
theorem dX1_fillsWords_40 : decode cX1_fillsWords 40 = .ok (.getfield 39, 3) := dk_180 0 39 (dk_at dksX1_fillsWords_1 18 rfl rfl)
theorem dX1_fillsWords_43 : decode cX1_fillsWords 43 = .ok (.iload_n 1, 1) := dk_27 (dk_at dksX1_fillsWords_1 21 rfl rfl)
theorem dX1_fillsWords_44 : decode cX1_fillsWords 44 = .ok (.iaload, 1) := dk_46 (dk_at dksX1_fillsWords_1 22 rfl rfl)
theorem dX1_fillsWords_45 : decode cX1_fillsWords 45 = .ok (.i2l, 1) := dk_133 (dk_at dksX1_fillsWords_1 23 rfl rfl)
theorem dX1_fillsWords_46 : decode cX1_fillsWords 46 = .ok (.lastore, 1) := dk_80 (dk_at dksX1_fillsWords_2 0 rfl rfl)
theorem dX1_fillsWords_47 : decode cX1_fillsWords 47 = .ok (.aload_n 0, 1) := dk_42 (dk_at dksX1_fillsWords_2 1 rfl rfl)
theorem dX1_fillsWords_48 : decode cX1_fillsWords 48 = .ok (.getfield 54, 3) := dk_180 0 54 (dk_at dksX1_fillsWords_2 2 rfl rfl)
theorem dX1_fillsWords_51 : decode cX1_fillsWords 51 = .ok (.iconst 4, 1) := dk_7 (dk_at dksX1_fillsWords_2 5 rfl rfl)
theorem dX1_fillsWords_52 : decode cX1_fillsWords 52 = .ok (.aload_n 0, 1) := dk_42 (dk_at dksX1_fillsWords_2 6 rfl rfl)
theorem dX1_fillsWords_53 : decode cX1_fillsWords 53 = .ok (.getfield 62, 3) := dk_180 0 62 (dk_at dksX1_fillsWords_2 7 rfl rfl)
theorem dX1_fillsWords_56 : decode cX1_fillsWords 56 = .ok (.i2l, 1) := dk_133 (dk_at dksX1_fillsWords_2 10 rfl rfl)
theorem dX1_fillsWords_57 : decode cX1_fillsWords 57 = .ok (.lastore, 1) := dk_80 (dk_at dksX1_fillsWords_2 11 rfl rfl)
theorem dX1_fillsWords_58 : decode cX1_fillsWords 58 = .ok (.aload_n 0, 1) := dk_42 (dk_at dksX1_fillsWords_2 12 rfl rfl)
theorem dX1_fillsWords_59 : decode cX1_fillsWords 59 = .ok (.getfield 54, 3) := dk_180 0 54 (dk_at dksX1_fillsWords_2 13 rfl rfl)
theorem dX1_fillsWords_62 : decode cX1_fillsWords 62 = .ok (.iconst 5, 1) := dk_8 (dk_at dksX1_fillsWords_2 16 rfl rfl)
theorem dX1_fillsWords_63 : decode cX1_fillsWords 63 = .ok (.iload_n 2, 1) := dk_28 (dk_at dksX1_fillsWords_2 17 rfl rfl)
theorem dX1_fillsWords_64 : decode cX1_fillsWords 64 = .ok (.i2l, 1) := dk_133 (dk_at dksX1_fillsWords_2 18 rfl rfl)
theorem dX1_fillsWords_65 : decode cX1_fillsWords 65 = .ok (.lastore, 1) := dk_80 (dk_at dksX1_fillsWords_2 19 rfl rfl)
theorem dX1_fillsWords_66 : decode cX1_fillsWords 66 = .ok (.aload_n 0, 1) := dk_42 (dk_at dksX1_fillsWords_2 20 rfl rfl)
theorem dX1_fillsWords_67 : decode cX1_fillsWords 67 = .ok (.getfield 54, 3) := dk_180 0 54 (dk_at dksX1_fillsWords_2 21 rfl rfl)
theorem dX1_fillsWords_70 : decode cX1_fillsWords 70 = .ok (.bipush 6, 2) := dk_16 6 (dk_at dksX1_fillsWords_3 0 rfl rfl)
theorem dX1_fillsWords_72 : decode cX1_fillsWords 72 = .ok (.aload_n 0, 1) := dk_42 (dk_at dksX1_fillsWords_3 2 rfl rfl)
theorem dX1_fillsWords_73 : decode cX1_fillsWords 73 = .ok (.getfield 93, 3) := dk_180 0 93 (dk_at dksX1_fillsWords_3 3 rfl rfl)
theorem dX1_fillsWords_76 : decode cX1_fillsWords 76 = .ok (.i2l, 1) := dk_133 (dk_at dksX1_fillsWords_3 6 rfl rfl)
theorem dX1_fillsWords_77 : decode cX1_fillsWords 77 = .ok (.lastore, 1) := dk_80 (dk_at dksX1_fillsWords_3 7 rfl rfl)
theorem dX1_fillsWords_78 : decode cX1_fillsWords 78 = .ok (.aload_n 0, 1) := dk_42 (dk_at dksX1_fillsWords_3 8 rfl rfl)
theorem dX1_fillsWords_79 : decode cX1_fillsWords 79 = .ok (.getfield 54, 3) := dk_180 0 54 (dk_at dksX1_fillsWords_3 9 rfl rfl)
theorem dX1_fillsWords_82 : decode cX1_fillsWords 82 = .ok (.bipush 7, 2) := dk_16 7 (dk_at dksX1_fillsWords_3 12 rfl rfl)
theorem dX1_fillsWords_84 : decode cX1_fillsWords 84 = .ok (.aload_n 0, 1) := dk_42 (dk_at dksX1_fillsWords_3 14 rfl rfl)
theorem dX1_fillsWords_85 : decode cX1_fillsWords 85 = .ok (.getfield 33, 3) := dk_180 0 33 (dk_at dksX1_fillsWords_3 15 rfl rfl)
theorem dX1_fillsWords_88 : decode cX1_fillsWords 88 = .ok (.iconst 0, 1) := dk_3 (dk_at dksX1_fillsWords_3 18 rfl rfl)
theorem dX1_fillsWords_89 : decode cX1_fillsWords 89 = .ok (.iload_n 1, 1) := dk_27 (dk_at dksX1_fillsWords_3 19 rfl rfl)
theorem dX1_fillsWords_90 : decode cX1_fillsWords 90 = .ok (.iconst 1, 1) := dk_4 (dk_at dksX1_fillsWords_3 20 rfl rfl)
theorem dX1_fillsWords_91 : decode cX1_fillsWords 91 = .ok (.isub, 1) := dk_100 (dk_at dksX1_fillsWords_3 21 rfl rfl)
theorem dX1_fillsWords_92 : decode cX1_fillsWords 92 = .ok (.invokestatic 104, 3) := dk_184 0 104 (dk_at dksX1_fillsWords_4 0 rfl rfl)
theorem dX1_fillsWords_95 : decode cX1_fillsWords 95 = .ok (.iaload, 1) := dk_46 (dk_at dksX1_fillsWords_4 3 rfl rfl)
theorem dX1_fillsWords_96 : decode cX1_fillsWords 96 = .ok (.i2l, 1) := dk_133 (dk_at dksX1_fillsWords_4 4 rfl rfl)
theorem dX1_fillsWords_97 : decode cX1_fillsWords 97 = .ok (.lastore, 1) := dk_80 (dk_at dksX1_fillsWords_4 5 rfl rfl)
theorem dX1_fillsWords_98 : decode cX1_fillsWords 98 = .ok (.aload_n 0, 1) := dk_42 (dk_at dksX1_fillsWords_4 6 rfl rfl)
theorem dX1_fillsWords_99 : decode cX1_fillsWords 99 = .ok (.getfield 54, 3) := dk_180 0 54 (dk_at dksX1_fillsWords_4 7 rfl rfl)
theorem dX1_fillsWords_102 : decode cX1_fillsWords 102 = .ok (.bipush 8, 2) := dk_16 8 (dk_at dksX1_fillsWords_4 10 rfl rfl)
theorem dX1_fillsWords_104 : decode cX1_fillsWords 104 = .ok (.aload_n 0, 1) := dk_42 (dk_at dksX1_fillsWords_4 12 rfl rfl)
theorem dX1_fillsWords_105 : decode cX1_fillsWords 105 = .ok (.getfield 33, 3) := dk_180 0 33 (dk_at dksX1_fillsWords_4 13 rfl rfl)
theorem dX1_fillsWords_108 : decode cX1_fillsWords 108 = .ok (.aload_n 0, 1) := dk_42 (dk_at dksX1_fillsWords_4 16 rfl rfl)
theorem dX1_fillsWords_109 : decode cX1_fillsWords 109 = .ok (.getfield 58, 3) := dk_180 0 58 (dk_at dksX1_fillsWords_4 17 rfl rfl)
theorem dX1_fillsWords_112 : decode cX1_fillsWords 112 = .ok (.iconst 1, 1) := dk_4 (dk_at dksX1_fillsWords_4 20 rfl rfl)
theorem dX1_fillsWords_113 : decode cX1_fillsWords 113 = .ok (.isub, 1) := dk_100 (dk_at dksX1_fillsWords_4 21 rfl rfl)
theorem dX1_fillsWords_114 : decode cX1_fillsWords 114 = .ok (.iload_n 1, 1) := dk_27 (dk_at dksX1_fillsWords_4 22 rfl rfl)
theorem dX1_fillsWords_115 : decode cX1_fillsWords 115 = .ok (.iconst 1, 1) := dk_4 (dk_at dksX1_fillsWords_4 23 rfl rfl)
theorem dX1_fillsWords_116 : decode cX1_fillsWords 116 = .ok (.iadd, 1) := dk_96 (dk_at dksX1_fillsWords_5 0 rfl rfl)
theorem dX1_fillsWords_117 : decode cX1_fillsWords 117 = .ok (.invokestatic 110, 3) := dk_184 0 110 (dk_at dksX1_fillsWords_5 1 rfl rfl)
theorem dX1_fillsWords_120 : decode cX1_fillsWords 120 = .ok (.iaload, 1) := dk_46 (dk_at dksX1_fillsWords_5 4 rfl rfl)
theorem dX1_fillsWords_121 : decode cX1_fillsWords 121 = .ok (.i2l, 1) := dk_133 (dk_at dksX1_fillsWords_5 5 rfl rfl)
theorem dX1_fillsWords_122 : decode cX1_fillsWords 122 = .ok (.lastore, 1) := dk_80 (dk_at dksX1_fillsWords_5 6 rfl rfl)
theorem dX1_fillsWords_123 : decode cX1_fillsWords 123 = .ok (.aload_n 0, 1) := dk_42 (dk_at dksX1_fillsWords_5 7 rfl rfl)
theorem dX1_fillsWords_124 : decode cX1_fillsWords 124 = .ok (.getfield 54, 3) := dk_180 0 54 (dk_at dksX1_fillsWords_5 8 rfl rfl)
theorem dX1_fillsWords_127 : decode cX1_fillsWords 127 = .ok (.bipush 9, 2) := dk_16 9 (dk_at dksX1_fillsWords_5 11 rfl rfl)
theorem dX1_fillsWords_129 : decode cX1_fillsWords 129 = .ok (.aload_n 0, 1) := dk_42 (dk_at dksX1_fillsWords_5 13 rfl rfl)
theorem dX1_fillsWords_130 : decode cX1_fillsWords 130 = .ok (.iload_n 1, 1) := dk_27 (dk_at dksX1_fillsWords_5 14 rfl rfl)
theorem dX1_fillsWords_131 : decode cX1_fillsWords 131 = .ok (.iconst 0, 1) := dk_3 (dk_at dksX1_fillsWords_5 15 rfl rfl)
theorem dX1_fillsWords_132 : decode cX1_fillsWords 132 = .ok (.invokevirtual 113, 3) := dk_182 0 113 (dk_at dksX1_fillsWords_5 16 rfl rfl)
theorem dX1_fillsWords_135 : decode cX1_fillsWords 135 = .ok (.i2l, 1) := dk_133 (dk_at dksX1_fillsWords_5 19 rfl rfl)
theorem dX1_fillsWords_136 : decode cX1_fillsWords 136 = .ok (.lastore, 1) := dk_80 (dk_at dksX1_fillsWords_5 20 rfl rfl)
theorem dX1_fillsWords_137 : decode cX1_fillsWords 137 = .ok (.aload_n 0, 1) := dk_42 (dk_at dksX1_fillsWords_5 21 rfl rfl)
theorem dX1_fillsWords_138 : decode cX1_fillsWords 138 = .ok (.getfield 54, 3) := dk_180 0 54 (dk_at dksX1_fillsWords_6 0 rfl rfl)
theorem dX1_fillsWords_141 : decode cX1_fillsWords 141 = .ok (.bipush 10, 2) := dk_16 10 (dk_at dksX1_fillsWords_6 3 rfl rfl)
theorem dX1_fillsWords_143 : decode cX1_fillsWords 143 = .ok (.aload_n 0, 1) := dk_42 (dk_at dksX1_fillsWords_6 5 rfl rfl)
theorem dX1_fillsWords_144 : decode cX1_fillsWords 144 = .ok (.iload_n 1, 1) := dk_27 (dk_at dksX1_fillsWords_6 6 rfl rfl)
theorem dX1_fillsWords_145 : decode cX1_fillsWords 145 = .ok (.iconst 1, 1) := dk_4 (dk_at dksX1_fillsWords_6 7 rfl rfl)
theorem dX1_fillsWords_146 : decode cX1_fillsWords 146 = .ok (.invokevirtual 113, 3) := dk_182 0 113 (dk_at dksX1_fillsWords_6 8 rfl rfl)
theorem dX1_fillsWords_149 : decode cX1_fillsWords 149 = .ok (.i2l, 1) := dk_133 (dk_at dksX1_fillsWords_6 11 rfl rfl)
theorem dX1_fillsWords_150 : decode cX1_fillsWords 150 = .ok (.lastore, 1) := dk_80 (dk_at dksX1_fillsWords_6 12 rfl rfl)
theorem dX1_fillsWords_151 : decode cX1_fillsWords 151 = .ok (.aload_n 0, 1) := dk_42 (dk_at dksX1_fillsWords_6 13 rfl rfl)
theorem dX1_fillsWords_152 : decode cX1_fillsWords 152 = .ok (.getfield 54, 3) := dk_180 0 54 (dk_at dksX1_fillsWords_6 14 rfl rfl)
theorem dX1_fillsWords_155 : decode cX1_fillsWords 155 = .ok (.bipush 11, 2) := dk_16 11 (dk_at dksX1_fillsWords_6 17 rfl rfl)
theorem dX1_fillsWords_157 : decode cX1_fillsWords 157 = .ok (.iload_n 1, 1) := dk_27 (dk_at dksX1_fillsWords_6 19 rfl rfl)
theorem dX1_fillsWords_158 : decode cX1_fillsWords 158 = .ok (.ifCond .le 17, 3) := dk_158 0 17 (dk_at dksX1_fillsWords_6 20 rfl rfl)
theorem dX1_fillsWords_161 : decode cX1_fillsWords 161 = .ok (.aload_n 0, 1) := dk_42 (dk_at dksX1_fillsWords_6 23 rfl rfl)
theorem dX1_fillsWords_162 : decode cX1_fillsWords 162 = .ok (.iload_n 1, 1) := dk_27 (dk_at dksX1_fillsWords_7 0 rfl rfl)
theorem dX1_fillsWords_163 : decode cX1_fillsWords 163 = .ok (.iconst 1, 1) := dk_4 (dk_at dksX1_fillsWords_7 1 rfl rfl)
theorem dX1_fillsWords_164 : decode cX1_fillsWords 164 = .ok (.isub, 1) := dk_100 (dk_at dksX1_fillsWords_7 2 rfl rfl)
theorem dX1_fillsWords_165 : decode cX1_fillsWords 165 = .ok (.invokevirtual 116, 3) := dk_182 0 116 (dk_at dksX1_fillsWords_7 3 rfl rfl)
theorem dX1_fillsWords_168 : decode cX1_fillsWords 168 = .ok (.ifCond .eq 7, 3) := dk_153 0 7 (dk_at dksX1_fillsWords_7 6 rfl rfl)
theorem dX1_fillsWords_171 : decode cX1_fillsWords 171 = .ok (.iconst 1, 1) := dk_4 (dk_at dksX1_fillsWords_7 9 rfl rfl)
theorem dX1_fillsWords_172 : decode cX1_fillsWords 172 = .ok (.goto 4, 3) := dk_167 0 4 (dk_at dksX1_fillsWords_7 10 rfl rfl)
theorem dX1_fillsWords_175 : decode cX1_fillsWords 175 = .ok (.iconst 0, 1) := dk_3 (dk_at dksX1_fillsWords_7 13 rfl rfl)
theorem dX1_fillsWords_176 : decode cX1_fillsWords 176 = .ok (.iload_n 1, 1) := dk_27 (dk_at dksX1_fillsWords_7 14 rfl rfl)
theorem dX1_fillsWords_177 : decode cX1_fillsWords 177 = .ok (.aload_n 0, 1) := dk_42 (dk_at dksX1_fillsWords_7 15 rfl rfl)
theorem dX1_fillsWords_178 : decode cX1_fillsWords 178 = .ok (.getfield 58, 3) := dk_180 0 58 (dk_at dksX1_fillsWords_7 16 rfl rfl)
theorem dX1_fillsWords_181 : decode cX1_fillsWords 181 = .ok (.iconst 1, 1) := dk_4 (dk_at dksX1_fillsWords_7 19 rfl rfl)
theorem dX1_fillsWords_182 : decode cX1_fillsWords 182 = .ok (.isub, 1) := dk_100 (dk_at dksX1_fillsWords_7 20 rfl rfl)
theorem dX1_fillsWords_183 : decode cX1_fillsWords 183 = .ok (.if_icmp .ge 17, 3) := dk_162 0 17 (dk_at dksX1_fillsWords_7 21 rfl rfl)
theorem dX1_fillsWords_186 : decode cX1_fillsWords 186 = .ok (.aload_n 0, 1) := dk_42 (dk_at dksX1_fillsWords_8 0 rfl rfl)
theorem dX1_fillsWords_187 : decode cX1_fillsWords 187 = .ok (.iload_n 1, 1) := dk_27 (dk_at dksX1_fillsWords_8 1 rfl rfl)
theorem dX1_fillsWords_188 : decode cX1_fillsWords 188 = .ok (.iconst 1, 1) := dk_4 (dk_at dksX1_fillsWords_8 2 rfl rfl)
theorem dX1_fillsWords_189 : decode cX1_fillsWords 189 = .ok (.iadd, 1) := dk_96 (dk_at dksX1_fillsWords_8 3 rfl rfl)
theorem dX1_fillsWords_190 : decode cX1_fillsWords 190 = .ok (.invokevirtual 116, 3) := dk_182 0 116 (dk_at dksX1_fillsWords_8 4 rfl rfl)
theorem dX1_fillsWords_193 : decode cX1_fillsWords 193 = .ok (.ifCond .eq 7, 3) := dk_153 0 7 (dk_at dksX1_fillsWords_8 7 rfl rfl)
theorem dX1_fillsWords_196 : decode cX1_fillsWords 196 = .ok (.iconst 1, 1) := dk_4 (dk_at dksX1_fillsWords_8 10 rfl rfl)
theorem dX1_fillsWords_197 : decode cX1_fillsWords 197 = .ok (.goto 4, 3) := dk_167 0 4 (dk_at dksX1_fillsWords_8 11 rfl rfl)
theorem dX1_fillsWords_200 : decode cX1_fillsWords 200 = .ok (.iconst 0, 1) := dk_3 (dk_at dksX1_fillsWords_8 14 rfl rfl)
theorem dX1_fillsWords_201 : decode cX1_fillsWords 201 = .ok (.iadd, 1) := dk_96 (dk_at dksX1_fillsWords_8 15 rfl rfl)
theorem dX1_fillsWords_202 : decode cX1_fillsWords 202 = .ok (.i2l, 1) := dk_133 (dk_at dksX1_fillsWords_8 16 rfl rfl)
theorem dX1_fillsWords_203 : decode cX1_fillsWords 203 = .ok (.lastore, 1) := dk_80 (dk_at dksX1_fillsWords_8 17 rfl rfl)
theorem dX1_fillsWords_204 : decode cX1_fillsWords 204 = .ok (.return_, 1) := dk_177 (dk_at dksX1_fillsWords_8 18 rfl rfl)
abbrev cX1_villagesIn : ByteArray := prog_5_method_9_code
def yX1_villagesIn : MethodName := ⟨RX1, "villagesIn", "(II)I"⟩
def dkwX1_villagesIn_2 : List UInt8 := [167, 255, 215, 29, 172]
abbrev dktX1_villagesIn_2 : List UInt8 := dkwX1_villagesIn_2 ++ []
def dkwX1_villagesIn_1 : List UInt8 := [160, 0, 17, 42, 21, 4, 182, 0, 100, 28, 160, 0, 7, 4, 167, 0, 4, 3, 96, 62, 132, 4, 1]
abbrev dktX1_villagesIn_1 : List UInt8 := dkwX1_villagesIn_1 ++ dktX1_villagesIn_2
def dkwX1_villagesIn_0 : List UInt8 := [3, 62, 3, 54, 4, 21, 4, 42, 180, 0, 65, 162, 0, 38, 29, 42, 180, 0, 18, 21, 4, 46, 27]
abbrev dktX1_villagesIn_0 : List UInt8 := dkwX1_villagesIn_0 ++ dktX1_villagesIn_1
theorem dksX1_villagesIn_0 : cX1_villagesIn.data.toList.drop 0 = dktX1_villagesIn_0 := by decide +kernel
theorem dksX1_villagesIn_1 : cX1_villagesIn.data.toList.drop 23 = dktX1_villagesIn_1 := dk_seg dksX1_villagesIn_0 23 rfl rfl
theorem dksX1_villagesIn_2 : cX1_villagesIn.data.toList.drop 46 = dktX1_villagesIn_2 := dk_seg dksX1_villagesIn_1 23 rfl rfl
theorem dX1_villagesIn_0 : decode cX1_villagesIn 0 = .ok (.iconst 0, 1) := dk_3 (dk_at dksX1_villagesIn_0 0 rfl rfl)
theorem dX1_villagesIn_1 : decode cX1_villagesIn 1 = .ok (.istore_n 3, 1) := dk_62 (dk_at dksX1_villagesIn_0 1 rfl rfl)
theorem dX1_villagesIn_2 : decode cX1_villagesIn 2 = .ok (.iconst 0, 1) := dk_3 (dk_at dksX1_villagesIn_0 2 rfl rfl)
theorem dX1_villagesIn_3 : decode cX1_villagesIn 3 = .ok (.istore 4, 2) := dk_54 4 (dk_at dksX1_villagesIn_0 3 rfl rfl)
theorem dX1_villagesIn_5 : decode cX1_villagesIn 5 = .ok (.iload 4, 2) := dk_21 4 (dk_at dksX1_villagesIn_0 5 rfl rfl)
theorem dX1_villagesIn_7 : decode cX1_villagesIn 7 = .ok (.aload_n 0, 1) := dk_42 (dk_at dksX1_villagesIn_0 7 rfl rfl)
theorem dX1_villagesIn_8 : decode cX1_villagesIn 8 = .ok (.getfield 65, 3) := dk_180 0 65 (dk_at dksX1_villagesIn_0 8 rfl rfl)
theorem dX1_villagesIn_11 : decode cX1_villagesIn 11 = .ok (.if_icmp .ge 38, 3) := dk_162 0 38 (dk_at dksX1_villagesIn_0 11 rfl rfl)
theorem dX1_villagesIn_14 : decode cX1_villagesIn 14 = .ok (.iload_n 3, 1) := dk_29 (dk_at dksX1_villagesIn_0 14 rfl rfl)
theorem dX1_villagesIn_15 : decode cX1_villagesIn 15 = .ok (.aload_n 0, 1) := dk_42 (dk_at dksX1_villagesIn_0 15 rfl rfl)
theorem dX1_villagesIn_16 : decode cX1_villagesIn 16 = .ok (.getfield 18, 3) := dk_180 0 18 (dk_at dksX1_villagesIn_0 16 rfl rfl)
theorem dX1_villagesIn_19 : decode cX1_villagesIn 19 = .ok (.iload 4, 2) := dk_21 4 (dk_at dksX1_villagesIn_0 19 rfl rfl)
theorem dX1_villagesIn_21 : decode cX1_villagesIn 21 = .ok (.iaload, 1) := dk_46 (dk_at dksX1_villagesIn_0 21 rfl rfl)
theorem dX1_villagesIn_22 : decode cX1_villagesIn 22 = .ok (.iload_n 1, 1) := dk_27 (dk_at dksX1_villagesIn_0 22 rfl rfl)
theorem dX1_villagesIn_23 : decode cX1_villagesIn 23 = .ok (.if_icmp .ne 17, 3) := dk_160 0 17 (dk_at dksX1_villagesIn_1 0 rfl rfl)
theorem dX1_villagesIn_26 : decode cX1_villagesIn 26 = .ok (.aload_n 0, 1) := dk_42 (dk_at dksX1_villagesIn_1 3 rfl rfl)
theorem dX1_villagesIn_27 : decode cX1_villagesIn 27 = .ok (.iload 4, 2) := dk_21 4 (dk_at dksX1_villagesIn_1 4 rfl rfl)
theorem dX1_villagesIn_29 : decode cX1_villagesIn 29 = .ok (.invokevirtual 100, 3) := dk_182 0 100 (dk_at dksX1_villagesIn_1 6 rfl rfl)
theorem dX1_villagesIn_32 : decode cX1_villagesIn 32 = .ok (.iload_n 2, 1) := dk_28 (dk_at dksX1_villagesIn_1 9 rfl rfl)
theorem dX1_villagesIn_33 : decode cX1_villagesIn 33 = .ok (.if_icmp .ne 7, 3) := dk_160 0 7 (dk_at dksX1_villagesIn_1 10 rfl rfl)
theorem dX1_villagesIn_36 : decode cX1_villagesIn 36 = .ok (.iconst 1, 1) := dk_4 (dk_at dksX1_villagesIn_1 13 rfl rfl)
theorem dX1_villagesIn_37 : decode cX1_villagesIn 37 = .ok (.goto 4, 3) := dk_167 0 4 (dk_at dksX1_villagesIn_1 14 rfl rfl)
theorem dX1_villagesIn_40 : decode cX1_villagesIn 40 = .ok (.iconst 0, 1) := dk_3 (dk_at dksX1_villagesIn_1 17 rfl rfl)
theorem dX1_villagesIn_41 : decode cX1_villagesIn 41 = .ok (.iadd, 1) := dk_96 (dk_at dksX1_villagesIn_1 18 rfl rfl)
theorem dX1_villagesIn_42 : decode cX1_villagesIn 42 = .ok (.istore_n 3, 1) := dk_62 (dk_at dksX1_villagesIn_1 19 rfl rfl)
theorem dX1_villagesIn_43 : decode cX1_villagesIn 43 = .ok (.iinc 4 1, 3) := dk_132 4 1 (dk_at dksX1_villagesIn_1 20 rfl rfl)
theorem dX1_villagesIn_46 : decode cX1_villagesIn 46 = .ok (.goto (-41), 3) := dk_167 255 215 (dk_at dksX1_villagesIn_2 0 rfl rfl)
theorem dX1_villagesIn_49 : decode cX1_villagesIn 49 = .ok (.iload_n 3, 1) := dk_29 (dk_at dksX1_villagesIn_2 3 rfl rfl)
theorem dX1_villagesIn_50 : decode cX1_villagesIn 50 = .ok (.ireturn, 1) := dk_172 (dk_at dksX1_villagesIn_2 4 rfl rfl)
abbrev cX1_sags : ByteArray := prog_5_method_17_code
def yX1_sags : MethodName := ⟨RX1, "sags", "(I)V"⟩
def dkwX1_sags_3 : List UInt8 := [29, 100, 79, 177]
abbrev dktX1_sags_3 : List UInt8 := dkwX1_sags_3 ++ []
def dkwX1_sags_2 : List UInt8 := [92, 46, 29, 96, 79, 42, 27, 4, 96, 182, 0, 116, 154, 0, 15, 42, 180, 0, 33, 27, 4, 96, 92, 46]
abbrev dktX1_sags_2 : List UInt8 := dkwX1_sags_2 ++ dktX1_sags_3
def dkwX1_sags_1 : List UInt8 := [177, 28, 158, 0, 7, 4, 167, 0, 4, 2, 62, 42, 27, 182, 0, 116, 154, 0, 13, 42, 180, 0, 33, 27]
abbrev dktX1_sags_1 : List UInt8 := dkwX1_sags_1 ++ dktX1_sags_2
def dkwX1_sags_0 : List UInt8 := [42, 180, 0, 33, 27, 4, 96, 46, 42, 180, 0, 33, 27, 46, 100, 61, 28, 184, 0, 140, 7, 163, 0, 4]
abbrev dktX1_sags_0 : List UInt8 := dkwX1_sags_0 ++ dktX1_sags_1
theorem dksX1_sags_0 : cX1_sags.data.toList.drop 0 = dktX1_sags_0 := by decide +kernel
theorem dksX1_sags_1 : cX1_sags.data.toList.drop 24 = dktX1_sags_1 := dk_seg dksX1_sags_0 24 rfl rfl
theorem dksX1_sags_2 : cX1_sags.data.toList.drop 48 = dktX1_sags_2 := dk_seg dksX1_sags_1 24 rfl rfl
theorem dksX1_sags_3 : cX1_sags.data.toList.drop 72 = dktX1_sags_3 := dk_seg dksX1_sags_2 24 rfl rfl
theorem dX1_sags_0 : decode cX1_sags 0 = .ok (.aload_n 0, 1) := dk_42 (dk_at dksX1_sags_0 0 rfl rfl)
theorem dX1_sags_1 : decode cX1_sags 1 = .ok (.getfield 33, 3) := dk_180 0 33 (dk_at dksX1_sags_0 1 rfl rfl)
theorem dX1_sags_4 : decode cX1_sags 4 = .ok (.iload_n 1, 1) := dk_27 (dk_at dksX1_sags_0 4 rfl rfl)
theorem dX1_sags_5 : decode cX1_sags 5 = .ok (.iconst 1, 1) := dk_4 (dk_at dksX1_sags_0 5 rfl rfl)
theorem dX1_sags_6 : decode cX1_sags 6 = .ok (.iadd, 1) := dk_96 (dk_at dksX1_sags_0 6 rfl rfl)
theorem dX1_sags_7 : decode cX1_sags 7 = .ok (.iaload, 1) := dk_46 (dk_at dksX1_sags_0 7 rfl rfl)
theorem dX1_sags_8 : decode cX1_sags 8 = .ok (.aload_n 0, 1) := dk_42 (dk_at dksX1_sags_0 8 rfl rfl)
theorem dX1_sags_9 : decode cX1_sags 9 = .ok (.getfield 33, 3) := dk_180 0 33 (dk_at dksX1_sags_0 9 rfl rfl)
theorem dX1_sags_12 : decode cX1_sags 12 = .ok (.iload_n 1, 1) := dk_27 (dk_at dksX1_sags_0 12 rfl rfl)
theorem dX1_sags_13 : decode cX1_sags 13 = .ok (.iaload, 1) := dk_46 (dk_at dksX1_sags_0 13 rfl rfl)
theorem dX1_sags_14 : decode cX1_sags 14 = .ok (.isub, 1) := dk_100 (dk_at dksX1_sags_0 14 rfl rfl)
theorem dX1_sags_15 : decode cX1_sags 15 = .ok (.istore_n 2, 1) := dk_61 (dk_at dksX1_sags_0 15 rfl rfl)
theorem dX1_sags_16 : decode cX1_sags 16 = .ok (.iload_n 2, 1) := dk_28 (dk_at dksX1_sags_0 16 rfl rfl)
theorem dX1_sags_17 : decode cX1_sags 17 = .ok (.invokestatic 140, 3) := dk_184 0 140 (dk_at dksX1_sags_0 17 rfl rfl)
theorem dX1_sags_20 : decode cX1_sags 20 = .ok (.iconst 4, 1) := dk_7 (dk_at dksX1_sags_0 20 rfl rfl)
theorem dX1_sags_21 : decode cX1_sags 21 = .ok (.if_icmp .gt 4, 3) := dk_163 0 4 (dk_at dksX1_sags_0 21 rfl rfl)
theorem dX1_sags_24 : decode cX1_sags 24 = .ok (.return_, 1) := dk_177 (dk_at dksX1_sags_1 0 rfl rfl)
theorem dX1_sags_25 : decode cX1_sags 25 = .ok (.iload_n 2, 1) := dk_28 (dk_at dksX1_sags_1 1 rfl rfl)
theorem dX1_sags_26 : decode cX1_sags 26 = .ok (.ifCond .le 7, 3) := dk_158 0 7 (dk_at dksX1_sags_1 2 rfl rfl)
theorem dX1_sags_29 : decode cX1_sags 29 = .ok (.iconst 1, 1) := dk_4 (dk_at dksX1_sags_1 5 rfl rfl)
theorem dX1_sags_30 : decode cX1_sags 30 = .ok (.goto 4, 3) := dk_167 0 4 (dk_at dksX1_sags_1 6 rfl rfl)
theorem dX1_sags_33 : decode cX1_sags 33 = .ok (.iconst (-1), 1) := dk_2 (dk_at dksX1_sags_1 9 rfl rfl)
theorem dX1_sags_34 : decode cX1_sags 34 = .ok (.istore_n 3, 1) := dk_62 (dk_at dksX1_sags_1 10 rfl rfl)
theorem dX1_sags_35 : decode cX1_sags 35 = .ok (.aload_n 0, 1) := dk_42 (dk_at dksX1_sags_1 11 rfl rfl)
theorem dX1_sags_36 : decode cX1_sags 36 = .ok (.iload_n 1, 1) := dk_27 (dk_at dksX1_sags_1 12 rfl rfl)
theorem dX1_sags_37 : decode cX1_sags 37 = .ok (.invokevirtual 116, 3) := dk_182 0 116 (dk_at dksX1_sags_1 13 rfl rfl)
theorem dX1_sags_40 : decode cX1_sags 40 = .ok (.ifCond .ne 13, 3) := dk_154 0 13 (dk_at dksX1_sags_1 16 rfl rfl)
theorem dX1_sags_43 : decode cX1_sags 43 = .ok (.aload_n 0, 1) := dk_42 (dk_at dksX1_sags_1 19 rfl rfl)
theorem dX1_sags_44 : decode cX1_sags 44 = .ok (.getfield 33, 3) := dk_180 0 33 (dk_at dksX1_sags_1 20 rfl rfl)
theorem dX1_sags_47 : decode cX1_sags 47 = .ok (.iload_n 1, 1) := dk_27 (dk_at dksX1_sags_1 23 rfl rfl)
theorem dX1_sags_48 : decode cX1_sags 48 = .ok (.dup2, 1) := dk_92 (dk_at dksX1_sags_2 0 rfl rfl)
theorem dX1_sags_49 : decode cX1_sags 49 = .ok (.iaload, 1) := dk_46 (dk_at dksX1_sags_2 1 rfl rfl)
theorem dX1_sags_50 : decode cX1_sags 50 = .ok (.iload_n 3, 1) := dk_29 (dk_at dksX1_sags_2 2 rfl rfl)
theorem dX1_sags_51 : decode cX1_sags 51 = .ok (.iadd, 1) := dk_96 (dk_at dksX1_sags_2 3 rfl rfl)
theorem dX1_sags_52 : decode cX1_sags 52 = .ok (.iastore, 1) := dk_79 (dk_at dksX1_sags_2 4 rfl rfl)
theorem dX1_sags_53 : decode cX1_sags 53 = .ok (.aload_n 0, 1) := dk_42 (dk_at dksX1_sags_2 5 rfl rfl)
theorem dX1_sags_54 : decode cX1_sags 54 = .ok (.iload_n 1, 1) := dk_27 (dk_at dksX1_sags_2 6 rfl rfl)
theorem dX1_sags_55 : decode cX1_sags 55 = .ok (.iconst 1, 1) := dk_4 (dk_at dksX1_sags_2 7 rfl rfl)
theorem dX1_sags_56 : decode cX1_sags 56 = .ok (.iadd, 1) := dk_96 (dk_at dksX1_sags_2 8 rfl rfl)
theorem dX1_sags_57 : decode cX1_sags 57 = .ok (.invokevirtual 116, 3) := dk_182 0 116 (dk_at dksX1_sags_2 9 rfl rfl)
theorem dX1_sags_60 : decode cX1_sags 60 = .ok (.ifCond .ne 15, 3) := dk_154 0 15 (dk_at dksX1_sags_2 12 rfl rfl)
theorem dX1_sags_63 : decode cX1_sags 63 = .ok (.aload_n 0, 1) := dk_42 (dk_at dksX1_sags_2 15 rfl rfl)
theorem dX1_sags_64 : decode cX1_sags 64 = .ok (.getfield 33, 3) := dk_180 0 33 (dk_at dksX1_sags_2 16 rfl rfl)
theorem dX1_sags_67 : decode cX1_sags 67 = .ok (.iload_n 1, 1) := dk_27 (dk_at dksX1_sags_2 19 rfl rfl)
theorem dX1_sags_68 : decode cX1_sags 68 = .ok (.iconst 1, 1) := dk_4 (dk_at dksX1_sags_2 20 rfl rfl)
theorem dX1_sags_69 : decode cX1_sags 69 = .ok (.iadd, 1) := dk_96 (dk_at dksX1_sags_2 21 rfl rfl)
theorem dX1_sags_70 : decode cX1_sags 70 = .ok (.dup2, 1) := dk_92 (dk_at dksX1_sags_2 22 rfl rfl)
theorem dX1_sags_71 : decode cX1_sags 71 = .ok (.iaload, 1) := dk_46 (dk_at dksX1_sags_2 23 rfl rfl)
theorem dX1_sags_72 : decode cX1_sags 72 = .ok (.iload_n 3, 1) := dk_29 (dk_at dksX1_sags_3 0 rfl rfl)
theorem dX1_sags_73 : decode cX1_sags 73 = .ok (.isub, 1) := dk_100 (dk_at dksX1_sags_3 1 rfl rfl)
theorem dX1_sags_74 : decode cX1_sags 74 = .ok (.iastore, 1) := dk_79 (dk_at dksX1_sags_3 2 rfl rfl)
theorem dX1_sags_75 : decode cX1_sags 75 = .ok (.return_, 1) := dk_177 (dk_at dksX1_sags_3 3 rfl rfl)
abbrev cX1_countsCrossed : ByteArray := prog_5_method_15_code
def yX1_countsCrossed : MethodName := ⟨RX1, "countsCrossed", "()I"⟩
def dkwX1_countsCrossed_2 : List UInt8 := [167, 255, 215, 27, 172]
abbrev dktX1_countsCrossed_2 : List UInt8 := dkwX1_countsCrossed_2 ++ []
def dkwX1_countsCrossed_1 : List UInt8 := [160, 0, 6, 167, 0, 16, 42, 180, 0, 42, 28, 92, 46, 4, 96, 79, 132, 1, 1, 132, 2, 1]
abbrev dktX1_countsCrossed_1 : List UInt8 := dkwX1_countsCrossed_1 ++ dktX1_countsCrossed_2
def dkwX1_countsCrossed_0 : List UInt8 := [3, 60, 3, 61, 28, 42, 180, 0, 65, 162, 0, 39, 42, 28, 182, 0, 100, 42, 180, 0, 51, 28, 46]
abbrev dktX1_countsCrossed_0 : List UInt8 := dkwX1_countsCrossed_0 ++ dktX1_countsCrossed_1
theorem dksX1_countsCrossed_0 : cX1_countsCrossed.data.toList.drop 0 = dktX1_countsCrossed_0 := by decide +kernel
theorem dksX1_countsCrossed_1 : cX1_countsCrossed.data.toList.drop 23 = dktX1_countsCrossed_1 := dk_seg dksX1_countsCrossed_0 23 rfl rfl
theorem dksX1_countsCrossed_2 : cX1_countsCrossed.data.toList.drop 45 = dktX1_countsCrossed_2 := dk_seg dksX1_countsCrossed_1 22 rfl rfl
theorem dX1_countsCrossed_0 : decode cX1_countsCrossed 0 = .ok (.iconst 0, 1) := dk_3 (dk_at dksX1_countsCrossed_0 0 rfl rfl)
theorem dX1_countsCrossed_1 : decode cX1_countsCrossed 1 = .ok (.istore_n 1, 1) := dk_60 (dk_at dksX1_countsCrossed_0 1 rfl rfl)
theorem dX1_countsCrossed_2 : decode cX1_countsCrossed 2 = .ok (.iconst 0, 1) := dk_3 (dk_at dksX1_countsCrossed_0 2 rfl rfl)
theorem dX1_countsCrossed_3 : decode cX1_countsCrossed 3 = .ok (.istore_n 2, 1) := dk_61 (dk_at dksX1_countsCrossed_0 3 rfl rfl)
theorem dX1_countsCrossed_4 : decode cX1_countsCrossed 4 = .ok (.iload_n 2, 1) := dk_28 (dk_at dksX1_countsCrossed_0 4 rfl rfl)
theorem dX1_countsCrossed_5 : decode cX1_countsCrossed 5 = .ok (.aload_n 0, 1) := dk_42 (dk_at dksX1_countsCrossed_0 5 rfl rfl)
theorem dX1_countsCrossed_6 : decode cX1_countsCrossed 6 = .ok (.getfield 65, 3) := dk_180 0 65 (dk_at dksX1_countsCrossed_0 6 rfl rfl)
theorem dX1_countsCrossed_9 : decode cX1_countsCrossed 9 = .ok (.if_icmp .ge 39, 3) := dk_162 0 39 (dk_at dksX1_countsCrossed_0 9 rfl rfl)
theorem dX1_countsCrossed_12 : decode cX1_countsCrossed 12 = .ok (.aload_n 0, 1) := dk_42 (dk_at dksX1_countsCrossed_0 12 rfl rfl)
theorem dX1_countsCrossed_13 : decode cX1_countsCrossed 13 = .ok (.iload_n 2, 1) := dk_28 (dk_at dksX1_countsCrossed_0 13 rfl rfl)
theorem dX1_countsCrossed_14 : decode cX1_countsCrossed 14 = .ok (.invokevirtual 100, 3) := dk_182 0 100 (dk_at dksX1_countsCrossed_0 14 rfl rfl)
theorem dX1_countsCrossed_17 : decode cX1_countsCrossed 17 = .ok (.aload_n 0, 1) := dk_42 (dk_at dksX1_countsCrossed_0 17 rfl rfl)
theorem dX1_countsCrossed_18 : decode cX1_countsCrossed 18 = .ok (.getfield 51, 3) := dk_180 0 51 (dk_at dksX1_countsCrossed_0 18 rfl rfl)
theorem dX1_countsCrossed_21 : decode cX1_countsCrossed 21 = .ok (.iload_n 2, 1) := dk_28 (dk_at dksX1_countsCrossed_0 21 rfl rfl)
theorem dX1_countsCrossed_22 : decode cX1_countsCrossed 22 = .ok (.iaload, 1) := dk_46 (dk_at dksX1_countsCrossed_0 22 rfl rfl)
theorem dX1_countsCrossed_23 : decode cX1_countsCrossed 23 = .ok (.if_icmp .ne 6, 3) := dk_160 0 6 (dk_at dksX1_countsCrossed_1 0 rfl rfl)
theorem dX1_countsCrossed_26 : decode cX1_countsCrossed 26 = .ok (.goto 16, 3) := dk_167 0 16 (dk_at dksX1_countsCrossed_1 3 rfl rfl)
theorem dX1_countsCrossed_29 : decode cX1_countsCrossed 29 = .ok (.aload_n 0, 1) := dk_42 (dk_at dksX1_countsCrossed_1 6 rfl rfl)
theorem dX1_countsCrossed_30 : decode cX1_countsCrossed 30 = .ok (.getfield 42, 3) := dk_180 0 42 (dk_at dksX1_countsCrossed_1 7 rfl rfl)
theorem dX1_countsCrossed_33 : decode cX1_countsCrossed 33 = .ok (.iload_n 2, 1) := dk_28 (dk_at dksX1_countsCrossed_1 10 rfl rfl)
theorem dX1_countsCrossed_34 : decode cX1_countsCrossed 34 = .ok (.dup2, 1) := dk_92 (dk_at dksX1_countsCrossed_1 11 rfl rfl)
theorem dX1_countsCrossed_35 : decode cX1_countsCrossed 35 = .ok (.iaload, 1) := dk_46 (dk_at dksX1_countsCrossed_1 12 rfl rfl)
theorem dX1_countsCrossed_36 : decode cX1_countsCrossed 36 = .ok (.iconst 1, 1) := dk_4 (dk_at dksX1_countsCrossed_1 13 rfl rfl)
theorem dX1_countsCrossed_37 : decode cX1_countsCrossed 37 = .ok (.iadd, 1) := dk_96 (dk_at dksX1_countsCrossed_1 14 rfl rfl)
theorem dX1_countsCrossed_38 : decode cX1_countsCrossed 38 = .ok (.iastore, 1) := dk_79 (dk_at dksX1_countsCrossed_1 15 rfl rfl)
theorem dX1_countsCrossed_39 : decode cX1_countsCrossed 39 = .ok (.iinc 1 1, 3) := dk_132 1 1 (dk_at dksX1_countsCrossed_1 16 rfl rfl)
theorem dX1_countsCrossed_42 : decode cX1_countsCrossed 42 = .ok (.iinc 2 1, 3) := dk_132 2 1 (dk_at dksX1_countsCrossed_1 19 rfl rfl)
theorem dX1_countsCrossed_45 : decode cX1_countsCrossed 45 = .ok (.goto (-41), 3) := dk_167 255 215 (dk_at dksX1_countsCrossed_2 0 rfl rfl)
theorem dX1_countsCrossed_48 : decode cX1_countsCrossed 48 = .ok (.iload_n 1, 1) := dk_27 (dk_at dksX1_countsCrossed_2 3 rfl rfl)
theorem dX1_countsCrossed_49 : decode cX1_countsCrossed 49 = .ok (.ireturn, 1) := dk_172 (dk_at dksX1_countsCrossed_2 4 rfl rfl)
abbrev cX1_pushes : ByteArray := prog_5_method_16_code
def yX1_pushes : MethodName := ⟨RX1, "pushes", "(II)V"⟩
def dkwX1_pushes_1 : List UInt8 := [182, 0, 136, 87, 177]
abbrev dktX1_pushes_1 : List UInt8 := dkwX1_pushes_1 ++ []
def dkwX1_pushes_0 : List UInt8 := [42, 182, 0, 133, 42, 180, 0, 33, 27, 42, 180, 0, 33, 27, 46, 28, 96, 16, 20, 184, 0, 120, 79, 42]
abbrev dktX1_pushes_0 : List UInt8 := dkwX1_pushes_0 ++ dktX1_pushes_1
theorem dksX1_pushes_0 : cX1_pushes.data.toList.drop 0 = dktX1_pushes_0 := by decide +kernel
theorem dksX1_pushes_1 : cX1_pushes.data.toList.drop 24 = dktX1_pushes_1 := dk_seg dksX1_pushes_0 24 rfl rfl
theorem dX1_pushes_0 : decode cX1_pushes 0 = .ok (.aload_n 0, 1) := dk_42 (dk_at dksX1_pushes_0 0 rfl rfl)
theorem dX1_pushes_1 : decode cX1_pushes 1 = .ok (.invokevirtual 133, 3) := dk_182 0 133 (dk_at dksX1_pushes_0 1 rfl rfl)
theorem dX1_pushes_4 : decode cX1_pushes 4 = .ok (.aload_n 0, 1) := dk_42 (dk_at dksX1_pushes_0 4 rfl rfl)
theorem dX1_pushes_5 : decode cX1_pushes 5 = .ok (.getfield 33, 3) := dk_180 0 33 (dk_at dksX1_pushes_0 5 rfl rfl)
theorem dX1_pushes_8 : decode cX1_pushes 8 = .ok (.iload_n 1, 1) := dk_27 (dk_at dksX1_pushes_0 8 rfl rfl)
theorem dX1_pushes_9 : decode cX1_pushes 9 = .ok (.aload_n 0, 1) := dk_42 (dk_at dksX1_pushes_0 9 rfl rfl)
theorem dX1_pushes_10 : decode cX1_pushes 10 = .ok (.getfield 33, 3) := dk_180 0 33 (dk_at dksX1_pushes_0 10 rfl rfl)
theorem dX1_pushes_13 : decode cX1_pushes 13 = .ok (.iload_n 1, 1) := dk_27 (dk_at dksX1_pushes_0 13 rfl rfl)
theorem dX1_pushes_14 : decode cX1_pushes 14 = .ok (.iaload, 1) := dk_46 (dk_at dksX1_pushes_0 14 rfl rfl)
theorem dX1_pushes_15 : decode cX1_pushes 15 = .ok (.iload_n 2, 1) := dk_28 (dk_at dksX1_pushes_0 15 rfl rfl)
theorem dX1_pushes_16 : decode cX1_pushes 16 = .ok (.iadd, 1) := dk_96 (dk_at dksX1_pushes_0 16 rfl rfl)
theorem dX1_pushes_17 : decode cX1_pushes 17 = .ok (.bipush 20, 2) := dk_16 20 (dk_at dksX1_pushes_0 17 rfl rfl)
theorem dX1_pushes_19 : decode cX1_pushes 19 = .ok (.invokestatic 120, 3) := dk_184 0 120 (dk_at dksX1_pushes_0 19 rfl rfl)
theorem dX1_pushes_22 : decode cX1_pushes 22 = .ok (.iastore, 1) := dk_79 (dk_at dksX1_pushes_0 22 rfl rfl)
theorem dX1_pushes_23 : decode cX1_pushes 23 = .ok (.aload_n 0, 1) := dk_42 (dk_at dksX1_pushes_0 23 rfl rfl)
theorem dX1_pushes_24 : decode cX1_pushes 24 = .ok (.invokevirtual 136, 3) := dk_182 0 136 (dk_at dksX1_pushes_1 0 rfl rfl)
theorem dX1_pushes_27 : decode cX1_pushes 27 = .ok (.pop, 1) := dk_87 (dk_at dksX1_pushes_1 3 rfl rfl)
theorem dX1_pushes_28 : decode cX1_pushes 28 = .ok (.return_, 1) := dk_177 (dk_at dksX1_pushes_1 4 rfl rfl)
abbrev cX1_easts : ByteArray := prog_5_method_10_code
def yX1_easts : MethodName := ⟨RX1, "easts", "()I"⟩
def dkwX1_easts_1 : List UInt8 := [120, 167, 0, 4, 3, 128, 60, 132, 2, 1, 167, 255, 226, 27, 172]
abbrev dktX1_easts_1 : List UInt8 := dkwX1_easts_1 ++ []
def dkwX1_easts_0 : List UInt8 := [3, 60, 3, 61, 28, 42, 180, 0, 65, 162, 0, 28, 27, 42, 28, 182, 0, 100, 4, 160, 0, 9, 4, 28]
abbrev dktX1_easts_0 : List UInt8 := dkwX1_easts_0 ++ dktX1_easts_1
theorem dksX1_easts_0 : cX1_easts.data.toList.drop 0 = dktX1_easts_0 := by decide +kernel
theorem dksX1_easts_1 : cX1_easts.data.toList.drop 24 = dktX1_easts_1 := dk_seg dksX1_easts_0 24 rfl rfl
theorem dX1_easts_0 : decode cX1_easts 0 = .ok (.iconst 0, 1) := dk_3 (dk_at dksX1_easts_0 0 rfl rfl)
theorem dX1_easts_1 : decode cX1_easts 1 = .ok (.istore_n 1, 1) := dk_60 (dk_at dksX1_easts_0 1 rfl rfl)
theorem dX1_easts_2 : decode cX1_easts 2 = .ok (.iconst 0, 1) := dk_3 (dk_at dksX1_easts_0 2 rfl rfl)
theorem dX1_easts_3 : decode cX1_easts 3 = .ok (.istore_n 2, 1) := dk_61 (dk_at dksX1_easts_0 3 rfl rfl)
theorem dX1_easts_4 : decode cX1_easts 4 = .ok (.iload_n 2, 1) := dk_28 (dk_at dksX1_easts_0 4 rfl rfl)
theorem dX1_easts_5 : decode cX1_easts 5 = .ok (.aload_n 0, 1) := dk_42 (dk_at dksX1_easts_0 5 rfl rfl)
theorem dX1_easts_6 : decode cX1_easts 6 = .ok (.getfield 65, 3) := dk_180 0 65 (dk_at dksX1_easts_0 6 rfl rfl)
theorem dX1_easts_9 : decode cX1_easts 9 = .ok (.if_icmp .ge 28, 3) := dk_162 0 28 (dk_at dksX1_easts_0 9 rfl rfl)
theorem dX1_easts_12 : decode cX1_easts 12 = .ok (.iload_n 1, 1) := dk_27 (dk_at dksX1_easts_0 12 rfl rfl)
theorem dX1_easts_13 : decode cX1_easts 13 = .ok (.aload_n 0, 1) := dk_42 (dk_at dksX1_easts_0 13 rfl rfl)
theorem dX1_easts_14 : decode cX1_easts 14 = .ok (.iload_n 2, 1) := dk_28 (dk_at dksX1_easts_0 14 rfl rfl)
theorem dX1_easts_15 : decode cX1_easts 15 = .ok (.invokevirtual 100, 3) := dk_182 0 100 (dk_at dksX1_easts_0 15 rfl rfl)
theorem dX1_easts_18 : decode cX1_easts 18 = .ok (.iconst 1, 1) := dk_4 (dk_at dksX1_easts_0 18 rfl rfl)
theorem dX1_easts_19 : decode cX1_easts 19 = .ok (.if_icmp .ne 9, 3) := dk_160 0 9 (dk_at dksX1_easts_0 19 rfl rfl)
theorem dX1_easts_22 : decode cX1_easts 22 = .ok (.iconst 1, 1) := dk_4 (dk_at dksX1_easts_0 22 rfl rfl)
theorem dX1_easts_23 : decode cX1_easts 23 = .ok (.iload_n 2, 1) := dk_28 (dk_at dksX1_easts_0 23 rfl rfl)
theorem dX1_easts_24 : decode cX1_easts 24 = .ok (.ishl, 1) := dk_120 (dk_at dksX1_easts_1 0 rfl rfl)
theorem dX1_easts_25 : decode cX1_easts 25 = .ok (.goto 4, 3) := dk_167 0 4 (dk_at dksX1_easts_1 1 rfl rfl)
theorem dX1_easts_28 : decode cX1_easts 28 = .ok (.iconst 0, 1) := dk_3 (dk_at dksX1_easts_1 4 rfl rfl)
theorem dX1_easts_29 : decode cX1_easts 29 = .ok (.ior, 1) := dk_128 (dk_at dksX1_easts_1 5 rfl rfl)
theorem dX1_easts_30 : decode cX1_easts 30 = .ok (.istore_n 1, 1) := dk_60 (dk_at dksX1_easts_1 6 rfl rfl)
theorem dX1_easts_31 : decode cX1_easts 31 = .ok (.iinc 2 1, 3) := dk_132 2 1 (dk_at dksX1_easts_1 7 rfl rfl)
theorem dX1_easts_34 : decode cX1_easts 34 = .ok (.goto (-30), 3) := dk_167 255 226 (dk_at dksX1_easts_1 10 rfl rfl)
theorem dX1_easts_37 : decode cX1_easts 37 = .ok (.iload_n 1, 1) := dk_27 (dk_at dksX1_easts_1 13 rfl rfl)
theorem dX1_easts_38 : decode cX1_easts 38 = .ok (.ireturn, 1) := dk_172 (dk_at dksX1_easts_1 14 rfl rfl)
abbrev cX1_areWants : ByteArray := prog_5_method_20_code
def yX1_areWants : MethodName := ⟨RX1, "areWants", "()Z"⟩
def dkwX1_areWants_1 : List UInt8 := [180, 0, 27, 27, 4, 96, 46, 159, 0, 5, 3, 172, 132, 1, 2, 167, 255, 220, 4, 172]
abbrev dktX1_areWants_1 : List UInt8 := dkwX1_areWants_1 ++ []
def dkwX1_areWants_0 : List UInt8 := [3, 60, 27, 5, 42, 180, 0, 68, 104, 162, 0, 32, 42, 42, 180, 0, 27, 27, 46, 182, 0, 100, 42]
abbrev dktX1_areWants_0 : List UInt8 := dkwX1_areWants_0 ++ dktX1_areWants_1
theorem dksX1_areWants_0 : cX1_areWants.data.toList.drop 0 = dktX1_areWants_0 := by decide +kernel
theorem dksX1_areWants_1 : cX1_areWants.data.toList.drop 23 = dktX1_areWants_1 := dk_seg dksX1_areWants_0 23 rfl rfl
theorem dX1_areWants_0 : decode cX1_areWants 0 = .ok (.iconst 0, 1) := dk_3 (dk_at dksX1_areWants_0 0 rfl rfl)
theorem dX1_areWants_1 : decode cX1_areWants 1 = .ok (.istore_n 1, 1) := dk_60 (dk_at dksX1_areWants_0 1 rfl rfl)
theorem dX1_areWants_2 : decode cX1_areWants 2 = .ok (.iload_n 1, 1) := dk_27 (dk_at dksX1_areWants_0 2 rfl rfl)
theorem dX1_areWants_3 : decode cX1_areWants 3 = .ok (.iconst 2, 1) := dk_5 (dk_at dksX1_areWants_0 3 rfl rfl)
theorem dX1_areWants_4 : decode cX1_areWants 4 = .ok (.aload_n 0, 1) := dk_42 (dk_at dksX1_areWants_0 4 rfl rfl)
theorem dX1_areWants_5 : decode cX1_areWants 5 = .ok (.getfield 68, 3) := dk_180 0 68 (dk_at dksX1_areWants_0 5 rfl rfl)
theorem dX1_areWants_8 : decode cX1_areWants 8 = .ok (.imul, 1) := dk_104 (dk_at dksX1_areWants_0 8 rfl rfl)
theorem dX1_areWants_9 : decode cX1_areWants 9 = .ok (.if_icmp .ge 32, 3) := dk_162 0 32 (dk_at dksX1_areWants_0 9 rfl rfl)
theorem dX1_areWants_12 : decode cX1_areWants 12 = .ok (.aload_n 0, 1) := dk_42 (dk_at dksX1_areWants_0 12 rfl rfl)
theorem dX1_areWants_13 : decode cX1_areWants 13 = .ok (.aload_n 0, 1) := dk_42 (dk_at dksX1_areWants_0 13 rfl rfl)
theorem dX1_areWants_14 : decode cX1_areWants 14 = .ok (.getfield 27, 3) := dk_180 0 27 (dk_at dksX1_areWants_0 14 rfl rfl)
theorem dX1_areWants_17 : decode cX1_areWants 17 = .ok (.iload_n 1, 1) := dk_27 (dk_at dksX1_areWants_0 17 rfl rfl)
theorem dX1_areWants_18 : decode cX1_areWants 18 = .ok (.iaload, 1) := dk_46 (dk_at dksX1_areWants_0 18 rfl rfl)
theorem dX1_areWants_19 : decode cX1_areWants 19 = .ok (.invokevirtual 100, 3) := dk_182 0 100 (dk_at dksX1_areWants_0 19 rfl rfl)
theorem dX1_areWants_22 : decode cX1_areWants 22 = .ok (.aload_n 0, 1) := dk_42 (dk_at dksX1_areWants_0 22 rfl rfl)
theorem dX1_areWants_23 : decode cX1_areWants 23 = .ok (.getfield 27, 3) := dk_180 0 27 (dk_at dksX1_areWants_1 0 rfl rfl)
theorem dX1_areWants_26 : decode cX1_areWants 26 = .ok (.iload_n 1, 1) := dk_27 (dk_at dksX1_areWants_1 3 rfl rfl)
theorem dX1_areWants_27 : decode cX1_areWants 27 = .ok (.iconst 1, 1) := dk_4 (dk_at dksX1_areWants_1 4 rfl rfl)
theorem dX1_areWants_28 : decode cX1_areWants 28 = .ok (.iadd, 1) := dk_96 (dk_at dksX1_areWants_1 5 rfl rfl)
theorem dX1_areWants_29 : decode cX1_areWants 29 = .ok (.iaload, 1) := dk_46 (dk_at dksX1_areWants_1 6 rfl rfl)
theorem dX1_areWants_30 : decode cX1_areWants 30 = .ok (.if_icmp .eq 5, 3) := dk_159 0 5 (dk_at dksX1_areWants_1 7 rfl rfl)
theorem dX1_areWants_33 : decode cX1_areWants 33 = .ok (.iconst 0, 1) := dk_3 (dk_at dksX1_areWants_1 10 rfl rfl)
theorem dX1_areWants_34 : decode cX1_areWants 34 = .ok (.ireturn, 1) := dk_172 (dk_at dksX1_areWants_1 11 rfl rfl)
theorem dX1_areWants_35 : decode cX1_areWants 35 = .ok (.iinc 1 2, 3) := dk_132 1 2 (dk_at dksX1_areWants_1 12 rfl rfl)
theorem dX1_areWants_38 : decode cX1_areWants 38 = .ok (.goto (-36), 3) := dk_167 255 220 (dk_at dksX1_areWants_1 15 rfl rfl)
theorem dX1_areWants_41 : decode cX1_areWants 41 = .ok (.iconst 1, 1) := dk_4 (dk_at dksX1_areWants_1 18 rfl rfl)
theorem dX1_areWants_42 : decode cX1_areWants 42 = .ok (.ireturn, 1) := dk_172 (dk_at dksX1_areWants_1 19 rfl rfl)
abbrev cX1_west : ByteArray := prog_5_method_11_code
def yX1_west : MethodName := ⟨RX1, "west", "()I"⟩
def dkwX1_west_2 : List UInt8 := [167, 255, 216, 27, 172]
abbrev dktX1_west_2 : List UInt8 := dkwX1_west_2 ++ []
def dkwX1_west_1 : List UInt8 := [167, 0, 17, 42, 28, 182, 0, 100, 4, 160, 0, 7, 2, 167, 0, 4, 3, 96, 60, 132, 2, 1]
abbrev dktX1_west_1 : List UInt8 := dkwX1_west_1 ++ dktX1_west_2
def dkwX1_west_0 : List UInt8 := [3, 60, 3, 61, 28, 42, 180, 0, 65, 162, 0, 38, 27, 42, 28, 182, 0, 100, 154, 0, 7, 4]
abbrev dktX1_west_0 : List UInt8 := dkwX1_west_0 ++ dktX1_west_1
theorem dksX1_west_0 : cX1_west.data.toList.drop 0 = dktX1_west_0 := by decide +kernel
theorem dksX1_west_1 : cX1_west.data.toList.drop 22 = dktX1_west_1 := dk_seg dksX1_west_0 22 rfl rfl
theorem dksX1_west_2 : cX1_west.data.toList.drop 44 = dktX1_west_2 := dk_seg dksX1_west_1 22 rfl rfl
theorem dX1_west_0 : decode cX1_west 0 = .ok (.iconst 0, 1) := dk_3 (dk_at dksX1_west_0 0 rfl rfl)
theorem dX1_west_1 : decode cX1_west 1 = .ok (.istore_n 1, 1) := dk_60 (dk_at dksX1_west_0 1 rfl rfl)
theorem dX1_west_2 : decode cX1_west 2 = .ok (.iconst 0, 1) := dk_3 (dk_at dksX1_west_0 2 rfl rfl)
theorem dX1_west_3 : decode cX1_west 3 = .ok (.istore_n 2, 1) := dk_61 (dk_at dksX1_west_0 3 rfl rfl)
theorem dX1_west_4 : decode cX1_west 4 = .ok (.iload_n 2, 1) := dk_28 (dk_at dksX1_west_0 4 rfl rfl)
theorem dX1_west_5 : decode cX1_west 5 = .ok (.aload_n 0, 1) := dk_42 (dk_at dksX1_west_0 5 rfl rfl)
theorem dX1_west_6 : decode cX1_west 6 = .ok (.getfield 65, 3) := dk_180 0 65 (dk_at dksX1_west_0 6 rfl rfl)
theorem dX1_west_9 : decode cX1_west 9 = .ok (.if_icmp .ge 38, 3) := dk_162 0 38 (dk_at dksX1_west_0 9 rfl rfl)
theorem dX1_west_12 : decode cX1_west 12 = .ok (.iload_n 1, 1) := dk_27 (dk_at dksX1_west_0 12 rfl rfl)
theorem dX1_west_13 : decode cX1_west 13 = .ok (.aload_n 0, 1) := dk_42 (dk_at dksX1_west_0 13 rfl rfl)
theorem dX1_west_14 : decode cX1_west 14 = .ok (.iload_n 2, 1) := dk_28 (dk_at dksX1_west_0 14 rfl rfl)
theorem dX1_west_15 : decode cX1_west 15 = .ok (.invokevirtual 100, 3) := dk_182 0 100 (dk_at dksX1_west_0 15 rfl rfl)
theorem dX1_west_18 : decode cX1_west 18 = .ok (.ifCond .ne 7, 3) := dk_154 0 7 (dk_at dksX1_west_0 18 rfl rfl)
theorem dX1_west_21 : decode cX1_west 21 = .ok (.iconst 1, 1) := dk_4 (dk_at dksX1_west_0 21 rfl rfl)
theorem dX1_west_22 : decode cX1_west 22 = .ok (.goto 17, 3) := dk_167 0 17 (dk_at dksX1_west_1 0 rfl rfl)
theorem dX1_west_25 : decode cX1_west 25 = .ok (.aload_n 0, 1) := dk_42 (dk_at dksX1_west_1 3 rfl rfl)
theorem dX1_west_26 : decode cX1_west 26 = .ok (.iload_n 2, 1) := dk_28 (dk_at dksX1_west_1 4 rfl rfl)
theorem dX1_west_27 : decode cX1_west 27 = .ok (.invokevirtual 100, 3) := dk_182 0 100 (dk_at dksX1_west_1 5 rfl rfl)
theorem dX1_west_30 : decode cX1_west 30 = .ok (.iconst 1, 1) := dk_4 (dk_at dksX1_west_1 8 rfl rfl)
theorem dX1_west_31 : decode cX1_west 31 = .ok (.if_icmp .ne 7, 3) := dk_160 0 7 (dk_at dksX1_west_1 9 rfl rfl)
theorem dX1_west_34 : decode cX1_west 34 = .ok (.iconst (-1), 1) := dk_2 (dk_at dksX1_west_1 12 rfl rfl)
theorem dX1_west_35 : decode cX1_west 35 = .ok (.goto 4, 3) := dk_167 0 4 (dk_at dksX1_west_1 13 rfl rfl)
theorem dX1_west_38 : decode cX1_west 38 = .ok (.iconst 0, 1) := dk_3 (dk_at dksX1_west_1 16 rfl rfl)
theorem dX1_west_39 : decode cX1_west 39 = .ok (.iadd, 1) := dk_96 (dk_at dksX1_west_1 17 rfl rfl)
theorem dX1_west_40 : decode cX1_west 40 = .ok (.istore_n 1, 1) := dk_60 (dk_at dksX1_west_1 18 rfl rfl)
theorem dX1_west_41 : decode cX1_west 41 = .ok (.iinc 2 1, 3) := dk_132 2 1 (dk_at dksX1_west_1 19 rfl rfl)
theorem dX1_west_44 : decode cX1_west 44 = .ok (.goto (-40), 3) := dk_167 255 216 (dk_at dksX1_west_2 0 rfl rfl)
theorem dX1_west_47 : decode cX1_west 47 = .ok (.iload_n 1, 1) := dk_27 (dk_at dksX1_west_2 3 rfl rfl)
theorem dX1_west_48 : decode cX1_west 48 = .ok (.ireturn, 1) := dk_172 (dk_at dksX1_west_2 4 rfl rfl)
theorem q121 : (Jvm.Cond.initialized "DoughBorder$Dough") ∈ lw_all := lw_g (lw_at lw_m1 2 rfl) rfl
theorem q155 : (Jvm.Cond.instantiable "DoughBorder$Dough" (24 : Nat)) ∈ lw_all := lw_g (lw_at lw_m1 36 rfl) rfl
theorem q157 : (Jvm.Cond.instanceMethod ({ cls := "DoughBorder$Dough", name := "<init>", desc := "()V" } : Jvm.MethodName)) ∈ lw_all := lw_g (lw_at lw_m1 38 rfl) rfl
theorem q158 : (Jvm.Cond.code ({ cls := "DoughBorder$Dough", name := "<init>", desc := "()V" } : Jvm.MethodName) prog_5_method_1_code (1 : Nat) (Option.none : Option Jvm.ClassFile.FieldType)) ∈ lw_all := lw_g (lw_at lw_m1 39 rfl) rfl
theorem q159 : (Jvm.Cond.methodLink "DoughBorder$Dough" (3 : Nat) ({ cls := "java/lang/Object", name := "<init>", desc := "()V" } : Jvm.MethodName)) ∈ lw_all := lw_g (lw_at lw_m1 40 rfl) rfl
theorem q160 : (Jvm.Cond.fieldLink "DoughBorder$Dough" (58 : Nat) "DoughBorder$Dough" "mileMany" "I") ∈ lw_all := lw_g (lw_at lw_m1 41 rfl) rfl
theorem q163 : (Jvm.Cond.fieldLink "DoughBorder$Dough" (62 : Nat) "DoughBorder$Dough" "damp" "I") ∈ lw_all := lw_g (lw_at lw_m1 44 rfl) rfl
theorem q166 : (Jvm.Cond.fieldLink "DoughBorder$Dough" (65 : Nat) "DoughBorder$Dough" "villageMany" "I") ∈ lw_all := lw_g (lw_at lw_m1 47 rfl) rfl
theorem q169 : (Jvm.Cond.fieldLink "DoughBorder$Dough" (68 : Nat) "DoughBorder$Dough" "wantMany" "I") ∈ lw_all := lw_g (lw_at lw_m1 50 rfl) rfl
theorem q172 : (Jvm.Cond.fieldLink "DoughBorder$Dough" (71 : Nat) "DoughBorder$Dough" "logMany" "I") ∈ lw_all := lw_g (lw_at lw_m1 53 rfl) rfl
theorem q174 : (Jvm.Cond.fieldLink "DoughBorder$Dough" (74 : Nat) "DoughBorder$Dough" "undoMany" "I") ∈ lw_all := lw_g (lw_at lw_m1 55 rfl) rfl
theorem q176 : (Jvm.Cond.fieldLink "DoughBorder$Dough" (77 : Nat) "DoughBorder$Dough" "toldBaked" "I") ∈ lw_all := lw_g (lw_at lw_m1 57 rfl) rfl
theorem q179 : (Jvm.Cond.fieldLink "DoughBorder$Dough" (90 : Nat) "DoughBorder$Dough" "baked" "I") ∈ lw_all := lw_g (lw_at lw_m1 60 rfl) rfl
theorem q182 : (Jvm.Cond.fieldLink "DoughBorder$Dough" (93 : Nat) "DoughBorder$Dough" "now" "I") ∈ lw_all := lw_g (lw_at lw_m1 63 rfl) rfl
theorem q184 : (Jvm.Cond.fieldLink "DoughBorder$Dough" (9 : Nat) "DoughBorder$Dough" "toldDough" "[I") ∈ lw_all := lw_g (lw_at lw_m1 65 rfl) rfl
theorem q187 : (Jvm.Cond.fieldLink "DoughBorder$Dough" (15 : Nat) "DoughBorder$Dough" "warm" "[I") ∈ lw_all := lw_g (lw_at lw_m1 68 rfl) rfl
theorem q190 : (Jvm.Cond.fieldLink "DoughBorder$Dough" (18 : Nat) "DoughBorder$Dough" "villageMile" "[I") ∈ lw_all := lw_g (lw_at lw_m1 71 rfl) rfl
theorem q193 : (Jvm.Cond.fieldLink "DoughBorder$Dough" (21 : Nat) "DoughBorder$Dough" "place" "[I") ∈ lw_all := lw_g (lw_at lw_m1 74 rfl) rfl
theorem q196 : (Jvm.Cond.fieldLink "DoughBorder$Dough" (24 : Nat) "DoughBorder$Dough" "whose" "[I") ∈ lw_all := lw_g (lw_at lw_m1 77 rfl) rfl
theorem q199 : (Jvm.Cond.fieldLink "DoughBorder$Dough" (27 : Nat) "DoughBorder$Dough" "want" "[I") ∈ lw_all := lw_g (lw_at lw_m1 80 rfl) rfl
theorem q201 : (Jvm.Cond.fieldLink "DoughBorder$Dough" (30 : Nat) "DoughBorder$Dough" "logs" "[I") ∈ lw_all := lw_g (lw_at lw_m1 82 rfl) rfl
theorem q203 : (Jvm.Cond.fieldLink "DoughBorder$Dough" (33 : Nat) "DoughBorder$Dough" "line" "[I") ∈ lw_all := lw_g (lw_at lw_m1 84 rfl) rfl
theorem q206 : (Jvm.Cond.fieldLink "DoughBorder$Dough" (36 : Nat) "DoughBorder$Dough" "dough" "[I") ∈ lw_all := lw_g (lw_at lw_m1 87 rfl) rfl
theorem q209 : (Jvm.Cond.fieldLink "DoughBorder$Dough" (39 : Nat) "DoughBorder$Dough" "salt" "[I") ∈ lw_all := lw_g (lw_at lw_m1 90 rfl) rfl
theorem q212 : (Jvm.Cond.fieldLink "DoughBorder$Dough" (42 : Nat) "DoughBorder$Dough" "crossed" "[I") ∈ lw_all := lw_g (lw_at lw_m1 93 rfl) rfl
theorem q214 : (Jvm.Cond.fieldLink "DoughBorder$Dough" (45 : Nat) "DoughBorder$Dough" "undo" "[I") ∈ lw_all := lw_g (lw_at lw_m1 95 rfl) rfl
theorem q216 : (Jvm.Cond.fieldLink "DoughBorder$Dough" (48 : Nat) "DoughBorder$Dough" "creeps" "[I") ∈ lw_all := lw_g (lw_at lw_m1 97 rfl) rfl
theorem q217 : (Jvm.Cond.fieldLink "DoughBorder$Dough" (51 : Nat) "DoughBorder$Dough" "lay" "[I") ∈ lw_all := lw_g (lw_at lw_m1 98 rfl) rfl
theorem q218 : (Jvm.Cond.fieldLink "DoughBorder$Dough" (54 : Nat) "DoughBorder$Dough" "words" "[J") ∈ lw_all := lw_g (lw_at lw_m1 99 rfl) rfl
theorem q219 : (Jvm.Cond.lays "DoughBorder$Dough" "DoughBorder$Dough" "mileMany" "I") ∈ lw_all := lw_g (lw_at lw_m1 100 rfl) rfl
theorem q220 : (Jvm.Cond.soleField "DoughBorder$Dough" "mileMany") ∈ lw_all := lw_g (lw_at lw_m1 101 rfl) rfl
theorem q221 : (Jvm.Cond.lays "DoughBorder$Dough" "DoughBorder$Dough" "damp" "I") ∈ lw_all := lw_g (lw_at lw_m1 102 rfl) rfl
theorem q222 : (Jvm.Cond.soleField "DoughBorder$Dough" "damp") ∈ lw_all := lw_g (lw_at lw_m1 103 rfl) rfl
theorem q223 : (Jvm.Cond.lays "DoughBorder$Dough" "DoughBorder$Dough" "villageMany" "I") ∈ lw_all := lw_g (lw_at lw_m1 104 rfl) rfl
theorem q224 : (Jvm.Cond.soleField "DoughBorder$Dough" "villageMany") ∈ lw_all := lw_g (lw_at lw_m1 105 rfl) rfl
theorem q225 : (Jvm.Cond.lays "DoughBorder$Dough" "DoughBorder$Dough" "wantMany" "I") ∈ lw_all := lw_g (lw_at lw_m1 106 rfl) rfl
theorem q226 : (Jvm.Cond.soleField "DoughBorder$Dough" "wantMany") ∈ lw_all := lw_g (lw_at lw_m1 107 rfl) rfl
theorem q227 : (Jvm.Cond.lays "DoughBorder$Dough" "DoughBorder$Dough" "logMany" "I") ∈ lw_all := lw_g (lw_at lw_m1 108 rfl) rfl
theorem q228 : (Jvm.Cond.soleField "DoughBorder$Dough" "logMany") ∈ lw_all := lw_g (lw_at lw_m1 109 rfl) rfl
theorem q229 : (Jvm.Cond.lays "DoughBorder$Dough" "DoughBorder$Dough" "undoMany" "I") ∈ lw_all := lw_g (lw_at lw_m1 110 rfl) rfl
theorem q230 : (Jvm.Cond.soleField "DoughBorder$Dough" "undoMany") ∈ lw_all := lw_g (lw_at lw_m1 111 rfl) rfl
theorem q231 : (Jvm.Cond.lays "DoughBorder$Dough" "DoughBorder$Dough" "toldBaked" "I") ∈ lw_all := lw_g (lw_at lw_m1 112 rfl) rfl
theorem q232 : (Jvm.Cond.soleField "DoughBorder$Dough" "toldBaked") ∈ lw_all := lw_g (lw_at lw_m1 113 rfl) rfl
theorem q233 : (Jvm.Cond.lays "DoughBorder$Dough" "DoughBorder$Dough" "baked" "I") ∈ lw_all := lw_g (lw_at lw_m1 114 rfl) rfl
theorem q234 : (Jvm.Cond.soleField "DoughBorder$Dough" "baked") ∈ lw_all := lw_g (lw_at lw_m1 115 rfl) rfl
theorem q235 : (Jvm.Cond.lays "DoughBorder$Dough" "DoughBorder$Dough" "now" "I") ∈ lw_all := lw_g (lw_at lw_m1 116 rfl) rfl
theorem q236 : (Jvm.Cond.soleField "DoughBorder$Dough" "now") ∈ lw_all := lw_g (lw_at lw_m1 117 rfl) rfl
theorem q237 : (Jvm.Cond.laysFinal "DoughBorder$Dough" "DoughBorder$Dough" "toldDough" "[I") ∈ lw_all := lw_g (lw_at lw_m1 118 rfl) rfl
theorem q238 : (Jvm.Cond.soleField "DoughBorder$Dough" "toldDough") ∈ lw_all := lw_g (lw_at lw_m1 119 rfl) rfl
theorem q239 : (Jvm.Cond.laysFinal "DoughBorder$Dough" "DoughBorder$Dough" "warm" "[I") ∈ lw_all := lw_g (lw_at lw_m1 120 rfl) rfl
theorem q240 : (Jvm.Cond.soleField "DoughBorder$Dough" "warm") ∈ lw_all := lw_g (lw_at lw_m1 121 rfl) rfl
theorem q241 : (Jvm.Cond.laysFinal "DoughBorder$Dough" "DoughBorder$Dough" "villageMile" "[I") ∈ lw_all := lw_g (lw_at lw_m1 122 rfl) rfl
theorem q242 : (Jvm.Cond.soleField "DoughBorder$Dough" "villageMile") ∈ lw_all := lw_g (lw_at lw_m1 123 rfl) rfl
theorem q243 : (Jvm.Cond.laysFinal "DoughBorder$Dough" "DoughBorder$Dough" "place" "[I") ∈ lw_all := lw_g (lw_at lw_m1 124 rfl) rfl
theorem q244 : (Jvm.Cond.soleField "DoughBorder$Dough" "place") ∈ lw_all := lw_g (lw_at lw_m1 125 rfl) rfl
theorem q245 : (Jvm.Cond.laysFinal "DoughBorder$Dough" "DoughBorder$Dough" "whose" "[I") ∈ lw_all := lw_g (lw_at lw_m1 126 rfl) rfl
theorem q246 : (Jvm.Cond.soleField "DoughBorder$Dough" "whose") ∈ lw_all := lw_g (lw_at lw_m1 127 rfl) rfl
theorem q247 : (Jvm.Cond.laysFinal "DoughBorder$Dough" "DoughBorder$Dough" "want" "[I") ∈ lw_all := lw_g (lw_at lw_m1 128 rfl) rfl
theorem q248 : (Jvm.Cond.soleField "DoughBorder$Dough" "want") ∈ lw_all := lw_g (lw_at lw_m1 129 rfl) rfl
theorem q249 : (Jvm.Cond.laysFinal "DoughBorder$Dough" "DoughBorder$Dough" "logs" "[I") ∈ lw_all := lw_g (lw_at lw_m1 130 rfl) rfl
theorem q250 : (Jvm.Cond.soleField "DoughBorder$Dough" "logs") ∈ lw_all := lw_g (lw_at lw_m1 131 rfl) rfl
theorem q251 : (Jvm.Cond.laysFinal "DoughBorder$Dough" "DoughBorder$Dough" "line" "[I") ∈ lw_all := lw_g (lw_at lw_m1 132 rfl) rfl
theorem q252 : (Jvm.Cond.soleField "DoughBorder$Dough" "line") ∈ lw_all := lw_g (lw_at lw_m1 133 rfl) rfl
theorem q253 : (Jvm.Cond.laysFinal "DoughBorder$Dough" "DoughBorder$Dough" "dough" "[I") ∈ lw_all := lw_g (lw_at lw_m1 134 rfl) rfl
theorem q254 : (Jvm.Cond.soleField "DoughBorder$Dough" "dough") ∈ lw_all := lw_g (lw_at lw_m1 135 rfl) rfl
theorem q255 : (Jvm.Cond.laysFinal "DoughBorder$Dough" "DoughBorder$Dough" "salt" "[I") ∈ lw_all := lw_g (lw_at lw_m1 136 rfl) rfl
theorem q256 : (Jvm.Cond.soleField "DoughBorder$Dough" "salt") ∈ lw_all := lw_g (lw_at lw_m1 137 rfl) rfl
theorem q257 : (Jvm.Cond.laysFinal "DoughBorder$Dough" "DoughBorder$Dough" "crossed" "[I") ∈ lw_all := lw_g (lw_at lw_m1 138 rfl) rfl
theorem q258 : (Jvm.Cond.soleField "DoughBorder$Dough" "crossed") ∈ lw_all := lw_g (lw_at lw_m1 139 rfl) rfl
theorem q259 : (Jvm.Cond.laysFinal "DoughBorder$Dough" "DoughBorder$Dough" "undo" "[I") ∈ lw_all := lw_g (lw_at lw_m1 140 rfl) rfl
theorem q260 : (Jvm.Cond.soleField "DoughBorder$Dough" "undo") ∈ lw_all := lw_g (lw_at lw_m1 141 rfl) rfl
theorem q261 : (Jvm.Cond.laysFinal "DoughBorder$Dough" "DoughBorder$Dough" "creeps" "[I") ∈ lw_all := lw_g (lw_at lw_m1 142 rfl) rfl
theorem q262 : (Jvm.Cond.soleField "DoughBorder$Dough" "creeps") ∈ lw_all := lw_g (lw_at lw_m1 143 rfl) rfl
theorem q263 : (Jvm.Cond.laysFinal "DoughBorder$Dough" "DoughBorder$Dough" "lay" "[I") ∈ lw_all := lw_g (lw_at lw_m1 144 rfl) rfl
theorem q264 : (Jvm.Cond.soleField "DoughBorder$Dough" "lay") ∈ lw_all := lw_g (lw_at lw_m1 145 rfl) rfl
theorem q265 : (Jvm.Cond.laysFinal "DoughBorder$Dough" "DoughBorder$Dough" "words" "[J") ∈ lw_all := lw_g (lw_at lw_m1 146 rfl) rfl
theorem q266 : (Jvm.Cond.soleField "DoughBorder$Dough" "words") ∈ lw_all := lw_g (lw_at lw_m1 147 rfl) rfl
theorem q267 : (Jvm.Cond.superclass "DoughBorder$Dough" "java/lang/Object") ∈ lw_all := lw_g (lw_at lw_m1 148 rfl) rfl
theorem q501 : (Jvm.Cond.instanceMethod ({ cls := "DoughBorder$Dough", name := "copies", desc := "(LDoughBorder$Dough;)LDoughBorder$Dough;" } : Jvm.MethodName)) ∈ lw_all := lw_g (lw_at lw_m2 142 rfl) rfl
theorem q502 : (Jvm.Cond.selects "DoughBorder$Dough" ({ cls := "DoughBorder$Dough", name := "copies", desc := "(LDoughBorder$Dough;)LDoughBorder$Dough;" } : Jvm.MethodName) ({ cls := "DoughBorder$Dough", name := "copies", desc := "(LDoughBorder$Dough;)LDoughBorder$Dough;" } : Jvm.MethodName)) ∈ lw_all := lw_g (lw_at lw_m2 143 rfl) rfl
theorem q503 : (Jvm.Cond.code ({ cls := "DoughBorder$Dough", name := "copies", desc := "(LDoughBorder$Dough;)LDoughBorder$Dough;" } : Jvm.MethodName) prog_5_method_2_code (2 : Nat) (Option.some (Jvm.ClassFile.FieldType.object "DoughBorder$Dough"))) ∈ lw_all := lw_g (lw_at lw_m2 144 rfl) rfl
theorem q504 : (Jvm.Cond.methodLink "DoughBorder$Dough" (80 : Nat) ({ cls := "java/lang/System", name := "arraycopy", desc := "(Ljava/lang/Object;ILjava/lang/Object;II)V" } : Jvm.MethodName)) ∈ lw_all := lw_g (lw_at lw_m2 145 rfl) rfl
theorem q507 : (Jvm.Cond.methodLink "DoughBorder$Dough" (86 : Nat) ({ cls := "DoughBorder$Dough", name := "standsAs", desc := "(LDoughBorder$Dough;)LDoughBorder$Dough;" } : Jvm.MethodName)) ∈ lw_all := lw_g (lw_at lw_m2 148 rfl) rfl
theorem q508 : (Jvm.Cond.instanceMethod ({ cls := "DoughBorder$Dough", name := "standsAs", desc := "(LDoughBorder$Dough;)LDoughBorder$Dough;" } : Jvm.MethodName)) ∈ lw_all := lw_g (lw_at lw_m2 149 rfl) rfl
theorem q509 : (Jvm.Cond.selects "DoughBorder$Dough" ({ cls := "DoughBorder$Dough", name := "standsAs", desc := "(LDoughBorder$Dough;)LDoughBorder$Dough;" } : Jvm.MethodName) ({ cls := "DoughBorder$Dough", name := "standsAs", desc := "(LDoughBorder$Dough;)LDoughBorder$Dough;" } : Jvm.MethodName)) ∈ lw_all := lw_g (lw_at lw_m2 150 rfl) rfl
theorem q510 : (Jvm.Cond.code ({ cls := "DoughBorder$Dough", name := "standsAs", desc := "(LDoughBorder$Dough;)LDoughBorder$Dough;" } : Jvm.MethodName) prog_5_method_3_code (2 : Nat) (Option.some (Jvm.ClassFile.FieldType.object "DoughBorder$Dough"))) ∈ lw_all := lw_g (lw_at lw_m2 151 rfl) rfl
theorem q810 : (Jvm.Cond.instanceMethod ({ cls := "DoughBorder$Dough", name := "isBaked", desc := "(I)Z" } : Jvm.MethodName)) ∈ lw_all := lw_g (lw_at lw_m3 211 rfl) rfl
theorem q811 : (Jvm.Cond.selects "DoughBorder$Dough" ({ cls := "DoughBorder$Dough", name := "isBaked", desc := "(I)Z" } : Jvm.MethodName) ({ cls := "DoughBorder$Dough", name := "isBaked", desc := "(I)Z" } : Jvm.MethodName)) ∈ lw_all := lw_g (lw_at lw_m3 212 rfl) rfl
theorem q812 : (Jvm.Cond.code ({ cls := "DoughBorder$Dough", name := "isBaked", desc := "(I)Z" } : Jvm.MethodName) prog_5_method_6_code (2 : Nat) (Option.some Jvm.ClassFile.FieldType.boolean)) ∈ lw_all := lw_g (lw_at lw_m3 213 rfl) rfl
theorem q813 : (Jvm.Cond.methodLinkNest "DoughBorder$Dough" (96 : Nat) ({ cls := "DoughBorder", name := "has", desc := "(II)Z" } : Jvm.MethodName) "DoughBorder") ∈ lw_tbl := lw_at lw_m3 214 rfl
theorem q825 : (Jvm.Cond.instanceMethod ({ cls := "DoughBorder$Dough", name := "sideOf", desc := "(I)I" } : Jvm.MethodName)) ∈ lw_all := lw_g (lw_at lw_m3 226 rfl) rfl
theorem q826 : (Jvm.Cond.selects "DoughBorder$Dough" ({ cls := "DoughBorder$Dough", name := "sideOf", desc := "(I)I" } : Jvm.MethodName) ({ cls := "DoughBorder$Dough", name := "sideOf", desc := "(I)I" } : Jvm.MethodName)) ∈ lw_all := lw_g (lw_at lw_m3 227 rfl) rfl
theorem q827 : (Jvm.Cond.code ({ cls := "DoughBorder$Dough", name := "sideOf", desc := "(I)I" } : Jvm.MethodName) prog_5_method_8_code (2 : Nat) (Option.some Jvm.ClassFile.FieldType.int)) ∈ lw_all := lw_g (lw_at lw_m3 228 rfl) rfl
theorem q833 : (Jvm.Cond.instanceMethod ({ cls := "DoughBorder$Dough", name := "warmOn", desc := "(I)I" } : Jvm.MethodName)) ∈ lw_all := lw_g (lw_at lw_m3 234 rfl) rfl
theorem q834 : (Jvm.Cond.selects "DoughBorder$Dough" ({ cls := "DoughBorder$Dough", name := "warmOn", desc := "(I)I" } : Jvm.MethodName) ({ cls := "DoughBorder$Dough", name := "warmOn", desc := "(I)I" } : Jvm.MethodName)) ∈ lw_all := lw_g (lw_at lw_m3 235 rfl) rfl
theorem q835 : (Jvm.Cond.code ({ cls := "DoughBorder$Dough", name := "warmOn", desc := "(I)I" } : Jvm.MethodName) prog_5_method_7_code (2 : Nat) (Option.some Jvm.ClassFile.FieldType.int)) ∈ lw_all := lw_g (lw_at lw_m3 236 rfl) rfl
theorem q841 : (Jvm.Cond.instanceMethod ({ cls := "DoughBorder$Dough", name := "takes", desc := "(I)V" } : Jvm.MethodName)) ∈ lw_all := lw_g (lw_at lw_m4 2 rfl) rfl
theorem q842 : (Jvm.Cond.selects "DoughBorder$Dough" ({ cls := "DoughBorder$Dough", name := "takes", desc := "(I)V" } : Jvm.MethodName) ({ cls := "DoughBorder$Dough", name := "takes", desc := "(I)V" } : Jvm.MethodName)) ∈ lw_all := lw_g (lw_at lw_m4 3 rfl) rfl
theorem q843 : (Jvm.Cond.code ({ cls := "DoughBorder$Dough", name := "takes", desc := "(I)V" } : Jvm.MethodName) prog_5_method_5_code (3 : Nat) (Option.none : Option Jvm.ClassFile.FieldType)) ∈ lw_all := lw_g (lw_at lw_m4 4 rfl) rfl
theorem q854 : (Jvm.Cond.instanceMethod ({ cls := "DoughBorder$Dough", name := "lays", desc := "(I)V" } : Jvm.MethodName)) ∈ lw_all := lw_g (lw_at lw_m4 15 rfl) rfl
theorem q855 : (Jvm.Cond.selects "DoughBorder$Dough" ({ cls := "DoughBorder$Dough", name := "lays", desc := "(I)V" } : Jvm.MethodName) ({ cls := "DoughBorder$Dough", name := "lays", desc := "(I)V" } : Jvm.MethodName)) ∈ lw_all := lw_g (lw_at lw_m4 16 rfl) rfl
theorem q856 : (Jvm.Cond.code ({ cls := "DoughBorder$Dough", name := "lays", desc := "(I)V" } : Jvm.MethodName) prog_5_method_4_code (3 : Nat) (Option.none : Option Jvm.ClassFile.FieldType)) ∈ lw_all := lw_g (lw_at lw_m4 17 rfl) rfl
theorem q862 : (Jvm.Cond.instanceMethod ({ cls := "DoughBorder$Dough", name := "goes", desc := "(LDoughBorder$Rule;)I" } : Jvm.MethodName)) ∈ lw_all := lw_g (lw_at lw_m4 23 rfl) rfl
theorem q863 : (Jvm.Cond.selects "DoughBorder$Dough" ({ cls := "DoughBorder$Dough", name := "goes", desc := "(LDoughBorder$Rule;)I" } : Jvm.MethodName) ({ cls := "DoughBorder$Dough", name := "goes", desc := "(LDoughBorder$Rule;)I" } : Jvm.MethodName)) ∈ lw_all := lw_g (lw_at lw_m4 24 rfl) rfl
theorem q864 : (Jvm.Cond.code ({ cls := "DoughBorder$Dough", name := "goes", desc := "(LDoughBorder$Rule;)I" } : Jvm.MethodName) prog_5_method_19_code (2 : Nat) (Option.some Jvm.ClassFile.FieldType.int)) ∈ lw_all := lw_g (lw_at lw_m4 25 rfl) rfl
theorem q865 : (Jvm.Cond.methodLink "DoughBorder$Dough" (151 : Nat) ({ cls := "DoughBorder$Dough", name := "warmOn", desc := "(I)I" } : Jvm.MethodName)) ∈ lw_all := lw_g (lw_at lw_m4 26 rfl) rfl
theorem q866 : (Jvm.Cond.methodLink "DoughBorder$Dough" (154 : Nat) ({ cls := "DoughBorder$Dough", name := "passes", desc := "(ILDoughBorder$Rule;)I" } : Jvm.MethodName)) ∈ lw_all := lw_g (lw_at lw_m4 27 rfl) rfl
theorem q867 : (Jvm.Cond.instanceMethod ({ cls := "DoughBorder$Dough", name := "passes", desc := "(ILDoughBorder$Rule;)I" } : Jvm.MethodName)) ∈ lw_all := lw_g (lw_at lw_m4 28 rfl) rfl
theorem q868 : (Jvm.Cond.selects "DoughBorder$Dough" ({ cls := "DoughBorder$Dough", name := "passes", desc := "(ILDoughBorder$Rule;)I" } : Jvm.MethodName) ({ cls := "DoughBorder$Dough", name := "passes", desc := "(ILDoughBorder$Rule;)I" } : Jvm.MethodName)) ∈ lw_all := lw_g (lw_at lw_m4 29 rfl) rfl
theorem q869 : (Jvm.Cond.code ({ cls := "DoughBorder$Dough", name := "passes", desc := "(ILDoughBorder$Rule;)I" } : Jvm.MethodName) prog_5_method_18_code (4 : Nat) (Option.some Jvm.ClassFile.FieldType.int)) ∈ lw_all := lw_g (lw_at lw_m4 30 rfl) rfl
theorem q870 : (Jvm.Cond.methodLink "DoughBorder$Dough" (133 : Nat) ({ cls := "DoughBorder$Dough", name := "remembers", desc := "()V" } : Jvm.MethodName)) ∈ lw_all := lw_g (lw_at lw_m4 31 rfl) rfl
theorem q871 : (Jvm.Cond.instanceMethod ({ cls := "DoughBorder$Dough", name := "remembers", desc := "()V" } : Jvm.MethodName)) ∈ lw_all := lw_g (lw_at lw_m4 32 rfl) rfl
theorem q872 : (Jvm.Cond.selects "DoughBorder$Dough" ({ cls := "DoughBorder$Dough", name := "remembers", desc := "()V" } : Jvm.MethodName) ({ cls := "DoughBorder$Dough", name := "remembers", desc := "()V" } : Jvm.MethodName)) ∈ lw_all := lw_g (lw_at lw_m4 33 rfl) rfl
theorem q873 : (Jvm.Cond.code ({ cls := "DoughBorder$Dough", name := "remembers", desc := "()V" } : Jvm.MethodName) prog_5_method_14_code (2 : Nat) (Option.none : Option Jvm.ClassFile.FieldType)) ∈ lw_all := lw_g (lw_at lw_m4 34 rfl) rfl
theorem q874 : (Jvm.Cond.methodLink "DoughBorder$Dough" (100 : Nat) ({ cls := "DoughBorder$Dough", name := "sideOf", desc := "(I)I" } : Jvm.MethodName)) ∈ lw_all := lw_g (lw_at lw_m4 35 rfl) rfl
theorem q875 : (Jvm.Cond.methodLink "DoughBorder$Dough" (116 : Nat) ({ cls := "DoughBorder$Dough", name := "isBaked", desc := "(I)Z" } : Jvm.MethodName)) ∈ lw_all := lw_g (lw_at lw_m4 36 rfl) rfl
theorem q876 : (Jvm.Cond.methodLink "DoughBorder$Dough" (110 : Nat) ({ cls := "java/lang/Math", name := "min", desc := "(II)I" } : Jvm.MethodName)) ∈ lw_all := lw_g (lw_at lw_m4 37 rfl) rfl
theorem q879 : (Jvm.Cond.methodLink "DoughBorder$Dough" (143 : Nat) ({ cls := "DoughBorder$Dough", name := "creepOf", desc := "(IILDoughBorder$Rule;)I" } : Jvm.MethodName)) ∈ lw_all := lw_g (lw_at lw_m4 40 rfl) rfl
theorem q880 : (Jvm.Cond.privateMethod ({ cls := "DoughBorder$Dough", name := "creepOf", desc := "(IILDoughBorder$Rule;)I" } : Jvm.MethodName)) ∈ lw_tbl := lw_at lw_m4 41 rfl
theorem q881 : (Jvm.Cond.instanceMethod ({ cls := "DoughBorder$Dough", name := "creepOf", desc := "(IILDoughBorder$Rule;)I" } : Jvm.MethodName)) ∈ lw_all := lw_g (lw_at lw_m4 42 rfl) rfl
theorem q882 : (Jvm.Cond.code ({ cls := "DoughBorder$Dough", name := "creepOf", desc := "(IILDoughBorder$Rule;)I" } : Jvm.MethodName) prog_5_method_13_code (4 : Nat) (Option.some Jvm.ClassFile.FieldType.int)) ∈ lw_all := lw_g (lw_at lw_m4 43 rfl) rfl
theorem q883 : (Jvm.Cond.methodLinkNest "DoughBorder$Dough" (120 : Nat) ({ cls := "DoughBorder", name := "held", desc := "(II)I" } : Jvm.MethodName) "DoughBorder") ∈ lw_tbl := lw_at lw_m4 44 rfl
theorem q890 : (Jvm.Cond.methodLink "DoughBorder$Dough" (123 : Nat) ({ cls := "DoughBorder$Dough", name := "fillsWords", desc := "(II)V" } : Jvm.MethodName)) ∈ lw_all := lw_g (lw_at lw_m4 51 rfl) rfl
theorem q891 : (Jvm.Cond.privateMethod ({ cls := "DoughBorder$Dough", name := "fillsWords", desc := "(II)V" } : Jvm.MethodName)) ∈ lw_tbl := lw_at lw_m4 52 rfl
theorem q892 : (Jvm.Cond.instanceMethod ({ cls := "DoughBorder$Dough", name := "fillsWords", desc := "(II)V" } : Jvm.MethodName)) ∈ lw_all := lw_g (lw_at lw_m4 53 rfl) rfl
theorem q893 : (Jvm.Cond.code ({ cls := "DoughBorder$Dough", name := "fillsWords", desc := "(II)V" } : Jvm.MethodName) prog_5_method_12_code (3 : Nat) (Option.none : Option Jvm.ClassFile.FieldType)) ∈ lw_all := lw_g (lw_at lw_m4 54 rfl) rfl
theorem q894 : (Jvm.Cond.methodLink "DoughBorder$Dough" (104 : Nat) ({ cls := "java/lang/Math", name := "max", desc := "(II)I" } : Jvm.MethodName)) ∈ lw_all := lw_g (lw_at lw_m4 55 rfl) rfl
theorem q895 : (Jvm.Cond.methodLink "DoughBorder$Dough" (113 : Nat) ({ cls := "DoughBorder$Dough", name := "villagesIn", desc := "(II)I" } : Jvm.MethodName)) ∈ lw_all := lw_g (lw_at lw_m4 56 rfl) rfl
theorem q896 : (Jvm.Cond.instanceMethod ({ cls := "DoughBorder$Dough", name := "villagesIn", desc := "(II)I" } : Jvm.MethodName)) ∈ lw_all := lw_g (lw_at lw_m4 57 rfl) rfl
theorem q897 : (Jvm.Cond.selects "DoughBorder$Dough" ({ cls := "DoughBorder$Dough", name := "villagesIn", desc := "(II)I" } : Jvm.MethodName) ({ cls := "DoughBorder$Dough", name := "villagesIn", desc := "(II)I" } : Jvm.MethodName)) ∈ lw_all := lw_g (lw_at lw_m4 58 rfl) rfl
theorem q898 : (Jvm.Cond.code ({ cls := "DoughBorder$Dough", name := "villagesIn", desc := "(II)I" } : Jvm.MethodName) prog_5_method_9_code (5 : Nat) (Option.some Jvm.ClassFile.FieldType.int)) ∈ lw_all := lw_g (lw_at lw_m4 59 rfl) rfl
theorem q899 : (Jvm.Cond.methodLink "DoughBorder$Dough" (127 : Nat) ({ cls := "DoughBorder$Rule", name := "feet", desc := "([J)I" } : Jvm.MethodName)) ∈ lw_all := lw_g (lw_at lw_m4 60 rfl) rfl
theorem q943 : (Jvm.Cond.methodLink "DoughBorder$Dough" (147 : Nat) ({ cls := "DoughBorder$Dough", name := "sags", desc := "(I)V" } : Jvm.MethodName)) ∈ lw_all := lw_g (lw_at lw_m4 104 rfl) rfl
theorem q944 : (Jvm.Cond.privateMethod ({ cls := "DoughBorder$Dough", name := "sags", desc := "(I)V" } : Jvm.MethodName)) ∈ lw_tbl := lw_at lw_m4 105 rfl
theorem q945 : (Jvm.Cond.instanceMethod ({ cls := "DoughBorder$Dough", name := "sags", desc := "(I)V" } : Jvm.MethodName)) ∈ lw_all := lw_g (lw_at lw_m4 106 rfl) rfl
theorem q946 : (Jvm.Cond.code ({ cls := "DoughBorder$Dough", name := "sags", desc := "(I)V" } : Jvm.MethodName) prog_5_method_17_code (4 : Nat) (Option.none : Option Jvm.ClassFile.FieldType)) ∈ lw_all := lw_g (lw_at lw_m4 107 rfl) rfl
theorem q947 : (Jvm.Cond.methodLink "DoughBorder$Dough" (140 : Nat) ({ cls := "java/lang/Math", name := "abs", desc := "(I)I" } : Jvm.MethodName)) ∈ lw_all := lw_g (lw_at lw_m4 108 rfl) rfl
theorem q950 : (Jvm.Cond.methodLink "DoughBorder$Dough" (136 : Nat) ({ cls := "DoughBorder$Dough", name := "countsCrossed", desc := "()I" } : Jvm.MethodName)) ∈ lw_all := lw_g (lw_at lw_m4 111 rfl) rfl
theorem q951 : (Jvm.Cond.instanceMethod ({ cls := "DoughBorder$Dough", name := "countsCrossed", desc := "()I" } : Jvm.MethodName)) ∈ lw_all := lw_g (lw_at lw_m4 112 rfl) rfl
theorem q952 : (Jvm.Cond.selects "DoughBorder$Dough" ({ cls := "DoughBorder$Dough", name := "countsCrossed", desc := "()I" } : Jvm.MethodName) ({ cls := "DoughBorder$Dough", name := "countsCrossed", desc := "()I" } : Jvm.MethodName)) ∈ lw_all := lw_g (lw_at lw_m4 113 rfl) rfl
theorem q953 : (Jvm.Cond.code ({ cls := "DoughBorder$Dough", name := "countsCrossed", desc := "()I" } : Jvm.MethodName) prog_5_method_15_code (3 : Nat) (Option.some Jvm.ClassFile.FieldType.int)) ∈ lw_all := lw_g (lw_at lw_m4 114 rfl) rfl
theorem q966 : (Jvm.Cond.instanceMethod ({ cls := "DoughBorder$Dough", name := "pushes", desc := "(II)V" } : Jvm.MethodName)) ∈ lw_all := lw_g (lw_at lw_m4 127 rfl) rfl
theorem q967 : (Jvm.Cond.selects "DoughBorder$Dough" ({ cls := "DoughBorder$Dough", name := "pushes", desc := "(II)V" } : Jvm.MethodName) ({ cls := "DoughBorder$Dough", name := "pushes", desc := "(II)V" } : Jvm.MethodName)) ∈ lw_all := lw_g (lw_at lw_m4 128 rfl) rfl
theorem q968 : (Jvm.Cond.code ({ cls := "DoughBorder$Dough", name := "pushes", desc := "(II)V" } : Jvm.MethodName) prog_5_method_16_code (3 : Nat) (Option.none : Option Jvm.ClassFile.FieldType)) ∈ lw_all := lw_g (lw_at lw_m4 129 rfl) rfl
theorem q993 : (Jvm.Cond.instanceMethod ({ cls := "DoughBorder$Dough", name := "easts", desc := "()I" } : Jvm.MethodName)) ∈ lw_all := lw_g (lw_at lw_m4 154 rfl) rfl
theorem q994 : (Jvm.Cond.selects "DoughBorder$Dough" ({ cls := "DoughBorder$Dough", name := "easts", desc := "()I" } : Jvm.MethodName) ({ cls := "DoughBorder$Dough", name := "easts", desc := "()I" } : Jvm.MethodName)) ∈ lw_all := lw_g (lw_at lw_m4 155 rfl) rfl
theorem q995 : (Jvm.Cond.code ({ cls := "DoughBorder$Dough", name := "easts", desc := "()I" } : Jvm.MethodName) prog_5_method_10_code (3 : Nat) (Option.some Jvm.ClassFile.FieldType.int)) ∈ lw_all := lw_g (lw_at lw_m4 156 rfl) rfl
theorem q1013 : (Jvm.Cond.instanceMethod ({ cls := "DoughBorder$Dough", name := "areWants", desc := "()Z" } : Jvm.MethodName)) ∈ lw_all := lw_g (lw_at lw_m4 174 rfl) rfl
theorem q1014 : (Jvm.Cond.selects "DoughBorder$Dough" ({ cls := "DoughBorder$Dough", name := "areWants", desc := "()Z" } : Jvm.MethodName) ({ cls := "DoughBorder$Dough", name := "areWants", desc := "()Z" } : Jvm.MethodName)) ∈ lw_all := lw_g (lw_at lw_m4 175 rfl) rfl
theorem q1015 : (Jvm.Cond.code ({ cls := "DoughBorder$Dough", name := "areWants", desc := "()Z" } : Jvm.MethodName) prog_5_method_20_code (2 : Nat) (Option.some Jvm.ClassFile.FieldType.boolean)) ∈ lw_all := lw_g (lw_at lw_m4 176 rfl) rfl
theorem q1027 : (Jvm.Cond.instanceMethod ({ cls := "DoughBorder$Dough", name := "west", desc := "()I" } : Jvm.MethodName)) ∈ lw_all := lw_g (lw_at lw_m4 188 rfl) rfl
theorem q1028 : (Jvm.Cond.selects "DoughBorder$Dough" ({ cls := "DoughBorder$Dough", name := "west", desc := "()I" } : Jvm.MethodName) ({ cls := "DoughBorder$Dough", name := "west", desc := "()I" } : Jvm.MethodName)) ∈ lw_all := lw_g (lw_at lw_m4 189 rfl) rfl
theorem q1029 : (Jvm.Cond.code ({ cls := "DoughBorder$Dough", name := "west", desc := "()I" } : Jvm.MethodName) prog_5_method_11_code (3 : Nat) (Option.some Jvm.ClassFile.FieldType.int)) ∈ lw_all := lw_g (lw_at lw_m4 190 rfl) rfl
theorem in_X1 : ∀ w ∈ wsX10, w ∈ lw_all := lw_in wsX10 [219, 221, 223, 225, 227, 229, 231, 233, 235, 237, 239, 241, 243, 245, 247, 249, 251, 253, 255, 257, 259, 261, 263, 265] (by decide +kernel) (by decide +kernel)
