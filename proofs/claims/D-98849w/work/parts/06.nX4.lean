/-! DoughBorder$Text -/
set_option maxRecDepth 100000
def RX4 : String := "DoughBorder$Text"
def TX4 : u_T := fun k => match k with
  | 0 => ("DoughBorder$Text", "words", "[Ljava/lang/String;", true)
  | 1 => ("DoughBorder$Text", "read", "LDoughBorder$Dough;", true)
  | 2 => ("DoughBorder$Text", "next", "I", false)
  | 3 => ("DoughBorder$Text", "deep", "I", false)
  | 4 => ("DoughBorder$Text", "made", "I", false)
  | 5 => ("DoughBorder$Text", "many", "I", false)
  | _ => ("DoughBorder$Text", "this$0", "LDoughBorder;", true)
def tyX4 : Nat → FieldType := fun k => match k with
  | 0 => .array (.object "java/lang/String")
  | 1 => .object "DoughBorder$Dough"
  | 2 => .int
  | 3 => .int
  | 4 => .int
  | 5 => .int
  | _ => .object "DoughBorder"
abbrev wsX40 : List Cond := u_ws RX4 TX4 7
theorem nmX4 : ∀ a, a < 7 → ∀ b, b < 7 → a ≠ b → (TX4 a).2.1 ≠ (TX4 b).2.1 := by decide +kernel
theorem tyX4_ok : ∀ k, k < 7 → parseFieldDescriptor (TX4 k).2.2.1 = some (tyX4 k) := by decide +kernel
abbrev cX4_init : ByteArray := prog_13_method_1_code
def yX4_init : MethodName := ⟨RX4, "<init>", "(LDoughBorder;)V"⟩
def dkwX4_init_1 : List UInt8 := [180, 0, 3, 180, 0, 22, 181, 0, 26, 177]
abbrev dktX4_init_1 : List UInt8 := dkwX4_init_1 ++ []
def dkwX4_init_0 : List UInt8 := [42, 43, 181, 0, 3, 42, 183, 0, 9, 42, 42, 180, 0, 3, 180, 0, 15, 181, 0, 19, 42, 42]
abbrev dktX4_init_0 : List UInt8 := dkwX4_init_0 ++ dktX4_init_1
theorem dksX4_init_0 : cX4_init.data.toList.drop 0 = dktX4_init_0 := by decide +kernel
theorem dksX4_init_1 : cX4_init.data.toList.drop 22 = dktX4_init_1 := dk_seg dksX4_init_0 22 rfl rfl
theorem dX4_init_0 : decode cX4_init 0 = .ok (.aload_n 0, 1) := dk_42 (dk_at dksX4_init_0 0 rfl rfl)
theorem dX4_init_1 : decode cX4_init 1 = .ok (.aload_n 1, 1) := dk_43 (dk_at dksX4_init_0 1 rfl rfl)
theorem dX4_init_2 : decode cX4_init 2 = .ok (.putfield 3, 3) := dk_181 0 3 (dk_at dksX4_init_0 2 rfl rfl)
theorem dX4_init_5 : decode cX4_init 5 = .ok (.aload_n 0, 1) := dk_42 (dk_at dksX4_init_0 5 rfl rfl)
theorem dX4_init_6 : decode cX4_init 6 = .ok (.invokespecial 9, 3) := dk_183 0 9 (dk_at dksX4_init_0 6 rfl rfl)
theorem dX4_init_9 : decode cX4_init 9 = .ok (.aload_n 0, 1) := dk_42 (dk_at dksX4_init_0 9 rfl rfl)
theorem dX4_init_10 : decode cX4_init 10 = .ok (.aload_n 0, 1) := dk_42 (dk_at dksX4_init_0 10 rfl rfl)
theorem dX4_init_11 : decode cX4_init 11 = .ok (.getfield 3, 3) := dk_180 0 3 (dk_at dksX4_init_0 11 rfl rfl)
theorem dX4_init_14 : decode cX4_init 14 = .ok (.getfield 15, 3) := dk_180 0 15 (dk_at dksX4_init_0 14 rfl rfl)
theorem dX4_init_17 : decode cX4_init 17 = .ok (.putfield 19, 3) := dk_181 0 19 (dk_at dksX4_init_0 17 rfl rfl)
theorem dX4_init_20 : decode cX4_init 20 = .ok (.aload_n 0, 1) := dk_42 (dk_at dksX4_init_0 20 rfl rfl)
theorem dX4_init_21 : decode cX4_init 21 = .ok (.aload_n 0, 1) := dk_42 (dk_at dksX4_init_0 21 rfl rfl)
theorem dX4_init_22 : decode cX4_init 22 = .ok (.getfield 3, 3) := dk_180 0 3 (dk_at dksX4_init_1 0 rfl rfl)
theorem dX4_init_25 : decode cX4_init 25 = .ok (.getfield 22, 3) := dk_180 0 22 (dk_at dksX4_init_1 3 rfl rfl)
theorem dX4_init_28 : decode cX4_init 28 = .ok (.putfield 26, 3) := dk_181 0 26 (dk_at dksX4_init_1 6 rfl rfl)
theorem dX4_init_31 : decode cX4_init 31 = .ok (.return_, 1) := dk_177 (dk_at dksX4_init_1 9 rfl rfl)
abbrev cX4_stripTold : ByteArray := prog_13_method_19_code
def yX4_stripTold : MethodName := ⟨RX4, "stripTold", "()LDoughBorder$Dough;"⟩
def dkwX4_stripTold_6 : List UInt8 := [3, 16, 10, 184, 0, 179, 42, 180, 0, 26, 176]
abbrev dktX4_stripTold_6 : List UInt8 := dkwX4_stripTold_6 ++ []
def dkwX4_stripTold_5 : List UInt8 := [180, 0, 26, 180, 0, 133, 181, 0, 173, 42, 180, 0, 26, 180, 0, 111, 3, 42, 180, 0, 26, 180, 0, 176]
abbrev dktX4_stripTold_5 : List UInt8 := dkwX4_stripTold_5 ++ dktX4_stripTold_6
def dkwX4_stripTold_4 : List UInt8 := [42, 28, 182, 0, 164, 42, 16, 59, 182, 0, 167, 154, 255, 165, 42, 182, 0, 170, 42, 180, 0, 26, 42]
abbrev dktX4_stripTold_4 : List UInt8 := dkwX4_stripTold_4 ++ dktX4_stripTold_5
def dkwX4_stripTold_3 : List UInt8 := [181, 0, 90, 42, 89, 180, 0, 42, 42, 180, 0, 3, 180, 0, 154, 28, 50, 182, 0, 59, 96, 181, 0, 42]
abbrev dktX4_stripTold_3 : List UInt8 := dkwX4_stripTold_3 ++ dktX4_stripTold_4
def dkwX4_stripTold_2 : List UInt8 := [3, 27, 182, 0, 76, 42, 42, 28, 182, 0, 161, 7, 27, 182, 0, 76, 42, 89, 180, 0, 90, 4, 96]
abbrev dktX4_stripTold_2 : List UInt8 := dkwX4_stripTold_2 ++ dktX4_stripTold_3
def dkwX4_stripTold_1 : List UInt8 := [60, 42, 42, 180, 0, 3, 180, 0, 154, 182, 0, 157, 61, 42, 28, 2, 159, 0, 7, 4, 167, 0, 4, 3]
abbrev dktX4_stripTold_1 : List UInt8 := dkwX4_stripTold_1 ++ dktX4_stripTold_2
def dkwX4_stripTold_0 : List UInt8 := [42, 180, 0, 26, 42, 180, 0, 3, 180, 0, 147, 182, 0, 150, 87, 42, 182, 0, 52, 87, 42, 180, 0, 42]
abbrev dktX4_stripTold_0 : List UInt8 := dkwX4_stripTold_0 ++ dktX4_stripTold_1
theorem dksX4_stripTold_0 : cX4_stripTold.data.toList.drop 0 = dktX4_stripTold_0 := by decide +kernel
theorem dksX4_stripTold_1 : cX4_stripTold.data.toList.drop 24 = dktX4_stripTold_1 := dk_seg dksX4_stripTold_0 24 rfl rfl
theorem dksX4_stripTold_2 : cX4_stripTold.data.toList.drop 48 = dktX4_stripTold_2 := dk_seg dksX4_stripTold_1 24 rfl rfl
theorem dksX4_stripTold_3 : cX4_stripTold.data.toList.drop 71 = dktX4_stripTold_3 := dk_seg dksX4_stripTold_2 23 rfl rfl
theorem dksX4_stripTold_4 : cX4_stripTold.data.toList.drop 95 = dktX4_stripTold_4 := dk_seg dksX4_stripTold_3 24 rfl rfl
theorem dksX4_stripTold_5 : cX4_stripTold.data.toList.drop 118 = dktX4_stripTold_5 := dk_seg dksX4_stripTold_4 23 rfl rfl
theorem dksX4_stripTold_6 : cX4_stripTold.data.toList.drop 142 = dktX4_stripTold_6 := dk_seg dksX4_stripTold_5 24 rfl rfl
theorem dX4_stripTold_0 : decode cX4_stripTold 0 = .ok (.aload_n 0, 1) := dk_42 (dk_at dksX4_stripTold_0 0 rfl rfl)
theorem dX4_stripTold_1 : decode cX4_stripTold 1 = .ok (.getfield 26, 3) := dk_180 0 26 (dk_at dksX4_stripTold_0 1 rfl rfl)
theorem dX4_stripTold_4 : decode cX4_stripTold 4 = .ok (.aload_n 0, 1) := dk_42 (dk_at dksX4_stripTold_0 4 rfl rfl)
theorem dX4_stripTold_5 : decode cX4_stripTold 5 = .ok (.getfield 3, 3) := dk_180 0 3 (dk_at dksX4_stripTold_0 5 rfl rfl)
theorem dX4_stripTold_8 : decode cX4_stripTold 8 = .ok (.getfield 147, 3) := dk_180 0 147 (dk_at dksX4_stripTold_0 8 rfl rfl)
theorem dX4_stripTold_11 : decode cX4_stripTold 11 = .ok (.invokevirtual 150, 3) := dk_182 0 150 (dk_at dksX4_stripTold_0 11 rfl rfl)
theorem dX4_stripTold_14 : decode cX4_stripTold 14 = .ok (.pop, 1) := dk_87 (dk_at dksX4_stripTold_0 14 rfl rfl)
theorem dX4_stripTold_15 : decode cX4_stripTold 15 = .ok (.aload_n 0, 1) := dk_42 (dk_at dksX4_stripTold_0 15 rfl rfl)
theorem dX4_stripTold_16 : decode cX4_stripTold 16 = .ok (.invokevirtual 52, 3) := dk_182 0 52 (dk_at dksX4_stripTold_0 16 rfl rfl)
theorem dX4_stripTold_19 : decode cX4_stripTold 19 = .ok (.pop, 1) := dk_87 (dk_at dksX4_stripTold_0 19 rfl rfl)
theorem dX4_stripTold_20 : decode cX4_stripTold 20 = .ok (.aload_n 0, 1) := dk_42 (dk_at dksX4_stripTold_0 20 rfl rfl)
theorem dX4_stripTold_21 : decode cX4_stripTold 21 = .ok (.getfield 42, 3) := dk_180 0 42 (dk_at dksX4_stripTold_0 21 rfl rfl)
theorem dX4_stripTold_24 : decode cX4_stripTold 24 = .ok (.istore_n 1, 1) := dk_60 (dk_at dksX4_stripTold_1 0 rfl rfl)
theorem dX4_stripTold_25 : decode cX4_stripTold 25 = .ok (.aload_n 0, 1) := dk_42 (dk_at dksX4_stripTold_1 1 rfl rfl)
theorem dX4_stripTold_26 : decode cX4_stripTold 26 = .ok (.aload_n 0, 1) := dk_42 (dk_at dksX4_stripTold_1 2 rfl rfl)
theorem dX4_stripTold_27 : decode cX4_stripTold 27 = .ok (.getfield 3, 3) := dk_180 0 3 (dk_at dksX4_stripTold_1 3 rfl rfl)
theorem dX4_stripTold_30 : decode cX4_stripTold 30 = .ok (.getfield 154, 3) := dk_180 0 154 (dk_at dksX4_stripTold_1 6 rfl rfl)
theorem dX4_stripTold_33 : decode cX4_stripTold 33 = .ok (.invokevirtual 157, 3) := dk_182 0 157 (dk_at dksX4_stripTold_1 9 rfl rfl)
theorem dX4_stripTold_36 : decode cX4_stripTold 36 = .ok (.istore_n 2, 1) := dk_61 (dk_at dksX4_stripTold_1 12 rfl rfl)
theorem dX4_stripTold_37 : decode cX4_stripTold 37 = .ok (.aload_n 0, 1) := dk_42 (dk_at dksX4_stripTold_1 13 rfl rfl)
theorem dX4_stripTold_38 : decode cX4_stripTold 38 = .ok (.iload_n 2, 1) := dk_28 (dk_at dksX4_stripTold_1 14 rfl rfl)
theorem dX4_stripTold_39 : decode cX4_stripTold 39 = .ok (.iconst (-1), 1) := dk_2 (dk_at dksX4_stripTold_1 15 rfl rfl)
theorem dX4_stripTold_40 : decode cX4_stripTold 40 = .ok (.if_icmp .eq 7, 3) := dk_159 0 7 (dk_at dksX4_stripTold_1 16 rfl rfl)
theorem dX4_stripTold_43 : decode cX4_stripTold 43 = .ok (.iconst 1, 1) := dk_4 (dk_at dksX4_stripTold_1 19 rfl rfl)
theorem dX4_stripTold_44 : decode cX4_stripTold 44 = .ok (.goto 4, 3) := dk_167 0 4 (dk_at dksX4_stripTold_1 20 rfl rfl)
theorem dX4_stripTold_47 : decode cX4_stripTold 47 = .ok (.iconst 0, 1) := dk_3 (dk_at dksX4_stripTold_1 23 rfl rfl)
theorem dX4_stripTold_48 : decode cX4_stripTold 48 = .ok (.iconst 0, 1) := dk_3 (dk_at dksX4_stripTold_2 0 rfl rfl)
theorem dX4_stripTold_49 : decode cX4_stripTold 49 = .ok (.iload_n 1, 1) := dk_27 (dk_at dksX4_stripTold_2 1 rfl rfl)
theorem dX4_stripTold_50 : decode cX4_stripTold 50 = .ok (.invokevirtual 76, 3) := dk_182 0 76 (dk_at dksX4_stripTold_2 2 rfl rfl)
theorem dX4_stripTold_53 : decode cX4_stripTold 53 = .ok (.aload_n 0, 1) := dk_42 (dk_at dksX4_stripTold_2 5 rfl rfl)
theorem dX4_stripTold_54 : decode cX4_stripTold 54 = .ok (.aload_n 0, 1) := dk_42 (dk_at dksX4_stripTold_2 6 rfl rfl)
theorem dX4_stripTold_55 : decode cX4_stripTold 55 = .ok (.iload_n 2, 1) := dk_28 (dk_at dksX4_stripTold_2 7 rfl rfl)
theorem dX4_stripTold_56 : decode cX4_stripTold 56 = .ok (.invokevirtual 161, 3) := dk_182 0 161 (dk_at dksX4_stripTold_2 8 rfl rfl)
theorem dX4_stripTold_59 : decode cX4_stripTold 59 = .ok (.iconst 4, 1) := dk_7 (dk_at dksX4_stripTold_2 11 rfl rfl)
theorem dX4_stripTold_60 : decode cX4_stripTold 60 = .ok (.iload_n 1, 1) := dk_27 (dk_at dksX4_stripTold_2 12 rfl rfl)
theorem dX4_stripTold_61 : decode cX4_stripTold 61 = .ok (.invokevirtual 76, 3) := dk_182 0 76 (dk_at dksX4_stripTold_2 13 rfl rfl)
theorem dX4_stripTold_64 : decode cX4_stripTold 64 = .ok (.aload_n 0, 1) := dk_42 (dk_at dksX4_stripTold_2 16 rfl rfl)
theorem dX4_stripTold_65 : decode cX4_stripTold 65 = .ok (.dup, 1) := dk_89 (dk_at dksX4_stripTold_2 17 rfl rfl)
theorem dX4_stripTold_66 : decode cX4_stripTold 66 = .ok (.getfield 90, 3) := dk_180 0 90 (dk_at dksX4_stripTold_2 18 rfl rfl)
theorem dX4_stripTold_69 : decode cX4_stripTold 69 = .ok (.iconst 1, 1) := dk_4 (dk_at dksX4_stripTold_2 21 rfl rfl)
theorem dX4_stripTold_70 : decode cX4_stripTold 70 = .ok (.iadd, 1) := dk_96 (dk_at dksX4_stripTold_2 22 rfl rfl)
theorem dX4_stripTold_71 : decode cX4_stripTold 71 = .ok (.putfield 90, 3) := dk_181 0 90 (dk_at dksX4_stripTold_3 0 rfl rfl)
theorem dX4_stripTold_74 : decode cX4_stripTold 74 = .ok (.aload_n 0, 1) := dk_42 (dk_at dksX4_stripTold_3 3 rfl rfl)
theorem dX4_stripTold_75 : decode cX4_stripTold 75 = .ok (.dup, 1) := dk_89 (dk_at dksX4_stripTold_3 4 rfl rfl)
theorem dX4_stripTold_76 : decode cX4_stripTold 76 = .ok (.getfield 42, 3) := dk_180 0 42 (dk_at dksX4_stripTold_3 5 rfl rfl)
theorem dX4_stripTold_79 : decode cX4_stripTold 79 = .ok (.aload_n 0, 1) := dk_42 (dk_at dksX4_stripTold_3 8 rfl rfl)
theorem dX4_stripTold_80 : decode cX4_stripTold 80 = .ok (.getfield 3, 3) := dk_180 0 3 (dk_at dksX4_stripTold_3 9 rfl rfl)
theorem dX4_stripTold_83 : decode cX4_stripTold 83 = .ok (.getfield 154, 3) := dk_180 0 154 (dk_at dksX4_stripTold_3 12 rfl rfl)
theorem dX4_stripTold_86 : decode cX4_stripTold 86 = .ok (.iload_n 2, 1) := dk_28 (dk_at dksX4_stripTold_3 15 rfl rfl)
theorem dX4_stripTold_87 : decode cX4_stripTold 87 = .ok (.aaload, 1) := dk_50 (dk_at dksX4_stripTold_3 16 rfl rfl)
theorem dX4_stripTold_88 : decode cX4_stripTold 88 = .ok (.invokevirtual 59, 3) := dk_182 0 59 (dk_at dksX4_stripTold_3 17 rfl rfl)
theorem dX4_stripTold_91 : decode cX4_stripTold 91 = .ok (.iadd, 1) := dk_96 (dk_at dksX4_stripTold_3 20 rfl rfl)
theorem dX4_stripTold_92 : decode cX4_stripTold 92 = .ok (.putfield 42, 3) := dk_181 0 42 (dk_at dksX4_stripTold_3 21 rfl rfl)
theorem dX4_stripTold_95 : decode cX4_stripTold 95 = .ok (.aload_n 0, 1) := dk_42 (dk_at dksX4_stripTold_4 0 rfl rfl)
theorem dX4_stripTold_96 : decode cX4_stripTold 96 = .ok (.iload_n 2, 1) := dk_28 (dk_at dksX4_stripTold_4 1 rfl rfl)
theorem dX4_stripTold_97 : decode cX4_stripTold 97 = .ok (.invokevirtual 164, 3) := dk_182 0 164 (dk_at dksX4_stripTold_4 2 rfl rfl)
theorem dX4_stripTold_100 : decode cX4_stripTold 100 = .ok (.aload_n 0, 1) := dk_42 (dk_at dksX4_stripTold_4 5 rfl rfl)
theorem dX4_stripTold_101 : decode cX4_stripTold 101 = .ok (.bipush 59, 2) := dk_16 59 (dk_at dksX4_stripTold_4 6 rfl rfl)
theorem dX4_stripTold_103 : decode cX4_stripTold 103 = .ok (.invokevirtual 167, 3) := dk_182 0 167 (dk_at dksX4_stripTold_4 8 rfl rfl)
theorem dX4_stripTold_106 : decode cX4_stripTold 106 = .ok (.ifCond .ne (-91), 3) := dk_154 255 165 (dk_at dksX4_stripTold_4 11 rfl rfl)
theorem dX4_stripTold_109 : decode cX4_stripTold 109 = .ok (.aload_n 0, 1) := dk_42 (dk_at dksX4_stripTold_4 14 rfl rfl)
theorem dX4_stripTold_110 : decode cX4_stripTold 110 = .ok (.invokevirtual 170, 3) := dk_182 0 170 (dk_at dksX4_stripTold_4 15 rfl rfl)
theorem dX4_stripTold_113 : decode cX4_stripTold 113 = .ok (.aload_n 0, 1) := dk_42 (dk_at dksX4_stripTold_4 18 rfl rfl)
theorem dX4_stripTold_114 : decode cX4_stripTold 114 = .ok (.getfield 26, 3) := dk_180 0 26 (dk_at dksX4_stripTold_4 19 rfl rfl)
theorem dX4_stripTold_117 : decode cX4_stripTold 117 = .ok (.aload_n 0, 1) := dk_42 (dk_at dksX4_stripTold_4 22 rfl rfl)
theorem dX4_stripTold_118 : decode cX4_stripTold 118 = .ok (.getfield 26, 3) := dk_180 0 26 (dk_at dksX4_stripTold_5 0 rfl rfl)
theorem dX4_stripTold_121 : decode cX4_stripTold 121 = .ok (.getfield 133, 3) := dk_180 0 133 (dk_at dksX4_stripTold_5 3 rfl rfl)
theorem dX4_stripTold_124 : decode cX4_stripTold 124 = .ok (.putfield 173, 3) := dk_181 0 173 (dk_at dksX4_stripTold_5 6 rfl rfl)
theorem dX4_stripTold_127 : decode cX4_stripTold 127 = .ok (.aload_n 0, 1) := dk_42 (dk_at dksX4_stripTold_5 9 rfl rfl)
theorem dX4_stripTold_128 : decode cX4_stripTold 128 = .ok (.getfield 26, 3) := dk_180 0 26 (dk_at dksX4_stripTold_5 10 rfl rfl)
theorem dX4_stripTold_131 : decode cX4_stripTold 131 = .ok (.getfield 111, 3) := dk_180 0 111 (dk_at dksX4_stripTold_5 13 rfl rfl)
theorem dX4_stripTold_134 : decode cX4_stripTold 134 = .ok (.iconst 0, 1) := dk_3 (dk_at dksX4_stripTold_5 16 rfl rfl)
theorem dX4_stripTold_135 : decode cX4_stripTold 135 = .ok (.aload_n 0, 1) := dk_42 (dk_at dksX4_stripTold_5 17 rfl rfl)
theorem dX4_stripTold_136 : decode cX4_stripTold 136 = .ok (.getfield 26, 3) := dk_180 0 26 (dk_at dksX4_stripTold_5 18 rfl rfl)
theorem dX4_stripTold_139 : decode cX4_stripTold 139 = .ok (.getfield 176, 3) := dk_180 0 176 (dk_at dksX4_stripTold_5 21 rfl rfl)
theorem dX4_stripTold_142 : decode cX4_stripTold 142 = .ok (.iconst 0, 1) := dk_3 (dk_at dksX4_stripTold_6 0 rfl rfl)
theorem dX4_stripTold_143 : decode cX4_stripTold 143 = .ok (.bipush 10, 2) := dk_16 10 (dk_at dksX4_stripTold_6 1 rfl rfl)
theorem dX4_stripTold_145 : decode cX4_stripTold 145 = .ok (.invokestatic 179, 3) := dk_184 0 179 (dk_at dksX4_stripTold_6 3 rfl rfl)
theorem dX4_stripTold_148 : decode cX4_stripTold 148 = .ok (.aload_n 0, 1) := dk_42 (dk_at dksX4_stripTold_6 6 rfl rfl)
theorem dX4_stripTold_149 : decode cX4_stripTold 149 = .ok (.getfield 26, 3) := dk_180 0 26 (dk_at dksX4_stripTold_6 7 rfl rfl)
theorem dX4_stripTold_152 : decode cX4_stripTold 152 = .ok (.areturn, 1) := dk_176 (dk_at dksX4_stripTold_6 10 rfl rfl)
abbrev cX4_see : ByteArray := prog_13_method_3_code
def yX4_see : MethodName := ⟨RX4, "see", "()I"⟩
def dkwX4_see_3 : List UInt8 := [51, 17, 0, 255, 126, 167, 0, 4, 2, 172]
abbrev dktX4_see_3 : List UInt8 := dkwX4_see_3 ++ []
def dkwX4_see_2 : List UInt8 := [180, 0, 42, 42, 180, 0, 3, 180, 0, 45, 162, 0, 22, 42, 180, 0, 3, 180, 0, 48, 42, 180, 0, 42]
abbrev dktX4_see_2 : List UInt8 := dkwX4_see_2 ++ dktX4_see_3
def dkwX4_see_1 : List UInt8 := [180, 0, 42, 51, 16, 32, 160, 0, 16, 42, 89, 180, 0, 42, 4, 96, 181, 0, 42, 167, 255, 215, 42]
abbrev dktX4_see_1 : List UInt8 := dkwX4_see_1 ++ dktX4_see_2
def dkwX4_see_0 : List UInt8 := [42, 180, 0, 42, 42, 180, 0, 3, 180, 0, 45, 162, 0, 33, 42, 180, 0, 3, 180, 0, 48, 42]
abbrev dktX4_see_0 : List UInt8 := dkwX4_see_0 ++ dktX4_see_1
theorem dksX4_see_0 : cX4_see.data.toList.drop 0 = dktX4_see_0 := by decide +kernel
theorem dksX4_see_1 : cX4_see.data.toList.drop 22 = dktX4_see_1 := dk_seg dksX4_see_0 22 rfl rfl
theorem dksX4_see_2 : cX4_see.data.toList.drop 45 = dktX4_see_2 := dk_seg dksX4_see_1 23 rfl rfl
theorem dksX4_see_3 : cX4_see.data.toList.drop 69 = dktX4_see_3 := dk_seg dksX4_see_2 24 rfl rfl
theorem dX4_see_0 : decode cX4_see 0 = .ok (.aload_n 0, 1) := dk_42 (dk_at dksX4_see_0 0 rfl rfl)
theorem dX4_see_1 : decode cX4_see 1 = .ok (.getfield 42, 3) := dk_180 0 42 (dk_at dksX4_see_0 1 rfl rfl)
theorem dX4_see_4 : decode cX4_see 4 = .ok (.aload_n 0, 1) := dk_42 (dk_at dksX4_see_0 4 rfl rfl)
theorem dX4_see_5 : decode cX4_see 5 = .ok (.getfield 3, 3) := dk_180 0 3 (dk_at dksX4_see_0 5 rfl rfl)
theorem dX4_see_8 : decode cX4_see 8 = .ok (.getfield 45, 3) := dk_180 0 45 (dk_at dksX4_see_0 8 rfl rfl)
theorem dX4_see_11 : decode cX4_see 11 = .ok (.if_icmp .ge 33, 3) := dk_162 0 33 (dk_at dksX4_see_0 11 rfl rfl)
theorem dX4_see_14 : decode cX4_see 14 = .ok (.aload_n 0, 1) := dk_42 (dk_at dksX4_see_0 14 rfl rfl)
theorem dX4_see_15 : decode cX4_see 15 = .ok (.getfield 3, 3) := dk_180 0 3 (dk_at dksX4_see_0 15 rfl rfl)
theorem dX4_see_18 : decode cX4_see 18 = .ok (.getfield 48, 3) := dk_180 0 48 (dk_at dksX4_see_0 18 rfl rfl)
theorem dX4_see_21 : decode cX4_see 21 = .ok (.aload_n 0, 1) := dk_42 (dk_at dksX4_see_0 21 rfl rfl)
theorem dX4_see_22 : decode cX4_see 22 = .ok (.getfield 42, 3) := dk_180 0 42 (dk_at dksX4_see_1 0 rfl rfl)
theorem dX4_see_25 : decode cX4_see 25 = .ok (.baload, 1) := dk_51 (dk_at dksX4_see_1 3 rfl rfl)
theorem dX4_see_26 : decode cX4_see 26 = .ok (.bipush 32, 2) := dk_16 32 (dk_at dksX4_see_1 4 rfl rfl)
theorem dX4_see_28 : decode cX4_see 28 = .ok (.if_icmp .ne 16, 3) := dk_160 0 16 (dk_at dksX4_see_1 6 rfl rfl)
theorem dX4_see_31 : decode cX4_see 31 = .ok (.aload_n 0, 1) := dk_42 (dk_at dksX4_see_1 9 rfl rfl)
theorem dX4_see_32 : decode cX4_see 32 = .ok (.dup, 1) := dk_89 (dk_at dksX4_see_1 10 rfl rfl)
theorem dX4_see_33 : decode cX4_see 33 = .ok (.getfield 42, 3) := dk_180 0 42 (dk_at dksX4_see_1 11 rfl rfl)
theorem dX4_see_36 : decode cX4_see 36 = .ok (.iconst 1, 1) := dk_4 (dk_at dksX4_see_1 14 rfl rfl)
theorem dX4_see_37 : decode cX4_see 37 = .ok (.iadd, 1) := dk_96 (dk_at dksX4_see_1 15 rfl rfl)
theorem dX4_see_38 : decode cX4_see 38 = .ok (.putfield 42, 3) := dk_181 0 42 (dk_at dksX4_see_1 16 rfl rfl)
theorem dX4_see_41 : decode cX4_see 41 = .ok (.goto (-41), 3) := dk_167 255 215 (dk_at dksX4_see_1 19 rfl rfl)
theorem dX4_see_44 : decode cX4_see 44 = .ok (.aload_n 0, 1) := dk_42 (dk_at dksX4_see_1 22 rfl rfl)
theorem dX4_see_45 : decode cX4_see 45 = .ok (.getfield 42, 3) := dk_180 0 42 (dk_at dksX4_see_2 0 rfl rfl)
theorem dX4_see_48 : decode cX4_see 48 = .ok (.aload_n 0, 1) := dk_42 (dk_at dksX4_see_2 3 rfl rfl)
theorem dX4_see_49 : decode cX4_see 49 = .ok (.getfield 3, 3) := dk_180 0 3 (dk_at dksX4_see_2 4 rfl rfl)
theorem dX4_see_52 : decode cX4_see 52 = .ok (.getfield 45, 3) := dk_180 0 45 (dk_at dksX4_see_2 7 rfl rfl)
theorem dX4_see_55 : decode cX4_see 55 = .ok (.if_icmp .ge 22, 3) := dk_162 0 22 (dk_at dksX4_see_2 10 rfl rfl)
theorem dX4_see_58 : decode cX4_see 58 = .ok (.aload_n 0, 1) := dk_42 (dk_at dksX4_see_2 13 rfl rfl)
theorem dX4_see_59 : decode cX4_see 59 = .ok (.getfield 3, 3) := dk_180 0 3 (dk_at dksX4_see_2 14 rfl rfl)
theorem dX4_see_62 : decode cX4_see 62 = .ok (.getfield 48, 3) := dk_180 0 48 (dk_at dksX4_see_2 17 rfl rfl)
theorem dX4_see_65 : decode cX4_see 65 = .ok (.aload_n 0, 1) := dk_42 (dk_at dksX4_see_2 20 rfl rfl)
theorem dX4_see_66 : decode cX4_see 66 = .ok (.getfield 42, 3) := dk_180 0 42 (dk_at dksX4_see_2 21 rfl rfl)
theorem dX4_see_69 : decode cX4_see 69 = .ok (.baload, 1) := dk_51 (dk_at dksX4_see_3 0 rfl rfl)
theorem dX4_see_70 : decode cX4_see 70 = .ok (.sipush 255, 3) := dk_17 0 255 (dk_at dksX4_see_3 1 rfl rfl)
theorem dX4_see_73 : decode cX4_see 73 = .ok (.iand, 1) := dk_126 (dk_at dksX4_see_3 4 rfl rfl)
theorem dX4_see_74 : decode cX4_see 74 = .ok (.goto 4, 3) := dk_167 0 4 (dk_at dksX4_see_3 5 rfl rfl)
theorem dX4_see_77 : decode cX4_see 77 = .ok (.iconst (-1), 1) := dk_2 (dk_at dksX4_see_3 8 rfl rfl)
theorem dX4_see_78 : decode cX4_see 78 = .ok (.ireturn, 1) := dk_172 (dk_at dksX4_see_3 9 rfl rfl)
abbrev cX4_oneOf : ByteArray := prog_13_method_8_code
def yX4_oneOf : MethodName := ⟨RX4, "oneOf", "([Ljava/lang/String;)I"⟩
def dkwX4_oneOf_1 : List UInt8 := [167, 255, 235, 2, 172]
abbrev dktX4_oneOf_1 : List UInt8 := dkwX4_oneOf_1 ++ []
def dkwX4_oneOf_0 : List UInt8 := [3, 61, 28, 43, 190, 162, 0, 21, 42, 43, 28, 50, 182, 0, 68, 153, 0, 5, 28, 172, 132, 2, 1]
abbrev dktX4_oneOf_0 : List UInt8 := dkwX4_oneOf_0 ++ dktX4_oneOf_1
theorem dksX4_oneOf_0 : cX4_oneOf.data.toList.drop 0 = dktX4_oneOf_0 := by decide +kernel
theorem dksX4_oneOf_1 : cX4_oneOf.data.toList.drop 23 = dktX4_oneOf_1 := dk_seg dksX4_oneOf_0 23 rfl rfl
theorem dX4_oneOf_0 : decode cX4_oneOf 0 = .ok (.iconst 0, 1) := dk_3 (dk_at dksX4_oneOf_0 0 rfl rfl)
theorem dX4_oneOf_1 : decode cX4_oneOf 1 = .ok (.istore_n 2, 1) := dk_61 (dk_at dksX4_oneOf_0 1 rfl rfl)
theorem dX4_oneOf_2 : decode cX4_oneOf 2 = .ok (.iload_n 2, 1) := dk_28 (dk_at dksX4_oneOf_0 2 rfl rfl)
theorem dX4_oneOf_3 : decode cX4_oneOf 3 = .ok (.aload_n 1, 1) := dk_43 (dk_at dksX4_oneOf_0 3 rfl rfl)
theorem dX4_oneOf_4 : decode cX4_oneOf 4 = .ok (.arraylength, 1) := dk_190 (dk_at dksX4_oneOf_0 4 rfl rfl)
theorem dX4_oneOf_5 : decode cX4_oneOf 5 = .ok (.if_icmp .ge 21, 3) := dk_162 0 21 (dk_at dksX4_oneOf_0 5 rfl rfl)
theorem dX4_oneOf_8 : decode cX4_oneOf 8 = .ok (.aload_n 0, 1) := dk_42 (dk_at dksX4_oneOf_0 8 rfl rfl)
theorem dX4_oneOf_9 : decode cX4_oneOf 9 = .ok (.aload_n 1, 1) := dk_43 (dk_at dksX4_oneOf_0 9 rfl rfl)
theorem dX4_oneOf_10 : decode cX4_oneOf 10 = .ok (.iload_n 2, 1) := dk_28 (dk_at dksX4_oneOf_0 10 rfl rfl)
theorem dX4_oneOf_11 : decode cX4_oneOf 11 = .ok (.aaload, 1) := dk_50 (dk_at dksX4_oneOf_0 11 rfl rfl)
theorem dX4_oneOf_12 : decode cX4_oneOf 12 = .ok (.invokevirtual 68, 3) := dk_182 0 68 (dk_at dksX4_oneOf_0 12 rfl rfl)
theorem dX4_oneOf_15 : decode cX4_oneOf 15 = .ok (.ifCond .eq 5, 3) := dk_153 0 5 (dk_at dksX4_oneOf_0 15 rfl rfl)
theorem dX4_oneOf_18 : decode cX4_oneOf 18 = .ok (.iload_n 2, 1) := dk_28 (dk_at dksX4_oneOf_0 18 rfl rfl)
theorem dX4_oneOf_19 : decode cX4_oneOf 19 = .ok (.ireturn, 1) := dk_172 (dk_at dksX4_oneOf_0 19 rfl rfl)
theorem dX4_oneOf_20 : decode cX4_oneOf 20 = .ok (.iinc 2 1, 3) := dk_132 2 1 (dk_at dksX4_oneOf_0 20 rfl rfl)
theorem dX4_oneOf_23 : decode cX4_oneOf 23 = .ok (.goto (-21), 3) := dk_167 255 235 (dk_at dksX4_oneOf_1 0 rfl rfl)
theorem dX4_oneOf_26 : decode cX4_oneOf 26 = .ok (.iconst (-1), 1) := dk_2 (dk_at dksX4_oneOf_1 3 rfl rfl)
theorem dX4_oneOf_27 : decode cX4_oneOf 27 = .ok (.ireturn, 1) := dk_172 (dk_at dksX4_oneOf_1 4 rfl rfl)
abbrev cX4_isWord : ByteArray := prog_13_method_6_code
def yX4_isWord : MethodName := ⟨RX4, "isWord", "(Ljava/lang/String;)Z"⟩
def dkwX4_isWord_2 : List UInt8 := [180, 0, 42, 21, 4, 96, 51, 160, 0, 7, 4, 167, 0, 4, 3, 62, 132, 4, 1, 167, 255, 213, 29, 172]
abbrev dktX4_isWord_2 : List UInt8 := dkwX4_isWord_2 ++ []
def dkwX4_isWord_1 : List UInt8 := [153, 0, 45, 21, 4, 28, 162, 0, 39, 43, 21, 4, 182, 0, 64, 42, 180, 0, 3, 180, 0, 48, 42]
abbrev dktX4_isWord_1 : List UInt8 := dkwX4_isWord_1 ++ dktX4_isWord_2
def dkwX4_isWord_0 : List UInt8 := [42, 182, 0, 56, 61, 28, 43, 182, 0, 59, 160, 0, 7, 4, 167, 0, 4, 3, 62, 3, 54, 4, 29]
abbrev dktX4_isWord_0 : List UInt8 := dkwX4_isWord_0 ++ dktX4_isWord_1
theorem dksX4_isWord_0 : cX4_isWord.data.toList.drop 0 = dktX4_isWord_0 := by decide +kernel
theorem dksX4_isWord_1 : cX4_isWord.data.toList.drop 23 = dktX4_isWord_1 := dk_seg dksX4_isWord_0 23 rfl rfl
theorem dksX4_isWord_2 : cX4_isWord.data.toList.drop 46 = dktX4_isWord_2 := dk_seg dksX4_isWord_1 23 rfl rfl
theorem dX4_isWord_0 : decode cX4_isWord 0 = .ok (.aload_n 0, 1) := dk_42 (dk_at dksX4_isWord_0 0 rfl rfl)
theorem dX4_isWord_1 : decode cX4_isWord 1 = .ok (.invokevirtual 56, 3) := dk_182 0 56 (dk_at dksX4_isWord_0 1 rfl rfl)
theorem dX4_isWord_4 : decode cX4_isWord 4 = .ok (.istore_n 2, 1) := dk_61 (dk_at dksX4_isWord_0 4 rfl rfl)
theorem dX4_isWord_5 : decode cX4_isWord 5 = .ok (.iload_n 2, 1) := dk_28 (dk_at dksX4_isWord_0 5 rfl rfl)
theorem dX4_isWord_6 : decode cX4_isWord 6 = .ok (.aload_n 1, 1) := dk_43 (dk_at dksX4_isWord_0 6 rfl rfl)
theorem dX4_isWord_7 : decode cX4_isWord 7 = .ok (.invokevirtual 59, 3) := dk_182 0 59 (dk_at dksX4_isWord_0 7 rfl rfl)
theorem dX4_isWord_10 : decode cX4_isWord 10 = .ok (.if_icmp .ne 7, 3) := dk_160 0 7 (dk_at dksX4_isWord_0 10 rfl rfl)
theorem dX4_isWord_13 : decode cX4_isWord 13 = .ok (.iconst 1, 1) := dk_4 (dk_at dksX4_isWord_0 13 rfl rfl)
theorem dX4_isWord_14 : decode cX4_isWord 14 = .ok (.goto 4, 3) := dk_167 0 4 (dk_at dksX4_isWord_0 14 rfl rfl)
theorem dX4_isWord_17 : decode cX4_isWord 17 = .ok (.iconst 0, 1) := dk_3 (dk_at dksX4_isWord_0 17 rfl rfl)
theorem dX4_isWord_18 : decode cX4_isWord 18 = .ok (.istore_n 3, 1) := dk_62 (dk_at dksX4_isWord_0 18 rfl rfl)
theorem dX4_isWord_19 : decode cX4_isWord 19 = .ok (.iconst 0, 1) := dk_3 (dk_at dksX4_isWord_0 19 rfl rfl)
theorem dX4_isWord_20 : decode cX4_isWord 20 = .ok (.istore 4, 2) := dk_54 4 (dk_at dksX4_isWord_0 20 rfl rfl)
theorem dX4_isWord_22 : decode cX4_isWord 22 = .ok (.iload_n 3, 1) := dk_29 (dk_at dksX4_isWord_0 22 rfl rfl)
theorem dX4_isWord_23 : decode cX4_isWord 23 = .ok (.ifCond .eq 45, 3) := dk_153 0 45 (dk_at dksX4_isWord_1 0 rfl rfl)
theorem dX4_isWord_26 : decode cX4_isWord 26 = .ok (.iload 4, 2) := dk_21 4 (dk_at dksX4_isWord_1 3 rfl rfl)
theorem dX4_isWord_28 : decode cX4_isWord 28 = .ok (.iload_n 2, 1) := dk_28 (dk_at dksX4_isWord_1 5 rfl rfl)
theorem dX4_isWord_29 : decode cX4_isWord 29 = .ok (.if_icmp .ge 39, 3) := dk_162 0 39 (dk_at dksX4_isWord_1 6 rfl rfl)
theorem dX4_isWord_32 : decode cX4_isWord 32 = .ok (.aload_n 1, 1) := dk_43 (dk_at dksX4_isWord_1 9 rfl rfl)
theorem dX4_isWord_33 : decode cX4_isWord 33 = .ok (.iload 4, 2) := dk_21 4 (dk_at dksX4_isWord_1 10 rfl rfl)
theorem dX4_isWord_35 : decode cX4_isWord 35 = .ok (.invokevirtual 64, 3) := dk_182 0 64 (dk_at dksX4_isWord_1 12 rfl rfl)
theorem dX4_isWord_38 : decode cX4_isWord 38 = .ok (.aload_n 0, 1) := dk_42 (dk_at dksX4_isWord_1 15 rfl rfl)
theorem dX4_isWord_39 : decode cX4_isWord 39 = .ok (.getfield 3, 3) := dk_180 0 3 (dk_at dksX4_isWord_1 16 rfl rfl)
theorem dX4_isWord_42 : decode cX4_isWord 42 = .ok (.getfield 48, 3) := dk_180 0 48 (dk_at dksX4_isWord_1 19 rfl rfl)
theorem dX4_isWord_45 : decode cX4_isWord 45 = .ok (.aload_n 0, 1) := dk_42 (dk_at dksX4_isWord_1 22 rfl rfl)
theorem dX4_isWord_46 : decode cX4_isWord 46 = .ok (.getfield 42, 3) := dk_180 0 42 (dk_at dksX4_isWord_2 0 rfl rfl)
theorem dX4_isWord_49 : decode cX4_isWord 49 = .ok (.iload 4, 2) := dk_21 4 (dk_at dksX4_isWord_2 3 rfl rfl)
theorem dX4_isWord_51 : decode cX4_isWord 51 = .ok (.iadd, 1) := dk_96 (dk_at dksX4_isWord_2 5 rfl rfl)
theorem dX4_isWord_52 : decode cX4_isWord 52 = .ok (.baload, 1) := dk_51 (dk_at dksX4_isWord_2 6 rfl rfl)
theorem dX4_isWord_53 : decode cX4_isWord 53 = .ok (.if_icmp .ne 7, 3) := dk_160 0 7 (dk_at dksX4_isWord_2 7 rfl rfl)
theorem dX4_isWord_56 : decode cX4_isWord 56 = .ok (.iconst 1, 1) := dk_4 (dk_at dksX4_isWord_2 10 rfl rfl)
theorem dX4_isWord_57 : decode cX4_isWord 57 = .ok (.goto 4, 3) := dk_167 0 4 (dk_at dksX4_isWord_2 11 rfl rfl)
theorem dX4_isWord_60 : decode cX4_isWord 60 = .ok (.iconst 0, 1) := dk_3 (dk_at dksX4_isWord_2 14 rfl rfl)
theorem dX4_isWord_61 : decode cX4_isWord 61 = .ok (.istore_n 3, 1) := dk_62 (dk_at dksX4_isWord_2 15 rfl rfl)
theorem dX4_isWord_62 : decode cX4_isWord 62 = .ok (.iinc 4 1, 3) := dk_132 4 1 (dk_at dksX4_isWord_2 16 rfl rfl)
theorem dX4_isWord_65 : decode cX4_isWord 65 = .ok (.goto (-43), 3) := dk_167 255 213 (dk_at dksX4_isWord_2 19 rfl rfl)
theorem dX4_isWord_68 : decode cX4_isWord 68 = .ok (.iload_n 3, 1) := dk_29 (dk_at dksX4_isWord_2 22 rfl rfl)
theorem dX4_isWord_69 : decode cX4_isWord 69 = .ok (.ireturn, 1) := dk_172 (dk_at dksX4_isWord_2 23 rfl rfl)
abbrev cX4_letters : ByteArray := prog_13_method_5_code
def yX4_letters : MethodName := ⟨RX4, "letters", "()I"⟩
def dkwX4_letters_2 : List UInt8 := [180, 0, 48, 42, 180, 0, 42, 27, 96, 51, 16, 122, 163, 0, 9, 132, 1, 1, 167, 255, 199, 27, 172]
abbrev dktX4_letters_2 : List UInt8 := dkwX4_letters_2 ++ []
def dkwX4_letters_1 : List UInt8 := [180, 0, 3, 180, 0, 48, 42, 180, 0, 42, 27, 96, 51, 16, 97, 161, 0, 28, 42, 180, 0, 3]
abbrev dktX4_letters_1 : List UInt8 := dkwX4_letters_1 ++ dktX4_letters_2
def dkwX4_letters_0 : List UInt8 := [42, 182, 0, 52, 87, 3, 60, 42, 180, 0, 42, 27, 96, 42, 180, 0, 3, 180, 0, 45, 162, 0, 47, 42]
abbrev dktX4_letters_0 : List UInt8 := dkwX4_letters_0 ++ dktX4_letters_1
theorem dksX4_letters_0 : cX4_letters.data.toList.drop 0 = dktX4_letters_0 := by decide +kernel
theorem dksX4_letters_1 : cX4_letters.data.toList.drop 24 = dktX4_letters_1 := dk_seg dksX4_letters_0 24 rfl rfl
theorem dksX4_letters_2 : cX4_letters.data.toList.drop 46 = dktX4_letters_2 := dk_seg dksX4_letters_1 22 rfl rfl
theorem dX4_letters_0 : decode cX4_letters 0 = .ok (.aload_n 0, 1) := dk_42 (dk_at dksX4_letters_0 0 rfl rfl)
theorem dX4_letters_1 : decode cX4_letters 1 = .ok (.invokevirtual 52, 3) := dk_182 0 52 (dk_at dksX4_letters_0 1 rfl rfl)
theorem dX4_letters_4 : decode cX4_letters 4 = .ok (.pop, 1) := dk_87 (dk_at dksX4_letters_0 4 rfl rfl)
theorem dX4_letters_5 : decode cX4_letters 5 = .ok (.iconst 0, 1) := dk_3 (dk_at dksX4_letters_0 5 rfl rfl)
theorem dX4_letters_6 : decode cX4_letters 6 = .ok (.istore_n 1, 1) := dk_60 (dk_at dksX4_letters_0 6 rfl rfl)
theorem dX4_letters_7 : decode cX4_letters 7 = .ok (.aload_n 0, 1) := dk_42 (dk_at dksX4_letters_0 7 rfl rfl)
theorem dX4_letters_8 : decode cX4_letters 8 = .ok (.getfield 42, 3) := dk_180 0 42 (dk_at dksX4_letters_0 8 rfl rfl)
theorem dX4_letters_11 : decode cX4_letters 11 = .ok (.iload_n 1, 1) := dk_27 (dk_at dksX4_letters_0 11 rfl rfl)
theorem dX4_letters_12 : decode cX4_letters 12 = .ok (.iadd, 1) := dk_96 (dk_at dksX4_letters_0 12 rfl rfl)
theorem dX4_letters_13 : decode cX4_letters 13 = .ok (.aload_n 0, 1) := dk_42 (dk_at dksX4_letters_0 13 rfl rfl)
theorem dX4_letters_14 : decode cX4_letters 14 = .ok (.getfield 3, 3) := dk_180 0 3 (dk_at dksX4_letters_0 14 rfl rfl)
theorem dX4_letters_17 : decode cX4_letters 17 = .ok (.getfield 45, 3) := dk_180 0 45 (dk_at dksX4_letters_0 17 rfl rfl)
theorem dX4_letters_20 : decode cX4_letters 20 = .ok (.if_icmp .ge 47, 3) := dk_162 0 47 (dk_at dksX4_letters_0 20 rfl rfl)
theorem dX4_letters_23 : decode cX4_letters 23 = .ok (.aload_n 0, 1) := dk_42 (dk_at dksX4_letters_0 23 rfl rfl)
theorem dX4_letters_24 : decode cX4_letters 24 = .ok (.getfield 3, 3) := dk_180 0 3 (dk_at dksX4_letters_1 0 rfl rfl)
theorem dX4_letters_27 : decode cX4_letters 27 = .ok (.getfield 48, 3) := dk_180 0 48 (dk_at dksX4_letters_1 3 rfl rfl)
theorem dX4_letters_30 : decode cX4_letters 30 = .ok (.aload_n 0, 1) := dk_42 (dk_at dksX4_letters_1 6 rfl rfl)
theorem dX4_letters_31 : decode cX4_letters 31 = .ok (.getfield 42, 3) := dk_180 0 42 (dk_at dksX4_letters_1 7 rfl rfl)
theorem dX4_letters_34 : decode cX4_letters 34 = .ok (.iload_n 1, 1) := dk_27 (dk_at dksX4_letters_1 10 rfl rfl)
theorem dX4_letters_35 : decode cX4_letters 35 = .ok (.iadd, 1) := dk_96 (dk_at dksX4_letters_1 11 rfl rfl)
theorem dX4_letters_36 : decode cX4_letters 36 = .ok (.baload, 1) := dk_51 (dk_at dksX4_letters_1 12 rfl rfl)
theorem dX4_letters_37 : decode cX4_letters 37 = .ok (.bipush 97, 2) := dk_16 97 (dk_at dksX4_letters_1 13 rfl rfl)
theorem dX4_letters_39 : decode cX4_letters 39 = .ok (.if_icmp .lt 28, 3) := dk_161 0 28 (dk_at dksX4_letters_1 15 rfl rfl)
theorem dX4_letters_42 : decode cX4_letters 42 = .ok (.aload_n 0, 1) := dk_42 (dk_at dksX4_letters_1 18 rfl rfl)
theorem dX4_letters_43 : decode cX4_letters 43 = .ok (.getfield 3, 3) := dk_180 0 3 (dk_at dksX4_letters_1 19 rfl rfl)
theorem dX4_letters_46 : decode cX4_letters 46 = .ok (.getfield 48, 3) := dk_180 0 48 (dk_at dksX4_letters_2 0 rfl rfl)
theorem dX4_letters_49 : decode cX4_letters 49 = .ok (.aload_n 0, 1) := dk_42 (dk_at dksX4_letters_2 3 rfl rfl)
theorem dX4_letters_50 : decode cX4_letters 50 = .ok (.getfield 42, 3) := dk_180 0 42 (dk_at dksX4_letters_2 4 rfl rfl)
theorem dX4_letters_53 : decode cX4_letters 53 = .ok (.iload_n 1, 1) := dk_27 (dk_at dksX4_letters_2 7 rfl rfl)
theorem dX4_letters_54 : decode cX4_letters 54 = .ok (.iadd, 1) := dk_96 (dk_at dksX4_letters_2 8 rfl rfl)
theorem dX4_letters_55 : decode cX4_letters 55 = .ok (.baload, 1) := dk_51 (dk_at dksX4_letters_2 9 rfl rfl)
theorem dX4_letters_56 : decode cX4_letters 56 = .ok (.bipush 122, 2) := dk_16 122 (dk_at dksX4_letters_2 10 rfl rfl)
theorem dX4_letters_58 : decode cX4_letters 58 = .ok (.if_icmp .gt 9, 3) := dk_163 0 9 (dk_at dksX4_letters_2 12 rfl rfl)
theorem dX4_letters_61 : decode cX4_letters 61 = .ok (.iinc 1 1, 3) := dk_132 1 1 (dk_at dksX4_letters_2 15 rfl rfl)
theorem dX4_letters_64 : decode cX4_letters 64 = .ok (.goto (-57), 3) := dk_167 255 199 (dk_at dksX4_letters_2 18 rfl rfl)
theorem dX4_letters_67 : decode cX4_letters 67 = .ok (.iload_n 1, 1) := dk_27 (dk_at dksX4_letters_2 21 rfl rfl)
theorem dX4_letters_68 : decode cX4_letters 68 = .ok (.ireturn, 1) := dk_172 (dk_at dksX4_letters_2 22 rfl rfl)
abbrev cX4_demand : ByteArray := prog_13_method_2_code
def yX4_demand : MethodName := ⟨RX4, "demand", "(ZII)V"⟩
def dkwX4_demand_1 : List UInt8 := [181, 0, 39, 42, 180, 0, 3, 180, 0, 29, 191]
abbrev dktX4_demand_1 : List UInt8 := dkwX4_demand_1 ++ []
def dkwX4_demand_0 : List UInt8 := [27, 153, 0, 4, 177, 42, 180, 0, 3, 180, 0, 29, 28, 181, 0, 33, 42, 180, 0, 3, 180, 0, 29, 29]
abbrev dktX4_demand_0 : List UInt8 := dkwX4_demand_0 ++ dktX4_demand_1
theorem dksX4_demand_0 : cX4_demand.data.toList.drop 0 = dktX4_demand_0 := by decide +kernel
theorem dksX4_demand_1 : cX4_demand.data.toList.drop 24 = dktX4_demand_1 := dk_seg dksX4_demand_0 24 rfl rfl
theorem dX4_demand_0 : decode cX4_demand 0 = .ok (.iload_n 1, 1) := dk_27 (dk_at dksX4_demand_0 0 rfl rfl)
theorem dX4_demand_1 : decode cX4_demand 1 = .ok (.ifCond .eq 4, 3) := dk_153 0 4 (dk_at dksX4_demand_0 1 rfl rfl)
theorem dX4_demand_4 : decode cX4_demand 4 = .ok (.return_, 1) := dk_177 (dk_at dksX4_demand_0 4 rfl rfl)
theorem dX4_demand_5 : decode cX4_demand 5 = .ok (.aload_n 0, 1) := dk_42 (dk_at dksX4_demand_0 5 rfl rfl)
theorem dX4_demand_6 : decode cX4_demand 6 = .ok (.getfield 3, 3) := dk_180 0 3 (dk_at dksX4_demand_0 6 rfl rfl)
theorem dX4_demand_9 : decode cX4_demand 9 = .ok (.getfield 29, 3) := dk_180 0 29 (dk_at dksX4_demand_0 9 rfl rfl)
theorem dX4_demand_12 : decode cX4_demand 12 = .ok (.iload_n 2, 1) := dk_28 (dk_at dksX4_demand_0 12 rfl rfl)
theorem dX4_demand_13 : decode cX4_demand 13 = .ok (.putfield 33, 3) := dk_181 0 33 (dk_at dksX4_demand_0 13 rfl rfl)
theorem dX4_demand_16 : decode cX4_demand 16 = .ok (.aload_n 0, 1) := dk_42 (dk_at dksX4_demand_0 16 rfl rfl)
theorem dX4_demand_17 : decode cX4_demand 17 = .ok (.getfield 3, 3) := dk_180 0 3 (dk_at dksX4_demand_0 17 rfl rfl)
theorem dX4_demand_20 : decode cX4_demand 20 = .ok (.getfield 29, 3) := dk_180 0 29 (dk_at dksX4_demand_0 20 rfl rfl)
theorem dX4_demand_23 : decode cX4_demand 23 = .ok (.iload_n 3, 1) := dk_29 (dk_at dksX4_demand_0 23 rfl rfl)
theorem dX4_demand_24 : decode cX4_demand 24 = .ok (.putfield 39, 3) := dk_181 0 39 (dk_at dksX4_demand_1 0 rfl rfl)
theorem dX4_demand_27 : decode cX4_demand 27 = .ok (.aload_n 0, 1) := dk_42 (dk_at dksX4_demand_1 3 rfl rfl)
theorem dX4_demand_28 : decode cX4_demand 28 = .ok (.getfield 3, 3) := dk_180 0 3 (dk_at dksX4_demand_1 4 rfl rfl)
theorem dX4_demand_31 : decode cX4_demand 31 = .ok (.getfield 29, 3) := dk_180 0 29 (dk_at dksX4_demand_1 7 rfl rfl)
theorem dX4_demand_34 : decode cX4_demand 34 = .ok (.athrow, 1) := dk_191 (dk_at dksX4_demand_1 10 rfl rfl)
abbrev cX4_canBe : ByteArray := prog_13_method_14_code
def yX4_canBe : MethodName := ⟨RX4, "canBe", "(I)Z"⟩
def dkwX4_canBe_3 : List UInt8 := [42, 180, 0, 26, 180, 0, 101, 16, 8, 162, 0, 7, 4, 167, 0, 4, 3, 172]
abbrev dktX4_canBe_3 : List UInt8 := dkwX4_canBe_3 ++ []
def dkwX4_canBe_2 : List UInt8 := [180, 0, 26, 180, 0, 98, 16, 8, 162, 0, 7, 4, 167, 0, 29, 3, 167, 0, 25, 27, 8, 160, 0, 15]
abbrev dktX4_canBe_2 : List UInt8 := dkwX4_canBe_2 ++ dktX4_canBe_3
def dkwX4_canBe_1 : List UInt8 := [180, 0, 93, 154, 0, 7, 4, 167, 0, 4, 3, 159, 0, 5, 3, 172, 27, 7, 160, 0, 23, 42]
abbrev dktX4_canBe_1 : List UInt8 := dkwX4_canBe_1 ++ dktX4_canBe_2
def dkwX4_canBe_0 : List UInt8 := [42, 180, 0, 90, 16, 40, 162, 0, 30, 27, 154, 0, 7, 4, 167, 0, 4, 3, 42, 180, 0, 26]
abbrev dktX4_canBe_0 : List UInt8 := dkwX4_canBe_0 ++ dktX4_canBe_1
theorem dksX4_canBe_0 : cX4_canBe.data.toList.drop 0 = dktX4_canBe_0 := by decide +kernel
theorem dksX4_canBe_1 : cX4_canBe.data.toList.drop 22 = dktX4_canBe_1 := dk_seg dksX4_canBe_0 22 rfl rfl
theorem dksX4_canBe_2 : cX4_canBe.data.toList.drop 44 = dktX4_canBe_2 := dk_seg dksX4_canBe_1 22 rfl rfl
theorem dksX4_canBe_3 : cX4_canBe.data.toList.drop 68 = dktX4_canBe_3 := dk_seg dksX4_canBe_2 24 rfl rfl
theorem dX4_canBe_0 : decode cX4_canBe 0 = .ok (.aload_n 0, 1) := dk_42 (dk_at dksX4_canBe_0 0 rfl rfl)
theorem dX4_canBe_1 : decode cX4_canBe 1 = .ok (.getfield 90, 3) := dk_180 0 90 (dk_at dksX4_canBe_0 1 rfl rfl)
theorem dX4_canBe_4 : decode cX4_canBe 4 = .ok (.bipush 40, 2) := dk_16 40 (dk_at dksX4_canBe_0 4 rfl rfl)
theorem dX4_canBe_6 : decode cX4_canBe 6 = .ok (.if_icmp .ge 30, 3) := dk_162 0 30 (dk_at dksX4_canBe_0 6 rfl rfl)
theorem dX4_canBe_9 : decode cX4_canBe 9 = .ok (.iload_n 1, 1) := dk_27 (dk_at dksX4_canBe_0 9 rfl rfl)
theorem dX4_canBe_10 : decode cX4_canBe 10 = .ok (.ifCond .ne 7, 3) := dk_154 0 7 (dk_at dksX4_canBe_0 10 rfl rfl)
theorem dX4_canBe_13 : decode cX4_canBe 13 = .ok (.iconst 1, 1) := dk_4 (dk_at dksX4_canBe_0 13 rfl rfl)
theorem dX4_canBe_14 : decode cX4_canBe 14 = .ok (.goto 4, 3) := dk_167 0 4 (dk_at dksX4_canBe_0 14 rfl rfl)
theorem dX4_canBe_17 : decode cX4_canBe 17 = .ok (.iconst 0, 1) := dk_3 (dk_at dksX4_canBe_0 17 rfl rfl)
theorem dX4_canBe_18 : decode cX4_canBe 18 = .ok (.aload_n 0, 1) := dk_42 (dk_at dksX4_canBe_0 18 rfl rfl)
theorem dX4_canBe_19 : decode cX4_canBe 19 = .ok (.getfield 26, 3) := dk_180 0 26 (dk_at dksX4_canBe_0 19 rfl rfl)
theorem dX4_canBe_22 : decode cX4_canBe 22 = .ok (.getfield 93, 3) := dk_180 0 93 (dk_at dksX4_canBe_1 0 rfl rfl)
theorem dX4_canBe_25 : decode cX4_canBe 25 = .ok (.ifCond .ne 7, 3) := dk_154 0 7 (dk_at dksX4_canBe_1 3 rfl rfl)
theorem dX4_canBe_28 : decode cX4_canBe 28 = .ok (.iconst 1, 1) := dk_4 (dk_at dksX4_canBe_1 6 rfl rfl)
theorem dX4_canBe_29 : decode cX4_canBe 29 = .ok (.goto 4, 3) := dk_167 0 4 (dk_at dksX4_canBe_1 7 rfl rfl)
theorem dX4_canBe_32 : decode cX4_canBe 32 = .ok (.iconst 0, 1) := dk_3 (dk_at dksX4_canBe_1 10 rfl rfl)
theorem dX4_canBe_33 : decode cX4_canBe 33 = .ok (.if_icmp .eq 5, 3) := dk_159 0 5 (dk_at dksX4_canBe_1 11 rfl rfl)
theorem dX4_canBe_36 : decode cX4_canBe 36 = .ok (.iconst 0, 1) := dk_3 (dk_at dksX4_canBe_1 14 rfl rfl)
theorem dX4_canBe_37 : decode cX4_canBe 37 = .ok (.ireturn, 1) := dk_172 (dk_at dksX4_canBe_1 15 rfl rfl)
theorem dX4_canBe_38 : decode cX4_canBe 38 = .ok (.iload_n 1, 1) := dk_27 (dk_at dksX4_canBe_1 16 rfl rfl)
theorem dX4_canBe_39 : decode cX4_canBe 39 = .ok (.iconst 4, 1) := dk_7 (dk_at dksX4_canBe_1 17 rfl rfl)
theorem dX4_canBe_40 : decode cX4_canBe 40 = .ok (.if_icmp .ne 23, 3) := dk_160 0 23 (dk_at dksX4_canBe_1 18 rfl rfl)
theorem dX4_canBe_43 : decode cX4_canBe 43 = .ok (.aload_n 0, 1) := dk_42 (dk_at dksX4_canBe_1 21 rfl rfl)
theorem dX4_canBe_44 : decode cX4_canBe 44 = .ok (.getfield 26, 3) := dk_180 0 26 (dk_at dksX4_canBe_2 0 rfl rfl)
theorem dX4_canBe_47 : decode cX4_canBe 47 = .ok (.getfield 98, 3) := dk_180 0 98 (dk_at dksX4_canBe_2 3 rfl rfl)
theorem dX4_canBe_50 : decode cX4_canBe 50 = .ok (.bipush 8, 2) := dk_16 8 (dk_at dksX4_canBe_2 6 rfl rfl)
theorem dX4_canBe_52 : decode cX4_canBe 52 = .ok (.if_icmp .ge 7, 3) := dk_162 0 7 (dk_at dksX4_canBe_2 8 rfl rfl)
theorem dX4_canBe_55 : decode cX4_canBe 55 = .ok (.iconst 1, 1) := dk_4 (dk_at dksX4_canBe_2 11 rfl rfl)
theorem dX4_canBe_56 : decode cX4_canBe 56 = .ok (.goto 29, 3) := dk_167 0 29 (dk_at dksX4_canBe_2 12 rfl rfl)
theorem dX4_canBe_59 : decode cX4_canBe 59 = .ok (.iconst 0, 1) := dk_3 (dk_at dksX4_canBe_2 15 rfl rfl)
theorem dX4_canBe_60 : decode cX4_canBe 60 = .ok (.goto 25, 3) := dk_167 0 25 (dk_at dksX4_canBe_2 16 rfl rfl)
theorem dX4_canBe_63 : decode cX4_canBe 63 = .ok (.iload_n 1, 1) := dk_27 (dk_at dksX4_canBe_2 19 rfl rfl)
theorem dX4_canBe_64 : decode cX4_canBe 64 = .ok (.iconst 5, 1) := dk_8 (dk_at dksX4_canBe_2 20 rfl rfl)
theorem dX4_canBe_65 : decode cX4_canBe 65 = .ok (.if_icmp .ne 15, 3) := dk_160 0 15 (dk_at dksX4_canBe_2 21 rfl rfl)
theorem dX4_canBe_68 : decode cX4_canBe 68 = .ok (.aload_n 0, 1) := dk_42 (dk_at dksX4_canBe_3 0 rfl rfl)
theorem dX4_canBe_69 : decode cX4_canBe 69 = .ok (.getfield 26, 3) := dk_180 0 26 (dk_at dksX4_canBe_3 1 rfl rfl)
theorem dX4_canBe_72 : decode cX4_canBe 72 = .ok (.getfield 101, 3) := dk_180 0 101 (dk_at dksX4_canBe_3 4 rfl rfl)
theorem dX4_canBe_75 : decode cX4_canBe 75 = .ok (.bipush 8, 2) := dk_16 8 (dk_at dksX4_canBe_3 7 rfl rfl)
theorem dX4_canBe_77 : decode cX4_canBe 77 = .ok (.if_icmp .ge 7, 3) := dk_162 0 7 (dk_at dksX4_canBe_3 9 rfl rfl)
theorem dX4_canBe_80 : decode cX4_canBe 80 = .ok (.iconst 1, 1) := dk_4 (dk_at dksX4_canBe_3 12 rfl rfl)
theorem dX4_canBe_81 : decode cX4_canBe 81 = .ok (.goto 4, 3) := dk_167 0 4 (dk_at dksX4_canBe_3 13 rfl rfl)
theorem dX4_canBe_84 : decode cX4_canBe 84 = .ok (.iconst 0, 1) := dk_3 (dk_at dksX4_canBe_3 16 rfl rfl)
theorem dX4_canBe_85 : decode cX4_canBe 85 = .ok (.ireturn, 1) := dk_172 (dk_at dksX4_canBe_3 17 rfl rfl)
abbrev cX4_line : ByteArray := prog_13_method_18_code
def yX4_line : MethodName := ⟨RX4, "line", "(I)V"⟩
def dkwX4_line_11 : List UInt8 := [180, 0, 26, 89, 180, 0, 101, 4, 96, 181, 0, 101, 177]
abbrev dktX4_line_11 : List UInt8 := dkwX4_line_11 ++ []
def dkwX4_line_10 : List UInt8 := [182, 0, 104, 79, 42, 180, 0, 26, 180, 0, 144, 28, 4, 96, 42, 3, 4, 182, 0, 104, 79, 42]
abbrev dktX4_line_10 : List UInt8 := dkwX4_line_10 ++ dktX4_line_11
def dkwX4_line_9 : List UInt8 := [180, 0, 101, 104, 61, 42, 180, 0, 26, 180, 0, 144, 28, 42, 3, 42, 180, 0, 26, 180, 0, 98, 4, 100]
abbrev dktX4_line_9 : List UInt8 := dkwX4_line_9 ++ dktX4_line_10
def dkwX4_line_8 : List UInt8 := [182, 0, 104, 79, 42, 180, 0, 26, 89, 180, 0, 98, 4, 96, 181, 0, 98, 177, 5, 42, 180, 0, 26]
abbrev dktX4_line_8 : List UInt8 := dkwX4_line_8 ++ dktX4_line_9
def dkwX4_line_7 : List UInt8 := [28, 42, 3, 16, 40, 182, 0, 104, 16, 20, 100, 79, 42, 180, 0, 26, 180, 0, 141, 28, 42, 3, 4]
abbrev dktX4_line_7 : List UInt8 := dkwX4_line_7 ++ dktX4_line_8
def dkwX4_line_6 : List UInt8 := [180, 0, 98, 61, 42, 180, 0, 26, 180, 0, 136, 28, 42, 182, 0, 121, 79, 42, 180, 0, 26, 180, 0, 139]
abbrev dktX4_line_6 : List UInt8 := dkwX4_line_6 ++ dktX4_line_7
def dkwX4_line_5 : List UInt8 := [180, 0, 26, 89, 180, 0, 133, 4, 42, 182, 0, 121, 120, 128, 181, 0, 133, 177, 42, 180, 0, 26]
abbrev dktX4_line_5 : List UInt8 := dkwX4_line_5 ++ dktX4_line_6
def dkwX4_line_4 : List UInt8 := [180, 0, 26, 180, 0, 127, 28, 42, 3, 16, 9, 182, 0, 104, 79, 177, 42, 182, 0, 130, 177, 42]
abbrev dktX4_line_4 : List UInt8 := dkwX4_line_4 ++ dktX4_line_5
def dkwX4_line_3 : List UInt8 := [182, 0, 104, 16, 20, 100, 79, 42, 180, 0, 26, 180, 0, 111, 28, 42, 3, 16, 99, 182, 0, 104, 79, 42]
abbrev dktX4_line_3 : List UInt8 := dkwX4_line_3 ++ dktX4_line_4
def dkwX4_line_2 : List UInt8 := [42, 182, 0, 118, 177, 42, 182, 0, 121, 61, 42, 180, 0, 26, 180, 0, 124, 28, 42, 3, 16, 40]
abbrev dktX4_line_2 : List UInt8 := dkwX4_line_2 ++ dktX4_line_3
def dkwX4_line_1 : List UInt8 := [170, 0, 0, 0, 0, 0, 190, 0, 0, 0, 0, 0, 0, 0, 4, 0, 0, 0, 35, 0, 0, 0, 40, 0, 0, 0, 97, 0, 0, 0, 102, 0, 0, 0, 121]
abbrev dktX4_line_1 : List UInt8 := dkwX4_line_1 ++ dktX4_line_2
def dkwX4_line_0 : List UInt8 := [27]
abbrev dktX4_line_0 : List UInt8 := dkwX4_line_0 ++ dktX4_line_1
theorem dksX4_line_0 : cX4_line.data.toList.drop 0 = dktX4_line_0 := by decide +kernel
theorem dksX4_line_1 : cX4_line.data.toList.drop 1 = dktX4_line_1 := dk_seg dksX4_line_0 1 rfl rfl
theorem dksX4_line_2 : cX4_line.data.toList.drop 36 = dktX4_line_2 := dk_seg dksX4_line_1 35 rfl rfl
theorem dksX4_line_3 : cX4_line.data.toList.drop 58 = dktX4_line_3 := dk_seg dksX4_line_2 22 rfl rfl
theorem dksX4_line_4 : cX4_line.data.toList.drop 82 = dktX4_line_4 := dk_seg dksX4_line_3 24 rfl rfl
theorem dksX4_line_5 : cX4_line.data.toList.drop 104 = dktX4_line_5 := dk_seg dksX4_line_4 22 rfl rfl
theorem dksX4_line_6 : cX4_line.data.toList.drop 126 = dktX4_line_6 := dk_seg dksX4_line_5 22 rfl rfl
theorem dksX4_line_7 : cX4_line.data.toList.drop 150 = dktX4_line_7 := dk_seg dksX4_line_6 24 rfl rfl
theorem dksX4_line_8 : cX4_line.data.toList.drop 173 = dktX4_line_8 := dk_seg dksX4_line_7 23 rfl rfl
theorem dksX4_line_9 : cX4_line.data.toList.drop 196 = dktX4_line_9 := dk_seg dksX4_line_8 23 rfl rfl
theorem dksX4_line_10 : cX4_line.data.toList.drop 220 = dktX4_line_10 := dk_seg dksX4_line_9 24 rfl rfl
theorem dksX4_line_11 : cX4_line.data.toList.drop 242 = dktX4_line_11 := dk_seg dksX4_line_10 22 rfl rfl
theorem dX4_line_0 : decode cX4_line 0 = .ok (.iload_n 1, 1) := dk_27 (dk_at dksX4_line_0 0 rfl rfl)
theorem dX4_line_1 : decode cX4_line 1 = .ok (.tableswitch 190 0 4 #[35, 40, 97, 102, 121], 35) := by decide +kernel
theorem dX4_line_36 : decode cX4_line 36 = .ok (.aload_n 0, 1) := dk_42 (dk_at dksX4_line_2 0 rfl rfl)
theorem dX4_line_37 : decode cX4_line 37 = .ok (.invokevirtual 118, 3) := dk_182 0 118 (dk_at dksX4_line_2 1 rfl rfl)
theorem dX4_line_40 : decode cX4_line 40 = .ok (.return_, 1) := dk_177 (dk_at dksX4_line_2 4 rfl rfl)
theorem dX4_line_41 : decode cX4_line 41 = .ok (.aload_n 0, 1) := dk_42 (dk_at dksX4_line_2 5 rfl rfl)
theorem dX4_line_42 : decode cX4_line 42 = .ok (.invokevirtual 121, 3) := dk_182 0 121 (dk_at dksX4_line_2 6 rfl rfl)
theorem dX4_line_45 : decode cX4_line 45 = .ok (.istore_n 2, 1) := dk_61 (dk_at dksX4_line_2 9 rfl rfl)
theorem dX4_line_46 : decode cX4_line 46 = .ok (.aload_n 0, 1) := dk_42 (dk_at dksX4_line_2 10 rfl rfl)
theorem dX4_line_47 : decode cX4_line 47 = .ok (.getfield 26, 3) := dk_180 0 26 (dk_at dksX4_line_2 11 rfl rfl)
theorem dX4_line_50 : decode cX4_line 50 = .ok (.getfield 124, 3) := dk_180 0 124 (dk_at dksX4_line_2 14 rfl rfl)
theorem dX4_line_53 : decode cX4_line 53 = .ok (.iload_n 2, 1) := dk_28 (dk_at dksX4_line_2 17 rfl rfl)
theorem dX4_line_54 : decode cX4_line 54 = .ok (.aload_n 0, 1) := dk_42 (dk_at dksX4_line_2 18 rfl rfl)
theorem dX4_line_55 : decode cX4_line 55 = .ok (.iconst 0, 1) := dk_3 (dk_at dksX4_line_2 19 rfl rfl)
theorem dX4_line_56 : decode cX4_line 56 = .ok (.bipush 40, 2) := dk_16 40 (dk_at dksX4_line_2 20 rfl rfl)
theorem dX4_line_58 : decode cX4_line 58 = .ok (.invokevirtual 104, 3) := dk_182 0 104 (dk_at dksX4_line_3 0 rfl rfl)
theorem dX4_line_61 : decode cX4_line 61 = .ok (.bipush 20, 2) := dk_16 20 (dk_at dksX4_line_3 3 rfl rfl)
theorem dX4_line_63 : decode cX4_line 63 = .ok (.isub, 1) := dk_100 (dk_at dksX4_line_3 5 rfl rfl)
theorem dX4_line_64 : decode cX4_line 64 = .ok (.iastore, 1) := dk_79 (dk_at dksX4_line_3 6 rfl rfl)
theorem dX4_line_65 : decode cX4_line 65 = .ok (.aload_n 0, 1) := dk_42 (dk_at dksX4_line_3 7 rfl rfl)
theorem dX4_line_66 : decode cX4_line 66 = .ok (.getfield 26, 3) := dk_180 0 26 (dk_at dksX4_line_3 8 rfl rfl)
theorem dX4_line_69 : decode cX4_line 69 = .ok (.getfield 111, 3) := dk_180 0 111 (dk_at dksX4_line_3 11 rfl rfl)
theorem dX4_line_72 : decode cX4_line 72 = .ok (.iload_n 2, 1) := dk_28 (dk_at dksX4_line_3 14 rfl rfl)
theorem dX4_line_73 : decode cX4_line 73 = .ok (.aload_n 0, 1) := dk_42 (dk_at dksX4_line_3 15 rfl rfl)
theorem dX4_line_74 : decode cX4_line 74 = .ok (.iconst 0, 1) := dk_3 (dk_at dksX4_line_3 16 rfl rfl)
theorem dX4_line_75 : decode cX4_line 75 = .ok (.bipush 99, 2) := dk_16 99 (dk_at dksX4_line_3 17 rfl rfl)
theorem dX4_line_77 : decode cX4_line 77 = .ok (.invokevirtual 104, 3) := dk_182 0 104 (dk_at dksX4_line_3 19 rfl rfl)
theorem dX4_line_80 : decode cX4_line 80 = .ok (.iastore, 1) := dk_79 (dk_at dksX4_line_3 22 rfl rfl)
theorem dX4_line_81 : decode cX4_line 81 = .ok (.aload_n 0, 1) := dk_42 (dk_at dksX4_line_3 23 rfl rfl)
theorem dX4_line_82 : decode cX4_line 82 = .ok (.getfield 26, 3) := dk_180 0 26 (dk_at dksX4_line_4 0 rfl rfl)
theorem dX4_line_85 : decode cX4_line 85 = .ok (.getfield 127, 3) := dk_180 0 127 (dk_at dksX4_line_4 3 rfl rfl)
theorem dX4_line_88 : decode cX4_line 88 = .ok (.iload_n 2, 1) := dk_28 (dk_at dksX4_line_4 6 rfl rfl)
theorem dX4_line_89 : decode cX4_line 89 = .ok (.aload_n 0, 1) := dk_42 (dk_at dksX4_line_4 7 rfl rfl)
theorem dX4_line_90 : decode cX4_line 90 = .ok (.iconst 0, 1) := dk_3 (dk_at dksX4_line_4 8 rfl rfl)
theorem dX4_line_91 : decode cX4_line 91 = .ok (.bipush 9, 2) := dk_16 9 (dk_at dksX4_line_4 9 rfl rfl)
theorem dX4_line_93 : decode cX4_line 93 = .ok (.invokevirtual 104, 3) := dk_182 0 104 (dk_at dksX4_line_4 11 rfl rfl)
theorem dX4_line_96 : decode cX4_line 96 = .ok (.iastore, 1) := dk_79 (dk_at dksX4_line_4 14 rfl rfl)
theorem dX4_line_97 : decode cX4_line 97 = .ok (.return_, 1) := dk_177 (dk_at dksX4_line_4 15 rfl rfl)
theorem dX4_line_98 : decode cX4_line 98 = .ok (.aload_n 0, 1) := dk_42 (dk_at dksX4_line_4 16 rfl rfl)
theorem dX4_line_99 : decode cX4_line 99 = .ok (.invokevirtual 130, 3) := dk_182 0 130 (dk_at dksX4_line_4 17 rfl rfl)
theorem dX4_line_102 : decode cX4_line 102 = .ok (.return_, 1) := dk_177 (dk_at dksX4_line_4 20 rfl rfl)
theorem dX4_line_103 : decode cX4_line 103 = .ok (.aload_n 0, 1) := dk_42 (dk_at dksX4_line_4 21 rfl rfl)
theorem dX4_line_104 : decode cX4_line 104 = .ok (.getfield 26, 3) := dk_180 0 26 (dk_at dksX4_line_5 0 rfl rfl)
theorem dX4_line_107 : decode cX4_line 107 = .ok (.dup, 1) := dk_89 (dk_at dksX4_line_5 3 rfl rfl)
theorem dX4_line_108 : decode cX4_line 108 = .ok (.getfield 133, 3) := dk_180 0 133 (dk_at dksX4_line_5 4 rfl rfl)
theorem dX4_line_111 : decode cX4_line 111 = .ok (.iconst 1, 1) := dk_4 (dk_at dksX4_line_5 7 rfl rfl)
theorem dX4_line_112 : decode cX4_line 112 = .ok (.aload_n 0, 1) := dk_42 (dk_at dksX4_line_5 8 rfl rfl)
theorem dX4_line_113 : decode cX4_line 113 = .ok (.invokevirtual 121, 3) := dk_182 0 121 (dk_at dksX4_line_5 9 rfl rfl)
theorem dX4_line_116 : decode cX4_line 116 = .ok (.ishl, 1) := dk_120 (dk_at dksX4_line_5 12 rfl rfl)
theorem dX4_line_117 : decode cX4_line 117 = .ok (.ior, 1) := dk_128 (dk_at dksX4_line_5 13 rfl rfl)
theorem dX4_line_118 : decode cX4_line 118 = .ok (.putfield 133, 3) := dk_181 0 133 (dk_at dksX4_line_5 14 rfl rfl)
theorem dX4_line_121 : decode cX4_line 121 = .ok (.return_, 1) := dk_177 (dk_at dksX4_line_5 17 rfl rfl)
theorem dX4_line_122 : decode cX4_line 122 = .ok (.aload_n 0, 1) := dk_42 (dk_at dksX4_line_5 18 rfl rfl)
theorem dX4_line_123 : decode cX4_line 123 = .ok (.getfield 26, 3) := dk_180 0 26 (dk_at dksX4_line_5 19 rfl rfl)
theorem dX4_line_126 : decode cX4_line 126 = .ok (.getfield 98, 3) := dk_180 0 98 (dk_at dksX4_line_6 0 rfl rfl)
theorem dX4_line_129 : decode cX4_line 129 = .ok (.istore_n 2, 1) := dk_61 (dk_at dksX4_line_6 3 rfl rfl)
theorem dX4_line_130 : decode cX4_line 130 = .ok (.aload_n 0, 1) := dk_42 (dk_at dksX4_line_6 4 rfl rfl)
theorem dX4_line_131 : decode cX4_line 131 = .ok (.getfield 26, 3) := dk_180 0 26 (dk_at dksX4_line_6 5 rfl rfl)
theorem dX4_line_134 : decode cX4_line 134 = .ok (.getfield 136, 3) := dk_180 0 136 (dk_at dksX4_line_6 8 rfl rfl)
theorem dX4_line_137 : decode cX4_line 137 = .ok (.iload_n 2, 1) := dk_28 (dk_at dksX4_line_6 11 rfl rfl)
theorem dX4_line_138 : decode cX4_line 138 = .ok (.aload_n 0, 1) := dk_42 (dk_at dksX4_line_6 12 rfl rfl)
theorem dX4_line_139 : decode cX4_line 139 = .ok (.invokevirtual 121, 3) := dk_182 0 121 (dk_at dksX4_line_6 13 rfl rfl)
theorem dX4_line_142 : decode cX4_line 142 = .ok (.iastore, 1) := dk_79 (dk_at dksX4_line_6 16 rfl rfl)
theorem dX4_line_143 : decode cX4_line 143 = .ok (.aload_n 0, 1) := dk_42 (dk_at dksX4_line_6 17 rfl rfl)
theorem dX4_line_144 : decode cX4_line 144 = .ok (.getfield 26, 3) := dk_180 0 26 (dk_at dksX4_line_6 18 rfl rfl)
theorem dX4_line_147 : decode cX4_line 147 = .ok (.getfield 139, 3) := dk_180 0 139 (dk_at dksX4_line_6 21 rfl rfl)
theorem dX4_line_150 : decode cX4_line 150 = .ok (.iload_n 2, 1) := dk_28 (dk_at dksX4_line_7 0 rfl rfl)
theorem dX4_line_151 : decode cX4_line 151 = .ok (.aload_n 0, 1) := dk_42 (dk_at dksX4_line_7 1 rfl rfl)
theorem dX4_line_152 : decode cX4_line 152 = .ok (.iconst 0, 1) := dk_3 (dk_at dksX4_line_7 2 rfl rfl)
theorem dX4_line_153 : decode cX4_line 153 = .ok (.bipush 40, 2) := dk_16 40 (dk_at dksX4_line_7 3 rfl rfl)
theorem dX4_line_155 : decode cX4_line 155 = .ok (.invokevirtual 104, 3) := dk_182 0 104 (dk_at dksX4_line_7 5 rfl rfl)
theorem dX4_line_158 : decode cX4_line 158 = .ok (.bipush 20, 2) := dk_16 20 (dk_at dksX4_line_7 8 rfl rfl)
theorem dX4_line_160 : decode cX4_line 160 = .ok (.isub, 1) := dk_100 (dk_at dksX4_line_7 10 rfl rfl)
theorem dX4_line_161 : decode cX4_line 161 = .ok (.iastore, 1) := dk_79 (dk_at dksX4_line_7 11 rfl rfl)
theorem dX4_line_162 : decode cX4_line 162 = .ok (.aload_n 0, 1) := dk_42 (dk_at dksX4_line_7 12 rfl rfl)
theorem dX4_line_163 : decode cX4_line 163 = .ok (.getfield 26, 3) := dk_180 0 26 (dk_at dksX4_line_7 13 rfl rfl)
theorem dX4_line_166 : decode cX4_line 166 = .ok (.getfield 141, 3) := dk_180 0 141 (dk_at dksX4_line_7 16 rfl rfl)
theorem dX4_line_169 : decode cX4_line 169 = .ok (.iload_n 2, 1) := dk_28 (dk_at dksX4_line_7 19 rfl rfl)
theorem dX4_line_170 : decode cX4_line 170 = .ok (.aload_n 0, 1) := dk_42 (dk_at dksX4_line_7 20 rfl rfl)
theorem dX4_line_171 : decode cX4_line 171 = .ok (.iconst 0, 1) := dk_3 (dk_at dksX4_line_7 21 rfl rfl)
theorem dX4_line_172 : decode cX4_line 172 = .ok (.iconst 1, 1) := dk_4 (dk_at dksX4_line_7 22 rfl rfl)
theorem dX4_line_173 : decode cX4_line 173 = .ok (.invokevirtual 104, 3) := dk_182 0 104 (dk_at dksX4_line_8 0 rfl rfl)
theorem dX4_line_176 : decode cX4_line 176 = .ok (.iastore, 1) := dk_79 (dk_at dksX4_line_8 3 rfl rfl)
theorem dX4_line_177 : decode cX4_line 177 = .ok (.aload_n 0, 1) := dk_42 (dk_at dksX4_line_8 4 rfl rfl)
theorem dX4_line_178 : decode cX4_line 178 = .ok (.getfield 26, 3) := dk_180 0 26 (dk_at dksX4_line_8 5 rfl rfl)
theorem dX4_line_181 : decode cX4_line 181 = .ok (.dup, 1) := dk_89 (dk_at dksX4_line_8 8 rfl rfl)
theorem dX4_line_182 : decode cX4_line 182 = .ok (.getfield 98, 3) := dk_180 0 98 (dk_at dksX4_line_8 9 rfl rfl)
theorem dX4_line_185 : decode cX4_line 185 = .ok (.iconst 1, 1) := dk_4 (dk_at dksX4_line_8 12 rfl rfl)
theorem dX4_line_186 : decode cX4_line 186 = .ok (.iadd, 1) := dk_96 (dk_at dksX4_line_8 13 rfl rfl)
theorem dX4_line_187 : decode cX4_line 187 = .ok (.putfield 98, 3) := dk_181 0 98 (dk_at dksX4_line_8 14 rfl rfl)
theorem dX4_line_190 : decode cX4_line 190 = .ok (.return_, 1) := dk_177 (dk_at dksX4_line_8 17 rfl rfl)
theorem dX4_line_191 : decode cX4_line 191 = .ok (.iconst 2, 1) := dk_5 (dk_at dksX4_line_8 18 rfl rfl)
theorem dX4_line_192 : decode cX4_line 192 = .ok (.aload_n 0, 1) := dk_42 (dk_at dksX4_line_8 19 rfl rfl)
theorem dX4_line_193 : decode cX4_line 193 = .ok (.getfield 26, 3) := dk_180 0 26 (dk_at dksX4_line_8 20 rfl rfl)
theorem dX4_line_196 : decode cX4_line 196 = .ok (.getfield 101, 3) := dk_180 0 101 (dk_at dksX4_line_9 0 rfl rfl)
theorem dX4_line_199 : decode cX4_line 199 = .ok (.imul, 1) := dk_104 (dk_at dksX4_line_9 3 rfl rfl)
theorem dX4_line_200 : decode cX4_line 200 = .ok (.istore_n 2, 1) := dk_61 (dk_at dksX4_line_9 4 rfl rfl)
theorem dX4_line_201 : decode cX4_line 201 = .ok (.aload_n 0, 1) := dk_42 (dk_at dksX4_line_9 5 rfl rfl)
theorem dX4_line_202 : decode cX4_line 202 = .ok (.getfield 26, 3) := dk_180 0 26 (dk_at dksX4_line_9 6 rfl rfl)
theorem dX4_line_205 : decode cX4_line 205 = .ok (.getfield 144, 3) := dk_180 0 144 (dk_at dksX4_line_9 9 rfl rfl)
theorem dX4_line_208 : decode cX4_line 208 = .ok (.iload_n 2, 1) := dk_28 (dk_at dksX4_line_9 12 rfl rfl)
theorem dX4_line_209 : decode cX4_line 209 = .ok (.aload_n 0, 1) := dk_42 (dk_at dksX4_line_9 13 rfl rfl)
theorem dX4_line_210 : decode cX4_line 210 = .ok (.iconst 0, 1) := dk_3 (dk_at dksX4_line_9 14 rfl rfl)
theorem dX4_line_211 : decode cX4_line 211 = .ok (.aload_n 0, 1) := dk_42 (dk_at dksX4_line_9 15 rfl rfl)
theorem dX4_line_212 : decode cX4_line 212 = .ok (.getfield 26, 3) := dk_180 0 26 (dk_at dksX4_line_9 16 rfl rfl)
theorem dX4_line_215 : decode cX4_line 215 = .ok (.getfield 98, 3) := dk_180 0 98 (dk_at dksX4_line_9 19 rfl rfl)
theorem dX4_line_218 : decode cX4_line 218 = .ok (.iconst 1, 1) := dk_4 (dk_at dksX4_line_9 22 rfl rfl)
theorem dX4_line_219 : decode cX4_line 219 = .ok (.isub, 1) := dk_100 (dk_at dksX4_line_9 23 rfl rfl)
theorem dX4_line_220 : decode cX4_line 220 = .ok (.invokevirtual 104, 3) := dk_182 0 104 (dk_at dksX4_line_10 0 rfl rfl)
theorem dX4_line_223 : decode cX4_line 223 = .ok (.iastore, 1) := dk_79 (dk_at dksX4_line_10 3 rfl rfl)
theorem dX4_line_224 : decode cX4_line 224 = .ok (.aload_n 0, 1) := dk_42 (dk_at dksX4_line_10 4 rfl rfl)
theorem dX4_line_225 : decode cX4_line 225 = .ok (.getfield 26, 3) := dk_180 0 26 (dk_at dksX4_line_10 5 rfl rfl)
theorem dX4_line_228 : decode cX4_line 228 = .ok (.getfield 144, 3) := dk_180 0 144 (dk_at dksX4_line_10 8 rfl rfl)
theorem dX4_line_231 : decode cX4_line 231 = .ok (.iload_n 2, 1) := dk_28 (dk_at dksX4_line_10 11 rfl rfl)
theorem dX4_line_232 : decode cX4_line 232 = .ok (.iconst 1, 1) := dk_4 (dk_at dksX4_line_10 12 rfl rfl)
theorem dX4_line_233 : decode cX4_line 233 = .ok (.iadd, 1) := dk_96 (dk_at dksX4_line_10 13 rfl rfl)
theorem dX4_line_234 : decode cX4_line 234 = .ok (.aload_n 0, 1) := dk_42 (dk_at dksX4_line_10 14 rfl rfl)
theorem dX4_line_235 : decode cX4_line 235 = .ok (.iconst 0, 1) := dk_3 (dk_at dksX4_line_10 15 rfl rfl)
theorem dX4_line_236 : decode cX4_line 236 = .ok (.iconst 1, 1) := dk_4 (dk_at dksX4_line_10 16 rfl rfl)
theorem dX4_line_237 : decode cX4_line 237 = .ok (.invokevirtual 104, 3) := dk_182 0 104 (dk_at dksX4_line_10 17 rfl rfl)
theorem dX4_line_240 : decode cX4_line 240 = .ok (.iastore, 1) := dk_79 (dk_at dksX4_line_10 20 rfl rfl)
theorem dX4_line_241 : decode cX4_line 241 = .ok (.aload_n 0, 1) := dk_42 (dk_at dksX4_line_10 21 rfl rfl)
theorem dX4_line_242 : decode cX4_line 242 = .ok (.getfield 26, 3) := dk_180 0 26 (dk_at dksX4_line_11 0 rfl rfl)
theorem dX4_line_245 : decode cX4_line 245 = .ok (.dup, 1) := dk_89 (dk_at dksX4_line_11 3 rfl rfl)
theorem dX4_line_246 : decode cX4_line 246 = .ok (.getfield 101, 3) := dk_180 0 101 (dk_at dksX4_line_11 4 rfl rfl)
theorem dX4_line_249 : decode cX4_line 249 = .ok (.iconst 1, 1) := dk_4 (dk_at dksX4_line_11 7 rfl rfl)
theorem dX4_line_250 : decode cX4_line 250 = .ok (.iadd, 1) := dk_96 (dk_at dksX4_line_11 8 rfl rfl)
theorem dX4_line_251 : decode cX4_line 251 = .ok (.putfield 101, 3) := dk_181 0 101 (dk_at dksX4_line_11 9 rfl rfl)
theorem dX4_line_254 : decode cX4_line 254 = .ok (.return_, 1) := dk_177 (dk_at dksX4_line_11 12 rfl rfl)
abbrev cX4_stripHere : ByteArray := prog_13_method_16_code
def yX4_stripHere : MethodName := ⟨RX4, "stripHere", "()V"⟩
def dkwX4_stripHere_2 : List UInt8 := [132, 1, 1, 167, 255, 236, 177]
abbrev dktX4_stripHere_2 : List UInt8 := dkwX4_stripHere_2 ++ []
def dkwX4_stripHere_1 : List UInt8 := [181, 0, 108, 3, 60, 27, 16, 10, 162, 0, 20, 42, 180, 0, 26, 180, 0, 111, 27, 16, 10, 79]
abbrev dktX4_stripHere_1 : List UInt8 := dkwX4_stripHere_1 ++ dktX4_stripHere_2
def dkwX4_stripHere_0 : List UInt8 := [42, 180, 0, 26, 42, 5, 16, 10, 182, 0, 104, 181, 0, 93, 42, 180, 0, 26, 42, 3, 6, 182, 0, 104]
abbrev dktX4_stripHere_0 : List UInt8 := dkwX4_stripHere_0 ++ dktX4_stripHere_1
theorem dksX4_stripHere_0 : cX4_stripHere.data.toList.drop 0 = dktX4_stripHere_0 := by decide +kernel
theorem dksX4_stripHere_1 : cX4_stripHere.data.toList.drop 24 = dktX4_stripHere_1 := dk_seg dksX4_stripHere_0 24 rfl rfl
theorem dksX4_stripHere_2 : cX4_stripHere.data.toList.drop 46 = dktX4_stripHere_2 := dk_seg dksX4_stripHere_1 22 rfl rfl
theorem dX4_stripHere_0 : decode cX4_stripHere 0 = .ok (.aload_n 0, 1) := dk_42 (dk_at dksX4_stripHere_0 0 rfl rfl)
theorem dX4_stripHere_1 : decode cX4_stripHere 1 = .ok (.getfield 26, 3) := dk_180 0 26 (dk_at dksX4_stripHere_0 1 rfl rfl)
theorem dX4_stripHere_4 : decode cX4_stripHere 4 = .ok (.aload_n 0, 1) := dk_42 (dk_at dksX4_stripHere_0 4 rfl rfl)
theorem dX4_stripHere_5 : decode cX4_stripHere 5 = .ok (.iconst 2, 1) := dk_5 (dk_at dksX4_stripHere_0 5 rfl rfl)
theorem dX4_stripHere_6 : decode cX4_stripHere 6 = .ok (.bipush 10, 2) := dk_16 10 (dk_at dksX4_stripHere_0 6 rfl rfl)
theorem dX4_stripHere_8 : decode cX4_stripHere 8 = .ok (.invokevirtual 104, 3) := dk_182 0 104 (dk_at dksX4_stripHere_0 8 rfl rfl)
theorem dX4_stripHere_11 : decode cX4_stripHere 11 = .ok (.putfield 93, 3) := dk_181 0 93 (dk_at dksX4_stripHere_0 11 rfl rfl)
theorem dX4_stripHere_14 : decode cX4_stripHere 14 = .ok (.aload_n 0, 1) := dk_42 (dk_at dksX4_stripHere_0 14 rfl rfl)
theorem dX4_stripHere_15 : decode cX4_stripHere 15 = .ok (.getfield 26, 3) := dk_180 0 26 (dk_at dksX4_stripHere_0 15 rfl rfl)
theorem dX4_stripHere_18 : decode cX4_stripHere 18 = .ok (.aload_n 0, 1) := dk_42 (dk_at dksX4_stripHere_0 18 rfl rfl)
theorem dX4_stripHere_19 : decode cX4_stripHere 19 = .ok (.iconst 0, 1) := dk_3 (dk_at dksX4_stripHere_0 19 rfl rfl)
theorem dX4_stripHere_20 : decode cX4_stripHere 20 = .ok (.iconst 3, 1) := dk_6 (dk_at dksX4_stripHere_0 20 rfl rfl)
theorem dX4_stripHere_21 : decode cX4_stripHere 21 = .ok (.invokevirtual 104, 3) := dk_182 0 104 (dk_at dksX4_stripHere_0 21 rfl rfl)
theorem dX4_stripHere_24 : decode cX4_stripHere 24 = .ok (.putfield 108, 3) := dk_181 0 108 (dk_at dksX4_stripHere_1 0 rfl rfl)
theorem dX4_stripHere_27 : decode cX4_stripHere 27 = .ok (.iconst 0, 1) := dk_3 (dk_at dksX4_stripHere_1 3 rfl rfl)
theorem dX4_stripHere_28 : decode cX4_stripHere 28 = .ok (.istore_n 1, 1) := dk_60 (dk_at dksX4_stripHere_1 4 rfl rfl)
theorem dX4_stripHere_29 : decode cX4_stripHere 29 = .ok (.iload_n 1, 1) := dk_27 (dk_at dksX4_stripHere_1 5 rfl rfl)
theorem dX4_stripHere_30 : decode cX4_stripHere 30 = .ok (.bipush 10, 2) := dk_16 10 (dk_at dksX4_stripHere_1 6 rfl rfl)
theorem dX4_stripHere_32 : decode cX4_stripHere 32 = .ok (.if_icmp .ge 20, 3) := dk_162 0 20 (dk_at dksX4_stripHere_1 8 rfl rfl)
theorem dX4_stripHere_35 : decode cX4_stripHere 35 = .ok (.aload_n 0, 1) := dk_42 (dk_at dksX4_stripHere_1 11 rfl rfl)
theorem dX4_stripHere_36 : decode cX4_stripHere 36 = .ok (.getfield 26, 3) := dk_180 0 26 (dk_at dksX4_stripHere_1 12 rfl rfl)
theorem dX4_stripHere_39 : decode cX4_stripHere 39 = .ok (.getfield 111, 3) := dk_180 0 111 (dk_at dksX4_stripHere_1 15 rfl rfl)
theorem dX4_stripHere_42 : decode cX4_stripHere 42 = .ok (.iload_n 1, 1) := dk_27 (dk_at dksX4_stripHere_1 18 rfl rfl)
theorem dX4_stripHere_43 : decode cX4_stripHere 43 = .ok (.bipush 10, 2) := dk_16 10 (dk_at dksX4_stripHere_1 19 rfl rfl)
theorem dX4_stripHere_45 : decode cX4_stripHere 45 = .ok (.iastore, 1) := dk_79 (dk_at dksX4_stripHere_1 21 rfl rfl)
theorem dX4_stripHere_46 : decode cX4_stripHere 46 = .ok (.iinc 1 1, 3) := dk_132 1 1 (dk_at dksX4_stripHere_2 0 rfl rfl)
theorem dX4_stripHere_49 : decode cX4_stripHere 49 = .ok (.goto (-20), 3) := dk_167 255 236 (dk_at dksX4_stripHere_2 3 rfl rfl)
theorem dX4_stripHere_52 : decode cX4_stripHere 52 = .ok (.return_, 1) := dk_177 (dk_at dksX4_stripHere_2 6 rfl rfl)
abbrev cX4_number : ByteArray := prog_13_method_10_code
def yX4_number : MethodName := ⟨RX4, "number", "(II)I"⟩
def dkwX4_number_4 : List UInt8 := [133, 27, 133, 28, 133, 184, 0, 80, 153, 0, 7, 4, 167, 0, 4, 3, 4, 29, 182, 0, 76, 21, 4, 172]
abbrev dktX4_number_4 : List UInt8 := dkwX4_number_4 ++ []
def dkwX4_number_3 : List UInt8 := [180, 0, 42, 4, 96, 181, 0, 42, 167, 255, 202, 42, 42, 180, 0, 42, 29, 100, 8, 163, 0, 20, 21, 4]
abbrev dktX4_number_3 : List UInt8 := dkwX4_number_3 ++ dktX4_number_4
def dkwX4_number_2 : List UInt8 := [21, 4, 104, 42, 180, 0, 3, 180, 0, 48, 42, 180, 0, 42, 51, 96, 16, 48, 100, 54, 4, 42, 89]
abbrev dktX4_number_2 : List UInt8 := dkwX4_number_2 ++ dktX4_number_3
def dkwX4_number_1 : List UInt8 := [42, 42, 180, 0, 42, 182, 0, 72, 153, 0, 49, 42, 180, 0, 42, 29, 100, 8, 162, 0, 26, 16, 10]
abbrev dktX4_number_1 : List UInt8 := dkwX4_number_1 ++ dktX4_number_2
def dkwX4_number_0 : List UInt8 := [42, 182, 0, 52, 87, 42, 180, 0, 42, 62, 42, 42, 29, 182, 0, 72, 3, 29, 182, 0, 76, 3, 54, 4]
abbrev dktX4_number_0 : List UInt8 := dkwX4_number_0 ++ dktX4_number_1
theorem dksX4_number_0 : cX4_number.data.toList.drop 0 = dktX4_number_0 := by decide +kernel
theorem dksX4_number_1 : cX4_number.data.toList.drop 24 = dktX4_number_1 := dk_seg dksX4_number_0 24 rfl rfl
theorem dksX4_number_2 : cX4_number.data.toList.drop 47 = dktX4_number_2 := dk_seg dksX4_number_1 23 rfl rfl
theorem dksX4_number_3 : cX4_number.data.toList.drop 70 = dktX4_number_3 := dk_seg dksX4_number_2 23 rfl rfl
theorem dksX4_number_4 : cX4_number.data.toList.drop 94 = dktX4_number_4 := dk_seg dksX4_number_3 24 rfl rfl
theorem dX4_number_0 : decode cX4_number 0 = .ok (.aload_n 0, 1) := dk_42 (dk_at dksX4_number_0 0 rfl rfl)
theorem dX4_number_1 : decode cX4_number 1 = .ok (.invokevirtual 52, 3) := dk_182 0 52 (dk_at dksX4_number_0 1 rfl rfl)
theorem dX4_number_4 : decode cX4_number 4 = .ok (.pop, 1) := dk_87 (dk_at dksX4_number_0 4 rfl rfl)
theorem dX4_number_5 : decode cX4_number 5 = .ok (.aload_n 0, 1) := dk_42 (dk_at dksX4_number_0 5 rfl rfl)
theorem dX4_number_6 : decode cX4_number 6 = .ok (.getfield 42, 3) := dk_180 0 42 (dk_at dksX4_number_0 6 rfl rfl)
theorem dX4_number_9 : decode cX4_number 9 = .ok (.istore_n 3, 1) := dk_62 (dk_at dksX4_number_0 9 rfl rfl)
theorem dX4_number_10 : decode cX4_number 10 = .ok (.aload_n 0, 1) := dk_42 (dk_at dksX4_number_0 10 rfl rfl)
theorem dX4_number_11 : decode cX4_number 11 = .ok (.aload_n 0, 1) := dk_42 (dk_at dksX4_number_0 11 rfl rfl)
theorem dX4_number_12 : decode cX4_number 12 = .ok (.iload_n 3, 1) := dk_29 (dk_at dksX4_number_0 12 rfl rfl)
theorem dX4_number_13 : decode cX4_number 13 = .ok (.invokevirtual 72, 3) := dk_182 0 72 (dk_at dksX4_number_0 13 rfl rfl)
theorem dX4_number_16 : decode cX4_number 16 = .ok (.iconst 0, 1) := dk_3 (dk_at dksX4_number_0 16 rfl rfl)
theorem dX4_number_17 : decode cX4_number 17 = .ok (.iload_n 3, 1) := dk_29 (dk_at dksX4_number_0 17 rfl rfl)
theorem dX4_number_18 : decode cX4_number 18 = .ok (.invokevirtual 76, 3) := dk_182 0 76 (dk_at dksX4_number_0 18 rfl rfl)
theorem dX4_number_21 : decode cX4_number 21 = .ok (.iconst 0, 1) := dk_3 (dk_at dksX4_number_0 21 rfl rfl)
theorem dX4_number_22 : decode cX4_number 22 = .ok (.istore 4, 2) := dk_54 4 (dk_at dksX4_number_0 22 rfl rfl)
theorem dX4_number_24 : decode cX4_number 24 = .ok (.aload_n 0, 1) := dk_42 (dk_at dksX4_number_1 0 rfl rfl)
theorem dX4_number_25 : decode cX4_number 25 = .ok (.aload_n 0, 1) := dk_42 (dk_at dksX4_number_1 1 rfl rfl)
theorem dX4_number_26 : decode cX4_number 26 = .ok (.getfield 42, 3) := dk_180 0 42 (dk_at dksX4_number_1 2 rfl rfl)
theorem dX4_number_29 : decode cX4_number 29 = .ok (.invokevirtual 72, 3) := dk_182 0 72 (dk_at dksX4_number_1 5 rfl rfl)
theorem dX4_number_32 : decode cX4_number 32 = .ok (.ifCond .eq 49, 3) := dk_153 0 49 (dk_at dksX4_number_1 8 rfl rfl)
theorem dX4_number_35 : decode cX4_number 35 = .ok (.aload_n 0, 1) := dk_42 (dk_at dksX4_number_1 11 rfl rfl)
theorem dX4_number_36 : decode cX4_number 36 = .ok (.getfield 42, 3) := dk_180 0 42 (dk_at dksX4_number_1 12 rfl rfl)
theorem dX4_number_39 : decode cX4_number 39 = .ok (.iload_n 3, 1) := dk_29 (dk_at dksX4_number_1 15 rfl rfl)
theorem dX4_number_40 : decode cX4_number 40 = .ok (.isub, 1) := dk_100 (dk_at dksX4_number_1 16 rfl rfl)
theorem dX4_number_41 : decode cX4_number 41 = .ok (.iconst 5, 1) := dk_8 (dk_at dksX4_number_1 17 rfl rfl)
theorem dX4_number_42 : decode cX4_number 42 = .ok (.if_icmp .ge 26, 3) := dk_162 0 26 (dk_at dksX4_number_1 18 rfl rfl)
theorem dX4_number_45 : decode cX4_number 45 = .ok (.bipush 10, 2) := dk_16 10 (dk_at dksX4_number_1 21 rfl rfl)
theorem dX4_number_47 : decode cX4_number 47 = .ok (.iload 4, 2) := dk_21 4 (dk_at dksX4_number_2 0 rfl rfl)
theorem dX4_number_49 : decode cX4_number 49 = .ok (.imul, 1) := dk_104 (dk_at dksX4_number_2 2 rfl rfl)
theorem dX4_number_50 : decode cX4_number 50 = .ok (.aload_n 0, 1) := dk_42 (dk_at dksX4_number_2 3 rfl rfl)
theorem dX4_number_51 : decode cX4_number 51 = .ok (.getfield 3, 3) := dk_180 0 3 (dk_at dksX4_number_2 4 rfl rfl)
theorem dX4_number_54 : decode cX4_number 54 = .ok (.getfield 48, 3) := dk_180 0 48 (dk_at dksX4_number_2 7 rfl rfl)
theorem dX4_number_57 : decode cX4_number 57 = .ok (.aload_n 0, 1) := dk_42 (dk_at dksX4_number_2 10 rfl rfl)
theorem dX4_number_58 : decode cX4_number 58 = .ok (.getfield 42, 3) := dk_180 0 42 (dk_at dksX4_number_2 11 rfl rfl)
theorem dX4_number_61 : decode cX4_number 61 = .ok (.baload, 1) := dk_51 (dk_at dksX4_number_2 14 rfl rfl)
theorem dX4_number_62 : decode cX4_number 62 = .ok (.iadd, 1) := dk_96 (dk_at dksX4_number_2 15 rfl rfl)
theorem dX4_number_63 : decode cX4_number 63 = .ok (.bipush 48, 2) := dk_16 48 (dk_at dksX4_number_2 16 rfl rfl)
theorem dX4_number_65 : decode cX4_number 65 = .ok (.isub, 1) := dk_100 (dk_at dksX4_number_2 18 rfl rfl)
theorem dX4_number_66 : decode cX4_number 66 = .ok (.istore 4, 2) := dk_54 4 (dk_at dksX4_number_2 19 rfl rfl)
theorem dX4_number_68 : decode cX4_number 68 = .ok (.aload_n 0, 1) := dk_42 (dk_at dksX4_number_2 21 rfl rfl)
theorem dX4_number_69 : decode cX4_number 69 = .ok (.dup, 1) := dk_89 (dk_at dksX4_number_2 22 rfl rfl)
theorem dX4_number_70 : decode cX4_number 70 = .ok (.getfield 42, 3) := dk_180 0 42 (dk_at dksX4_number_3 0 rfl rfl)
theorem dX4_number_73 : decode cX4_number 73 = .ok (.iconst 1, 1) := dk_4 (dk_at dksX4_number_3 3 rfl rfl)
theorem dX4_number_74 : decode cX4_number 74 = .ok (.iadd, 1) := dk_96 (dk_at dksX4_number_3 4 rfl rfl)
theorem dX4_number_75 : decode cX4_number 75 = .ok (.putfield 42, 3) := dk_181 0 42 (dk_at dksX4_number_3 5 rfl rfl)
theorem dX4_number_78 : decode cX4_number 78 = .ok (.goto (-54), 3) := dk_167 255 202 (dk_at dksX4_number_3 8 rfl rfl)
theorem dX4_number_81 : decode cX4_number 81 = .ok (.aload_n 0, 1) := dk_42 (dk_at dksX4_number_3 11 rfl rfl)
theorem dX4_number_82 : decode cX4_number 82 = .ok (.aload_n 0, 1) := dk_42 (dk_at dksX4_number_3 12 rfl rfl)
theorem dX4_number_83 : decode cX4_number 83 = .ok (.getfield 42, 3) := dk_180 0 42 (dk_at dksX4_number_3 13 rfl rfl)
theorem dX4_number_86 : decode cX4_number 86 = .ok (.iload_n 3, 1) := dk_29 (dk_at dksX4_number_3 16 rfl rfl)
theorem dX4_number_87 : decode cX4_number 87 = .ok (.isub, 1) := dk_100 (dk_at dksX4_number_3 17 rfl rfl)
theorem dX4_number_88 : decode cX4_number 88 = .ok (.iconst 5, 1) := dk_8 (dk_at dksX4_number_3 18 rfl rfl)
theorem dX4_number_89 : decode cX4_number 89 = .ok (.if_icmp .gt 20, 3) := dk_163 0 20 (dk_at dksX4_number_3 19 rfl rfl)
theorem dX4_number_92 : decode cX4_number 92 = .ok (.iload 4, 2) := dk_21 4 (dk_at dksX4_number_3 22 rfl rfl)
theorem dX4_number_94 : decode cX4_number 94 = .ok (.i2l, 1) := dk_133 (dk_at dksX4_number_4 0 rfl rfl)
theorem dX4_number_95 : decode cX4_number 95 = .ok (.iload_n 1, 1) := dk_27 (dk_at dksX4_number_4 1 rfl rfl)
theorem dX4_number_96 : decode cX4_number 96 = .ok (.i2l, 1) := dk_133 (dk_at dksX4_number_4 2 rfl rfl)
theorem dX4_number_97 : decode cX4_number 97 = .ok (.iload_n 2, 1) := dk_28 (dk_at dksX4_number_4 3 rfl rfl)
theorem dX4_number_98 : decode cX4_number 98 = .ok (.i2l, 1) := dk_133 (dk_at dksX4_number_4 4 rfl rfl)
theorem dX4_number_99 : decode cX4_number 99 = .ok (.invokestatic 80, 3) := dk_184 0 80 (dk_at dksX4_number_4 5 rfl rfl)
theorem dX4_number_102 : decode cX4_number 102 = .ok (.ifCond .eq 7, 3) := dk_153 0 7 (dk_at dksX4_number_4 8 rfl rfl)
theorem dX4_number_105 : decode cX4_number 105 = .ok (.iconst 1, 1) := dk_4 (dk_at dksX4_number_4 11 rfl rfl)
theorem dX4_number_106 : decode cX4_number 106 = .ok (.goto 4, 3) := dk_167 0 4 (dk_at dksX4_number_4 12 rfl rfl)
theorem dX4_number_109 : decode cX4_number 109 = .ok (.iconst 0, 1) := dk_3 (dk_at dksX4_number_4 15 rfl rfl)
theorem dX4_number_110 : decode cX4_number 110 = .ok (.iconst 1, 1) := dk_4 (dk_at dksX4_number_4 16 rfl rfl)
theorem dX4_number_111 : decode cX4_number 111 = .ok (.iload_n 3, 1) := dk_29 (dk_at dksX4_number_4 17 rfl rfl)
theorem dX4_number_112 : decode cX4_number 112 = .ok (.invokevirtual 76, 3) := dk_182 0 76 (dk_at dksX4_number_4 18 rfl rfl)
theorem dX4_number_115 : decode cX4_number 115 = .ok (.iload 4, 2) := dk_21 4 (dk_at dksX4_number_4 21 rfl rfl)
theorem dX4_number_117 : decode cX4_number 117 = .ok (.ireturn, 1) := dk_172 (dk_at dksX4_number_4 23 rfl rfl)
abbrev cX4_isDigit : ByteArray := prog_13_method_9_code
def yX4_isDigit : MethodName := ⟨RX4, "isDigit", "(I)Z"⟩
def dkwX4_isDigit_1 : List UInt8 := [161, 0, 21, 42, 180, 0, 3, 180, 0, 48, 27, 51, 16, 57, 163, 0, 7, 4, 167, 0, 4, 3, 172]
abbrev dktX4_isDigit_1 : List UInt8 := dkwX4_isDigit_1 ++ []
def dkwX4_isDigit_0 : List UInt8 := [27, 42, 180, 0, 3, 180, 0, 45, 162, 0, 35, 42, 180, 0, 3, 180, 0, 48, 27, 51, 16, 48]
abbrev dktX4_isDigit_0 : List UInt8 := dkwX4_isDigit_0 ++ dktX4_isDigit_1
theorem dksX4_isDigit_0 : cX4_isDigit.data.toList.drop 0 = dktX4_isDigit_0 := by decide +kernel
theorem dksX4_isDigit_1 : cX4_isDigit.data.toList.drop 22 = dktX4_isDigit_1 := dk_seg dksX4_isDigit_0 22 rfl rfl
theorem dX4_isDigit_0 : decode cX4_isDigit 0 = .ok (.iload_n 1, 1) := dk_27 (dk_at dksX4_isDigit_0 0 rfl rfl)
theorem dX4_isDigit_1 : decode cX4_isDigit 1 = .ok (.aload_n 0, 1) := dk_42 (dk_at dksX4_isDigit_0 1 rfl rfl)
theorem dX4_isDigit_2 : decode cX4_isDigit 2 = .ok (.getfield 3, 3) := dk_180 0 3 (dk_at dksX4_isDigit_0 2 rfl rfl)
theorem dX4_isDigit_5 : decode cX4_isDigit 5 = .ok (.getfield 45, 3) := dk_180 0 45 (dk_at dksX4_isDigit_0 5 rfl rfl)
theorem dX4_isDigit_8 : decode cX4_isDigit 8 = .ok (.if_icmp .ge 35, 3) := dk_162 0 35 (dk_at dksX4_isDigit_0 8 rfl rfl)
theorem dX4_isDigit_11 : decode cX4_isDigit 11 = .ok (.aload_n 0, 1) := dk_42 (dk_at dksX4_isDigit_0 11 rfl rfl)
theorem dX4_isDigit_12 : decode cX4_isDigit 12 = .ok (.getfield 3, 3) := dk_180 0 3 (dk_at dksX4_isDigit_0 12 rfl rfl)
theorem dX4_isDigit_15 : decode cX4_isDigit 15 = .ok (.getfield 48, 3) := dk_180 0 48 (dk_at dksX4_isDigit_0 15 rfl rfl)
theorem dX4_isDigit_18 : decode cX4_isDigit 18 = .ok (.iload_n 1, 1) := dk_27 (dk_at dksX4_isDigit_0 18 rfl rfl)
theorem dX4_isDigit_19 : decode cX4_isDigit 19 = .ok (.baload, 1) := dk_51 (dk_at dksX4_isDigit_0 19 rfl rfl)
theorem dX4_isDigit_20 : decode cX4_isDigit 20 = .ok (.bipush 48, 2) := dk_16 48 (dk_at dksX4_isDigit_0 20 rfl rfl)
theorem dX4_isDigit_22 : decode cX4_isDigit 22 = .ok (.if_icmp .lt 21, 3) := dk_161 0 21 (dk_at dksX4_isDigit_1 0 rfl rfl)
theorem dX4_isDigit_25 : decode cX4_isDigit 25 = .ok (.aload_n 0, 1) := dk_42 (dk_at dksX4_isDigit_1 3 rfl rfl)
theorem dX4_isDigit_26 : decode cX4_isDigit 26 = .ok (.getfield 3, 3) := dk_180 0 3 (dk_at dksX4_isDigit_1 4 rfl rfl)
theorem dX4_isDigit_29 : decode cX4_isDigit 29 = .ok (.getfield 48, 3) := dk_180 0 48 (dk_at dksX4_isDigit_1 7 rfl rfl)
theorem dX4_isDigit_32 : decode cX4_isDigit 32 = .ok (.iload_n 1, 1) := dk_27 (dk_at dksX4_isDigit_1 10 rfl rfl)
theorem dX4_isDigit_33 : decode cX4_isDigit 33 = .ok (.baload, 1) := dk_51 (dk_at dksX4_isDigit_1 11 rfl rfl)
theorem dX4_isDigit_34 : decode cX4_isDigit 34 = .ok (.bipush 57, 2) := dk_16 57 (dk_at dksX4_isDigit_1 12 rfl rfl)
theorem dX4_isDigit_36 : decode cX4_isDigit 36 = .ok (.if_icmp .gt 7, 3) := dk_163 0 7 (dk_at dksX4_isDigit_1 14 rfl rfl)
theorem dX4_isDigit_39 : decode cX4_isDigit 39 = .ok (.iconst 1, 1) := dk_4 (dk_at dksX4_isDigit_1 17 rfl rfl)
theorem dX4_isDigit_40 : decode cX4_isDigit 40 = .ok (.goto 4, 3) := dk_167 0 4 (dk_at dksX4_isDigit_1 18 rfl rfl)
theorem dX4_isDigit_43 : decode cX4_isDigit 43 = .ok (.iconst 0, 1) := dk_3 (dk_at dksX4_isDigit_1 21 rfl rfl)
theorem dX4_isDigit_44 : decode cX4_isDigit 44 = .ok (.ireturn, 1) := dk_172 (dk_at dksX4_isDigit_1 22 rfl rfl)
abbrev cX4_mileHere : ByteArray := prog_13_method_15_code
def yX4_mileHere : MethodName := ⟨RX4, "mileHere", "()I"⟩
def dkwX4_mileHere_0 : List UInt8 := [42, 3, 42, 180, 0, 26, 180, 0, 93, 4, 100, 182, 0, 104, 172]
abbrev dktX4_mileHere_0 : List UInt8 := dkwX4_mileHere_0 ++ []
theorem dksX4_mileHere_0 : cX4_mileHere.data.toList.drop 0 = dktX4_mileHere_0 := by decide +kernel
theorem dX4_mileHere_0 : decode cX4_mileHere 0 = .ok (.aload_n 0, 1) := dk_42 (dk_at dksX4_mileHere_0 0 rfl rfl)
theorem dX4_mileHere_1 : decode cX4_mileHere 1 = .ok (.iconst 0, 1) := dk_3 (dk_at dksX4_mileHere_0 1 rfl rfl)
theorem dX4_mileHere_2 : decode cX4_mileHere 2 = .ok (.aload_n 0, 1) := dk_42 (dk_at dksX4_mileHere_0 2 rfl rfl)
theorem dX4_mileHere_3 : decode cX4_mileHere 3 = .ok (.getfield 26, 3) := dk_180 0 26 (dk_at dksX4_mileHere_0 3 rfl rfl)
theorem dX4_mileHere_6 : decode cX4_mileHere 6 = .ok (.getfield 93, 3) := dk_180 0 93 (dk_at dksX4_mileHere_0 6 rfl rfl)
theorem dX4_mileHere_9 : decode cX4_mileHere 9 = .ok (.iconst 1, 1) := dk_4 (dk_at dksX4_mileHere_0 9 rfl rfl)
theorem dX4_mileHere_10 : decode cX4_mileHere 10 = .ok (.isub, 1) := dk_100 (dk_at dksX4_mileHere_0 10 rfl rfl)
theorem dX4_mileHere_11 : decode cX4_mileHere 11 = .ok (.invokevirtual 104, 3) := dk_182 0 104 (dk_at dksX4_mileHere_0 11 rfl rfl)
theorem dX4_mileHere_14 : decode cX4_mileHere 14 = .ok (.ireturn, 1) := dk_172 (dk_at dksX4_mileHere_0 14 rfl rfl)
abbrev cX4_warmHere : ByteArray := prog_13_method_17_code
def yX4_warmHere : MethodName := ⟨RX4, "warmHere", "()V"⟩
def dkwX4_warmHere_2 : List UInt8 := [167, 255, 236, 177]
abbrev dktX4_warmHere_2 : List UInt8 := dkwX4_warmHere_2 ++ []
def dkwX4_warmHere_1 : List UInt8 := [27, 54, 4, 21, 4, 28, 163, 0, 20, 42, 180, 0, 26, 180, 0, 115, 21, 4, 29, 79, 132, 4, 1]
abbrev dktX4_warmHere_1 : List UInt8 := dkwX4_warmHere_1 ++ dktX4_warmHere_2
def dkwX4_warmHere_0 : List UInt8 := [42, 3, 16, 99, 182, 0, 104, 60, 42, 27, 16, 99, 182, 0, 104, 61, 42, 4, 16, 9, 182, 0, 104, 62]
abbrev dktX4_warmHere_0 : List UInt8 := dkwX4_warmHere_0 ++ dktX4_warmHere_1
theorem dksX4_warmHere_0 : cX4_warmHere.data.toList.drop 0 = dktX4_warmHere_0 := by decide +kernel
theorem dksX4_warmHere_1 : cX4_warmHere.data.toList.drop 24 = dktX4_warmHere_1 := dk_seg dksX4_warmHere_0 24 rfl rfl
theorem dksX4_warmHere_2 : cX4_warmHere.data.toList.drop 47 = dktX4_warmHere_2 := dk_seg dksX4_warmHere_1 23 rfl rfl
theorem dX4_warmHere_0 : decode cX4_warmHere 0 = .ok (.aload_n 0, 1) := dk_42 (dk_at dksX4_warmHere_0 0 rfl rfl)
theorem dX4_warmHere_1 : decode cX4_warmHere 1 = .ok (.iconst 0, 1) := dk_3 (dk_at dksX4_warmHere_0 1 rfl rfl)
theorem dX4_warmHere_2 : decode cX4_warmHere 2 = .ok (.bipush 99, 2) := dk_16 99 (dk_at dksX4_warmHere_0 2 rfl rfl)
theorem dX4_warmHere_4 : decode cX4_warmHere 4 = .ok (.invokevirtual 104, 3) := dk_182 0 104 (dk_at dksX4_warmHere_0 4 rfl rfl)
theorem dX4_warmHere_7 : decode cX4_warmHere 7 = .ok (.istore_n 1, 1) := dk_60 (dk_at dksX4_warmHere_0 7 rfl rfl)
theorem dX4_warmHere_8 : decode cX4_warmHere 8 = .ok (.aload_n 0, 1) := dk_42 (dk_at dksX4_warmHere_0 8 rfl rfl)
theorem dX4_warmHere_9 : decode cX4_warmHere 9 = .ok (.iload_n 1, 1) := dk_27 (dk_at dksX4_warmHere_0 9 rfl rfl)
theorem dX4_warmHere_10 : decode cX4_warmHere 10 = .ok (.bipush 99, 2) := dk_16 99 (dk_at dksX4_warmHere_0 10 rfl rfl)
theorem dX4_warmHere_12 : decode cX4_warmHere 12 = .ok (.invokevirtual 104, 3) := dk_182 0 104 (dk_at dksX4_warmHere_0 12 rfl rfl)
theorem dX4_warmHere_15 : decode cX4_warmHere 15 = .ok (.istore_n 2, 1) := dk_61 (dk_at dksX4_warmHere_0 15 rfl rfl)
theorem dX4_warmHere_16 : decode cX4_warmHere 16 = .ok (.aload_n 0, 1) := dk_42 (dk_at dksX4_warmHere_0 16 rfl rfl)
theorem dX4_warmHere_17 : decode cX4_warmHere 17 = .ok (.iconst 1, 1) := dk_4 (dk_at dksX4_warmHere_0 17 rfl rfl)
theorem dX4_warmHere_18 : decode cX4_warmHere 18 = .ok (.bipush 9, 2) := dk_16 9 (dk_at dksX4_warmHere_0 18 rfl rfl)
theorem dX4_warmHere_20 : decode cX4_warmHere 20 = .ok (.invokevirtual 104, 3) := dk_182 0 104 (dk_at dksX4_warmHere_0 20 rfl rfl)
theorem dX4_warmHere_23 : decode cX4_warmHere 23 = .ok (.istore_n 3, 1) := dk_62 (dk_at dksX4_warmHere_0 23 rfl rfl)
theorem dX4_warmHere_24 : decode cX4_warmHere 24 = .ok (.iload_n 1, 1) := dk_27 (dk_at dksX4_warmHere_1 0 rfl rfl)
theorem dX4_warmHere_25 : decode cX4_warmHere 25 = .ok (.istore 4, 2) := dk_54 4 (dk_at dksX4_warmHere_1 1 rfl rfl)
theorem dX4_warmHere_27 : decode cX4_warmHere 27 = .ok (.iload 4, 2) := dk_21 4 (dk_at dksX4_warmHere_1 3 rfl rfl)
theorem dX4_warmHere_29 : decode cX4_warmHere 29 = .ok (.iload_n 2, 1) := dk_28 (dk_at dksX4_warmHere_1 5 rfl rfl)
theorem dX4_warmHere_30 : decode cX4_warmHere 30 = .ok (.if_icmp .gt 20, 3) := dk_163 0 20 (dk_at dksX4_warmHere_1 6 rfl rfl)
theorem dX4_warmHere_33 : decode cX4_warmHere 33 = .ok (.aload_n 0, 1) := dk_42 (dk_at dksX4_warmHere_1 9 rfl rfl)
theorem dX4_warmHere_34 : decode cX4_warmHere 34 = .ok (.getfield 26, 3) := dk_180 0 26 (dk_at dksX4_warmHere_1 10 rfl rfl)
theorem dX4_warmHere_37 : decode cX4_warmHere 37 = .ok (.getfield 115, 3) := dk_180 0 115 (dk_at dksX4_warmHere_1 13 rfl rfl)
theorem dX4_warmHere_40 : decode cX4_warmHere 40 = .ok (.iload 4, 2) := dk_21 4 (dk_at dksX4_warmHere_1 16 rfl rfl)
theorem dX4_warmHere_42 : decode cX4_warmHere 42 = .ok (.iload_n 3, 1) := dk_29 (dk_at dksX4_warmHere_1 18 rfl rfl)
theorem dX4_warmHere_43 : decode cX4_warmHere 43 = .ok (.iastore, 1) := dk_79 (dk_at dksX4_warmHere_1 19 rfl rfl)
theorem dX4_warmHere_44 : decode cX4_warmHere 44 = .ok (.iinc 4 1, 3) := dk_132 4 1 (dk_at dksX4_warmHere_1 20 rfl rfl)
theorem dX4_warmHere_47 : decode cX4_warmHere 47 = .ok (.goto (-20), 3) := dk_167 255 236 (dk_at dksX4_warmHere_2 0 rfl rfl)
theorem dX4_warmHere_50 : decode cX4_warmHere 50 = .ok (.return_, 1) := dk_177 (dk_at dksX4_warmHere_2 3 rfl rfl)
abbrev cX4_takesSign : ByteArray := prog_13_method_4_code
def yX4_takesSign : MethodName := ⟨RX4, "takesSign", "(I)Z"⟩
def dkwX4_takesSign_0 : List UInt8 := [42, 182, 0, 52, 27, 159, 0, 5, 3, 172, 42, 89, 180, 0, 42, 4, 96, 181, 0, 42, 4, 172]
abbrev dktX4_takesSign_0 : List UInt8 := dkwX4_takesSign_0 ++ []
theorem dksX4_takesSign_0 : cX4_takesSign.data.toList.drop 0 = dktX4_takesSign_0 := by decide +kernel
theorem dX4_takesSign_0 : decode cX4_takesSign 0 = .ok (.aload_n 0, 1) := dk_42 (dk_at dksX4_takesSign_0 0 rfl rfl)
theorem dX4_takesSign_1 : decode cX4_takesSign 1 = .ok (.invokevirtual 52, 3) := dk_182 0 52 (dk_at dksX4_takesSign_0 1 rfl rfl)
theorem dX4_takesSign_4 : decode cX4_takesSign 4 = .ok (.iload_n 1, 1) := dk_27 (dk_at dksX4_takesSign_0 4 rfl rfl)
theorem dX4_takesSign_5 : decode cX4_takesSign 5 = .ok (.if_icmp .eq 5, 3) := dk_159 0 5 (dk_at dksX4_takesSign_0 5 rfl rfl)
theorem dX4_takesSign_8 : decode cX4_takesSign 8 = .ok (.iconst 0, 1) := dk_3 (dk_at dksX4_takesSign_0 8 rfl rfl)
theorem dX4_takesSign_9 : decode cX4_takesSign 9 = .ok (.ireturn, 1) := dk_172 (dk_at dksX4_takesSign_0 9 rfl rfl)
theorem dX4_takesSign_10 : decode cX4_takesSign 10 = .ok (.aload_n 0, 1) := dk_42 (dk_at dksX4_takesSign_0 10 rfl rfl)
theorem dX4_takesSign_11 : decode cX4_takesSign 11 = .ok (.dup, 1) := dk_89 (dk_at dksX4_takesSign_0 11 rfl rfl)
theorem dX4_takesSign_12 : decode cX4_takesSign 12 = .ok (.getfield 42, 3) := dk_180 0 42 (dk_at dksX4_takesSign_0 12 rfl rfl)
theorem dX4_takesSign_15 : decode cX4_takesSign 15 = .ok (.iconst 1, 1) := dk_4 (dk_at dksX4_takesSign_0 15 rfl rfl)
theorem dX4_takesSign_16 : decode cX4_takesSign 16 = .ok (.iadd, 1) := dk_96 (dk_at dksX4_takesSign_0 16 rfl rfl)
theorem dX4_takesSign_17 : decode cX4_takesSign 17 = .ok (.putfield 42, 3) := dk_181 0 42 (dk_at dksX4_takesSign_0 17 rfl rfl)
theorem dX4_takesSign_20 : decode cX4_takesSign 20 = .ok (.iconst 1, 1) := dk_4 (dk_at dksX4_takesSign_0 20 rfl rfl)
theorem dX4_takesSign_21 : decode cX4_takesSign 21 = .ok (.ireturn, 1) := dk_172 (dk_at dksX4_takesSign_0 21 rfl rfl)
abbrev cX4_ends : ByteArray := prog_13_method_13_code
def yX4_ends : MethodName := ⟨RX4, "ends", "()V"⟩
def dkwX4_ends_0 : List UInt8 := [42, 42, 182, 0, 52, 2, 160, 0, 7, 4, 167, 0, 4, 3, 3, 42, 180, 0, 42, 182, 0, 76, 177]
abbrev dktX4_ends_0 : List UInt8 := dkwX4_ends_0 ++ []
theorem dksX4_ends_0 : cX4_ends.data.toList.drop 0 = dktX4_ends_0 := by decide +kernel
theorem dX4_ends_0 : decode cX4_ends 0 = .ok (.aload_n 0, 1) := dk_42 (dk_at dksX4_ends_0 0 rfl rfl)
theorem dX4_ends_1 : decode cX4_ends 1 = .ok (.aload_n 0, 1) := dk_42 (dk_at dksX4_ends_0 1 rfl rfl)
theorem dX4_ends_2 : decode cX4_ends 2 = .ok (.invokevirtual 52, 3) := dk_182 0 52 (dk_at dksX4_ends_0 2 rfl rfl)
theorem dX4_ends_5 : decode cX4_ends 5 = .ok (.iconst (-1), 1) := dk_2 (dk_at dksX4_ends_0 5 rfl rfl)
theorem dX4_ends_6 : decode cX4_ends 6 = .ok (.if_icmp .ne 7, 3) := dk_160 0 7 (dk_at dksX4_ends_0 6 rfl rfl)
theorem dX4_ends_9 : decode cX4_ends 9 = .ok (.iconst 1, 1) := dk_4 (dk_at dksX4_ends_0 9 rfl rfl)
theorem dX4_ends_10 : decode cX4_ends 10 = .ok (.goto 4, 3) := dk_167 0 4 (dk_at dksX4_ends_0 10 rfl rfl)
theorem dX4_ends_13 : decode cX4_ends 13 = .ok (.iconst 0, 1) := dk_3 (dk_at dksX4_ends_0 13 rfl rfl)
theorem dX4_ends_14 : decode cX4_ends 14 = .ok (.iconst 0, 1) := dk_3 (dk_at dksX4_ends_0 14 rfl rfl)
theorem dX4_ends_15 : decode cX4_ends 15 = .ok (.aload_n 0, 1) := dk_42 (dk_at dksX4_ends_0 15 rfl rfl)
theorem dX4_ends_16 : decode cX4_ends 16 = .ok (.getfield 42, 3) := dk_180 0 42 (dk_at dksX4_ends_0 16 rfl rfl)
theorem dX4_ends_19 : decode cX4_ends 19 = .ok (.invokevirtual 76, 3) := dk_182 0 76 (dk_at dksX4_ends_0 19 rfl rfl)
theorem dX4_ends_22 : decode cX4_ends 22 = .ok (.return_, 1) := dk_177 (dk_at dksX4_ends_0 22 rfl rfl)
abbrev cX4_ruleTold : ByteArray := prog_13_method_21_code
def yX4_ruleTold : MethodName := ⟨RX4, "ruleTold", "()LDoughBorder$Rule;"⟩
def dkwX4_ruleTold_5 : List UInt8 := [182, 0, 170, 43, 176]
abbrev dktX4_ruleTold_5 : List UInt8 := dkwX4_ruleTold_5 ++ []
def dkwX4_ruleTold_4 : List UInt8 := [182, 0, 219, 83, 43, 89, 180, 0, 218, 4, 96, 181, 0, 218, 42, 16, 59, 182, 0, 167, 154, 255, 152, 42]
abbrev dktX4_ruleTold_4 : List UInt8 := dkwX4_ruleTold_4 ++ dktX4_ruleTold_5
def dkwX4_ruleTold_3 : List UInt8 := [181, 0, 90, 42, 89, 180, 0, 42, 8, 96, 181, 0, 42, 43, 180, 0, 214, 43, 180, 0, 218, 42]
abbrev dktX4_ruleTold_3 : List UInt8 := dkwX4_ruleTold_3 ++ dktX4_ruleTold_4
def dkwX4_ruleTold_2 : List UInt8 := [16, 12, 162, 0, 7, 4, 167, 0, 4, 3, 7, 28, 182, 0, 76, 42, 89, 180, 0, 90, 4, 96]
abbrev dktX4_ruleTold_2 : List UInt8 := dkwX4_ruleTold_2 ++ dktX4_ruleTold_3
def dkwX4_ruleTold_1 : List UInt8 := [180, 0, 211, 182, 0, 157, 154, 0, 7, 4, 167, 0, 4, 3, 3, 28, 182, 0, 76, 42, 42, 180, 0, 90]
abbrev dktX4_ruleTold_1 : List UInt8 := dkwX4_ruleTold_1 ++ dktX4_ruleTold_2
def dkwX4_ruleTold_0 : List UInt8 := [187, 0, 208, 89, 183, 0, 210, 76, 42, 182, 0, 52, 87, 42, 180, 0, 42, 61, 42, 42, 42, 180, 0, 3]
abbrev dktX4_ruleTold_0 : List UInt8 := dkwX4_ruleTold_0 ++ dktX4_ruleTold_1
theorem dksX4_ruleTold_0 : cX4_ruleTold.data.toList.drop 0 = dktX4_ruleTold_0 := by decide +kernel
theorem dksX4_ruleTold_1 : cX4_ruleTold.data.toList.drop 24 = dktX4_ruleTold_1 := dk_seg dksX4_ruleTold_0 24 rfl rfl
theorem dksX4_ruleTold_2 : cX4_ruleTold.data.toList.drop 48 = dktX4_ruleTold_2 := dk_seg dksX4_ruleTold_1 24 rfl rfl
theorem dksX4_ruleTold_3 : cX4_ruleTold.data.toList.drop 70 = dktX4_ruleTold_3 := dk_seg dksX4_ruleTold_2 22 rfl rfl
theorem dksX4_ruleTold_4 : cX4_ruleTold.data.toList.drop 92 = dktX4_ruleTold_4 := dk_seg dksX4_ruleTold_3 22 rfl rfl
theorem dksX4_ruleTold_5 : cX4_ruleTold.data.toList.drop 116 = dktX4_ruleTold_5 := dk_seg dksX4_ruleTold_4 24 rfl rfl
theorem dX4_ruleTold_0 : decode cX4_ruleTold 0 = .ok (.new 208, 3) := dk_187 0 208 (dk_at dksX4_ruleTold_0 0 rfl rfl)
theorem dX4_ruleTold_3 : decode cX4_ruleTold 3 = .ok (.dup, 1) := dk_89 (dk_at dksX4_ruleTold_0 3 rfl rfl)
theorem dX4_ruleTold_4 : decode cX4_ruleTold 4 = .ok (.invokespecial 210, 3) := dk_183 0 210 (dk_at dksX4_ruleTold_0 4 rfl rfl)
theorem dX4_ruleTold_7 : decode cX4_ruleTold 7 = .ok (.astore_n 1, 1) := dk_76 (dk_at dksX4_ruleTold_0 7 rfl rfl)
theorem dX4_ruleTold_8 : decode cX4_ruleTold 8 = .ok (.aload_n 0, 1) := dk_42 (dk_at dksX4_ruleTold_0 8 rfl rfl)
theorem dX4_ruleTold_9 : decode cX4_ruleTold 9 = .ok (.invokevirtual 52, 3) := dk_182 0 52 (dk_at dksX4_ruleTold_0 9 rfl rfl)
theorem dX4_ruleTold_12 : decode cX4_ruleTold 12 = .ok (.pop, 1) := dk_87 (dk_at dksX4_ruleTold_0 12 rfl rfl)
theorem dX4_ruleTold_13 : decode cX4_ruleTold 13 = .ok (.aload_n 0, 1) := dk_42 (dk_at dksX4_ruleTold_0 13 rfl rfl)
theorem dX4_ruleTold_14 : decode cX4_ruleTold 14 = .ok (.getfield 42, 3) := dk_180 0 42 (dk_at dksX4_ruleTold_0 14 rfl rfl)
theorem dX4_ruleTold_17 : decode cX4_ruleTold 17 = .ok (.istore_n 2, 1) := dk_61 (dk_at dksX4_ruleTold_0 17 rfl rfl)
theorem dX4_ruleTold_18 : decode cX4_ruleTold 18 = .ok (.aload_n 0, 1) := dk_42 (dk_at dksX4_ruleTold_0 18 rfl rfl)
theorem dX4_ruleTold_19 : decode cX4_ruleTold 19 = .ok (.aload_n 0, 1) := dk_42 (dk_at dksX4_ruleTold_0 19 rfl rfl)
theorem dX4_ruleTold_20 : decode cX4_ruleTold 20 = .ok (.aload_n 0, 1) := dk_42 (dk_at dksX4_ruleTold_0 20 rfl rfl)
theorem dX4_ruleTold_21 : decode cX4_ruleTold 21 = .ok (.getfield 3, 3) := dk_180 0 3 (dk_at dksX4_ruleTold_0 21 rfl rfl)
theorem dX4_ruleTold_24 : decode cX4_ruleTold 24 = .ok (.getfield 211, 3) := dk_180 0 211 (dk_at dksX4_ruleTold_1 0 rfl rfl)
theorem dX4_ruleTold_27 : decode cX4_ruleTold 27 = .ok (.invokevirtual 157, 3) := dk_182 0 157 (dk_at dksX4_ruleTold_1 3 rfl rfl)
theorem dX4_ruleTold_30 : decode cX4_ruleTold 30 = .ok (.ifCond .ne 7, 3) := dk_154 0 7 (dk_at dksX4_ruleTold_1 6 rfl rfl)
theorem dX4_ruleTold_33 : decode cX4_ruleTold 33 = .ok (.iconst 1, 1) := dk_4 (dk_at dksX4_ruleTold_1 9 rfl rfl)
theorem dX4_ruleTold_34 : decode cX4_ruleTold 34 = .ok (.goto 4, 3) := dk_167 0 4 (dk_at dksX4_ruleTold_1 10 rfl rfl)
theorem dX4_ruleTold_37 : decode cX4_ruleTold 37 = .ok (.iconst 0, 1) := dk_3 (dk_at dksX4_ruleTold_1 13 rfl rfl)
theorem dX4_ruleTold_38 : decode cX4_ruleTold 38 = .ok (.iconst 0, 1) := dk_3 (dk_at dksX4_ruleTold_1 14 rfl rfl)
theorem dX4_ruleTold_39 : decode cX4_ruleTold 39 = .ok (.iload_n 2, 1) := dk_28 (dk_at dksX4_ruleTold_1 15 rfl rfl)
theorem dX4_ruleTold_40 : decode cX4_ruleTold 40 = .ok (.invokevirtual 76, 3) := dk_182 0 76 (dk_at dksX4_ruleTold_1 16 rfl rfl)
theorem dX4_ruleTold_43 : decode cX4_ruleTold 43 = .ok (.aload_n 0, 1) := dk_42 (dk_at dksX4_ruleTold_1 19 rfl rfl)
theorem dX4_ruleTold_44 : decode cX4_ruleTold 44 = .ok (.aload_n 0, 1) := dk_42 (dk_at dksX4_ruleTold_1 20 rfl rfl)
theorem dX4_ruleTold_45 : decode cX4_ruleTold 45 = .ok (.getfield 90, 3) := dk_180 0 90 (dk_at dksX4_ruleTold_1 21 rfl rfl)
theorem dX4_ruleTold_48 : decode cX4_ruleTold 48 = .ok (.bipush 12, 2) := dk_16 12 (dk_at dksX4_ruleTold_2 0 rfl rfl)
theorem dX4_ruleTold_50 : decode cX4_ruleTold 50 = .ok (.if_icmp .ge 7, 3) := dk_162 0 7 (dk_at dksX4_ruleTold_2 2 rfl rfl)
theorem dX4_ruleTold_53 : decode cX4_ruleTold 53 = .ok (.iconst 1, 1) := dk_4 (dk_at dksX4_ruleTold_2 5 rfl rfl)
theorem dX4_ruleTold_54 : decode cX4_ruleTold 54 = .ok (.goto 4, 3) := dk_167 0 4 (dk_at dksX4_ruleTold_2 6 rfl rfl)
theorem dX4_ruleTold_57 : decode cX4_ruleTold 57 = .ok (.iconst 0, 1) := dk_3 (dk_at dksX4_ruleTold_2 9 rfl rfl)
theorem dX4_ruleTold_58 : decode cX4_ruleTold 58 = .ok (.iconst 4, 1) := dk_7 (dk_at dksX4_ruleTold_2 10 rfl rfl)
theorem dX4_ruleTold_59 : decode cX4_ruleTold 59 = .ok (.iload_n 2, 1) := dk_28 (dk_at dksX4_ruleTold_2 11 rfl rfl)
theorem dX4_ruleTold_60 : decode cX4_ruleTold 60 = .ok (.invokevirtual 76, 3) := dk_182 0 76 (dk_at dksX4_ruleTold_2 12 rfl rfl)
theorem dX4_ruleTold_63 : decode cX4_ruleTold 63 = .ok (.aload_n 0, 1) := dk_42 (dk_at dksX4_ruleTold_2 15 rfl rfl)
theorem dX4_ruleTold_64 : decode cX4_ruleTold 64 = .ok (.dup, 1) := dk_89 (dk_at dksX4_ruleTold_2 16 rfl rfl)
theorem dX4_ruleTold_65 : decode cX4_ruleTold 65 = .ok (.getfield 90, 3) := dk_180 0 90 (dk_at dksX4_ruleTold_2 17 rfl rfl)
theorem dX4_ruleTold_68 : decode cX4_ruleTold 68 = .ok (.iconst 1, 1) := dk_4 (dk_at dksX4_ruleTold_2 20 rfl rfl)
theorem dX4_ruleTold_69 : decode cX4_ruleTold 69 = .ok (.iadd, 1) := dk_96 (dk_at dksX4_ruleTold_2 21 rfl rfl)
theorem dX4_ruleTold_70 : decode cX4_ruleTold 70 = .ok (.putfield 90, 3) := dk_181 0 90 (dk_at dksX4_ruleTold_3 0 rfl rfl)
theorem dX4_ruleTold_73 : decode cX4_ruleTold 73 = .ok (.aload_n 0, 1) := dk_42 (dk_at dksX4_ruleTold_3 3 rfl rfl)
theorem dX4_ruleTold_74 : decode cX4_ruleTold 74 = .ok (.dup, 1) := dk_89 (dk_at dksX4_ruleTold_3 4 rfl rfl)
theorem dX4_ruleTold_75 : decode cX4_ruleTold 75 = .ok (.getfield 42, 3) := dk_180 0 42 (dk_at dksX4_ruleTold_3 5 rfl rfl)
theorem dX4_ruleTold_78 : decode cX4_ruleTold 78 = .ok (.iconst 5, 1) := dk_8 (dk_at dksX4_ruleTold_3 8 rfl rfl)
theorem dX4_ruleTold_79 : decode cX4_ruleTold 79 = .ok (.iadd, 1) := dk_96 (dk_at dksX4_ruleTold_3 9 rfl rfl)
theorem dX4_ruleTold_80 : decode cX4_ruleTold 80 = .ok (.putfield 42, 3) := dk_181 0 42 (dk_at dksX4_ruleTold_3 10 rfl rfl)
theorem dX4_ruleTold_83 : decode cX4_ruleTold 83 = .ok (.aload_n 1, 1) := dk_43 (dk_at dksX4_ruleTold_3 13 rfl rfl)
theorem dX4_ruleTold_84 : decode cX4_ruleTold 84 = .ok (.getfield 214, 3) := dk_180 0 214 (dk_at dksX4_ruleTold_3 14 rfl rfl)
theorem dX4_ruleTold_87 : decode cX4_ruleTold 87 = .ok (.aload_n 1, 1) := dk_43 (dk_at dksX4_ruleTold_3 17 rfl rfl)
theorem dX4_ruleTold_88 : decode cX4_ruleTold 88 = .ok (.getfield 218, 3) := dk_180 0 218 (dk_at dksX4_ruleTold_3 18 rfl rfl)
theorem dX4_ruleTold_91 : decode cX4_ruleTold 91 = .ok (.aload_n 0, 1) := dk_42 (dk_at dksX4_ruleTold_3 21 rfl rfl)
theorem dX4_ruleTold_92 : decode cX4_ruleTold 92 = .ok (.invokevirtual 219, 3) := dk_182 0 219 (dk_at dksX4_ruleTold_4 0 rfl rfl)
theorem dX4_ruleTold_95 : decode cX4_ruleTold 95 = .ok (.aastore, 1) := dk_83 (dk_at dksX4_ruleTold_4 3 rfl rfl)
theorem dX4_ruleTold_96 : decode cX4_ruleTold 96 = .ok (.aload_n 1, 1) := dk_43 (dk_at dksX4_ruleTold_4 4 rfl rfl)
theorem dX4_ruleTold_97 : decode cX4_ruleTold 97 = .ok (.dup, 1) := dk_89 (dk_at dksX4_ruleTold_4 5 rfl rfl)
theorem dX4_ruleTold_98 : decode cX4_ruleTold 98 = .ok (.getfield 218, 3) := dk_180 0 218 (dk_at dksX4_ruleTold_4 6 rfl rfl)
theorem dX4_ruleTold_101 : decode cX4_ruleTold 101 = .ok (.iconst 1, 1) := dk_4 (dk_at dksX4_ruleTold_4 9 rfl rfl)
theorem dX4_ruleTold_102 : decode cX4_ruleTold 102 = .ok (.iadd, 1) := dk_96 (dk_at dksX4_ruleTold_4 10 rfl rfl)
theorem dX4_ruleTold_103 : decode cX4_ruleTold 103 = .ok (.putfield 218, 3) := dk_181 0 218 (dk_at dksX4_ruleTold_4 11 rfl rfl)
theorem dX4_ruleTold_106 : decode cX4_ruleTold 106 = .ok (.aload_n 0, 1) := dk_42 (dk_at dksX4_ruleTold_4 14 rfl rfl)
theorem dX4_ruleTold_107 : decode cX4_ruleTold 107 = .ok (.bipush 59, 2) := dk_16 59 (dk_at dksX4_ruleTold_4 15 rfl rfl)
theorem dX4_ruleTold_109 : decode cX4_ruleTold 109 = .ok (.invokevirtual 167, 3) := dk_182 0 167 (dk_at dksX4_ruleTold_4 17 rfl rfl)
theorem dX4_ruleTold_112 : decode cX4_ruleTold 112 = .ok (.ifCond .ne (-104), 3) := dk_154 255 152 (dk_at dksX4_ruleTold_4 20 rfl rfl)
theorem dX4_ruleTold_115 : decode cX4_ruleTold 115 = .ok (.aload_n 0, 1) := dk_42 (dk_at dksX4_ruleTold_4 23 rfl rfl)
theorem dX4_ruleTold_116 : decode cX4_ruleTold 116 = .ok (.invokevirtual 170, 3) := dk_182 0 170 (dk_at dksX4_ruleTold_5 0 rfl rfl)
theorem dX4_ruleTold_119 : decode cX4_ruleTold 119 = .ok (.aload_n 1, 1) := dk_43 (dk_at dksX4_ruleTold_5 3 rfl rfl)
theorem dX4_ruleTold_120 : decode cX4_ruleTold 120 = .ok (.areturn, 1) := dk_176 (dk_at dksX4_ruleTold_5 4 rfl rfl)
abbrev cX4_clauseHere : ByteArray := prog_13_method_20_code
def yX4_clauseHere : MethodName := ⟨RX4, "clauseHere", "()LDoughBorder$Clause;"⟩
def dkwX4_clauseHere_1 : List UInt8 := [153, 0, 10, 42, 182, 0, 200, 167, 0, 4, 1, 181, 0, 204, 43, 176]
abbrev dktX4_clauseHere_1 : List UInt8 := dkwX4_clauseHere_1 ++ []
def dkwX4_clauseHere_0 : List UInt8 := [187, 0, 185, 89, 183, 0, 187, 76, 43, 42, 182, 0, 188, 181, 0, 192, 43, 42, 18, 195, 182, 0, 197]
abbrev dktX4_clauseHere_0 : List UInt8 := dkwX4_clauseHere_0 ++ dktX4_clauseHere_1
theorem dksX4_clauseHere_0 : cX4_clauseHere.data.toList.drop 0 = dktX4_clauseHere_0 := by decide +kernel
theorem dksX4_clauseHere_1 : cX4_clauseHere.data.toList.drop 23 = dktX4_clauseHere_1 := dk_seg dksX4_clauseHere_0 23 rfl rfl
theorem dX4_clauseHere_0 : decode cX4_clauseHere 0 = .ok (.new 185, 3) := dk_187 0 185 (dk_at dksX4_clauseHere_0 0 rfl rfl)
theorem dX4_clauseHere_3 : decode cX4_clauseHere 3 = .ok (.dup, 1) := dk_89 (dk_at dksX4_clauseHere_0 3 rfl rfl)
theorem dX4_clauseHere_4 : decode cX4_clauseHere 4 = .ok (.invokespecial 187, 3) := dk_183 0 187 (dk_at dksX4_clauseHere_0 4 rfl rfl)
theorem dX4_clauseHere_7 : decode cX4_clauseHere 7 = .ok (.astore_n 1, 1) := dk_76 (dk_at dksX4_clauseHere_0 7 rfl rfl)
theorem dX4_clauseHere_8 : decode cX4_clauseHere 8 = .ok (.aload_n 1, 1) := dk_43 (dk_at dksX4_clauseHere_0 8 rfl rfl)
theorem dX4_clauseHere_9 : decode cX4_clauseHere 9 = .ok (.aload_n 0, 1) := dk_42 (dk_at dksX4_clauseHere_0 9 rfl rfl)
theorem dX4_clauseHere_10 : decode cX4_clauseHere 10 = .ok (.invokevirtual 188, 3) := dk_182 0 188 (dk_at dksX4_clauseHere_0 10 rfl rfl)
theorem dX4_clauseHere_13 : decode cX4_clauseHere 13 = .ok (.putfield 192, 3) := dk_181 0 192 (dk_at dksX4_clauseHere_0 13 rfl rfl)
theorem dX4_clauseHere_16 : decode cX4_clauseHere 16 = .ok (.aload_n 1, 1) := dk_43 (dk_at dksX4_clauseHere_0 16 rfl rfl)
theorem dX4_clauseHere_17 : decode cX4_clauseHere 17 = .ok (.aload_n 0, 1) := dk_42 (dk_at dksX4_clauseHere_0 17 rfl rfl)
theorem dX4_clauseHere_18 : decode cX4_clauseHere 18 = .ok (.ldc 195, 2) := dk_18 195 (dk_at dksX4_clauseHere_0 18 rfl rfl)
theorem dX4_clauseHere_20 : decode cX4_clauseHere 20 = .ok (.invokevirtual 197, 3) := dk_182 0 197 (dk_at dksX4_clauseHere_0 20 rfl rfl)
theorem dX4_clauseHere_23 : decode cX4_clauseHere 23 = .ok (.ifCond .eq 10, 3) := dk_153 0 10 (dk_at dksX4_clauseHere_1 0 rfl rfl)
theorem dX4_clauseHere_26 : decode cX4_clauseHere 26 = .ok (.aload_n 0, 1) := dk_42 (dk_at dksX4_clauseHere_1 3 rfl rfl)
theorem dX4_clauseHere_27 : decode cX4_clauseHere 27 = .ok (.invokevirtual 200, 3) := dk_182 0 200 (dk_at dksX4_clauseHere_1 4 rfl rfl)
theorem dX4_clauseHere_30 : decode cX4_clauseHere 30 = .ok (.goto 4, 3) := dk_167 0 4 (dk_at dksX4_clauseHere_1 7 rfl rfl)
theorem dX4_clauseHere_33 : decode cX4_clauseHere 33 = .ok (.aconst_null, 1) := dk_1 (dk_at dksX4_clauseHere_1 10 rfl rfl)
theorem dX4_clauseHere_34 : decode cX4_clauseHere 34 = .ok (.putfield 204, 3) := dk_181 0 204 (dk_at dksX4_clauseHere_1 11 rfl rfl)
theorem dX4_clauseHere_37 : decode cX4_clauseHere 37 = .ok (.aload_n 1, 1) := dk_43 (dk_at dksX4_clauseHere_1 14 rfl rfl)
theorem dX4_clauseHere_38 : decode cX4_clauseHere 38 = .ok (.areturn, 1) := dk_176 (dk_at dksX4_clauseHere_1 15 rfl rfl)
abbrev cX4_sum : ByteArray := prog_13_method_26_code
def yX4_sum : MethodName := ⟨RX4, "sum", "()LDoughBorder$Value;"⟩
def dkwX4_sum_2 : List UInt8 := [187, 1, 6, 89, 43, 28, 42, 182, 1, 3, 183, 1, 8, 76, 167, 255, 201, 43, 176]
abbrev dktX4_sum_2 : List UInt8 := dkwX4_sum_2 ++ []
def dkwX4_sum_1 : List UInt8 := [180, 0, 3, 180, 0, 48, 42, 180, 0, 42, 51, 61, 42, 89, 180, 0, 42, 4, 96, 181, 0, 42]
abbrev dktX4_sum_1 : List UInt8 := dkwX4_sum_1 ++ dktX4_sum_2
def dkwX4_sum_0 : List UInt8 := [42, 182, 1, 3, 76, 42, 182, 0, 52, 16, 43, 159, 0, 12, 42, 182, 0, 52, 16, 45, 160, 0, 43, 42]
abbrev dktX4_sum_0 : List UInt8 := dkwX4_sum_0 ++ dktX4_sum_1
theorem dksX4_sum_0 : cX4_sum.data.toList.drop 0 = dktX4_sum_0 := by decide +kernel
theorem dksX4_sum_1 : cX4_sum.data.toList.drop 24 = dktX4_sum_1 := dk_seg dksX4_sum_0 24 rfl rfl
theorem dksX4_sum_2 : cX4_sum.data.toList.drop 46 = dktX4_sum_2 := dk_seg dksX4_sum_1 22 rfl rfl
theorem dX4_sum_0 : decode cX4_sum 0 = .ok (.aload_n 0, 1) := dk_42 (dk_at dksX4_sum_0 0 rfl rfl)
theorem dX4_sum_1 : decode cX4_sum 1 = .ok (.invokevirtual 259, 3) := dk_182 1 3 (dk_at dksX4_sum_0 1 rfl rfl)
theorem dX4_sum_4 : decode cX4_sum 4 = .ok (.astore_n 1, 1) := dk_76 (dk_at dksX4_sum_0 4 rfl rfl)
theorem dX4_sum_5 : decode cX4_sum 5 = .ok (.aload_n 0, 1) := dk_42 (dk_at dksX4_sum_0 5 rfl rfl)
theorem dX4_sum_6 : decode cX4_sum 6 = .ok (.invokevirtual 52, 3) := dk_182 0 52 (dk_at dksX4_sum_0 6 rfl rfl)
theorem dX4_sum_9 : decode cX4_sum 9 = .ok (.bipush 43, 2) := dk_16 43 (dk_at dksX4_sum_0 9 rfl rfl)
theorem dX4_sum_11 : decode cX4_sum 11 = .ok (.if_icmp .eq 12, 3) := dk_159 0 12 (dk_at dksX4_sum_0 11 rfl rfl)
theorem dX4_sum_14 : decode cX4_sum 14 = .ok (.aload_n 0, 1) := dk_42 (dk_at dksX4_sum_0 14 rfl rfl)
theorem dX4_sum_15 : decode cX4_sum 15 = .ok (.invokevirtual 52, 3) := dk_182 0 52 (dk_at dksX4_sum_0 15 rfl rfl)
theorem dX4_sum_18 : decode cX4_sum 18 = .ok (.bipush 45, 2) := dk_16 45 (dk_at dksX4_sum_0 18 rfl rfl)
theorem dX4_sum_20 : decode cX4_sum 20 = .ok (.if_icmp .ne 43, 3) := dk_160 0 43 (dk_at dksX4_sum_0 20 rfl rfl)
theorem dX4_sum_23 : decode cX4_sum 23 = .ok (.aload_n 0, 1) := dk_42 (dk_at dksX4_sum_0 23 rfl rfl)
theorem dX4_sum_24 : decode cX4_sum 24 = .ok (.getfield 3, 3) := dk_180 0 3 (dk_at dksX4_sum_1 0 rfl rfl)
theorem dX4_sum_27 : decode cX4_sum 27 = .ok (.getfield 48, 3) := dk_180 0 48 (dk_at dksX4_sum_1 3 rfl rfl)
theorem dX4_sum_30 : decode cX4_sum 30 = .ok (.aload_n 0, 1) := dk_42 (dk_at dksX4_sum_1 6 rfl rfl)
theorem dX4_sum_31 : decode cX4_sum 31 = .ok (.getfield 42, 3) := dk_180 0 42 (dk_at dksX4_sum_1 7 rfl rfl)
theorem dX4_sum_34 : decode cX4_sum 34 = .ok (.baload, 1) := dk_51 (dk_at dksX4_sum_1 10 rfl rfl)
theorem dX4_sum_35 : decode cX4_sum 35 = .ok (.istore_n 2, 1) := dk_61 (dk_at dksX4_sum_1 11 rfl rfl)
theorem dX4_sum_36 : decode cX4_sum 36 = .ok (.aload_n 0, 1) := dk_42 (dk_at dksX4_sum_1 12 rfl rfl)
theorem dX4_sum_37 : decode cX4_sum 37 = .ok (.dup, 1) := dk_89 (dk_at dksX4_sum_1 13 rfl rfl)
theorem dX4_sum_38 : decode cX4_sum 38 = .ok (.getfield 42, 3) := dk_180 0 42 (dk_at dksX4_sum_1 14 rfl rfl)
theorem dX4_sum_41 : decode cX4_sum 41 = .ok (.iconst 1, 1) := dk_4 (dk_at dksX4_sum_1 17 rfl rfl)
theorem dX4_sum_42 : decode cX4_sum 42 = .ok (.iadd, 1) := dk_96 (dk_at dksX4_sum_1 18 rfl rfl)
theorem dX4_sum_43 : decode cX4_sum 43 = .ok (.putfield 42, 3) := dk_181 0 42 (dk_at dksX4_sum_1 19 rfl rfl)
theorem dX4_sum_46 : decode cX4_sum 46 = .ok (.new 262, 3) := dk_187 1 6 (dk_at dksX4_sum_2 0 rfl rfl)
theorem dX4_sum_49 : decode cX4_sum 49 = .ok (.dup, 1) := dk_89 (dk_at dksX4_sum_2 3 rfl rfl)
theorem dX4_sum_50 : decode cX4_sum 50 = .ok (.aload_n 1, 1) := dk_43 (dk_at dksX4_sum_2 4 rfl rfl)
theorem dX4_sum_51 : decode cX4_sum 51 = .ok (.iload_n 2, 1) := dk_28 (dk_at dksX4_sum_2 5 rfl rfl)
theorem dX4_sum_52 : decode cX4_sum 52 = .ok (.aload_n 0, 1) := dk_42 (dk_at dksX4_sum_2 6 rfl rfl)
theorem dX4_sum_53 : decode cX4_sum 53 = .ok (.invokevirtual 259, 3) := dk_182 1 3 (dk_at dksX4_sum_2 7 rfl rfl)
theorem dX4_sum_56 : decode cX4_sum 56 = .ok (.invokespecial 264, 3) := dk_183 1 8 (dk_at dksX4_sum_2 10 rfl rfl)
theorem dX4_sum_59 : decode cX4_sum 59 = .ok (.astore_n 1, 1) := dk_76 (dk_at dksX4_sum_2 13 rfl rfl)
theorem dX4_sum_60 : decode cX4_sum 60 = .ok (.goto (-55), 3) := dk_167 255 201 (dk_at dksX4_sum_2 14 rfl rfl)
theorem dX4_sum_63 : decode cX4_sum 63 = .ok (.aload_n 1, 1) := dk_43 (dk_at dksX4_sum_2 17 rfl rfl)
theorem dX4_sum_64 : decode cX4_sum 64 = .ok (.areturn, 1) := dk_176 (dk_at dksX4_sum_2 18 rfl rfl)
abbrev cX4_term : ByteArray := prog_13_method_27_code
def yX4_term : MethodName := ⟨RX4, "term", "()LDoughBorder$Value;"⟩
def dkwX4_term_3 : List UInt8 := [167, 255, 192, 43, 176]
abbrev dktX4_term_3 : List UInt8 := dkwX4_term_3 ++ []
def dkwX4_term_2 : List UInt8 := [180, 0, 42, 4, 96, 181, 0, 42, 187, 1, 6, 89, 43, 28, 42, 182, 1, 9, 183, 1, 8, 76]
abbrev dktX4_term_2 : List UInt8 := dkwX4_term_2 ++ dktX4_term_3
def dkwX4_term_1 : List UInt8 := [182, 0, 52, 16, 37, 160, 0, 43, 42, 180, 0, 3, 180, 0, 48, 42, 180, 0, 42, 51, 61, 42, 89]
abbrev dktX4_term_1 : List UInt8 := dkwX4_term_1 ++ dktX4_term_2
def dkwX4_term_0 : List UInt8 := [42, 182, 1, 9, 76, 42, 182, 0, 52, 16, 42, 159, 0, 21, 42, 182, 0, 52, 16, 47, 159, 0, 12, 42]
abbrev dktX4_term_0 : List UInt8 := dkwX4_term_0 ++ dktX4_term_1
theorem dksX4_term_0 : cX4_term.data.toList.drop 0 = dktX4_term_0 := by decide +kernel
theorem dksX4_term_1 : cX4_term.data.toList.drop 24 = dktX4_term_1 := dk_seg dksX4_term_0 24 rfl rfl
theorem dksX4_term_2 : cX4_term.data.toList.drop 47 = dktX4_term_2 := dk_seg dksX4_term_1 23 rfl rfl
theorem dksX4_term_3 : cX4_term.data.toList.drop 69 = dktX4_term_3 := dk_seg dksX4_term_2 22 rfl rfl
theorem dX4_term_0 : decode cX4_term 0 = .ok (.aload_n 0, 1) := dk_42 (dk_at dksX4_term_0 0 rfl rfl)
theorem dX4_term_1 : decode cX4_term 1 = .ok (.invokevirtual 265, 3) := dk_182 1 9 (dk_at dksX4_term_0 1 rfl rfl)
theorem dX4_term_4 : decode cX4_term 4 = .ok (.astore_n 1, 1) := dk_76 (dk_at dksX4_term_0 4 rfl rfl)
theorem dX4_term_5 : decode cX4_term 5 = .ok (.aload_n 0, 1) := dk_42 (dk_at dksX4_term_0 5 rfl rfl)
theorem dX4_term_6 : decode cX4_term 6 = .ok (.invokevirtual 52, 3) := dk_182 0 52 (dk_at dksX4_term_0 6 rfl rfl)
theorem dX4_term_9 : decode cX4_term 9 = .ok (.bipush 42, 2) := dk_16 42 (dk_at dksX4_term_0 9 rfl rfl)
theorem dX4_term_11 : decode cX4_term 11 = .ok (.if_icmp .eq 21, 3) := dk_159 0 21 (dk_at dksX4_term_0 11 rfl rfl)
theorem dX4_term_14 : decode cX4_term 14 = .ok (.aload_n 0, 1) := dk_42 (dk_at dksX4_term_0 14 rfl rfl)
theorem dX4_term_15 : decode cX4_term 15 = .ok (.invokevirtual 52, 3) := dk_182 0 52 (dk_at dksX4_term_0 15 rfl rfl)
theorem dX4_term_18 : decode cX4_term 18 = .ok (.bipush 47, 2) := dk_16 47 (dk_at dksX4_term_0 18 rfl rfl)
theorem dX4_term_20 : decode cX4_term 20 = .ok (.if_icmp .eq 12, 3) := dk_159 0 12 (dk_at dksX4_term_0 20 rfl rfl)
theorem dX4_term_23 : decode cX4_term 23 = .ok (.aload_n 0, 1) := dk_42 (dk_at dksX4_term_0 23 rfl rfl)
theorem dX4_term_24 : decode cX4_term 24 = .ok (.invokevirtual 52, 3) := dk_182 0 52 (dk_at dksX4_term_1 0 rfl rfl)
theorem dX4_term_27 : decode cX4_term 27 = .ok (.bipush 37, 2) := dk_16 37 (dk_at dksX4_term_1 3 rfl rfl)
theorem dX4_term_29 : decode cX4_term 29 = .ok (.if_icmp .ne 43, 3) := dk_160 0 43 (dk_at dksX4_term_1 5 rfl rfl)
theorem dX4_term_32 : decode cX4_term 32 = .ok (.aload_n 0, 1) := dk_42 (dk_at dksX4_term_1 8 rfl rfl)
theorem dX4_term_33 : decode cX4_term 33 = .ok (.getfield 3, 3) := dk_180 0 3 (dk_at dksX4_term_1 9 rfl rfl)
theorem dX4_term_36 : decode cX4_term 36 = .ok (.getfield 48, 3) := dk_180 0 48 (dk_at dksX4_term_1 12 rfl rfl)
theorem dX4_term_39 : decode cX4_term 39 = .ok (.aload_n 0, 1) := dk_42 (dk_at dksX4_term_1 15 rfl rfl)
theorem dX4_term_40 : decode cX4_term 40 = .ok (.getfield 42, 3) := dk_180 0 42 (dk_at dksX4_term_1 16 rfl rfl)
theorem dX4_term_43 : decode cX4_term 43 = .ok (.baload, 1) := dk_51 (dk_at dksX4_term_1 19 rfl rfl)
theorem dX4_term_44 : decode cX4_term 44 = .ok (.istore_n 2, 1) := dk_61 (dk_at dksX4_term_1 20 rfl rfl)
theorem dX4_term_45 : decode cX4_term 45 = .ok (.aload_n 0, 1) := dk_42 (dk_at dksX4_term_1 21 rfl rfl)
theorem dX4_term_46 : decode cX4_term 46 = .ok (.dup, 1) := dk_89 (dk_at dksX4_term_1 22 rfl rfl)
theorem dX4_term_47 : decode cX4_term 47 = .ok (.getfield 42, 3) := dk_180 0 42 (dk_at dksX4_term_2 0 rfl rfl)
theorem dX4_term_50 : decode cX4_term 50 = .ok (.iconst 1, 1) := dk_4 (dk_at dksX4_term_2 3 rfl rfl)
theorem dX4_term_51 : decode cX4_term 51 = .ok (.iadd, 1) := dk_96 (dk_at dksX4_term_2 4 rfl rfl)
theorem dX4_term_52 : decode cX4_term 52 = .ok (.putfield 42, 3) := dk_181 0 42 (dk_at dksX4_term_2 5 rfl rfl)
theorem dX4_term_55 : decode cX4_term 55 = .ok (.new 262, 3) := dk_187 1 6 (dk_at dksX4_term_2 8 rfl rfl)
theorem dX4_term_58 : decode cX4_term 58 = .ok (.dup, 1) := dk_89 (dk_at dksX4_term_2 11 rfl rfl)
theorem dX4_term_59 : decode cX4_term 59 = .ok (.aload_n 1, 1) := dk_43 (dk_at dksX4_term_2 12 rfl rfl)
theorem dX4_term_60 : decode cX4_term 60 = .ok (.iload_n 2, 1) := dk_28 (dk_at dksX4_term_2 13 rfl rfl)
theorem dX4_term_61 : decode cX4_term 61 = .ok (.aload_n 0, 1) := dk_42 (dk_at dksX4_term_2 14 rfl rfl)
theorem dX4_term_62 : decode cX4_term 62 = .ok (.invokevirtual 265, 3) := dk_182 1 9 (dk_at dksX4_term_2 15 rfl rfl)
theorem dX4_term_65 : decode cX4_term 65 = .ok (.invokespecial 264, 3) := dk_183 1 8 (dk_at dksX4_term_2 18 rfl rfl)
theorem dX4_term_68 : decode cX4_term 68 = .ok (.astore_n 1, 1) := dk_76 (dk_at dksX4_term_2 21 rfl rfl)
theorem dX4_term_69 : decode cX4_term 69 = .ok (.goto (-64), 3) := dk_167 255 192 (dk_at dksX4_term_3 0 rfl rfl)
theorem dX4_term_72 : decode cX4_term 72 = .ok (.aload_n 1, 1) := dk_43 (dk_at dksX4_term_3 3 rfl rfl)
theorem dX4_term_73 : decode cX4_term 73 = .ok (.areturn, 1) := dk_176 (dk_at dksX4_term_3 4 rfl rfl)
abbrev cX4_value : ByteArray := prog_13_method_28_code
def yX4_value : MethodName := ⟨RX4, "value", "()LDoughBorder$Value;"⟩
def dkwX4_value_4 : List UInt8 := [89, 28, 183, 1, 20, 176]
abbrev dktX4_value_4 : List UInt8 := dkwX4_value_4 ++ []
def dkwX4_value_3 : List UInt8 := [182, 0, 251, 42, 89, 180, 0, 42, 42, 180, 0, 19, 28, 50, 182, 0, 59, 96, 181, 0, 42, 187, 1, 18]
abbrev dktX4_value_3 : List UInt8 := dkwX4_value_3 ++ dktX4_value_4
def dkwX4_value_2 : List UInt8 := [182, 0, 157, 61, 42, 28, 2, 159, 0, 7, 4, 167, 0, 4, 3, 3, 27, 182, 0, 76, 42, 27]
abbrev dktX4_value_2 : List UInt8 := dkwX4_value_2 ++ dktX4_value_3
def dkwX4_value_1 : List UInt8 := [182, 0, 104, 61, 42, 27, 182, 0, 251, 187, 1, 13, 89, 28, 133, 183, 1, 15, 176, 42, 42, 180, 0, 19]
abbrev dktX4_value_1 : List UInt8 := dkwX4_value_1 ++ dktX4_value_2
def dkwX4_value_0 : List UInt8 := [42, 182, 0, 52, 87, 42, 180, 0, 42, 60, 42, 27, 182, 0, 72, 153, 0, 27, 42, 3, 19, 1, 12]
abbrev dktX4_value_0 : List UInt8 := dkwX4_value_0 ++ dktX4_value_1
theorem dksX4_value_0 : cX4_value.data.toList.drop 0 = dktX4_value_0 := by decide +kernel
theorem dksX4_value_1 : cX4_value.data.toList.drop 23 = dktX4_value_1 := dk_seg dksX4_value_0 23 rfl rfl
theorem dksX4_value_2 : cX4_value.data.toList.drop 47 = dktX4_value_2 := dk_seg dksX4_value_1 24 rfl rfl
theorem dksX4_value_3 : cX4_value.data.toList.drop 69 = dktX4_value_3 := dk_seg dksX4_value_2 22 rfl rfl
theorem dksX4_value_4 : cX4_value.data.toList.drop 93 = dktX4_value_4 := dk_seg dksX4_value_3 24 rfl rfl
theorem dX4_value_0 : decode cX4_value 0 = .ok (.aload_n 0, 1) := dk_42 (dk_at dksX4_value_0 0 rfl rfl)
theorem dX4_value_1 : decode cX4_value 1 = .ok (.invokevirtual 52, 3) := dk_182 0 52 (dk_at dksX4_value_0 1 rfl rfl)
theorem dX4_value_4 : decode cX4_value 4 = .ok (.pop, 1) := dk_87 (dk_at dksX4_value_0 4 rfl rfl)
theorem dX4_value_5 : decode cX4_value 5 = .ok (.aload_n 0, 1) := dk_42 (dk_at dksX4_value_0 5 rfl rfl)
theorem dX4_value_6 : decode cX4_value 6 = .ok (.getfield 42, 3) := dk_180 0 42 (dk_at dksX4_value_0 6 rfl rfl)
theorem dX4_value_9 : decode cX4_value 9 = .ok (.istore_n 1, 1) := dk_60 (dk_at dksX4_value_0 9 rfl rfl)
theorem dX4_value_10 : decode cX4_value 10 = .ok (.aload_n 0, 1) := dk_42 (dk_at dksX4_value_0 10 rfl rfl)
theorem dX4_value_11 : decode cX4_value 11 = .ok (.iload_n 1, 1) := dk_27 (dk_at dksX4_value_0 11 rfl rfl)
theorem dX4_value_12 : decode cX4_value 12 = .ok (.invokevirtual 72, 3) := dk_182 0 72 (dk_at dksX4_value_0 12 rfl rfl)
theorem dX4_value_15 : decode cX4_value 15 = .ok (.ifCond .eq 27, 3) := dk_153 0 27 (dk_at dksX4_value_0 15 rfl rfl)
theorem dX4_value_18 : decode cX4_value 18 = .ok (.aload_n 0, 1) := dk_42 (dk_at dksX4_value_0 18 rfl rfl)
theorem dX4_value_19 : decode cX4_value 19 = .ok (.iconst 0, 1) := dk_3 (dk_at dksX4_value_0 19 rfl rfl)
theorem dX4_value_20 : decode cX4_value 20 = .ok (.ldc_w 268, 3) := dk_19 1 12 (dk_at dksX4_value_0 20 rfl rfl)
theorem dX4_value_23 : decode cX4_value 23 = .ok (.invokevirtual 104, 3) := dk_182 0 104 (dk_at dksX4_value_1 0 rfl rfl)
theorem dX4_value_26 : decode cX4_value 26 = .ok (.istore_n 2, 1) := dk_61 (dk_at dksX4_value_1 3 rfl rfl)
theorem dX4_value_27 : decode cX4_value 27 = .ok (.aload_n 0, 1) := dk_42 (dk_at dksX4_value_1 4 rfl rfl)
theorem dX4_value_28 : decode cX4_value 28 = .ok (.iload_n 1, 1) := dk_27 (dk_at dksX4_value_1 5 rfl rfl)
theorem dX4_value_29 : decode cX4_value 29 = .ok (.invokevirtual 251, 3) := dk_182 0 251 (dk_at dksX4_value_1 6 rfl rfl)
theorem dX4_value_32 : decode cX4_value 32 = .ok (.new 269, 3) := dk_187 1 13 (dk_at dksX4_value_1 9 rfl rfl)
theorem dX4_value_35 : decode cX4_value 35 = .ok (.dup, 1) := dk_89 (dk_at dksX4_value_1 12 rfl rfl)
theorem dX4_value_36 : decode cX4_value 36 = .ok (.iload_n 2, 1) := dk_28 (dk_at dksX4_value_1 13 rfl rfl)
theorem dX4_value_37 : decode cX4_value 37 = .ok (.i2l, 1) := dk_133 (dk_at dksX4_value_1 14 rfl rfl)
theorem dX4_value_38 : decode cX4_value 38 = .ok (.invokespecial 271, 3) := dk_183 1 15 (dk_at dksX4_value_1 15 rfl rfl)
theorem dX4_value_41 : decode cX4_value 41 = .ok (.areturn, 1) := dk_176 (dk_at dksX4_value_1 18 rfl rfl)
theorem dX4_value_42 : decode cX4_value 42 = .ok (.aload_n 0, 1) := dk_42 (dk_at dksX4_value_1 19 rfl rfl)
theorem dX4_value_43 : decode cX4_value 43 = .ok (.aload_n 0, 1) := dk_42 (dk_at dksX4_value_1 20 rfl rfl)
theorem dX4_value_44 : decode cX4_value 44 = .ok (.getfield 19, 3) := dk_180 0 19 (dk_at dksX4_value_1 21 rfl rfl)
theorem dX4_value_47 : decode cX4_value 47 = .ok (.invokevirtual 157, 3) := dk_182 0 157 (dk_at dksX4_value_2 0 rfl rfl)
theorem dX4_value_50 : decode cX4_value 50 = .ok (.istore_n 2, 1) := dk_61 (dk_at dksX4_value_2 3 rfl rfl)
theorem dX4_value_51 : decode cX4_value 51 = .ok (.aload_n 0, 1) := dk_42 (dk_at dksX4_value_2 4 rfl rfl)
theorem dX4_value_52 : decode cX4_value 52 = .ok (.iload_n 2, 1) := dk_28 (dk_at dksX4_value_2 5 rfl rfl)
theorem dX4_value_53 : decode cX4_value 53 = .ok (.iconst (-1), 1) := dk_2 (dk_at dksX4_value_2 6 rfl rfl)
theorem dX4_value_54 : decode cX4_value 54 = .ok (.if_icmp .eq 7, 3) := dk_159 0 7 (dk_at dksX4_value_2 7 rfl rfl)
theorem dX4_value_57 : decode cX4_value 57 = .ok (.iconst 1, 1) := dk_4 (dk_at dksX4_value_2 10 rfl rfl)
theorem dX4_value_58 : decode cX4_value 58 = .ok (.goto 4, 3) := dk_167 0 4 (dk_at dksX4_value_2 11 rfl rfl)
theorem dX4_value_61 : decode cX4_value 61 = .ok (.iconst 0, 1) := dk_3 (dk_at dksX4_value_2 14 rfl rfl)
theorem dX4_value_62 : decode cX4_value 62 = .ok (.iconst 0, 1) := dk_3 (dk_at dksX4_value_2 15 rfl rfl)
theorem dX4_value_63 : decode cX4_value 63 = .ok (.iload_n 1, 1) := dk_27 (dk_at dksX4_value_2 16 rfl rfl)
theorem dX4_value_64 : decode cX4_value 64 = .ok (.invokevirtual 76, 3) := dk_182 0 76 (dk_at dksX4_value_2 17 rfl rfl)
theorem dX4_value_67 : decode cX4_value 67 = .ok (.aload_n 0, 1) := dk_42 (dk_at dksX4_value_2 20 rfl rfl)
theorem dX4_value_68 : decode cX4_value 68 = .ok (.iload_n 1, 1) := dk_27 (dk_at dksX4_value_2 21 rfl rfl)
theorem dX4_value_69 : decode cX4_value 69 = .ok (.invokevirtual 251, 3) := dk_182 0 251 (dk_at dksX4_value_3 0 rfl rfl)
theorem dX4_value_72 : decode cX4_value 72 = .ok (.aload_n 0, 1) := dk_42 (dk_at dksX4_value_3 3 rfl rfl)
theorem dX4_value_73 : decode cX4_value 73 = .ok (.dup, 1) := dk_89 (dk_at dksX4_value_3 4 rfl rfl)
theorem dX4_value_74 : decode cX4_value 74 = .ok (.getfield 42, 3) := dk_180 0 42 (dk_at dksX4_value_3 5 rfl rfl)
theorem dX4_value_77 : decode cX4_value 77 = .ok (.aload_n 0, 1) := dk_42 (dk_at dksX4_value_3 8 rfl rfl)
theorem dX4_value_78 : decode cX4_value 78 = .ok (.getfield 19, 3) := dk_180 0 19 (dk_at dksX4_value_3 9 rfl rfl)
theorem dX4_value_81 : decode cX4_value 81 = .ok (.iload_n 2, 1) := dk_28 (dk_at dksX4_value_3 12 rfl rfl)
theorem dX4_value_82 : decode cX4_value 82 = .ok (.aaload, 1) := dk_50 (dk_at dksX4_value_3 13 rfl rfl)
theorem dX4_value_83 : decode cX4_value 83 = .ok (.invokevirtual 59, 3) := dk_182 0 59 (dk_at dksX4_value_3 14 rfl rfl)
theorem dX4_value_86 : decode cX4_value 86 = .ok (.iadd, 1) := dk_96 (dk_at dksX4_value_3 17 rfl rfl)
theorem dX4_value_87 : decode cX4_value 87 = .ok (.putfield 42, 3) := dk_181 0 42 (dk_at dksX4_value_3 18 rfl rfl)
theorem dX4_value_90 : decode cX4_value 90 = .ok (.new 274, 3) := dk_187 1 18 (dk_at dksX4_value_3 21 rfl rfl)
theorem dX4_value_93 : decode cX4_value 93 = .ok (.dup, 1) := dk_89 (dk_at dksX4_value_4 0 rfl rfl)
theorem dX4_value_94 : decode cX4_value 94 = .ok (.iload_n 2, 1) := dk_28 (dk_at dksX4_value_4 1 rfl rfl)
theorem dX4_value_95 : decode cX4_value 95 = .ok (.invokespecial 276, 3) := dk_183 1 20 (dk_at dksX4_value_4 2 rfl rfl)
theorem dX4_value_98 : decode cX4_value 98 = .ok (.areturn, 1) := dk_176 (dk_at dksX4_value_4 5 rfl rfl)
abbrev cX4_makes : ByteArray := prog_13_method_11_code
def yX4_makes : MethodName := ⟨RX4, "makes", "(I)V"⟩
def dkwX4_makes_1 : List UInt8 := [180, 0, 84, 4, 96, 181, 0, 84, 177]
abbrev dktX4_makes_1 : List UInt8 := dkwX4_makes_1 ++ []
def dkwX4_makes_0 : List UInt8 := [42, 42, 180, 0, 84, 16, 60, 162, 0, 7, 4, 167, 0, 4, 3, 6, 27, 182, 0, 76, 42, 89]
abbrev dktX4_makes_0 : List UInt8 := dkwX4_makes_0 ++ dktX4_makes_1
theorem dksX4_makes_0 : cX4_makes.data.toList.drop 0 = dktX4_makes_0 := by decide +kernel
theorem dksX4_makes_1 : cX4_makes.data.toList.drop 22 = dktX4_makes_1 := dk_seg dksX4_makes_0 22 rfl rfl
theorem dX4_makes_0 : decode cX4_makes 0 = .ok (.aload_n 0, 1) := dk_42 (dk_at dksX4_makes_0 0 rfl rfl)
theorem dX4_makes_1 : decode cX4_makes 1 = .ok (.aload_n 0, 1) := dk_42 (dk_at dksX4_makes_0 1 rfl rfl)
theorem dX4_makes_2 : decode cX4_makes 2 = .ok (.getfield 84, 3) := dk_180 0 84 (dk_at dksX4_makes_0 2 rfl rfl)
theorem dX4_makes_5 : decode cX4_makes 5 = .ok (.bipush 60, 2) := dk_16 60 (dk_at dksX4_makes_0 5 rfl rfl)
theorem dX4_makes_7 : decode cX4_makes 7 = .ok (.if_icmp .ge 7, 3) := dk_162 0 7 (dk_at dksX4_makes_0 7 rfl rfl)
theorem dX4_makes_10 : decode cX4_makes 10 = .ok (.iconst 1, 1) := dk_4 (dk_at dksX4_makes_0 10 rfl rfl)
theorem dX4_makes_11 : decode cX4_makes 11 = .ok (.goto 4, 3) := dk_167 0 4 (dk_at dksX4_makes_0 11 rfl rfl)
theorem dX4_makes_14 : decode cX4_makes 14 = .ok (.iconst 0, 1) := dk_3 (dk_at dksX4_makes_0 14 rfl rfl)
theorem dX4_makes_15 : decode cX4_makes 15 = .ok (.iconst 3, 1) := dk_6 (dk_at dksX4_makes_0 15 rfl rfl)
theorem dX4_makes_16 : decode cX4_makes 16 = .ok (.iload_n 1, 1) := dk_27 (dk_at dksX4_makes_0 16 rfl rfl)
theorem dX4_makes_17 : decode cX4_makes 17 = .ok (.invokevirtual 76, 3) := dk_182 0 76 (dk_at dksX4_makes_0 17 rfl rfl)
theorem dX4_makes_20 : decode cX4_makes 20 = .ok (.aload_n 0, 1) := dk_42 (dk_at dksX4_makes_0 20 rfl rfl)
theorem dX4_makes_21 : decode cX4_makes 21 = .ok (.dup, 1) := dk_89 (dk_at dksX4_makes_0 21 rfl rfl)
theorem dX4_makes_22 : decode cX4_makes 22 = .ok (.getfield 84, 3) := dk_180 0 84 (dk_at dksX4_makes_1 0 rfl rfl)
theorem dX4_makes_25 : decode cX4_makes 25 = .ok (.iconst 1, 1) := dk_4 (dk_at dksX4_makes_1 3 rfl rfl)
theorem dX4_makes_26 : decode cX4_makes 26 = .ok (.iadd, 1) := dk_96 (dk_at dksX4_makes_1 4 rfl rfl)
theorem dX4_makes_27 : decode cX4_makes 27 = .ok (.putfield 84, 3) := dk_181 0 84 (dk_at dksX4_makes_1 5 rfl rfl)
theorem dX4_makes_30 : decode cX4_makes 30 = .ok (.return_, 1) := dk_177 (dk_at dksX4_makes_1 8 rfl rfl)
abbrev cX4_takesWord : ByteArray := prog_13_method_7_code
def yX4_takesWord : MethodName := ⟨RX4, "takesWord", "(Ljava/lang/String;)Z"⟩
def dkwX4_takesWord_1 : List UInt8 := [172]
abbrev dktX4_takesWord_1 : List UInt8 := dkwX4_takesWord_1 ++ []
def dkwX4_takesWord_0 : List UInt8 := [42, 43, 182, 0, 68, 154, 0, 5, 3, 172, 42, 89, 180, 0, 42, 43, 182, 0, 59, 96, 181, 0, 42, 4]
abbrev dktX4_takesWord_0 : List UInt8 := dkwX4_takesWord_0 ++ dktX4_takesWord_1
theorem dksX4_takesWord_0 : cX4_takesWord.data.toList.drop 0 = dktX4_takesWord_0 := by decide +kernel
theorem dksX4_takesWord_1 : cX4_takesWord.data.toList.drop 24 = dktX4_takesWord_1 := dk_seg dksX4_takesWord_0 24 rfl rfl
theorem dX4_takesWord_0 : decode cX4_takesWord 0 = .ok (.aload_n 0, 1) := dk_42 (dk_at dksX4_takesWord_0 0 rfl rfl)
theorem dX4_takesWord_1 : decode cX4_takesWord 1 = .ok (.aload_n 1, 1) := dk_43 (dk_at dksX4_takesWord_0 1 rfl rfl)
theorem dX4_takesWord_2 : decode cX4_takesWord 2 = .ok (.invokevirtual 68, 3) := dk_182 0 68 (dk_at dksX4_takesWord_0 2 rfl rfl)
theorem dX4_takesWord_5 : decode cX4_takesWord 5 = .ok (.ifCond .ne 5, 3) := dk_154 0 5 (dk_at dksX4_takesWord_0 5 rfl rfl)
theorem dX4_takesWord_8 : decode cX4_takesWord 8 = .ok (.iconst 0, 1) := dk_3 (dk_at dksX4_takesWord_0 8 rfl rfl)
theorem dX4_takesWord_9 : decode cX4_takesWord 9 = .ok (.ireturn, 1) := dk_172 (dk_at dksX4_takesWord_0 9 rfl rfl)
theorem dX4_takesWord_10 : decode cX4_takesWord 10 = .ok (.aload_n 0, 1) := dk_42 (dk_at dksX4_takesWord_0 10 rfl rfl)
theorem dX4_takesWord_11 : decode cX4_takesWord 11 = .ok (.dup, 1) := dk_89 (dk_at dksX4_takesWord_0 11 rfl rfl)
theorem dX4_takesWord_12 : decode cX4_takesWord 12 = .ok (.getfield 42, 3) := dk_180 0 42 (dk_at dksX4_takesWord_0 12 rfl rfl)
theorem dX4_takesWord_15 : decode cX4_takesWord 15 = .ok (.aload_n 1, 1) := dk_43 (dk_at dksX4_takesWord_0 15 rfl rfl)
theorem dX4_takesWord_16 : decode cX4_takesWord 16 = .ok (.invokevirtual 59, 3) := dk_182 0 59 (dk_at dksX4_takesWord_0 16 rfl rfl)
theorem dX4_takesWord_19 : decode cX4_takesWord 19 = .ok (.iadd, 1) := dk_96 (dk_at dksX4_takesWord_0 19 rfl rfl)
theorem dX4_takesWord_20 : decode cX4_takesWord 20 = .ok (.putfield 42, 3) := dk_181 0 42 (dk_at dksX4_takesWord_0 20 rfl rfl)
theorem dX4_takesWord_23 : decode cX4_takesWord 23 = .ok (.iconst 1, 1) := dk_4 (dk_at dksX4_takesWord_0 23 rfl rfl)
theorem dX4_takesWord_24 : decode cX4_takesWord 24 = .ok (.ireturn, 1) := dk_172 (dk_at dksX4_takesWord_1 0 rfl rfl)
abbrev cX4_tested : ByteArray := prog_13_method_22_code
def yX4_tested : MethodName := ⟨RX4, "tested", "()LDoughBorder$Test;"⟩
def dkwX4_tested_1 : List UInt8 := [183, 0, 230, 76, 167, 255, 233, 43, 176]
abbrev dktX4_tested_1 : List UInt8 := dkwX4_tested_1 ++ []
def dkwX4_tested_0 : List UInt8 := [42, 182, 0, 223, 76, 42, 18, 226, 182, 0, 197, 153, 0, 20, 187, 0, 228, 89, 43, 3, 42, 182, 0, 223]
abbrev dktX4_tested_0 : List UInt8 := dkwX4_tested_0 ++ dktX4_tested_1
theorem dksX4_tested_0 : cX4_tested.data.toList.drop 0 = dktX4_tested_0 := by decide +kernel
theorem dksX4_tested_1 : cX4_tested.data.toList.drop 24 = dktX4_tested_1 := dk_seg dksX4_tested_0 24 rfl rfl
theorem dX4_tested_0 : decode cX4_tested 0 = .ok (.aload_n 0, 1) := dk_42 (dk_at dksX4_tested_0 0 rfl rfl)
theorem dX4_tested_1 : decode cX4_tested 1 = .ok (.invokevirtual 223, 3) := dk_182 0 223 (dk_at dksX4_tested_0 1 rfl rfl)
theorem dX4_tested_4 : decode cX4_tested 4 = .ok (.astore_n 1, 1) := dk_76 (dk_at dksX4_tested_0 4 rfl rfl)
theorem dX4_tested_5 : decode cX4_tested 5 = .ok (.aload_n 0, 1) := dk_42 (dk_at dksX4_tested_0 5 rfl rfl)
theorem dX4_tested_6 : decode cX4_tested 6 = .ok (.ldc 226, 2) := dk_18 226 (dk_at dksX4_tested_0 6 rfl rfl)
theorem dX4_tested_8 : decode cX4_tested 8 = .ok (.invokevirtual 197, 3) := dk_182 0 197 (dk_at dksX4_tested_0 8 rfl rfl)
theorem dX4_tested_11 : decode cX4_tested 11 = .ok (.ifCond .eq 20, 3) := dk_153 0 20 (dk_at dksX4_tested_0 11 rfl rfl)
theorem dX4_tested_14 : decode cX4_tested 14 = .ok (.new 228, 3) := dk_187 0 228 (dk_at dksX4_tested_0 14 rfl rfl)
theorem dX4_tested_17 : decode cX4_tested 17 = .ok (.dup, 1) := dk_89 (dk_at dksX4_tested_0 17 rfl rfl)
theorem dX4_tested_18 : decode cX4_tested 18 = .ok (.aload_n 1, 1) := dk_43 (dk_at dksX4_tested_0 18 rfl rfl)
theorem dX4_tested_19 : decode cX4_tested 19 = .ok (.iconst 0, 1) := dk_3 (dk_at dksX4_tested_0 19 rfl rfl)
theorem dX4_tested_20 : decode cX4_tested 20 = .ok (.aload_n 0, 1) := dk_42 (dk_at dksX4_tested_0 20 rfl rfl)
theorem dX4_tested_21 : decode cX4_tested 21 = .ok (.invokevirtual 223, 3) := dk_182 0 223 (dk_at dksX4_tested_0 21 rfl rfl)
theorem dX4_tested_24 : decode cX4_tested 24 = .ok (.invokespecial 230, 3) := dk_183 0 230 (dk_at dksX4_tested_1 0 rfl rfl)
theorem dX4_tested_27 : decode cX4_tested 27 = .ok (.astore_n 1, 1) := dk_76 (dk_at dksX4_tested_1 3 rfl rfl)
theorem dX4_tested_28 : decode cX4_tested 28 = .ok (.goto (-23), 3) := dk_167 255 233 (dk_at dksX4_tested_1 4 rfl rfl)
theorem dX4_tested_31 : decode cX4_tested 31 = .ok (.aload_n 1, 1) := dk_43 (dk_at dksX4_tested_1 7 rfl rfl)
theorem dX4_tested_32 : decode cX4_tested 32 = .ok (.areturn, 1) := dk_176 (dk_at dksX4_tested_1 8 rfl rfl)
abbrev cX4_parted : ByteArray := prog_13_method_23_code
def yX4_parted : MethodName := ⟨RX4, "parted", "()LDoughBorder$Test;"⟩
def dkwX4_parted_1 : List UInt8 := [183, 0, 230, 76, 167, 255, 233, 43, 176]
abbrev dktX4_parted_1 : List UInt8 := dkwX4_parted_1 ++ []
def dkwX4_parted_0 : List UInt8 := [42, 182, 0, 233, 76, 42, 18, 236, 182, 0, 197, 153, 0, 20, 187, 0, 228, 89, 43, 4, 42, 182, 0, 233]
abbrev dktX4_parted_0 : List UInt8 := dkwX4_parted_0 ++ dktX4_parted_1
theorem dksX4_parted_0 : cX4_parted.data.toList.drop 0 = dktX4_parted_0 := by decide +kernel
theorem dksX4_parted_1 : cX4_parted.data.toList.drop 24 = dktX4_parted_1 := dk_seg dksX4_parted_0 24 rfl rfl
theorem dX4_parted_0 : decode cX4_parted 0 = .ok (.aload_n 0, 1) := dk_42 (dk_at dksX4_parted_0 0 rfl rfl)
theorem dX4_parted_1 : decode cX4_parted 1 = .ok (.invokevirtual 233, 3) := dk_182 0 233 (dk_at dksX4_parted_0 1 rfl rfl)
theorem dX4_parted_4 : decode cX4_parted 4 = .ok (.astore_n 1, 1) := dk_76 (dk_at dksX4_parted_0 4 rfl rfl)
theorem dX4_parted_5 : decode cX4_parted 5 = .ok (.aload_n 0, 1) := dk_42 (dk_at dksX4_parted_0 5 rfl rfl)
theorem dX4_parted_6 : decode cX4_parted 6 = .ok (.ldc 236, 2) := dk_18 236 (dk_at dksX4_parted_0 6 rfl rfl)
theorem dX4_parted_8 : decode cX4_parted 8 = .ok (.invokevirtual 197, 3) := dk_182 0 197 (dk_at dksX4_parted_0 8 rfl rfl)
theorem dX4_parted_11 : decode cX4_parted 11 = .ok (.ifCond .eq 20, 3) := dk_153 0 20 (dk_at dksX4_parted_0 11 rfl rfl)
theorem dX4_parted_14 : decode cX4_parted 14 = .ok (.new 228, 3) := dk_187 0 228 (dk_at dksX4_parted_0 14 rfl rfl)
theorem dX4_parted_17 : decode cX4_parted 17 = .ok (.dup, 1) := dk_89 (dk_at dksX4_parted_0 17 rfl rfl)
theorem dX4_parted_18 : decode cX4_parted 18 = .ok (.aload_n 1, 1) := dk_43 (dk_at dksX4_parted_0 18 rfl rfl)
theorem dX4_parted_19 : decode cX4_parted 19 = .ok (.iconst 1, 1) := dk_4 (dk_at dksX4_parted_0 19 rfl rfl)
theorem dX4_parted_20 : decode cX4_parted 20 = .ok (.aload_n 0, 1) := dk_42 (dk_at dksX4_parted_0 20 rfl rfl)
theorem dX4_parted_21 : decode cX4_parted 21 = .ok (.invokevirtual 233, 3) := dk_182 0 233 (dk_at dksX4_parted_0 21 rfl rfl)
theorem dX4_parted_24 : decode cX4_parted 24 = .ok (.invokespecial 230, 3) := dk_183 0 230 (dk_at dksX4_parted_1 0 rfl rfl)
theorem dX4_parted_27 : decode cX4_parted 27 = .ok (.astore_n 1, 1) := dk_76 (dk_at dksX4_parted_1 3 rfl rfl)
theorem dX4_parted_28 : decode cX4_parted 28 = .ok (.goto (-23), 3) := dk_167 255 233 (dk_at dksX4_parted_1 4 rfl rfl)
theorem dX4_parted_31 : decode cX4_parted 31 = .ok (.aload_n 1, 1) := dk_43 (dk_at dksX4_parted_1 7 rfl rfl)
theorem dX4_parted_32 : decode cX4_parted 32 = .ok (.areturn, 1) := dk_176 (dk_at dksX4_parted_1 8 rfl rfl)
abbrev cX4_fact : ByteArray := prog_13_method_24_code
def yX4_fact : MethodName := ⟨RX4, "fact", "()LDoughBorder$Test;"⟩
def dkwX4_fact_6 : List UInt8 := [187, 0, 254, 89, 45, 21, 5, 42, 182, 0, 188, 183, 1, 0, 176]
abbrev dktX4_fact_6 : List UInt8 := dkwX4_fact_6 ++ []
def dkwX4_fact_5 : List UInt8 := [182, 0, 52, 87, 42, 180, 0, 42, 54, 4, 42, 182, 0, 248, 54, 5, 42, 21, 4, 182, 0, 251]
abbrev dktX4_fact_5 : List UInt8 := dkwX4_fact_5 ++ dktX4_fact_6
def dkwX4_fact_4 : List UInt8 := [180, 0, 42, 182, 0, 76, 42, 89, 180, 0, 87, 4, 100, 181, 0, 87, 45, 176, 42, 182, 0, 188, 78, 42]
abbrev dktX4_fact_4 : List UInt8 := dkwX4_fact_4 ++ dktX4_fact_5
def dkwX4_fact_3 : List UInt8 := [180, 0, 42, 4, 96, 181, 0, 42, 42, 182, 0, 200, 78, 42, 42, 16, 93, 182, 0, 167, 3, 42]
abbrev dktX4_fact_3 : List UInt8 := dkwX4_fact_3 ++ dktX4_fact_4
def dkwX4_fact_2 : List UInt8 := [180, 0, 87, 4, 100, 181, 0, 87, 45, 176, 27, 16, 91, 160, 0, 50, 42, 28, 182, 0, 240, 42, 89]
abbrev dktX4_fact_2 : List UInt8 := dkwX4_fact_2 ++ dktX4_fact_3
def dkwX4_fact_1 : List UInt8 := [42, 89, 180, 0, 42, 6, 96, 181, 0, 42, 187, 0, 243, 89, 42, 182, 0, 233, 183, 0, 245, 78, 42, 89]
abbrev dktX4_fact_1 : List UInt8 := dkwX4_fact_1 ++ dktX4_fact_2
def dkwX4_fact_0 : List UInt8 := [42, 182, 0, 52, 60, 42, 180, 0, 42, 61, 42, 18, 238, 182, 0, 68, 153, 0, 42, 42, 28, 182, 0, 240]
abbrev dktX4_fact_0 : List UInt8 := dkwX4_fact_0 ++ dktX4_fact_1
theorem dksX4_fact_0 : cX4_fact.data.toList.drop 0 = dktX4_fact_0 := by decide +kernel
theorem dksX4_fact_1 : cX4_fact.data.toList.drop 24 = dktX4_fact_1 := dk_seg dksX4_fact_0 24 rfl rfl
theorem dksX4_fact_2 : cX4_fact.data.toList.drop 48 = dktX4_fact_2 := dk_seg dksX4_fact_1 24 rfl rfl
theorem dksX4_fact_3 : cX4_fact.data.toList.drop 71 = dktX4_fact_3 := dk_seg dksX4_fact_2 23 rfl rfl
theorem dksX4_fact_4 : cX4_fact.data.toList.drop 93 = dktX4_fact_4 := dk_seg dksX4_fact_3 22 rfl rfl
theorem dksX4_fact_5 : cX4_fact.data.toList.drop 117 = dktX4_fact_5 := dk_seg dksX4_fact_4 24 rfl rfl
theorem dksX4_fact_6 : cX4_fact.data.toList.drop 139 = dktX4_fact_6 := dk_seg dksX4_fact_5 22 rfl rfl
theorem dX4_fact_0 : decode cX4_fact 0 = .ok (.aload_n 0, 1) := dk_42 (dk_at dksX4_fact_0 0 rfl rfl)
theorem dX4_fact_1 : decode cX4_fact 1 = .ok (.invokevirtual 52, 3) := dk_182 0 52 (dk_at dksX4_fact_0 1 rfl rfl)
theorem dX4_fact_4 : decode cX4_fact 4 = .ok (.istore_n 1, 1) := dk_60 (dk_at dksX4_fact_0 4 rfl rfl)
theorem dX4_fact_5 : decode cX4_fact 5 = .ok (.aload_n 0, 1) := dk_42 (dk_at dksX4_fact_0 5 rfl rfl)
theorem dX4_fact_6 : decode cX4_fact 6 = .ok (.getfield 42, 3) := dk_180 0 42 (dk_at dksX4_fact_0 6 rfl rfl)
theorem dX4_fact_9 : decode cX4_fact 9 = .ok (.istore_n 2, 1) := dk_61 (dk_at dksX4_fact_0 9 rfl rfl)
theorem dX4_fact_10 : decode cX4_fact 10 = .ok (.aload_n 0, 1) := dk_42 (dk_at dksX4_fact_0 10 rfl rfl)
theorem dX4_fact_11 : decode cX4_fact 11 = .ok (.ldc 238, 2) := dk_18 238 (dk_at dksX4_fact_0 11 rfl rfl)
theorem dX4_fact_13 : decode cX4_fact 13 = .ok (.invokevirtual 68, 3) := dk_182 0 68 (dk_at dksX4_fact_0 13 rfl rfl)
theorem dX4_fact_16 : decode cX4_fact 16 = .ok (.ifCond .eq 42, 3) := dk_153 0 42 (dk_at dksX4_fact_0 16 rfl rfl)
theorem dX4_fact_19 : decode cX4_fact 19 = .ok (.aload_n 0, 1) := dk_42 (dk_at dksX4_fact_0 19 rfl rfl)
theorem dX4_fact_20 : decode cX4_fact 20 = .ok (.iload_n 2, 1) := dk_28 (dk_at dksX4_fact_0 20 rfl rfl)
theorem dX4_fact_21 : decode cX4_fact 21 = .ok (.invokevirtual 240, 3) := dk_182 0 240 (dk_at dksX4_fact_0 21 rfl rfl)
theorem dX4_fact_24 : decode cX4_fact 24 = .ok (.aload_n 0, 1) := dk_42 (dk_at dksX4_fact_1 0 rfl rfl)
theorem dX4_fact_25 : decode cX4_fact 25 = .ok (.dup, 1) := dk_89 (dk_at dksX4_fact_1 1 rfl rfl)
theorem dX4_fact_26 : decode cX4_fact 26 = .ok (.getfield 42, 3) := dk_180 0 42 (dk_at dksX4_fact_1 2 rfl rfl)
theorem dX4_fact_29 : decode cX4_fact 29 = .ok (.iconst 3, 1) := dk_6 (dk_at dksX4_fact_1 5 rfl rfl)
theorem dX4_fact_30 : decode cX4_fact 30 = .ok (.iadd, 1) := dk_96 (dk_at dksX4_fact_1 6 rfl rfl)
theorem dX4_fact_31 : decode cX4_fact 31 = .ok (.putfield 42, 3) := dk_181 0 42 (dk_at dksX4_fact_1 7 rfl rfl)
theorem dX4_fact_34 : decode cX4_fact 34 = .ok (.new 243, 3) := dk_187 0 243 (dk_at dksX4_fact_1 10 rfl rfl)
theorem dX4_fact_37 : decode cX4_fact 37 = .ok (.dup, 1) := dk_89 (dk_at dksX4_fact_1 13 rfl rfl)
theorem dX4_fact_38 : decode cX4_fact 38 = .ok (.aload_n 0, 1) := dk_42 (dk_at dksX4_fact_1 14 rfl rfl)
theorem dX4_fact_39 : decode cX4_fact 39 = .ok (.invokevirtual 233, 3) := dk_182 0 233 (dk_at dksX4_fact_1 15 rfl rfl)
theorem dX4_fact_42 : decode cX4_fact 42 = .ok (.invokespecial 245, 3) := dk_183 0 245 (dk_at dksX4_fact_1 18 rfl rfl)
theorem dX4_fact_45 : decode cX4_fact 45 = .ok (.astore_n 3, 1) := dk_78 (dk_at dksX4_fact_1 21 rfl rfl)
theorem dX4_fact_46 : decode cX4_fact 46 = .ok (.aload_n 0, 1) := dk_42 (dk_at dksX4_fact_1 22 rfl rfl)
theorem dX4_fact_47 : decode cX4_fact 47 = .ok (.dup, 1) := dk_89 (dk_at dksX4_fact_1 23 rfl rfl)
theorem dX4_fact_48 : decode cX4_fact 48 = .ok (.getfield 87, 3) := dk_180 0 87 (dk_at dksX4_fact_2 0 rfl rfl)
theorem dX4_fact_51 : decode cX4_fact 51 = .ok (.iconst 1, 1) := dk_4 (dk_at dksX4_fact_2 3 rfl rfl)
theorem dX4_fact_52 : decode cX4_fact 52 = .ok (.isub, 1) := dk_100 (dk_at dksX4_fact_2 4 rfl rfl)
theorem dX4_fact_53 : decode cX4_fact 53 = .ok (.putfield 87, 3) := dk_181 0 87 (dk_at dksX4_fact_2 5 rfl rfl)
theorem dX4_fact_56 : decode cX4_fact 56 = .ok (.aload_n 3, 1) := dk_45 (dk_at dksX4_fact_2 8 rfl rfl)
theorem dX4_fact_57 : decode cX4_fact 57 = .ok (.areturn, 1) := dk_176 (dk_at dksX4_fact_2 9 rfl rfl)
theorem dX4_fact_58 : decode cX4_fact 58 = .ok (.iload_n 1, 1) := dk_27 (dk_at dksX4_fact_2 10 rfl rfl)
theorem dX4_fact_59 : decode cX4_fact 59 = .ok (.bipush 91, 2) := dk_16 91 (dk_at dksX4_fact_2 11 rfl rfl)
theorem dX4_fact_61 : decode cX4_fact 61 = .ok (.if_icmp .ne 50, 3) := dk_160 0 50 (dk_at dksX4_fact_2 13 rfl rfl)
theorem dX4_fact_64 : decode cX4_fact 64 = .ok (.aload_n 0, 1) := dk_42 (dk_at dksX4_fact_2 16 rfl rfl)
theorem dX4_fact_65 : decode cX4_fact 65 = .ok (.iload_n 2, 1) := dk_28 (dk_at dksX4_fact_2 17 rfl rfl)
theorem dX4_fact_66 : decode cX4_fact 66 = .ok (.invokevirtual 240, 3) := dk_182 0 240 (dk_at dksX4_fact_2 18 rfl rfl)
theorem dX4_fact_69 : decode cX4_fact 69 = .ok (.aload_n 0, 1) := dk_42 (dk_at dksX4_fact_2 21 rfl rfl)
theorem dX4_fact_70 : decode cX4_fact 70 = .ok (.dup, 1) := dk_89 (dk_at dksX4_fact_2 22 rfl rfl)
theorem dX4_fact_71 : decode cX4_fact 71 = .ok (.getfield 42, 3) := dk_180 0 42 (dk_at dksX4_fact_3 0 rfl rfl)
theorem dX4_fact_74 : decode cX4_fact 74 = .ok (.iconst 1, 1) := dk_4 (dk_at dksX4_fact_3 3 rfl rfl)
theorem dX4_fact_75 : decode cX4_fact 75 = .ok (.iadd, 1) := dk_96 (dk_at dksX4_fact_3 4 rfl rfl)
theorem dX4_fact_76 : decode cX4_fact 76 = .ok (.putfield 42, 3) := dk_181 0 42 (dk_at dksX4_fact_3 5 rfl rfl)
theorem dX4_fact_79 : decode cX4_fact 79 = .ok (.aload_n 0, 1) := dk_42 (dk_at dksX4_fact_3 8 rfl rfl)
theorem dX4_fact_80 : decode cX4_fact 80 = .ok (.invokevirtual 200, 3) := dk_182 0 200 (dk_at dksX4_fact_3 9 rfl rfl)
theorem dX4_fact_83 : decode cX4_fact 83 = .ok (.astore_n 3, 1) := dk_78 (dk_at dksX4_fact_3 12 rfl rfl)
theorem dX4_fact_84 : decode cX4_fact 84 = .ok (.aload_n 0, 1) := dk_42 (dk_at dksX4_fact_3 13 rfl rfl)
theorem dX4_fact_85 : decode cX4_fact 85 = .ok (.aload_n 0, 1) := dk_42 (dk_at dksX4_fact_3 14 rfl rfl)
theorem dX4_fact_86 : decode cX4_fact 86 = .ok (.bipush 93, 2) := dk_16 93 (dk_at dksX4_fact_3 15 rfl rfl)
theorem dX4_fact_88 : decode cX4_fact 88 = .ok (.invokevirtual 167, 3) := dk_182 0 167 (dk_at dksX4_fact_3 17 rfl rfl)
theorem dX4_fact_91 : decode cX4_fact 91 = .ok (.iconst 0, 1) := dk_3 (dk_at dksX4_fact_3 20 rfl rfl)
theorem dX4_fact_92 : decode cX4_fact 92 = .ok (.aload_n 0, 1) := dk_42 (dk_at dksX4_fact_3 21 rfl rfl)
theorem dX4_fact_93 : decode cX4_fact 93 = .ok (.getfield 42, 3) := dk_180 0 42 (dk_at dksX4_fact_4 0 rfl rfl)
theorem dX4_fact_96 : decode cX4_fact 96 = .ok (.invokevirtual 76, 3) := dk_182 0 76 (dk_at dksX4_fact_4 3 rfl rfl)
theorem dX4_fact_99 : decode cX4_fact 99 = .ok (.aload_n 0, 1) := dk_42 (dk_at dksX4_fact_4 6 rfl rfl)
theorem dX4_fact_100 : decode cX4_fact 100 = .ok (.dup, 1) := dk_89 (dk_at dksX4_fact_4 7 rfl rfl)
theorem dX4_fact_101 : decode cX4_fact 101 = .ok (.getfield 87, 3) := dk_180 0 87 (dk_at dksX4_fact_4 8 rfl rfl)
theorem dX4_fact_104 : decode cX4_fact 104 = .ok (.iconst 1, 1) := dk_4 (dk_at dksX4_fact_4 11 rfl rfl)
theorem dX4_fact_105 : decode cX4_fact 105 = .ok (.isub, 1) := dk_100 (dk_at dksX4_fact_4 12 rfl rfl)
theorem dX4_fact_106 : decode cX4_fact 106 = .ok (.putfield 87, 3) := dk_181 0 87 (dk_at dksX4_fact_4 13 rfl rfl)
theorem dX4_fact_109 : decode cX4_fact 109 = .ok (.aload_n 3, 1) := dk_45 (dk_at dksX4_fact_4 16 rfl rfl)
theorem dX4_fact_110 : decode cX4_fact 110 = .ok (.areturn, 1) := dk_176 (dk_at dksX4_fact_4 17 rfl rfl)
theorem dX4_fact_111 : decode cX4_fact 111 = .ok (.aload_n 0, 1) := dk_42 (dk_at dksX4_fact_4 18 rfl rfl)
theorem dX4_fact_112 : decode cX4_fact 112 = .ok (.invokevirtual 188, 3) := dk_182 0 188 (dk_at dksX4_fact_4 19 rfl rfl)
theorem dX4_fact_115 : decode cX4_fact 115 = .ok (.astore_n 3, 1) := dk_78 (dk_at dksX4_fact_4 22 rfl rfl)
theorem dX4_fact_116 : decode cX4_fact 116 = .ok (.aload_n 0, 1) := dk_42 (dk_at dksX4_fact_4 23 rfl rfl)
theorem dX4_fact_117 : decode cX4_fact 117 = .ok (.invokevirtual 52, 3) := dk_182 0 52 (dk_at dksX4_fact_5 0 rfl rfl)
theorem dX4_fact_120 : decode cX4_fact 120 = .ok (.pop, 1) := dk_87 (dk_at dksX4_fact_5 3 rfl rfl)
theorem dX4_fact_121 : decode cX4_fact 121 = .ok (.aload_n 0, 1) := dk_42 (dk_at dksX4_fact_5 4 rfl rfl)
theorem dX4_fact_122 : decode cX4_fact 122 = .ok (.getfield 42, 3) := dk_180 0 42 (dk_at dksX4_fact_5 5 rfl rfl)
theorem dX4_fact_125 : decode cX4_fact 125 = .ok (.istore 4, 2) := dk_54 4 (dk_at dksX4_fact_5 8 rfl rfl)
theorem dX4_fact_127 : decode cX4_fact 127 = .ok (.aload_n 0, 1) := dk_42 (dk_at dksX4_fact_5 10 rfl rfl)
theorem dX4_fact_128 : decode cX4_fact 128 = .ok (.invokevirtual 248, 3) := dk_182 0 248 (dk_at dksX4_fact_5 11 rfl rfl)
theorem dX4_fact_131 : decode cX4_fact 131 = .ok (.istore 5, 2) := dk_54 5 (dk_at dksX4_fact_5 14 rfl rfl)
theorem dX4_fact_133 : decode cX4_fact 133 = .ok (.aload_n 0, 1) := dk_42 (dk_at dksX4_fact_5 16 rfl rfl)
theorem dX4_fact_134 : decode cX4_fact 134 = .ok (.iload 4, 2) := dk_21 4 (dk_at dksX4_fact_5 17 rfl rfl)
theorem dX4_fact_136 : decode cX4_fact 136 = .ok (.invokevirtual 251, 3) := dk_182 0 251 (dk_at dksX4_fact_5 19 rfl rfl)
theorem dX4_fact_139 : decode cX4_fact 139 = .ok (.new 254, 3) := dk_187 0 254 (dk_at dksX4_fact_6 0 rfl rfl)
theorem dX4_fact_142 : decode cX4_fact 142 = .ok (.dup, 1) := dk_89 (dk_at dksX4_fact_6 3 rfl rfl)
theorem dX4_fact_143 : decode cX4_fact 143 = .ok (.aload_n 3, 1) := dk_45 (dk_at dksX4_fact_6 4 rfl rfl)
theorem dX4_fact_144 : decode cX4_fact 144 = .ok (.iload 5, 2) := dk_21 5 (dk_at dksX4_fact_6 5 rfl rfl)
theorem dX4_fact_146 : decode cX4_fact 146 = .ok (.aload_n 0, 1) := dk_42 (dk_at dksX4_fact_6 7 rfl rfl)
theorem dX4_fact_147 : decode cX4_fact 147 = .ok (.invokevirtual 188, 3) := dk_182 0 188 (dk_at dksX4_fact_6 8 rfl rfl)
theorem dX4_fact_150 : decode cX4_fact 150 = .ok (.invokespecial 256, 3) := dk_183 1 0 (dk_at dksX4_fact_6 11 rfl rfl)
theorem dX4_fact_153 : decode cX4_fact 153 = .ok (.areturn, 1) := dk_176 (dk_at dksX4_fact_6 14 rfl rfl)
abbrev cX4_opens : ByteArray := prog_13_method_12_code
def yX4_opens : MethodName := ⟨RX4, "opens", "(I)V"⟩
def dkwX4_opens_1 : List UInt8 := [180, 0, 87, 4, 96, 181, 0, 87, 177]
abbrev dktX4_opens_1 : List UInt8 := dkwX4_opens_1 ++ []
def dkwX4_opens_0 : List UInt8 := [42, 42, 180, 0, 87, 16, 10, 162, 0, 7, 4, 167, 0, 4, 3, 5, 27, 182, 0, 76, 42, 89]
abbrev dktX4_opens_0 : List UInt8 := dkwX4_opens_0 ++ dktX4_opens_1
theorem dksX4_opens_0 : cX4_opens.data.toList.drop 0 = dktX4_opens_0 := by decide +kernel
theorem dksX4_opens_1 : cX4_opens.data.toList.drop 22 = dktX4_opens_1 := dk_seg dksX4_opens_0 22 rfl rfl
theorem dX4_opens_0 : decode cX4_opens 0 = .ok (.aload_n 0, 1) := dk_42 (dk_at dksX4_opens_0 0 rfl rfl)
theorem dX4_opens_1 : decode cX4_opens 1 = .ok (.aload_n 0, 1) := dk_42 (dk_at dksX4_opens_0 1 rfl rfl)
theorem dX4_opens_2 : decode cX4_opens 2 = .ok (.getfield 87, 3) := dk_180 0 87 (dk_at dksX4_opens_0 2 rfl rfl)
theorem dX4_opens_5 : decode cX4_opens 5 = .ok (.bipush 10, 2) := dk_16 10 (dk_at dksX4_opens_0 5 rfl rfl)
theorem dX4_opens_7 : decode cX4_opens 7 = .ok (.if_icmp .ge 7, 3) := dk_162 0 7 (dk_at dksX4_opens_0 7 rfl rfl)
theorem dX4_opens_10 : decode cX4_opens 10 = .ok (.iconst 1, 1) := dk_4 (dk_at dksX4_opens_0 10 rfl rfl)
theorem dX4_opens_11 : decode cX4_opens 11 = .ok (.goto 4, 3) := dk_167 0 4 (dk_at dksX4_opens_0 11 rfl rfl)
theorem dX4_opens_14 : decode cX4_opens 14 = .ok (.iconst 0, 1) := dk_3 (dk_at dksX4_opens_0 14 rfl rfl)
theorem dX4_opens_15 : decode cX4_opens 15 = .ok (.iconst 2, 1) := dk_5 (dk_at dksX4_opens_0 15 rfl rfl)
theorem dX4_opens_16 : decode cX4_opens 16 = .ok (.iload_n 1, 1) := dk_27 (dk_at dksX4_opens_0 16 rfl rfl)
theorem dX4_opens_17 : decode cX4_opens 17 = .ok (.invokevirtual 76, 3) := dk_182 0 76 (dk_at dksX4_opens_0 17 rfl rfl)
theorem dX4_opens_20 : decode cX4_opens 20 = .ok (.aload_n 0, 1) := dk_42 (dk_at dksX4_opens_0 20 rfl rfl)
theorem dX4_opens_21 : decode cX4_opens 21 = .ok (.dup, 1) := dk_89 (dk_at dksX4_opens_0 21 rfl rfl)
theorem dX4_opens_22 : decode cX4_opens 22 = .ok (.getfield 87, 3) := dk_180 0 87 (dk_at dksX4_opens_1 0 rfl rfl)
theorem dX4_opens_25 : decode cX4_opens 25 = .ok (.iconst 1, 1) := dk_4 (dk_at dksX4_opens_1 3 rfl rfl)
theorem dX4_opens_26 : decode cX4_opens 26 = .ok (.iadd, 1) := dk_96 (dk_at dksX4_opens_1 4 rfl rfl)
theorem dX4_opens_27 : decode cX4_opens 27 = .ok (.putfield 87, 3) := dk_181 0 87 (dk_at dksX4_opens_1 5 rfl rfl)
theorem dX4_opens_30 : decode cX4_opens 30 = .ok (.return_, 1) := dk_177 (dk_at dksX4_opens_1 8 rfl rfl)
abbrev cX4_sign : ByteArray := prog_13_method_25_code
def yX4_sign : MethodName := ⟨RX4, "sign", "()I"⟩
def dkwX4_sign_5 : List UInt8 := [167, 0, 16, 3, 167, 0, 12, 28, 153, 0, 7, 6, 167, 0, 4, 7, 172]
abbrev dktX4_sign_5 : List UInt8 := dkwX4_sign_5 ++ []
def dkwX4_sign_4 : List UInt8 := [153, 0, 13, 42, 89, 180, 0, 42, 4, 96, 181, 0, 42, 27, 16, 60, 160, 0, 15, 28, 153, 0, 7, 4]
abbrev dktX4_sign_4 : List UInt8 := dkwX4_sign_4 ++ dktX4_sign_5
def dkwX4_sign_3 : List UInt8 := [180, 0, 3, 180, 0, 48, 42, 180, 0, 42, 51, 16, 61, 160, 0, 7, 4, 167, 0, 4, 3, 61, 28]
abbrev dktX4_sign_3 : List UInt8 := dkwX4_sign_3 ++ dktX4_sign_4
def dkwX4_sign_2 : List UInt8 := [16, 61, 160, 0, 5, 5, 172, 42, 180, 0, 42, 42, 180, 0, 3, 180, 0, 45, 162, 0, 24, 42]
abbrev dktX4_sign_2 : List UInt8 := dkwX4_sign_2 ++ dktX4_sign_3
def dkwX4_sign_1 : List UInt8 := [4, 167, 0, 4, 3, 3, 42, 180, 0, 42, 182, 0, 76, 42, 89, 180, 0, 42, 4, 96, 181, 0, 42, 27]
abbrev dktX4_sign_1 : List UInt8 := dkwX4_sign_1 ++ dktX4_sign_2
def dkwX4_sign_0 : List UInt8 := [42, 182, 0, 52, 60, 42, 27, 16, 60, 159, 0, 15, 27, 16, 61, 159, 0, 9, 27, 16, 62, 160, 0, 7]
abbrev dktX4_sign_0 : List UInt8 := dkwX4_sign_0 ++ dktX4_sign_1
theorem dksX4_sign_0 : cX4_sign.data.toList.drop 0 = dktX4_sign_0 := by decide +kernel
theorem dksX4_sign_1 : cX4_sign.data.toList.drop 24 = dktX4_sign_1 := dk_seg dksX4_sign_0 24 rfl rfl
theorem dksX4_sign_2 : cX4_sign.data.toList.drop 48 = dktX4_sign_2 := dk_seg dksX4_sign_1 24 rfl rfl
theorem dksX4_sign_3 : cX4_sign.data.toList.drop 70 = dktX4_sign_3 := dk_seg dksX4_sign_2 22 rfl rfl
theorem dksX4_sign_4 : cX4_sign.data.toList.drop 93 = dktX4_sign_4 := dk_seg dksX4_sign_3 23 rfl rfl
theorem dksX4_sign_5 : cX4_sign.data.toList.drop 117 = dktX4_sign_5 := dk_seg dksX4_sign_4 24 rfl rfl
theorem dX4_sign_0 : decode cX4_sign 0 = .ok (.aload_n 0, 1) := dk_42 (dk_at dksX4_sign_0 0 rfl rfl)
theorem dX4_sign_1 : decode cX4_sign 1 = .ok (.invokevirtual 52, 3) := dk_182 0 52 (dk_at dksX4_sign_0 1 rfl rfl)
theorem dX4_sign_4 : decode cX4_sign 4 = .ok (.istore_n 1, 1) := dk_60 (dk_at dksX4_sign_0 4 rfl rfl)
theorem dX4_sign_5 : decode cX4_sign 5 = .ok (.aload_n 0, 1) := dk_42 (dk_at dksX4_sign_0 5 rfl rfl)
theorem dX4_sign_6 : decode cX4_sign 6 = .ok (.iload_n 1, 1) := dk_27 (dk_at dksX4_sign_0 6 rfl rfl)
theorem dX4_sign_7 : decode cX4_sign 7 = .ok (.bipush 60, 2) := dk_16 60 (dk_at dksX4_sign_0 7 rfl rfl)
theorem dX4_sign_9 : decode cX4_sign 9 = .ok (.if_icmp .eq 15, 3) := dk_159 0 15 (dk_at dksX4_sign_0 9 rfl rfl)
theorem dX4_sign_12 : decode cX4_sign 12 = .ok (.iload_n 1, 1) := dk_27 (dk_at dksX4_sign_0 12 rfl rfl)
theorem dX4_sign_13 : decode cX4_sign 13 = .ok (.bipush 61, 2) := dk_16 61 (dk_at dksX4_sign_0 13 rfl rfl)
theorem dX4_sign_15 : decode cX4_sign 15 = .ok (.if_icmp .eq 9, 3) := dk_159 0 9 (dk_at dksX4_sign_0 15 rfl rfl)
theorem dX4_sign_18 : decode cX4_sign 18 = .ok (.iload_n 1, 1) := dk_27 (dk_at dksX4_sign_0 18 rfl rfl)
theorem dX4_sign_19 : decode cX4_sign 19 = .ok (.bipush 62, 2) := dk_16 62 (dk_at dksX4_sign_0 19 rfl rfl)
theorem dX4_sign_21 : decode cX4_sign 21 = .ok (.if_icmp .ne 7, 3) := dk_160 0 7 (dk_at dksX4_sign_0 21 rfl rfl)
theorem dX4_sign_24 : decode cX4_sign 24 = .ok (.iconst 1, 1) := dk_4 (dk_at dksX4_sign_1 0 rfl rfl)
theorem dX4_sign_25 : decode cX4_sign 25 = .ok (.goto 4, 3) := dk_167 0 4 (dk_at dksX4_sign_1 1 rfl rfl)
theorem dX4_sign_28 : decode cX4_sign 28 = .ok (.iconst 0, 1) := dk_3 (dk_at dksX4_sign_1 4 rfl rfl)
theorem dX4_sign_29 : decode cX4_sign 29 = .ok (.iconst 0, 1) := dk_3 (dk_at dksX4_sign_1 5 rfl rfl)
theorem dX4_sign_30 : decode cX4_sign 30 = .ok (.aload_n 0, 1) := dk_42 (dk_at dksX4_sign_1 6 rfl rfl)
theorem dX4_sign_31 : decode cX4_sign 31 = .ok (.getfield 42, 3) := dk_180 0 42 (dk_at dksX4_sign_1 7 rfl rfl)
theorem dX4_sign_34 : decode cX4_sign 34 = .ok (.invokevirtual 76, 3) := dk_182 0 76 (dk_at dksX4_sign_1 10 rfl rfl)
theorem dX4_sign_37 : decode cX4_sign 37 = .ok (.aload_n 0, 1) := dk_42 (dk_at dksX4_sign_1 13 rfl rfl)
theorem dX4_sign_38 : decode cX4_sign 38 = .ok (.dup, 1) := dk_89 (dk_at dksX4_sign_1 14 rfl rfl)
theorem dX4_sign_39 : decode cX4_sign 39 = .ok (.getfield 42, 3) := dk_180 0 42 (dk_at dksX4_sign_1 15 rfl rfl)
theorem dX4_sign_42 : decode cX4_sign 42 = .ok (.iconst 1, 1) := dk_4 (dk_at dksX4_sign_1 18 rfl rfl)
theorem dX4_sign_43 : decode cX4_sign 43 = .ok (.iadd, 1) := dk_96 (dk_at dksX4_sign_1 19 rfl rfl)
theorem dX4_sign_44 : decode cX4_sign 44 = .ok (.putfield 42, 3) := dk_181 0 42 (dk_at dksX4_sign_1 20 rfl rfl)
theorem dX4_sign_47 : decode cX4_sign 47 = .ok (.iload_n 1, 1) := dk_27 (dk_at dksX4_sign_1 23 rfl rfl)
theorem dX4_sign_48 : decode cX4_sign 48 = .ok (.bipush 61, 2) := dk_16 61 (dk_at dksX4_sign_2 0 rfl rfl)
theorem dX4_sign_50 : decode cX4_sign 50 = .ok (.if_icmp .ne 5, 3) := dk_160 0 5 (dk_at dksX4_sign_2 2 rfl rfl)
theorem dX4_sign_53 : decode cX4_sign 53 = .ok (.iconst 2, 1) := dk_5 (dk_at dksX4_sign_2 5 rfl rfl)
theorem dX4_sign_54 : decode cX4_sign 54 = .ok (.ireturn, 1) := dk_172 (dk_at dksX4_sign_2 6 rfl rfl)
theorem dX4_sign_55 : decode cX4_sign 55 = .ok (.aload_n 0, 1) := dk_42 (dk_at dksX4_sign_2 7 rfl rfl)
theorem dX4_sign_56 : decode cX4_sign 56 = .ok (.getfield 42, 3) := dk_180 0 42 (dk_at dksX4_sign_2 8 rfl rfl)
theorem dX4_sign_59 : decode cX4_sign 59 = .ok (.aload_n 0, 1) := dk_42 (dk_at dksX4_sign_2 11 rfl rfl)
theorem dX4_sign_60 : decode cX4_sign 60 = .ok (.getfield 3, 3) := dk_180 0 3 (dk_at dksX4_sign_2 12 rfl rfl)
theorem dX4_sign_63 : decode cX4_sign 63 = .ok (.getfield 45, 3) := dk_180 0 45 (dk_at dksX4_sign_2 15 rfl rfl)
theorem dX4_sign_66 : decode cX4_sign 66 = .ok (.if_icmp .ge 24, 3) := dk_162 0 24 (dk_at dksX4_sign_2 18 rfl rfl)
theorem dX4_sign_69 : decode cX4_sign 69 = .ok (.aload_n 0, 1) := dk_42 (dk_at dksX4_sign_2 21 rfl rfl)
theorem dX4_sign_70 : decode cX4_sign 70 = .ok (.getfield 3, 3) := dk_180 0 3 (dk_at dksX4_sign_3 0 rfl rfl)
theorem dX4_sign_73 : decode cX4_sign 73 = .ok (.getfield 48, 3) := dk_180 0 48 (dk_at dksX4_sign_3 3 rfl rfl)
theorem dX4_sign_76 : decode cX4_sign 76 = .ok (.aload_n 0, 1) := dk_42 (dk_at dksX4_sign_3 6 rfl rfl)
theorem dX4_sign_77 : decode cX4_sign 77 = .ok (.getfield 42, 3) := dk_180 0 42 (dk_at dksX4_sign_3 7 rfl rfl)
theorem dX4_sign_80 : decode cX4_sign 80 = .ok (.baload, 1) := dk_51 (dk_at dksX4_sign_3 10 rfl rfl)
theorem dX4_sign_81 : decode cX4_sign 81 = .ok (.bipush 61, 2) := dk_16 61 (dk_at dksX4_sign_3 11 rfl rfl)
theorem dX4_sign_83 : decode cX4_sign 83 = .ok (.if_icmp .ne 7, 3) := dk_160 0 7 (dk_at dksX4_sign_3 13 rfl rfl)
theorem dX4_sign_86 : decode cX4_sign 86 = .ok (.iconst 1, 1) := dk_4 (dk_at dksX4_sign_3 16 rfl rfl)
theorem dX4_sign_87 : decode cX4_sign 87 = .ok (.goto 4, 3) := dk_167 0 4 (dk_at dksX4_sign_3 17 rfl rfl)
theorem dX4_sign_90 : decode cX4_sign 90 = .ok (.iconst 0, 1) := dk_3 (dk_at dksX4_sign_3 20 rfl rfl)
theorem dX4_sign_91 : decode cX4_sign 91 = .ok (.istore_n 2, 1) := dk_61 (dk_at dksX4_sign_3 21 rfl rfl)
theorem dX4_sign_92 : decode cX4_sign 92 = .ok (.iload_n 2, 1) := dk_28 (dk_at dksX4_sign_3 22 rfl rfl)
theorem dX4_sign_93 : decode cX4_sign 93 = .ok (.ifCond .eq 13, 3) := dk_153 0 13 (dk_at dksX4_sign_4 0 rfl rfl)
theorem dX4_sign_96 : decode cX4_sign 96 = .ok (.aload_n 0, 1) := dk_42 (dk_at dksX4_sign_4 3 rfl rfl)
theorem dX4_sign_97 : decode cX4_sign 97 = .ok (.dup, 1) := dk_89 (dk_at dksX4_sign_4 4 rfl rfl)
theorem dX4_sign_98 : decode cX4_sign 98 = .ok (.getfield 42, 3) := dk_180 0 42 (dk_at dksX4_sign_4 5 rfl rfl)
theorem dX4_sign_101 : decode cX4_sign 101 = .ok (.iconst 1, 1) := dk_4 (dk_at dksX4_sign_4 8 rfl rfl)
theorem dX4_sign_102 : decode cX4_sign 102 = .ok (.iadd, 1) := dk_96 (dk_at dksX4_sign_4 9 rfl rfl)
theorem dX4_sign_103 : decode cX4_sign 103 = .ok (.putfield 42, 3) := dk_181 0 42 (dk_at dksX4_sign_4 10 rfl rfl)
theorem dX4_sign_106 : decode cX4_sign 106 = .ok (.iload_n 1, 1) := dk_27 (dk_at dksX4_sign_4 13 rfl rfl)
theorem dX4_sign_107 : decode cX4_sign 107 = .ok (.bipush 60, 2) := dk_16 60 (dk_at dksX4_sign_4 14 rfl rfl)
theorem dX4_sign_109 : decode cX4_sign 109 = .ok (.if_icmp .ne 15, 3) := dk_160 0 15 (dk_at dksX4_sign_4 16 rfl rfl)
theorem dX4_sign_112 : decode cX4_sign 112 = .ok (.iload_n 2, 1) := dk_28 (dk_at dksX4_sign_4 19 rfl rfl)
theorem dX4_sign_113 : decode cX4_sign 113 = .ok (.ifCond .eq 7, 3) := dk_153 0 7 (dk_at dksX4_sign_4 20 rfl rfl)
theorem dX4_sign_116 : decode cX4_sign 116 = .ok (.iconst 1, 1) := dk_4 (dk_at dksX4_sign_4 23 rfl rfl)
theorem dX4_sign_117 : decode cX4_sign 117 = .ok (.goto 16, 3) := dk_167 0 16 (dk_at dksX4_sign_5 0 rfl rfl)
theorem dX4_sign_120 : decode cX4_sign 120 = .ok (.iconst 0, 1) := dk_3 (dk_at dksX4_sign_5 3 rfl rfl)
theorem dX4_sign_121 : decode cX4_sign 121 = .ok (.goto 12, 3) := dk_167 0 12 (dk_at dksX4_sign_5 4 rfl rfl)
theorem dX4_sign_124 : decode cX4_sign 124 = .ok (.iload_n 2, 1) := dk_28 (dk_at dksX4_sign_5 7 rfl rfl)
theorem dX4_sign_125 : decode cX4_sign 125 = .ok (.ifCond .eq 7, 3) := dk_153 0 7 (dk_at dksX4_sign_5 8 rfl rfl)
theorem dX4_sign_128 : decode cX4_sign 128 = .ok (.iconst 3, 1) := dk_6 (dk_at dksX4_sign_5 11 rfl rfl)
theorem dX4_sign_129 : decode cX4_sign 129 = .ok (.goto 4, 3) := dk_167 0 4 (dk_at dksX4_sign_5 12 rfl rfl)
theorem dX4_sign_132 : decode cX4_sign 132 = .ok (.iconst 4, 1) := dk_7 (dk_at dksX4_sign_5 15 rfl rfl)
theorem dX4_sign_133 : decode cX4_sign 133 = .ok (.ireturn, 1) := dk_172 (dk_at dksX4_sign_5 16 rfl rfl)
theorem q127 : (Jvm.Cond.initialized "DoughBorder$Text") ∈ lw_all := lw_g (lw_at lw_m1 8 rfl) rfl
theorem q162 : (Jvm.Cond.fieldLinkNest "DoughBorder$Text" (93 : Nat) "DoughBorder$Dough" "mileMany" "I" "DoughBorder") ∈ lw_tbl := lw_at lw_m1 43 rfl
theorem q164 : (Jvm.Cond.fieldLinkNest "DoughBorder$Text" (108 : Nat) "DoughBorder$Dough" "damp" "I" "DoughBorder") ∈ lw_tbl := lw_at lw_m1 45 rfl
theorem q168 : (Jvm.Cond.fieldLinkNest "DoughBorder$Text" (98 : Nat) "DoughBorder$Dough" "villageMany" "I" "DoughBorder") ∈ lw_tbl := lw_at lw_m1 49 rfl
theorem q170 : (Jvm.Cond.fieldLinkNest "DoughBorder$Text" (101 : Nat) "DoughBorder$Dough" "wantMany" "I" "DoughBorder") ∈ lw_tbl := lw_at lw_m1 51 rfl
theorem q177 : (Jvm.Cond.fieldLinkNest "DoughBorder$Text" (173 : Nat) "DoughBorder$Dough" "toldBaked" "I" "DoughBorder") ∈ lw_tbl := lw_at lw_m1 58 rfl
theorem q180 : (Jvm.Cond.fieldLinkNest "DoughBorder$Text" (133 : Nat) "DoughBorder$Dough" "baked" "I" "DoughBorder") ∈ lw_tbl := lw_at lw_m1 61 rfl
theorem q185 : (Jvm.Cond.fieldLinkNest "DoughBorder$Text" (176 : Nat) "DoughBorder$Dough" "toldDough" "[I" "DoughBorder") ∈ lw_tbl := lw_at lw_m1 66 rfl
theorem q188 : (Jvm.Cond.fieldLinkNest "DoughBorder$Text" (115 : Nat) "DoughBorder$Dough" "warm" "[I" "DoughBorder") ∈ lw_tbl := lw_at lw_m1 69 rfl
theorem q192 : (Jvm.Cond.fieldLinkNest "DoughBorder$Text" (136 : Nat) "DoughBorder$Dough" "villageMile" "[I" "DoughBorder") ∈ lw_tbl := lw_at lw_m1 73 rfl
theorem q195 : (Jvm.Cond.fieldLinkNest "DoughBorder$Text" (139 : Nat) "DoughBorder$Dough" "place" "[I" "DoughBorder") ∈ lw_tbl := lw_at lw_m1 76 rfl
theorem q198 : (Jvm.Cond.fieldLinkNest "DoughBorder$Text" (141 : Nat) "DoughBorder$Dough" "whose" "[I" "DoughBorder") ∈ lw_tbl := lw_at lw_m1 79 rfl
theorem q200 : (Jvm.Cond.fieldLinkNest "DoughBorder$Text" (144 : Nat) "DoughBorder$Dough" "want" "[I" "DoughBorder") ∈ lw_tbl := lw_at lw_m1 81 rfl
theorem q205 : (Jvm.Cond.fieldLinkNest "DoughBorder$Text" (124 : Nat) "DoughBorder$Dough" "line" "[I" "DoughBorder") ∈ lw_tbl := lw_at lw_m1 86 rfl
theorem q207 : (Jvm.Cond.fieldLinkNest "DoughBorder$Text" (111 : Nat) "DoughBorder$Dough" "dough" "[I" "DoughBorder") ∈ lw_tbl := lw_at lw_m1 88 rfl
theorem q211 : (Jvm.Cond.fieldLinkNest "DoughBorder$Text" (127 : Nat) "DoughBorder$Dough" "salt" "[I" "DoughBorder") ∈ lw_tbl := lw_at lw_m1 92 rfl
theorem q323 : (Jvm.Cond.fieldLinkNest "DoughBorder$Text" (33 : Nat) "DoughBorder$Fault" "kind" "I" "DoughBorder") ∈ lw_tbl := lw_at lw_m1 204 rfl
theorem q325 : (Jvm.Cond.fieldLinkNest "DoughBorder$Text" (39 : Nat) "DoughBorder$Fault" "place" "I" "DoughBorder") ∈ lw_tbl := lw_at lw_m1 206 rfl
theorem q372 : (Jvm.Cond.fieldLinkNest "DoughBorder$Text" (22 : Nat) "DoughBorder" "reading" "LDoughBorder$Dough;" "DoughBorder") ∈ lw_tbl := lw_at lw_m2 13 rfl
theorem q375 : (Jvm.Cond.fieldLinkNest "DoughBorder$Text" (147 : Nat) "DoughBorder" "blank" "LDoughBorder$Dough;" "DoughBorder") ∈ lw_tbl := lw_at lw_m2 16 rfl
theorem q378 : (Jvm.Cond.fieldLinkNest "DoughBorder$Text" (29 : Nat) "DoughBorder" "fault" "LDoughBorder$Fault;" "DoughBorder") ∈ lw_tbl := lw_at lw_m2 19 rfl
theorem q380 : (Jvm.Cond.fieldLinkNest "DoughBorder$Text" (48 : Nat) "DoughBorder" "tape" "[B" "DoughBorder") ∈ lw_tbl := lw_at lw_m2 21 rfl
theorem q382 : (Jvm.Cond.fieldLinkNest "DoughBorder$Text" (45 : Nat) "DoughBorder" "taped" "I" "DoughBorder") ∈ lw_tbl := lw_at lw_m2 23 rfl
theorem q385 : (Jvm.Cond.fieldLinkNest "DoughBorder$Text" (154 : Nat) "DoughBorder" "lineWords" "[Ljava/lang/String;" "DoughBorder") ∈ lw_tbl := lw_at lw_m2 26 rfl
theorem q387 : (Jvm.Cond.fieldLinkNest "DoughBorder$Text" (211 : Nat) "DoughBorder" "clauseWords" "[Ljava/lang/String;" "DoughBorder") ∈ lw_tbl := lw_at lw_m2 28 rfl
theorem q388 : (Jvm.Cond.fieldLinkNest "DoughBorder$Text" (15 : Nat) "DoughBorder" "wordNames" "[Ljava/lang/String;" "DoughBorder") ∈ lw_tbl := lw_at lw_m2 29 rfl
theorem q469 : (Jvm.Cond.instantiable "DoughBorder$Text" (7 : Nat)) ∈ lw_all := lw_g (lw_at lw_m2 110 rfl) rfl
theorem q471 : (Jvm.Cond.instanceMethod ({ cls := "DoughBorder$Text", name := "<init>", desc := "(LDoughBorder;)V" } : Jvm.MethodName)) ∈ lw_all := lw_g (lw_at lw_m2 112 rfl) rfl
theorem q472 : (Jvm.Cond.code ({ cls := "DoughBorder$Text", name := "<init>", desc := "(LDoughBorder;)V" } : Jvm.MethodName) prog_13_method_1_code (2 : Nat) (Option.none : Option Jvm.ClassFile.FieldType)) ∈ lw_all := lw_g (lw_at lw_m2 113 rfl) rfl
theorem q473 : (Jvm.Cond.methodLink "DoughBorder$Text" (9 : Nat) ({ cls := "java/lang/Object", name := "<init>", desc := "()V" } : Jvm.MethodName)) ∈ lw_all := lw_g (lw_at lw_m2 114 rfl) rfl
theorem q474 : (Jvm.Cond.fieldLink "DoughBorder$Text" (19 : Nat) "DoughBorder$Text" "words" "[Ljava/lang/String;") ∈ lw_all := lw_g (lw_at lw_m2 115 rfl) rfl
theorem q475 : (Jvm.Cond.fieldLink "DoughBorder$Text" (26 : Nat) "DoughBorder$Text" "read" "LDoughBorder$Dough;") ∈ lw_all := lw_g (lw_at lw_m2 116 rfl) rfl
theorem q476 : (Jvm.Cond.fieldLink "DoughBorder$Text" (42 : Nat) "DoughBorder$Text" "next" "I") ∈ lw_all := lw_g (lw_at lw_m2 117 rfl) rfl
theorem q477 : (Jvm.Cond.fieldLink "DoughBorder$Text" (87 : Nat) "DoughBorder$Text" "deep" "I") ∈ lw_all := lw_g (lw_at lw_m2 118 rfl) rfl
theorem q478 : (Jvm.Cond.fieldLink "DoughBorder$Text" (84 : Nat) "DoughBorder$Text" "made" "I") ∈ lw_all := lw_g (lw_at lw_m2 119 rfl) rfl
theorem q479 : (Jvm.Cond.fieldLink "DoughBorder$Text" (90 : Nat) "DoughBorder$Text" "many" "I") ∈ lw_all := lw_g (lw_at lw_m2 120 rfl) rfl
theorem q480 : (Jvm.Cond.fieldLink "DoughBorder$Text" (3 : Nat) "DoughBorder$Text" "this$0" "LDoughBorder;") ∈ lw_all := lw_g (lw_at lw_m2 121 rfl) rfl
theorem q481 : (Jvm.Cond.laysFinal "DoughBorder$Text" "DoughBorder$Text" "words" "[Ljava/lang/String;") ∈ lw_all := lw_g (lw_at lw_m2 122 rfl) rfl
theorem q482 : (Jvm.Cond.soleField "DoughBorder$Text" "words") ∈ lw_all := lw_g (lw_at lw_m2 123 rfl) rfl
theorem q483 : (Jvm.Cond.laysFinal "DoughBorder$Text" "DoughBorder$Text" "read" "LDoughBorder$Dough;") ∈ lw_all := lw_g (lw_at lw_m2 124 rfl) rfl
theorem q484 : (Jvm.Cond.soleField "DoughBorder$Text" "read") ∈ lw_all := lw_g (lw_at lw_m2 125 rfl) rfl
theorem q485 : (Jvm.Cond.lays "DoughBorder$Text" "DoughBorder$Text" "next" "I") ∈ lw_all := lw_g (lw_at lw_m2 126 rfl) rfl
theorem q486 : (Jvm.Cond.soleField "DoughBorder$Text" "next") ∈ lw_all := lw_g (lw_at lw_m2 127 rfl) rfl
theorem q487 : (Jvm.Cond.lays "DoughBorder$Text" "DoughBorder$Text" "deep" "I") ∈ lw_all := lw_g (lw_at lw_m2 128 rfl) rfl
theorem q488 : (Jvm.Cond.soleField "DoughBorder$Text" "deep") ∈ lw_all := lw_g (lw_at lw_m2 129 rfl) rfl
theorem q489 : (Jvm.Cond.lays "DoughBorder$Text" "DoughBorder$Text" "made" "I") ∈ lw_all := lw_g (lw_at lw_m2 130 rfl) rfl
theorem q490 : (Jvm.Cond.soleField "DoughBorder$Text" "made") ∈ lw_all := lw_g (lw_at lw_m2 131 rfl) rfl
theorem q491 : (Jvm.Cond.lays "DoughBorder$Text" "DoughBorder$Text" "many" "I") ∈ lw_all := lw_g (lw_at lw_m2 132 rfl) rfl
theorem q492 : (Jvm.Cond.soleField "DoughBorder$Text" "many") ∈ lw_all := lw_g (lw_at lw_m2 133 rfl) rfl
theorem q493 : (Jvm.Cond.laysFinal "DoughBorder$Text" "DoughBorder$Text" "this$0" "LDoughBorder;") ∈ lw_all := lw_g (lw_at lw_m2 134 rfl) rfl
theorem q494 : (Jvm.Cond.soleField "DoughBorder$Text" "this$0") ∈ lw_all := lw_g (lw_at lw_m2 135 rfl) rfl
theorem q495 : (Jvm.Cond.superclass "DoughBorder$Text" "java/lang/Object") ∈ lw_all := lw_g (lw_at lw_m2 136 rfl) rfl
theorem q497 : (Jvm.Cond.instanceMethod ({ cls := "DoughBorder$Text", name := "stripTold", desc := "()LDoughBorder$Dough;" } : Jvm.MethodName)) ∈ lw_all := lw_g (lw_at lw_m2 138 rfl) rfl
theorem q498 : (Jvm.Cond.selects "DoughBorder$Text" ({ cls := "DoughBorder$Text", name := "stripTold", desc := "()LDoughBorder$Dough;" } : Jvm.MethodName) ({ cls := "DoughBorder$Text", name := "stripTold", desc := "()LDoughBorder$Dough;" } : Jvm.MethodName)) ∈ lw_all := lw_g (lw_at lw_m2 139 rfl) rfl
theorem q499 : (Jvm.Cond.code ({ cls := "DoughBorder$Text", name := "stripTold", desc := "()LDoughBorder$Dough;" } : Jvm.MethodName) prog_13_method_19_code (3 : Nat) (Option.some (Jvm.ClassFile.FieldType.object "DoughBorder$Dough"))) ∈ lw_all := lw_g (lw_at lw_m2 140 rfl) rfl
theorem q500 : (Jvm.Cond.methodLink "DoughBorder$Text" (150 : Nat) ({ cls := "DoughBorder$Dough", name := "copies", desc := "(LDoughBorder$Dough;)LDoughBorder$Dough;" } : Jvm.MethodName)) ∈ lw_all := lw_g (lw_at lw_m2 141 rfl) rfl
theorem q511 : (Jvm.Cond.methodLink "DoughBorder$Text" (52 : Nat) ({ cls := "DoughBorder$Text", name := "see", desc := "()I" } : Jvm.MethodName)) ∈ lw_all := lw_g (lw_at lw_m2 152 rfl) rfl
theorem q512 : (Jvm.Cond.privateMethod ({ cls := "DoughBorder$Text", name := "see", desc := "()I" } : Jvm.MethodName)) ∈ lw_tbl := lw_at lw_m2 153 rfl
theorem q513 : (Jvm.Cond.instanceMethod ({ cls := "DoughBorder$Text", name := "see", desc := "()I" } : Jvm.MethodName)) ∈ lw_all := lw_g (lw_at lw_m2 154 rfl) rfl
theorem q514 : (Jvm.Cond.code ({ cls := "DoughBorder$Text", name := "see", desc := "()I" } : Jvm.MethodName) prog_13_method_3_code (1 : Nat) (Option.some Jvm.ClassFile.FieldType.int)) ∈ lw_all := lw_g (lw_at lw_m2 155 rfl) rfl
theorem q515 : (Jvm.Cond.methodLink "DoughBorder$Text" (157 : Nat) ({ cls := "DoughBorder$Text", name := "oneOf", desc := "([Ljava/lang/String;)I" } : Jvm.MethodName)) ∈ lw_all := lw_g (lw_at lw_m2 156 rfl) rfl
theorem q516 : (Jvm.Cond.privateMethod ({ cls := "DoughBorder$Text", name := "oneOf", desc := "([Ljava/lang/String;)I" } : Jvm.MethodName)) ∈ lw_tbl := lw_at lw_m2 157 rfl
theorem q517 : (Jvm.Cond.instanceMethod ({ cls := "DoughBorder$Text", name := "oneOf", desc := "([Ljava/lang/String;)I" } : Jvm.MethodName)) ∈ lw_all := lw_g (lw_at lw_m2 158 rfl) rfl
theorem q518 : (Jvm.Cond.code ({ cls := "DoughBorder$Text", name := "oneOf", desc := "([Ljava/lang/String;)I" } : Jvm.MethodName) prog_13_method_8_code (3 : Nat) (Option.some Jvm.ClassFile.FieldType.int)) ∈ lw_all := lw_g (lw_at lw_m2 159 rfl) rfl
theorem q519 : (Jvm.Cond.methodLink "DoughBorder$Text" (68 : Nat) ({ cls := "DoughBorder$Text", name := "isWord", desc := "(Ljava/lang/String;)Z" } : Jvm.MethodName)) ∈ lw_all := lw_g (lw_at lw_m2 160 rfl) rfl
theorem q520 : (Jvm.Cond.privateMethod ({ cls := "DoughBorder$Text", name := "isWord", desc := "(Ljava/lang/String;)Z" } : Jvm.MethodName)) ∈ lw_tbl := lw_at lw_m2 161 rfl
theorem q521 : (Jvm.Cond.instanceMethod ({ cls := "DoughBorder$Text", name := "isWord", desc := "(Ljava/lang/String;)Z" } : Jvm.MethodName)) ∈ lw_all := lw_g (lw_at lw_m2 162 rfl) rfl
theorem q522 : (Jvm.Cond.code ({ cls := "DoughBorder$Text", name := "isWord", desc := "(Ljava/lang/String;)Z" } : Jvm.MethodName) prog_13_method_6_code (5 : Nat) (Option.some Jvm.ClassFile.FieldType.boolean)) ∈ lw_all := lw_g (lw_at lw_m2 163 rfl) rfl
theorem q523 : (Jvm.Cond.methodLink "DoughBorder$Text" (56 : Nat) ({ cls := "DoughBorder$Text", name := "letters", desc := "()I" } : Jvm.MethodName)) ∈ lw_all := lw_g (lw_at lw_m2 164 rfl) rfl
theorem q524 : (Jvm.Cond.privateMethod ({ cls := "DoughBorder$Text", name := "letters", desc := "()I" } : Jvm.MethodName)) ∈ lw_tbl := lw_at lw_m2 165 rfl
theorem q525 : (Jvm.Cond.instanceMethod ({ cls := "DoughBorder$Text", name := "letters", desc := "()I" } : Jvm.MethodName)) ∈ lw_all := lw_g (lw_at lw_m2 166 rfl) rfl
theorem q526 : (Jvm.Cond.code ({ cls := "DoughBorder$Text", name := "letters", desc := "()I" } : Jvm.MethodName) prog_13_method_5_code (2 : Nat) (Option.some Jvm.ClassFile.FieldType.int)) ∈ lw_all := lw_g (lw_at lw_m2 167 rfl) rfl
theorem q527 : (Jvm.Cond.methodLink "DoughBorder$Text" (59 : Nat) ({ cls := "java/lang/String", name := "length", desc := "()I" } : Jvm.MethodName)) ∈ lw_all := lw_g (lw_at lw_m2 168 rfl) rfl
theorem q537 : (Jvm.Cond.methodLink "DoughBorder$Text" (64 : Nat) ({ cls := "java/lang/String", name := "charAt", desc := "(I)C" } : Jvm.MethodName)) ∈ lw_all := lw_g (lw_at lw_m2 178 rfl) rfl
theorem q575 : (Jvm.Cond.methodLink "DoughBorder$Text" (76 : Nat) ({ cls := "DoughBorder$Text", name := "demand", desc := "(ZII)V" } : Jvm.MethodName)) ∈ lw_all := lw_g (lw_at lw_m2 216 rfl) rfl
theorem q576 : (Jvm.Cond.privateMethod ({ cls := "DoughBorder$Text", name := "demand", desc := "(ZII)V" } : Jvm.MethodName)) ∈ lw_tbl := lw_at lw_m2 217 rfl
theorem q577 : (Jvm.Cond.instanceMethod ({ cls := "DoughBorder$Text", name := "demand", desc := "(ZII)V" } : Jvm.MethodName)) ∈ lw_all := lw_g (lw_at lw_m2 218 rfl) rfl
theorem q578 : (Jvm.Cond.code ({ cls := "DoughBorder$Text", name := "demand", desc := "(ZII)V" } : Jvm.MethodName) prog_13_method_2_code (4 : Nat) (Option.none : Option Jvm.ClassFile.FieldType)) ∈ lw_all := lw_g (lw_at lw_m2 219 rfl) rfl
theorem q579 : (Jvm.Cond.methodLink "DoughBorder$Text" (161 : Nat) ({ cls := "DoughBorder$Text", name := "canBe", desc := "(I)Z" } : Jvm.MethodName)) ∈ lw_all := lw_g (lw_at lw_m2 220 rfl) rfl
theorem q580 : (Jvm.Cond.privateMethod ({ cls := "DoughBorder$Text", name := "canBe", desc := "(I)Z" } : Jvm.MethodName)) ∈ lw_tbl := lw_at lw_m2 221 rfl
theorem q581 : (Jvm.Cond.instanceMethod ({ cls := "DoughBorder$Text", name := "canBe", desc := "(I)Z" } : Jvm.MethodName)) ∈ lw_all := lw_g (lw_at lw_m2 222 rfl) rfl
theorem q582 : (Jvm.Cond.code ({ cls := "DoughBorder$Text", name := "canBe", desc := "(I)Z" } : Jvm.MethodName) prog_13_method_14_code (2 : Nat) (Option.some Jvm.ClassFile.FieldType.boolean)) ∈ lw_all := lw_g (lw_at lw_m2 223 rfl) rfl
theorem q583 : (Jvm.Cond.methodLink "DoughBorder$Text" (164 : Nat) ({ cls := "DoughBorder$Text", name := "line", desc := "(I)V" } : Jvm.MethodName)) ∈ lw_all := lw_g (lw_at lw_m2 224 rfl) rfl
theorem q584 : (Jvm.Cond.privateMethod ({ cls := "DoughBorder$Text", name := "line", desc := "(I)V" } : Jvm.MethodName)) ∈ lw_tbl := lw_at lw_m2 225 rfl
theorem q585 : (Jvm.Cond.instanceMethod ({ cls := "DoughBorder$Text", name := "line", desc := "(I)V" } : Jvm.MethodName)) ∈ lw_all := lw_g (lw_at lw_m2 226 rfl) rfl
theorem q586 : (Jvm.Cond.code ({ cls := "DoughBorder$Text", name := "line", desc := "(I)V" } : Jvm.MethodName) prog_13_method_18_code (3 : Nat) (Option.none : Option Jvm.ClassFile.FieldType)) ∈ lw_all := lw_g (lw_at lw_m2 227 rfl) rfl
theorem q587 : (Jvm.Cond.methodLink "DoughBorder$Text" (118 : Nat) ({ cls := "DoughBorder$Text", name := "stripHere", desc := "()V" } : Jvm.MethodName)) ∈ lw_all := lw_g (lw_at lw_m2 228 rfl) rfl
theorem q588 : (Jvm.Cond.privateMethod ({ cls := "DoughBorder$Text", name := "stripHere", desc := "()V" } : Jvm.MethodName)) ∈ lw_tbl := lw_at lw_m2 229 rfl
theorem q589 : (Jvm.Cond.instanceMethod ({ cls := "DoughBorder$Text", name := "stripHere", desc := "()V" } : Jvm.MethodName)) ∈ lw_all := lw_g (lw_at lw_m2 230 rfl) rfl
theorem q590 : (Jvm.Cond.code ({ cls := "DoughBorder$Text", name := "stripHere", desc := "()V" } : Jvm.MethodName) prog_13_method_16_code (2 : Nat) (Option.none : Option Jvm.ClassFile.FieldType)) ∈ lw_all := lw_g (lw_at lw_m2 231 rfl) rfl
theorem q591 : (Jvm.Cond.methodLink "DoughBorder$Text" (104 : Nat) ({ cls := "DoughBorder$Text", name := "number", desc := "(II)I" } : Jvm.MethodName)) ∈ lw_all := lw_g (lw_at lw_m2 232 rfl) rfl
theorem q592 : (Jvm.Cond.privateMethod ({ cls := "DoughBorder$Text", name := "number", desc := "(II)I" } : Jvm.MethodName)) ∈ lw_tbl := lw_at lw_m2 233 rfl
theorem q593 : (Jvm.Cond.instanceMethod ({ cls := "DoughBorder$Text", name := "number", desc := "(II)I" } : Jvm.MethodName)) ∈ lw_all := lw_g (lw_at lw_m2 234 rfl) rfl
theorem q594 : (Jvm.Cond.code ({ cls := "DoughBorder$Text", name := "number", desc := "(II)I" } : Jvm.MethodName) prog_13_method_10_code (5 : Nat) (Option.some Jvm.ClassFile.FieldType.int)) ∈ lw_all := lw_g (lw_at lw_m2 235 rfl) rfl
theorem q595 : (Jvm.Cond.methodLink "DoughBorder$Text" (72 : Nat) ({ cls := "DoughBorder$Text", name := "isDigit", desc := "(I)Z" } : Jvm.MethodName)) ∈ lw_all := lw_g (lw_at lw_m2 236 rfl) rfl
theorem q596 : (Jvm.Cond.privateMethod ({ cls := "DoughBorder$Text", name := "isDigit", desc := "(I)Z" } : Jvm.MethodName)) ∈ lw_tbl := lw_at lw_m2 237 rfl
theorem q597 : (Jvm.Cond.instanceMethod ({ cls := "DoughBorder$Text", name := "isDigit", desc := "(I)Z" } : Jvm.MethodName)) ∈ lw_all := lw_g (lw_at lw_m2 238 rfl) rfl
theorem q598 : (Jvm.Cond.code ({ cls := "DoughBorder$Text", name := "isDigit", desc := "(I)Z" } : Jvm.MethodName) prog_13_method_9_code (2 : Nat) (Option.some Jvm.ClassFile.FieldType.boolean)) ∈ lw_all := lw_g (lw_at lw_m2 239 rfl) rfl
theorem q599 : (Jvm.Cond.methodLinkNest "DoughBorder$Text" (80 : Nat) ({ cls := "DoughBorder", name := "in", desc := "(JJJ)Z" } : Jvm.MethodName) "DoughBorder") ∈ lw_tbl := lw_at lw_m3 0 rfl
theorem q602 : (Jvm.Cond.methodLink "DoughBorder$Text" (121 : Nat) ({ cls := "DoughBorder$Text", name := "mileHere", desc := "()I" } : Jvm.MethodName)) ∈ lw_all := lw_g (lw_at lw_m3 3 rfl) rfl
theorem q603 : (Jvm.Cond.privateMethod ({ cls := "DoughBorder$Text", name := "mileHere", desc := "()I" } : Jvm.MethodName)) ∈ lw_tbl := lw_at lw_m3 4 rfl
theorem q604 : (Jvm.Cond.instanceMethod ({ cls := "DoughBorder$Text", name := "mileHere", desc := "()I" } : Jvm.MethodName)) ∈ lw_all := lw_g (lw_at lw_m3 5 rfl) rfl
theorem q605 : (Jvm.Cond.code ({ cls := "DoughBorder$Text", name := "mileHere", desc := "()I" } : Jvm.MethodName) prog_13_method_15_code (1 : Nat) (Option.some Jvm.ClassFile.FieldType.int)) ∈ lw_all := lw_g (lw_at lw_m3 6 rfl) rfl
theorem q606 : (Jvm.Cond.methodLink "DoughBorder$Text" (130 : Nat) ({ cls := "DoughBorder$Text", name := "warmHere", desc := "()V" } : Jvm.MethodName)) ∈ lw_all := lw_g (lw_at lw_m3 7 rfl) rfl
theorem q607 : (Jvm.Cond.privateMethod ({ cls := "DoughBorder$Text", name := "warmHere", desc := "()V" } : Jvm.MethodName)) ∈ lw_tbl := lw_at lw_m3 8 rfl
theorem q608 : (Jvm.Cond.instanceMethod ({ cls := "DoughBorder$Text", name := "warmHere", desc := "()V" } : Jvm.MethodName)) ∈ lw_all := lw_g (lw_at lw_m3 9 rfl) rfl
theorem q609 : (Jvm.Cond.code ({ cls := "DoughBorder$Text", name := "warmHere", desc := "()V" } : Jvm.MethodName) prog_13_method_17_code (5 : Nat) (Option.none : Option Jvm.ClassFile.FieldType)) ∈ lw_all := lw_g (lw_at lw_m3 10 rfl) rfl
theorem q610 : (Jvm.Cond.methodLink "DoughBorder$Text" (167 : Nat) ({ cls := "DoughBorder$Text", name := "takesSign", desc := "(I)Z" } : Jvm.MethodName)) ∈ lw_all := lw_g (lw_at lw_m3 11 rfl) rfl
theorem q611 : (Jvm.Cond.privateMethod ({ cls := "DoughBorder$Text", name := "takesSign", desc := "(I)Z" } : Jvm.MethodName)) ∈ lw_tbl := lw_at lw_m3 12 rfl
theorem q612 : (Jvm.Cond.instanceMethod ({ cls := "DoughBorder$Text", name := "takesSign", desc := "(I)Z" } : Jvm.MethodName)) ∈ lw_all := lw_g (lw_at lw_m3 13 rfl) rfl
theorem q613 : (Jvm.Cond.code ({ cls := "DoughBorder$Text", name := "takesSign", desc := "(I)Z" } : Jvm.MethodName) prog_13_method_4_code (2 : Nat) (Option.some Jvm.ClassFile.FieldType.boolean)) ∈ lw_all := lw_g (lw_at lw_m3 14 rfl) rfl
theorem q614 : (Jvm.Cond.methodLink "DoughBorder$Text" (170 : Nat) ({ cls := "DoughBorder$Text", name := "ends", desc := "()V" } : Jvm.MethodName)) ∈ lw_all := lw_g (lw_at lw_m3 15 rfl) rfl
theorem q615 : (Jvm.Cond.privateMethod ({ cls := "DoughBorder$Text", name := "ends", desc := "()V" } : Jvm.MethodName)) ∈ lw_tbl := lw_at lw_m3 16 rfl
theorem q616 : (Jvm.Cond.instanceMethod ({ cls := "DoughBorder$Text", name := "ends", desc := "()V" } : Jvm.MethodName)) ∈ lw_all := lw_g (lw_at lw_m3 17 rfl) rfl
theorem q617 : (Jvm.Cond.code ({ cls := "DoughBorder$Text", name := "ends", desc := "()V" } : Jvm.MethodName) prog_13_method_13_code (1 : Nat) (Option.none : Option Jvm.ClassFile.FieldType)) ∈ lw_all := lw_g (lw_at lw_m3 18 rfl) rfl
theorem q618 : (Jvm.Cond.methodLink "DoughBorder$Text" (179 : Nat) ({ cls := "java/lang/System", name := "arraycopy", desc := "(Ljava/lang/Object;ILjava/lang/Object;II)V" } : Jvm.MethodName)) ∈ lw_all := lw_g (lw_at lw_m3 19 rfl) rfl
theorem q629 : (Jvm.Cond.instanceMethod ({ cls := "DoughBorder$Text", name := "ruleTold", desc := "()LDoughBorder$Rule;" } : Jvm.MethodName)) ∈ lw_all := lw_g (lw_at lw_m3 30 rfl) rfl
theorem q630 : (Jvm.Cond.selects "DoughBorder$Text" ({ cls := "DoughBorder$Text", name := "ruleTold", desc := "()LDoughBorder$Rule;" } : Jvm.MethodName) ({ cls := "DoughBorder$Text", name := "ruleTold", desc := "()LDoughBorder$Rule;" } : Jvm.MethodName)) ∈ lw_all := lw_g (lw_at lw_m3 31 rfl) rfl
theorem q631 : (Jvm.Cond.code ({ cls := "DoughBorder$Text", name := "ruleTold", desc := "()LDoughBorder$Rule;" } : Jvm.MethodName) prog_13_method_21_code (3 : Nat) (Option.some (Jvm.ClassFile.FieldType.object "DoughBorder$Rule"))) ∈ lw_all := lw_g (lw_at lw_m3 32 rfl) rfl
theorem q632 : (Jvm.Cond.classLink "DoughBorder$Text" (208 : Nat) "DoughBorder$Rule") ∈ lw_all := lw_g (lw_at lw_m3 33 rfl) rfl
theorem q634 : (Jvm.Cond.methodLinkNest "DoughBorder$Text" (210 : Nat) ({ cls := "DoughBorder$Rule", name := "<init>", desc := "()V" } : Jvm.MethodName) "DoughBorder") ∈ lw_tbl := lw_at lw_m3 35 rfl
theorem q641 : (Jvm.Cond.fieldLinkNest "DoughBorder$Text" (214 : Nat) "DoughBorder$Rule" "clauses" "[LDoughBorder$Clause;" "DoughBorder") ∈ lw_tbl := lw_at lw_m3 42 rfl
theorem q643 : (Jvm.Cond.fieldLinkNest "DoughBorder$Text" (218 : Nat) "DoughBorder$Rule" "many" "I" "DoughBorder") ∈ lw_tbl := lw_at lw_m3 44 rfl
theorem q649 : (Jvm.Cond.methodLink "DoughBorder$Text" (219 : Nat) ({ cls := "DoughBorder$Text", name := "clauseHere", desc := "()LDoughBorder$Clause;" } : Jvm.MethodName)) ∈ lw_all := lw_g (lw_at lw_m3 50 rfl) rfl
theorem q650 : (Jvm.Cond.privateMethod ({ cls := "DoughBorder$Text", name := "clauseHere", desc := "()LDoughBorder$Clause;" } : Jvm.MethodName)) ∈ lw_tbl := lw_at lw_m3 51 rfl
theorem q651 : (Jvm.Cond.instanceMethod ({ cls := "DoughBorder$Text", name := "clauseHere", desc := "()LDoughBorder$Clause;" } : Jvm.MethodName)) ∈ lw_all := lw_g (lw_at lw_m3 52 rfl) rfl
theorem q652 : (Jvm.Cond.code ({ cls := "DoughBorder$Text", name := "clauseHere", desc := "()LDoughBorder$Clause;" } : Jvm.MethodName) prog_13_method_20_code (2 : Nat) (Option.some (Jvm.ClassFile.FieldType.object "DoughBorder$Clause"))) ∈ lw_all := lw_g (lw_at lw_m3 53 rfl) rfl
theorem q653 : (Jvm.Cond.classLink "DoughBorder$Text" (185 : Nat) "DoughBorder$Clause") ∈ lw_all := lw_g (lw_at lw_m3 54 rfl) rfl
theorem q655 : (Jvm.Cond.methodLinkNest "DoughBorder$Text" (187 : Nat) ({ cls := "DoughBorder$Clause", name := "<init>", desc := "()V" } : Jvm.MethodName) "DoughBorder") ∈ lw_tbl := lw_at lw_m3 56 rfl
theorem q660 : (Jvm.Cond.fieldLinkNest "DoughBorder$Text" (192 : Nat) "DoughBorder$Clause" "sum" "LDoughBorder$Value;" "DoughBorder") ∈ lw_tbl := lw_at lw_m3 61 rfl
theorem q662 : (Jvm.Cond.fieldLinkNest "DoughBorder$Text" (204 : Nat) "DoughBorder$Clause" "test" "LDoughBorder$Test;" "DoughBorder") ∈ lw_tbl := lw_at lw_m3 63 rfl
theorem q668 : (Jvm.Cond.methodLink "DoughBorder$Text" (188 : Nat) ({ cls := "DoughBorder$Text", name := "sum", desc := "()LDoughBorder$Value;" } : Jvm.MethodName)) ∈ lw_all := lw_g (lw_at lw_m3 69 rfl) rfl
theorem q669 : (Jvm.Cond.privateMethod ({ cls := "DoughBorder$Text", name := "sum", desc := "()LDoughBorder$Value;" } : Jvm.MethodName)) ∈ lw_tbl := lw_at lw_m3 70 rfl
theorem q670 : (Jvm.Cond.instanceMethod ({ cls := "DoughBorder$Text", name := "sum", desc := "()LDoughBorder$Value;" } : Jvm.MethodName)) ∈ lw_all := lw_g (lw_at lw_m3 71 rfl) rfl
theorem q671 : (Jvm.Cond.code ({ cls := "DoughBorder$Text", name := "sum", desc := "()LDoughBorder$Value;" } : Jvm.MethodName) prog_13_method_26_code (3 : Nat) (Option.some (Jvm.ClassFile.FieldType.object "DoughBorder$Value"))) ∈ lw_all := lw_g (lw_at lw_m3 72 rfl) rfl
theorem q672 : (Jvm.Cond.methodLink "DoughBorder$Text" (259 : Nat) ({ cls := "DoughBorder$Text", name := "term", desc := "()LDoughBorder$Value;" } : Jvm.MethodName)) ∈ lw_all := lw_g (lw_at lw_m3 73 rfl) rfl
theorem q673 : (Jvm.Cond.privateMethod ({ cls := "DoughBorder$Text", name := "term", desc := "()LDoughBorder$Value;" } : Jvm.MethodName)) ∈ lw_tbl := lw_at lw_m3 74 rfl
theorem q674 : (Jvm.Cond.instanceMethod ({ cls := "DoughBorder$Text", name := "term", desc := "()LDoughBorder$Value;" } : Jvm.MethodName)) ∈ lw_all := lw_g (lw_at lw_m3 75 rfl) rfl
theorem q675 : (Jvm.Cond.code ({ cls := "DoughBorder$Text", name := "term", desc := "()LDoughBorder$Value;" } : Jvm.MethodName) prog_13_method_27_code (3 : Nat) (Option.some (Jvm.ClassFile.FieldType.object "DoughBorder$Value"))) ∈ lw_all := lw_g (lw_at lw_m3 76 rfl) rfl
theorem q676 : (Jvm.Cond.methodLink "DoughBorder$Text" (265 : Nat) ({ cls := "DoughBorder$Text", name := "value", desc := "()LDoughBorder$Value;" } : Jvm.MethodName)) ∈ lw_all := lw_g (lw_at lw_m3 77 rfl) rfl
theorem q677 : (Jvm.Cond.privateMethod ({ cls := "DoughBorder$Text", name := "value", desc := "()LDoughBorder$Value;" } : Jvm.MethodName)) ∈ lw_tbl := lw_at lw_m3 78 rfl
theorem q678 : (Jvm.Cond.instanceMethod ({ cls := "DoughBorder$Text", name := "value", desc := "()LDoughBorder$Value;" } : Jvm.MethodName)) ∈ lw_all := lw_g (lw_at lw_m3 79 rfl) rfl
theorem q679 : (Jvm.Cond.code ({ cls := "DoughBorder$Text", name := "value", desc := "()LDoughBorder$Value;" } : Jvm.MethodName) prog_13_method_28_code (3 : Nat) (Option.some (Jvm.ClassFile.FieldType.object "DoughBorder$Value"))) ∈ lw_all := lw_g (lw_at lw_m3 80 rfl) rfl
theorem q680 : (Jvm.Cond.constant "DoughBorder$Text" (268 : Nat) (99999 : Int32)) ∈ lw_all := lw_g (lw_at lw_m3 81 rfl) rfl
theorem q681 : (Jvm.Cond.methodLink "DoughBorder$Text" (251 : Nat) ({ cls := "DoughBorder$Text", name := "makes", desc := "(I)V" } : Jvm.MethodName)) ∈ lw_all := lw_g (lw_at lw_m3 82 rfl) rfl
theorem q682 : (Jvm.Cond.privateMethod ({ cls := "DoughBorder$Text", name := "makes", desc := "(I)V" } : Jvm.MethodName)) ∈ lw_tbl := lw_at lw_m3 83 rfl
theorem q683 : (Jvm.Cond.instanceMethod ({ cls := "DoughBorder$Text", name := "makes", desc := "(I)V" } : Jvm.MethodName)) ∈ lw_all := lw_g (lw_at lw_m3 84 rfl) rfl
theorem q684 : (Jvm.Cond.code ({ cls := "DoughBorder$Text", name := "makes", desc := "(I)V" } : Jvm.MethodName) prog_13_method_11_code (2 : Nat) (Option.none : Option Jvm.ClassFile.FieldType)) ∈ lw_all := lw_g (lw_at lw_m3 85 rfl) rfl
theorem q685 : (Jvm.Cond.classLink "DoughBorder$Text" (269 : Nat) "DoughBorder$Number") ∈ lw_all := lw_g (lw_at lw_m3 86 rfl) rfl
theorem q687 : (Jvm.Cond.methodLink "DoughBorder$Text" (271 : Nat) ({ cls := "DoughBorder$Number", name := "<init>", desc := "(J)V" } : Jvm.MethodName)) ∈ lw_all := lw_g (lw_at lw_m3 88 rfl) rfl
theorem q698 : (Jvm.Cond.classLink "DoughBorder$Text" (274 : Nat) "DoughBorder$Word") ∈ lw_all := lw_g (lw_at lw_m3 99 rfl) rfl
theorem q700 : (Jvm.Cond.methodLink "DoughBorder$Text" (276 : Nat) ({ cls := "DoughBorder$Word", name := "<init>", desc := "(I)V" } : Jvm.MethodName)) ∈ lw_all := lw_g (lw_at lw_m3 101 rfl) rfl
theorem q708 : (Jvm.Cond.classLink "DoughBorder$Text" (262 : Nat) "DoughBorder$Pair") ∈ lw_all := lw_g (lw_at lw_m3 109 rfl) rfl
theorem q710 : (Jvm.Cond.methodLink "DoughBorder$Text" (264 : Nat) ({ cls := "DoughBorder$Pair", name := "<init>", desc := "(LDoughBorder$Value;ILDoughBorder$Value;)V" } : Jvm.MethodName)) ∈ lw_all := lw_g (lw_at lw_m3 111 rfl) rfl
theorem q724 : (Jvm.Cond.stringRef "DoughBorder$Text" (195 : Nat) "if") ∈ lw_tbl := lw_at lw_m3 125 rfl
theorem q725 : (Jvm.Cond.methodLink "DoughBorder$Text" (197 : Nat) ({ cls := "DoughBorder$Text", name := "takesWord", desc := "(Ljava/lang/String;)Z" } : Jvm.MethodName)) ∈ lw_all := lw_g (lw_at lw_m3 126 rfl) rfl
theorem q726 : (Jvm.Cond.privateMethod ({ cls := "DoughBorder$Text", name := "takesWord", desc := "(Ljava/lang/String;)Z" } : Jvm.MethodName)) ∈ lw_tbl := lw_at lw_m3 127 rfl
theorem q727 : (Jvm.Cond.instanceMethod ({ cls := "DoughBorder$Text", name := "takesWord", desc := "(Ljava/lang/String;)Z" } : Jvm.MethodName)) ∈ lw_all := lw_g (lw_at lw_m3 128 rfl) rfl
theorem q728 : (Jvm.Cond.code ({ cls := "DoughBorder$Text", name := "takesWord", desc := "(Ljava/lang/String;)Z" } : Jvm.MethodName) prog_13_method_7_code (2 : Nat) (Option.some Jvm.ClassFile.FieldType.boolean)) ∈ lw_all := lw_g (lw_at lw_m3 129 rfl) rfl
theorem q729 : (Jvm.Cond.methodLink "DoughBorder$Text" (200 : Nat) ({ cls := "DoughBorder$Text", name := "tested", desc := "()LDoughBorder$Test;" } : Jvm.MethodName)) ∈ lw_all := lw_g (lw_at lw_m3 130 rfl) rfl
theorem q730 : (Jvm.Cond.privateMethod ({ cls := "DoughBorder$Text", name := "tested", desc := "()LDoughBorder$Test;" } : Jvm.MethodName)) ∈ lw_tbl := lw_at lw_m3 131 rfl
theorem q731 : (Jvm.Cond.instanceMethod ({ cls := "DoughBorder$Text", name := "tested", desc := "()LDoughBorder$Test;" } : Jvm.MethodName)) ∈ lw_all := lw_g (lw_at lw_m3 132 rfl) rfl
theorem q732 : (Jvm.Cond.code ({ cls := "DoughBorder$Text", name := "tested", desc := "()LDoughBorder$Test;" } : Jvm.MethodName) prog_13_method_22_code (2 : Nat) (Option.some (Jvm.ClassFile.FieldType.object "DoughBorder$Test"))) ∈ lw_all := lw_g (lw_at lw_m3 133 rfl) rfl
theorem q733 : (Jvm.Cond.methodLink "DoughBorder$Text" (223 : Nat) ({ cls := "DoughBorder$Text", name := "parted", desc := "()LDoughBorder$Test;" } : Jvm.MethodName)) ∈ lw_all := lw_g (lw_at lw_m3 134 rfl) rfl
theorem q734 : (Jvm.Cond.privateMethod ({ cls := "DoughBorder$Text", name := "parted", desc := "()LDoughBorder$Test;" } : Jvm.MethodName)) ∈ lw_tbl := lw_at lw_m3 135 rfl
theorem q735 : (Jvm.Cond.instanceMethod ({ cls := "DoughBorder$Text", name := "parted", desc := "()LDoughBorder$Test;" } : Jvm.MethodName)) ∈ lw_all := lw_g (lw_at lw_m3 136 rfl) rfl
theorem q736 : (Jvm.Cond.code ({ cls := "DoughBorder$Text", name := "parted", desc := "()LDoughBorder$Test;" } : Jvm.MethodName) prog_13_method_23_code (2 : Nat) (Option.some (Jvm.ClassFile.FieldType.object "DoughBorder$Test"))) ∈ lw_all := lw_g (lw_at lw_m3 137 rfl) rfl
theorem q737 : (Jvm.Cond.methodLink "DoughBorder$Text" (233 : Nat) ({ cls := "DoughBorder$Text", name := "fact", desc := "()LDoughBorder$Test;" } : Jvm.MethodName)) ∈ lw_all := lw_g (lw_at lw_m3 138 rfl) rfl
theorem q738 : (Jvm.Cond.privateMethod ({ cls := "DoughBorder$Text", name := "fact", desc := "()LDoughBorder$Test;" } : Jvm.MethodName)) ∈ lw_tbl := lw_at lw_m3 139 rfl
theorem q739 : (Jvm.Cond.instanceMethod ({ cls := "DoughBorder$Text", name := "fact", desc := "()LDoughBorder$Test;" } : Jvm.MethodName)) ∈ lw_all := lw_g (lw_at lw_m3 140 rfl) rfl
theorem q740 : (Jvm.Cond.code ({ cls := "DoughBorder$Text", name := "fact", desc := "()LDoughBorder$Test;" } : Jvm.MethodName) prog_13_method_24_code (6 : Nat) (Option.some (Jvm.ClassFile.FieldType.object "DoughBorder$Test"))) ∈ lw_all := lw_g (lw_at lw_m3 141 rfl) rfl
theorem q741 : (Jvm.Cond.stringRef "DoughBorder$Text" (238 : Nat) "not") ∈ lw_tbl := lw_at lw_m3 142 rfl
theorem q742 : (Jvm.Cond.methodLink "DoughBorder$Text" (240 : Nat) ({ cls := "DoughBorder$Text", name := "opens", desc := "(I)V" } : Jvm.MethodName)) ∈ lw_all := lw_g (lw_at lw_m3 143 rfl) rfl
theorem q743 : (Jvm.Cond.privateMethod ({ cls := "DoughBorder$Text", name := "opens", desc := "(I)V" } : Jvm.MethodName)) ∈ lw_tbl := lw_at lw_m3 144 rfl
theorem q744 : (Jvm.Cond.instanceMethod ({ cls := "DoughBorder$Text", name := "opens", desc := "(I)V" } : Jvm.MethodName)) ∈ lw_all := lw_g (lw_at lw_m3 145 rfl) rfl
theorem q745 : (Jvm.Cond.code ({ cls := "DoughBorder$Text", name := "opens", desc := "(I)V" } : Jvm.MethodName) prog_13_method_12_code (2 : Nat) (Option.none : Option Jvm.ClassFile.FieldType)) ∈ lw_all := lw_g (lw_at lw_m3 146 rfl) rfl
theorem q746 : (Jvm.Cond.classLink "DoughBorder$Text" (243 : Nat) "DoughBorder$Not") ∈ lw_all := lw_g (lw_at lw_m3 147 rfl) rfl
theorem q748 : (Jvm.Cond.methodLink "DoughBorder$Text" (245 : Nat) ({ cls := "DoughBorder$Not", name := "<init>", desc := "(LDoughBorder$Test;)V" } : Jvm.MethodName)) ∈ lw_all := lw_g (lw_at lw_m3 149 rfl) rfl
theorem q759 : (Jvm.Cond.methodLink "DoughBorder$Text" (248 : Nat) ({ cls := "DoughBorder$Text", name := "sign", desc := "()I" } : Jvm.MethodName)) ∈ lw_all := lw_g (lw_at lw_m3 160 rfl) rfl
theorem q760 : (Jvm.Cond.privateMethod ({ cls := "DoughBorder$Text", name := "sign", desc := "()I" } : Jvm.MethodName)) ∈ lw_tbl := lw_at lw_m3 161 rfl
theorem q761 : (Jvm.Cond.instanceMethod ({ cls := "DoughBorder$Text", name := "sign", desc := "()I" } : Jvm.MethodName)) ∈ lw_all := lw_g (lw_at lw_m3 162 rfl) rfl
theorem q762 : (Jvm.Cond.code ({ cls := "DoughBorder$Text", name := "sign", desc := "()I" } : Jvm.MethodName) prog_13_method_25_code (3 : Nat) (Option.some Jvm.ClassFile.FieldType.int)) ∈ lw_all := lw_g (lw_at lw_m3 163 rfl) rfl
theorem q763 : (Jvm.Cond.classLink "DoughBorder$Text" (254 : Nat) "DoughBorder$Compare") ∈ lw_all := lw_g (lw_at lw_m3 164 rfl) rfl
theorem q765 : (Jvm.Cond.methodLink "DoughBorder$Text" (256 : Nat) ({ cls := "DoughBorder$Compare", name := "<init>", desc := "(LDoughBorder$Value;ILDoughBorder$Value;)V" } : Jvm.MethodName)) ∈ lw_all := lw_g (lw_at lw_m3 166 rfl) rfl
theorem q779 : (Jvm.Cond.stringRef "DoughBorder$Text" (236 : Nat) "and") ∈ lw_tbl := lw_at lw_m3 180 rfl
theorem q780 : (Jvm.Cond.classLink "DoughBorder$Text" (228 : Nat) "DoughBorder$Both") ∈ lw_all := lw_g (lw_at lw_m3 181 rfl) rfl
theorem q782 : (Jvm.Cond.methodLink "DoughBorder$Text" (230 : Nat) ({ cls := "DoughBorder$Both", name := "<init>", desc := "(LDoughBorder$Test;ZLDoughBorder$Test;)V" } : Jvm.MethodName)) ∈ lw_all := lw_g (lw_at lw_m3 183 rfl) rfl
theorem q796 : (Jvm.Cond.stringRef "DoughBorder$Text" (226 : Nat) "or") ∈ lw_tbl := lw_at lw_m3 197 rfl
theorem in_X4 : ∀ w ∈ wsX40, w ∈ lw_all := lw_in wsX40 [481, 483, 485, 487, 489, 491, 493] (by decide +kernel) (by decide +kernel)
