theorem q268 : (Jvm.Cond.arrayClass Jvm.ClassFile.FieldType.int) ∈ lw_all := lw_g (lw_at lw_m1 149 rfl) rfl
set_option maxRecDepth 100000
theorem q269 : (Jvm.Cond.arrayClass Jvm.ClassFile.FieldType.long) ∈ lw_all := lw_g (lw_at lw_m1 150 rfl) rfl
theorem q270 : (Jvm.Cond.arrayOver (Jvm.ClassFile.FieldType.object "DoughBorder$Dough")) ∈ lw_tbl := lw_at lw_m1 151 rfl
theorem q344 : (Jvm.Cond.arrayClass Jvm.ClassFile.FieldType.byte) ∈ lw_all := lw_g (lw_at lw_m1 225 rfl) rfl
theorem q346 : (Jvm.Cond.arrayOver (Jvm.ClassFile.FieldType.object "java/lang/String")) ∈ lw_tbl := lw_at lw_m1 227 rfl
theorem q365 : (Jvm.Cond.arrayOver (Jvm.ClassFile.FieldType.object "DoughBorder$Rule")) ∈ lw_tbl := lw_at lw_m2 6 rfl
theorem q367 : (Jvm.Cond.arrayOver (Jvm.ClassFile.FieldType.object "DoughBorder$Image")) ∈ lw_tbl := lw_at lw_m2 8 rfl
theorem q639 : (Jvm.Cond.arrayOver (Jvm.ClassFile.FieldType.object "DoughBorder$Clause")) ∈ lw_tbl := lw_at lw_m3 40 rfl
theorem q1353 : (Jvm.Cond.arrayClass Jvm.ClassFile.FieldType.boolean) ∈ lw_all := lw_g (lw_at lw_m6 34 rfl) rfl
theorem q128 : (Jvm.Cond.initialized "java/lang/System") ∈ lw_all := lw_g (lw_at lw_m1 9 rfl) rfl
set_option maxRecDepth 100000
theorem q505 : (Jvm.Cond.static ({ cls := "java/lang/System", name := "arraycopy", desc := "(Ljava/lang/Object;ILjava/lang/Object;II)V" } : Jvm.MethodName)) ∈ lw_all := lw_g (lw_at lw_m2 146 rfl) rfl
theorem q506 : (Jvm.Cond.native ({ cls := "java/lang/System", name := "arraycopy", desc := "(Ljava/lang/Object;ILjava/lang/Object;II)V" } : Jvm.MethodName)) ∈ lw_all := lw_g (lw_at lw_m2 147 rfl) rfl
theorem q119 : (Jvm.Cond.initialized "DoughBorderLaw") ∈ lw_all := lw_g (lw_at lw_m1 0 rfl) rfl
set_option maxRecDepth 100000
theorem q146 : (Jvm.Cond.classLink "DoughBorderLaw" (7 : Nat) "DoughBorder") ∈ lw_all := lw_g (lw_at lw_m1 27 rfl) rfl
theorem q148 : (Jvm.Cond.methodLink "DoughBorderLaw" (9 : Nat) ({ cls := "DoughBorder", name := "<init>", desc := "()V" } : Jvm.MethodName)) ∈ lw_all := lw_g (lw_at lw_m1 29 rfl) rfl
theorem q452 : (Jvm.Cond.methodLink "DoughBorderLaw" (13 : Nat) ({ cls := "DoughBorder", name := "feed", desc := "(IIIII)I" } : Jvm.MethodName)) ∈ lw_all := lw_g (lw_at lw_m2 93 rfl) rfl
theorem q460 : (Jvm.Cond.methodLink "DoughBorderLaw" (18 : Nat) ({ cls := "DoughBorder", name := "end", desc := "(I)I" } : Jvm.MethodName)) ∈ lw_all := lw_g (lw_at lw_m2 101 rfl) rfl
theorem q464 : (Jvm.Cond.methodLink "DoughBorderLaw" (23 : Nat) ({ cls := "DoughBorder", name := "strip", desc := "()I" } : Jvm.MethodName)) ∈ lw_all := lw_g (lw_at lw_m2 105 rfl) rfl
theorem q624 : (Jvm.Cond.methodLink "DoughBorderLaw" (28 : Nat) ({ cls := "DoughBorder", name := "rule", desc := "()I" } : Jvm.MethodName)) ∈ lw_all := lw_g (lw_at lw_m3 25 rfl) rfl
theorem q797 : (Jvm.Cond.methodLink "DoughBorderLaw" (32 : Nat) ({ cls := "DoughBorder", name := "force", desc := "(I)I" } : Jvm.MethodName)) ∈ lw_all := lw_g (lw_at lw_m3 198 rfl) rfl
theorem q801 : (Jvm.Cond.methodLink "DoughBorderLaw" (36 : Nat) ({ cls := "DoughBorder", name := "mile", desc := "(II)I" } : Jvm.MethodName)) ∈ lw_all := lw_g (lw_at lw_m3 202 rfl) rfl
theorem q816 : (Jvm.Cond.methodLink "DoughBorderLaw" (41 : Nat) ({ cls := "DoughBorder", name := "village", desc := "(II)I" } : Jvm.MethodName)) ∈ lw_all := lw_g (lw_at lw_m3 217 rfl) rfl
theorem q828 : (Jvm.Cond.methodLink "DoughBorderLaw" (45 : Nat) ({ cls := "DoughBorder", name := "warm", desc := "(I)I" } : Jvm.MethodName)) ∈ lw_all := lw_g (lw_at lw_m3 229 rfl) rfl
theorem q836 : (Jvm.Cond.methodLink "DoughBorderLaw" (74 : Nat) ({ cls := "DoughBorder", name := "undo", desc := "()I" } : Jvm.MethodName)) ∈ lw_all := lw_g (lw_at lw_m3 237 rfl) rfl
theorem q844 : (Jvm.Cond.methodLink "DoughBorderLaw" (49 : Nat) ({ cls := "DoughBorder", name := "night", desc := "()I" } : Jvm.MethodName)) ∈ lw_all := lw_g (lw_at lw_m4 5 rfl) rfl
theorem q954 : (Jvm.Cond.methodLink "DoughBorderLaw" (53 : Nat) ({ cls := "DoughBorder", name := "horses", desc := "(II)I" } : Jvm.MethodName)) ∈ lw_all := lw_g (lw_at lw_m4 115 rfl) rfl
theorem q969 : (Jvm.Cond.methodLink "DoughBorderLaw" (57 : Nat) ({ cls := "DoughBorder", name := "salt", desc := "(I)I" } : Jvm.MethodName)) ∈ lw_all := lw_g (lw_at lw_m4 130 rfl) rfl
theorem q973 : (Jvm.Cond.methodLink "DoughBorderLaw" (61 : Nat) ({ cls := "DoughBorder", name := "sugar", desc := "(I)I" } : Jvm.MethodName)) ∈ lw_all := lw_g (lw_at lw_m4 134 rfl) rfl
theorem q977 : (Jvm.Cond.methodLink "DoughBorderLaw" (65 : Nat) ({ cls := "DoughBorder", name := "slice", desc := "(II)I" } : Jvm.MethodName)) ∈ lw_all := lw_g (lw_at lw_m4 138 rfl) rfl
theorem q982 : (Jvm.Cond.methodLink "DoughBorderLaw" (69 : Nat) ({ cls := "DoughBorder", name := "bake", desc := "(I)Z" } : Jvm.MethodName)) ∈ lw_all := lw_g (lw_at lw_m4 143 rfl) rfl
theorem q986 : (Jvm.Cond.methodLink "DoughBorderLaw" (78 : Nat) ({ cls := "DoughBorder", name := "ahead", desc := "(III)I" } : Jvm.MethodName)) ∈ lw_all := lw_g (lw_at lw_m4 147 rfl) rfl
theorem q996 : (Jvm.Cond.methodLink "DoughBorderLaw" (83 : Nat) ({ cls := "DoughBorder", name := "crosses", desc := "(I)I" } : Jvm.MethodName)) ∈ lw_all := lw_g (lw_at lw_m4 157 rfl) rfl
theorem q1000 : (Jvm.Cond.methodLink "DoughBorderLaw" (87 : Nat) ({ cls := "DoughBorder", name := "push", desc := "(II)I" } : Jvm.MethodName)) ∈ lw_all := lw_g (lw_at lw_m4 161 rfl) rfl
theorem q1017 : (Jvm.Cond.methodLink "DoughBorderLaw" (91 : Nat) ({ cls := "DoughBorder", name := "dukes", desc := "(II)I" } : Jvm.MethodName)) ∈ lw_all := lw_g (lw_at lw_m4 178 rfl) rfl
theorem q1030 : (Jvm.Cond.methodLink "DoughBorderLaw" (95 : Nat) ({ cls := "DoughBorder", name := "log", desc := "(III)I" } : Jvm.MethodName)) ∈ lw_all := lw_g (lw_at lw_m4 191 rfl) rfl
theorem q1035 : (Jvm.Cond.methodLink "DoughBorderLaw" (99 : Nat) ({ cls := "DoughBorder", name := "theft", desc := "(II)I" } : Jvm.MethodName)) ∈ lw_all := lw_g (lw_at lw_m4 196 rfl) rfl
theorem q1052 : (Jvm.Cond.methodLink "DoughBorderLaw" (103 : Nat) ({ cls := "DoughBorder", name := "weigh", desc := "(III)I" } : Jvm.MethodName)) ∈ lw_all := lw_g (lw_at lw_m4 213 rfl) rfl
theorem q1060 : (Jvm.Cond.methodLink "DoughBorderLaw" (107 : Nat) ({ cls := "DoughBorder", name := "crust", desc := "(IIII)I" } : Jvm.MethodName)) ∈ lw_all := lw_g (lw_at lw_m4 221 rfl) rfl
theorem q1069 : (Jvm.Cond.methodLink "DoughBorderLaw" (112 : Nat) ({ cls := "DoughBorder", name := "peace", desc := "(II)I" } : Jvm.MethodName)) ∈ lw_all := lw_g (lw_at lw_m4 230 rfl) rfl
theorem q1083 : (Jvm.Cond.methodLink "DoughBorderLaw" (116 : Nat) ({ cls := "DoughBorder", name := "part", desc := "(I)I" } : Jvm.MethodName)) ∈ lw_all := lw_g (lw_at lw_m5 4 rfl) rfl
theorem q1090 : (Jvm.Cond.methodLink "DoughBorderLaw" (120 : Nat) ({ cls := "DoughBorder", name := "seed", desc := "(I)I" } : Jvm.MethodName)) ∈ lw_all := lw_g (lw_at lw_m5 11 rfl) rfl
theorem q1094 : (Jvm.Cond.methodLink "DoughBorderLaw" (124 : Nat) ({ cls := "DoughBorder", name := "summers", desc := "(III)I" } : Jvm.MethodName)) ∈ lw_all := lw_g (lw_at lw_m5 15 rfl) rfl
theorem q1109 : (Jvm.Cond.methodLink "DoughBorderLaw" (128 : Nat) ({ cls := "DoughBorder", name := "count", desc := "(I)I" } : Jvm.MethodName)) ∈ lw_all := lw_g (lw_at lw_m5 30 rfl) rfl
theorem q1114 : (Jvm.Cond.methodLink "DoughBorderLaw" (132 : Nat) ({ cls := "DoughBorder", name := "image", desc := "(I)I" } : Jvm.MethodName)) ∈ lw_all := lw_g (lw_at lw_m5 35 rfl) rfl
theorem q1139 : (Jvm.Cond.methodLink "DoughBorderLaw" (136 : Nat) ({ cls := "DoughBorder", name := "back", desc := "(I)I" } : Jvm.MethodName)) ∈ lw_all := lw_g (lw_at lw_m5 60 rfl) rfl
theorem q1143 : (Jvm.Cond.classLink "DoughBorderLaw" (10 : Nat) "DoughBorderModel") ∈ lw_all := lw_g (lw_at lw_m5 64 rfl) rfl
theorem q1145 : (Jvm.Cond.methodLink "DoughBorderLaw" (12 : Nat) ({ cls := "DoughBorderModel", name := "<init>", desc := "()V" } : Jvm.MethodName)) ∈ lw_all := lw_g (lw_at lw_m5 66 rfl) rfl
theorem q1354 : (Jvm.Cond.methodLink "DoughBorderLaw" (17 : Nat) ({ cls := "DoughBorderModel", name := "feed", desc := "(IIIII)I" } : Jvm.MethodName)) ∈ lw_all := lw_g (lw_at lw_m6 35 rfl) rfl
theorem q1362 : (Jvm.Cond.methodLink "DoughBorderLaw" (22 : Nat) ({ cls := "DoughBorderModel", name := "end", desc := "(I)I" } : Jvm.MethodName)) ∈ lw_all := lw_g (lw_at lw_m6 43 rfl) rfl
theorem q1366 : (Jvm.Cond.methodLink "DoughBorderLaw" (27 : Nat) ({ cls := "DoughBorderModel", name := "strip", desc := "()I" } : Jvm.MethodName)) ∈ lw_all := lw_g (lw_at lw_m6 47 rfl) rfl
theorem q1458 : (Jvm.Cond.methodLink "DoughBorderLaw" (31 : Nat) ({ cls := "DoughBorderModel", name := "rule", desc := "()I" } : Jvm.MethodName)) ∈ lw_all := lw_g (lw_at lw_m6 139 rfl) rfl
theorem q1532 : (Jvm.Cond.methodLink "DoughBorderLaw" (35 : Nat) ({ cls := "DoughBorderModel", name := "force", desc := "(I)I" } : Jvm.MethodName)) ∈ lw_all := lw_g (lw_at lw_m6 213 rfl) rfl
theorem q1537 : (Jvm.Cond.methodLink "DoughBorderLaw" (40 : Nat) ({ cls := "DoughBorderModel", name := "mile", desc := "(II)I" } : Jvm.MethodName)) ∈ lw_all := lw_g (lw_at lw_m6 218 rfl) rfl
theorem q1552 : (Jvm.Cond.methodLink "DoughBorderLaw" (44 : Nat) ({ cls := "DoughBorderModel", name := "village", desc := "(II)I" } : Jvm.MethodName)) ∈ lw_all := lw_g (lw_at lw_m6 233 rfl) rfl
theorem q1564 : (Jvm.Cond.methodLink "DoughBorderLaw" (48 : Nat) ({ cls := "DoughBorderModel", name := "warm", desc := "(I)I" } : Jvm.MethodName)) ∈ lw_all := lw_g (lw_at lw_m7 5 rfl) rfl
theorem q1576 : (Jvm.Cond.methodLink "DoughBorderLaw" (77 : Nat) ({ cls := "DoughBorderModel", name := "undo", desc := "()I" } : Jvm.MethodName)) ∈ lw_all := lw_g (lw_at lw_m7 17 rfl) rfl
theorem q1592 : (Jvm.Cond.methodLink "DoughBorderLaw" (52 : Nat) ({ cls := "DoughBorderModel", name := "night", desc := "()I" } : Jvm.MethodName)) ∈ lw_all := lw_g (lw_at lw_m7 33 rfl) rfl
theorem q1651 : (Jvm.Cond.methodLink "DoughBorderLaw" (56 : Nat) ({ cls := "DoughBorderModel", name := "horses", desc := "(II)I" } : Jvm.MethodName)) ∈ lw_all := lw_g (lw_at lw_m7 92 rfl) rfl
theorem q1665 : (Jvm.Cond.methodLink "DoughBorderLaw" (60 : Nat) ({ cls := "DoughBorderModel", name := "salt", desc := "(I)I" } : Jvm.MethodName)) ∈ lw_all := lw_g (lw_at lw_m7 106 rfl) rfl
theorem q1669 : (Jvm.Cond.methodLink "DoughBorderLaw" (64 : Nat) ({ cls := "DoughBorderModel", name := "sugar", desc := "(I)I" } : Jvm.MethodName)) ∈ lw_all := lw_g (lw_at lw_m7 110 rfl) rfl
theorem q1673 : (Jvm.Cond.methodLink "DoughBorderLaw" (68 : Nat) ({ cls := "DoughBorderModel", name := "slice", desc := "(II)I" } : Jvm.MethodName)) ∈ lw_all := lw_g (lw_at lw_m7 114 rfl) rfl
theorem q1678 : (Jvm.Cond.methodLink "DoughBorderLaw" (73 : Nat) ({ cls := "DoughBorderModel", name := "bake", desc := "(I)Z" } : Jvm.MethodName)) ∈ lw_all := lw_g (lw_at lw_m7 119 rfl) rfl
theorem q1682 : (Jvm.Cond.methodLink "DoughBorderLaw" (82 : Nat) ({ cls := "DoughBorderModel", name := "ahead", desc := "(III)I" } : Jvm.MethodName)) ∈ lw_all := lw_g (lw_at lw_m7 123 rfl) rfl
theorem q1712 : (Jvm.Cond.methodLink "DoughBorderLaw" (86 : Nat) ({ cls := "DoughBorderModel", name := "crosses", desc := "(I)I" } : Jvm.MethodName)) ∈ lw_all := lw_g (lw_at lw_m7 153 rfl) rfl
theorem q1716 : (Jvm.Cond.methodLink "DoughBorderLaw" (90 : Nat) ({ cls := "DoughBorderModel", name := "push", desc := "(II)I" } : Jvm.MethodName)) ∈ lw_all := lw_g (lw_at lw_m7 157 rfl) rfl
theorem q1732 : (Jvm.Cond.methodLink "DoughBorderLaw" (94 : Nat) ({ cls := "DoughBorderModel", name := "dukes", desc := "(II)I" } : Jvm.MethodName)) ∈ lw_all := lw_g (lw_at lw_m7 173 rfl) rfl
theorem q1766 : (Jvm.Cond.methodLink "DoughBorderLaw" (98 : Nat) ({ cls := "DoughBorderModel", name := "log", desc := "(III)I" } : Jvm.MethodName)) ∈ lw_all := lw_g (lw_at lw_m7 207 rfl) rfl
theorem q1771 : (Jvm.Cond.methodLink "DoughBorderLaw" (102 : Nat) ({ cls := "DoughBorderModel", name := "theft", desc := "(II)I" } : Jvm.MethodName)) ∈ lw_all := lw_g (lw_at lw_m7 212 rfl) rfl
theorem q1783 : (Jvm.Cond.methodLink "DoughBorderLaw" (106 : Nat) ({ cls := "DoughBorderModel", name := "weigh", desc := "(III)I" } : Jvm.MethodName)) ∈ lw_all := lw_g (lw_at lw_m7 224 rfl) rfl
theorem q1787 : (Jvm.Cond.methodLink "DoughBorderLaw" (111 : Nat) ({ cls := "DoughBorderModel", name := "crust", desc := "(IIII)I" } : Jvm.MethodName)) ∈ lw_all := lw_g (lw_at lw_m7 228 rfl) rfl
theorem q1796 : (Jvm.Cond.methodLink "DoughBorderLaw" (115 : Nat) ({ cls := "DoughBorderModel", name := "peace", desc := "(II)I" } : Jvm.MethodName)) ∈ lw_all := lw_g (lw_at lw_m7 237 rfl) rfl
theorem q1800 : (Jvm.Cond.methodLink "DoughBorderLaw" (119 : Nat) ({ cls := "DoughBorderModel", name := "part", desc := "(I)I" } : Jvm.MethodName)) ∈ lw_all := lw_g (lw_at lw_m8 1 rfl) rfl
theorem q1804 : (Jvm.Cond.methodLink "DoughBorderLaw" (123 : Nat) ({ cls := "DoughBorderModel", name := "seed", desc := "(I)I" } : Jvm.MethodName)) ∈ lw_all := lw_g (lw_at lw_m8 5 rfl) rfl
theorem q1808 : (Jvm.Cond.methodLink "DoughBorderLaw" (127 : Nat) ({ cls := "DoughBorderModel", name := "summers", desc := "(III)I" } : Jvm.MethodName)) ∈ lw_all := lw_g (lw_at lw_m8 9 rfl) rfl
theorem q1821 : (Jvm.Cond.methodLink "DoughBorderLaw" (131 : Nat) ({ cls := "DoughBorderModel", name := "count", desc := "(I)I" } : Jvm.MethodName)) ∈ lw_all := lw_g (lw_at lw_m8 22 rfl) rfl
theorem q1829 : (Jvm.Cond.methodLink "DoughBorderLaw" (135 : Nat) ({ cls := "DoughBorderModel", name := "image", desc := "(I)I" } : Jvm.MethodName)) ∈ lw_all := lw_g (lw_at lw_m8 30 rfl) rfl
theorem q1833 : (Jvm.Cond.methodLink "DoughBorderLaw" (139 : Nat) ({ cls := "DoughBorderModel", name := "back", desc := "(I)I" } : Jvm.MethodName)) ∈ lw_all := lw_g (lw_at lw_m8 34 rfl) rfl
/-! java/lang/Throwable -/
set_option maxRecDepth 100000
def RJ0 : String := "java/lang/Throwable"
def TJ0 : u_T := fun k => match k with
  | 0 => ("java/lang/Throwable", "cause", "Ljava/lang/Throwable;", false)
  | 1 => ("java/lang/Throwable", "stackTrace", "[Ljava/lang/StackTraceElement;", false)
  | 2 => ("java/lang/Throwable", "suppressedExceptions", "Ljava/util/List;", false)
  | 3 => ("java/lang/Throwable", "detailMessage", "Ljava/lang/String;", false)
  | _ => ("java/lang/Throwable", "backtrace", "Ljava/lang/Object;", false)
def tyJ0 : Nat → FieldType := fun k => match k with
  | 0 => .object "java/lang/Throwable"
  | 1 => .array (.object "java/lang/StackTraceElement")
  | 2 => .object "java/util/List"
  | 3 => .object "java/lang/String"
  | _ => .object "java/lang/Object"
abbrev wsJ00 : List Cond := u_ws RJ0 TJ0 5
theorem nmJ0 : ∀ a, a < 5 → ∀ b, b < 5 → a ≠ b → (TJ0 a).2.1 ≠ (TJ0 b).2.1 := by decide +kernel
theorem tyJ0_ok : ∀ k, k < 5 → parseFieldDescriptor (TJ0 k).2.2.1 = some (tyJ0 k) := by decide +kernel
abbrev cJ0_init : ByteArray := prog_26_method_1_code
def yJ0_init : MethodName := ⟨RJ0, "<init>", "()V"⟩
def dkwJ0_init_1 : List UInt8 := [182, 0, 27, 87, 177]
abbrev dktJ0_init_1 : List UInt8 := dkwJ0_init_1 ++ []
def dkwJ0_init_0 : List UInt8 := [42, 183, 0, 1, 42, 42, 181, 0, 7, 42, 178, 0, 13, 181, 0, 17, 42, 178, 0, 20, 181, 0, 24, 42]
abbrev dktJ0_init_0 : List UInt8 := dkwJ0_init_0 ++ dktJ0_init_1
theorem dksJ0_init_0 : cJ0_init.data.toList.drop 0 = dktJ0_init_0 := by decide +kernel
theorem dksJ0_init_1 : cJ0_init.data.toList.drop 24 = dktJ0_init_1 := dk_seg dksJ0_init_0 24 rfl rfl
theorem dJ0_init_0 : decode cJ0_init 0 = .ok (.aload_n 0, 1) := dk_42 (dk_at dksJ0_init_0 0 rfl rfl)
theorem dJ0_init_1 : decode cJ0_init 1 = .ok (.invokespecial 1, 3) := dk_183 0 1 (dk_at dksJ0_init_0 1 rfl rfl)
theorem dJ0_init_4 : decode cJ0_init 4 = .ok (.aload_n 0, 1) := dk_42 (dk_at dksJ0_init_0 4 rfl rfl)
theorem dJ0_init_5 : decode cJ0_init 5 = .ok (.aload_n 0, 1) := dk_42 (dk_at dksJ0_init_0 5 rfl rfl)
theorem dJ0_init_6 : decode cJ0_init 6 = .ok (.putfield 7, 3) := dk_181 0 7 (dk_at dksJ0_init_0 6 rfl rfl)
theorem dJ0_init_9 : decode cJ0_init 9 = .ok (.aload_n 0, 1) := dk_42 (dk_at dksJ0_init_0 9 rfl rfl)
theorem dJ0_init_10 : decode cJ0_init 10 = .ok (.getstatic 13, 3) := dk_178 0 13 (dk_at dksJ0_init_0 10 rfl rfl)
theorem dJ0_init_13 : decode cJ0_init 13 = .ok (.putfield 17, 3) := dk_181 0 17 (dk_at dksJ0_init_0 13 rfl rfl)
theorem dJ0_init_16 : decode cJ0_init 16 = .ok (.aload_n 0, 1) := dk_42 (dk_at dksJ0_init_0 16 rfl rfl)
theorem dJ0_init_17 : decode cJ0_init 17 = .ok (.getstatic 20, 3) := dk_178 0 20 (dk_at dksJ0_init_0 17 rfl rfl)
theorem dJ0_init_20 : decode cJ0_init 20 = .ok (.putfield 24, 3) := dk_181 0 24 (dk_at dksJ0_init_0 20 rfl rfl)
theorem dJ0_init_23 : decode cJ0_init 23 = .ok (.aload_n 0, 1) := dk_42 (dk_at dksJ0_init_0 23 rfl rfl)
theorem dJ0_init_24 : decode cJ0_init 24 = .ok (.invokevirtual 27, 3) := dk_182 0 27 (dk_at dksJ0_init_1 0 rfl rfl)
theorem dJ0_init_27 : decode cJ0_init 27 = .ok (.pop, 1) := dk_87 (dk_at dksJ0_init_1 3 rfl rfl)
theorem dJ0_init_28 : decode cJ0_init 28 = .ok (.return_, 1) := dk_177 (dk_at dksJ0_init_1 4 rfl rfl)
abbrev cJ0_init_2 : ByteArray := prog_26_method_5_code
def yJ0_init_2 : MethodName := ⟨RJ0, "<init>", "(Ljava/lang/String;Ljava/lang/Throwable;ZZ)V"⟩
def dkwJ0_init_2_2 : List UInt8 := [44, 181, 0, 7, 29, 154, 0, 8, 42, 1, 181, 0, 24, 177]
abbrev dktJ0_init_2_2 : List UInt8 := dkwJ0_init_2_2 ++ []
def dkwJ0_init_2_1 : List UInt8 := [21, 4, 153, 0, 11, 42, 182, 0, 27, 87, 167, 0, 8, 42, 1, 181, 0, 17, 42, 43, 181, 0, 31, 42]
abbrev dktJ0_init_2_1 : List UInt8 := dkwJ0_init_2_1 ++ dktJ0_init_2_2
def dkwJ0_init_2_0 : List UInt8 := [42, 183, 0, 1, 42, 42, 181, 0, 7, 42, 178, 0, 13, 181, 0, 17, 42, 178, 0, 20, 181, 0, 24]
abbrev dktJ0_init_2_0 : List UInt8 := dkwJ0_init_2_0 ++ dktJ0_init_2_1
theorem dksJ0_init_2_0 : cJ0_init_2.data.toList.drop 0 = dktJ0_init_2_0 := by decide +kernel
theorem dksJ0_init_2_1 : cJ0_init_2.data.toList.drop 23 = dktJ0_init_2_1 := dk_seg dksJ0_init_2_0 23 rfl rfl
theorem dksJ0_init_2_2 : cJ0_init_2.data.toList.drop 47 = dktJ0_init_2_2 := dk_seg dksJ0_init_2_1 24 rfl rfl
theorem dJ0_init_2_0 : decode cJ0_init_2 0 = .ok (.aload_n 0, 1) := dk_42 (dk_at dksJ0_init_2_0 0 rfl rfl)
theorem dJ0_init_2_1 : decode cJ0_init_2 1 = .ok (.invokespecial 1, 3) := dk_183 0 1 (dk_at dksJ0_init_2_0 1 rfl rfl)
theorem dJ0_init_2_4 : decode cJ0_init_2 4 = .ok (.aload_n 0, 1) := dk_42 (dk_at dksJ0_init_2_0 4 rfl rfl)
theorem dJ0_init_2_5 : decode cJ0_init_2 5 = .ok (.aload_n 0, 1) := dk_42 (dk_at dksJ0_init_2_0 5 rfl rfl)
theorem dJ0_init_2_6 : decode cJ0_init_2 6 = .ok (.putfield 7, 3) := dk_181 0 7 (dk_at dksJ0_init_2_0 6 rfl rfl)
theorem dJ0_init_2_9 : decode cJ0_init_2 9 = .ok (.aload_n 0, 1) := dk_42 (dk_at dksJ0_init_2_0 9 rfl rfl)
theorem dJ0_init_2_10 : decode cJ0_init_2 10 = .ok (.getstatic 13, 3) := dk_178 0 13 (dk_at dksJ0_init_2_0 10 rfl rfl)
theorem dJ0_init_2_13 : decode cJ0_init_2 13 = .ok (.putfield 17, 3) := dk_181 0 17 (dk_at dksJ0_init_2_0 13 rfl rfl)
theorem dJ0_init_2_16 : decode cJ0_init_2 16 = .ok (.aload_n 0, 1) := dk_42 (dk_at dksJ0_init_2_0 16 rfl rfl)
theorem dJ0_init_2_17 : decode cJ0_init_2 17 = .ok (.getstatic 20, 3) := dk_178 0 20 (dk_at dksJ0_init_2_0 17 rfl rfl)
theorem dJ0_init_2_20 : decode cJ0_init_2 20 = .ok (.putfield 24, 3) := dk_181 0 24 (dk_at dksJ0_init_2_0 20 rfl rfl)
theorem dJ0_init_2_23 : decode cJ0_init_2 23 = .ok (.iload 4, 2) := dk_21 4 (dk_at dksJ0_init_2_1 0 rfl rfl)
theorem dJ0_init_2_25 : decode cJ0_init_2 25 = .ok (.ifCond .eq 11, 3) := dk_153 0 11 (dk_at dksJ0_init_2_1 2 rfl rfl)
theorem dJ0_init_2_28 : decode cJ0_init_2 28 = .ok (.aload_n 0, 1) := dk_42 (dk_at dksJ0_init_2_1 5 rfl rfl)
theorem dJ0_init_2_29 : decode cJ0_init_2 29 = .ok (.invokevirtual 27, 3) := dk_182 0 27 (dk_at dksJ0_init_2_1 6 rfl rfl)
theorem dJ0_init_2_32 : decode cJ0_init_2 32 = .ok (.pop, 1) := dk_87 (dk_at dksJ0_init_2_1 9 rfl rfl)
theorem dJ0_init_2_33 : decode cJ0_init_2 33 = .ok (.goto 8, 3) := dk_167 0 8 (dk_at dksJ0_init_2_1 10 rfl rfl)
theorem dJ0_init_2_36 : decode cJ0_init_2 36 = .ok (.aload_n 0, 1) := dk_42 (dk_at dksJ0_init_2_1 13 rfl rfl)
theorem dJ0_init_2_37 : decode cJ0_init_2 37 = .ok (.aconst_null, 1) := dk_1 (dk_at dksJ0_init_2_1 14 rfl rfl)
theorem dJ0_init_2_38 : decode cJ0_init_2 38 = .ok (.putfield 17, 3) := dk_181 0 17 (dk_at dksJ0_init_2_1 15 rfl rfl)
theorem dJ0_init_2_41 : decode cJ0_init_2 41 = .ok (.aload_n 0, 1) := dk_42 (dk_at dksJ0_init_2_1 18 rfl rfl)
theorem dJ0_init_2_42 : decode cJ0_init_2 42 = .ok (.aload_n 1, 1) := dk_43 (dk_at dksJ0_init_2_1 19 rfl rfl)
theorem dJ0_init_2_43 : decode cJ0_init_2 43 = .ok (.putfield 31, 3) := dk_181 0 31 (dk_at dksJ0_init_2_1 20 rfl rfl)
theorem dJ0_init_2_46 : decode cJ0_init_2 46 = .ok (.aload_n 0, 1) := dk_42 (dk_at dksJ0_init_2_1 23 rfl rfl)
theorem dJ0_init_2_47 : decode cJ0_init_2 47 = .ok (.aload_n 2, 1) := dk_44 (dk_at dksJ0_init_2_2 0 rfl rfl)
theorem dJ0_init_2_48 : decode cJ0_init_2 48 = .ok (.putfield 7, 3) := dk_181 0 7 (dk_at dksJ0_init_2_2 1 rfl rfl)
theorem dJ0_init_2_51 : decode cJ0_init_2 51 = .ok (.iload_n 3, 1) := dk_29 (dk_at dksJ0_init_2_2 4 rfl rfl)
theorem dJ0_init_2_52 : decode cJ0_init_2 52 = .ok (.ifCond .ne 8, 3) := dk_154 0 8 (dk_at dksJ0_init_2_2 5 rfl rfl)
theorem dJ0_init_2_55 : decode cJ0_init_2 55 = .ok (.aload_n 0, 1) := dk_42 (dk_at dksJ0_init_2_2 8 rfl rfl)
theorem dJ0_init_2_56 : decode cJ0_init_2 56 = .ok (.aconst_null, 1) := dk_1 (dk_at dksJ0_init_2_2 9 rfl rfl)
theorem dJ0_init_2_57 : decode cJ0_init_2 57 = .ok (.putfield 24, 3) := dk_181 0 24 (dk_at dksJ0_init_2_2 10 rfl rfl)
theorem dJ0_init_2_60 : decode cJ0_init_2 60 = .ok (.return_, 1) := dk_177 (dk_at dksJ0_init_2_2 13 rfl rfl)
theorem q122 : (Jvm.Cond.initialized "java/lang/Throwable") ∈ lw_all := lw_g (lw_at lw_m1 3 rfl) rfl
theorem q278 : (Jvm.Cond.declares ({ cls := "java/lang/Throwable", name := "<init>", desc := "()V" } : Jvm.MethodName)) ∈ lw_tbl := lw_at lw_m1 159 rfl
theorem q279 : (Jvm.Cond.declares ({ cls := "java/lang/Throwable", name := "<init>", desc := "(Ljava/lang/String;)V" } : Jvm.MethodName)) ∈ lw_tbl := lw_at lw_m1 160 rfl
theorem q283 : (Jvm.Cond.lays "java/lang/Throwable" "java/lang/Throwable" "cause" "Ljava/lang/Throwable;") ∈ lw_all := lw_g (lw_at lw_m1 164 rfl) rfl
theorem q285 : (Jvm.Cond.lays "java/lang/Throwable" "java/lang/Throwable" "stackTrace" "[Ljava/lang/StackTraceElement;") ∈ lw_all := lw_g (lw_at lw_m1 166 rfl) rfl
theorem q287 : (Jvm.Cond.lays "java/lang/Throwable" "java/lang/Throwable" "suppressedExceptions" "Ljava/util/List;") ∈ lw_all := lw_g (lw_at lw_m1 168 rfl) rfl
theorem q289 : (Jvm.Cond.lays "java/lang/Throwable" "java/lang/Throwable" "detailMessage" "Ljava/lang/String;") ∈ lw_all := lw_g (lw_at lw_m1 170 rfl) rfl
theorem q291 : (Jvm.Cond.lays "java/lang/Throwable" "java/lang/Throwable" "backtrace" "Ljava/lang/Object;") ∈ lw_all := lw_g (lw_at lw_m1 172 rfl) rfl
theorem q292 : (Jvm.Cond.fieldLink "java/lang/Throwable" (198 : Nat) "java/lang/Throwable" "backtrace" "Ljava/lang/Object;") ∈ lw_all := lw_g (lw_at lw_m1 173 rfl) rfl
theorem q293 : (Jvm.Cond.superclass "java/lang/Throwable" "java/lang/Object") ∈ lw_all := lw_g (lw_at lw_m1 174 rfl) rfl
theorem q294 : (Jvm.Cond.instanceMethod ({ cls := "java/lang/Throwable", name := "<init>", desc := "()V" } : Jvm.MethodName)) ∈ lw_all := lw_g (lw_at lw_m1 175 rfl) rfl
theorem q295 : (Jvm.Cond.code ({ cls := "java/lang/Throwable", name := "<init>", desc := "()V" } : Jvm.MethodName) prog_26_method_1_code (1 : Nat) (Option.none : Option Jvm.ClassFile.FieldType)) ∈ lw_all := lw_g (lw_at lw_m1 176 rfl) rfl
theorem q296 : (Jvm.Cond.methodLink "java/lang/Throwable" (1 : Nat) ({ cls := "java/lang/Object", name := "<init>", desc := "()V" } : Jvm.MethodName)) ∈ lw_all := lw_g (lw_at lw_m1 177 rfl) rfl
theorem q297 : (Jvm.Cond.fieldLink "java/lang/Throwable" (13 : Nat) "java/lang/Throwable" "UNASSIGNED_STACK" "[Ljava/lang/StackTraceElement;") ∈ lw_all := lw_g (lw_at lw_m1 178 rfl) rfl
theorem q298 : (Jvm.Cond.laysStatic "java/lang/Throwable" "UNASSIGNED_STACK" "[Ljava/lang/StackTraceElement;") ∈ lw_tbl := lw_at lw_m1 179 rfl
theorem q299 : (Jvm.Cond.fieldLink "java/lang/Throwable" (20 : Nat) "java/lang/Throwable" "SUPPRESSED_SENTINEL" "Ljava/util/List;") ∈ lw_all := lw_g (lw_at lw_m1 180 rfl) rfl
theorem q300 : (Jvm.Cond.laysStatic "java/lang/Throwable" "SUPPRESSED_SENTINEL" "Ljava/util/List;") ∈ lw_tbl := lw_at lw_m1 181 rfl
theorem q301 : (Jvm.Cond.methodLink "java/lang/Throwable" (27 : Nat) ({ cls := "java/lang/Throwable", name := "fillInStackTrace", desc := "()Ljava/lang/Throwable;" } : Jvm.MethodName)) ∈ lw_all := lw_g (lw_at lw_m1 182 rfl) rfl
theorem q302 : (Jvm.Cond.instanceMethod ({ cls := "java/lang/Throwable", name := "fillInStackTrace", desc := "()Ljava/lang/Throwable;" } : Jvm.MethodName)) ∈ lw_all := lw_g (lw_at lw_m1 183 rfl) rfl
theorem q303 : (Jvm.Cond.sameMethod "java/lang/Throwable" "java/lang/Throwable" "fillInStackTrace" "()Ljava/lang/Throwable;") ∈ lw_all := lw_g (lw_at lw_m1 184 rfl) rfl
theorem q304 : (Jvm.Cond.codeSync ({ cls := "java/lang/Throwable", name := "fillInStackTrace", desc := "()Ljava/lang/Throwable;" } : Jvm.MethodName) prog_26_method_18_code (1 : Nat) (Option.some (Jvm.ClassFile.FieldType.object "java/lang/Throwable"))) ∈ lw_all := lw_g (lw_at lw_m1 185 rfl) rfl
theorem q305 : (Jvm.Cond.methodLink "java/lang/Throwable" (202 : Nat) ({ cls := "java/lang/Throwable", name := "fillInStackTrace", desc := "(I)Ljava/lang/Throwable;" } : Jvm.MethodName)) ∈ lw_all := lw_g (lw_at lw_m1 186 rfl) rfl
theorem q306 : (Jvm.Cond.privateMethod ({ cls := "java/lang/Throwable", name := "fillInStackTrace", desc := "(I)Ljava/lang/Throwable;" } : Jvm.MethodName)) ∈ lw_tbl := lw_at lw_m1 187 rfl
theorem q307 : (Jvm.Cond.instanceMethod ({ cls := "java/lang/Throwable", name := "fillInStackTrace", desc := "(I)Ljava/lang/Throwable;" } : Jvm.MethodName)) ∈ lw_all := lw_g (lw_at lw_m1 188 rfl) rfl
theorem q308 : (Jvm.Cond.instantiable "java/lang/Throwable" (6 : Nat)) ∈ lw_all := lw_g (lw_at lw_m1 189 rfl) rfl
theorem q309 : (Jvm.Cond.native ({ cls := "java/lang/Throwable", name := "fillInStackTrace", desc := "(I)Ljava/lang/Throwable;" } : Jvm.MethodName)) ∈ lw_all := lw_g (lw_at lw_m1 190 rfl) rfl
theorem q321 : (Jvm.Cond.instanceMethod ({ cls := "java/lang/Throwable", name := "<init>", desc := "(Ljava/lang/String;Ljava/lang/Throwable;ZZ)V" } : Jvm.MethodName)) ∈ lw_all := lw_g (lw_at lw_m1 202 rfl) rfl
theorem q322 : (Jvm.Cond.code ({ cls := "java/lang/Throwable", name := "<init>", desc := "(Ljava/lang/String;Ljava/lang/Throwable;ZZ)V" } : Jvm.MethodName) prog_26_method_5_code (5 : Nat) (Option.none : Option Jvm.ClassFile.FieldType)) ∈ lw_all := lw_g (lw_at lw_m1 203 rfl) rfl
theorem q327 : (Jvm.Cond.fieldLink "java/lang/Throwable" (198 : Nat) "java/lang/Throwable" "backtrace" "Ljava/lang/Object;") ∈ lw_all := lw_g (lw_at lw_m1 208 rfl) rfl
theorem q328 : (Jvm.Cond.fieldLink "java/lang/Throwable" (31 : Nat) "java/lang/Throwable" "detailMessage" "Ljava/lang/String;") ∈ lw_all := lw_g (lw_at lw_m1 209 rfl) rfl
theorem q329 : (Jvm.Cond.fieldLink "java/lang/Throwable" (7 : Nat) "java/lang/Throwable" "cause" "Ljava/lang/Throwable;") ∈ lw_all := lw_g (lw_at lw_m1 210 rfl) rfl
theorem q330 : (Jvm.Cond.fieldLink "java/lang/Throwable" (17 : Nat) "java/lang/Throwable" "stackTrace" "[Ljava/lang/StackTraceElement;") ∈ lw_all := lw_g (lw_at lw_m1 211 rfl) rfl
theorem q331 : (Jvm.Cond.fieldLink "java/lang/Throwable" (24 : Nat) "java/lang/Throwable" "suppressedExceptions" "Ljava/util/List;") ∈ lw_all := lw_g (lw_at lw_m1 212 rfl) rfl
theorem q336 : (Jvm.Cond.soleField "java/lang/Throwable" "backtrace") ∈ lw_all := lw_g (lw_at lw_m1 217 rfl) rfl
theorem q337 : (Jvm.Cond.soleField "java/lang/Throwable" "detailMessage") ∈ lw_all := lw_g (lw_at lw_m1 218 rfl) rfl
theorem q338 : (Jvm.Cond.soleField "java/lang/Throwable" "cause") ∈ lw_all := lw_g (lw_at lw_m1 219 rfl) rfl
theorem q339 : (Jvm.Cond.soleField "java/lang/Throwable" "stackTrace") ∈ lw_all := lw_g (lw_at lw_m1 220 rfl) rfl
theorem q341 : (Jvm.Cond.soleField "java/lang/Throwable" "depth") ∈ lw_all := lw_g (lw_at lw_m1 222 rfl) rfl
theorem q342 : (Jvm.Cond.soleField "java/lang/Throwable" "suppressedExceptions") ∈ lw_all := lw_g (lw_at lw_m1 223 rfl) rfl
theorem q1837 : (Jvm.Cond.sameMethod "java/lang/Throwable" "java/lang/Throwable" "fillInStackTrace" "(I)Ljava/lang/Throwable;") ∈ lw_all := lw_g (lw_at lw_m8 38 rfl) rfl
theorem in_J0 : ∀ w ∈ wsJ00, w ∈ lw_all := lw_in wsJ00 [283, 285, 287, 289, 291] (by decide +kernel) (by decide +kernel)
/-! java/lang/Exception -/
set_option maxRecDepth 100000
def RJ1 : String := "java/lang/Exception"
abbrev cJ1_init : ByteArray := prog_18_method_5_code
def yJ1_init : MethodName := ⟨RJ1, "<init>", "(Ljava/lang/String;Ljava/lang/Throwable;ZZ)V"⟩
def dkwJ1_init_0 : List UInt8 := [42, 43, 44, 29, 21, 4, 183, 0, 16, 177]
abbrev dktJ1_init_0 : List UInt8 := dkwJ1_init_0 ++ []
theorem dksJ1_init_0 : cJ1_init.data.toList.drop 0 = dktJ1_init_0 := by decide +kernel
theorem dJ1_init_0 : decode cJ1_init 0 = .ok (.aload_n 0, 1) := dk_42 (dk_at dksJ1_init_0 0 rfl rfl)
theorem dJ1_init_1 : decode cJ1_init 1 = .ok (.aload_n 1, 1) := dk_43 (dk_at dksJ1_init_0 1 rfl rfl)
theorem dJ1_init_2 : decode cJ1_init 2 = .ok (.aload_n 2, 1) := dk_44 (dk_at dksJ1_init_0 2 rfl rfl)
theorem dJ1_init_3 : decode cJ1_init 3 = .ok (.iload_n 3, 1) := dk_29 (dk_at dksJ1_init_0 3 rfl rfl)
theorem dJ1_init_4 : decode cJ1_init 4 = .ok (.iload 4, 2) := dk_21 4 (dk_at dksJ1_init_0 4 rfl rfl)
theorem dJ1_init_6 : decode cJ1_init 6 = .ok (.invokespecial 16, 3) := dk_183 0 16 (dk_at dksJ1_init_0 6 rfl rfl)
theorem dJ1_init_9 : decode cJ1_init 9 = .ok (.return_, 1) := dk_177 (dk_at dksJ1_init_0 9 rfl rfl)
theorem q123 : (Jvm.Cond.initialized "java/lang/Exception") ∈ lw_all := lw_g (lw_at lw_m1 4 rfl) rfl
theorem q276 : (Jvm.Cond.declares ({ cls := "java/lang/Exception", name := "<init>", desc := "()V" } : Jvm.MethodName)) ∈ lw_tbl := lw_at lw_m1 157 rfl
theorem q277 : (Jvm.Cond.declares ({ cls := "java/lang/Exception", name := "<init>", desc := "(Ljava/lang/String;)V" } : Jvm.MethodName)) ∈ lw_tbl := lw_at lw_m1 158 rfl
theorem q318 : (Jvm.Cond.instanceMethod ({ cls := "java/lang/Exception", name := "<init>", desc := "(Ljava/lang/String;Ljava/lang/Throwable;ZZ)V" } : Jvm.MethodName)) ∈ lw_all := lw_g (lw_at lw_m1 199 rfl) rfl
theorem q319 : (Jvm.Cond.code ({ cls := "java/lang/Exception", name := "<init>", desc := "(Ljava/lang/String;Ljava/lang/Throwable;ZZ)V" } : Jvm.MethodName) prog_18_method_5_code (5 : Nat) (Option.none : Option Jvm.ClassFile.FieldType)) ∈ lw_all := lw_g (lw_at lw_m1 200 rfl) rfl
theorem q320 : (Jvm.Cond.methodLink "java/lang/Exception" (16 : Nat) ({ cls := "java/lang/Throwable", name := "<init>", desc := "(Ljava/lang/String;Ljava/lang/Throwable;ZZ)V" } : Jvm.MethodName)) ∈ lw_all := lw_g (lw_at lw_m1 201 rfl) rfl
/-! java/lang/RuntimeException -/
set_option maxRecDepth 100000
def RJ2 : String := "java/lang/RuntimeException"
abbrev cJ2_init : ByteArray := prog_21_method_5_code
def yJ2_init : MethodName := ⟨RJ2, "<init>", "(Ljava/lang/String;Ljava/lang/Throwable;ZZ)V"⟩
def dkwJ2_init_0 : List UInt8 := [42, 43, 44, 29, 21, 4, 183, 0, 16, 177]
abbrev dktJ2_init_0 : List UInt8 := dkwJ2_init_0 ++ []
theorem dksJ2_init_0 : cJ2_init.data.toList.drop 0 = dktJ2_init_0 := by decide +kernel
theorem dJ2_init_0 : decode cJ2_init 0 = .ok (.aload_n 0, 1) := dk_42 (dk_at dksJ2_init_0 0 rfl rfl)
theorem dJ2_init_1 : decode cJ2_init 1 = .ok (.aload_n 1, 1) := dk_43 (dk_at dksJ2_init_0 1 rfl rfl)
theorem dJ2_init_2 : decode cJ2_init 2 = .ok (.aload_n 2, 1) := dk_44 (dk_at dksJ2_init_0 2 rfl rfl)
theorem dJ2_init_3 : decode cJ2_init 3 = .ok (.iload_n 3, 1) := dk_29 (dk_at dksJ2_init_0 3 rfl rfl)
theorem dJ2_init_4 : decode cJ2_init 4 = .ok (.iload 4, 2) := dk_21 4 (dk_at dksJ2_init_0 4 rfl rfl)
theorem dJ2_init_6 : decode cJ2_init 6 = .ok (.invokespecial 16, 3) := dk_183 0 16 (dk_at dksJ2_init_0 6 rfl rfl)
theorem dJ2_init_9 : decode cJ2_init 9 = .ok (.return_, 1) := dk_177 (dk_at dksJ2_init_0 9 rfl rfl)
theorem q124 : (Jvm.Cond.initialized "java/lang/RuntimeException") ∈ lw_all := lw_g (lw_at lw_m1 5 rfl) rfl
theorem q274 : (Jvm.Cond.declares ({ cls := "java/lang/RuntimeException", name := "<init>", desc := "()V" } : Jvm.MethodName)) ∈ lw_tbl := lw_at lw_m1 155 rfl
theorem q275 : (Jvm.Cond.declares ({ cls := "java/lang/RuntimeException", name := "<init>", desc := "(Ljava/lang/String;)V" } : Jvm.MethodName)) ∈ lw_tbl := lw_at lw_m1 156 rfl
theorem q315 : (Jvm.Cond.instanceMethod ({ cls := "java/lang/RuntimeException", name := "<init>", desc := "(Ljava/lang/String;Ljava/lang/Throwable;ZZ)V" } : Jvm.MethodName)) ∈ lw_all := lw_g (lw_at lw_m1 196 rfl) rfl
theorem q316 : (Jvm.Cond.code ({ cls := "java/lang/RuntimeException", name := "<init>", desc := "(Ljava/lang/String;Ljava/lang/Throwable;ZZ)V" } : Jvm.MethodName) prog_21_method_5_code (5 : Nat) (Option.none : Option Jvm.ClassFile.FieldType)) ∈ lw_all := lw_g (lw_at lw_m1 197 rfl) rfl
theorem q317 : (Jvm.Cond.methodLink "java/lang/RuntimeException" (16 : Nat) ({ cls := "java/lang/Exception", name := "<init>", desc := "(Ljava/lang/String;Ljava/lang/Throwable;ZZ)V" } : Jvm.MethodName)) ∈ lw_all := lw_g (lw_at lw_m1 198 rfl) rfl
/-! java/lang/String -/
set_option maxRecDepth 100000
def RJ3 : String := "java/lang/String"
abbrev cJ3_length : ByteArray := prog_22_method_54_code
def yJ3_length : MethodName := ⟨RJ3, "length", "()I"⟩
def dkwJ3_length_0 : List UInt8 := [42, 180, 0, 9, 190, 42, 182, 1, 79, 122, 172]
abbrev dktJ3_length_0 : List UInt8 := dkwJ3_length_0 ++ []
theorem dksJ3_length_0 : cJ3_length.data.toList.drop 0 = dktJ3_length_0 := by decide +kernel
theorem dJ3_length_0 : decode cJ3_length 0 = .ok (.aload_n 0, 1) := dk_42 (dk_at dksJ3_length_0 0 rfl rfl)
theorem dJ3_length_1 : decode cJ3_length 1 = .ok (.getfield 9, 3) := dk_180 0 9 (dk_at dksJ3_length_0 1 rfl rfl)
theorem dJ3_length_4 : decode cJ3_length 4 = .ok (.arraylength, 1) := dk_190 (dk_at dksJ3_length_0 4 rfl rfl)
theorem dJ3_length_5 : decode cJ3_length 5 = .ok (.aload_n 0, 1) := dk_42 (dk_at dksJ3_length_0 5 rfl rfl)
theorem dJ3_length_6 : decode cJ3_length 6 = .ok (.invokevirtual 335, 3) := dk_182 1 79 (dk_at dksJ3_length_0 6 rfl rfl)
theorem dJ3_length_9 : decode cJ3_length 9 = .ok (.ishr, 1) := dk_122 (dk_at dksJ3_length_0 9 rfl rfl)
theorem dJ3_length_10 : decode cJ3_length 10 = .ok (.ireturn, 1) := dk_172 (dk_at dksJ3_length_0 10 rfl rfl)
abbrev cJ3_coder : ByteArray := prog_22_method_152_code
def yJ3_coder : MethodName := ⟨RJ3, "coder", "()B"⟩
def dkwJ3_coder_0 : List UInt8 := [178, 0, 38, 153, 0, 10, 42, 180, 0, 15, 167, 0, 4, 4, 172]
abbrev dktJ3_coder_0 : List UInt8 := dkwJ3_coder_0 ++ []
theorem dksJ3_coder_0 : cJ3_coder.data.toList.drop 0 = dktJ3_coder_0 := by decide +kernel
theorem dJ3_coder_0 : decode cJ3_coder 0 = .ok (.getstatic 38, 3) := dk_178 0 38 (dk_at dksJ3_coder_0 0 rfl rfl)
theorem dJ3_coder_3 : decode cJ3_coder 3 = .ok (.ifCond .eq 10, 3) := dk_153 0 10 (dk_at dksJ3_coder_0 3 rfl rfl)
theorem dJ3_coder_6 : decode cJ3_coder 6 = .ok (.aload_n 0, 1) := dk_42 (dk_at dksJ3_coder_0 6 rfl rfl)
theorem dJ3_coder_7 : decode cJ3_coder 7 = .ok (.getfield 15, 3) := dk_180 0 15 (dk_at dksJ3_coder_0 7 rfl rfl)
theorem dJ3_coder_10 : decode cJ3_coder 10 = .ok (.goto 4, 3) := dk_167 0 4 (dk_at dksJ3_coder_0 10 rfl rfl)
theorem dJ3_coder_13 : decode cJ3_coder 13 = .ok (.iconst 1, 1) := dk_4 (dk_at dksJ3_coder_0 13 rfl rfl)
theorem dJ3_coder_14 : decode cJ3_coder 14 = .ok (.ireturn, 1) := dk_172 (dk_at dksJ3_coder_0 14 rfl rfl)
abbrev cJ3_charAt : ByteArray := prog_22_method_56_code
def yJ3_charAt : MethodName := ⟨RJ3, "charAt", "(I)C"⟩
def dkwJ3_charAt_1 : List UInt8 := [172]
abbrev dktJ3_charAt_1 : List UInt8 := dkwJ3_charAt_1 ++ []
def dkwJ3_charAt_0 : List UInt8 := [42, 182, 1, 236, 153, 0, 12, 42, 180, 0, 9, 27, 184, 1, 239, 172, 42, 180, 0, 9, 27, 184, 1, 242]
abbrev dktJ3_charAt_0 : List UInt8 := dkwJ3_charAt_0 ++ dktJ3_charAt_1
theorem dksJ3_charAt_0 : cJ3_charAt.data.toList.drop 0 = dktJ3_charAt_0 := by decide +kernel
theorem dksJ3_charAt_1 : cJ3_charAt.data.toList.drop 24 = dktJ3_charAt_1 := dk_seg dksJ3_charAt_0 24 rfl rfl
theorem dJ3_charAt_0 : decode cJ3_charAt 0 = .ok (.aload_n 0, 1) := dk_42 (dk_at dksJ3_charAt_0 0 rfl rfl)
theorem dJ3_charAt_1 : decode cJ3_charAt 1 = .ok (.invokevirtual 492, 3) := dk_182 1 236 (dk_at dksJ3_charAt_0 1 rfl rfl)
theorem dJ3_charAt_4 : decode cJ3_charAt 4 = .ok (.ifCond .eq 12, 3) := dk_153 0 12 (dk_at dksJ3_charAt_0 4 rfl rfl)
theorem dJ3_charAt_7 : decode cJ3_charAt 7 = .ok (.aload_n 0, 1) := dk_42 (dk_at dksJ3_charAt_0 7 rfl rfl)
theorem dJ3_charAt_8 : decode cJ3_charAt 8 = .ok (.getfield 9, 3) := dk_180 0 9 (dk_at dksJ3_charAt_0 8 rfl rfl)
theorem dJ3_charAt_11 : decode cJ3_charAt 11 = .ok (.iload_n 1, 1) := dk_27 (dk_at dksJ3_charAt_0 11 rfl rfl)
theorem dJ3_charAt_12 : decode cJ3_charAt 12 = .ok (.invokestatic 495, 3) := dk_184 1 239 (dk_at dksJ3_charAt_0 12 rfl rfl)
theorem dJ3_charAt_15 : decode cJ3_charAt 15 = .ok (.ireturn, 1) := dk_172 (dk_at dksJ3_charAt_0 15 rfl rfl)
theorem dJ3_charAt_16 : decode cJ3_charAt 16 = .ok (.aload_n 0, 1) := dk_42 (dk_at dksJ3_charAt_0 16 rfl rfl)
theorem dJ3_charAt_17 : decode cJ3_charAt 17 = .ok (.getfield 9, 3) := dk_180 0 9 (dk_at dksJ3_charAt_0 17 rfl rfl)
theorem dJ3_charAt_20 : decode cJ3_charAt 20 = .ok (.iload_n 1, 1) := dk_27 (dk_at dksJ3_charAt_0 20 rfl rfl)
theorem dJ3_charAt_21 : decode cJ3_charAt 21 = .ok (.invokestatic 498, 3) := dk_184 1 242 (dk_at dksJ3_charAt_0 21 rfl rfl)
theorem dJ3_charAt_24 : decode cJ3_charAt 24 = .ok (.ireturn, 1) := dk_172 (dk_at dksJ3_charAt_1 0 rfl rfl)
abbrev cJ3_isLatin1 : ByteArray := prog_22_method_154_code
def yJ3_isLatin1 : MethodName := ⟨RJ3, "isLatin1", "()Z"⟩
def dkwJ3_isLatin1_0 : List UInt8 := [178, 0, 38, 153, 0, 14, 42, 180, 0, 15, 154, 0, 7, 4, 167, 0, 4, 3, 172]
abbrev dktJ3_isLatin1_0 : List UInt8 := dkwJ3_isLatin1_0 ++ []
theorem dksJ3_isLatin1_0 : cJ3_isLatin1.data.toList.drop 0 = dktJ3_isLatin1_0 := by decide +kernel
theorem dJ3_isLatin1_0 : decode cJ3_isLatin1 0 = .ok (.getstatic 38, 3) := dk_178 0 38 (dk_at dksJ3_isLatin1_0 0 rfl rfl)
theorem dJ3_isLatin1_3 : decode cJ3_isLatin1 3 = .ok (.ifCond .eq 14, 3) := dk_153 0 14 (dk_at dksJ3_isLatin1_0 3 rfl rfl)
theorem dJ3_isLatin1_6 : decode cJ3_isLatin1 6 = .ok (.aload_n 0, 1) := dk_42 (dk_at dksJ3_isLatin1_0 6 rfl rfl)
theorem dJ3_isLatin1_7 : decode cJ3_isLatin1 7 = .ok (.getfield 15, 3) := dk_180 0 15 (dk_at dksJ3_isLatin1_0 7 rfl rfl)
theorem dJ3_isLatin1_10 : decode cJ3_isLatin1 10 = .ok (.ifCond .ne 7, 3) := dk_154 0 7 (dk_at dksJ3_isLatin1_0 10 rfl rfl)
theorem dJ3_isLatin1_13 : decode cJ3_isLatin1 13 = .ok (.iconst 1, 1) := dk_4 (dk_at dksJ3_isLatin1_0 13 rfl rfl)
theorem dJ3_isLatin1_14 : decode cJ3_isLatin1 14 = .ok (.goto 4, 3) := dk_167 0 4 (dk_at dksJ3_isLatin1_0 14 rfl rfl)
theorem dJ3_isLatin1_17 : decode cJ3_isLatin1 17 = .ok (.iconst 0, 1) := dk_3 (dk_at dksJ3_isLatin1_0 17 rfl rfl)
theorem dJ3_isLatin1_18 : decode cJ3_isLatin1 18 = .ok (.ireturn, 1) := dk_172 (dk_at dksJ3_isLatin1_0 18 rfl rfl)
abbrev cJ3_checkIndex : ByteArray := prog_22_method_155_code
def yJ3_checkIndex : MethodName := ⟨RJ3, "checkIndex", "(II)V"⟩
def dkwJ3_checkIndex_0 : List UInt8 := [26, 27, 178, 4, 29, 184, 4, 35, 87, 177]
abbrev dktJ3_checkIndex_0 : List UInt8 := dkwJ3_checkIndex_0 ++ []
theorem dksJ3_checkIndex_0 : cJ3_checkIndex.data.toList.drop 0 = dktJ3_checkIndex_0 := by decide +kernel
theorem dJ3_checkIndex_0 : decode cJ3_checkIndex 0 = .ok (.iload_n 0, 1) := dk_26 (dk_at dksJ3_checkIndex_0 0 rfl rfl)
theorem dJ3_checkIndex_1 : decode cJ3_checkIndex 1 = .ok (.iload_n 1, 1) := dk_27 (dk_at dksJ3_checkIndex_0 1 rfl rfl)
theorem dJ3_checkIndex_2 : decode cJ3_checkIndex 2 = .ok (.getstatic 1053, 3) := dk_178 4 29 (dk_at dksJ3_checkIndex_0 2 rfl rfl)
theorem dJ3_checkIndex_5 : decode cJ3_checkIndex 5 = .ok (.invokestatic 1059, 3) := dk_184 4 35 (dk_at dksJ3_checkIndex_0 5 rfl rfl)
theorem dJ3_checkIndex_8 : decode cJ3_checkIndex 8 = .ok (.pop, 1) := dk_87 (dk_at dksJ3_checkIndex_0 8 rfl rfl)
theorem dJ3_checkIndex_9 : decode cJ3_checkIndex 9 = .ok (.return_, 1) := dk_177 (dk_at dksJ3_checkIndex_0 9 rfl rfl)
theorem q129 : (Jvm.Cond.initialized "java/lang/String") ∈ lw_all := lw_g (lw_at lw_m1 10 rfl) rfl
theorem q528 : (Jvm.Cond.instanceMethod ({ cls := "java/lang/String", name := "length", desc := "()I" } : Jvm.MethodName)) ∈ lw_all := lw_g (lw_at lw_m2 169 rfl) rfl
theorem q529 : (Jvm.Cond.selects "java/lang/String" ({ cls := "java/lang/String", name := "length", desc := "()I" } : Jvm.MethodName) ({ cls := "java/lang/String", name := "length", desc := "()I" } : Jvm.MethodName)) ∈ lw_all := lw_g (lw_at lw_m2 170 rfl) rfl
theorem q530 : (Jvm.Cond.code ({ cls := "java/lang/String", name := "length", desc := "()I" } : Jvm.MethodName) prog_22_method_54_code (1 : Nat) (Option.some Jvm.ClassFile.FieldType.int)) ∈ lw_all := lw_g (lw_at lw_m2 171 rfl) rfl
theorem q531 : (Jvm.Cond.methodLink "java/lang/String" (335 : Nat) ({ cls := "java/lang/String", name := "coder", desc := "()B" } : Jvm.MethodName)) ∈ lw_all := lw_g (lw_at lw_m2 172 rfl) rfl
theorem q532 : (Jvm.Cond.instanceMethod ({ cls := "java/lang/String", name := "coder", desc := "()B" } : Jvm.MethodName)) ∈ lw_all := lw_g (lw_at lw_m2 173 rfl) rfl
theorem q533 : (Jvm.Cond.selects "java/lang/String" ({ cls := "java/lang/String", name := "coder", desc := "()B" } : Jvm.MethodName) ({ cls := "java/lang/String", name := "coder", desc := "()B" } : Jvm.MethodName)) ∈ lw_all := lw_g (lw_at lw_m2 174 rfl) rfl
theorem q534 : (Jvm.Cond.code ({ cls := "java/lang/String", name := "coder", desc := "()B" } : Jvm.MethodName) prog_22_method_152_code (1 : Nat) (Option.some Jvm.ClassFile.FieldType.byte)) ∈ lw_all := lw_g (lw_at lw_m2 175 rfl) rfl
theorem q535 : (Jvm.Cond.fieldLink "java/lang/String" (38 : Nat) "java/lang/String" "COMPACT_STRINGS" "Z") ∈ lw_all := lw_g (lw_at lw_m2 176 rfl) rfl
theorem q536 : (Jvm.Cond.laysStatic "java/lang/String" "COMPACT_STRINGS" "Z") ∈ lw_tbl := lw_at lw_m2 177 rfl
theorem q538 : (Jvm.Cond.instanceMethod ({ cls := "java/lang/String", name := "charAt", desc := "(I)C" } : Jvm.MethodName)) ∈ lw_all := lw_g (lw_at lw_m2 179 rfl) rfl
theorem q539 : (Jvm.Cond.selects "java/lang/String" ({ cls := "java/lang/String", name := "charAt", desc := "(I)C" } : Jvm.MethodName) ({ cls := "java/lang/String", name := "charAt", desc := "(I)C" } : Jvm.MethodName)) ∈ lw_all := lw_g (lw_at lw_m2 180 rfl) rfl
theorem q540 : (Jvm.Cond.code ({ cls := "java/lang/String", name := "charAt", desc := "(I)C" } : Jvm.MethodName) prog_22_method_56_code (2 : Nat) (Option.some Jvm.ClassFile.FieldType.char)) ∈ lw_all := lw_g (lw_at lw_m2 181 rfl) rfl
theorem q541 : (Jvm.Cond.methodLink "java/lang/String" (492 : Nat) ({ cls := "java/lang/String", name := "isLatin1", desc := "()Z" } : Jvm.MethodName)) ∈ lw_all := lw_g (lw_at lw_m2 182 rfl) rfl
theorem q542 : (Jvm.Cond.instanceMethod ({ cls := "java/lang/String", name := "isLatin1", desc := "()Z" } : Jvm.MethodName)) ∈ lw_all := lw_g (lw_at lw_m2 183 rfl) rfl
theorem q543 : (Jvm.Cond.selects "java/lang/String" ({ cls := "java/lang/String", name := "isLatin1", desc := "()Z" } : Jvm.MethodName) ({ cls := "java/lang/String", name := "isLatin1", desc := "()Z" } : Jvm.MethodName)) ∈ lw_all := lw_g (lw_at lw_m2 184 rfl) rfl
theorem q544 : (Jvm.Cond.code ({ cls := "java/lang/String", name := "isLatin1", desc := "()Z" } : Jvm.MethodName) prog_22_method_154_code (1 : Nat) (Option.some Jvm.ClassFile.FieldType.boolean)) ∈ lw_all := lw_g (lw_at lw_m2 185 rfl) rfl
theorem q545 : (Jvm.Cond.methodLink "java/lang/String" (495 : Nat) ({ cls := "java/lang/StringLatin1", name := "charAt", desc := "([BI)C" } : Jvm.MethodName)) ∈ lw_all := lw_g (lw_at lw_m2 186 rfl) rfl
theorem q549 : (Jvm.Cond.static ({ cls := "java/lang/String", name := "checkIndex", desc := "(II)V" } : Jvm.MethodName)) ∈ lw_all := lw_g (lw_at lw_m2 190 rfl) rfl
theorem q550 : (Jvm.Cond.code ({ cls := "java/lang/String", name := "checkIndex", desc := "(II)V" } : Jvm.MethodName) prog_22_method_155_code (2 : Nat) (Option.none : Option Jvm.ClassFile.FieldType)) ∈ lw_all := lw_g (lw_at lw_m2 191 rfl) rfl
theorem q551 : (Jvm.Cond.fieldLink "java/lang/String" (1053 : Nat) "jdk/internal/util/Preconditions" "SIOOBE_FORMATTER" "Ljava/util/function/BiFunction;") ∈ lw_all := lw_g (lw_at lw_m2 192 rfl) rfl
theorem q553 : (Jvm.Cond.methodLink "java/lang/String" (1059 : Nat) ({ cls := "jdk/internal/util/Preconditions", name := "checkIndex", desc := "(IILjava/util/function/BiFunction;)I" } : Jvm.MethodName)) ∈ lw_all := lw_g (lw_at lw_m2 194 rfl) rfl
theorem q556 : (Jvm.Cond.methodLink "java/lang/String" (498 : Nat) ({ cls := "java/lang/StringUTF16", name := "charAt", desc := "([BI)C" } : Jvm.MethodName)) ∈ lw_all := lw_g (lw_at lw_m2 197 rfl) rfl
theorem q1838 : (Jvm.Cond.fieldLink "java/lang/String" (9 : Nat) "java/lang/String" "value" "[B") ∈ lw_all := lw_g (lw_at lw_m8 39 rfl) rfl
theorem q1839 : (Jvm.Cond.fieldLink "java/lang/String" (15 : Nat) "java/lang/String" "coder" "B") ∈ lw_all := lw_g (lw_at lw_m8 40 rfl) rfl
/-! java/lang/StringLatin1 -/
set_option maxRecDepth 100000
def RJ4 : String := "java/lang/StringLatin1"
abbrev cJ4_charAt : ByteArray := prog_23_method_2_code
def yJ4_charAt : MethodName := ⟨RJ4, "charAt", "([BI)C"⟩
def dkwJ4_charAt_0 : List UInt8 := [27, 42, 190, 184, 0, 9, 42, 27, 51, 17, 0, 255, 126, 146, 172]
abbrev dktJ4_charAt_0 : List UInt8 := dkwJ4_charAt_0 ++ []
theorem dksJ4_charAt_0 : cJ4_charAt.data.toList.drop 0 = dktJ4_charAt_0 := by decide +kernel
theorem dJ4_charAt_0 : decode cJ4_charAt 0 = .ok (.iload_n 1, 1) := dk_27 (dk_at dksJ4_charAt_0 0 rfl rfl)
theorem dJ4_charAt_1 : decode cJ4_charAt 1 = .ok (.aload_n 0, 1) := dk_42 (dk_at dksJ4_charAt_0 1 rfl rfl)
theorem dJ4_charAt_2 : decode cJ4_charAt 2 = .ok (.arraylength, 1) := dk_190 (dk_at dksJ4_charAt_0 2 rfl rfl)
theorem dJ4_charAt_3 : decode cJ4_charAt 3 = .ok (.invokestatic 9, 3) := dk_184 0 9 (dk_at dksJ4_charAt_0 3 rfl rfl)
theorem dJ4_charAt_6 : decode cJ4_charAt 6 = .ok (.aload_n 0, 1) := dk_42 (dk_at dksJ4_charAt_0 6 rfl rfl)
theorem dJ4_charAt_7 : decode cJ4_charAt 7 = .ok (.iload_n 1, 1) := dk_27 (dk_at dksJ4_charAt_0 7 rfl rfl)
theorem dJ4_charAt_8 : decode cJ4_charAt 8 = .ok (.baload, 1) := dk_51 (dk_at dksJ4_charAt_0 8 rfl rfl)
theorem dJ4_charAt_9 : decode cJ4_charAt 9 = .ok (.sipush 255, 3) := dk_17 0 255 (dk_at dksJ4_charAt_0 9 rfl rfl)
theorem dJ4_charAt_12 : decode cJ4_charAt 12 = .ok (.iand, 1) := dk_126 (dk_at dksJ4_charAt_0 12 rfl rfl)
theorem dJ4_charAt_13 : decode cJ4_charAt 13 = .ok (.i2c, 1) := dk_146 (dk_at dksJ4_charAt_0 13 rfl rfl)
theorem dJ4_charAt_14 : decode cJ4_charAt 14 = .ok (.ireturn, 1) := dk_172 (dk_at dksJ4_charAt_0 14 rfl rfl)
theorem q130 : (Jvm.Cond.initialized "java/lang/StringLatin1") ∈ lw_all := lw_g (lw_at lw_m1 11 rfl) rfl
theorem q546 : (Jvm.Cond.static ({ cls := "java/lang/StringLatin1", name := "charAt", desc := "([BI)C" } : Jvm.MethodName)) ∈ lw_all := lw_g (lw_at lw_m2 187 rfl) rfl
theorem q547 : (Jvm.Cond.code ({ cls := "java/lang/StringLatin1", name := "charAt", desc := "([BI)C" } : Jvm.MethodName) prog_23_method_2_code (2 : Nat) (Option.some Jvm.ClassFile.FieldType.char)) ∈ lw_all := lw_g (lw_at lw_m2 188 rfl) rfl
theorem q548 : (Jvm.Cond.methodLink "java/lang/StringLatin1" (9 : Nat) ({ cls := "java/lang/String", name := "checkIndex", desc := "(II)V" } : Jvm.MethodName)) ∈ lw_all := lw_g (lw_at lw_m2 189 rfl) rfl
/-! jdk/internal/util/Preconditions -/
set_option maxRecDepth 100000
def RJ5 : String := "jdk/internal/util/Preconditions"
abbrev cJ5_checkIndex : ByteArray := prog_27_method_11_code
def yJ5_checkIndex : MethodName := ⟨RJ5, "checkIndex", "(IILjava/util/function/BiFunction;)I"⟩
def dkwJ5_checkIndex_0 : List UInt8 := [26, 155, 0, 8, 26, 27, 161, 0, 10, 44, 26, 27, 184, 0, 95, 191, 26, 172]
abbrev dktJ5_checkIndex_0 : List UInt8 := dkwJ5_checkIndex_0 ++ []
theorem dksJ5_checkIndex_0 : cJ5_checkIndex.data.toList.drop 0 = dktJ5_checkIndex_0 := by decide +kernel
theorem dJ5_checkIndex_0 : decode cJ5_checkIndex 0 = .ok (.iload_n 0, 1) := dk_26 (dk_at dksJ5_checkIndex_0 0 rfl rfl)
theorem dJ5_checkIndex_1 : decode cJ5_checkIndex 1 = .ok (.ifCond .lt 8, 3) := dk_155 0 8 (dk_at dksJ5_checkIndex_0 1 rfl rfl)
theorem dJ5_checkIndex_4 : decode cJ5_checkIndex 4 = .ok (.iload_n 0, 1) := dk_26 (dk_at dksJ5_checkIndex_0 4 rfl rfl)
theorem dJ5_checkIndex_5 : decode cJ5_checkIndex 5 = .ok (.iload_n 1, 1) := dk_27 (dk_at dksJ5_checkIndex_0 5 rfl rfl)
theorem dJ5_checkIndex_6 : decode cJ5_checkIndex 6 = .ok (.if_icmp .lt 10, 3) := dk_161 0 10 (dk_at dksJ5_checkIndex_0 6 rfl rfl)
theorem dJ5_checkIndex_9 : decode cJ5_checkIndex 9 = .ok (.aload_n 2, 1) := dk_44 (dk_at dksJ5_checkIndex_0 9 rfl rfl)
theorem dJ5_checkIndex_10 : decode cJ5_checkIndex 10 = .ok (.iload_n 0, 1) := dk_26 (dk_at dksJ5_checkIndex_0 10 rfl rfl)
theorem dJ5_checkIndex_11 : decode cJ5_checkIndex 11 = .ok (.iload_n 1, 1) := dk_27 (dk_at dksJ5_checkIndex_0 11 rfl rfl)
theorem dJ5_checkIndex_12 : decode cJ5_checkIndex 12 = .ok (.invokestatic 95, 3) := dk_184 0 95 (dk_at dksJ5_checkIndex_0 12 rfl rfl)
theorem dJ5_checkIndex_15 : decode cJ5_checkIndex 15 = .ok (.athrow, 1) := dk_191 (dk_at dksJ5_checkIndex_0 15 rfl rfl)
theorem dJ5_checkIndex_16 : decode cJ5_checkIndex 16 = .ok (.iload_n 0, 1) := dk_26 (dk_at dksJ5_checkIndex_0 16 rfl rfl)
theorem dJ5_checkIndex_17 : decode cJ5_checkIndex 17 = .ok (.ireturn, 1) := dk_172 (dk_at dksJ5_checkIndex_0 17 rfl rfl)
theorem q131 : (Jvm.Cond.initialized "jdk/internal/util/Preconditions") ∈ lw_all := lw_g (lw_at lw_m1 12 rfl) rfl
theorem q552 : (Jvm.Cond.laysStatic "jdk/internal/util/Preconditions" "SIOOBE_FORMATTER" "Ljava/util/function/BiFunction;") ∈ lw_tbl := lw_at lw_m2 193 rfl
theorem q554 : (Jvm.Cond.static ({ cls := "jdk/internal/util/Preconditions", name := "checkIndex", desc := "(IILjava/util/function/BiFunction;)I" } : Jvm.MethodName)) ∈ lw_all := lw_g (lw_at lw_m2 195 rfl) rfl
theorem q555 : (Jvm.Cond.code ({ cls := "jdk/internal/util/Preconditions", name := "checkIndex", desc := "(IILjava/util/function/BiFunction;)I" } : Jvm.MethodName) prog_27_method_11_code (3 : Nat) (Option.some Jvm.ClassFile.FieldType.int)) ∈ lw_all := lw_g (lw_at lw_m2 196 rfl) rfl
/-! java/lang/StringUTF16 -/
set_option maxRecDepth 100000
def RJ6 : String := "java/lang/StringUTF16"
abbrev cJ6_charAt : ByteArray := prog_24_method_83_code
def yJ6_charAt : MethodName := ⟨RJ6, "charAt", "([BI)C"⟩
def dkwJ6_charAt_0 : List UInt8 := [27, 42, 184, 0, 67, 42, 27, 184, 0, 71, 172]
abbrev dktJ6_charAt_0 : List UInt8 := dkwJ6_charAt_0 ++ []
theorem dksJ6_charAt_0 : cJ6_charAt.data.toList.drop 0 = dktJ6_charAt_0 := by decide +kernel
theorem dJ6_charAt_0 : decode cJ6_charAt 0 = .ok (.iload_n 1, 1) := dk_27 (dk_at dksJ6_charAt_0 0 rfl rfl)
theorem dJ6_charAt_1 : decode cJ6_charAt 1 = .ok (.aload_n 0, 1) := dk_42 (dk_at dksJ6_charAt_0 1 rfl rfl)
theorem dJ6_charAt_2 : decode cJ6_charAt 2 = .ok (.invokestatic 67, 3) := dk_184 0 67 (dk_at dksJ6_charAt_0 2 rfl rfl)
theorem dJ6_charAt_5 : decode cJ6_charAt 5 = .ok (.aload_n 0, 1) := dk_42 (dk_at dksJ6_charAt_0 5 rfl rfl)
theorem dJ6_charAt_6 : decode cJ6_charAt 6 = .ok (.iload_n 1, 1) := dk_27 (dk_at dksJ6_charAt_0 6 rfl rfl)
theorem dJ6_charAt_7 : decode cJ6_charAt 7 = .ok (.invokestatic 71, 3) := dk_184 0 71 (dk_at dksJ6_charAt_0 7 rfl rfl)
theorem dJ6_charAt_10 : decode cJ6_charAt 10 = .ok (.ireturn, 1) := dk_172 (dk_at dksJ6_charAt_0 10 rfl rfl)
abbrev cJ6_checkIndex : ByteArray := prog_24_method_91_code
def yJ6_checkIndex : MethodName := ⟨RJ6, "checkIndex", "(I[B)V"⟩
def dkwJ6_checkIndex_0 : List UInt8 := [26, 43, 184, 0, 48, 184, 1, 158, 177]
abbrev dktJ6_checkIndex_0 : List UInt8 := dkwJ6_checkIndex_0 ++ []
theorem dksJ6_checkIndex_0 : cJ6_checkIndex.data.toList.drop 0 = dktJ6_checkIndex_0 := by decide +kernel
theorem dJ6_checkIndex_0 : decode cJ6_checkIndex 0 = .ok (.iload_n 0, 1) := dk_26 (dk_at dksJ6_checkIndex_0 0 rfl rfl)
theorem dJ6_checkIndex_1 : decode cJ6_checkIndex 1 = .ok (.aload_n 1, 1) := dk_43 (dk_at dksJ6_checkIndex_0 1 rfl rfl)
theorem dJ6_checkIndex_2 : decode cJ6_checkIndex 2 = .ok (.invokestatic 48, 3) := dk_184 0 48 (dk_at dksJ6_checkIndex_0 2 rfl rfl)
theorem dJ6_checkIndex_5 : decode cJ6_checkIndex 5 = .ok (.invokestatic 414, 3) := dk_184 1 158 (dk_at dksJ6_checkIndex_0 5 rfl rfl)
theorem dJ6_checkIndex_8 : decode cJ6_checkIndex 8 = .ok (.return_, 1) := dk_177 (dk_at dksJ6_checkIndex_0 8 rfl rfl)
abbrev cJ6_length : ByteArray := prog_24_method_6_code
def yJ6_length : MethodName := ⟨RJ6, "length", "([B)I"⟩
def dkwJ6_length_0 : List UInt8 := [42, 190, 4, 122, 172]
abbrev dktJ6_length_0 : List UInt8 := dkwJ6_length_0 ++ []
theorem dksJ6_length_0 : cJ6_length.data.toList.drop 0 = dktJ6_length_0 := by decide +kernel
theorem dJ6_length_0 : decode cJ6_length 0 = .ok (.aload_n 0, 1) := dk_42 (dk_at dksJ6_length_0 0 rfl rfl)
theorem dJ6_length_1 : decode cJ6_length 1 = .ok (.arraylength, 1) := dk_190 (dk_at dksJ6_length_0 1 rfl rfl)
theorem dJ6_length_2 : decode cJ6_length 2 = .ok (.iconst 1, 1) := dk_4 (dk_at dksJ6_length_0 2 rfl rfl)
theorem dJ6_length_3 : decode cJ6_length 3 = .ok (.ishr, 1) := dk_122 (dk_at dksJ6_length_0 3 rfl rfl)
theorem dJ6_length_4 : decode cJ6_length 4 = .ok (.ireturn, 1) := dk_172 (dk_at dksJ6_length_0 4 rfl rfl)
abbrev cJ6_getChar : ByteArray := prog_24_method_5_code
def yJ6_getChar : MethodName := ⟨RJ6, "getChar", "([BI)C"⟩
def dkwJ6_getChar_2 : List UInt8 := [51, 17, 0, 255, 126, 178, 0, 63, 120, 128, 146, 172]
abbrev dktJ6_getChar_2 : List UInt8 := dkwJ6_getChar_2 ++ []
def dkwJ6_getChar_1 : List UInt8 := [183, 0, 56, 191, 27, 4, 120, 60, 42, 27, 132, 1, 1, 51, 17, 0, 255, 126, 178, 0, 59, 120, 42, 27]
abbrev dktJ6_getChar_1 : List UInt8 := dkwJ6_getChar_1 ++ dktJ6_getChar_2
def dkwJ6_getChar_0 : List UInt8 := [178, 0, 44, 154, 0, 25, 27, 155, 0, 11, 27, 42, 184, 0, 48, 161, 0, 13, 187, 0, 52, 89, 18, 54]
abbrev dktJ6_getChar_0 : List UInt8 := dkwJ6_getChar_0 ++ dktJ6_getChar_1
theorem dksJ6_getChar_0 : cJ6_getChar.data.toList.drop 0 = dktJ6_getChar_0 := by decide +kernel
theorem dksJ6_getChar_1 : cJ6_getChar.data.toList.drop 24 = dktJ6_getChar_1 := dk_seg dksJ6_getChar_0 24 rfl rfl
theorem dksJ6_getChar_2 : cJ6_getChar.data.toList.drop 48 = dktJ6_getChar_2 := dk_seg dksJ6_getChar_1 24 rfl rfl
theorem dJ6_getChar_0 : decode cJ6_getChar 0 = .ok (.getstatic 44, 3) := dk_178 0 44 (dk_at dksJ6_getChar_0 0 rfl rfl)
theorem dJ6_getChar_3 : decode cJ6_getChar 3 = .ok (.ifCond .ne 25, 3) := dk_154 0 25 (dk_at dksJ6_getChar_0 3 rfl rfl)
theorem dJ6_getChar_6 : decode cJ6_getChar 6 = .ok (.iload_n 1, 1) := dk_27 (dk_at dksJ6_getChar_0 6 rfl rfl)
theorem dJ6_getChar_7 : decode cJ6_getChar 7 = .ok (.ifCond .lt 11, 3) := dk_155 0 11 (dk_at dksJ6_getChar_0 7 rfl rfl)
theorem dJ6_getChar_10 : decode cJ6_getChar 10 = .ok (.iload_n 1, 1) := dk_27 (dk_at dksJ6_getChar_0 10 rfl rfl)
theorem dJ6_getChar_11 : decode cJ6_getChar 11 = .ok (.aload_n 0, 1) := dk_42 (dk_at dksJ6_getChar_0 11 rfl rfl)
theorem dJ6_getChar_12 : decode cJ6_getChar 12 = .ok (.invokestatic 48, 3) := dk_184 0 48 (dk_at dksJ6_getChar_0 12 rfl rfl)
theorem dJ6_getChar_15 : decode cJ6_getChar 15 = .ok (.if_icmp .lt 13, 3) := dk_161 0 13 (dk_at dksJ6_getChar_0 15 rfl rfl)
theorem dJ6_getChar_18 : decode cJ6_getChar 18 = .ok (.new 52, 3) := dk_187 0 52 (dk_at dksJ6_getChar_0 18 rfl rfl)
theorem dJ6_getChar_21 : decode cJ6_getChar 21 = .ok (.dup, 1) := dk_89 (dk_at dksJ6_getChar_0 21 rfl rfl)
theorem dJ6_getChar_22 : decode cJ6_getChar 22 = .ok (.ldc 54, 2) := dk_18 54 (dk_at dksJ6_getChar_0 22 rfl rfl)
theorem dJ6_getChar_24 : decode cJ6_getChar 24 = .ok (.invokespecial 56, 3) := dk_183 0 56 (dk_at dksJ6_getChar_1 0 rfl rfl)
theorem dJ6_getChar_27 : decode cJ6_getChar 27 = .ok (.athrow, 1) := dk_191 (dk_at dksJ6_getChar_1 3 rfl rfl)
theorem dJ6_getChar_28 : decode cJ6_getChar 28 = .ok (.iload_n 1, 1) := dk_27 (dk_at dksJ6_getChar_1 4 rfl rfl)
theorem dJ6_getChar_29 : decode cJ6_getChar 29 = .ok (.iconst 1, 1) := dk_4 (dk_at dksJ6_getChar_1 5 rfl rfl)
theorem dJ6_getChar_30 : decode cJ6_getChar 30 = .ok (.ishl, 1) := dk_120 (dk_at dksJ6_getChar_1 6 rfl rfl)
theorem dJ6_getChar_31 : decode cJ6_getChar 31 = .ok (.istore_n 1, 1) := dk_60 (dk_at dksJ6_getChar_1 7 rfl rfl)
theorem dJ6_getChar_32 : decode cJ6_getChar 32 = .ok (.aload_n 0, 1) := dk_42 (dk_at dksJ6_getChar_1 8 rfl rfl)
theorem dJ6_getChar_33 : decode cJ6_getChar 33 = .ok (.iload_n 1, 1) := dk_27 (dk_at dksJ6_getChar_1 9 rfl rfl)
theorem dJ6_getChar_34 : decode cJ6_getChar 34 = .ok (.iinc 1 1, 3) := dk_132 1 1 (dk_at dksJ6_getChar_1 10 rfl rfl)
theorem dJ6_getChar_37 : decode cJ6_getChar 37 = .ok (.baload, 1) := dk_51 (dk_at dksJ6_getChar_1 13 rfl rfl)
theorem dJ6_getChar_38 : decode cJ6_getChar 38 = .ok (.sipush 255, 3) := dk_17 0 255 (dk_at dksJ6_getChar_1 14 rfl rfl)
theorem dJ6_getChar_41 : decode cJ6_getChar 41 = .ok (.iand, 1) := dk_126 (dk_at dksJ6_getChar_1 17 rfl rfl)
theorem dJ6_getChar_42 : decode cJ6_getChar 42 = .ok (.getstatic 59, 3) := dk_178 0 59 (dk_at dksJ6_getChar_1 18 rfl rfl)
theorem dJ6_getChar_45 : decode cJ6_getChar 45 = .ok (.ishl, 1) := dk_120 (dk_at dksJ6_getChar_1 21 rfl rfl)
theorem dJ6_getChar_46 : decode cJ6_getChar 46 = .ok (.aload_n 0, 1) := dk_42 (dk_at dksJ6_getChar_1 22 rfl rfl)
theorem dJ6_getChar_47 : decode cJ6_getChar 47 = .ok (.iload_n 1, 1) := dk_27 (dk_at dksJ6_getChar_1 23 rfl rfl)
theorem dJ6_getChar_48 : decode cJ6_getChar 48 = .ok (.baload, 1) := dk_51 (dk_at dksJ6_getChar_2 0 rfl rfl)
theorem dJ6_getChar_49 : decode cJ6_getChar 49 = .ok (.sipush 255, 3) := dk_17 0 255 (dk_at dksJ6_getChar_2 1 rfl rfl)
theorem dJ6_getChar_52 : decode cJ6_getChar 52 = .ok (.iand, 1) := dk_126 (dk_at dksJ6_getChar_2 4 rfl rfl)
theorem dJ6_getChar_53 : decode cJ6_getChar 53 = .ok (.getstatic 63, 3) := dk_178 0 63 (dk_at dksJ6_getChar_2 5 rfl rfl)
theorem dJ6_getChar_56 : decode cJ6_getChar 56 = .ok (.ishl, 1) := dk_120 (dk_at dksJ6_getChar_2 8 rfl rfl)
theorem dJ6_getChar_57 : decode cJ6_getChar 57 = .ok (.ior, 1) := dk_128 (dk_at dksJ6_getChar_2 9 rfl rfl)
theorem dJ6_getChar_58 : decode cJ6_getChar 58 = .ok (.i2c, 1) := dk_146 (dk_at dksJ6_getChar_2 10 rfl rfl)
theorem dJ6_getChar_59 : decode cJ6_getChar 59 = .ok (.ireturn, 1) := dk_172 (dk_at dksJ6_getChar_2 11 rfl rfl)
theorem q132 : (Jvm.Cond.initialized "java/lang/StringUTF16") ∈ lw_all := lw_g (lw_at lw_m1 13 rfl) rfl
theorem q557 : (Jvm.Cond.static ({ cls := "java/lang/StringUTF16", name := "charAt", desc := "([BI)C" } : Jvm.MethodName)) ∈ lw_all := lw_g (lw_at lw_m2 198 rfl) rfl
theorem q558 : (Jvm.Cond.code ({ cls := "java/lang/StringUTF16", name := "charAt", desc := "([BI)C" } : Jvm.MethodName) prog_24_method_83_code (2 : Nat) (Option.some Jvm.ClassFile.FieldType.char)) ∈ lw_all := lw_g (lw_at lw_m2 199 rfl) rfl
theorem q559 : (Jvm.Cond.methodLink "java/lang/StringUTF16" (67 : Nat) ({ cls := "java/lang/StringUTF16", name := "checkIndex", desc := "(I[B)V" } : Jvm.MethodName)) ∈ lw_all := lw_g (lw_at lw_m2 200 rfl) rfl
theorem q560 : (Jvm.Cond.static ({ cls := "java/lang/StringUTF16", name := "checkIndex", desc := "(I[B)V" } : Jvm.MethodName)) ∈ lw_all := lw_g (lw_at lw_m2 201 rfl) rfl
theorem q561 : (Jvm.Cond.code ({ cls := "java/lang/StringUTF16", name := "checkIndex", desc := "(I[B)V" } : Jvm.MethodName) prog_24_method_91_code (2 : Nat) (Option.none : Option Jvm.ClassFile.FieldType)) ∈ lw_all := lw_g (lw_at lw_m2 202 rfl) rfl
theorem q562 : (Jvm.Cond.methodLink "java/lang/StringUTF16" (48 : Nat) ({ cls := "java/lang/StringUTF16", name := "length", desc := "([B)I" } : Jvm.MethodName)) ∈ lw_all := lw_g (lw_at lw_m2 203 rfl) rfl
theorem q563 : (Jvm.Cond.static ({ cls := "java/lang/StringUTF16", name := "length", desc := "([B)I" } : Jvm.MethodName)) ∈ lw_all := lw_g (lw_at lw_m2 204 rfl) rfl
theorem q564 : (Jvm.Cond.code ({ cls := "java/lang/StringUTF16", name := "length", desc := "([B)I" } : Jvm.MethodName) prog_24_method_6_code (1 : Nat) (Option.some Jvm.ClassFile.FieldType.int)) ∈ lw_all := lw_g (lw_at lw_m2 205 rfl) rfl
theorem q565 : (Jvm.Cond.methodLink "java/lang/StringUTF16" (414 : Nat) ({ cls := "java/lang/String", name := "checkIndex", desc := "(II)V" } : Jvm.MethodName)) ∈ lw_all := lw_g (lw_at lw_m2 206 rfl) rfl
theorem q566 : (Jvm.Cond.methodLink "java/lang/StringUTF16" (71 : Nat) ({ cls := "java/lang/StringUTF16", name := "getChar", desc := "([BI)C" } : Jvm.MethodName)) ∈ lw_all := lw_g (lw_at lw_m2 207 rfl) rfl
theorem q567 : (Jvm.Cond.static ({ cls := "java/lang/StringUTF16", name := "getChar", desc := "([BI)C" } : Jvm.MethodName)) ∈ lw_all := lw_g (lw_at lw_m2 208 rfl) rfl
theorem q568 : (Jvm.Cond.code ({ cls := "java/lang/StringUTF16", name := "getChar", desc := "([BI)C" } : Jvm.MethodName) prog_24_method_5_code (2 : Nat) (Option.some Jvm.ClassFile.FieldType.char)) ∈ lw_all := lw_g (lw_at lw_m2 209 rfl) rfl
theorem q569 : (Jvm.Cond.fieldLink "java/lang/StringUTF16" (44 : Nat) "java/lang/StringUTF16" "$assertionsDisabled" "Z") ∈ lw_all := lw_g (lw_at lw_m2 210 rfl) rfl
theorem q570 : (Jvm.Cond.laysStatic "java/lang/StringUTF16" "$assertionsDisabled" "Z") ∈ lw_tbl := lw_at lw_m2 211 rfl
theorem q571 : (Jvm.Cond.fieldLink "java/lang/StringUTF16" (59 : Nat) "java/lang/StringUTF16" "HI_BYTE_SHIFT" "I") ∈ lw_all := lw_g (lw_at lw_m2 212 rfl) rfl
theorem q572 : (Jvm.Cond.laysStatic "java/lang/StringUTF16" "HI_BYTE_SHIFT" "I") ∈ lw_tbl := lw_at lw_m2 213 rfl
theorem q573 : (Jvm.Cond.fieldLink "java/lang/StringUTF16" (63 : Nat) "java/lang/StringUTF16" "LO_BYTE_SHIFT" "I") ∈ lw_all := lw_g (lw_at lw_m2 214 rfl) rfl
theorem q574 : (Jvm.Cond.laysStatic "java/lang/StringUTF16" "LO_BYTE_SHIFT" "I") ∈ lw_tbl := lw_at lw_m2 215 rfl
/-! java/lang/Math -/
set_option maxRecDepth 100000
def RJ7 : String := "java/lang/Math"
abbrev cJ7_min : ByteArray := prog_20_method_69_code
def yJ7_min : MethodName := ⟨RJ7, "min", "(II)I"⟩
def dkwJ7_min_0 : List UInt8 := [26, 27, 163, 0, 7, 26, 167, 0, 4, 27, 172]
abbrev dktJ7_min_0 : List UInt8 := dkwJ7_min_0 ++ []
theorem dksJ7_min_0 : cJ7_min.data.toList.drop 0 = dktJ7_min_0 := by decide +kernel
theorem dJ7_min_0 : decode cJ7_min 0 = .ok (.iload_n 0, 1) := dk_26 (dk_at dksJ7_min_0 0 rfl rfl)
theorem dJ7_min_1 : decode cJ7_min 1 = .ok (.iload_n 1, 1) := dk_27 (dk_at dksJ7_min_0 1 rfl rfl)
theorem dJ7_min_2 : decode cJ7_min 2 = .ok (.if_icmp .gt 7, 3) := dk_163 0 7 (dk_at dksJ7_min_0 2 rfl rfl)
theorem dJ7_min_5 : decode cJ7_min 5 = .ok (.iload_n 0, 1) := dk_26 (dk_at dksJ7_min_0 5 rfl rfl)
theorem dJ7_min_6 : decode cJ7_min 6 = .ok (.goto 4, 3) := dk_167 0 4 (dk_at dksJ7_min_0 6 rfl rfl)
theorem dJ7_min_9 : decode cJ7_min 9 = .ok (.iload_n 1, 1) := dk_27 (dk_at dksJ7_min_0 9 rfl rfl)
theorem dJ7_min_10 : decode cJ7_min 10 = .ok (.ireturn, 1) := dk_172 (dk_at dksJ7_min_0 10 rfl rfl)
abbrev cJ7_max : ByteArray := prog_20_method_65_code
def yJ7_max : MethodName := ⟨RJ7, "max", "(II)I"⟩
def dkwJ7_max_0 : List UInt8 := [26, 27, 161, 0, 7, 26, 167, 0, 4, 27, 172]
abbrev dktJ7_max_0 : List UInt8 := dkwJ7_max_0 ++ []
theorem dksJ7_max_0 : cJ7_max.data.toList.drop 0 = dktJ7_max_0 := by decide +kernel
theorem dJ7_max_0 : decode cJ7_max 0 = .ok (.iload_n 0, 1) := dk_26 (dk_at dksJ7_max_0 0 rfl rfl)
theorem dJ7_max_1 : decode cJ7_max 1 = .ok (.iload_n 1, 1) := dk_27 (dk_at dksJ7_max_0 1 rfl rfl)
theorem dJ7_max_2 : decode cJ7_max 2 = .ok (.if_icmp .lt 7, 3) := dk_161 0 7 (dk_at dksJ7_max_0 2 rfl rfl)
theorem dJ7_max_5 : decode cJ7_max 5 = .ok (.iload_n 0, 1) := dk_26 (dk_at dksJ7_max_0 5 rfl rfl)
theorem dJ7_max_6 : decode cJ7_max 6 = .ok (.goto 4, 3) := dk_167 0 4 (dk_at dksJ7_max_0 6 rfl rfl)
theorem dJ7_max_9 : decode cJ7_max 9 = .ok (.iload_n 1, 1) := dk_27 (dk_at dksJ7_max_0 9 rfl rfl)
theorem dJ7_max_10 : decode cJ7_max 10 = .ok (.ireturn, 1) := dk_172 (dk_at dksJ7_max_0 10 rfl rfl)
abbrev cJ7_min_2 : ByteArray := prog_20_method_70_code
def yJ7_min_2 : MethodName := ⟨RJ7, "min", "(JJ)J"⟩
def dkwJ7_min_2_0 : List UInt8 := [30, 32, 148, 157, 0, 7, 30, 167, 0, 4, 32, 173]
abbrev dktJ7_min_2_0 : List UInt8 := dkwJ7_min_2_0 ++ []
theorem dksJ7_min_2_0 : cJ7_min_2.data.toList.drop 0 = dktJ7_min_2_0 := by decide +kernel
theorem dJ7_min_2_0 : decode cJ7_min_2 0 = .ok (.lload_n 0, 1) := dk_30 (dk_at dksJ7_min_2_0 0 rfl rfl)
theorem dJ7_min_2_1 : decode cJ7_min_2 1 = .ok (.lload_n 2, 1) := dk_32 (dk_at dksJ7_min_2_0 1 rfl rfl)
theorem dJ7_min_2_2 : decode cJ7_min_2 2 = .ok (.lcmp, 1) := dk_148 (dk_at dksJ7_min_2_0 2 rfl rfl)
theorem dJ7_min_2_3 : decode cJ7_min_2 3 = .ok (.ifCond .gt 7, 3) := dk_157 0 7 (dk_at dksJ7_min_2_0 3 rfl rfl)
theorem dJ7_min_2_6 : decode cJ7_min_2 6 = .ok (.lload_n 0, 1) := dk_30 (dk_at dksJ7_min_2_0 6 rfl rfl)
theorem dJ7_min_2_7 : decode cJ7_min_2 7 = .ok (.goto 4, 3) := dk_167 0 4 (dk_at dksJ7_min_2_0 7 rfl rfl)
theorem dJ7_min_2_10 : decode cJ7_min_2 10 = .ok (.lload_n 2, 1) := dk_32 (dk_at dksJ7_min_2_0 10 rfl rfl)
theorem dJ7_min_2_11 : decode cJ7_min_2 11 = .ok (.lreturn, 1) := dk_173 (dk_at dksJ7_min_2_0 11 rfl rfl)
abbrev cJ7_max_2 : ByteArray := prog_20_method_66_code
def yJ7_max_2 : MethodName := ⟨RJ7, "max", "(JJ)J"⟩
def dkwJ7_max_2_0 : List UInt8 := [30, 32, 148, 155, 0, 7, 30, 167, 0, 4, 32, 173]
abbrev dktJ7_max_2_0 : List UInt8 := dkwJ7_max_2_0 ++ []
theorem dksJ7_max_2_0 : cJ7_max_2.data.toList.drop 0 = dktJ7_max_2_0 := by decide +kernel
theorem dJ7_max_2_0 : decode cJ7_max_2 0 = .ok (.lload_n 0, 1) := dk_30 (dk_at dksJ7_max_2_0 0 rfl rfl)
theorem dJ7_max_2_1 : decode cJ7_max_2 1 = .ok (.lload_n 2, 1) := dk_32 (dk_at dksJ7_max_2_0 1 rfl rfl)
theorem dJ7_max_2_2 : decode cJ7_max_2 2 = .ok (.lcmp, 1) := dk_148 (dk_at dksJ7_max_2_0 2 rfl rfl)
theorem dJ7_max_2_3 : decode cJ7_max_2 3 = .ok (.ifCond .lt 7, 3) := dk_155 0 7 (dk_at dksJ7_max_2_0 3 rfl rfl)
theorem dJ7_max_2_6 : decode cJ7_max_2 6 = .ok (.lload_n 0, 1) := dk_30 (dk_at dksJ7_max_2_0 6 rfl rfl)
theorem dJ7_max_2_7 : decode cJ7_max_2 7 = .ok (.goto 4, 3) := dk_167 0 4 (dk_at dksJ7_max_2_0 7 rfl rfl)
theorem dJ7_max_2_10 : decode cJ7_max_2 10 = .ok (.lload_n 2, 1) := dk_32 (dk_at dksJ7_max_2_0 10 rfl rfl)
theorem dJ7_max_2_11 : decode cJ7_max_2 11 = .ok (.lreturn, 1) := dk_173 (dk_at dksJ7_max_2_0 11 rfl rfl)
abbrev cJ7_abs : ByteArray := prog_20_method_59_code
def yJ7_abs : MethodName := ⟨RJ7, "abs", "(I)I"⟩
def dkwJ7_abs_0 : List UInt8 := [26, 156, 0, 8, 26, 116, 167, 0, 4, 26, 172]
abbrev dktJ7_abs_0 : List UInt8 := dkwJ7_abs_0 ++ []
theorem dksJ7_abs_0 : cJ7_abs.data.toList.drop 0 = dktJ7_abs_0 := by decide +kernel
theorem dJ7_abs_0 : decode cJ7_abs 0 = .ok (.iload_n 0, 1) := dk_26 (dk_at dksJ7_abs_0 0 rfl rfl)
theorem dJ7_abs_1 : decode cJ7_abs 1 = .ok (.ifCond .ge 8, 3) := dk_156 0 8 (dk_at dksJ7_abs_0 1 rfl rfl)
theorem dJ7_abs_4 : decode cJ7_abs 4 = .ok (.iload_n 0, 1) := dk_26 (dk_at dksJ7_abs_0 4 rfl rfl)
theorem dJ7_abs_5 : decode cJ7_abs 5 = .ok (.ineg, 1) := dk_116 (dk_at dksJ7_abs_0 5 rfl rfl)
theorem dJ7_abs_6 : decode cJ7_abs 6 = .ok (.goto 4, 3) := dk_167 0 4 (dk_at dksJ7_abs_0 6 rfl rfl)
theorem dJ7_abs_9 : decode cJ7_abs 9 = .ok (.iload_n 0, 1) := dk_26 (dk_at dksJ7_abs_0 9 rfl rfl)
theorem dJ7_abs_10 : decode cJ7_abs 10 = .ok (.ireturn, 1) := dk_172 (dk_at dksJ7_abs_0 10 rfl rfl)
theorem q143 : (Jvm.Cond.initialized "java/lang/Math") ∈ lw_all := lw_g (lw_at lw_m1 24 rfl) rfl
theorem q877 : (Jvm.Cond.static ({ cls := "java/lang/Math", name := "min", desc := "(II)I" } : Jvm.MethodName)) ∈ lw_all := lw_g (lw_at lw_m4 38 rfl) rfl
theorem q878 : (Jvm.Cond.code ({ cls := "java/lang/Math", name := "min", desc := "(II)I" } : Jvm.MethodName) prog_20_method_69_code (2 : Nat) (Option.some Jvm.ClassFile.FieldType.int)) ∈ lw_all := lw_g (lw_at lw_m4 39 rfl) rfl
theorem q888 : (Jvm.Cond.static ({ cls := "java/lang/Math", name := "max", desc := "(II)I" } : Jvm.MethodName)) ∈ lw_all := lw_g (lw_at lw_m4 49 rfl) rfl
theorem q889 : (Jvm.Cond.code ({ cls := "java/lang/Math", name := "max", desc := "(II)I" } : Jvm.MethodName) prog_20_method_65_code (2 : Nat) (Option.some Jvm.ClassFile.FieldType.int)) ∈ lw_all := lw_g (lw_at lw_m4 50 rfl) rfl
theorem q938 : (Jvm.Cond.static ({ cls := "java/lang/Math", name := "min", desc := "(JJ)J" } : Jvm.MethodName)) ∈ lw_all := lw_g (lw_at lw_m4 99 rfl) rfl
theorem q939 : (Jvm.Cond.code ({ cls := "java/lang/Math", name := "min", desc := "(JJ)J" } : Jvm.MethodName) prog_20_method_70_code (4 : Nat) (Option.some Jvm.ClassFile.FieldType.long)) ∈ lw_all := lw_g (lw_at lw_m4 100 rfl) rfl
theorem q941 : (Jvm.Cond.static ({ cls := "java/lang/Math", name := "max", desc := "(JJ)J" } : Jvm.MethodName)) ∈ lw_all := lw_g (lw_at lw_m4 102 rfl) rfl
theorem q942 : (Jvm.Cond.code ({ cls := "java/lang/Math", name := "max", desc := "(JJ)J" } : Jvm.MethodName) prog_20_method_66_code (4 : Nat) (Option.some Jvm.ClassFile.FieldType.long)) ∈ lw_all := lw_g (lw_at lw_m4 103 rfl) rfl
theorem q948 : (Jvm.Cond.static ({ cls := "java/lang/Math", name := "abs", desc := "(I)I" } : Jvm.MethodName)) ∈ lw_all := lw_g (lw_at lw_m4 109 rfl) rfl
theorem q949 : (Jvm.Cond.code ({ cls := "java/lang/Math", name := "abs", desc := "(I)I" } : Jvm.MethodName) prog_20_method_59_code (1 : Nat) (Option.some Jvm.ClassFile.FieldType.int)) ∈ lw_all := lw_g (lw_at lw_m4 110 rfl) rfl
/-! java/lang/Integer -/
set_option maxRecDepth 100000
def RJ8 : String := "java/lang/Integer"
abbrev cJ8_bitCount : ByteArray := prog_19_method_49_code
def yJ8_bitCount : MethodName := ⟨RJ8, "bitCount", "(I)I"⟩
def dkwJ8_bitCount_2 : List UInt8 := [26, 16, 63, 126, 172]
abbrev dktJ8_bitCount_2 : List UInt8 := dkwJ8_bitCount_2 ++ []
def dkwJ8_bitCount_1 : List UInt8 := [26, 26, 7, 124, 96, 19, 1, 11, 126, 59, 26, 26, 16, 8, 124, 96, 59, 26, 26, 16, 16, 124, 96, 59]
abbrev dktJ8_bitCount_1 : List UInt8 := dkwJ8_bitCount_1 ++ dktJ8_bitCount_2
def dkwJ8_bitCount_0 : List UInt8 := [26, 26, 4, 124, 19, 1, 9, 126, 100, 59, 26, 19, 1, 10, 126, 26, 5, 124, 19, 1, 10, 126, 96, 59]
abbrev dktJ8_bitCount_0 : List UInt8 := dkwJ8_bitCount_0 ++ dktJ8_bitCount_1
theorem dksJ8_bitCount_0 : cJ8_bitCount.data.toList.drop 0 = dktJ8_bitCount_0 := by decide +kernel
theorem dksJ8_bitCount_1 : cJ8_bitCount.data.toList.drop 24 = dktJ8_bitCount_1 := dk_seg dksJ8_bitCount_0 24 rfl rfl
theorem dksJ8_bitCount_2 : cJ8_bitCount.data.toList.drop 48 = dktJ8_bitCount_2 := dk_seg dksJ8_bitCount_1 24 rfl rfl
theorem dJ8_bitCount_0 : decode cJ8_bitCount 0 = .ok (.iload_n 0, 1) := dk_26 (dk_at dksJ8_bitCount_0 0 rfl rfl)
theorem dJ8_bitCount_1 : decode cJ8_bitCount 1 = .ok (.iload_n 0, 1) := dk_26 (dk_at dksJ8_bitCount_0 1 rfl rfl)
theorem dJ8_bitCount_2 : decode cJ8_bitCount 2 = .ok (.iconst 1, 1) := dk_4 (dk_at dksJ8_bitCount_0 2 rfl rfl)
theorem dJ8_bitCount_3 : decode cJ8_bitCount 3 = .ok (.iushr, 1) := dk_124 (dk_at dksJ8_bitCount_0 3 rfl rfl)
theorem dJ8_bitCount_4 : decode cJ8_bitCount 4 = .ok (.ldc_w 265, 3) := dk_19 1 9 (dk_at dksJ8_bitCount_0 4 rfl rfl)
theorem dJ8_bitCount_7 : decode cJ8_bitCount 7 = .ok (.iand, 1) := dk_126 (dk_at dksJ8_bitCount_0 7 rfl rfl)
theorem dJ8_bitCount_8 : decode cJ8_bitCount 8 = .ok (.isub, 1) := dk_100 (dk_at dksJ8_bitCount_0 8 rfl rfl)
theorem dJ8_bitCount_9 : decode cJ8_bitCount 9 = .ok (.istore_n 0, 1) := dk_59 (dk_at dksJ8_bitCount_0 9 rfl rfl)
theorem dJ8_bitCount_10 : decode cJ8_bitCount 10 = .ok (.iload_n 0, 1) := dk_26 (dk_at dksJ8_bitCount_0 10 rfl rfl)
theorem dJ8_bitCount_11 : decode cJ8_bitCount 11 = .ok (.ldc_w 266, 3) := dk_19 1 10 (dk_at dksJ8_bitCount_0 11 rfl rfl)
theorem dJ8_bitCount_14 : decode cJ8_bitCount 14 = .ok (.iand, 1) := dk_126 (dk_at dksJ8_bitCount_0 14 rfl rfl)
theorem dJ8_bitCount_15 : decode cJ8_bitCount 15 = .ok (.iload_n 0, 1) := dk_26 (dk_at dksJ8_bitCount_0 15 rfl rfl)
theorem dJ8_bitCount_16 : decode cJ8_bitCount 16 = .ok (.iconst 2, 1) := dk_5 (dk_at dksJ8_bitCount_0 16 rfl rfl)
theorem dJ8_bitCount_17 : decode cJ8_bitCount 17 = .ok (.iushr, 1) := dk_124 (dk_at dksJ8_bitCount_0 17 rfl rfl)
theorem dJ8_bitCount_18 : decode cJ8_bitCount 18 = .ok (.ldc_w 266, 3) := dk_19 1 10 (dk_at dksJ8_bitCount_0 18 rfl rfl)
theorem dJ8_bitCount_21 : decode cJ8_bitCount 21 = .ok (.iand, 1) := dk_126 (dk_at dksJ8_bitCount_0 21 rfl rfl)
theorem dJ8_bitCount_22 : decode cJ8_bitCount 22 = .ok (.iadd, 1) := dk_96 (dk_at dksJ8_bitCount_0 22 rfl rfl)
theorem dJ8_bitCount_23 : decode cJ8_bitCount 23 = .ok (.istore_n 0, 1) := dk_59 (dk_at dksJ8_bitCount_0 23 rfl rfl)
theorem dJ8_bitCount_24 : decode cJ8_bitCount 24 = .ok (.iload_n 0, 1) := dk_26 (dk_at dksJ8_bitCount_1 0 rfl rfl)
theorem dJ8_bitCount_25 : decode cJ8_bitCount 25 = .ok (.iload_n 0, 1) := dk_26 (dk_at dksJ8_bitCount_1 1 rfl rfl)
theorem dJ8_bitCount_26 : decode cJ8_bitCount 26 = .ok (.iconst 4, 1) := dk_7 (dk_at dksJ8_bitCount_1 2 rfl rfl)
theorem dJ8_bitCount_27 : decode cJ8_bitCount 27 = .ok (.iushr, 1) := dk_124 (dk_at dksJ8_bitCount_1 3 rfl rfl)
theorem dJ8_bitCount_28 : decode cJ8_bitCount 28 = .ok (.iadd, 1) := dk_96 (dk_at dksJ8_bitCount_1 4 rfl rfl)
theorem dJ8_bitCount_29 : decode cJ8_bitCount 29 = .ok (.ldc_w 267, 3) := dk_19 1 11 (dk_at dksJ8_bitCount_1 5 rfl rfl)
theorem dJ8_bitCount_32 : decode cJ8_bitCount 32 = .ok (.iand, 1) := dk_126 (dk_at dksJ8_bitCount_1 8 rfl rfl)
theorem dJ8_bitCount_33 : decode cJ8_bitCount 33 = .ok (.istore_n 0, 1) := dk_59 (dk_at dksJ8_bitCount_1 9 rfl rfl)
theorem dJ8_bitCount_34 : decode cJ8_bitCount 34 = .ok (.iload_n 0, 1) := dk_26 (dk_at dksJ8_bitCount_1 10 rfl rfl)
theorem dJ8_bitCount_35 : decode cJ8_bitCount 35 = .ok (.iload_n 0, 1) := dk_26 (dk_at dksJ8_bitCount_1 11 rfl rfl)
theorem dJ8_bitCount_36 : decode cJ8_bitCount 36 = .ok (.bipush 8, 2) := dk_16 8 (dk_at dksJ8_bitCount_1 12 rfl rfl)
theorem dJ8_bitCount_38 : decode cJ8_bitCount 38 = .ok (.iushr, 1) := dk_124 (dk_at dksJ8_bitCount_1 14 rfl rfl)
theorem dJ8_bitCount_39 : decode cJ8_bitCount 39 = .ok (.iadd, 1) := dk_96 (dk_at dksJ8_bitCount_1 15 rfl rfl)
theorem dJ8_bitCount_40 : decode cJ8_bitCount 40 = .ok (.istore_n 0, 1) := dk_59 (dk_at dksJ8_bitCount_1 16 rfl rfl)
theorem dJ8_bitCount_41 : decode cJ8_bitCount 41 = .ok (.iload_n 0, 1) := dk_26 (dk_at dksJ8_bitCount_1 17 rfl rfl)
theorem dJ8_bitCount_42 : decode cJ8_bitCount 42 = .ok (.iload_n 0, 1) := dk_26 (dk_at dksJ8_bitCount_1 18 rfl rfl)
theorem dJ8_bitCount_43 : decode cJ8_bitCount 43 = .ok (.bipush 16, 2) := dk_16 16 (dk_at dksJ8_bitCount_1 19 rfl rfl)
theorem dJ8_bitCount_45 : decode cJ8_bitCount 45 = .ok (.iushr, 1) := dk_124 (dk_at dksJ8_bitCount_1 21 rfl rfl)
theorem dJ8_bitCount_46 : decode cJ8_bitCount 46 = .ok (.iadd, 1) := dk_96 (dk_at dksJ8_bitCount_1 22 rfl rfl)
theorem dJ8_bitCount_47 : decode cJ8_bitCount 47 = .ok (.istore_n 0, 1) := dk_59 (dk_at dksJ8_bitCount_1 23 rfl rfl)
theorem dJ8_bitCount_48 : decode cJ8_bitCount 48 = .ok (.iload_n 0, 1) := dk_26 (dk_at dksJ8_bitCount_2 0 rfl rfl)
theorem dJ8_bitCount_49 : decode cJ8_bitCount 49 = .ok (.bipush 63, 2) := dk_16 63 (dk_at dksJ8_bitCount_2 1 rfl rfl)
theorem dJ8_bitCount_51 : decode cJ8_bitCount 51 = .ok (.iand, 1) := dk_126 (dk_at dksJ8_bitCount_2 3 rfl rfl)
theorem dJ8_bitCount_52 : decode cJ8_bitCount 52 = .ok (.ireturn, 1) := dk_172 (dk_at dksJ8_bitCount_2 4 rfl rfl)
theorem q144 : (Jvm.Cond.initialized "java/lang/Integer") ∈ lw_all := lw_g (lw_at lw_m1 25 rfl) rfl
theorem q1074 : (Jvm.Cond.static ({ cls := "java/lang/Integer", name := "bitCount", desc := "(I)I" } : Jvm.MethodName)) ∈ lw_all := lw_g (lw_at lw_m4 235 rfl) rfl
theorem q1075 : (Jvm.Cond.code ({ cls := "java/lang/Integer", name := "bitCount", desc := "(I)I" } : Jvm.MethodName) prog_19_method_49_code (1 : Nat) (Option.some Jvm.ClassFile.FieldType.int)) ∈ lw_all := lw_g (lw_at lw_m4 236 rfl) rfl
theorem q1076 : (Jvm.Cond.constant "java/lang/Integer" (265 : Nat) (1431655765 : Int32)) ∈ lw_all := lw_g (lw_at lw_m4 237 rfl) rfl
theorem q1077 : (Jvm.Cond.constant "java/lang/Integer" (266 : Nat) (858993459 : Int32)) ∈ lw_all := lw_g (lw_at lw_m4 238 rfl) rfl
theorem q1078 : (Jvm.Cond.constant "java/lang/Integer" (267 : Nat) (252645135 : Int32)) ∈ lw_all := lw_g (lw_at lw_m4 239 rfl) rfl
/-! java/lang/Object -/
set_option maxRecDepth 100000
def RJ9 : String := "java/lang/Object"
abbrev cJ9_init : ByteArray := object_method_1_code
def yJ9_init : MethodName := ⟨RJ9, "<init>", "()V"⟩
theorem dJ9_init_0 : decode cJ9_init 0 = .ok (.return_, 1) := by decide +kernel
theorem q152 : (Jvm.Cond.instanceMethod ({ cls := "java/lang/Object", name := "<init>", desc := "()V" } : Jvm.MethodName)) ∈ lw_all := lw_g (lw_at lw_m1 33 rfl) rfl
theorem q153 : (Jvm.Cond.code ({ cls := "java/lang/Object", name := "<init>", desc := "()V" } : Jvm.MethodName) object_method_1_code (1 : Nat) (Option.none : Option Jvm.ClassFile.FieldType)) ∈ lw_all := lw_g (lw_at lw_m1 34 rfl) rfl
/-! DoughBorder$Fault -/
set_option maxRecDepth 100000
def RX2 : String := "DoughBorder$Fault"
def TX2 : u_T := fun k => match k with
  | 0 => ("java/lang/Throwable", "cause", "Ljava/lang/Throwable;", false)
  | 1 => ("java/lang/Throwable", "stackTrace", "[Ljava/lang/StackTraceElement;", false)
  | 2 => ("java/lang/Throwable", "suppressedExceptions", "Ljava/util/List;", false)
  | 3 => ("java/lang/Throwable", "detailMessage", "Ljava/lang/String;", false)
  | 4 => ("java/lang/Throwable", "backtrace", "Ljava/lang/Object;", false)
  | 5 => ("java/lang/Throwable", "depth", "I", false)
  | 6 => ("DoughBorder$Fault", "kind", "I", false)
  | _ => ("DoughBorder$Fault", "place", "I", false)
def tyX2 : Nat → FieldType := fun k => match k with
  | 0 => .object "java/lang/Throwable"
  | 1 => .array (.object "java/lang/StackTraceElement")
  | 2 => .object "java/util/List"
  | 3 => .object "java/lang/String"
  | 4 => .object "java/lang/Object"
  | 5 => .int
  | 6 => .int
  | _ => .int
abbrev wsX20 : List Cond := u_ws RX2 TX2 8
theorem nmX2 : ∀ a, a < 8 → ∀ b, b < 8 → a ≠ b → (TX2 a).2.1 ≠ (TX2 b).2.1 := by decide +kernel
theorem tyX2_ok : ∀ k, k < 8 → parseFieldDescriptor (TX2 k).2.2.1 = some (tyX2 k) := by decide +kernel
abbrev cX2_init : ByteArray := prog_6_method_1_code
def yX2_init : MethodName := ⟨RX2, "<init>", "()V"⟩
def dkwX2_init_0 : List UInt8 := [42, 18, 1, 1, 3, 3, 183, 0, 3, 177]
abbrev dktX2_init_0 : List UInt8 := dkwX2_init_0 ++ []
theorem dksX2_init_0 : cX2_init.data.toList.drop 0 = dktX2_init_0 := by decide +kernel
theorem dX2_init_0 : decode cX2_init 0 = .ok (.aload_n 0, 1) := dk_42 (dk_at dksX2_init_0 0 rfl rfl)
theorem dX2_init_1 : decode cX2_init 1 = .ok (.ldc 1, 2) := dk_18 1 (dk_at dksX2_init_0 1 rfl rfl)
theorem dX2_init_3 : decode cX2_init 3 = .ok (.aconst_null, 1) := dk_1 (dk_at dksX2_init_0 3 rfl rfl)
theorem dX2_init_4 : decode cX2_init 4 = .ok (.iconst 0, 1) := dk_3 (dk_at dksX2_init_0 4 rfl rfl)
theorem dX2_init_5 : decode cX2_init 5 = .ok (.iconst 0, 1) := dk_3 (dk_at dksX2_init_0 5 rfl rfl)
theorem dX2_init_6 : decode cX2_init 6 = .ok (.invokespecial 3, 3) := dk_183 0 3 (dk_at dksX2_init_0 6 rfl rfl)
theorem dX2_init_9 : decode cX2_init 9 = .ok (.return_, 1) := dk_177 (dk_at dksX2_init_0 9 rfl rfl)
theorem q125 : (Jvm.Cond.initialized "DoughBorder$Fault") ∈ lw_all := lw_g (lw_at lw_m1 6 rfl) rfl
theorem q272 : (Jvm.Cond.instantiable "DoughBorder$Fault" (8 : Nat)) ∈ lw_all := lw_g (lw_at lw_m1 153 rfl) rfl
theorem q273 : (Jvm.Cond.castable "DoughBorder$Fault" "DoughBorder$Fault") ∈ lw_tbl := lw_at lw_m1 154 rfl
theorem q280 : (Jvm.Cond.selects "DoughBorder$Fault" ({ cls := "java/lang/Throwable", name := "fillInStackTrace", desc := "(I)Ljava/lang/Throwable;" } : Jvm.MethodName) ({ cls := "java/lang/Throwable", name := "fillInStackTrace", desc := "(I)Ljava/lang/Throwable;" } : Jvm.MethodName)) ∈ lw_all := lw_g (lw_at lw_m1 161 rfl) rfl
theorem q281 : (Jvm.Cond.selects "DoughBorder$Fault" ({ cls := "java/lang/Throwable", name := "fillInStackTrace", desc := "()Ljava/lang/Throwable;" } : Jvm.MethodName) ({ cls := "java/lang/Throwable", name := "fillInStackTrace", desc := "()Ljava/lang/Throwable;" } : Jvm.MethodName)) ∈ lw_all := lw_g (lw_at lw_m1 162 rfl) rfl
theorem q282 : (Jvm.Cond.lays "DoughBorder$Fault" "java/lang/Throwable" "cause" "Ljava/lang/Throwable;") ∈ lw_all := lw_g (lw_at lw_m1 163 rfl) rfl
theorem q284 : (Jvm.Cond.lays "DoughBorder$Fault" "java/lang/Throwable" "stackTrace" "[Ljava/lang/StackTraceElement;") ∈ lw_all := lw_g (lw_at lw_m1 165 rfl) rfl
theorem q286 : (Jvm.Cond.lays "DoughBorder$Fault" "java/lang/Throwable" "suppressedExceptions" "Ljava/util/List;") ∈ lw_all := lw_g (lw_at lw_m1 167 rfl) rfl
theorem q288 : (Jvm.Cond.lays "DoughBorder$Fault" "java/lang/Throwable" "detailMessage" "Ljava/lang/String;") ∈ lw_all := lw_g (lw_at lw_m1 169 rfl) rfl
theorem q290 : (Jvm.Cond.lays "DoughBorder$Fault" "java/lang/Throwable" "backtrace" "Ljava/lang/Object;") ∈ lw_all := lw_g (lw_at lw_m1 171 rfl) rfl
theorem q311 : (Jvm.Cond.instanceMethod ({ cls := "DoughBorder$Fault", name := "<init>", desc := "()V" } : Jvm.MethodName)) ∈ lw_all := lw_g (lw_at lw_m1 192 rfl) rfl
theorem q312 : (Jvm.Cond.code ({ cls := "DoughBorder$Fault", name := "<init>", desc := "()V" } : Jvm.MethodName) prog_6_method_1_code (1 : Nat) (Option.none : Option Jvm.ClassFile.FieldType)) ∈ lw_all := lw_g (lw_at lw_m1 193 rfl) rfl
theorem q313 : (Jvm.Cond.stringRef "DoughBorder$Fault" (1 : Nat) "fault") ∈ lw_tbl := lw_at lw_m1 194 rfl
theorem q314 : (Jvm.Cond.methodLink "DoughBorder$Fault" (3 : Nat) ({ cls := "java/lang/RuntimeException", name := "<init>", desc := "(Ljava/lang/String;Ljava/lang/Throwable;ZZ)V" } : Jvm.MethodName)) ∈ lw_all := lw_g (lw_at lw_m1 195 rfl) rfl
theorem q332 : (Jvm.Cond.lays "DoughBorder$Fault" "DoughBorder$Fault" "kind" "I") ∈ lw_all := lw_g (lw_at lw_m1 213 rfl) rfl
theorem q333 : (Jvm.Cond.soleField "DoughBorder$Fault" "kind") ∈ lw_all := lw_g (lw_at lw_m1 214 rfl) rfl
theorem q334 : (Jvm.Cond.lays "DoughBorder$Fault" "DoughBorder$Fault" "place" "I") ∈ lw_all := lw_g (lw_at lw_m1 215 rfl) rfl
theorem q335 : (Jvm.Cond.soleField "DoughBorder$Fault" "place") ∈ lw_all := lw_g (lw_at lw_m1 216 rfl) rfl
theorem q340 : (Jvm.Cond.lays "DoughBorder$Fault" "java/lang/Throwable" "depth" "I") ∈ lw_all := lw_g (lw_at lw_m1 221 rfl) rfl
theorem q343 : (Jvm.Cond.superclass "DoughBorder$Fault" "java/lang/RuntimeException") ∈ lw_all := lw_g (lw_at lw_m1 224 rfl) rfl
theorem in_X2 : ∀ w ∈ wsX20, w ∈ lw_all := lw_in wsX20 [282, 284, 286, 288, 290, 340, 332, 334] (by decide +kernel) (by decide +kernel)
/-! DoughBorder$Rule -/
set_option maxRecDepth 100000
def RX5 : String := "DoughBorder$Rule"
def TX5 : u_T := fun k => match k with
  | 0 => ("DoughBorder$Rule", "clauses", "[LDoughBorder$Clause;", true)
  | _ => ("DoughBorder$Rule", "many", "I", false)
def tyX5 : Nat → FieldType := fun k => match k with
  | 0 => .array (.object "DoughBorder$Clause")
  | _ => .int
abbrev wsX50 : List Cond := u_ws RX5 TX5 2
theorem nmX5 : ∀ a, a < 2 → ∀ b, b < 2 → a ≠ b → (TX5 a).2.1 ≠ (TX5 b).2.1 := by decide +kernel
theorem tyX5_ok : ∀ k, k < 2 → parseFieldDescriptor (TX5 k).2.2.1 = some (tyX5 k) := by decide +kernel
abbrev cX5_init : ByteArray := prog_11_method_1_code
def yX5_init : MethodName := ⟨RX5, "<init>", "()V"⟩
def dkwX5_init_0 : List UInt8 := [42, 183, 0, 3, 42, 16, 12, 189, 0, 9, 181, 0, 11, 177]
abbrev dktX5_init_0 : List UInt8 := dkwX5_init_0 ++ []
theorem dksX5_init_0 : cX5_init.data.toList.drop 0 = dktX5_init_0 := by decide +kernel
theorem dX5_init_0 : decode cX5_init 0 = .ok (.aload_n 0, 1) := dk_42 (dk_at dksX5_init_0 0 rfl rfl)
theorem dX5_init_1 : decode cX5_init 1 = .ok (.invokespecial 3, 3) := dk_183 0 3 (dk_at dksX5_init_0 1 rfl rfl)
theorem dX5_init_4 : decode cX5_init 4 = .ok (.aload_n 0, 1) := dk_42 (dk_at dksX5_init_0 4 rfl rfl)
theorem dX5_init_5 : decode cX5_init 5 = .ok (.bipush 12, 2) := dk_16 12 (dk_at dksX5_init_0 5 rfl rfl)
theorem dX5_init_7 : decode cX5_init 7 = .ok (.anewarray 9, 3) := dk_189 0 9 (dk_at dksX5_init_0 7 rfl rfl)
theorem dX5_init_10 : decode cX5_init 10 = .ok (.putfield 11, 3) := dk_181 0 11 (dk_at dksX5_init_0 10 rfl rfl)
theorem dX5_init_13 : decode cX5_init 13 = .ok (.return_, 1) := dk_177 (dk_at dksX5_init_0 13 rfl rfl)
abbrev cX5_feet : ByteArray := prog_11_method_2_code
def yX5_feet : MethodName := ⟨RX5, "feet", "([J)I"⟩
def dkwX5_feet_2 : List UInt8 := [184, 0, 45, 136, 172, 132, 2, 1, 167, 255, 205, 3, 172]
abbrev dktX5_feet_2 : List UInt8 := dkwX5_feet_2 ++ []
def dkwX5_feet_1 : List UInt8 := [20, 0, 25, 20, 0, 27, 42, 180, 0, 11, 28, 50, 180, 0, 29, 43, 182, 0, 33, 184, 0, 39]
abbrev dktX5_feet_1 : List UInt8 := dkwX5_feet_1 ++ dktX5_feet_2
def dkwX5_feet_0 : List UInt8 := [3, 61, 28, 42, 180, 0, 17, 162, 0, 49, 42, 180, 0, 11, 28, 50, 43, 182, 0, 21, 153, 0, 30]
abbrev dktX5_feet_0 : List UInt8 := dkwX5_feet_0 ++ dktX5_feet_1
theorem dksX5_feet_0 : cX5_feet.data.toList.drop 0 = dktX5_feet_0 := by decide +kernel
theorem dksX5_feet_1 : cX5_feet.data.toList.drop 23 = dktX5_feet_1 := dk_seg dksX5_feet_0 23 rfl rfl
theorem dksX5_feet_2 : cX5_feet.data.toList.drop 45 = dktX5_feet_2 := dk_seg dksX5_feet_1 22 rfl rfl
theorem dX5_feet_0 : decode cX5_feet 0 = .ok (.iconst 0, 1) := dk_3 (dk_at dksX5_feet_0 0 rfl rfl)
theorem dX5_feet_1 : decode cX5_feet 1 = .ok (.istore_n 2, 1) := dk_61 (dk_at dksX5_feet_0 1 rfl rfl)
theorem dX5_feet_2 : decode cX5_feet 2 = .ok (.iload_n 2, 1) := dk_28 (dk_at dksX5_feet_0 2 rfl rfl)
theorem dX5_feet_3 : decode cX5_feet 3 = .ok (.aload_n 0, 1) := dk_42 (dk_at dksX5_feet_0 3 rfl rfl)
theorem dX5_feet_4 : decode cX5_feet 4 = .ok (.getfield 17, 3) := dk_180 0 17 (dk_at dksX5_feet_0 4 rfl rfl)
theorem dX5_feet_7 : decode cX5_feet 7 = .ok (.if_icmp .ge 49, 3) := dk_162 0 49 (dk_at dksX5_feet_0 7 rfl rfl)
theorem dX5_feet_10 : decode cX5_feet 10 = .ok (.aload_n 0, 1) := dk_42 (dk_at dksX5_feet_0 10 rfl rfl)
theorem dX5_feet_11 : decode cX5_feet 11 = .ok (.getfield 11, 3) := dk_180 0 11 (dk_at dksX5_feet_0 11 rfl rfl)
theorem dX5_feet_14 : decode cX5_feet 14 = .ok (.iload_n 2, 1) := dk_28 (dk_at dksX5_feet_0 14 rfl rfl)
theorem dX5_feet_15 : decode cX5_feet 15 = .ok (.aaload, 1) := dk_50 (dk_at dksX5_feet_0 15 rfl rfl)
theorem dX5_feet_16 : decode cX5_feet 16 = .ok (.aload_n 1, 1) := dk_43 (dk_at dksX5_feet_0 16 rfl rfl)
theorem dX5_feet_17 : decode cX5_feet 17 = .ok (.invokevirtual 21, 3) := dk_182 0 21 (dk_at dksX5_feet_0 17 rfl rfl)
theorem dX5_feet_20 : decode cX5_feet 20 = .ok (.ifCond .eq 30, 3) := dk_153 0 30 (dk_at dksX5_feet_0 20 rfl rfl)
theorem dX5_feet_23 : decode cX5_feet 23 = .ok (.ldc2_w 25, 3) := dk_20 0 25 (dk_at dksX5_feet_1 0 rfl rfl)
theorem dX5_feet_26 : decode cX5_feet 26 = .ok (.ldc2_w 27, 3) := dk_20 0 27 (dk_at dksX5_feet_1 3 rfl rfl)
theorem dX5_feet_29 : decode cX5_feet 29 = .ok (.aload_n 0, 1) := dk_42 (dk_at dksX5_feet_1 6 rfl rfl)
theorem dX5_feet_30 : decode cX5_feet 30 = .ok (.getfield 11, 3) := dk_180 0 11 (dk_at dksX5_feet_1 7 rfl rfl)
theorem dX5_feet_33 : decode cX5_feet 33 = .ok (.iload_n 2, 1) := dk_28 (dk_at dksX5_feet_1 10 rfl rfl)
theorem dX5_feet_34 : decode cX5_feet 34 = .ok (.aaload, 1) := dk_50 (dk_at dksX5_feet_1 11 rfl rfl)
theorem dX5_feet_35 : decode cX5_feet 35 = .ok (.getfield 29, 3) := dk_180 0 29 (dk_at dksX5_feet_1 12 rfl rfl)
theorem dX5_feet_38 : decode cX5_feet 38 = .ok (.aload_n 1, 1) := dk_43 (dk_at dksX5_feet_1 15 rfl rfl)
theorem dX5_feet_39 : decode cX5_feet 39 = .ok (.invokevirtual 33, 3) := dk_182 0 33 (dk_at dksX5_feet_1 16 rfl rfl)
theorem dX5_feet_42 : decode cX5_feet 42 = .ok (.invokestatic 39, 3) := dk_184 0 39 (dk_at dksX5_feet_1 19 rfl rfl)
theorem dX5_feet_45 : decode cX5_feet 45 = .ok (.invokestatic 45, 3) := dk_184 0 45 (dk_at dksX5_feet_2 0 rfl rfl)
theorem dX5_feet_48 : decode cX5_feet 48 = .ok (.l2i, 1) := dk_136 (dk_at dksX5_feet_2 3 rfl rfl)
theorem dX5_feet_49 : decode cX5_feet 49 = .ok (.ireturn, 1) := dk_172 (dk_at dksX5_feet_2 4 rfl rfl)
theorem dX5_feet_50 : decode cX5_feet 50 = .ok (.iinc 2 1, 3) := dk_132 2 1 (dk_at dksX5_feet_2 5 rfl rfl)
theorem dX5_feet_53 : decode cX5_feet 53 = .ok (.goto (-51), 3) := dk_167 255 205 (dk_at dksX5_feet_2 8 rfl rfl)
theorem dX5_feet_56 : decode cX5_feet 56 = .ok (.iconst 0, 1) := dk_3 (dk_at dksX5_feet_2 11 rfl rfl)
theorem dX5_feet_57 : decode cX5_feet 57 = .ok (.ireturn, 1) := dk_172 (dk_at dksX5_feet_2 12 rfl rfl)
theorem q133 : (Jvm.Cond.initialized "DoughBorder$Rule") ∈ lw_all := lw_g (lw_at lw_m1 14 rfl) rfl
theorem q633 : (Jvm.Cond.instantiable "DoughBorder$Rule" (2 : Nat)) ∈ lw_all := lw_g (lw_at lw_m3 34 rfl) rfl
theorem q635 : (Jvm.Cond.instanceMethod ({ cls := "DoughBorder$Rule", name := "<init>", desc := "()V" } : Jvm.MethodName)) ∈ lw_all := lw_g (lw_at lw_m3 36 rfl) rfl
theorem q636 : (Jvm.Cond.code ({ cls := "DoughBorder$Rule", name := "<init>", desc := "()V" } : Jvm.MethodName) prog_11_method_1_code (1 : Nat) (Option.none : Option Jvm.ClassFile.FieldType)) ∈ lw_all := lw_g (lw_at lw_m3 37 rfl) rfl
theorem q637 : (Jvm.Cond.methodLink "DoughBorder$Rule" (3 : Nat) ({ cls := "java/lang/Object", name := "<init>", desc := "()V" } : Jvm.MethodName)) ∈ lw_all := lw_g (lw_at lw_m3 38 rfl) rfl
theorem q638 : (Jvm.Cond.classLink "DoughBorder$Rule" (9 : Nat) "DoughBorder$Clause") ∈ lw_all := lw_g (lw_at lw_m3 39 rfl) rfl
theorem q640 : (Jvm.Cond.fieldLink "DoughBorder$Rule" (11 : Nat) "DoughBorder$Rule" "clauses" "[LDoughBorder$Clause;") ∈ lw_all := lw_g (lw_at lw_m3 41 rfl) rfl
theorem q642 : (Jvm.Cond.fieldLink "DoughBorder$Rule" (17 : Nat) "DoughBorder$Rule" "many" "I") ∈ lw_all := lw_g (lw_at lw_m3 43 rfl) rfl
theorem q644 : (Jvm.Cond.laysFinal "DoughBorder$Rule" "DoughBorder$Rule" "clauses" "[LDoughBorder$Clause;") ∈ lw_all := lw_g (lw_at lw_m3 45 rfl) rfl
theorem q645 : (Jvm.Cond.soleField "DoughBorder$Rule" "clauses") ∈ lw_all := lw_g (lw_at lw_m3 46 rfl) rfl
theorem q646 : (Jvm.Cond.lays "DoughBorder$Rule" "DoughBorder$Rule" "many" "I") ∈ lw_all := lw_g (lw_at lw_m3 47 rfl) rfl
theorem q647 : (Jvm.Cond.soleField "DoughBorder$Rule" "many") ∈ lw_all := lw_g (lw_at lw_m3 48 rfl) rfl
theorem q648 : (Jvm.Cond.superclass "DoughBorder$Rule" "java/lang/Object") ∈ lw_all := lw_g (lw_at lw_m3 49 rfl) rfl
theorem q659 : (Jvm.Cond.fieldLinkNest "DoughBorder$Rule" (29 : Nat) "DoughBorder$Clause" "sum" "LDoughBorder$Value;" "DoughBorder") ∈ lw_tbl := lw_at lw_m3 60 rfl
theorem q900 : (Jvm.Cond.instanceMethod ({ cls := "DoughBorder$Rule", name := "feet", desc := "([J)I" } : Jvm.MethodName)) ∈ lw_all := lw_g (lw_at lw_m4 61 rfl) rfl
theorem q901 : (Jvm.Cond.selects "DoughBorder$Rule" ({ cls := "DoughBorder$Rule", name := "feet", desc := "([J)I" } : Jvm.MethodName) ({ cls := "DoughBorder$Rule", name := "feet", desc := "([J)I" } : Jvm.MethodName)) ∈ lw_all := lw_g (lw_at lw_m4 62 rfl) rfl
theorem q902 : (Jvm.Cond.code ({ cls := "DoughBorder$Rule", name := "feet", desc := "([J)I" } : Jvm.MethodName) prog_11_method_2_code (3 : Nat) (Option.some Jvm.ClassFile.FieldType.int)) ∈ lw_all := lw_g (lw_at lw_m4 63 rfl) rfl
theorem q903 : (Jvm.Cond.methodLink "DoughBorder$Rule" (21 : Nat) ({ cls := "DoughBorder$Clause", name := "fits", desc := "([J)Z" } : Jvm.MethodName)) ∈ lw_all := lw_g (lw_at lw_m4 64 rfl) rfl
theorem q934 : (Jvm.Cond.constantLong "DoughBorder$Rule" (25 : Nat) (-3 : Int64)) ∈ lw_all := lw_g (lw_at lw_m4 95 rfl) rfl
theorem q935 : (Jvm.Cond.constantLong "DoughBorder$Rule" (27 : Nat) (3 : Int64)) ∈ lw_all := lw_g (lw_at lw_m4 96 rfl) rfl
theorem q936 : (Jvm.Cond.methodLink "DoughBorder$Rule" (33 : Nat) ({ cls := "DoughBorder$Value", name := "of", desc := "([J)J" } : Jvm.MethodName)) ∈ lw_all := lw_g (lw_at lw_m4 97 rfl) rfl
theorem q937 : (Jvm.Cond.methodLink "DoughBorder$Rule" (39 : Nat) ({ cls := "java/lang/Math", name := "min", desc := "(JJ)J" } : Jvm.MethodName)) ∈ lw_all := lw_g (lw_at lw_m4 98 rfl) rfl
theorem q940 : (Jvm.Cond.methodLink "DoughBorder$Rule" (45 : Nat) ({ cls := "java/lang/Math", name := "max", desc := "(JJ)J" } : Jvm.MethodName)) ∈ lw_all := lw_g (lw_at lw_m4 101 rfl) rfl
theorem in_X5 : ∀ w ∈ wsX50, w ∈ lw_all := lw_in wsX50 [644, 646] (by decide +kernel) (by decide +kernel)
/-! DoughBorder$Clause -/
set_option maxRecDepth 100000
def RX6 : String := "DoughBorder$Clause"
def TX6 : u_T := fun k => match k with
  | 0 => ("DoughBorder$Clause", "sum", "LDoughBorder$Value;", false)
  | _ => ("DoughBorder$Clause", "test", "LDoughBorder$Test;", false)
def tyX6 : Nat → FieldType := fun k => match k with
  | 0 => .object "DoughBorder$Value"
  | _ => .object "DoughBorder$Test"
abbrev wsX60 : List Cond := u_ws RX6 TX6 2
theorem nmX6 : ∀ a, a < 2 → ∀ b, b < 2 → a ≠ b → (TX6 a).2.1 ≠ (TX6 b).2.1 := by decide +kernel
theorem tyX6_ok : ∀ k, k < 2 → parseFieldDescriptor (TX6 k).2.2.1 = some (tyX6 k) := by decide +kernel
abbrev cX6_init : ByteArray := prog_3_method_1_code
def yX6_init : MethodName := ⟨RX6, "<init>", "()V"⟩
theorem dX6_init_0 : decode cX6_init 0 = .ok (.aload_n 0, 1) := by decide +kernel
theorem dX6_init_1 : decode cX6_init 1 = .ok (.invokespecial 1, 3) := by decide +kernel
theorem dX6_init_4 : decode cX6_init 4 = .ok (.return_, 1) := by decide +kernel
abbrev cX6_fits : ByteArray := prog_3_method_2_code
def yX6_fits : MethodName := ⟨RX6, "fits", "([J)Z"⟩
def dkwX6_fits_0 : List UInt8 := [42, 180, 0, 7, 198, 0, 14, 42, 180, 0, 7, 43, 182, 0, 13, 153, 0, 7, 4, 167, 0, 4, 3, 172]
abbrev dktX6_fits_0 : List UInt8 := dkwX6_fits_0 ++ []
theorem dksX6_fits_0 : cX6_fits.data.toList.drop 0 = dktX6_fits_0 := by decide +kernel
theorem dX6_fits_0 : decode cX6_fits 0 = .ok (.aload_n 0, 1) := dk_42 (dk_at dksX6_fits_0 0 rfl rfl)
theorem dX6_fits_1 : decode cX6_fits 1 = .ok (.getfield 7, 3) := dk_180 0 7 (dk_at dksX6_fits_0 1 rfl rfl)
theorem dX6_fits_4 : decode cX6_fits 4 = .ok (.ifnull 14, 3) := dk_198 0 14 (dk_at dksX6_fits_0 4 rfl rfl)
theorem dX6_fits_7 : decode cX6_fits 7 = .ok (.aload_n 0, 1) := dk_42 (dk_at dksX6_fits_0 7 rfl rfl)
theorem dX6_fits_8 : decode cX6_fits 8 = .ok (.getfield 7, 3) := dk_180 0 7 (dk_at dksX6_fits_0 8 rfl rfl)
theorem dX6_fits_11 : decode cX6_fits 11 = .ok (.aload_n 1, 1) := dk_43 (dk_at dksX6_fits_0 11 rfl rfl)
theorem dX6_fits_12 : decode cX6_fits 12 = .ok (.invokevirtual 13, 3) := dk_182 0 13 (dk_at dksX6_fits_0 12 rfl rfl)
theorem dX6_fits_15 : decode cX6_fits 15 = .ok (.ifCond .eq 7, 3) := dk_153 0 7 (dk_at dksX6_fits_0 15 rfl rfl)
theorem dX6_fits_18 : decode cX6_fits 18 = .ok (.iconst 1, 1) := dk_4 (dk_at dksX6_fits_0 18 rfl rfl)
theorem dX6_fits_19 : decode cX6_fits 19 = .ok (.goto 4, 3) := dk_167 0 4 (dk_at dksX6_fits_0 19 rfl rfl)
theorem dX6_fits_22 : decode cX6_fits 22 = .ok (.iconst 0, 1) := dk_3 (dk_at dksX6_fits_0 22 rfl rfl)
theorem dX6_fits_23 : decode cX6_fits 23 = .ok (.ireturn, 1) := dk_172 (dk_at dksX6_fits_0 23 rfl rfl)
theorem q134 : (Jvm.Cond.initialized "DoughBorder$Clause") ∈ lw_all := lw_g (lw_at lw_m1 15 rfl) rfl
theorem q654 : (Jvm.Cond.instantiable "DoughBorder$Clause" (2 : Nat)) ∈ lw_all := lw_g (lw_at lw_m3 55 rfl) rfl
theorem q656 : (Jvm.Cond.instanceMethod ({ cls := "DoughBorder$Clause", name := "<init>", desc := "()V" } : Jvm.MethodName)) ∈ lw_all := lw_g (lw_at lw_m3 57 rfl) rfl
theorem q657 : (Jvm.Cond.code ({ cls := "DoughBorder$Clause", name := "<init>", desc := "()V" } : Jvm.MethodName) prog_3_method_1_code (1 : Nat) (Option.none : Option Jvm.ClassFile.FieldType)) ∈ lw_all := lw_g (lw_at lw_m3 58 rfl) rfl
theorem q658 : (Jvm.Cond.methodLink "DoughBorder$Clause" (1 : Nat) ({ cls := "java/lang/Object", name := "<init>", desc := "()V" } : Jvm.MethodName)) ∈ lw_all := lw_g (lw_at lw_m3 59 rfl) rfl
theorem q661 : (Jvm.Cond.fieldLink "DoughBorder$Clause" (7 : Nat) "DoughBorder$Clause" "test" "LDoughBorder$Test;") ∈ lw_all := lw_g (lw_at lw_m3 62 rfl) rfl
theorem q663 : (Jvm.Cond.lays "DoughBorder$Clause" "DoughBorder$Clause" "sum" "LDoughBorder$Value;") ∈ lw_all := lw_g (lw_at lw_m3 64 rfl) rfl
theorem q664 : (Jvm.Cond.soleField "DoughBorder$Clause" "sum") ∈ lw_all := lw_g (lw_at lw_m3 65 rfl) rfl
theorem q665 : (Jvm.Cond.lays "DoughBorder$Clause" "DoughBorder$Clause" "test" "LDoughBorder$Test;") ∈ lw_all := lw_g (lw_at lw_m3 66 rfl) rfl
theorem q666 : (Jvm.Cond.soleField "DoughBorder$Clause" "test") ∈ lw_all := lw_g (lw_at lw_m3 67 rfl) rfl
theorem q667 : (Jvm.Cond.superclass "DoughBorder$Clause" "java/lang/Object") ∈ lw_all := lw_g (lw_at lw_m3 68 rfl) rfl
theorem q904 : (Jvm.Cond.instanceMethod ({ cls := "DoughBorder$Clause", name := "fits", desc := "([J)Z" } : Jvm.MethodName)) ∈ lw_all := lw_g (lw_at lw_m4 65 rfl) rfl
theorem q905 : (Jvm.Cond.selects "DoughBorder$Clause" ({ cls := "DoughBorder$Clause", name := "fits", desc := "([J)Z" } : Jvm.MethodName) ({ cls := "DoughBorder$Clause", name := "fits", desc := "([J)Z" } : Jvm.MethodName)) ∈ lw_all := lw_g (lw_at lw_m4 66 rfl) rfl
theorem q906 : (Jvm.Cond.code ({ cls := "DoughBorder$Clause", name := "fits", desc := "([J)Z" } : Jvm.MethodName) prog_3_method_2_code (2 : Nat) (Option.some Jvm.ClassFile.FieldType.boolean)) ∈ lw_all := lw_g (lw_at lw_m4 67 rfl) rfl
theorem q907 : (Jvm.Cond.methodLink "DoughBorder$Clause" (13 : Nat) ({ cls := "DoughBorder$Test", name := "is", desc := "([J)Z" } : Jvm.MethodName)) ∈ lw_all := lw_g (lw_at lw_m4 68 rfl) rfl
theorem in_X6 : ∀ w ∈ wsX60, w ∈ lw_all := lw_in wsX60 [663, 665] (by decide +kernel) (by decide +kernel)
/-! DoughBorder$Value -/
set_option maxRecDepth 100000
def RX7 : String := "DoughBorder$Value"
abbrev cX7_init : ByteArray := prog_14_method_1_code
def yX7_init : MethodName := ⟨RX7, "<init>", "()V"⟩
theorem dX7_init_0 : decode cX7_init 0 = .ok (.aload_n 0, 1) := by decide +kernel
theorem dX7_init_1 : decode cX7_init 1 = .ok (.invokespecial 1, 3) := by decide +kernel
theorem dX7_init_4 : decode cX7_init 4 = .ok (.return_, 1) := by decide +kernel
theorem q135 : (Jvm.Cond.initialized "DoughBorder$Value") ∈ lw_all := lw_g (lw_at lw_m1 16 rfl) rfl
theorem q691 : (Jvm.Cond.instanceMethod ({ cls := "DoughBorder$Value", name := "<init>", desc := "()V" } : Jvm.MethodName)) ∈ lw_all := lw_g (lw_at lw_m3 92 rfl) rfl
theorem q692 : (Jvm.Cond.code ({ cls := "DoughBorder$Value", name := "<init>", desc := "()V" } : Jvm.MethodName) prog_14_method_1_code (1 : Nat) (Option.none : Option Jvm.ClassFile.FieldType)) ∈ lw_all := lw_g (lw_at lw_m3 93 rfl) rfl
theorem q693 : (Jvm.Cond.methodLink "DoughBorder$Value" (1 : Nat) ({ cls := "java/lang/Object", name := "<init>", desc := "()V" } : Jvm.MethodName)) ∈ lw_all := lw_g (lw_at lw_m3 94 rfl) rfl
theorem q917 : (Jvm.Cond.declares ({ cls := "DoughBorder$Value", name := "of", desc := "([J)J" } : Jvm.MethodName)) ∈ lw_tbl := lw_at lw_m4 78 rfl
theorem q918 : (Jvm.Cond.sameMethod "DoughBorder$Value" "DoughBorder$Value" "of" "([J)J") ∈ lw_all := lw_g (lw_at lw_m4 79 rfl) rfl
/-! DoughBorder$Number -/
set_option maxRecDepth 100000
def RX8 : String := "DoughBorder$Number"
def TX8 : u_T := fun k => match k with
  | _ => ("DoughBorder$Number", "number", "J", true)
def tyX8 : Nat → FieldType := fun k => match k with
  | _ => .long
abbrev wsX80 : List Cond := u_ws RX8 TX8 1
theorem nmX8 : ∀ a, a < 1 → ∀ b, b < 1 → a ≠ b → (TX8 a).2.1 ≠ (TX8 b).2.1 := by decide +kernel
theorem tyX8_ok : ∀ k, k < 1 → parseFieldDescriptor (TX8 k).2.2.1 = some (tyX8 k) := by decide +kernel
abbrev cX8_init : ByteArray := prog_9_method_1_code
def yX8_init : MethodName := ⟨RX8, "<init>", "(J)V"⟩
def dkwX8_init_0 : List UInt8 := [42, 183, 0, 1, 42, 31, 181, 0, 7, 177]
abbrev dktX8_init_0 : List UInt8 := dkwX8_init_0 ++ []
theorem dksX8_init_0 : cX8_init.data.toList.drop 0 = dktX8_init_0 := by decide +kernel
theorem dX8_init_0 : decode cX8_init 0 = .ok (.aload_n 0, 1) := dk_42 (dk_at dksX8_init_0 0 rfl rfl)
theorem dX8_init_1 : decode cX8_init 1 = .ok (.invokespecial 1, 3) := dk_183 0 1 (dk_at dksX8_init_0 1 rfl rfl)
theorem dX8_init_4 : decode cX8_init 4 = .ok (.aload_n 0, 1) := dk_42 (dk_at dksX8_init_0 4 rfl rfl)
theorem dX8_init_5 : decode cX8_init 5 = .ok (.lload_n 1, 1) := dk_31 (dk_at dksX8_init_0 5 rfl rfl)
theorem dX8_init_6 : decode cX8_init 6 = .ok (.putfield 7, 3) := dk_181 0 7 (dk_at dksX8_init_0 6 rfl rfl)
theorem dX8_init_9 : decode cX8_init 9 = .ok (.return_, 1) := dk_177 (dk_at dksX8_init_0 9 rfl rfl)
abbrev cX8_of : ByteArray := prog_9_method_2_code
def yX8_of : MethodName := ⟨RX8, "of", "([J)J"⟩
theorem dX8_of_0 : decode cX8_of 0 = .ok (.aload_n 0, 1) := by decide +kernel
theorem dX8_of_1 : decode cX8_of 1 = .ok (.getfield 7, 3) := by decide +kernel
theorem dX8_of_4 : decode cX8_of 4 = .ok (.lreturn, 1) := by decide +kernel
theorem q136 : (Jvm.Cond.initialized "DoughBorder$Number") ∈ lw_all := lw_g (lw_at lw_m1 17 rfl) rfl
theorem q686 : (Jvm.Cond.instantiable "DoughBorder$Number" (1 : Nat)) ∈ lw_all := lw_g (lw_at lw_m3 87 rfl) rfl
theorem q688 : (Jvm.Cond.instanceMethod ({ cls := "DoughBorder$Number", name := "<init>", desc := "(J)V" } : Jvm.MethodName)) ∈ lw_all := lw_g (lw_at lw_m3 89 rfl) rfl
theorem q689 : (Jvm.Cond.code ({ cls := "DoughBorder$Number", name := "<init>", desc := "(J)V" } : Jvm.MethodName) prog_9_method_1_code (3 : Nat) (Option.none : Option Jvm.ClassFile.FieldType)) ∈ lw_all := lw_g (lw_at lw_m3 90 rfl) rfl
theorem q690 : (Jvm.Cond.methodLinkNest "DoughBorder$Number" (1 : Nat) ({ cls := "DoughBorder$Value", name := "<init>", desc := "()V" } : Jvm.MethodName) "DoughBorder") ∈ lw_tbl := lw_at lw_m3 91 rfl
theorem q694 : (Jvm.Cond.fieldLink "DoughBorder$Number" (7 : Nat) "DoughBorder$Number" "number" "J") ∈ lw_all := lw_g (lw_at lw_m3 95 rfl) rfl
theorem q695 : (Jvm.Cond.laysFinal "DoughBorder$Number" "DoughBorder$Number" "number" "J") ∈ lw_all := lw_g (lw_at lw_m3 96 rfl) rfl
theorem q696 : (Jvm.Cond.soleField "DoughBorder$Number" "number") ∈ lw_all := lw_g (lw_at lw_m3 97 rfl) rfl
theorem q697 : (Jvm.Cond.superclass "DoughBorder$Number" "DoughBorder$Value") ∈ lw_all := lw_g (lw_at lw_m3 98 rfl) rfl
theorem q919 : (Jvm.Cond.selects "DoughBorder$Number" ({ cls := "DoughBorder$Value", name := "of", desc := "([J)J" } : Jvm.MethodName) ({ cls := "DoughBorder$Number", name := "of", desc := "([J)J" } : Jvm.MethodName)) ∈ lw_all := lw_g (lw_at lw_m4 80 rfl) rfl
theorem q920 : (Jvm.Cond.instanceMethod ({ cls := "DoughBorder$Number", name := "of", desc := "([J)J" } : Jvm.MethodName)) ∈ lw_all := lw_g (lw_at lw_m4 81 rfl) rfl
theorem q921 : (Jvm.Cond.code ({ cls := "DoughBorder$Number", name := "of", desc := "([J)J" } : Jvm.MethodName) prog_9_method_2_code (2 : Nat) (Option.some Jvm.ClassFile.FieldType.long)) ∈ lw_all := lw_g (lw_at lw_m4 82 rfl) rfl
theorem in_X8 : ∀ w ∈ wsX80, w ∈ lw_all := lw_in wsX80 [695] (by decide +kernel) (by decide +kernel)
/-! DoughBorder$Word -/
set_option maxRecDepth 100000
def RX9 : String := "DoughBorder$Word"
def TX9 : u_T := fun k => match k with
  | _ => ("DoughBorder$Word", "word", "I", true)
def tyX9 : Nat → FieldType := fun k => match k with
  | _ => .int
abbrev wsX90 : List Cond := u_ws RX9 TX9 1
theorem nmX9 : ∀ a, a < 1 → ∀ b, b < 1 → a ≠ b → (TX9 a).2.1 ≠ (TX9 b).2.1 := by decide +kernel
theorem tyX9_ok : ∀ k, k < 1 → parseFieldDescriptor (TX9 k).2.2.1 = some (tyX9 k) := by decide +kernel
abbrev cX9_init : ByteArray := prog_15_method_1_code
def yX9_init : MethodName := ⟨RX9, "<init>", "(I)V"⟩
def dkwX9_init_0 : List UInt8 := [42, 183, 0, 1, 42, 27, 181, 0, 7, 177]
abbrev dktX9_init_0 : List UInt8 := dkwX9_init_0 ++ []
theorem dksX9_init_0 : cX9_init.data.toList.drop 0 = dktX9_init_0 := by decide +kernel
theorem dX9_init_0 : decode cX9_init 0 = .ok (.aload_n 0, 1) := dk_42 (dk_at dksX9_init_0 0 rfl rfl)
theorem dX9_init_1 : decode cX9_init 1 = .ok (.invokespecial 1, 3) := dk_183 0 1 (dk_at dksX9_init_0 1 rfl rfl)
theorem dX9_init_4 : decode cX9_init 4 = .ok (.aload_n 0, 1) := dk_42 (dk_at dksX9_init_0 4 rfl rfl)
theorem dX9_init_5 : decode cX9_init 5 = .ok (.iload_n 1, 1) := dk_27 (dk_at dksX9_init_0 5 rfl rfl)
theorem dX9_init_6 : decode cX9_init 6 = .ok (.putfield 7, 3) := dk_181 0 7 (dk_at dksX9_init_0 6 rfl rfl)
theorem dX9_init_9 : decode cX9_init 9 = .ok (.return_, 1) := dk_177 (dk_at dksX9_init_0 9 rfl rfl)
abbrev cX9_of : ByteArray := prog_15_method_2_code
def yX9_of : MethodName := ⟨RX9, "of", "([J)J"⟩
def dkwX9_of_0 : List UInt8 := [43, 42, 180, 0, 7, 47, 173]
abbrev dktX9_of_0 : List UInt8 := dkwX9_of_0 ++ []
theorem dksX9_of_0 : cX9_of.data.toList.drop 0 = dktX9_of_0 := by decide +kernel
theorem dX9_of_0 : decode cX9_of 0 = .ok (.aload_n 1, 1) := dk_43 (dk_at dksX9_of_0 0 rfl rfl)
theorem dX9_of_1 : decode cX9_of 1 = .ok (.aload_n 0, 1) := dk_42 (dk_at dksX9_of_0 1 rfl rfl)
theorem dX9_of_2 : decode cX9_of 2 = .ok (.getfield 7, 3) := dk_180 0 7 (dk_at dksX9_of_0 2 rfl rfl)
theorem dX9_of_5 : decode cX9_of 5 = .ok (.laload, 1) := dk_47 (dk_at dksX9_of_0 5 rfl rfl)
theorem dX9_of_6 : decode cX9_of 6 = .ok (.lreturn, 1) := dk_173 (dk_at dksX9_of_0 6 rfl rfl)
theorem q137 : (Jvm.Cond.initialized "DoughBorder$Word") ∈ lw_all := lw_g (lw_at lw_m1 18 rfl) rfl
theorem q699 : (Jvm.Cond.instantiable "DoughBorder$Word" (1 : Nat)) ∈ lw_all := lw_g (lw_at lw_m3 100 rfl) rfl
theorem q701 : (Jvm.Cond.instanceMethod ({ cls := "DoughBorder$Word", name := "<init>", desc := "(I)V" } : Jvm.MethodName)) ∈ lw_all := lw_g (lw_at lw_m3 102 rfl) rfl
theorem q702 : (Jvm.Cond.code ({ cls := "DoughBorder$Word", name := "<init>", desc := "(I)V" } : Jvm.MethodName) prog_15_method_1_code (2 : Nat) (Option.none : Option Jvm.ClassFile.FieldType)) ∈ lw_all := lw_g (lw_at lw_m3 103 rfl) rfl
theorem q703 : (Jvm.Cond.methodLinkNest "DoughBorder$Word" (1 : Nat) ({ cls := "DoughBorder$Value", name := "<init>", desc := "()V" } : Jvm.MethodName) "DoughBorder") ∈ lw_tbl := lw_at lw_m3 104 rfl
theorem q704 : (Jvm.Cond.fieldLink "DoughBorder$Word" (7 : Nat) "DoughBorder$Word" "word" "I") ∈ lw_all := lw_g (lw_at lw_m3 105 rfl) rfl
theorem q705 : (Jvm.Cond.laysFinal "DoughBorder$Word" "DoughBorder$Word" "word" "I") ∈ lw_all := lw_g (lw_at lw_m3 106 rfl) rfl
theorem q706 : (Jvm.Cond.soleField "DoughBorder$Word" "word") ∈ lw_all := lw_g (lw_at lw_m3 107 rfl) rfl
theorem q707 : (Jvm.Cond.superclass "DoughBorder$Word" "DoughBorder$Value") ∈ lw_all := lw_g (lw_at lw_m3 108 rfl) rfl
theorem q926 : (Jvm.Cond.instanceMethod ({ cls := "DoughBorder$Word", name := "of", desc := "([J)J" } : Jvm.MethodName)) ∈ lw_all := lw_g (lw_at lw_m4 87 rfl) rfl
theorem q927 : (Jvm.Cond.code ({ cls := "DoughBorder$Word", name := "of", desc := "([J)J" } : Jvm.MethodName) prog_15_method_2_code (2 : Nat) (Option.some Jvm.ClassFile.FieldType.long)) ∈ lw_all := lw_g (lw_at lw_m4 88 rfl) rfl
theorem q928 : (Jvm.Cond.selects "DoughBorder$Word" ({ cls := "DoughBorder$Value", name := "of", desc := "([J)J" } : Jvm.MethodName) ({ cls := "DoughBorder$Word", name := "of", desc := "([J)J" } : Jvm.MethodName)) ∈ lw_all := lw_g (lw_at lw_m4 89 rfl) rfl
theorem in_X9 : ∀ w ∈ wsX90, w ∈ lw_all := lw_in wsX90 [705] (by decide +kernel) (by decide +kernel)
/-! DoughBorder$Pair -/
set_option maxRecDepth 100000
def RX10 : String := "DoughBorder$Pair"
def TX10 : u_T := fun k => match k with
  | 0 => ("DoughBorder$Pair", "first", "LDoughBorder$Value;", true)
  | 1 => ("DoughBorder$Pair", "second", "LDoughBorder$Value;", true)
  | _ => ("DoughBorder$Pair", "sign", "I", true)
def tyX10 : Nat → FieldType := fun k => match k with
  | 0 => .object "DoughBorder$Value"
  | 1 => .object "DoughBorder$Value"
  | _ => .int
abbrev wsX100 : List Cond := u_ws RX10 TX10 3
theorem nmX10 : ∀ a, a < 3 → ∀ b, b < 3 → a ≠ b → (TX10 a).2.1 ≠ (TX10 b).2.1 := by decide +kernel
theorem tyX10_ok : ∀ k, k < 3 → parseFieldDescriptor (TX10 k).2.2.1 = some (tyX10 k) := by decide +kernel
abbrev cX10_init : ByteArray := prog_10_method_1_code
def yX10_init : MethodName := ⟨RX10, "<init>", "(LDoughBorder$Value;ILDoughBorder$Value;)V"⟩
def dkwX10_init_0 : List UInt8 := [42, 183, 0, 1, 42, 43, 181, 0, 7, 42, 28, 181, 0, 13, 42, 45, 181, 0, 17, 177]
abbrev dktX10_init_0 : List UInt8 := dkwX10_init_0 ++ []
theorem dksX10_init_0 : cX10_init.data.toList.drop 0 = dktX10_init_0 := by decide +kernel
theorem dX10_init_0 : decode cX10_init 0 = .ok (.aload_n 0, 1) := dk_42 (dk_at dksX10_init_0 0 rfl rfl)
theorem dX10_init_1 : decode cX10_init 1 = .ok (.invokespecial 1, 3) := dk_183 0 1 (dk_at dksX10_init_0 1 rfl rfl)
theorem dX10_init_4 : decode cX10_init 4 = .ok (.aload_n 0, 1) := dk_42 (dk_at dksX10_init_0 4 rfl rfl)
theorem dX10_init_5 : decode cX10_init 5 = .ok (.aload_n 1, 1) := dk_43 (dk_at dksX10_init_0 5 rfl rfl)
theorem dX10_init_6 : decode cX10_init 6 = .ok (.putfield 7, 3) := dk_181 0 7 (dk_at dksX10_init_0 6 rfl rfl)
theorem dX10_init_9 : decode cX10_init 9 = .ok (.aload_n 0, 1) := dk_42 (dk_at dksX10_init_0 9 rfl rfl)
theorem dX10_init_10 : decode cX10_init 10 = .ok (.iload_n 2, 1) := dk_28 (dk_at dksX10_init_0 10 rfl rfl)
theorem dX10_init_11 : decode cX10_init 11 = .ok (.putfield 13, 3) := dk_181 0 13 (dk_at dksX10_init_0 11 rfl rfl)
theorem dX10_init_14 : decode cX10_init 14 = .ok (.aload_n 0, 1) := dk_42 (dk_at dksX10_init_0 14 rfl rfl)
theorem dX10_init_15 : decode cX10_init 15 = .ok (.aload_n 3, 1) := dk_45 (dk_at dksX10_init_0 15 rfl rfl)
theorem dX10_init_16 : decode cX10_init 16 = .ok (.putfield 17, 3) := dk_181 0 17 (dk_at dksX10_init_0 16 rfl rfl)
theorem dX10_init_19 : decode cX10_init 19 = .ok (.return_, 1) := dk_177 (dk_at dksX10_init_0 19 rfl rfl)
abbrev cX10_of : ByteArray := prog_10_method_2_code
def yX10_of : MethodName := ⟨RX10, "of", "([J)J"⟩
def dkwX10_of_3 : List UInt8 := [167, 0, 7, 32, 22, 4, 113, 173, 22, 4, 9, 148, 154, 0, 7, 9, 167, 0, 7, 32, 22, 4, 109, 173]
abbrev dktX10_of_3 : List UInt8 := dkwX10_of_3 ++ []
def dkwX10_of_2 : List UInt8 := [32, 22, 4, 97, 173, 32, 22, 4, 101, 173, 32, 22, 4, 105, 173, 22, 4, 9, 148, 154, 0, 7, 9]
abbrev dktX10_of_2 : List UInt8 := dkwX10_of_2 ++ dktX10_of_3
def dkwX10_of_1 : List UInt8 := [170, 0, 0, 0, 80, 0, 0, 0, 37, 0, 0, 0, 45, 0, 0, 0, 64, 0, 0, 0, 80, 0, 0, 0, 80, 0, 0, 0, 80, 0, 0, 0, 80, 0, 0, 0, 59, 0, 0, 0, 49, 0, 0, 0, 80, 0, 0, 0, 54]
abbrev dktX10_of_1 : List UInt8 := dkwX10_of_1 ++ dktX10_of_2
def dkwX10_of_0 : List UInt8 := [42, 180, 0, 7, 43, 182, 0, 20, 65, 42, 180, 0, 17, 43, 182, 0, 20, 55, 4, 42, 180, 0, 13]
abbrev dktX10_of_0 : List UInt8 := dkwX10_of_0 ++ dktX10_of_1
theorem dksX10_of_0 : cX10_of.data.toList.drop 0 = dktX10_of_0 := by decide +kernel
theorem dksX10_of_1 : cX10_of.data.toList.drop 23 = dktX10_of_1 := dk_seg dksX10_of_0 23 rfl rfl
theorem dksX10_of_2 : cX10_of.data.toList.drop 72 = dktX10_of_2 := dk_seg dksX10_of_1 49 rfl rfl
theorem dksX10_of_3 : cX10_of.data.toList.drop 95 = dktX10_of_3 := dk_seg dksX10_of_2 23 rfl rfl
theorem dX10_of_0 : decode cX10_of 0 = .ok (.aload_n 0, 1) := dk_42 (dk_at dksX10_of_0 0 rfl rfl)
theorem dX10_of_1 : decode cX10_of 1 = .ok (.getfield 7, 3) := dk_180 0 7 (dk_at dksX10_of_0 1 rfl rfl)
theorem dX10_of_4 : decode cX10_of 4 = .ok (.aload_n 1, 1) := dk_43 (dk_at dksX10_of_0 4 rfl rfl)
theorem dX10_of_5 : decode cX10_of 5 = .ok (.invokevirtual 20, 3) := dk_182 0 20 (dk_at dksX10_of_0 5 rfl rfl)
theorem dX10_of_8 : decode cX10_of 8 = .ok (.lstore_n 2, 1) := dk_65 (dk_at dksX10_of_0 8 rfl rfl)
theorem dX10_of_9 : decode cX10_of 9 = .ok (.aload_n 0, 1) := dk_42 (dk_at dksX10_of_0 9 rfl rfl)
theorem dX10_of_10 : decode cX10_of 10 = .ok (.getfield 17, 3) := dk_180 0 17 (dk_at dksX10_of_0 10 rfl rfl)
theorem dX10_of_13 : decode cX10_of 13 = .ok (.aload_n 1, 1) := dk_43 (dk_at dksX10_of_0 13 rfl rfl)
theorem dX10_of_14 : decode cX10_of 14 = .ok (.invokevirtual 20, 3) := dk_182 0 20 (dk_at dksX10_of_0 14 rfl rfl)
theorem dX10_of_17 : decode cX10_of 17 = .ok (.lstore 4, 2) := dk_55 4 (dk_at dksX10_of_0 17 rfl rfl)
theorem dX10_of_19 : decode cX10_of 19 = .ok (.aload_n 0, 1) := dk_42 (dk_at dksX10_of_0 19 rfl rfl)
theorem dX10_of_20 : decode cX10_of 20 = .ok (.getfield 13, 3) := dk_180 0 13 (dk_at dksX10_of_0 20 rfl rfl)
theorem dX10_of_23 : decode cX10_of 23 = .ok (.tableswitch 80 37 45 #[64, 80, 80, 80, 80, 59, 49, 80, 54], 49) := by decide +kernel
theorem dX10_of_72 : decode cX10_of 72 = .ok (.lload_n 2, 1) := dk_32 (dk_at dksX10_of_2 0 rfl rfl)
theorem dX10_of_73 : decode cX10_of 73 = .ok (.lload 4, 2) := dk_22 4 (dk_at dksX10_of_2 1 rfl rfl)
theorem dX10_of_75 : decode cX10_of 75 = .ok (.ladd, 1) := dk_97 (dk_at dksX10_of_2 3 rfl rfl)
theorem dX10_of_76 : decode cX10_of 76 = .ok (.lreturn, 1) := dk_173 (dk_at dksX10_of_2 4 rfl rfl)
theorem dX10_of_77 : decode cX10_of 77 = .ok (.lload_n 2, 1) := dk_32 (dk_at dksX10_of_2 5 rfl rfl)
theorem dX10_of_78 : decode cX10_of 78 = .ok (.lload 4, 2) := dk_22 4 (dk_at dksX10_of_2 6 rfl rfl)
theorem dX10_of_80 : decode cX10_of 80 = .ok (.lsub, 1) := dk_101 (dk_at dksX10_of_2 8 rfl rfl)
theorem dX10_of_81 : decode cX10_of 81 = .ok (.lreturn, 1) := dk_173 (dk_at dksX10_of_2 9 rfl rfl)
theorem dX10_of_82 : decode cX10_of 82 = .ok (.lload_n 2, 1) := dk_32 (dk_at dksX10_of_2 10 rfl rfl)
theorem dX10_of_83 : decode cX10_of 83 = .ok (.lload 4, 2) := dk_22 4 (dk_at dksX10_of_2 11 rfl rfl)
theorem dX10_of_85 : decode cX10_of 85 = .ok (.lmul, 1) := dk_105 (dk_at dksX10_of_2 13 rfl rfl)
theorem dX10_of_86 : decode cX10_of 86 = .ok (.lreturn, 1) := dk_173 (dk_at dksX10_of_2 14 rfl rfl)
theorem dX10_of_87 : decode cX10_of 87 = .ok (.lload 4, 2) := dk_22 4 (dk_at dksX10_of_2 15 rfl rfl)
theorem dX10_of_89 : decode cX10_of 89 = .ok (.lconst 0, 1) := dk_9 (dk_at dksX10_of_2 17 rfl rfl)
theorem dX10_of_90 : decode cX10_of 90 = .ok (.lcmp, 1) := dk_148 (dk_at dksX10_of_2 18 rfl rfl)
theorem dX10_of_91 : decode cX10_of 91 = .ok (.ifCond .ne 7, 3) := dk_154 0 7 (dk_at dksX10_of_2 19 rfl rfl)
theorem dX10_of_94 : decode cX10_of 94 = .ok (.lconst 0, 1) := dk_9 (dk_at dksX10_of_2 22 rfl rfl)
theorem dX10_of_95 : decode cX10_of 95 = .ok (.goto 7, 3) := dk_167 0 7 (dk_at dksX10_of_3 0 rfl rfl)
theorem dX10_of_98 : decode cX10_of 98 = .ok (.lload_n 2, 1) := dk_32 (dk_at dksX10_of_3 3 rfl rfl)
theorem dX10_of_99 : decode cX10_of 99 = .ok (.lload 4, 2) := dk_22 4 (dk_at dksX10_of_3 4 rfl rfl)
theorem dX10_of_101 : decode cX10_of 101 = .ok (.lrem, 1) := dk_113 (dk_at dksX10_of_3 6 rfl rfl)
theorem dX10_of_102 : decode cX10_of 102 = .ok (.lreturn, 1) := dk_173 (dk_at dksX10_of_3 7 rfl rfl)
theorem dX10_of_103 : decode cX10_of 103 = .ok (.lload 4, 2) := dk_22 4 (dk_at dksX10_of_3 8 rfl rfl)
theorem dX10_of_105 : decode cX10_of 105 = .ok (.lconst 0, 1) := dk_9 (dk_at dksX10_of_3 10 rfl rfl)
theorem dX10_of_106 : decode cX10_of 106 = .ok (.lcmp, 1) := dk_148 (dk_at dksX10_of_3 11 rfl rfl)
theorem dX10_of_107 : decode cX10_of 107 = .ok (.ifCond .ne 7, 3) := dk_154 0 7 (dk_at dksX10_of_3 12 rfl rfl)
theorem dX10_of_110 : decode cX10_of 110 = .ok (.lconst 0, 1) := dk_9 (dk_at dksX10_of_3 15 rfl rfl)
theorem dX10_of_111 : decode cX10_of 111 = .ok (.goto 7, 3) := dk_167 0 7 (dk_at dksX10_of_3 16 rfl rfl)
theorem dX10_of_114 : decode cX10_of 114 = .ok (.lload_n 2, 1) := dk_32 (dk_at dksX10_of_3 19 rfl rfl)
theorem dX10_of_115 : decode cX10_of 115 = .ok (.lload 4, 2) := dk_22 4 (dk_at dksX10_of_3 20 rfl rfl)
theorem dX10_of_117 : decode cX10_of 117 = .ok (.ldiv, 1) := dk_109 (dk_at dksX10_of_3 22 rfl rfl)
theorem dX10_of_118 : decode cX10_of 118 = .ok (.lreturn, 1) := dk_173 (dk_at dksX10_of_3 23 rfl rfl)
theorem q138 : (Jvm.Cond.initialized "DoughBorder$Pair") ∈ lw_all := lw_g (lw_at lw_m1 19 rfl) rfl
theorem q709 : (Jvm.Cond.instantiable "DoughBorder$Pair" (3 : Nat)) ∈ lw_all := lw_g (lw_at lw_m3 110 rfl) rfl
theorem q711 : (Jvm.Cond.instanceMethod ({ cls := "DoughBorder$Pair", name := "<init>", desc := "(LDoughBorder$Value;ILDoughBorder$Value;)V" } : Jvm.MethodName)) ∈ lw_all := lw_g (lw_at lw_m3 112 rfl) rfl
theorem q712 : (Jvm.Cond.code ({ cls := "DoughBorder$Pair", name := "<init>", desc := "(LDoughBorder$Value;ILDoughBorder$Value;)V" } : Jvm.MethodName) prog_10_method_1_code (4 : Nat) (Option.none : Option Jvm.ClassFile.FieldType)) ∈ lw_all := lw_g (lw_at lw_m3 113 rfl) rfl
theorem q713 : (Jvm.Cond.methodLinkNest "DoughBorder$Pair" (1 : Nat) ({ cls := "DoughBorder$Value", name := "<init>", desc := "()V" } : Jvm.MethodName) "DoughBorder") ∈ lw_tbl := lw_at lw_m3 114 rfl
theorem q714 : (Jvm.Cond.fieldLink "DoughBorder$Pair" (7 : Nat) "DoughBorder$Pair" "first" "LDoughBorder$Value;") ∈ lw_all := lw_g (lw_at lw_m3 115 rfl) rfl
theorem q715 : (Jvm.Cond.fieldLink "DoughBorder$Pair" (17 : Nat) "DoughBorder$Pair" "second" "LDoughBorder$Value;") ∈ lw_all := lw_g (lw_at lw_m3 116 rfl) rfl
theorem q716 : (Jvm.Cond.fieldLink "DoughBorder$Pair" (13 : Nat) "DoughBorder$Pair" "sign" "I") ∈ lw_all := lw_g (lw_at lw_m3 117 rfl) rfl
theorem q717 : (Jvm.Cond.laysFinal "DoughBorder$Pair" "DoughBorder$Pair" "first" "LDoughBorder$Value;") ∈ lw_all := lw_g (lw_at lw_m3 118 rfl) rfl
theorem q718 : (Jvm.Cond.soleField "DoughBorder$Pair" "first") ∈ lw_all := lw_g (lw_at lw_m3 119 rfl) rfl
theorem q719 : (Jvm.Cond.laysFinal "DoughBorder$Pair" "DoughBorder$Pair" "second" "LDoughBorder$Value;") ∈ lw_all := lw_g (lw_at lw_m3 120 rfl) rfl
theorem q720 : (Jvm.Cond.soleField "DoughBorder$Pair" "second") ∈ lw_all := lw_g (lw_at lw_m3 121 rfl) rfl
theorem q721 : (Jvm.Cond.laysFinal "DoughBorder$Pair" "DoughBorder$Pair" "sign" "I") ∈ lw_all := lw_g (lw_at lw_m3 122 rfl) rfl
theorem q722 : (Jvm.Cond.soleField "DoughBorder$Pair" "sign") ∈ lw_all := lw_g (lw_at lw_m3 123 rfl) rfl
theorem q723 : (Jvm.Cond.superclass "DoughBorder$Pair" "DoughBorder$Value") ∈ lw_all := lw_g (lw_at lw_m3 124 rfl) rfl
theorem q922 : (Jvm.Cond.selects "DoughBorder$Pair" ({ cls := "DoughBorder$Value", name := "of", desc := "([J)J" } : Jvm.MethodName) ({ cls := "DoughBorder$Pair", name := "of", desc := "([J)J" } : Jvm.MethodName)) ∈ lw_all := lw_g (lw_at lw_m4 83 rfl) rfl
theorem q923 : (Jvm.Cond.instanceMethod ({ cls := "DoughBorder$Pair", name := "of", desc := "([J)J" } : Jvm.MethodName)) ∈ lw_all := lw_g (lw_at lw_m4 84 rfl) rfl
theorem q924 : (Jvm.Cond.code ({ cls := "DoughBorder$Pair", name := "of", desc := "([J)J" } : Jvm.MethodName) prog_10_method_2_code (6 : Nat) (Option.some Jvm.ClassFile.FieldType.long)) ∈ lw_all := lw_g (lw_at lw_m4 85 rfl) rfl
theorem q925 : (Jvm.Cond.methodLink "DoughBorder$Pair" (20 : Nat) ({ cls := "DoughBorder$Value", name := "of", desc := "([J)J" } : Jvm.MethodName)) ∈ lw_all := lw_g (lw_at lw_m4 86 rfl) rfl
theorem in_X10 : ∀ w ∈ wsX100, w ∈ lw_all := lw_in wsX100 [717, 719, 721] (by decide +kernel) (by decide +kernel)
/-! DoughBorder$Test -/
set_option maxRecDepth 100000
def RX11 : String := "DoughBorder$Test"
abbrev cX11_init : ByteArray := prog_12_method_1_code
def yX11_init : MethodName := ⟨RX11, "<init>", "()V"⟩
theorem dX11_init_0 : decode cX11_init 0 = .ok (.aload_n 0, 1) := by decide +kernel
theorem dX11_init_1 : decode cX11_init 1 = .ok (.invokespecial 1, 3) := by decide +kernel
theorem dX11_init_4 : decode cX11_init 4 = .ok (.return_, 1) := by decide +kernel
theorem q139 : (Jvm.Cond.initialized "DoughBorder$Test") ∈ lw_all := lw_g (lw_at lw_m1 20 rfl) rfl
theorem q752 : (Jvm.Cond.instanceMethod ({ cls := "DoughBorder$Test", name := "<init>", desc := "()V" } : Jvm.MethodName)) ∈ lw_all := lw_g (lw_at lw_m3 153 rfl) rfl
theorem q753 : (Jvm.Cond.code ({ cls := "DoughBorder$Test", name := "<init>", desc := "()V" } : Jvm.MethodName) prog_12_method_1_code (1 : Nat) (Option.none : Option Jvm.ClassFile.FieldType)) ∈ lw_all := lw_g (lw_at lw_m3 154 rfl) rfl
theorem q754 : (Jvm.Cond.methodLink "DoughBorder$Test" (1 : Nat) ({ cls := "java/lang/Object", name := "<init>", desc := "()V" } : Jvm.MethodName)) ∈ lw_all := lw_g (lw_at lw_m3 155 rfl) rfl
theorem q908 : (Jvm.Cond.declares ({ cls := "DoughBorder$Test", name := "is", desc := "([J)Z" } : Jvm.MethodName)) ∈ lw_tbl := lw_at lw_m4 69 rfl
theorem q909 : (Jvm.Cond.sameMethod "DoughBorder$Test" "DoughBorder$Test" "is" "([J)Z") ∈ lw_all := lw_g (lw_at lw_m4 70 rfl) rfl
/-! DoughBorder$Not -/
set_option maxRecDepth 100000
def RX12 : String := "DoughBorder$Not"
def TX12 : u_T := fun k => match k with
  | _ => ("DoughBorder$Not", "test", "LDoughBorder$Test;", true)
def tyX12 : Nat → FieldType := fun k => match k with
  | _ => .object "DoughBorder$Test"
abbrev wsX120 : List Cond := u_ws RX12 TX12 1
theorem nmX12 : ∀ a, a < 1 → ∀ b, b < 1 → a ≠ b → (TX12 a).2.1 ≠ (TX12 b).2.1 := by decide +kernel
theorem tyX12_ok : ∀ k, k < 1 → parseFieldDescriptor (TX12 k).2.2.1 = some (tyX12 k) := by decide +kernel
abbrev cX12_init : ByteArray := prog_8_method_1_code
def yX12_init : MethodName := ⟨RX12, "<init>", "(LDoughBorder$Test;)V"⟩
def dkwX12_init_0 : List UInt8 := [42, 183, 0, 1, 42, 43, 181, 0, 7, 177]
abbrev dktX12_init_0 : List UInt8 := dkwX12_init_0 ++ []
theorem dksX12_init_0 : cX12_init.data.toList.drop 0 = dktX12_init_0 := by decide +kernel
theorem dX12_init_0 : decode cX12_init 0 = .ok (.aload_n 0, 1) := dk_42 (dk_at dksX12_init_0 0 rfl rfl)
theorem dX12_init_1 : decode cX12_init 1 = .ok (.invokespecial 1, 3) := dk_183 0 1 (dk_at dksX12_init_0 1 rfl rfl)
theorem dX12_init_4 : decode cX12_init 4 = .ok (.aload_n 0, 1) := dk_42 (dk_at dksX12_init_0 4 rfl rfl)
theorem dX12_init_5 : decode cX12_init 5 = .ok (.aload_n 1, 1) := dk_43 (dk_at dksX12_init_0 5 rfl rfl)
theorem dX12_init_6 : decode cX12_init 6 = .ok (.putfield 7, 3) := dk_181 0 7 (dk_at dksX12_init_0 6 rfl rfl)
theorem dX12_init_9 : decode cX12_init 9 = .ok (.return_, 1) := dk_177 (dk_at dksX12_init_0 9 rfl rfl)
abbrev cX12_is : ByteArray := prog_8_method_2_code
def yX12_is : MethodName := ⟨RX12, "is", "([J)Z"⟩
def dkwX12_is_0 : List UInt8 := [42, 180, 0, 7, 43, 182, 0, 13, 154, 0, 7, 4, 167, 0, 4, 3, 172]
abbrev dktX12_is_0 : List UInt8 := dkwX12_is_0 ++ []
theorem dksX12_is_0 : cX12_is.data.toList.drop 0 = dktX12_is_0 := by decide +kernel
theorem dX12_is_0 : decode cX12_is 0 = .ok (.aload_n 0, 1) := dk_42 (dk_at dksX12_is_0 0 rfl rfl)
theorem dX12_is_1 : decode cX12_is 1 = .ok (.getfield 7, 3) := dk_180 0 7 (dk_at dksX12_is_0 1 rfl rfl)
theorem dX12_is_4 : decode cX12_is 4 = .ok (.aload_n 1, 1) := dk_43 (dk_at dksX12_is_0 4 rfl rfl)
theorem dX12_is_5 : decode cX12_is 5 = .ok (.invokevirtual 13, 3) := dk_182 0 13 (dk_at dksX12_is_0 5 rfl rfl)
theorem dX12_is_8 : decode cX12_is 8 = .ok (.ifCond .ne 7, 3) := dk_154 0 7 (dk_at dksX12_is_0 8 rfl rfl)
theorem dX12_is_11 : decode cX12_is 11 = .ok (.iconst 1, 1) := dk_4 (dk_at dksX12_is_0 11 rfl rfl)
theorem dX12_is_12 : decode cX12_is 12 = .ok (.goto 4, 3) := dk_167 0 4 (dk_at dksX12_is_0 12 rfl rfl)
theorem dX12_is_15 : decode cX12_is 15 = .ok (.iconst 0, 1) := dk_3 (dk_at dksX12_is_0 15 rfl rfl)
theorem dX12_is_16 : decode cX12_is 16 = .ok (.ireturn, 1) := dk_172 (dk_at dksX12_is_0 16 rfl rfl)
theorem q140 : (Jvm.Cond.initialized "DoughBorder$Not") ∈ lw_all := lw_g (lw_at lw_m1 21 rfl) rfl
theorem q747 : (Jvm.Cond.instantiable "DoughBorder$Not" (1 : Nat)) ∈ lw_all := lw_g (lw_at lw_m3 148 rfl) rfl
theorem q749 : (Jvm.Cond.instanceMethod ({ cls := "DoughBorder$Not", name := "<init>", desc := "(LDoughBorder$Test;)V" } : Jvm.MethodName)) ∈ lw_all := lw_g (lw_at lw_m3 150 rfl) rfl
theorem q750 : (Jvm.Cond.code ({ cls := "DoughBorder$Not", name := "<init>", desc := "(LDoughBorder$Test;)V" } : Jvm.MethodName) prog_8_method_1_code (2 : Nat) (Option.none : Option Jvm.ClassFile.FieldType)) ∈ lw_all := lw_g (lw_at lw_m3 151 rfl) rfl
theorem q751 : (Jvm.Cond.methodLinkNest "DoughBorder$Not" (1 : Nat) ({ cls := "DoughBorder$Test", name := "<init>", desc := "()V" } : Jvm.MethodName) "DoughBorder") ∈ lw_tbl := lw_at lw_m3 152 rfl
theorem q755 : (Jvm.Cond.fieldLink "DoughBorder$Not" (7 : Nat) "DoughBorder$Not" "test" "LDoughBorder$Test;") ∈ lw_all := lw_g (lw_at lw_m3 156 rfl) rfl
theorem q756 : (Jvm.Cond.laysFinal "DoughBorder$Not" "DoughBorder$Not" "test" "LDoughBorder$Test;") ∈ lw_all := lw_g (lw_at lw_m3 157 rfl) rfl
theorem q757 : (Jvm.Cond.soleField "DoughBorder$Not" "test") ∈ lw_all := lw_g (lw_at lw_m3 158 rfl) rfl
theorem q758 : (Jvm.Cond.superclass "DoughBorder$Not" "DoughBorder$Test") ∈ lw_all := lw_g (lw_at lw_m3 159 rfl) rfl
theorem q929 : (Jvm.Cond.instanceMethod ({ cls := "DoughBorder$Not", name := "is", desc := "([J)Z" } : Jvm.MethodName)) ∈ lw_all := lw_g (lw_at lw_m4 90 rfl) rfl
theorem q930 : (Jvm.Cond.code ({ cls := "DoughBorder$Not", name := "is", desc := "([J)Z" } : Jvm.MethodName) prog_8_method_2_code (2 : Nat) (Option.some Jvm.ClassFile.FieldType.boolean)) ∈ lw_all := lw_g (lw_at lw_m4 91 rfl) rfl
theorem q931 : (Jvm.Cond.methodLink "DoughBorder$Not" (13 : Nat) ({ cls := "DoughBorder$Test", name := "is", desc := "([J)Z" } : Jvm.MethodName)) ∈ lw_all := lw_g (lw_at lw_m4 92 rfl) rfl
theorem q933 : (Jvm.Cond.selects "DoughBorder$Not" ({ cls := "DoughBorder$Test", name := "is", desc := "([J)Z" } : Jvm.MethodName) ({ cls := "DoughBorder$Not", name := "is", desc := "([J)Z" } : Jvm.MethodName)) ∈ lw_all := lw_g (lw_at lw_m4 94 rfl) rfl
theorem in_X12 : ∀ w ∈ wsX120, w ∈ lw_all := lw_in wsX120 [756] (by decide +kernel) (by decide +kernel)
/-! DoughBorder$Compare -/
set_option maxRecDepth 100000
def RX13 : String := "DoughBorder$Compare"
def TX13 : u_T := fun k => match k with
  | 0 => ("DoughBorder$Compare", "first", "LDoughBorder$Value;", true)
  | 1 => ("DoughBorder$Compare", "second", "LDoughBorder$Value;", true)
  | _ => ("DoughBorder$Compare", "sign", "I", true)
def tyX13 : Nat → FieldType := fun k => match k with
  | 0 => .object "DoughBorder$Value"
  | 1 => .object "DoughBorder$Value"
  | _ => .int
abbrev wsX130 : List Cond := u_ws RX13 TX13 3
theorem nmX13 : ∀ a, a < 3 → ∀ b, b < 3 → a ≠ b → (TX13 a).2.1 ≠ (TX13 b).2.1 := by decide +kernel
theorem tyX13_ok : ∀ k, k < 3 → parseFieldDescriptor (TX13 k).2.2.1 = some (tyX13 k) := by decide +kernel
abbrev cX13_init : ByteArray := prog_4_method_1_code
def yX13_init : MethodName := ⟨RX13, "<init>", "(LDoughBorder$Value;ILDoughBorder$Value;)V"⟩
def dkwX13_init_0 : List UInt8 := [42, 183, 0, 1, 42, 43, 181, 0, 7, 42, 28, 181, 0, 13, 42, 45, 181, 0, 17, 177]
abbrev dktX13_init_0 : List UInt8 := dkwX13_init_0 ++ []
theorem dksX13_init_0 : cX13_init.data.toList.drop 0 = dktX13_init_0 := by decide +kernel
theorem dX13_init_0 : decode cX13_init 0 = .ok (.aload_n 0, 1) := dk_42 (dk_at dksX13_init_0 0 rfl rfl)
theorem dX13_init_1 : decode cX13_init 1 = .ok (.invokespecial 1, 3) := dk_183 0 1 (dk_at dksX13_init_0 1 rfl rfl)
theorem dX13_init_4 : decode cX13_init 4 = .ok (.aload_n 0, 1) := dk_42 (dk_at dksX13_init_0 4 rfl rfl)
theorem dX13_init_5 : decode cX13_init 5 = .ok (.aload_n 1, 1) := dk_43 (dk_at dksX13_init_0 5 rfl rfl)
theorem dX13_init_6 : decode cX13_init 6 = .ok (.putfield 7, 3) := dk_181 0 7 (dk_at dksX13_init_0 6 rfl rfl)
theorem dX13_init_9 : decode cX13_init 9 = .ok (.aload_n 0, 1) := dk_42 (dk_at dksX13_init_0 9 rfl rfl)
theorem dX13_init_10 : decode cX13_init 10 = .ok (.iload_n 2, 1) := dk_28 (dk_at dksX13_init_0 10 rfl rfl)
theorem dX13_init_11 : decode cX13_init 11 = .ok (.putfield 13, 3) := dk_181 0 13 (dk_at dksX13_init_0 11 rfl rfl)
theorem dX13_init_14 : decode cX13_init 14 = .ok (.aload_n 0, 1) := dk_42 (dk_at dksX13_init_0 14 rfl rfl)
theorem dX13_init_15 : decode cX13_init 15 = .ok (.aload_n 3, 1) := dk_45 (dk_at dksX13_init_0 15 rfl rfl)
theorem dX13_init_16 : decode cX13_init 16 = .ok (.putfield 17, 3) := dk_181 0 17 (dk_at dksX13_init_0 16 rfl rfl)
theorem dX13_init_19 : decode cX13_init 19 = .ok (.return_, 1) := dk_177 (dk_at dksX13_init_0 19 rfl rfl)
abbrev cX13_is : ByteArray := prog_4_method_2_code
def yX13_is : MethodName := ⟨RX13, "is", "([J)Z"⟩
def dkwX13_is_4 : List UInt8 := [167, 0, 4, 3, 172, 32, 22, 4, 148, 158, 0, 7, 4, 167, 0, 4, 3, 172]
abbrev dktX13_is_4 : List UInt8 := dkwX13_is_4 ++ []
def dkwX13_is_3 : List UInt8 := [3, 172, 32, 22, 4, 148, 154, 0, 7, 4, 167, 0, 4, 3, 172, 32, 22, 4, 148, 155, 0, 7, 4]
abbrev dktX13_is_3 : List UInt8 := dkwX13_is_3 ++ dktX13_is_4
def dkwX13_is_2 : List UInt8 := [32, 22, 4, 148, 156, 0, 7, 4, 167, 0, 4, 3, 172, 32, 22, 4, 148, 157, 0, 7, 4, 167, 0, 4]
abbrev dktX13_is_2 : List UInt8 := dkwX13_is_2 ++ dktX13_is_3
def dkwX13_is_1 : List UInt8 := [170, 0, 0, 0, 81, 0, 0, 0, 0, 0, 0, 0, 3, 0, 0, 0, 29, 0, 0, 0, 42, 0, 0, 0, 55, 0, 0, 0, 68]
abbrev dktX13_is_1 : List UInt8 := dkwX13_is_1 ++ dktX13_is_2
def dkwX13_is_0 : List UInt8 := [42, 180, 0, 7, 43, 182, 0, 20, 65, 42, 180, 0, 17, 43, 182, 0, 20, 55, 4, 42, 180, 0, 13]
abbrev dktX13_is_0 : List UInt8 := dkwX13_is_0 ++ dktX13_is_1
theorem dksX13_is_0 : cX13_is.data.toList.drop 0 = dktX13_is_0 := by decide +kernel
theorem dksX13_is_1 : cX13_is.data.toList.drop 23 = dktX13_is_1 := dk_seg dksX13_is_0 23 rfl rfl
theorem dksX13_is_2 : cX13_is.data.toList.drop 52 = dktX13_is_2 := dk_seg dksX13_is_1 29 rfl rfl
theorem dksX13_is_3 : cX13_is.data.toList.drop 76 = dktX13_is_3 := dk_seg dksX13_is_2 24 rfl rfl
theorem dksX13_is_4 : cX13_is.data.toList.drop 99 = dktX13_is_4 := dk_seg dksX13_is_3 23 rfl rfl
theorem dX13_is_0 : decode cX13_is 0 = .ok (.aload_n 0, 1) := dk_42 (dk_at dksX13_is_0 0 rfl rfl)
theorem dX13_is_1 : decode cX13_is 1 = .ok (.getfield 7, 3) := dk_180 0 7 (dk_at dksX13_is_0 1 rfl rfl)
theorem dX13_is_4 : decode cX13_is 4 = .ok (.aload_n 1, 1) := dk_43 (dk_at dksX13_is_0 4 rfl rfl)
theorem dX13_is_5 : decode cX13_is 5 = .ok (.invokevirtual 20, 3) := dk_182 0 20 (dk_at dksX13_is_0 5 rfl rfl)
theorem dX13_is_8 : decode cX13_is 8 = .ok (.lstore_n 2, 1) := dk_65 (dk_at dksX13_is_0 8 rfl rfl)
theorem dX13_is_9 : decode cX13_is 9 = .ok (.aload_n 0, 1) := dk_42 (dk_at dksX13_is_0 9 rfl rfl)
theorem dX13_is_10 : decode cX13_is 10 = .ok (.getfield 17, 3) := dk_180 0 17 (dk_at dksX13_is_0 10 rfl rfl)
theorem dX13_is_13 : decode cX13_is 13 = .ok (.aload_n 1, 1) := dk_43 (dk_at dksX13_is_0 13 rfl rfl)
theorem dX13_is_14 : decode cX13_is 14 = .ok (.invokevirtual 20, 3) := dk_182 0 20 (dk_at dksX13_is_0 14 rfl rfl)
theorem dX13_is_17 : decode cX13_is 17 = .ok (.lstore 4, 2) := dk_55 4 (dk_at dksX13_is_0 17 rfl rfl)
theorem dX13_is_19 : decode cX13_is 19 = .ok (.aload_n 0, 1) := dk_42 (dk_at dksX13_is_0 19 rfl rfl)
theorem dX13_is_20 : decode cX13_is 20 = .ok (.getfield 13, 3) := dk_180 0 13 (dk_at dksX13_is_0 20 rfl rfl)
theorem dX13_is_23 : decode cX13_is 23 = .ok (.tableswitch 81 0 3 #[29, 42, 55, 68], 29) := by decide +kernel
theorem dX13_is_52 : decode cX13_is 52 = .ok (.lload_n 2, 1) := dk_32 (dk_at dksX13_is_2 0 rfl rfl)
theorem dX13_is_53 : decode cX13_is 53 = .ok (.lload 4, 2) := dk_22 4 (dk_at dksX13_is_2 1 rfl rfl)
theorem dX13_is_55 : decode cX13_is 55 = .ok (.lcmp, 1) := dk_148 (dk_at dksX13_is_2 3 rfl rfl)
theorem dX13_is_56 : decode cX13_is 56 = .ok (.ifCond .ge 7, 3) := dk_156 0 7 (dk_at dksX13_is_2 4 rfl rfl)
theorem dX13_is_59 : decode cX13_is 59 = .ok (.iconst 1, 1) := dk_4 (dk_at dksX13_is_2 7 rfl rfl)
theorem dX13_is_60 : decode cX13_is 60 = .ok (.goto 4, 3) := dk_167 0 4 (dk_at dksX13_is_2 8 rfl rfl)
theorem dX13_is_63 : decode cX13_is 63 = .ok (.iconst 0, 1) := dk_3 (dk_at dksX13_is_2 11 rfl rfl)
theorem dX13_is_64 : decode cX13_is 64 = .ok (.ireturn, 1) := dk_172 (dk_at dksX13_is_2 12 rfl rfl)
theorem dX13_is_65 : decode cX13_is 65 = .ok (.lload_n 2, 1) := dk_32 (dk_at dksX13_is_2 13 rfl rfl)
theorem dX13_is_66 : decode cX13_is 66 = .ok (.lload 4, 2) := dk_22 4 (dk_at dksX13_is_2 14 rfl rfl)
theorem dX13_is_68 : decode cX13_is 68 = .ok (.lcmp, 1) := dk_148 (dk_at dksX13_is_2 16 rfl rfl)
theorem dX13_is_69 : decode cX13_is 69 = .ok (.ifCond .gt 7, 3) := dk_157 0 7 (dk_at dksX13_is_2 17 rfl rfl)
theorem dX13_is_72 : decode cX13_is 72 = .ok (.iconst 1, 1) := dk_4 (dk_at dksX13_is_2 20 rfl rfl)
theorem dX13_is_73 : decode cX13_is 73 = .ok (.goto 4, 3) := dk_167 0 4 (dk_at dksX13_is_2 21 rfl rfl)
theorem dX13_is_76 : decode cX13_is 76 = .ok (.iconst 0, 1) := dk_3 (dk_at dksX13_is_3 0 rfl rfl)
theorem dX13_is_77 : decode cX13_is 77 = .ok (.ireturn, 1) := dk_172 (dk_at dksX13_is_3 1 rfl rfl)
theorem dX13_is_78 : decode cX13_is 78 = .ok (.lload_n 2, 1) := dk_32 (dk_at dksX13_is_3 2 rfl rfl)
theorem dX13_is_79 : decode cX13_is 79 = .ok (.lload 4, 2) := dk_22 4 (dk_at dksX13_is_3 3 rfl rfl)
theorem dX13_is_81 : decode cX13_is 81 = .ok (.lcmp, 1) := dk_148 (dk_at dksX13_is_3 5 rfl rfl)
theorem dX13_is_82 : decode cX13_is 82 = .ok (.ifCond .ne 7, 3) := dk_154 0 7 (dk_at dksX13_is_3 6 rfl rfl)
theorem dX13_is_85 : decode cX13_is 85 = .ok (.iconst 1, 1) := dk_4 (dk_at dksX13_is_3 9 rfl rfl)
theorem dX13_is_86 : decode cX13_is 86 = .ok (.goto 4, 3) := dk_167 0 4 (dk_at dksX13_is_3 10 rfl rfl)
theorem dX13_is_89 : decode cX13_is 89 = .ok (.iconst 0, 1) := dk_3 (dk_at dksX13_is_3 13 rfl rfl)
theorem dX13_is_90 : decode cX13_is 90 = .ok (.ireturn, 1) := dk_172 (dk_at dksX13_is_3 14 rfl rfl)
theorem dX13_is_91 : decode cX13_is 91 = .ok (.lload_n 2, 1) := dk_32 (dk_at dksX13_is_3 15 rfl rfl)
theorem dX13_is_92 : decode cX13_is 92 = .ok (.lload 4, 2) := dk_22 4 (dk_at dksX13_is_3 16 rfl rfl)
theorem dX13_is_94 : decode cX13_is 94 = .ok (.lcmp, 1) := dk_148 (dk_at dksX13_is_3 18 rfl rfl)
theorem dX13_is_95 : decode cX13_is 95 = .ok (.ifCond .lt 7, 3) := dk_155 0 7 (dk_at dksX13_is_3 19 rfl rfl)
theorem dX13_is_98 : decode cX13_is 98 = .ok (.iconst 1, 1) := dk_4 (dk_at dksX13_is_3 22 rfl rfl)
theorem dX13_is_99 : decode cX13_is 99 = .ok (.goto 4, 3) := dk_167 0 4 (dk_at dksX13_is_4 0 rfl rfl)
theorem dX13_is_102 : decode cX13_is 102 = .ok (.iconst 0, 1) := dk_3 (dk_at dksX13_is_4 3 rfl rfl)
theorem dX13_is_103 : decode cX13_is 103 = .ok (.ireturn, 1) := dk_172 (dk_at dksX13_is_4 4 rfl rfl)
theorem dX13_is_104 : decode cX13_is 104 = .ok (.lload_n 2, 1) := dk_32 (dk_at dksX13_is_4 5 rfl rfl)
theorem dX13_is_105 : decode cX13_is 105 = .ok (.lload 4, 2) := dk_22 4 (dk_at dksX13_is_4 6 rfl rfl)
theorem dX13_is_107 : decode cX13_is 107 = .ok (.lcmp, 1) := dk_148 (dk_at dksX13_is_4 8 rfl rfl)
theorem dX13_is_108 : decode cX13_is 108 = .ok (.ifCond .le 7, 3) := dk_158 0 7 (dk_at dksX13_is_4 9 rfl rfl)
theorem dX13_is_111 : decode cX13_is 111 = .ok (.iconst 1, 1) := dk_4 (dk_at dksX13_is_4 12 rfl rfl)
theorem dX13_is_112 : decode cX13_is 112 = .ok (.goto 4, 3) := dk_167 0 4 (dk_at dksX13_is_4 13 rfl rfl)
theorem dX13_is_115 : decode cX13_is 115 = .ok (.iconst 0, 1) := dk_3 (dk_at dksX13_is_4 16 rfl rfl)
theorem dX13_is_116 : decode cX13_is 116 = .ok (.ireturn, 1) := dk_172 (dk_at dksX13_is_4 17 rfl rfl)
theorem q141 : (Jvm.Cond.initialized "DoughBorder$Compare") ∈ lw_all := lw_g (lw_at lw_m1 22 rfl) rfl
theorem q764 : (Jvm.Cond.instantiable "DoughBorder$Compare" (3 : Nat)) ∈ lw_all := lw_g (lw_at lw_m3 165 rfl) rfl
theorem q766 : (Jvm.Cond.instanceMethod ({ cls := "DoughBorder$Compare", name := "<init>", desc := "(LDoughBorder$Value;ILDoughBorder$Value;)V" } : Jvm.MethodName)) ∈ lw_all := lw_g (lw_at lw_m3 167 rfl) rfl
theorem q767 : (Jvm.Cond.code ({ cls := "DoughBorder$Compare", name := "<init>", desc := "(LDoughBorder$Value;ILDoughBorder$Value;)V" } : Jvm.MethodName) prog_4_method_1_code (4 : Nat) (Option.none : Option Jvm.ClassFile.FieldType)) ∈ lw_all := lw_g (lw_at lw_m3 168 rfl) rfl
theorem q768 : (Jvm.Cond.methodLinkNest "DoughBorder$Compare" (1 : Nat) ({ cls := "DoughBorder$Test", name := "<init>", desc := "()V" } : Jvm.MethodName) "DoughBorder") ∈ lw_tbl := lw_at lw_m3 169 rfl
theorem q769 : (Jvm.Cond.fieldLink "DoughBorder$Compare" (7 : Nat) "DoughBorder$Compare" "first" "LDoughBorder$Value;") ∈ lw_all := lw_g (lw_at lw_m3 170 rfl) rfl
theorem q770 : (Jvm.Cond.fieldLink "DoughBorder$Compare" (17 : Nat) "DoughBorder$Compare" "second" "LDoughBorder$Value;") ∈ lw_all := lw_g (lw_at lw_m3 171 rfl) rfl
theorem q771 : (Jvm.Cond.fieldLink "DoughBorder$Compare" (13 : Nat) "DoughBorder$Compare" "sign" "I") ∈ lw_all := lw_g (lw_at lw_m3 172 rfl) rfl
theorem q772 : (Jvm.Cond.laysFinal "DoughBorder$Compare" "DoughBorder$Compare" "first" "LDoughBorder$Value;") ∈ lw_all := lw_g (lw_at lw_m3 173 rfl) rfl
theorem q773 : (Jvm.Cond.soleField "DoughBorder$Compare" "first") ∈ lw_all := lw_g (lw_at lw_m3 174 rfl) rfl
theorem q774 : (Jvm.Cond.laysFinal "DoughBorder$Compare" "DoughBorder$Compare" "second" "LDoughBorder$Value;") ∈ lw_all := lw_g (lw_at lw_m3 175 rfl) rfl
theorem q775 : (Jvm.Cond.soleField "DoughBorder$Compare" "second") ∈ lw_all := lw_g (lw_at lw_m3 176 rfl) rfl
theorem q776 : (Jvm.Cond.laysFinal "DoughBorder$Compare" "DoughBorder$Compare" "sign" "I") ∈ lw_all := lw_g (lw_at lw_m3 177 rfl) rfl
theorem q777 : (Jvm.Cond.soleField "DoughBorder$Compare" "sign") ∈ lw_all := lw_g (lw_at lw_m3 178 rfl) rfl
theorem q778 : (Jvm.Cond.superclass "DoughBorder$Compare" "DoughBorder$Test") ∈ lw_all := lw_g (lw_at lw_m3 179 rfl) rfl
theorem q914 : (Jvm.Cond.instanceMethod ({ cls := "DoughBorder$Compare", name := "is", desc := "([J)Z" } : Jvm.MethodName)) ∈ lw_all := lw_g (lw_at lw_m4 75 rfl) rfl
theorem q915 : (Jvm.Cond.code ({ cls := "DoughBorder$Compare", name := "is", desc := "([J)Z" } : Jvm.MethodName) prog_4_method_2_code (6 : Nat) (Option.some Jvm.ClassFile.FieldType.boolean)) ∈ lw_all := lw_g (lw_at lw_m4 76 rfl) rfl
theorem q916 : (Jvm.Cond.methodLink "DoughBorder$Compare" (20 : Nat) ({ cls := "DoughBorder$Value", name := "of", desc := "([J)J" } : Jvm.MethodName)) ∈ lw_all := lw_g (lw_at lw_m4 77 rfl) rfl
theorem q932 : (Jvm.Cond.selects "DoughBorder$Compare" ({ cls := "DoughBorder$Test", name := "is", desc := "([J)Z" } : Jvm.MethodName) ({ cls := "DoughBorder$Compare", name := "is", desc := "([J)Z" } : Jvm.MethodName)) ∈ lw_all := lw_g (lw_at lw_m4 93 rfl) rfl
theorem in_X13 : ∀ w ∈ wsX130, w ∈ lw_all := lw_in wsX130 [772, 774, 776] (by decide +kernel) (by decide +kernel)
/-! DoughBorder$Both -/
set_option maxRecDepth 100000
def RX14 : String := "DoughBorder$Both"
def TX14 : u_T := fun k => match k with
  | 0 => ("DoughBorder$Both", "first", "LDoughBorder$Test;", true)
  | 1 => ("DoughBorder$Both", "second", "LDoughBorder$Test;", true)
  | _ => ("DoughBorder$Both", "isAnd", "Z", true)
def tyX14 : Nat → FieldType := fun k => match k with
  | 0 => .object "DoughBorder$Test"
  | 1 => .object "DoughBorder$Test"
  | _ => .boolean
abbrev wsX140 : List Cond := u_ws RX14 TX14 3
theorem nmX14 : ∀ a, a < 3 → ∀ b, b < 3 → a ≠ b → (TX14 a).2.1 ≠ (TX14 b).2.1 := by decide +kernel
theorem tyX14_ok : ∀ k, k < 3 → parseFieldDescriptor (TX14 k).2.2.1 = some (tyX14 k) := by decide +kernel
abbrev cX14_init : ByteArray := prog_2_method_1_code
def yX14_init : MethodName := ⟨RX14, "<init>", "(LDoughBorder$Test;ZLDoughBorder$Test;)V"⟩
def dkwX14_init_0 : List UInt8 := [42, 183, 0, 1, 42, 43, 181, 0, 7, 42, 28, 181, 0, 13, 42, 45, 181, 0, 17, 177]
abbrev dktX14_init_0 : List UInt8 := dkwX14_init_0 ++ []
theorem dksX14_init_0 : cX14_init.data.toList.drop 0 = dktX14_init_0 := by decide +kernel
theorem dX14_init_0 : decode cX14_init 0 = .ok (.aload_n 0, 1) := dk_42 (dk_at dksX14_init_0 0 rfl rfl)
theorem dX14_init_1 : decode cX14_init 1 = .ok (.invokespecial 1, 3) := dk_183 0 1 (dk_at dksX14_init_0 1 rfl rfl)
theorem dX14_init_4 : decode cX14_init 4 = .ok (.aload_n 0, 1) := dk_42 (dk_at dksX14_init_0 4 rfl rfl)
theorem dX14_init_5 : decode cX14_init 5 = .ok (.aload_n 1, 1) := dk_43 (dk_at dksX14_init_0 5 rfl rfl)
theorem dX14_init_6 : decode cX14_init 6 = .ok (.putfield 7, 3) := dk_181 0 7 (dk_at dksX14_init_0 6 rfl rfl)
theorem dX14_init_9 : decode cX14_init 9 = .ok (.aload_n 0, 1) := dk_42 (dk_at dksX14_init_0 9 rfl rfl)
theorem dX14_init_10 : decode cX14_init 10 = .ok (.iload_n 2, 1) := dk_28 (dk_at dksX14_init_0 10 rfl rfl)
theorem dX14_init_11 : decode cX14_init 11 = .ok (.putfield 13, 3) := dk_181 0 13 (dk_at dksX14_init_0 11 rfl rfl)
theorem dX14_init_14 : decode cX14_init 14 = .ok (.aload_n 0, 1) := dk_42 (dk_at dksX14_init_0 14 rfl rfl)
theorem dX14_init_15 : decode cX14_init 15 = .ok (.aload_n 3, 1) := dk_45 (dk_at dksX14_init_0 15 rfl rfl)
theorem dX14_init_16 : decode cX14_init 16 = .ok (.putfield 17, 3) := dk_181 0 17 (dk_at dksX14_init_0 16 rfl rfl)
theorem dX14_init_19 : decode cX14_init 19 = .ok (.return_, 1) := dk_177 (dk_at dksX14_init_0 19 rfl rfl)
abbrev cX14_is : ByteArray := prog_2_method_2_code
def yX14_is : MethodName := ⟨RX14, "is", "([J)Z"⟩
def dkwX14_is_2 : List UInt8 := [154, 0, 14, 42, 180, 0, 17, 43, 182, 0, 20, 153, 0, 7, 4, 167, 0, 4, 3, 172]
abbrev dktX14_is_2 : List UInt8 := dkwX14_is_2 ++ []
def dkwX14_is_1 : List UInt8 := [182, 0, 20, 153, 0, 7, 4, 167, 0, 34, 3, 167, 0, 30, 42, 180, 0, 7, 43, 182, 0, 20]
abbrev dktX14_is_1 : List UInt8 := dkwX14_is_1 ++ dktX14_is_2
def dkwX14_is_0 : List UInt8 := [42, 180, 0, 13, 153, 0, 33, 42, 180, 0, 7, 43, 182, 0, 20, 153, 0, 18, 42, 180, 0, 17, 43]
abbrev dktX14_is_0 : List UInt8 := dkwX14_is_0 ++ dktX14_is_1
theorem dksX14_is_0 : cX14_is.data.toList.drop 0 = dktX14_is_0 := by decide +kernel
theorem dksX14_is_1 : cX14_is.data.toList.drop 23 = dktX14_is_1 := dk_seg dksX14_is_0 23 rfl rfl
theorem dksX14_is_2 : cX14_is.data.toList.drop 45 = dktX14_is_2 := dk_seg dksX14_is_1 22 rfl rfl
theorem dX14_is_0 : decode cX14_is 0 = .ok (.aload_n 0, 1) := dk_42 (dk_at dksX14_is_0 0 rfl rfl)
theorem dX14_is_1 : decode cX14_is 1 = .ok (.getfield 13, 3) := dk_180 0 13 (dk_at dksX14_is_0 1 rfl rfl)
theorem dX14_is_4 : decode cX14_is 4 = .ok (.ifCond .eq 33, 3) := dk_153 0 33 (dk_at dksX14_is_0 4 rfl rfl)
theorem dX14_is_7 : decode cX14_is 7 = .ok (.aload_n 0, 1) := dk_42 (dk_at dksX14_is_0 7 rfl rfl)
theorem dX14_is_8 : decode cX14_is 8 = .ok (.getfield 7, 3) := dk_180 0 7 (dk_at dksX14_is_0 8 rfl rfl)
theorem dX14_is_11 : decode cX14_is 11 = .ok (.aload_n 1, 1) := dk_43 (dk_at dksX14_is_0 11 rfl rfl)
theorem dX14_is_12 : decode cX14_is 12 = .ok (.invokevirtual 20, 3) := dk_182 0 20 (dk_at dksX14_is_0 12 rfl rfl)
theorem dX14_is_15 : decode cX14_is 15 = .ok (.ifCond .eq 18, 3) := dk_153 0 18 (dk_at dksX14_is_0 15 rfl rfl)
theorem dX14_is_18 : decode cX14_is 18 = .ok (.aload_n 0, 1) := dk_42 (dk_at dksX14_is_0 18 rfl rfl)
theorem dX14_is_19 : decode cX14_is 19 = .ok (.getfield 17, 3) := dk_180 0 17 (dk_at dksX14_is_0 19 rfl rfl)
theorem dX14_is_22 : decode cX14_is 22 = .ok (.aload_n 1, 1) := dk_43 (dk_at dksX14_is_0 22 rfl rfl)
theorem dX14_is_23 : decode cX14_is 23 = .ok (.invokevirtual 20, 3) := dk_182 0 20 (dk_at dksX14_is_1 0 rfl rfl)
theorem dX14_is_26 : decode cX14_is 26 = .ok (.ifCond .eq 7, 3) := dk_153 0 7 (dk_at dksX14_is_1 3 rfl rfl)
theorem dX14_is_29 : decode cX14_is 29 = .ok (.iconst 1, 1) := dk_4 (dk_at dksX14_is_1 6 rfl rfl)
theorem dX14_is_30 : decode cX14_is 30 = .ok (.goto 34, 3) := dk_167 0 34 (dk_at dksX14_is_1 7 rfl rfl)
theorem dX14_is_33 : decode cX14_is 33 = .ok (.iconst 0, 1) := dk_3 (dk_at dksX14_is_1 10 rfl rfl)
theorem dX14_is_34 : decode cX14_is 34 = .ok (.goto 30, 3) := dk_167 0 30 (dk_at dksX14_is_1 11 rfl rfl)
theorem dX14_is_37 : decode cX14_is 37 = .ok (.aload_n 0, 1) := dk_42 (dk_at dksX14_is_1 14 rfl rfl)
theorem dX14_is_38 : decode cX14_is 38 = .ok (.getfield 7, 3) := dk_180 0 7 (dk_at dksX14_is_1 15 rfl rfl)
theorem dX14_is_41 : decode cX14_is 41 = .ok (.aload_n 1, 1) := dk_43 (dk_at dksX14_is_1 18 rfl rfl)
theorem dX14_is_42 : decode cX14_is 42 = .ok (.invokevirtual 20, 3) := dk_182 0 20 (dk_at dksX14_is_1 19 rfl rfl)
theorem dX14_is_45 : decode cX14_is 45 = .ok (.ifCond .ne 14, 3) := dk_154 0 14 (dk_at dksX14_is_2 0 rfl rfl)
theorem dX14_is_48 : decode cX14_is 48 = .ok (.aload_n 0, 1) := dk_42 (dk_at dksX14_is_2 3 rfl rfl)
theorem dX14_is_49 : decode cX14_is 49 = .ok (.getfield 17, 3) := dk_180 0 17 (dk_at dksX14_is_2 4 rfl rfl)
theorem dX14_is_52 : decode cX14_is 52 = .ok (.aload_n 1, 1) := dk_43 (dk_at dksX14_is_2 7 rfl rfl)
theorem dX14_is_53 : decode cX14_is 53 = .ok (.invokevirtual 20, 3) := dk_182 0 20 (dk_at dksX14_is_2 8 rfl rfl)
theorem dX14_is_56 : decode cX14_is 56 = .ok (.ifCond .eq 7, 3) := dk_153 0 7 (dk_at dksX14_is_2 11 rfl rfl)
theorem dX14_is_59 : decode cX14_is 59 = .ok (.iconst 1, 1) := dk_4 (dk_at dksX14_is_2 14 rfl rfl)
theorem dX14_is_60 : decode cX14_is 60 = .ok (.goto 4, 3) := dk_167 0 4 (dk_at dksX14_is_2 15 rfl rfl)
theorem dX14_is_63 : decode cX14_is 63 = .ok (.iconst 0, 1) := dk_3 (dk_at dksX14_is_2 18 rfl rfl)
theorem dX14_is_64 : decode cX14_is 64 = .ok (.ireturn, 1) := dk_172 (dk_at dksX14_is_2 19 rfl rfl)
theorem q142 : (Jvm.Cond.initialized "DoughBorder$Both") ∈ lw_all := lw_g (lw_at lw_m1 23 rfl) rfl
theorem q781 : (Jvm.Cond.instantiable "DoughBorder$Both" (3 : Nat)) ∈ lw_all := lw_g (lw_at lw_m3 182 rfl) rfl
theorem q783 : (Jvm.Cond.instanceMethod ({ cls := "DoughBorder$Both", name := "<init>", desc := "(LDoughBorder$Test;ZLDoughBorder$Test;)V" } : Jvm.MethodName)) ∈ lw_all := lw_g (lw_at lw_m3 184 rfl) rfl
theorem q784 : (Jvm.Cond.code ({ cls := "DoughBorder$Both", name := "<init>", desc := "(LDoughBorder$Test;ZLDoughBorder$Test;)V" } : Jvm.MethodName) prog_2_method_1_code (4 : Nat) (Option.none : Option Jvm.ClassFile.FieldType)) ∈ lw_all := lw_g (lw_at lw_m3 185 rfl) rfl
theorem q785 : (Jvm.Cond.methodLinkNest "DoughBorder$Both" (1 : Nat) ({ cls := "DoughBorder$Test", name := "<init>", desc := "()V" } : Jvm.MethodName) "DoughBorder") ∈ lw_tbl := lw_at lw_m3 186 rfl
theorem q786 : (Jvm.Cond.fieldLink "DoughBorder$Both" (7 : Nat) "DoughBorder$Both" "first" "LDoughBorder$Test;") ∈ lw_all := lw_g (lw_at lw_m3 187 rfl) rfl
theorem q787 : (Jvm.Cond.fieldLink "DoughBorder$Both" (17 : Nat) "DoughBorder$Both" "second" "LDoughBorder$Test;") ∈ lw_all := lw_g (lw_at lw_m3 188 rfl) rfl
theorem q788 : (Jvm.Cond.fieldLink "DoughBorder$Both" (13 : Nat) "DoughBorder$Both" "isAnd" "Z") ∈ lw_all := lw_g (lw_at lw_m3 189 rfl) rfl
theorem q789 : (Jvm.Cond.laysFinal "DoughBorder$Both" "DoughBorder$Both" "first" "LDoughBorder$Test;") ∈ lw_all := lw_g (lw_at lw_m3 190 rfl) rfl
theorem q790 : (Jvm.Cond.soleField "DoughBorder$Both" "first") ∈ lw_all := lw_g (lw_at lw_m3 191 rfl) rfl
theorem q791 : (Jvm.Cond.laysFinal "DoughBorder$Both" "DoughBorder$Both" "second" "LDoughBorder$Test;") ∈ lw_all := lw_g (lw_at lw_m3 192 rfl) rfl
theorem q792 : (Jvm.Cond.soleField "DoughBorder$Both" "second") ∈ lw_all := lw_g (lw_at lw_m3 193 rfl) rfl
theorem q793 : (Jvm.Cond.laysFinal "DoughBorder$Both" "DoughBorder$Both" "isAnd" "Z") ∈ lw_all := lw_g (lw_at lw_m3 194 rfl) rfl
theorem q794 : (Jvm.Cond.soleField "DoughBorder$Both" "isAnd") ∈ lw_all := lw_g (lw_at lw_m3 195 rfl) rfl
theorem q795 : (Jvm.Cond.superclass "DoughBorder$Both" "DoughBorder$Test") ∈ lw_all := lw_g (lw_at lw_m3 196 rfl) rfl
theorem q910 : (Jvm.Cond.selects "DoughBorder$Both" ({ cls := "DoughBorder$Test", name := "is", desc := "([J)Z" } : Jvm.MethodName) ({ cls := "DoughBorder$Both", name := "is", desc := "([J)Z" } : Jvm.MethodName)) ∈ lw_all := lw_g (lw_at lw_m4 71 rfl) rfl
theorem q911 : (Jvm.Cond.instanceMethod ({ cls := "DoughBorder$Both", name := "is", desc := "([J)Z" } : Jvm.MethodName)) ∈ lw_all := lw_g (lw_at lw_m4 72 rfl) rfl
theorem q912 : (Jvm.Cond.code ({ cls := "DoughBorder$Both", name := "is", desc := "([J)Z" } : Jvm.MethodName) prog_2_method_2_code (2 : Nat) (Option.some Jvm.ClassFile.FieldType.boolean)) ∈ lw_all := lw_g (lw_at lw_m4 73 rfl) rfl
theorem q913 : (Jvm.Cond.methodLink "DoughBorder$Both" (20 : Nat) ({ cls := "DoughBorder$Test", name := "is", desc := "([J)Z" } : Jvm.MethodName)) ∈ lw_all := lw_g (lw_at lw_m4 74 rfl) rfl
theorem in_X14 : ∀ w ∈ wsX140, w ∈ lw_all := lw_in wsX140 [789, 791, 793] (by decide +kernel) (by decide +kernel)
/-! DoughBorder$Image -/
set_option maxRecDepth 100000
def RX15 : String := "DoughBorder$Image"
def TX15 : u_T := fun k => match k with
  | 0 => ("DoughBorder$Image", "dough", "LDoughBorder$Dough;", true)
  | 1 => ("DoughBorder$Image", "isTold", "Z", false)
  | 2 => ("DoughBorder$Image", "x", "I", false)
  | _ => ("DoughBorder$Image", "inForce", "I", false)
def tyX15 : Nat → FieldType := fun k => match k with
  | 0 => .object "DoughBorder$Dough"
  | 1 => .boolean
  | 2 => .int
  | _ => .int
abbrev wsX150 : List Cond := u_ws RX15 TX15 4
theorem nmX15 : ∀ a, a < 4 → ∀ b, b < 4 → a ≠ b → (TX15 a).2.1 ≠ (TX15 b).2.1 := by decide +kernel
theorem tyX15_ok : ∀ k, k < 4 → parseFieldDescriptor (TX15 k).2.2.1 = some (tyX15 k) := by decide +kernel
abbrev cX15_init : ByteArray := prog_7_method_1_code
def yX15_init : MethodName := ⟨RX15, "<init>", "()V"⟩
def dkwX15_init_0 : List UInt8 := [42, 183, 0, 1, 42, 187, 0, 7, 89, 183, 0, 9, 181, 0, 10, 177]
abbrev dktX15_init_0 : List UInt8 := dkwX15_init_0 ++ []
theorem dksX15_init_0 : cX15_init.data.toList.drop 0 = dktX15_init_0 := by decide +kernel
theorem dX15_init_0 : decode cX15_init 0 = .ok (.aload_n 0, 1) := dk_42 (dk_at dksX15_init_0 0 rfl rfl)
theorem dX15_init_1 : decode cX15_init 1 = .ok (.invokespecial 1, 3) := dk_183 0 1 (dk_at dksX15_init_0 1 rfl rfl)
theorem dX15_init_4 : decode cX15_init 4 = .ok (.aload_n 0, 1) := dk_42 (dk_at dksX15_init_0 4 rfl rfl)
theorem dX15_init_5 : decode cX15_init 5 = .ok (.new 7, 3) := dk_187 0 7 (dk_at dksX15_init_0 5 rfl rfl)
theorem dX15_init_8 : decode cX15_init 8 = .ok (.dup, 1) := dk_89 (dk_at dksX15_init_0 8 rfl rfl)
theorem dX15_init_9 : decode cX15_init 9 = .ok (.invokespecial 9, 3) := dk_183 0 9 (dk_at dksX15_init_0 9 rfl rfl)
theorem dX15_init_12 : decode cX15_init 12 = .ok (.putfield 10, 3) := dk_181 0 10 (dk_at dksX15_init_0 12 rfl rfl)
theorem dX15_init_15 : decode cX15_init 15 = .ok (.return_, 1) := dk_177 (dk_at dksX15_init_0 15 rfl rfl)
theorem q145 : (Jvm.Cond.initialized "DoughBorder$Image") ∈ lw_all := lw_g (lw_at lw_m1 26 rfl) rfl
theorem q1118 : (Jvm.Cond.instantiable "DoughBorder$Image" (4 : Nat)) ∈ lw_all := lw_g (lw_at lw_m5 39 rfl) rfl
theorem q1120 : (Jvm.Cond.instanceMethod ({ cls := "DoughBorder$Image", name := "<init>", desc := "()V" } : Jvm.MethodName)) ∈ lw_all := lw_g (lw_at lw_m5 41 rfl) rfl
theorem q1121 : (Jvm.Cond.code ({ cls := "DoughBorder$Image", name := "<init>", desc := "()V" } : Jvm.MethodName) prog_7_method_1_code (1 : Nat) (Option.none : Option Jvm.ClassFile.FieldType)) ∈ lw_all := lw_g (lw_at lw_m5 42 rfl) rfl
theorem q1122 : (Jvm.Cond.methodLink "DoughBorder$Image" (1 : Nat) ({ cls := "java/lang/Object", name := "<init>", desc := "()V" } : Jvm.MethodName)) ∈ lw_all := lw_g (lw_at lw_m5 43 rfl) rfl
theorem q1123 : (Jvm.Cond.classLink "DoughBorder$Image" (7 : Nat) "DoughBorder$Dough") ∈ lw_all := lw_g (lw_at lw_m5 44 rfl) rfl
theorem q1124 : (Jvm.Cond.methodLinkNest "DoughBorder$Image" (9 : Nat) ({ cls := "DoughBorder$Dough", name := "<init>", desc := "()V" } : Jvm.MethodName) "DoughBorder") ∈ lw_tbl := lw_at lw_m5 45 rfl
theorem q1125 : (Jvm.Cond.fieldLink "DoughBorder$Image" (10 : Nat) "DoughBorder$Image" "dough" "LDoughBorder$Dough;") ∈ lw_all := lw_g (lw_at lw_m5 46 rfl) rfl
theorem q1130 : (Jvm.Cond.laysFinal "DoughBorder$Image" "DoughBorder$Image" "dough" "LDoughBorder$Dough;") ∈ lw_all := lw_g (lw_at lw_m5 51 rfl) rfl
theorem q1131 : (Jvm.Cond.soleField "DoughBorder$Image" "dough") ∈ lw_all := lw_g (lw_at lw_m5 52 rfl) rfl
theorem q1132 : (Jvm.Cond.lays "DoughBorder$Image" "DoughBorder$Image" "isTold" "Z") ∈ lw_all := lw_g (lw_at lw_m5 53 rfl) rfl
theorem q1133 : (Jvm.Cond.soleField "DoughBorder$Image" "isTold") ∈ lw_all := lw_g (lw_at lw_m5 54 rfl) rfl
theorem q1134 : (Jvm.Cond.lays "DoughBorder$Image" "DoughBorder$Image" "x" "I") ∈ lw_all := lw_g (lw_at lw_m5 55 rfl) rfl
theorem q1135 : (Jvm.Cond.soleField "DoughBorder$Image" "x") ∈ lw_all := lw_g (lw_at lw_m5 56 rfl) rfl
theorem q1136 : (Jvm.Cond.lays "DoughBorder$Image" "DoughBorder$Image" "inForce" "I") ∈ lw_all := lw_g (lw_at lw_m5 57 rfl) rfl
theorem q1137 : (Jvm.Cond.soleField "DoughBorder$Image" "inForce") ∈ lw_all := lw_g (lw_at lw_m5 58 rfl) rfl
theorem q1138 : (Jvm.Cond.superclass "DoughBorder$Image" "java/lang/Object") ∈ lw_all := lw_g (lw_at lw_m5 59 rfl) rfl
theorem in_X15 : ∀ w ∈ wsX150, w ∈ lw_all := lw_in wsX150 [1130, 1132, 1134, 1136] (by decide +kernel) (by decide +kernel)
