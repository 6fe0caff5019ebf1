-- ===== PART A: goes FIRST, ahead of the names: the tables' words, and 'selects' of the private methods out of them =====
/-- a private method of a class that the tables say can be made, by its rows of tables_1 -/
def lw_okq (q : MethodName × Nat) : Prop := (q.1.cls ≠ "java/lang/invoke/MethodHandle" ∧ q.1.cls ≠ "java/lang/invoke/VarHandle") ∧ Cond.instantiable q.1.cls q.2 ∈ tables_1 ∧ Cond.privateMethod q.1 ∈ tables_1 ∧ Cond.instanceMethod q.1 ∈ tables_1
set_option maxRecDepth 100000
theorem lw_t1 {w : Cond} (h : w ∈ tables_1_1) : w ∈ tables_1 := List.mem_append_left _ h
theorem lw_t2 {w : Cond} (h : w ∈ tables_1_2) : w ∈ tables_1 := List.mem_append_right _ (List.mem_append_left _ h)
theorem lw_t3 {w : Cond} (h : w ∈ tables_1_3) : w ∈ tables_1 := List.mem_append_right _ (List.mem_append_right _ (List.mem_append_left _ h))
theorem lw_t4 {w : Cond} (h : w ∈ tables_1_4) : w ∈ tables_1 := List.mem_append_right _ (List.mem_append_right _ (List.mem_append_right _ (List.mem_append_left _ h)))
theorem lw_t5 {w : Cond} (h : w ∈ tables_1_5) : w ∈ tables_1 := List.mem_append_right _ (List.mem_append_right _ (List.mem_append_right _ (List.mem_append_right _ (List.mem_append_left _ h))))
theorem lw_t6 {w : Cond} (h : w ∈ tables_1_6) : w ∈ tables_1 := List.mem_append_right _ (List.mem_append_right _ (List.mem_append_right _ (List.mem_append_right _ (List.mem_append_right _ (List.mem_append_left _ h)))))
theorem lw_t7 {w : Cond} (h : w ∈ tables_1_7) : w ∈ tables_1 := List.mem_append_right _ (List.mem_append_right _ (List.mem_append_right _ (List.mem_append_right _ (List.mem_append_right _ (List.mem_append_right _ (List.mem_append_left _ h))))))
theorem lw_t8 {w : Cond} (h : w ∈ tables_1_8) : w ∈ tables_1 := List.mem_append_right _ (List.mem_append_right _ (List.mem_append_right _ (List.mem_append_right _ (List.mem_append_right _ (List.mem_append_right _ (List.mem_append_right _ h))))))
theorem lw_p0 : lw_okq (⟨"java/lang/Throwable", "fillInStackTrace", "(I)Ljava/lang/Throwable;"⟩, 6) := ⟨⟨by decide +kernel, by decide +kernel⟩, lw_t1 (List.mem_of_getElem? (i := 189) rfl), lw_t1 (List.mem_of_getElem? (i := 187) rfl), lw_t1 (List.mem_of_getElem? (i := 188) rfl)⟩
theorem lw_p1 : lw_okq (⟨"DoughBorder", "four", "(I)V"⟩, 25) := ⟨⟨by decide +kernel, by decide +kernel⟩, lw_t1 (List.mem_of_getElem? (i := 28) rfl), lw_t2 (List.mem_of_getElem? (i := 98) rfl), lw_t2 (List.mem_of_getElem? (i := 99) rfl)⟩
theorem lw_p2 : lw_okq (⟨"DoughBorder$Text", "see", "()I"⟩, 7) := ⟨⟨by decide +kernel, by decide +kernel⟩, lw_t2 (List.mem_of_getElem? (i := 110) rfl), lw_t2 (List.mem_of_getElem? (i := 153) rfl), lw_t2 (List.mem_of_getElem? (i := 154) rfl)⟩
theorem lw_p3 : lw_okq (⟨"DoughBorder$Text", "oneOf", "([Ljava/lang/String;)I"⟩, 7) := ⟨⟨by decide +kernel, by decide +kernel⟩, lw_t2 (List.mem_of_getElem? (i := 110) rfl), lw_t2 (List.mem_of_getElem? (i := 157) rfl), lw_t2 (List.mem_of_getElem? (i := 158) rfl)⟩
theorem lw_p4 : lw_okq (⟨"DoughBorder$Text", "isWord", "(Ljava/lang/String;)Z"⟩, 7) := ⟨⟨by decide +kernel, by decide +kernel⟩, lw_t2 (List.mem_of_getElem? (i := 110) rfl), lw_t2 (List.mem_of_getElem? (i := 161) rfl), lw_t2 (List.mem_of_getElem? (i := 162) rfl)⟩
theorem lw_p5 : lw_okq (⟨"DoughBorder$Text", "letters", "()I"⟩, 7) := ⟨⟨by decide +kernel, by decide +kernel⟩, lw_t2 (List.mem_of_getElem? (i := 110) rfl), lw_t2 (List.mem_of_getElem? (i := 165) rfl), lw_t2 (List.mem_of_getElem? (i := 166) rfl)⟩
theorem lw_p6 : lw_okq (⟨"DoughBorder$Text", "demand", "(ZII)V"⟩, 7) := ⟨⟨by decide +kernel, by decide +kernel⟩, lw_t2 (List.mem_of_getElem? (i := 110) rfl), lw_t2 (List.mem_of_getElem? (i := 217) rfl), lw_t2 (List.mem_of_getElem? (i := 218) rfl)⟩
theorem lw_p7 : lw_okq (⟨"DoughBorder$Text", "canBe", "(I)Z"⟩, 7) := ⟨⟨by decide +kernel, by decide +kernel⟩, lw_t2 (List.mem_of_getElem? (i := 110) rfl), lw_t2 (List.mem_of_getElem? (i := 221) rfl), lw_t2 (List.mem_of_getElem? (i := 222) rfl)⟩
theorem lw_p8 : lw_okq (⟨"DoughBorder$Text", "line", "(I)V"⟩, 7) := ⟨⟨by decide +kernel, by decide +kernel⟩, lw_t2 (List.mem_of_getElem? (i := 110) rfl), lw_t2 (List.mem_of_getElem? (i := 225) rfl), lw_t2 (List.mem_of_getElem? (i := 226) rfl)⟩
theorem lw_p9 : lw_okq (⟨"DoughBorder$Text", "stripHere", "()V"⟩, 7) := ⟨⟨by decide +kernel, by decide +kernel⟩, lw_t2 (List.mem_of_getElem? (i := 110) rfl), lw_t2 (List.mem_of_getElem? (i := 229) rfl), lw_t2 (List.mem_of_getElem? (i := 230) rfl)⟩
theorem lw_p10 : lw_okq (⟨"DoughBorder$Text", "number", "(II)I"⟩, 7) := ⟨⟨by decide +kernel, by decide +kernel⟩, lw_t2 (List.mem_of_getElem? (i := 110) rfl), lw_t2 (List.mem_of_getElem? (i := 233) rfl), lw_t2 (List.mem_of_getElem? (i := 234) rfl)⟩
theorem lw_p11 : lw_okq (⟨"DoughBorder$Text", "isDigit", "(I)Z"⟩, 7) := ⟨⟨by decide +kernel, by decide +kernel⟩, lw_t2 (List.mem_of_getElem? (i := 110) rfl), lw_t2 (List.mem_of_getElem? (i := 237) rfl), lw_t2 (List.mem_of_getElem? (i := 238) rfl)⟩
theorem lw_p12 : lw_okq (⟨"DoughBorder$Text", "mileHere", "()I"⟩, 7) := ⟨⟨by decide +kernel, by decide +kernel⟩, lw_t2 (List.mem_of_getElem? (i := 110) rfl), lw_t3 (List.mem_of_getElem? (i := 4) rfl), lw_t3 (List.mem_of_getElem? (i := 5) rfl)⟩
theorem lw_p13 : lw_okq (⟨"DoughBorder$Text", "warmHere", "()V"⟩, 7) := ⟨⟨by decide +kernel, by decide +kernel⟩, lw_t2 (List.mem_of_getElem? (i := 110) rfl), lw_t3 (List.mem_of_getElem? (i := 8) rfl), lw_t3 (List.mem_of_getElem? (i := 9) rfl)⟩
theorem lw_p14 : lw_okq (⟨"DoughBorder$Text", "takesSign", "(I)Z"⟩, 7) := ⟨⟨by decide +kernel, by decide +kernel⟩, lw_t2 (List.mem_of_getElem? (i := 110) rfl), lw_t3 (List.mem_of_getElem? (i := 12) rfl), lw_t3 (List.mem_of_getElem? (i := 13) rfl)⟩
theorem lw_p15 : lw_okq (⟨"DoughBorder$Text", "ends", "()V"⟩, 7) := ⟨⟨by decide +kernel, by decide +kernel⟩, lw_t2 (List.mem_of_getElem? (i := 110) rfl), lw_t3 (List.mem_of_getElem? (i := 16) rfl), lw_t3 (List.mem_of_getElem? (i := 17) rfl)⟩
def lw_privs_1 : List (MethodName × Nat) := [(⟨"java/lang/Throwable", "fillInStackTrace", "(I)Ljava/lang/Throwable;"⟩, 6), (⟨"DoughBorder", "four", "(I)V"⟩, 25), (⟨"DoughBorder$Text", "see", "()I"⟩, 7), (⟨"DoughBorder$Text", "oneOf", "([Ljava/lang/String;)I"⟩, 7), (⟨"DoughBorder$Text", "isWord", "(Ljava/lang/String;)Z"⟩, 7), (⟨"DoughBorder$Text", "letters", "()I"⟩, 7), (⟨"DoughBorder$Text", "demand", "(ZII)V"⟩, 7), (⟨"DoughBorder$Text", "canBe", "(I)Z"⟩, 7), (⟨"DoughBorder$Text", "line", "(I)V"⟩, 7), (⟨"DoughBorder$Text", "stripHere", "()V"⟩, 7), (⟨"DoughBorder$Text", "number", "(II)I"⟩, 7), (⟨"DoughBorder$Text", "isDigit", "(I)Z"⟩, 7), (⟨"DoughBorder$Text", "mileHere", "()I"⟩, 7), (⟨"DoughBorder$Text", "warmHere", "()V"⟩, 7), (⟨"DoughBorder$Text", "takesSign", "(I)Z"⟩, 7), (⟨"DoughBorder$Text", "ends", "()V"⟩, 7)]
theorem lw_r1 : ∀ q ∈ lw_privs_1, lw_okq q := List.forall_mem_cons.mpr ⟨lw_p0, List.forall_mem_cons.mpr ⟨lw_p1, List.forall_mem_cons.mpr ⟨lw_p2, List.forall_mem_cons.mpr ⟨lw_p3, List.forall_mem_cons.mpr ⟨lw_p4, List.forall_mem_cons.mpr ⟨lw_p5, List.forall_mem_cons.mpr ⟨lw_p6, List.forall_mem_cons.mpr ⟨lw_p7, List.forall_mem_cons.mpr ⟨lw_p8, List.forall_mem_cons.mpr ⟨lw_p9, List.forall_mem_cons.mpr ⟨lw_p10, List.forall_mem_cons.mpr ⟨lw_p11, List.forall_mem_cons.mpr ⟨lw_p12, List.forall_mem_cons.mpr ⟨lw_p13, List.forall_mem_cons.mpr ⟨lw_p14, List.forall_mem_cons.mpr ⟨lw_p15, fun _ h => absurd h List.not_mem_nil⟩⟩⟩⟩⟩⟩⟩⟩⟩⟩⟩⟩⟩⟩⟩⟩
theorem lw_p16 : lw_okq (⟨"DoughBorder", "faulted", "()I"⟩, 25) := ⟨⟨by decide +kernel, by decide +kernel⟩, lw_t1 (List.mem_of_getElem? (i := 28) rfl), lw_t3 (List.mem_of_getElem? (i := 22) rfl), lw_t3 (List.mem_of_getElem? (i := 23) rfl)⟩
theorem lw_p17 : lw_okq (⟨"DoughBorder$Text", "clauseHere", "()LDoughBorder$Clause;"⟩, 7) := ⟨⟨by decide +kernel, by decide +kernel⟩, lw_t2 (List.mem_of_getElem? (i := 110) rfl), lw_t3 (List.mem_of_getElem? (i := 51) rfl), lw_t3 (List.mem_of_getElem? (i := 52) rfl)⟩
theorem lw_p18 : lw_okq (⟨"DoughBorder$Text", "sum", "()LDoughBorder$Value;"⟩, 7) := ⟨⟨by decide +kernel, by decide +kernel⟩, lw_t2 (List.mem_of_getElem? (i := 110) rfl), lw_t3 (List.mem_of_getElem? (i := 70) rfl), lw_t3 (List.mem_of_getElem? (i := 71) rfl)⟩
theorem lw_p19 : lw_okq (⟨"DoughBorder$Text", "term", "()LDoughBorder$Value;"⟩, 7) := ⟨⟨by decide +kernel, by decide +kernel⟩, lw_t2 (List.mem_of_getElem? (i := 110) rfl), lw_t3 (List.mem_of_getElem? (i := 74) rfl), lw_t3 (List.mem_of_getElem? (i := 75) rfl)⟩
theorem lw_p20 : lw_okq (⟨"DoughBorder$Text", "value", "()LDoughBorder$Value;"⟩, 7) := ⟨⟨by decide +kernel, by decide +kernel⟩, lw_t2 (List.mem_of_getElem? (i := 110) rfl), lw_t3 (List.mem_of_getElem? (i := 78) rfl), lw_t3 (List.mem_of_getElem? (i := 79) rfl)⟩
theorem lw_p21 : lw_okq (⟨"DoughBorder$Text", "makes", "(I)V"⟩, 7) := ⟨⟨by decide +kernel, by decide +kernel⟩, lw_t2 (List.mem_of_getElem? (i := 110) rfl), lw_t3 (List.mem_of_getElem? (i := 83) rfl), lw_t3 (List.mem_of_getElem? (i := 84) rfl)⟩
theorem lw_p22 : lw_okq (⟨"DoughBorder$Text", "takesWord", "(Ljava/lang/String;)Z"⟩, 7) := ⟨⟨by decide +kernel, by decide +kernel⟩, lw_t2 (List.mem_of_getElem? (i := 110) rfl), lw_t3 (List.mem_of_getElem? (i := 127) rfl), lw_t3 (List.mem_of_getElem? (i := 128) rfl)⟩
theorem lw_p23 : lw_okq (⟨"DoughBorder$Text", "tested", "()LDoughBorder$Test;"⟩, 7) := ⟨⟨by decide +kernel, by decide +kernel⟩, lw_t2 (List.mem_of_getElem? (i := 110) rfl), lw_t3 (List.mem_of_getElem? (i := 131) rfl), lw_t3 (List.mem_of_getElem? (i := 132) rfl)⟩
theorem lw_p24 : lw_okq (⟨"DoughBorder$Text", "parted", "()LDoughBorder$Test;"⟩, 7) := ⟨⟨by decide +kernel, by decide +kernel⟩, lw_t2 (List.mem_of_getElem? (i := 110) rfl), lw_t3 (List.mem_of_getElem? (i := 135) rfl), lw_t3 (List.mem_of_getElem? (i := 136) rfl)⟩
theorem lw_p25 : lw_okq (⟨"DoughBorder$Text", "fact", "()LDoughBorder$Test;"⟩, 7) := ⟨⟨by decide +kernel, by decide +kernel⟩, lw_t2 (List.mem_of_getElem? (i := 110) rfl), lw_t3 (List.mem_of_getElem? (i := 139) rfl), lw_t3 (List.mem_of_getElem? (i := 140) rfl)⟩
theorem lw_p26 : lw_okq (⟨"DoughBorder$Text", "opens", "(I)V"⟩, 7) := ⟨⟨by decide +kernel, by decide +kernel⟩, lw_t2 (List.mem_of_getElem? (i := 110) rfl), lw_t3 (List.mem_of_getElem? (i := 144) rfl), lw_t3 (List.mem_of_getElem? (i := 145) rfl)⟩
theorem lw_p27 : lw_okq (⟨"DoughBorder$Text", "sign", "()I"⟩, 7) := ⟨⟨by decide +kernel, by decide +kernel⟩, lw_t2 (List.mem_of_getElem? (i := 110) rfl), lw_t3 (List.mem_of_getElem? (i := 161) rfl), lw_t3 (List.mem_of_getElem? (i := 162) rfl)⟩
theorem lw_p28 : lw_okq (⟨"DoughBorder", "isMile", "(I)Z"⟩, 25) := ⟨⟨by decide +kernel, by decide +kernel⟩, lw_t1 (List.mem_of_getElem? (i := 28) rfl), lw_t3 (List.mem_of_getElem? (i := 207) rfl), lw_t3 (List.mem_of_getElem? (i := 208) rfl)⟩
theorem lw_p29 : lw_okq (⟨"DoughBorder", "isVillage", "(I)Z"⟩, 25) := ⟨⟨by decide +kernel, by decide +kernel⟩, lw_t1 (List.mem_of_getElem? (i := 28) rfl), lw_t3 (List.mem_of_getElem? (i := 222) rfl), lw_t3 (List.mem_of_getElem? (i := 223) rfl)⟩
theorem lw_p30 : lw_okq (⟨"DoughBorder", "keepsAct", "()V"⟩, 25) := ⟨⟨by decide +kernel, by decide +kernel⟩, lw_t1 (List.mem_of_getElem? (i := 28) rfl), lw_t4 (List.mem_of_getElem? (i := 10) rfl), lw_t4 (List.mem_of_getElem? (i := 11) rfl)⟩
theorem lw_p31 : lw_okq (⟨"DoughBorder", "law", "()LDoughBorder$Rule;"⟩, 25) := ⟨⟨by decide +kernel, by decide +kernel⟩, lw_t1 (List.mem_of_getElem? (i := 28) rfl), lw_t4 (List.mem_of_getElem? (i := 19) rfl), lw_t4 (List.mem_of_getElem? (i := 20) rfl)⟩
def lw_privs_2 : List (MethodName × Nat) := [(⟨"DoughBorder", "faulted", "()I"⟩, 25), (⟨"DoughBorder$Text", "clauseHere", "()LDoughBorder$Clause;"⟩, 7), (⟨"DoughBorder$Text", "sum", "()LDoughBorder$Value;"⟩, 7), (⟨"DoughBorder$Text", "term", "()LDoughBorder$Value;"⟩, 7), (⟨"DoughBorder$Text", "value", "()LDoughBorder$Value;"⟩, 7), (⟨"DoughBorder$Text", "makes", "(I)V"⟩, 7), (⟨"DoughBorder$Text", "takesWord", "(Ljava/lang/String;)Z"⟩, 7), (⟨"DoughBorder$Text", "tested", "()LDoughBorder$Test;"⟩, 7), (⟨"DoughBorder$Text", "parted", "()LDoughBorder$Test;"⟩, 7), (⟨"DoughBorder$Text", "fact", "()LDoughBorder$Test;"⟩, 7), (⟨"DoughBorder$Text", "opens", "(I)V"⟩, 7), (⟨"DoughBorder$Text", "sign", "()I"⟩, 7), (⟨"DoughBorder", "isMile", "(I)Z"⟩, 25), (⟨"DoughBorder", "isVillage", "(I)Z"⟩, 25), (⟨"DoughBorder", "keepsAct", "()V"⟩, 25), (⟨"DoughBorder", "law", "()LDoughBorder$Rule;"⟩, 25)]
theorem lw_r2 : ∀ q ∈ lw_privs_2, lw_okq q := List.forall_mem_cons.mpr ⟨lw_p16, List.forall_mem_cons.mpr ⟨lw_p17, List.forall_mem_cons.mpr ⟨lw_p18, List.forall_mem_cons.mpr ⟨lw_p19, List.forall_mem_cons.mpr ⟨lw_p20, List.forall_mem_cons.mpr ⟨lw_p21, List.forall_mem_cons.mpr ⟨lw_p22, List.forall_mem_cons.mpr ⟨lw_p23, List.forall_mem_cons.mpr ⟨lw_p24, List.forall_mem_cons.mpr ⟨lw_p25, List.forall_mem_cons.mpr ⟨lw_p26, List.forall_mem_cons.mpr ⟨lw_p27, List.forall_mem_cons.mpr ⟨lw_p28, List.forall_mem_cons.mpr ⟨lw_p29, List.forall_mem_cons.mpr ⟨lw_p30, List.forall_mem_cons.mpr ⟨lw_p31, fun _ h => absurd h List.not_mem_nil⟩⟩⟩⟩⟩⟩⟩⟩⟩⟩⟩⟩⟩⟩⟩⟩
theorem lw_p32 : lw_okq (⟨"DoughBorder$Dough", "creepOf", "(IILDoughBorder$Rule;)I"⟩, 24) := ⟨⟨by decide +kernel, by decide +kernel⟩, lw_t1 (List.mem_of_getElem? (i := 36) rfl), lw_t4 (List.mem_of_getElem? (i := 41) rfl), lw_t4 (List.mem_of_getElem? (i := 42) rfl)⟩
theorem lw_p33 : lw_okq (⟨"DoughBorder$Dough", "fillsWords", "(II)V"⟩, 24) := ⟨⟨by decide +kernel, by decide +kernel⟩, lw_t1 (List.mem_of_getElem? (i := 36) rfl), lw_t4 (List.mem_of_getElem? (i := 52) rfl), lw_t4 (List.mem_of_getElem? (i := 53) rfl)⟩
theorem lw_p34 : lw_okq (⟨"DoughBorder$Dough", "sags", "(I)V"⟩, 24) := ⟨⟨by decide +kernel, by decide +kernel⟩, lw_t1 (List.mem_of_getElem? (i := 36) rfl), lw_t4 (List.mem_of_getElem? (i := 105) rfl), lw_t4 (List.mem_of_getElem? (i := 106) rfl)⟩
theorem lw_p35 : lw_okq (⟨"DoughBorder", "isSoft", "(I)Z"⟩, 25) := ⟨⟨by decide +kernel, by decide +kernel⟩, lw_t1 (List.mem_of_getElem? (i := 28) rfl), lw_t4 (List.mem_of_getElem? (i := 120) rfl), lw_t4 (List.mem_of_getElem? (i := 121) rfl)⟩
theorem lw_p36 : lw_okq (⟨"DoughBorder", "preparesDeep", "(I)V"⟩, 25) := ⟨⟨by decide +kernel, by decide +kernel⟩, lw_t1 (List.mem_of_getElem? (i := 28) rfl), lw_t4 (List.mem_of_getElem? (i := 166) rfl), lw_t4 (List.mem_of_getElem? (i := 167) rfl)⟩
theorem lw_p37 : lw_okq (⟨"DoughBorder", "triesPushes", "(III)V"⟩, 25) := ⟨⟨by decide +kernel, by decide +kernel⟩, lw_t1 (List.mem_of_getElem? (i := 28) rfl), lw_t4 (List.mem_of_getElem? (i := 170) rfl), lw_t4 (List.mem_of_getElem? (i := 171) rfl)⟩
theorem lw_p38 : lw_okq (⟨"DoughBorder", "worthFrom", "(II)I"⟩, 25) := ⟨⟨by decide +kernel, by decide +kernel⟩, lw_t1 (List.mem_of_getElem? (i := 28) rfl), lw_t4 (List.mem_of_getElem? (i := 184) rfl), lw_t4 (List.mem_of_getElem? (i := 185) rfl)⟩
theorem lw_p39 : lw_okq (⟨"DoughBorder", "gathersThefts", "(I)V"⟩, 25) := ⟨⟨by decide +kernel, by decide +kernel⟩, lw_t1 (List.mem_of_getElem? (i := 28) rfl), lw_t4 (List.mem_of_getElem? (i := 201) rfl), lw_t4 (List.mem_of_getElem? (i := 202) rfl)⟩
theorem lw_p40 : lw_okq (⟨"DoughBorder", "canBeTheft", "(III)Z"⟩, 25) := ⟨⟨by decide +kernel, by decide +kernel⟩, lw_t1 (List.mem_of_getElem? (i := 28) rfl), lw_t4 (List.mem_of_getElem? (i := 205) rfl), lw_t4 (List.mem_of_getElem? (i := 206) rfl)⟩
theorem lw_p41 : lw_okq (⟨"DoughBorder", "doughAt", "(IIIII)I"⟩, 25) := ⟨⟨by decide +kernel, by decide +kernel⟩, lw_t1 (List.mem_of_getElem? (i := 28) rfl), lw_t4 (List.mem_of_getElem? (i := 210) rfl), lw_t4 (List.mem_of_getElem? (i := 211) rfl)⟩
theorem lw_p42 : lw_okq (⟨"DoughBorder", "alikeAt", "(III)I"⟩, 25) := ⟨⟨by decide +kernel, by decide +kernel⟩, lw_t1 (List.mem_of_getElem? (i := 28) rfl), lw_t4 (List.mem_of_getElem? (i := 218) rfl), lw_t4 (List.mem_of_getElem? (i := 219) rfl)⟩
theorem lw_p43 : lw_okq (⟨"DoughBorder", "ownNights", "(IIII)I"⟩, 25) := ⟨⟨by decide +kernel, by decide +kernel⟩, lw_t1 (List.mem_of_getElem? (i := 28) rfl), lw_t4 (List.mem_of_getElem? (i := 227) rfl), lw_t4 (List.mem_of_getElem? (i := 228) rfl)⟩
theorem lw_p44 : lw_okq (⟨"DoughBorder", "isPeace", "(II)Z"⟩, 25) := ⟨⟨by decide +kernel, by decide +kernel⟩, lw_t1 (List.mem_of_getElem? (i := 28) rfl), lw_t5 (List.mem_of_getElem? (i := 1) rfl), lw_t5 (List.mem_of_getElem? (i := 2) rfl)⟩
theorem lw_p45 : lw_okq (⟨"DoughBorder", "draw", "(I)I"⟩, 25) := ⟨⟨by decide +kernel, by decide +kernel⟩, lw_t1 (List.mem_of_getElem? (i := 28) rfl), lw_t5 (List.mem_of_getElem? (i := 21) rfl), lw_t5 (List.mem_of_getElem? (i := 22) rfl)⟩
theorem lw_p46 : lw_okq (⟨"DoughBorderModel", "put", "(I)V"⟩, 68) := ⟨⟨by decide +kernel, by decide +kernel⟩, lw_t5 (List.mem_of_getElem? (i := 65) rfl), lw_t6 (List.mem_of_getElem? (i := 40) rfl), lw_t6 (List.mem_of_getElem? (i := 41) rfl)⟩
theorem lw_p47 : lw_okq (⟨"DoughBorderModel", "readsAll", "()V"⟩, 68) := ⟨⟨by decide +kernel, by decide +kernel⟩, lw_t5 (List.mem_of_getElem? (i := 65) rfl), lw_t6 (List.mem_of_getElem? (i := 52) rfl), lw_t6 (List.mem_of_getElem? (i := 53) rfl)⟩
def lw_privs_3 : List (MethodName × Nat) := [(⟨"DoughBorder$Dough", "creepOf", "(IILDoughBorder$Rule;)I"⟩, 24), (⟨"DoughBorder$Dough", "fillsWords", "(II)V"⟩, 24), (⟨"DoughBorder$Dough", "sags", "(I)V"⟩, 24), (⟨"DoughBorder", "isSoft", "(I)Z"⟩, 25), (⟨"DoughBorder", "preparesDeep", "(I)V"⟩, 25), (⟨"DoughBorder", "triesPushes", "(III)V"⟩, 25), (⟨"DoughBorder", "worthFrom", "(II)I"⟩, 25), (⟨"DoughBorder", "gathersThefts", "(I)V"⟩, 25), (⟨"DoughBorder", "canBeTheft", "(III)Z"⟩, 25), (⟨"DoughBorder", "doughAt", "(IIIII)I"⟩, 25), (⟨"DoughBorder", "alikeAt", "(III)I"⟩, 25), (⟨"DoughBorder", "ownNights", "(IIII)I"⟩, 25), (⟨"DoughBorder", "isPeace", "(II)Z"⟩, 25), (⟨"DoughBorder", "draw", "(I)I"⟩, 25), (⟨"DoughBorderModel", "put", "(I)V"⟩, 68), (⟨"DoughBorderModel", "readsAll", "()V"⟩, 68)]
theorem lw_r3 : ∀ q ∈ lw_privs_3, lw_okq q := List.forall_mem_cons.mpr ⟨lw_p32, List.forall_mem_cons.mpr ⟨lw_p33, List.forall_mem_cons.mpr ⟨lw_p34, List.forall_mem_cons.mpr ⟨lw_p35, List.forall_mem_cons.mpr ⟨lw_p36, List.forall_mem_cons.mpr ⟨lw_p37, List.forall_mem_cons.mpr ⟨lw_p38, List.forall_mem_cons.mpr ⟨lw_p39, List.forall_mem_cons.mpr ⟨lw_p40, List.forall_mem_cons.mpr ⟨lw_p41, List.forall_mem_cons.mpr ⟨lw_p42, List.forall_mem_cons.mpr ⟨lw_p43, List.forall_mem_cons.mpr ⟨lw_p44, List.forall_mem_cons.mpr ⟨lw_p45, List.forall_mem_cons.mpr ⟨lw_p46, List.forall_mem_cons.mpr ⟨lw_p47, fun _ h => absurd h List.not_mem_nil⟩⟩⟩⟩⟩⟩⟩⟩⟩⟩⟩⟩⟩⟩⟩⟩
theorem lw_p48 : lw_okq (⟨"DoughBorderModel", "starts", "()V"⟩, 68) := ⟨⟨by decide +kernel, by decide +kernel⟩, lw_t5 (List.mem_of_getElem? (i := 65) rfl), lw_t6 (List.mem_of_getElem? (i := 56) rfl), lw_t6 (List.mem_of_getElem? (i := 57) rfl)⟩
theorem lw_p49 : lw_okq (⟨"DoughBorderModel", "stripClause", "(I)V"⟩, 68) := ⟨⟨by decide +kernel, by decide +kernel⟩, lw_t5 (List.mem_of_getElem? (i := 65) rfl), lw_t6 (List.mem_of_getElem? (i := 60) rfl), lw_t6 (List.mem_of_getElem? (i := 61) rfl)⟩
theorem lw_p50 : lw_okq (⟨"DoughBorderModel", "blanks", "()V"⟩, 68) := ⟨⟨by decide +kernel, by decide +kernel⟩, lw_t5 (List.mem_of_getElem? (i := 65) rfl), lw_t6 (List.mem_of_getElem? (i := 64) rfl), lw_t6 (List.mem_of_getElem? (i := 65) rfl)⟩
theorem lw_p51 : lw_okq (⟨"DoughBorderModel", "sign", "()I"⟩, 68) := ⟨⟨by decide +kernel, by decide +kernel⟩, lw_t5 (List.mem_of_getElem? (i := 65) rfl), lw_t6 (List.mem_of_getElem? (i := 68) rfl), lw_t6 (List.mem_of_getElem? (i := 69) rfl)⟩
theorem lw_p52 : lw_okq (⟨"DoughBorderModel", "stood", "(Ljava/lang/String;)Z"⟩, 68) := ⟨⟨by decide +kernel, by decide +kernel⟩, lw_t5 (List.mem_of_getElem? (i := 65) rfl), lw_t6 (List.mem_of_getElem? (i := 81) rfl), lw_t6 (List.mem_of_getElem? (i := 82) rfl)⟩
theorem lw_p53 : lw_okq (⟨"DoughBorderModel", "fails", "(II)V"⟩, 68) := ⟨⟨by decide +kernel, by decide +kernel⟩, lw_t5 (List.mem_of_getElem? (i := 65) rfl), lw_t6 (List.mem_of_getElem? (i := 87) rfl), lw_t6 (List.mem_of_getElem? (i := 88) rfl)⟩
theorem lw_p54 : lw_okq (⟨"DoughBorderModel", "isFull", "(II)Z"⟩, 68) := ⟨⟨by decide +kernel, by decide +kernel⟩, lw_t5 (List.mem_of_getElem? (i := 65) rfl), lw_t6 (List.mem_of_getElem? (i := 91) rfl), lw_t6 (List.mem_of_getElem? (i := 92) rfl)⟩
theorem lw_p55 : lw_okq (⟨"DoughBorderModel", "stripPart", "(I)V"⟩, 68) := ⟨⟨by decide +kernel, by decide +kernel⟩, lw_t5 (List.mem_of_getElem? (i := 65) rfl), lw_t6 (List.mem_of_getElem? (i := 95) rfl), lw_t6 (List.mem_of_getElem? (i := 96) rfl)⟩
theorem lw_p56 : lw_okq (⟨"DoughBorderModel", "amount", "(II)I"⟩, 68) := ⟨⟨by decide +kernel, by decide +kernel⟩, lw_t5 (List.mem_of_getElem? (i := 65) rfl), lw_t6 (List.mem_of_getElem? (i := 99) rfl), lw_t6 (List.mem_of_getElem? (i := 100) rfl)⟩
theorem lw_p57 : lw_okq (⟨"DoughBorderModel", "digits", "(I)I"⟩, 68) := ⟨⟨by decide +kernel, by decide +kernel⟩, lw_t5 (List.mem_of_getElem? (i := 65) rfl), lw_t6 (List.mem_of_getElem? (i := 104) rfl), lw_t6 (List.mem_of_getElem? (i := 105) rfl)⟩
theorem lw_p58 : lw_okq (⟨"DoughBorderModel", "isDigit", "()Z"⟩, 68) := ⟨⟨by decide +kernel, by decide +kernel⟩, lw_t5 (List.mem_of_getElem? (i := 65) rfl), lw_t6 (List.mem_of_getElem? (i := 108) rfl), lw_t6 (List.mem_of_getElem? (i := 109) rfl)⟩
theorem lw_p59 : lw_okq (⟨"DoughBorderModel", "readsMile", "()V"⟩, 68) := ⟨⟨by decide +kernel, by decide +kernel⟩, lw_t5 (List.mem_of_getElem? (i := 65) rfl), lw_t6 (List.mem_of_getElem? (i := 117) rfl), lw_t6 (List.mem_of_getElem? (i := 118) rfl)⟩
theorem lw_p60 : lw_okq (⟨"DoughBorderModel", "oneMile", "()I"⟩, 68) := ⟨⟨by decide +kernel, by decide +kernel⟩, lw_t5 (List.mem_of_getElem? (i := 65) rfl), lw_t6 (List.mem_of_getElem? (i := 121) rfl), lw_t6 (List.mem_of_getElem? (i := 122) rfl)⟩
theorem lw_p61 : lw_okq (⟨"DoughBorderModel", "readsWarm", "()V"⟩, 68) := ⟨⟨by decide +kernel, by decide +kernel⟩, lw_t5 (List.mem_of_getElem? (i := 65) rfl), lw_t6 (List.mem_of_getElem? (i := 125) rfl), lw_t6 (List.mem_of_getElem? (i := 126) rfl)⟩
theorem lw_p62 : lw_okq (⟨"DoughBorderModel", "readsVillage", "()V"⟩, 68) := ⟨⟨by decide +kernel, by decide +kernel⟩, lw_t5 (List.mem_of_getElem? (i := 65) rfl), lw_t6 (List.mem_of_getElem? (i := 129) rfl), lw_t6 (List.mem_of_getElem? (i := 130) rfl)⟩
theorem lw_p63 : lw_okq (⟨"DoughBorderModel", "goesOn", "()Z"⟩, 68) := ⟨⟨by decide +kernel, by decide +kernel⟩, lw_t5 (List.mem_of_getElem? (i := 65) rfl), lw_t6 (List.mem_of_getElem? (i := 133) rfl), lw_t6 (List.mem_of_getElem? (i := 134) rfl)⟩
def lw_privs_4 : List (MethodName × Nat) := [(⟨"DoughBorderModel", "starts", "()V"⟩, 68), (⟨"DoughBorderModel", "stripClause", "(I)V"⟩, 68), (⟨"DoughBorderModel", "blanks", "()V"⟩, 68), (⟨"DoughBorderModel", "sign", "()I"⟩, 68), (⟨"DoughBorderModel", "stood", "(Ljava/lang/String;)Z"⟩, 68), (⟨"DoughBorderModel", "fails", "(II)V"⟩, 68), (⟨"DoughBorderModel", "isFull", "(II)Z"⟩, 68), (⟨"DoughBorderModel", "stripPart", "(I)V"⟩, 68), (⟨"DoughBorderModel", "amount", "(II)I"⟩, 68), (⟨"DoughBorderModel", "digits", "(I)I"⟩, 68), (⟨"DoughBorderModel", "isDigit", "()Z"⟩, 68), (⟨"DoughBorderModel", "readsMile", "()V"⟩, 68), (⟨"DoughBorderModel", "oneMile", "()I"⟩, 68), (⟨"DoughBorderModel", "readsWarm", "()V"⟩, 68), (⟨"DoughBorderModel", "readsVillage", "()V"⟩, 68), (⟨"DoughBorderModel", "goesOn", "()Z"⟩, 68)]
theorem lw_r4 : ∀ q ∈ lw_privs_4, lw_okq q := List.forall_mem_cons.mpr ⟨lw_p48, List.forall_mem_cons.mpr ⟨lw_p49, List.forall_mem_cons.mpr ⟨lw_p50, List.forall_mem_cons.mpr ⟨lw_p51, List.forall_mem_cons.mpr ⟨lw_p52, List.forall_mem_cons.mpr ⟨lw_p53, List.forall_mem_cons.mpr ⟨lw_p54, List.forall_mem_cons.mpr ⟨lw_p55, List.forall_mem_cons.mpr ⟨lw_p56, List.forall_mem_cons.mpr ⟨lw_p57, List.forall_mem_cons.mpr ⟨lw_p58, List.forall_mem_cons.mpr ⟨lw_p59, List.forall_mem_cons.mpr ⟨lw_p60, List.forall_mem_cons.mpr ⟨lw_p61, List.forall_mem_cons.mpr ⟨lw_p62, List.forall_mem_cons.mpr ⟨lw_p63, fun _ h => absurd h List.not_mem_nil⟩⟩⟩⟩⟩⟩⟩⟩⟩⟩⟩⟩⟩⟩⟩⟩
theorem lw_p64 : lw_okq (⟨"DoughBorderModel", "ruleClause", "(I)V"⟩, 68) := ⟨⟨by decide +kernel, by decide +kernel⟩, lw_t5 (List.mem_of_getElem? (i := 65) rfl), lw_t6 (List.mem_of_getElem? (i := 144) rfl), lw_t6 (List.mem_of_getElem? (i := 145) rfl)⟩
theorem lw_p65 : lw_okq (⟨"DoughBorderModel", "sum", "()V"⟩, 68) := ⟨⟨by decide +kernel, by decide +kernel⟩, lw_t5 (List.mem_of_getElem? (i := 65) rfl), lw_t6 (List.mem_of_getElem? (i := 149) rfl), lw_t6 (List.mem_of_getElem? (i := 150) rfl)⟩
theorem lw_p66 : lw_okq (⟨"DoughBorderModel", "term", "()V"⟩, 68) := ⟨⟨by decide +kernel, by decide +kernel⟩, lw_t5 (List.mem_of_getElem? (i := 65) rfl), lw_t6 (List.mem_of_getElem? (i := 153) rfl), lw_t6 (List.mem_of_getElem? (i := 154) rfl)⟩
theorem lw_p67 : lw_okq (⟨"DoughBorderModel", "value", "()V"⟩, 68) := ⟨⟨by decide +kernel, by decide +kernel⟩, lw_t5 (List.mem_of_getElem? (i := 65) rfl), lw_t6 (List.mem_of_getElem? (i := 157) rfl), lw_t6 (List.mem_of_getElem? (i := 158) rfl)⟩
theorem lw_p68 : lw_okq (⟨"DoughBorderModel", "isCounted", "(I)V"⟩, 68) := ⟨⟨by decide +kernel, by decide +kernel⟩, lw_t5 (List.mem_of_getElem? (i := 65) rfl), lw_t6 (List.mem_of_getElem? (i := 161) rfl), lw_t6 (List.mem_of_getElem? (i := 162) rfl)⟩
theorem lw_p69 : lw_okq (⟨"DoughBorderModel", "entry", "(II)V"⟩, 68) := ⟨⟨by decide +kernel, by decide +kernel⟩, lw_t5 (List.mem_of_getElem? (i := 65) rfl), lw_t6 (List.mem_of_getElem? (i := 165) rfl), lw_t6 (List.mem_of_getElem? (i := 166) rfl)⟩
theorem lw_p70 : lw_okq (⟨"DoughBorderModel", "takes", "(Ljava/lang/String;)Z"⟩, 68) := ⟨⟨by decide +kernel, by decide +kernel⟩, lw_t5 (List.mem_of_getElem? (i := 65) rfl), lw_t6 (List.mem_of_getElem? (i := 183) rfl), lw_t6 (List.mem_of_getElem? (i := 184) rfl)⟩
theorem lw_p71 : lw_okq (⟨"DoughBorderModel", "test", "()V"⟩, 68) := ⟨⟨by decide +kernel, by decide +kernel⟩, lw_t5 (List.mem_of_getElem? (i := 65) rfl), lw_t6 (List.mem_of_getElem? (i := 187) rfl), lw_t6 (List.mem_of_getElem? (i := 188) rfl)⟩
theorem lw_p72 : lw_okq (⟨"DoughBorderModel", "fact", "()Z"⟩, 68) := ⟨⟨by decide +kernel, by decide +kernel⟩, lw_t5 (List.mem_of_getElem? (i := 65) rfl), lw_t6 (List.mem_of_getElem? (i := 191) rfl), lw_t6 (List.mem_of_getElem? (i := 192) rfl)⟩
theorem lw_p73 : lw_okq (⟨"DoughBorderModel", "opens", "(I)V"⟩, 68) := ⟨⟨by decide +kernel, by decide +kernel⟩, lw_t5 (List.mem_of_getElem? (i := 65) rfl), lw_t6 (List.mem_of_getElem? (i := 196) rfl), lw_t6 (List.mem_of_getElem? (i := 197) rfl)⟩
theorem lw_p74 : lw_okq (⟨"DoughBorderModel", "compared", "()V"⟩, 68) := ⟨⟨by decide +kernel, by decide +kernel⟩, lw_t5 (List.mem_of_getElem? (i := 65) rfl), lw_t6 (List.mem_of_getElem? (i := 200) rfl), lw_t6 (List.mem_of_getElem? (i := 201) rfl)⟩
theorem lw_p75 : lw_okq (⟨"DoughBorderModel", "answers", "(I)V"⟩, 68) := ⟨⟨by decide +kernel, by decide +kernel⟩, lw_t5 (List.mem_of_getElem? (i := 65) rfl), lw_t6 (List.mem_of_getElem? (i := 204) rfl), lw_t6 (List.mem_of_getElem? (i := 205) rfl)⟩
theorem lw_p76 : lw_okq (⟨"DoughBorderModel", "top", "()I"⟩, 68) := ⟨⟨by decide +kernel, by decide +kernel⟩, lw_t5 (List.mem_of_getElem? (i := 65) rfl), lw_t6 (List.mem_of_getElem? (i := 208) rfl), lw_t6 (List.mem_of_getElem? (i := 209) rfl)⟩
theorem lw_p77 : lw_okq (⟨"DoughBorderModel", "isMile", "(I)Z"⟩, 68) := ⟨⟨by decide +kernel, by decide +kernel⟩, lw_t5 (List.mem_of_getElem? (i := 65) rfl), lw_t6 (List.mem_of_getElem? (i := 223) rfl), lw_t6 (List.mem_of_getElem? (i := 224) rfl)⟩
theorem lw_p78 : lw_okq (⟨"DoughBorderModel", "isBaked", "(I)Z"⟩, 68) := ⟨⟨by decide +kernel, by decide +kernel⟩, lw_t5 (List.mem_of_getElem? (i := 65) rfl), lw_t6 (List.mem_of_getElem? (i := 227) rfl), lw_t6 (List.mem_of_getElem? (i := 228) rfl)⟩
theorem lw_p79 : lw_okq (⟨"DoughBorderModel", "isVillage", "(I)Z"⟩, 68) := ⟨⟨by decide +kernel, by decide +kernel⟩, lw_t5 (List.mem_of_getElem? (i := 65) rfl), lw_t6 (List.mem_of_getElem? (i := 238) rfl), lw_t6 (List.mem_of_getElem? (i := 239) rfl)⟩
def lw_privs_5 : List (MethodName × Nat) := [(⟨"DoughBorderModel", "ruleClause", "(I)V"⟩, 68), (⟨"DoughBorderModel", "sum", "()V"⟩, 68), (⟨"DoughBorderModel", "term", "()V"⟩, 68), (⟨"DoughBorderModel", "value", "()V"⟩, 68), (⟨"DoughBorderModel", "isCounted", "(I)V"⟩, 68), (⟨"DoughBorderModel", "entry", "(II)V"⟩, 68), (⟨"DoughBorderModel", "takes", "(Ljava/lang/String;)Z"⟩, 68), (⟨"DoughBorderModel", "test", "()V"⟩, 68), (⟨"DoughBorderModel", "fact", "()Z"⟩, 68), (⟨"DoughBorderModel", "opens", "(I)V"⟩, 68), (⟨"DoughBorderModel", "compared", "()V"⟩, 68), (⟨"DoughBorderModel", "answers", "(I)V"⟩, 68), (⟨"DoughBorderModel", "top", "()I"⟩, 68), (⟨"DoughBorderModel", "isMile", "(I)Z"⟩, 68), (⟨"DoughBorderModel", "isBaked", "(I)Z"⟩, 68), (⟨"DoughBorderModel", "isVillage", "(I)Z"⟩, 68)]
theorem lw_r5 : ∀ q ∈ lw_privs_5, lw_okq q := List.forall_mem_cons.mpr ⟨lw_p64, List.forall_mem_cons.mpr ⟨lw_p65, List.forall_mem_cons.mpr ⟨lw_p66, List.forall_mem_cons.mpr ⟨lw_p67, List.forall_mem_cons.mpr ⟨lw_p68, List.forall_mem_cons.mpr ⟨lw_p69, List.forall_mem_cons.mpr ⟨lw_p70, List.forall_mem_cons.mpr ⟨lw_p71, List.forall_mem_cons.mpr ⟨lw_p72, List.forall_mem_cons.mpr ⟨lw_p73, List.forall_mem_cons.mpr ⟨lw_p74, List.forall_mem_cons.mpr ⟨lw_p75, List.forall_mem_cons.mpr ⟨lw_p76, List.forall_mem_cons.mpr ⟨lw_p77, List.forall_mem_cons.mpr ⟨lw_p78, List.forall_mem_cons.mpr ⟨lw_p79, fun _ h => absurd h List.not_mem_nil⟩⟩⟩⟩⟩⟩⟩⟩⟩⟩⟩⟩⟩⟩⟩⟩
theorem lw_p80 : lw_okq (⟨"DoughBorderModel", "sideOf", "(I)I"⟩, 68) := ⟨⟨by decide +kernel, by decide +kernel⟩, lw_t5 (List.mem_of_getElem? (i := 65) rfl), lw_t7 (List.mem_of_getElem? (i := 2) rfl), lw_t7 (List.mem_of_getElem? (i := 3) rfl)⟩
theorem lw_p81 : lw_okq (⟨"DoughBorderModel", "isStrip", "()Z"⟩, 68) := ⟨⟨by decide +kernel, by decide +kernel⟩, lw_t5 (List.mem_of_getElem? (i := 65) rfl), lw_t7 (List.mem_of_getElem? (i := 10) rfl), lw_t7 (List.mem_of_getElem? (i := 11) rfl)⟩
theorem lw_p82 : lw_okq (⟨"DoughBorderModel", "warmthOf", "(I)I"⟩, 68) := ⟨⟨by decide +kernel, by decide +kernel⟩, lw_t5 (List.mem_of_getElem? (i := 65) rfl), lw_t7 (List.mem_of_getElem? (i := 14) rfl), lw_t7 (List.mem_of_getElem? (i := 15) rfl)⟩
theorem lw_p83 : lw_okq (⟨"DoughBorderModel", "movesAll", "(IZ)V"⟩, 68) := ⟨⟨by decide +kernel, by decide +kernel⟩, lw_t5 (List.mem_of_getElem? (i := 65) rfl), lw_t7 (List.mem_of_getElem? (i := 22) rfl), lw_t7 (List.mem_of_getElem? (i := 23) rfl)⟩
theorem lw_p84 : lw_okq (⟨"DoughBorderModel", "moves", "(I)I"⟩, 68) := ⟨⟨by decide +kernel, by decide +kernel⟩, lw_t5 (List.mem_of_getElem? (i := 65) rfl), lw_t7 (List.mem_of_getElem? (i := 26) rfl), lw_t7 (List.mem_of_getElem? (i := 27) rfl)⟩
theorem lw_p85 : lw_okq (⟨"DoughBorderModel", "movesRow", "([I)V"⟩, 68) := ⟨⟨by decide +kernel, by decide +kernel⟩, lw_t5 (List.mem_of_getElem? (i := 65) rfl), lw_t7 (List.mem_of_getElem? (i := 30) rfl), lw_t7 (List.mem_of_getElem? (i := 31) rfl)⟩
theorem lw_p86 : lw_okq (⟨"DoughBorderModel", "keepsAct", "()V"⟩, 68) := ⟨⟨by decide +kernel, by decide +kernel⟩, lw_t5 (List.mem_of_getElem? (i := 65) rfl), lw_t7 (List.mem_of_getElem? (i := 38) rfl), lw_t7 (List.mem_of_getElem? (i := 39) rfl)⟩
theorem lw_p87 : lw_okq (⟨"DoughBorderModel", "goesNight", "()I"⟩, 68) := ⟨⟨by decide +kernel, by decide +kernel⟩, lw_t5 (List.mem_of_getElem? (i := 65) rfl), lw_t7 (List.mem_of_getElem? (i := 42) rfl), lw_t7 (List.mem_of_getElem? (i := 43) rfl)⟩
theorem lw_p88 : lw_okq (⟨"DoughBorderModel", "nightOf", "(I)I"⟩, 68) := ⟨⟨by decide +kernel, by decide +kernel⟩, lw_t5 (List.mem_of_getElem? (i := 65) rfl), lw_t7 (List.mem_of_getElem? (i := 46) rfl), lw_t7 (List.mem_of_getElem? (i := 47) rfl)⟩
theorem lw_p89 : lw_okq (⟨"DoughBorderModel", "notesSides", "()V"⟩, 68) := ⟨⟨by decide +kernel, by decide +kernel⟩, lw_t5 (List.mem_of_getElem? (i := 65) rfl), lw_t7 (List.mem_of_getElem? (i := 50) rfl), lw_t7 (List.mem_of_getElem? (i := 51) rfl)⟩
theorem lw_p90 : lw_okq (⟨"DoughBorderModel", "creepOf", "(II)I"⟩, 68) := ⟨⟨by decide +kernel, by decide +kernel⟩, lw_t5 (List.mem_of_getElem? (i := 65) rfl), lw_t7 (List.mem_of_getElem? (i := 54) rfl), lw_t7 (List.mem_of_getElem? (i := 55) rfl)⟩
theorem lw_p91 : lw_okq (⟨"DoughBorderModel", "villagesIn", "(II)I"⟩, 68) := ⟨⟨by decide +kernel, by decide +kernel⟩, lw_t5 (List.mem_of_getElem? (i := 65) rfl), lw_t7 (List.mem_of_getElem? (i := 61) rfl), lw_t7 (List.mem_of_getElem? (i := 62) rfl)⟩
theorem lw_p92 : lw_okq (⟨"DoughBorderModel", "crustOf", "(I)I"⟩, 68) := ⟨⟨by decide +kernel, by decide +kernel⟩, lw_t5 (List.mem_of_getElem? (i := 65) rfl), lw_t7 (List.mem_of_getElem? (i := 65) rfl), lw_t7 (List.mem_of_getElem? (i := 66) rfl)⟩
theorem lw_p93 : lw_okq (⟨"DoughBorderModel", "crept", "()J"⟩, 68) := ⟨⟨by decide +kernel, by decide +kernel⟩, lw_t5 (List.mem_of_getElem? (i := 65) rfl), lw_t7 (List.mem_of_getElem? (i := 69) rfl), lw_t7 (List.mem_of_getElem? (i := 70) rfl)⟩
theorem lw_p94 : lw_okq (⟨"DoughBorderModel", "answer", "(III)J"⟩, 68) := ⟨⟨by decide +kernel, by decide +kernel⟩, lw_t5 (List.mem_of_getElem? (i := 65) rfl), lw_t7 (List.mem_of_getElem? (i := 73) rfl), lw_t7 (List.mem_of_getElem? (i := 74) rfl)⟩
theorem lw_p95 : lw_okq (⟨"DoughBorderModel", "sags", "(I)V"⟩, 68) := ⟨⟨by decide +kernel, by decide +kernel⟩, lw_t5 (List.mem_of_getElem? (i := 65) rfl), lw_t7 (List.mem_of_getElem? (i := 83) rfl), lw_t7 (List.mem_of_getElem? (i := 84) rfl)⟩
def lw_privs_6 : List (MethodName × Nat) := [(⟨"DoughBorderModel", "sideOf", "(I)I"⟩, 68), (⟨"DoughBorderModel", "isStrip", "()Z"⟩, 68), (⟨"DoughBorderModel", "warmthOf", "(I)I"⟩, 68), (⟨"DoughBorderModel", "movesAll", "(IZ)V"⟩, 68), (⟨"DoughBorderModel", "moves", "(I)I"⟩, 68), (⟨"DoughBorderModel", "movesRow", "([I)V"⟩, 68), (⟨"DoughBorderModel", "keepsAct", "()V"⟩, 68), (⟨"DoughBorderModel", "goesNight", "()I"⟩, 68), (⟨"DoughBorderModel", "nightOf", "(I)I"⟩, 68), (⟨"DoughBorderModel", "notesSides", "()V"⟩, 68), (⟨"DoughBorderModel", "creepOf", "(II)I"⟩, 68), (⟨"DoughBorderModel", "villagesIn", "(II)I"⟩, 68), (⟨"DoughBorderModel", "crustOf", "(I)I"⟩, 68), (⟨"DoughBorderModel", "crept", "()J"⟩, 68), (⟨"DoughBorderModel", "answer", "(III)J"⟩, 68), (⟨"DoughBorderModel", "sags", "(I)V"⟩, 68)]
theorem lw_r6 : ∀ q ∈ lw_privs_6, lw_okq q := List.forall_mem_cons.mpr ⟨lw_p80, List.forall_mem_cons.mpr ⟨lw_p81, List.forall_mem_cons.mpr ⟨lw_p82, List.forall_mem_cons.mpr ⟨lw_p83, List.forall_mem_cons.mpr ⟨lw_p84, List.forall_mem_cons.mpr ⟨lw_p85, List.forall_mem_cons.mpr ⟨lw_p86, List.forall_mem_cons.mpr ⟨lw_p87, List.forall_mem_cons.mpr ⟨lw_p88, List.forall_mem_cons.mpr ⟨lw_p89, List.forall_mem_cons.mpr ⟨lw_p90, List.forall_mem_cons.mpr ⟨lw_p91, List.forall_mem_cons.mpr ⟨lw_p92, List.forall_mem_cons.mpr ⟨lw_p93, List.forall_mem_cons.mpr ⟨lw_p94, List.forall_mem_cons.mpr ⟨lw_p95, fun _ h => absurd h List.not_mem_nil⟩⟩⟩⟩⟩⟩⟩⟩⟩⟩⟩⟩⟩⟩⟩⟩
theorem lw_p96 : lw_okq (⟨"DoughBorderModel", "crossing", "()I"⟩, 68) := ⟨⟨by decide +kernel, by decide +kernel⟩, lw_t5 (List.mem_of_getElem? (i := 65) rfl), lw_t7 (List.mem_of_getElem? (i := 89) rfl), lw_t7 (List.mem_of_getElem? (i := 90) rfl)⟩
theorem lw_p97 : lw_okq (⟨"DoughBorderModel", "isSoft", "(I)Z"⟩, 68) := ⟨⟨by decide +kernel, by decide +kernel⟩, lw_t5 (List.mem_of_getElem? (i := 65) rfl), lw_t7 (List.mem_of_getElem? (i := 97) rfl), lw_t7 (List.mem_of_getElem? (i := 98) rfl)⟩
theorem lw_p98 : lw_okq (⟨"DoughBorderModel", "pushes", "(II)V"⟩, 68) := ⟨⟨by decide +kernel, by decide +kernel⟩, lw_t5 (List.mem_of_getElem? (i := 65) rfl), lw_t7 (List.mem_of_getElem? (i := 103) rfl), lw_t7 (List.mem_of_getElem? (i := 104) rfl)⟩
theorem lw_p99 : lw_okq (⟨"DoughBorderModel", "keepsAll", "()V"⟩, 68) := ⟨⟨by decide +kernel, by decide +kernel⟩, lw_t5 (List.mem_of_getElem? (i := 65) rfl), lw_t7 (List.mem_of_getElem? (i := 130) rfl), lw_t7 (List.mem_of_getElem? (i := 131) rfl)⟩
theorem lw_p100 : lw_okq (⟨"DoughBorderModel", "carriesAll", "(IZ)V"⟩, 68) := ⟨⟨by decide +kernel, by decide +kernel⟩, lw_t5 (List.mem_of_getElem? (i := 65) rfl), lw_t7 (List.mem_of_getElem? (i := 134) rfl), lw_t7 (List.mem_of_getElem? (i := 135) rfl)⟩
theorem lw_p101 : lw_okq (⟨"DoughBorderModel", "carryRow", "([I)V"⟩, 68) := ⟨⟨by decide +kernel, by decide +kernel⟩, lw_t5 (List.mem_of_getElem? (i := 65) rfl), lw_t7 (List.mem_of_getElem? (i := 138) rfl), lw_t7 (List.mem_of_getElem? (i := 139) rfl)⟩
theorem lw_p102 : lw_okq (⟨"DoughBorderModel", "goes", "(I)I"⟩, 68) := ⟨⟨by decide +kernel, by decide +kernel⟩, lw_t5 (List.mem_of_getElem? (i := 65) rfl), lw_t7 (List.mem_of_getElem? (i := 142) rfl), lw_t7 (List.mem_of_getElem? (i := 143) rfl)⟩
theorem lw_p103 : lw_okq (⟨"DoughBorderModel", "villagesOn", "(I)I"⟩, 68) := ⟨⟨by decide +kernel, by decide +kernel⟩, lw_t5 (List.mem_of_getElem? (i := 65) rfl), lw_t7 (List.mem_of_getElem? (i := 146) rfl), lw_t7 (List.mem_of_getElem? (i := 147) rfl)⟩
theorem lw_p104 : lw_okq (⟨"DoughBorderModel", "laysBack", "()V"⟩, 68) := ⟨⟨by decide +kernel, by decide +kernel⟩, lw_t5 (List.mem_of_getElem? (i := 65) rfl), lw_t7 (List.mem_of_getElem? (i := 150) rfl), lw_t7 (List.mem_of_getElem? (i := 151) rfl)⟩
theorem lw_p105 : lw_okq (⟨"DoughBorderModel", "findsPush", "(I)I"⟩, 68) := ⟨⟨by decide +kernel, by decide +kernel⟩, lw_t5 (List.mem_of_getElem? (i := 65) rfl), lw_t7 (List.mem_of_getElem? (i := 162) rfl), lw_t7 (List.mem_of_getElem? (i := 163) rfl)⟩
theorem lw_p106 : lw_okq (⟨"DoughBorderModel", "pushesBy", "(I)I"⟩, 68) := ⟨⟨by decide +kernel, by decide +kernel⟩, lw_t5 (List.mem_of_getElem? (i := 65) rfl), lw_t7 (List.mem_of_getElem? (i := 166) rfl), lw_t7 (List.mem_of_getElem? (i := 167) rfl)⟩
theorem lw_p107 : lw_okq (⟨"DoughBorderModel", "areWantsSo", "()Z"⟩, 68) := ⟨⟨by decide +kernel, by decide +kernel⟩, lw_t5 (List.mem_of_getElem? (i := 65) rfl), lw_t7 (List.mem_of_getElem? (i := 170) rfl), lw_t7 (List.mem_of_getElem? (i := 171) rfl)⟩
theorem lw_p108 : lw_okq (⟨"DoughBorderModel", "playsDukes", "(I)I"⟩, 68) := ⟨⟨by decide +kernel, by decide +kernel⟩, lw_t5 (List.mem_of_getElem? (i := 65) rfl), lw_t7 (List.mem_of_getElem? (i := 178) rfl), lw_t7 (List.mem_of_getElem? (i := 179) rfl)⟩
theorem lw_p109 : lw_okq (⟨"DoughBorderModel", "movesDuke", "(IZ)V"⟩, 68) := ⟨⟨by decide +kernel, by decide +kernel⟩, lw_t5 (List.mem_of_getElem? (i := 65) rfl), lw_t7 (List.mem_of_getElem? (i := 182) rfl), lw_t7 (List.mem_of_getElem? (i := 183) rfl)⟩
theorem lw_p110 : lw_okq (⟨"DoughBorderModel", "westLessEast", "()I"⟩, 68) := ⟨⟨by decide +kernel, by decide +kernel⟩, lw_t5 (List.mem_of_getElem? (i := 65) rfl), lw_t7 (List.mem_of_getElem? (i := 186) rfl), lw_t7 (List.mem_of_getElem? (i := 187) rfl)⟩
theorem lw_p111 : lw_okq (⟨"DoughBorderModel", "takesWorth", "(II)V"⟩, 68) := ⟨⟨by decide +kernel, by decide +kernel⟩, lw_t5 (List.mem_of_getElem? (i := 65) rfl), lw_t7 (List.mem_of_getElem? (i := 193) rfl), lw_t7 (List.mem_of_getElem? (i := 194) rfl)⟩
def lw_privs_7 : List (MethodName × Nat) := [(⟨"DoughBorderModel", "crossing", "()I"⟩, 68), (⟨"DoughBorderModel", "isSoft", "(I)Z"⟩, 68), (⟨"DoughBorderModel", "pushes", "(II)V"⟩, 68), (⟨"DoughBorderModel", "keepsAll", "()V"⟩, 68), (⟨"DoughBorderModel", "carriesAll", "(IZ)V"⟩, 68), (⟨"DoughBorderModel", "carryRow", "([I)V"⟩, 68), (⟨"DoughBorderModel", "goes", "(I)I"⟩, 68), (⟨"DoughBorderModel", "villagesOn", "(I)I"⟩, 68), (⟨"DoughBorderModel", "laysBack", "()V"⟩, 68), (⟨"DoughBorderModel", "findsPush", "(I)I"⟩, 68), (⟨"DoughBorderModel", "pushesBy", "(I)I"⟩, 68), (⟨"DoughBorderModel", "areWantsSo", "()Z"⟩, 68), (⟨"DoughBorderModel", "playsDukes", "(I)I"⟩, 68), (⟨"DoughBorderModel", "movesDuke", "(IZ)V"⟩, 68), (⟨"DoughBorderModel", "westLessEast", "()I"⟩, 68), (⟨"DoughBorderModel", "takesWorth", "(II)V"⟩, 68)]
theorem lw_r7 : ∀ q ∈ lw_privs_7, lw_okq q := List.forall_mem_cons.mpr ⟨lw_p96, List.forall_mem_cons.mpr ⟨lw_p97, List.forall_mem_cons.mpr ⟨lw_p98, List.forall_mem_cons.mpr ⟨lw_p99, List.forall_mem_cons.mpr ⟨lw_p100, List.forall_mem_cons.mpr ⟨lw_p101, List.forall_mem_cons.mpr ⟨lw_p102, List.forall_mem_cons.mpr ⟨lw_p103, List.forall_mem_cons.mpr ⟨lw_p104, List.forall_mem_cons.mpr ⟨lw_p105, List.forall_mem_cons.mpr ⟨lw_p106, List.forall_mem_cons.mpr ⟨lw_p107, List.forall_mem_cons.mpr ⟨lw_p108, List.forall_mem_cons.mpr ⟨lw_p109, List.forall_mem_cons.mpr ⟨lw_p110, List.forall_mem_cons.mpr ⟨lw_p111, fun _ h => absurd h List.not_mem_nil⟩⟩⟩⟩⟩⟩⟩⟩⟩⟩⟩⟩⟩⟩⟩⟩
theorem lw_p112 : lw_okq (⟨"DoughBorderModel", "goesDuke", "(I)V"⟩, 68) := ⟨⟨by decide +kernel, by decide +kernel⟩, lw_t5 (List.mem_of_getElem? (i := 65) rfl), lw_t7 (List.mem_of_getElem? (i := 200) rfl), lw_t7 (List.mem_of_getElem? (i := 201) rfl)⟩
theorem lw_p113 : lw_okq (⟨"DoughBorderModel", "opensDuke", "(II)V"⟩, 68) := ⟨⟨by decide +kernel, by decide +kernel⟩, lw_t5 (List.mem_of_getElem? (i := 65) rfl), lw_t7 (List.mem_of_getElem? (i := 204) rfl), lw_t7 (List.mem_of_getElem? (i := 205) rfl)⟩
theorem lw_p114 : lw_okq (⟨"DoughBorderModel", "doesFit", "(III)Z"⟩, 68) := ⟨⟨by decide +kernel, by decide +kernel⟩, lw_t5 (List.mem_of_getElem? (i := 65) rfl), lw_t7 (List.mem_of_getElem? (i := 217) rfl), lw_t7 (List.mem_of_getElem? (i := 218) rfl)⟩
theorem lw_p115 : lw_okq (⟨"DoughBorderModel", "laysCourse", "(IIII)V"⟩, 68) := ⟨⟨by decide +kernel, by decide +kernel⟩, lw_t5 (List.mem_of_getElem? (i := 65) rfl), lw_t7 (List.mem_of_getElem? (i := 221) rfl), lw_t7 (List.mem_of_getElem? (i := 222) rfl)⟩
theorem lw_p116 : lw_okq (⟨"DoughBorderModel", "ownNights", "(IIII)I"⟩, 68) := ⟨⟨by decide +kernel, by decide +kernel⟩, lw_t5 (List.mem_of_getElem? (i := 65) rfl), lw_t7 (List.mem_of_getElem? (i := 234) rfl), lw_t7 (List.mem_of_getElem? (i := 235) rfl)⟩
theorem lw_p117 : lw_okq (⟨"DoughBorderModel", "draws", "(I)I"⟩, 68) := ⟨⟨by decide +kernel, by decide +kernel⟩, lw_t5 (List.mem_of_getElem? (i := 65) rfl), lw_t8 (List.mem_of_getElem? (i := 15) rfl), lw_t8 (List.mem_of_getElem? (i := 16) rfl)⟩
theorem lw_p118 : lw_okq (⟨"DoughBorderModel", "crossedAll", "()I"⟩, 68) := ⟨⟨by decide +kernel, by decide +kernel⟩, lw_t5 (List.mem_of_getElem? (i := 65) rfl), lw_t8 (List.mem_of_getElem? (i := 27) rfl), lw_t8 (List.mem_of_getElem? (i := 28) rfl)⟩
def lw_privs_8 : List (MethodName × Nat) := [(⟨"DoughBorderModel", "goesDuke", "(I)V"⟩, 68), (⟨"DoughBorderModel", "opensDuke", "(II)V"⟩, 68), (⟨"DoughBorderModel", "doesFit", "(III)Z"⟩, 68), (⟨"DoughBorderModel", "laysCourse", "(IIII)V"⟩, 68), (⟨"DoughBorderModel", "ownNights", "(IIII)I"⟩, 68), (⟨"DoughBorderModel", "draws", "(I)I"⟩, 68), (⟨"DoughBorderModel", "crossedAll", "()I"⟩, 68)]
theorem lw_r8 : ∀ q ∈ lw_privs_8, lw_okq q := List.forall_mem_cons.mpr ⟨lw_p112, List.forall_mem_cons.mpr ⟨lw_p113, List.forall_mem_cons.mpr ⟨lw_p114, List.forall_mem_cons.mpr ⟨lw_p115, List.forall_mem_cons.mpr ⟨lw_p116, List.forall_mem_cons.mpr ⟨lw_p117, List.forall_mem_cons.mpr ⟨lw_p118, fun _ h => absurd h List.not_mem_nil⟩⟩⟩⟩⟩⟩⟩
def lw_privs : List (MethodName × Nat) := lw_privs_1 ++ (lw_privs_2 ++ (lw_privs_3 ++ (lw_privs_4 ++ (lw_privs_5 ++ (lw_privs_6 ++ (lw_privs_7 ++ (lw_privs_8)))))))
def lw_tbl : List Cond := k2_sels lw_privs ++ tables_1
theorem lw_privs_ok : ∀ q ∈ lw_privs, lw_okq q := by
  show ∀ q ∈ lw_privs_1 ++ (lw_privs_2 ++ (lw_privs_3 ++ (lw_privs_4 ++ (lw_privs_5 ++ (lw_privs_6 ++ (lw_privs_7 ++ (lw_privs_8))))))), lw_okq q
  exact List.forall_mem_append.mpr ⟨lw_r1, List.forall_mem_append.mpr ⟨lw_r2, List.forall_mem_append.mpr ⟨lw_r3, List.forall_mem_append.mpr ⟨lw_r4, List.forall_mem_append.mpr ⟨lw_r5, List.forall_mem_append.mpr ⟨lw_r6, List.forall_mem_append.mpr ⟨lw_r7, lw_r8⟩⟩⟩⟩⟩⟩⟩
-- ===== ONE list of words for every method: the tables' words that hold all through a run =====
def lw_all : List Cond := lw_tbl.filter goodWord
/-- a word of the tables by its place: claim/WORDS.tsv -/
theorem lw_w {w : Cond} (i : Nat) (h : lw_tbl[i]? = some w) (g : goodWord w = true) : w ∈ lw_all := List.mem_filter.mpr ⟨List.mem_of_getElem? h, g⟩
theorem lw_all_tbl {w : Cond} (h : w ∈ lw_all) : w ∈ lw_tbl := (List.mem_filter.mp h).1
theorem lw_self : GoodIn lw_all lw_all := fun w h => ⟨h, good_of_word (List.mem_filter.mp h).2⟩
/-- a class's field words, by their places -/
theorem lw_in (ws : List Cond) (ps : List Nat) (hp : ws = ps.filterMap (fun i => lw_tbl[i]?)) (hg : ws.all goodWord = true) : ∀ w ∈ ws, w ∈ lw_all := by
  intro w h
  have h1 := List.all_eq_true.mp hg w h
  rw [hp] at h
  obtain ⟨i, -, hi⟩ := List.mem_filterMap.mp h
  exact lw_w i hi h1
/-- the words of a contract for the method y with code b, L locals, answer r -/
abbrev ws_ (y : MethodName) (b : ByteArray) (L : Nat) (r : Option FieldType) : List Cond := Cond.code y b L r :: lw_all
theorem lw_meth {y : MethodName} {b : ByteArray} {L : Nat} {r : Option FieldType} (h : Cond.code y b L r ∈ lw_all) : GoodIn lw_all (ws_ y b L r) := by
  intro w hw
  rcases List.mem_cons.mp hw with e | e
  · rw [e]
    exact lw_self _ h
  · exact lw_self _ e
theorem lw_app {a c : List Cond} (ha : ∀ w ∈ a, w ∈ lw_all) (hc : GoodIn lw_all c) : GoodIn lw_all (a ++ c) := by
  intro w hw
  rcases List.mem_append.mp hw with e | e
  · exact lw_self w (ha w e)
  · exact hc w e
/-- what a call through an object asks: cwV n hts (lw_V ..) -/
theorem lw_V {own : String} {idx : Nat} {C : String} {y : MethodName} {b : ByteArray} {L : Nat} {r : Option FieldType} (h1 : Cond.methodLink own idx y ∈ lw_all) (h2 : Cond.instanceMethod y ∈ lw_all) (h3 : Cond.selects C y y ∈ lw_all) (h4 : Cond.initialized C ∈ lw_all) (h5 : Cond.code y b L r ∈ lw_all) : GoodIn lw_all (wsV own idx C y (ws_ y b L r)) := by
  refine lw_app ?_ (lw_meth h5)
  intro w hw
  simp only [List.mem_cons, List.not_mem_nil, or_false] at hw
  rcases hw with e | e | e | e
  · rw [e]; exact h1
  · rw [e]; exact h2
  · rw [e]; exact h3
  · rw [e]; exact h4
/-- what a static call asks: va_cwS n hts (lw_S ..) -/
theorem lw_S {own : String} {idx : Nat} {y : MethodName} {b : ByteArray} {L : Nat} {r : Option FieldType} (h1 : Cond.methodLink own idx y ∈ lw_all) (h2 : Cond.static y ∈ lw_all) (h3 : Cond.initialized y.cls ∈ lw_all) (h4 : Cond.code y b L r ∈ lw_all) : GoodIn lw_all (va_wsS own idx y (ws_ y b L r)) := by
  refine lw_app ?_ (lw_meth h4)
  intro w hw
  simp only [List.mem_cons, List.not_mem_nil, or_false] at hw
  rcases hw with e | e | e
  · rw [e]; exact h1
  · rw [e]; exact h2
  · rw [e]; exact h3
/-- the words of a contract for a method WITH HANDLERS (hh: its table) -/
abbrev wsW_ (y : MethodName) (b : ByteArray) (L : Nat) (r : Option FieldType) (hh : List (Nat × Nat × Nat × Nat)) : List Cond := Cond.codeWith y b L r hh :: lw_all
theorem lw_methW {y : MethodName} {b : ByteArray} {L : Nat} {r : Option FieldType} {hh : List (Nat × Nat × Nat × Nat)} (h : Cond.codeWith y b L r hh ∈ lw_all) : GoodIn lw_all (wsW_ y b L r hh) := by
  intro w hw
  rcases List.mem_cons.mp hw with e | e
  · rw [e]
    exact lw_self _ h
  · exact lw_self _ e
/-- any list of words by their places (lw_in), good -/
theorem lw_good {ws : List Cond} (h : ∀ w ∈ ws, w ∈ lw_all) : GoodIn lw_all ws := fun w hw => lw_self w (h w hw)
/-- what a call of a method with handlers asks: vx_cwVW n hts (lw_VW ..), vx_cwSW n hts (lw_SW ..) -/
theorem lw_VW {own : String} {idx : Nat} {C : String} {y : MethodName} {b : ByteArray} {L : Nat} {r : Option FieldType} {hh : List (Nat × Nat × Nat × Nat)} (h1 : Cond.methodLink own idx y ∈ lw_all) (h2 : Cond.instanceMethod y ∈ lw_all) (h3 : Cond.selects C y y ∈ lw_all) (h4 : Cond.initialized C ∈ lw_all) (h5 : Cond.codeWith y b L r hh ∈ lw_all) : GoodIn lw_all (wsV own idx C y (wsW_ y b L r hh)) := by
  refine lw_app ?_ (lw_methW h5)
  intro w hw
  simp only [List.mem_cons, List.not_mem_nil, or_false] at hw
  rcases hw with e | e | e | e
  · rw [e]; exact h1
  · rw [e]; exact h2
  · rw [e]; exact h3
  · rw [e]; exact h4
theorem lw_SW {own : String} {idx : Nat} {y : MethodName} {b : ByteArray} {L : Nat} {r : Option FieldType} {hh : List (Nat × Nat × Nat × Nat)} (h1 : Cond.methodLink own idx y ∈ lw_all) (h2 : Cond.static y ∈ lw_all) (h3 : Cond.initialized y.cls ∈ lw_all) (h4 : Cond.codeWith y b L r hh ∈ lw_all) : GoodIn lw_all (va_wsS own idx y (wsW_ y b L r hh)) := by
  refine lw_app ?_ (lw_methW h4)
  intro w hw
  simp only [List.mem_cons, List.not_mem_nil, or_false] at hw
  rcases hw with e | e | e
  · rw [e]; exact h1
  · rw [e]; exact h2
  · rw [e]; exact h3
/-- a word by its place in its run of the tables -/
theorem lw_at {r : List Cond} (hr : ∀ w ∈ r, w ∈ lw_tbl) {w : Cond} (i : Nat) (h : r[i]? = some w) : w ∈ lw_tbl := hr w (List.mem_of_getElem? h)
theorem lw_g {w : Cond} (h : w ∈ lw_tbl) (g : goodWord w = true) : w ∈ lw_all := List.mem_filter.mpr ⟨h, g⟩
theorem lw_ms : ∀ w ∈ k2_sels lw_privs, w ∈ lw_tbl := fun w h => show w ∈ k2_sels lw_privs ++ tables_1 from List.mem_append_left _ h
theorem lw_m1 : ∀ w ∈ tables_1_1, w ∈ lw_tbl := fun w h => show w ∈ k2_sels lw_privs ++ tables_1 from List.mem_append_right (k2_sels lw_privs) (show w ∈ tables_1 from List.mem_append_left _ h)
theorem lw_m2 : ∀ w ∈ tables_1_2, w ∈ lw_tbl := fun w h => show w ∈ k2_sels lw_privs ++ tables_1 from List.mem_append_right (k2_sels lw_privs) (show w ∈ tables_1 from List.mem_append_right _ (List.mem_append_left _ h))
theorem lw_m3 : ∀ w ∈ tables_1_3, w ∈ lw_tbl := fun w h => show w ∈ k2_sels lw_privs ++ tables_1 from List.mem_append_right (k2_sels lw_privs) (show w ∈ tables_1 from List.mem_append_right _ (List.mem_append_right _ (List.mem_append_left _ h)))
theorem lw_m4 : ∀ w ∈ tables_1_4, w ∈ lw_tbl := fun w h => show w ∈ k2_sels lw_privs ++ tables_1 from List.mem_append_right (k2_sels lw_privs) (show w ∈ tables_1 from List.mem_append_right _ (List.mem_append_right _ (List.mem_append_right _ (List.mem_append_left _ h))))
theorem lw_m5 : ∀ w ∈ tables_1_5, w ∈ lw_tbl := fun w h => show w ∈ k2_sels lw_privs ++ tables_1 from List.mem_append_right (k2_sels lw_privs) (show w ∈ tables_1 from List.mem_append_right _ (List.mem_append_right _ (List.mem_append_right _ (List.mem_append_right _ (List.mem_append_left _ h)))))
theorem lw_m6 : ∀ w ∈ tables_1_6, w ∈ lw_tbl := fun w h => show w ∈ k2_sels lw_privs ++ tables_1 from List.mem_append_right (k2_sels lw_privs) (show w ∈ tables_1 from List.mem_append_right _ (List.mem_append_right _ (List.mem_append_right _ (List.mem_append_right _ (List.mem_append_right _ (List.mem_append_left _ h))))))
theorem lw_m7 : ∀ w ∈ tables_1_7, w ∈ lw_tbl := fun w h => show w ∈ k2_sels lw_privs ++ tables_1 from List.mem_append_right (k2_sels lw_privs) (show w ∈ tables_1 from List.mem_append_right _ (List.mem_append_right _ (List.mem_append_right _ (List.mem_append_right _ (List.mem_append_right _ (List.mem_append_right _ (List.mem_append_left _ h)))))))
theorem lw_m8 : ∀ w ∈ tables_1_8, w ∈ lw_tbl := fun w h => show w ∈ k2_sels lw_privs ++ tables_1 from List.mem_append_right (k2_sels lw_privs) (show w ∈ tables_1 from List.mem_append_right _ (List.mem_append_right _ (List.mem_append_right _ (List.mem_append_right _ (List.mem_append_right _ (List.mem_append_right _ (List.mem_append_right _ h)))))))
theorem qs0 : (Cond.selects "java/lang/Throwable" ⟨"java/lang/Throwable", "fillInStackTrace", "(I)Ljava/lang/Throwable;"⟩ ⟨"java/lang/Throwable", "fillInStackTrace", "(I)Ljava/lang/Throwable;"⟩) ∈ lw_all := lw_g (lw_at lw_ms 0 rfl) rfl
theorem qs1 : (Cond.selects "DoughBorder" ⟨"DoughBorder", "four", "(I)V"⟩ ⟨"DoughBorder", "four", "(I)V"⟩) ∈ lw_all := lw_g (lw_at lw_ms 1 rfl) rfl
theorem qs2 : (Cond.selects "DoughBorder$Text" ⟨"DoughBorder$Text", "see", "()I"⟩ ⟨"DoughBorder$Text", "see", "()I"⟩) ∈ lw_all := lw_g (lw_at lw_ms 2 rfl) rfl
theorem qs3 : (Cond.selects "DoughBorder$Text" ⟨"DoughBorder$Text", "oneOf", "([Ljava/lang/String;)I"⟩ ⟨"DoughBorder$Text", "oneOf", "([Ljava/lang/String;)I"⟩) ∈ lw_all := lw_g (lw_at lw_ms 3 rfl) rfl
theorem qs4 : (Cond.selects "DoughBorder$Text" ⟨"DoughBorder$Text", "isWord", "(Ljava/lang/String;)Z"⟩ ⟨"DoughBorder$Text", "isWord", "(Ljava/lang/String;)Z"⟩) ∈ lw_all := lw_g (lw_at lw_ms 4 rfl) rfl
theorem qs5 : (Cond.selects "DoughBorder$Text" ⟨"DoughBorder$Text", "letters", "()I"⟩ ⟨"DoughBorder$Text", "letters", "()I"⟩) ∈ lw_all := lw_g (lw_at lw_ms 5 rfl) rfl
theorem qs6 : (Cond.selects "DoughBorder$Text" ⟨"DoughBorder$Text", "demand", "(ZII)V"⟩ ⟨"DoughBorder$Text", "demand", "(ZII)V"⟩) ∈ lw_all := lw_g (lw_at lw_ms 6 rfl) rfl
theorem qs7 : (Cond.selects "DoughBorder$Text" ⟨"DoughBorder$Text", "canBe", "(I)Z"⟩ ⟨"DoughBorder$Text", "canBe", "(I)Z"⟩) ∈ lw_all := lw_g (lw_at lw_ms 7 rfl) rfl
theorem qs8 : (Cond.selects "DoughBorder$Text" ⟨"DoughBorder$Text", "line", "(I)V"⟩ ⟨"DoughBorder$Text", "line", "(I)V"⟩) ∈ lw_all := lw_g (lw_at lw_ms 8 rfl) rfl
theorem qs9 : (Cond.selects "DoughBorder$Text" ⟨"DoughBorder$Text", "stripHere", "()V"⟩ ⟨"DoughBorder$Text", "stripHere", "()V"⟩) ∈ lw_all := lw_g (lw_at lw_ms 9 rfl) rfl
theorem qs10 : (Cond.selects "DoughBorder$Text" ⟨"DoughBorder$Text", "number", "(II)I"⟩ ⟨"DoughBorder$Text", "number", "(II)I"⟩) ∈ lw_all := lw_g (lw_at lw_ms 10 rfl) rfl
theorem qs11 : (Cond.selects "DoughBorder$Text" ⟨"DoughBorder$Text", "isDigit", "(I)Z"⟩ ⟨"DoughBorder$Text", "isDigit", "(I)Z"⟩) ∈ lw_all := lw_g (lw_at lw_ms 11 rfl) rfl
theorem qs12 : (Cond.selects "DoughBorder$Text" ⟨"DoughBorder$Text", "mileHere", "()I"⟩ ⟨"DoughBorder$Text", "mileHere", "()I"⟩) ∈ lw_all := lw_g (lw_at lw_ms 12 rfl) rfl
theorem qs13 : (Cond.selects "DoughBorder$Text" ⟨"DoughBorder$Text", "warmHere", "()V"⟩ ⟨"DoughBorder$Text", "warmHere", "()V"⟩) ∈ lw_all := lw_g (lw_at lw_ms 13 rfl) rfl
theorem qs14 : (Cond.selects "DoughBorder$Text" ⟨"DoughBorder$Text", "takesSign", "(I)Z"⟩ ⟨"DoughBorder$Text", "takesSign", "(I)Z"⟩) ∈ lw_all := lw_g (lw_at lw_ms 14 rfl) rfl
theorem qs15 : (Cond.selects "DoughBorder$Text" ⟨"DoughBorder$Text", "ends", "()V"⟩ ⟨"DoughBorder$Text", "ends", "()V"⟩) ∈ lw_all := lw_g (lw_at lw_ms 15 rfl) rfl
theorem qs16 : (Cond.selects "DoughBorder" ⟨"DoughBorder", "faulted", "()I"⟩ ⟨"DoughBorder", "faulted", "()I"⟩) ∈ lw_all := lw_g (lw_at lw_ms 16 rfl) rfl
theorem qs17 : (Cond.selects "DoughBorder$Text" ⟨"DoughBorder$Text", "clauseHere", "()LDoughBorder$Clause;"⟩ ⟨"DoughBorder$Text", "clauseHere", "()LDoughBorder$Clause;"⟩) ∈ lw_all := lw_g (lw_at lw_ms 17 rfl) rfl
theorem qs18 : (Cond.selects "DoughBorder$Text" ⟨"DoughBorder$Text", "sum", "()LDoughBorder$Value;"⟩ ⟨"DoughBorder$Text", "sum", "()LDoughBorder$Value;"⟩) ∈ lw_all := lw_g (lw_at lw_ms 18 rfl) rfl
theorem qs19 : (Cond.selects "DoughBorder$Text" ⟨"DoughBorder$Text", "term", "()LDoughBorder$Value;"⟩ ⟨"DoughBorder$Text", "term", "()LDoughBorder$Value;"⟩) ∈ lw_all := lw_g (lw_at lw_ms 19 rfl) rfl
theorem qs20 : (Cond.selects "DoughBorder$Text" ⟨"DoughBorder$Text", "value", "()LDoughBorder$Value;"⟩ ⟨"DoughBorder$Text", "value", "()LDoughBorder$Value;"⟩) ∈ lw_all := lw_g (lw_at lw_ms 20 rfl) rfl
theorem qs21 : (Cond.selects "DoughBorder$Text" ⟨"DoughBorder$Text", "makes", "(I)V"⟩ ⟨"DoughBorder$Text", "makes", "(I)V"⟩) ∈ lw_all := lw_g (lw_at lw_ms 21 rfl) rfl
theorem qs22 : (Cond.selects "DoughBorder$Text" ⟨"DoughBorder$Text", "takesWord", "(Ljava/lang/String;)Z"⟩ ⟨"DoughBorder$Text", "takesWord", "(Ljava/lang/String;)Z"⟩) ∈ lw_all := lw_g (lw_at lw_ms 22 rfl) rfl
theorem qs23 : (Cond.selects "DoughBorder$Text" ⟨"DoughBorder$Text", "tested", "()LDoughBorder$Test;"⟩ ⟨"DoughBorder$Text", "tested", "()LDoughBorder$Test;"⟩) ∈ lw_all := lw_g (lw_at lw_ms 23 rfl) rfl
theorem qs24 : (Cond.selects "DoughBorder$Text" ⟨"DoughBorder$Text", "parted", "()LDoughBorder$Test;"⟩ ⟨"DoughBorder$Text", "parted", "()LDoughBorder$Test;"⟩) ∈ lw_all := lw_g (lw_at lw_ms 24 rfl) rfl
theorem qs25 : (Cond.selects "DoughBorder$Text" ⟨"DoughBorder$Text", "fact", "()LDoughBorder$Test;"⟩ ⟨"DoughBorder$Text", "fact", "()LDoughBorder$Test;"⟩) ∈ lw_all := lw_g (lw_at lw_ms 25 rfl) rfl
theorem qs26 : (Cond.selects "DoughBorder$Text" ⟨"DoughBorder$Text", "opens", "(I)V"⟩ ⟨"DoughBorder$Text", "opens", "(I)V"⟩) ∈ lw_all := lw_g (lw_at lw_ms 26 rfl) rfl
theorem qs27 : (Cond.selects "DoughBorder$Text" ⟨"DoughBorder$Text", "sign", "()I"⟩ ⟨"DoughBorder$Text", "sign", "()I"⟩) ∈ lw_all := lw_g (lw_at lw_ms 27 rfl) rfl
theorem qs28 : (Cond.selects "DoughBorder" ⟨"DoughBorder", "isMile", "(I)Z"⟩ ⟨"DoughBorder", "isMile", "(I)Z"⟩) ∈ lw_all := lw_g (lw_at lw_ms 28 rfl) rfl
theorem qs29 : (Cond.selects "DoughBorder" ⟨"DoughBorder", "isVillage", "(I)Z"⟩ ⟨"DoughBorder", "isVillage", "(I)Z"⟩) ∈ lw_all := lw_g (lw_at lw_ms 29 rfl) rfl
theorem qs30 : (Cond.selects "DoughBorder" ⟨"DoughBorder", "keepsAct", "()V"⟩ ⟨"DoughBorder", "keepsAct", "()V"⟩) ∈ lw_all := lw_g (lw_at lw_ms 30 rfl) rfl
theorem qs31 : (Cond.selects "DoughBorder" ⟨"DoughBorder", "law", "()LDoughBorder$Rule;"⟩ ⟨"DoughBorder", "law", "()LDoughBorder$Rule;"⟩) ∈ lw_all := lw_g (lw_at lw_ms 31 rfl) rfl
theorem qs32 : (Cond.selects "DoughBorder$Dough" ⟨"DoughBorder$Dough", "creepOf", "(IILDoughBorder$Rule;)I"⟩ ⟨"DoughBorder$Dough", "creepOf", "(IILDoughBorder$Rule;)I"⟩) ∈ lw_all := lw_g (lw_at lw_ms 32 rfl) rfl
theorem qs33 : (Cond.selects "DoughBorder$Dough" ⟨"DoughBorder$Dough", "fillsWords", "(II)V"⟩ ⟨"DoughBorder$Dough", "fillsWords", "(II)V"⟩) ∈ lw_all := lw_g (lw_at lw_ms 33 rfl) rfl
theorem qs34 : (Cond.selects "DoughBorder$Dough" ⟨"DoughBorder$Dough", "sags", "(I)V"⟩ ⟨"DoughBorder$Dough", "sags", "(I)V"⟩) ∈ lw_all := lw_g (lw_at lw_ms 34 rfl) rfl
theorem qs35 : (Cond.selects "DoughBorder" ⟨"DoughBorder", "isSoft", "(I)Z"⟩ ⟨"DoughBorder", "isSoft", "(I)Z"⟩) ∈ lw_all := lw_g (lw_at lw_ms 35 rfl) rfl
theorem qs36 : (Cond.selects "DoughBorder" ⟨"DoughBorder", "preparesDeep", "(I)V"⟩ ⟨"DoughBorder", "preparesDeep", "(I)V"⟩) ∈ lw_all := lw_g (lw_at lw_ms 36 rfl) rfl
theorem qs37 : (Cond.selects "DoughBorder" ⟨"DoughBorder", "triesPushes", "(III)V"⟩ ⟨"DoughBorder", "triesPushes", "(III)V"⟩) ∈ lw_all := lw_g (lw_at lw_ms 37 rfl) rfl
theorem qs38 : (Cond.selects "DoughBorder" ⟨"DoughBorder", "worthFrom", "(II)I"⟩ ⟨"DoughBorder", "worthFrom", "(II)I"⟩) ∈ lw_all := lw_g (lw_at lw_ms 38 rfl) rfl
theorem qs39 : (Cond.selects "DoughBorder" ⟨"DoughBorder", "gathersThefts", "(I)V"⟩ ⟨"DoughBorder", "gathersThefts", "(I)V"⟩) ∈ lw_all := lw_g (lw_at lw_ms 39 rfl) rfl
theorem qs40 : (Cond.selects "DoughBorder" ⟨"DoughBorder", "canBeTheft", "(III)Z"⟩ ⟨"DoughBorder", "canBeTheft", "(III)Z"⟩) ∈ lw_all := lw_g (lw_at lw_ms 40 rfl) rfl
theorem qs41 : (Cond.selects "DoughBorder" ⟨"DoughBorder", "doughAt", "(IIIII)I"⟩ ⟨"DoughBorder", "doughAt", "(IIIII)I"⟩) ∈ lw_all := lw_g (lw_at lw_ms 41 rfl) rfl
theorem qs42 : (Cond.selects "DoughBorder" ⟨"DoughBorder", "alikeAt", "(III)I"⟩ ⟨"DoughBorder", "alikeAt", "(III)I"⟩) ∈ lw_all := lw_g (lw_at lw_ms 42 rfl) rfl
theorem qs43 : (Cond.selects "DoughBorder" ⟨"DoughBorder", "ownNights", "(IIII)I"⟩ ⟨"DoughBorder", "ownNights", "(IIII)I"⟩) ∈ lw_all := lw_g (lw_at lw_ms 43 rfl) rfl
theorem qs44 : (Cond.selects "DoughBorder" ⟨"DoughBorder", "isPeace", "(II)Z"⟩ ⟨"DoughBorder", "isPeace", "(II)Z"⟩) ∈ lw_all := lw_g (lw_at lw_ms 44 rfl) rfl
theorem qs45 : (Cond.selects "DoughBorder" ⟨"DoughBorder", "draw", "(I)I"⟩ ⟨"DoughBorder", "draw", "(I)I"⟩) ∈ lw_all := lw_g (lw_at lw_ms 45 rfl) rfl
theorem qs46 : (Cond.selects "DoughBorderModel" ⟨"DoughBorderModel", "put", "(I)V"⟩ ⟨"DoughBorderModel", "put", "(I)V"⟩) ∈ lw_all := lw_g (lw_at lw_ms 46 rfl) rfl
theorem qs47 : (Cond.selects "DoughBorderModel" ⟨"DoughBorderModel", "readsAll", "()V"⟩ ⟨"DoughBorderModel", "readsAll", "()V"⟩) ∈ lw_all := lw_g (lw_at lw_ms 47 rfl) rfl
theorem qs48 : (Cond.selects "DoughBorderModel" ⟨"DoughBorderModel", "starts", "()V"⟩ ⟨"DoughBorderModel", "starts", "()V"⟩) ∈ lw_all := lw_g (lw_at lw_ms 48 rfl) rfl
theorem qs49 : (Cond.selects "DoughBorderModel" ⟨"DoughBorderModel", "stripClause", "(I)V"⟩ ⟨"DoughBorderModel", "stripClause", "(I)V"⟩) ∈ lw_all := lw_g (lw_at lw_ms 49 rfl) rfl
theorem qs50 : (Cond.selects "DoughBorderModel" ⟨"DoughBorderModel", "blanks", "()V"⟩ ⟨"DoughBorderModel", "blanks", "()V"⟩) ∈ lw_all := lw_g (lw_at lw_ms 50 rfl) rfl
theorem qs51 : (Cond.selects "DoughBorderModel" ⟨"DoughBorderModel", "sign", "()I"⟩ ⟨"DoughBorderModel", "sign", "()I"⟩) ∈ lw_all := lw_g (lw_at lw_ms 51 rfl) rfl
theorem qs52 : (Cond.selects "DoughBorderModel" ⟨"DoughBorderModel", "stood", "(Ljava/lang/String;)Z"⟩ ⟨"DoughBorderModel", "stood", "(Ljava/lang/String;)Z"⟩) ∈ lw_all := lw_g (lw_at lw_ms 52 rfl) rfl
theorem qs53 : (Cond.selects "DoughBorderModel" ⟨"DoughBorderModel", "fails", "(II)V"⟩ ⟨"DoughBorderModel", "fails", "(II)V"⟩) ∈ lw_all := lw_g (lw_at lw_ms 53 rfl) rfl
theorem qs54 : (Cond.selects "DoughBorderModel" ⟨"DoughBorderModel", "isFull", "(II)Z"⟩ ⟨"DoughBorderModel", "isFull", "(II)Z"⟩) ∈ lw_all := lw_g (lw_at lw_ms 54 rfl) rfl
theorem qs55 : (Cond.selects "DoughBorderModel" ⟨"DoughBorderModel", "stripPart", "(I)V"⟩ ⟨"DoughBorderModel", "stripPart", "(I)V"⟩) ∈ lw_all := lw_g (lw_at lw_ms 55 rfl) rfl
theorem qs56 : (Cond.selects "DoughBorderModel" ⟨"DoughBorderModel", "amount", "(II)I"⟩ ⟨"DoughBorderModel", "amount", "(II)I"⟩) ∈ lw_all := lw_g (lw_at lw_ms 56 rfl) rfl
theorem qs57 : (Cond.selects "DoughBorderModel" ⟨"DoughBorderModel", "digits", "(I)I"⟩ ⟨"DoughBorderModel", "digits", "(I)I"⟩) ∈ lw_all := lw_g (lw_at lw_ms 57 rfl) rfl
theorem qs58 : (Cond.selects "DoughBorderModel" ⟨"DoughBorderModel", "isDigit", "()Z"⟩ ⟨"DoughBorderModel", "isDigit", "()Z"⟩) ∈ lw_all := lw_g (lw_at lw_ms 58 rfl) rfl
theorem qs59 : (Cond.selects "DoughBorderModel" ⟨"DoughBorderModel", "readsMile", "()V"⟩ ⟨"DoughBorderModel", "readsMile", "()V"⟩) ∈ lw_all := lw_g (lw_at lw_ms 59 rfl) rfl
theorem qs60 : (Cond.selects "DoughBorderModel" ⟨"DoughBorderModel", "oneMile", "()I"⟩ ⟨"DoughBorderModel", "oneMile", "()I"⟩) ∈ lw_all := lw_g (lw_at lw_ms 60 rfl) rfl
theorem qs61 : (Cond.selects "DoughBorderModel" ⟨"DoughBorderModel", "readsWarm", "()V"⟩ ⟨"DoughBorderModel", "readsWarm", "()V"⟩) ∈ lw_all := lw_g (lw_at lw_ms 61 rfl) rfl
theorem qs62 : (Cond.selects "DoughBorderModel" ⟨"DoughBorderModel", "readsVillage", "()V"⟩ ⟨"DoughBorderModel", "readsVillage", "()V"⟩) ∈ lw_all := lw_g (lw_at lw_ms 62 rfl) rfl
theorem qs63 : (Cond.selects "DoughBorderModel" ⟨"DoughBorderModel", "goesOn", "()Z"⟩ ⟨"DoughBorderModel", "goesOn", "()Z"⟩) ∈ lw_all := lw_g (lw_at lw_ms 63 rfl) rfl
theorem qs64 : (Cond.selects "DoughBorderModel" ⟨"DoughBorderModel", "ruleClause", "(I)V"⟩ ⟨"DoughBorderModel", "ruleClause", "(I)V"⟩) ∈ lw_all := lw_g (lw_at lw_ms 64 rfl) rfl
theorem qs65 : (Cond.selects "DoughBorderModel" ⟨"DoughBorderModel", "sum", "()V"⟩ ⟨"DoughBorderModel", "sum", "()V"⟩) ∈ lw_all := lw_g (lw_at lw_ms 65 rfl) rfl
theorem qs66 : (Cond.selects "DoughBorderModel" ⟨"DoughBorderModel", "term", "()V"⟩ ⟨"DoughBorderModel", "term", "()V"⟩) ∈ lw_all := lw_g (lw_at lw_ms 66 rfl) rfl
theorem qs67 : (Cond.selects "DoughBorderModel" ⟨"DoughBorderModel", "value", "()V"⟩ ⟨"DoughBorderModel", "value", "()V"⟩) ∈ lw_all := lw_g (lw_at lw_ms 67 rfl) rfl
theorem qs68 : (Cond.selects "DoughBorderModel" ⟨"DoughBorderModel", "isCounted", "(I)V"⟩ ⟨"DoughBorderModel", "isCounted", "(I)V"⟩) ∈ lw_all := lw_g (lw_at lw_ms 68 rfl) rfl
theorem qs69 : (Cond.selects "DoughBorderModel" ⟨"DoughBorderModel", "entry", "(II)V"⟩ ⟨"DoughBorderModel", "entry", "(II)V"⟩) ∈ lw_all := lw_g (lw_at lw_ms 69 rfl) rfl
theorem qs70 : (Cond.selects "DoughBorderModel" ⟨"DoughBorderModel", "takes", "(Ljava/lang/String;)Z"⟩ ⟨"DoughBorderModel", "takes", "(Ljava/lang/String;)Z"⟩) ∈ lw_all := lw_g (lw_at lw_ms 70 rfl) rfl
theorem qs71 : (Cond.selects "DoughBorderModel" ⟨"DoughBorderModel", "test", "()V"⟩ ⟨"DoughBorderModel", "test", "()V"⟩) ∈ lw_all := lw_g (lw_at lw_ms 71 rfl) rfl
theorem qs72 : (Cond.selects "DoughBorderModel" ⟨"DoughBorderModel", "fact", "()Z"⟩ ⟨"DoughBorderModel", "fact", "()Z"⟩) ∈ lw_all := lw_g (lw_at lw_ms 72 rfl) rfl
theorem qs73 : (Cond.selects "DoughBorderModel" ⟨"DoughBorderModel", "opens", "(I)V"⟩ ⟨"DoughBorderModel", "opens", "(I)V"⟩) ∈ lw_all := lw_g (lw_at lw_ms 73 rfl) rfl
theorem qs74 : (Cond.selects "DoughBorderModel" ⟨"DoughBorderModel", "compared", "()V"⟩ ⟨"DoughBorderModel", "compared", "()V"⟩) ∈ lw_all := lw_g (lw_at lw_ms 74 rfl) rfl
theorem qs75 : (Cond.selects "DoughBorderModel" ⟨"DoughBorderModel", "answers", "(I)V"⟩ ⟨"DoughBorderModel", "answers", "(I)V"⟩) ∈ lw_all := lw_g (lw_at lw_ms 75 rfl) rfl
theorem qs76 : (Cond.selects "DoughBorderModel" ⟨"DoughBorderModel", "top", "()I"⟩ ⟨"DoughBorderModel", "top", "()I"⟩) ∈ lw_all := lw_g (lw_at lw_ms 76 rfl) rfl
theorem qs77 : (Cond.selects "DoughBorderModel" ⟨"DoughBorderModel", "isMile", "(I)Z"⟩ ⟨"DoughBorderModel", "isMile", "(I)Z"⟩) ∈ lw_all := lw_g (lw_at lw_ms 77 rfl) rfl
theorem qs78 : (Cond.selects "DoughBorderModel" ⟨"DoughBorderModel", "isBaked", "(I)Z"⟩ ⟨"DoughBorderModel", "isBaked", "(I)Z"⟩) ∈ lw_all := lw_g (lw_at lw_ms 78 rfl) rfl
theorem qs79 : (Cond.selects "DoughBorderModel" ⟨"DoughBorderModel", "isVillage", "(I)Z"⟩ ⟨"DoughBorderModel", "isVillage", "(I)Z"⟩) ∈ lw_all := lw_g (lw_at lw_ms 79 rfl) rfl
theorem qs80 : (Cond.selects "DoughBorderModel" ⟨"DoughBorderModel", "sideOf", "(I)I"⟩ ⟨"DoughBorderModel", "sideOf", "(I)I"⟩) ∈ lw_all := lw_g (lw_at lw_ms 80 rfl) rfl
theorem qs81 : (Cond.selects "DoughBorderModel" ⟨"DoughBorderModel", "isStrip", "()Z"⟩ ⟨"DoughBorderModel", "isStrip", "()Z"⟩) ∈ lw_all := lw_g (lw_at lw_ms 81 rfl) rfl
theorem qs82 : (Cond.selects "DoughBorderModel" ⟨"DoughBorderModel", "warmthOf", "(I)I"⟩ ⟨"DoughBorderModel", "warmthOf", "(I)I"⟩) ∈ lw_all := lw_g (lw_at lw_ms 82 rfl) rfl
theorem qs83 : (Cond.selects "DoughBorderModel" ⟨"DoughBorderModel", "movesAll", "(IZ)V"⟩ ⟨"DoughBorderModel", "movesAll", "(IZ)V"⟩) ∈ lw_all := lw_g (lw_at lw_ms 83 rfl) rfl
theorem qs84 : (Cond.selects "DoughBorderModel" ⟨"DoughBorderModel", "moves", "(I)I"⟩ ⟨"DoughBorderModel", "moves", "(I)I"⟩) ∈ lw_all := lw_g (lw_at lw_ms 84 rfl) rfl
theorem qs85 : (Cond.selects "DoughBorderModel" ⟨"DoughBorderModel", "movesRow", "([I)V"⟩ ⟨"DoughBorderModel", "movesRow", "([I)V"⟩) ∈ lw_all := lw_g (lw_at lw_ms 85 rfl) rfl
theorem qs86 : (Cond.selects "DoughBorderModel" ⟨"DoughBorderModel", "keepsAct", "()V"⟩ ⟨"DoughBorderModel", "keepsAct", "()V"⟩) ∈ lw_all := lw_g (lw_at lw_ms 86 rfl) rfl
theorem qs87 : (Cond.selects "DoughBorderModel" ⟨"DoughBorderModel", "goesNight", "()I"⟩ ⟨"DoughBorderModel", "goesNight", "()I"⟩) ∈ lw_all := lw_g (lw_at lw_ms 87 rfl) rfl
theorem qs88 : (Cond.selects "DoughBorderModel" ⟨"DoughBorderModel", "nightOf", "(I)I"⟩ ⟨"DoughBorderModel", "nightOf", "(I)I"⟩) ∈ lw_all := lw_g (lw_at lw_ms 88 rfl) rfl
theorem qs89 : (Cond.selects "DoughBorderModel" ⟨"DoughBorderModel", "notesSides", "()V"⟩ ⟨"DoughBorderModel", "notesSides", "()V"⟩) ∈ lw_all := lw_g (lw_at lw_ms 89 rfl) rfl
theorem qs90 : (Cond.selects "DoughBorderModel" ⟨"DoughBorderModel", "creepOf", "(II)I"⟩ ⟨"DoughBorderModel", "creepOf", "(II)I"⟩) ∈ lw_all := lw_g (lw_at lw_ms 90 rfl) rfl
theorem qs91 : (Cond.selects "DoughBorderModel" ⟨"DoughBorderModel", "villagesIn", "(II)I"⟩ ⟨"DoughBorderModel", "villagesIn", "(II)I"⟩) ∈ lw_all := lw_g (lw_at lw_ms 91 rfl) rfl
theorem qs92 : (Cond.selects "DoughBorderModel" ⟨"DoughBorderModel", "crustOf", "(I)I"⟩ ⟨"DoughBorderModel", "crustOf", "(I)I"⟩) ∈ lw_all := lw_g (lw_at lw_ms 92 rfl) rfl
theorem qs93 : (Cond.selects "DoughBorderModel" ⟨"DoughBorderModel", "crept", "()J"⟩ ⟨"DoughBorderModel", "crept", "()J"⟩) ∈ lw_all := lw_g (lw_at lw_ms 93 rfl) rfl
theorem qs94 : (Cond.selects "DoughBorderModel" ⟨"DoughBorderModel", "answer", "(III)J"⟩ ⟨"DoughBorderModel", "answer", "(III)J"⟩) ∈ lw_all := lw_g (lw_at lw_ms 94 rfl) rfl
theorem qs95 : (Cond.selects "DoughBorderModel" ⟨"DoughBorderModel", "sags", "(I)V"⟩ ⟨"DoughBorderModel", "sags", "(I)V"⟩) ∈ lw_all := lw_g (lw_at lw_ms 95 rfl) rfl
theorem qs96 : (Cond.selects "DoughBorderModel" ⟨"DoughBorderModel", "crossing", "()I"⟩ ⟨"DoughBorderModel", "crossing", "()I"⟩) ∈ lw_all := lw_g (lw_at lw_ms 96 rfl) rfl
theorem qs97 : (Cond.selects "DoughBorderModel" ⟨"DoughBorderModel", "isSoft", "(I)Z"⟩ ⟨"DoughBorderModel", "isSoft", "(I)Z"⟩) ∈ lw_all := lw_g (lw_at lw_ms 97 rfl) rfl
theorem qs98 : (Cond.selects "DoughBorderModel" ⟨"DoughBorderModel", "pushes", "(II)V"⟩ ⟨"DoughBorderModel", "pushes", "(II)V"⟩) ∈ lw_all := lw_g (lw_at lw_ms 98 rfl) rfl
theorem qs99 : (Cond.selects "DoughBorderModel" ⟨"DoughBorderModel", "keepsAll", "()V"⟩ ⟨"DoughBorderModel", "keepsAll", "()V"⟩) ∈ lw_all := lw_g (lw_at lw_ms 99 rfl) rfl
theorem qs100 : (Cond.selects "DoughBorderModel" ⟨"DoughBorderModel", "carriesAll", "(IZ)V"⟩ ⟨"DoughBorderModel", "carriesAll", "(IZ)V"⟩) ∈ lw_all := lw_g (lw_at lw_ms 100 rfl) rfl
theorem qs101 : (Cond.selects "DoughBorderModel" ⟨"DoughBorderModel", "carryRow", "([I)V"⟩ ⟨"DoughBorderModel", "carryRow", "([I)V"⟩) ∈ lw_all := lw_g (lw_at lw_ms 101 rfl) rfl
theorem qs102 : (Cond.selects "DoughBorderModel" ⟨"DoughBorderModel", "goes", "(I)I"⟩ ⟨"DoughBorderModel", "goes", "(I)I"⟩) ∈ lw_all := lw_g (lw_at lw_ms 102 rfl) rfl
theorem qs103 : (Cond.selects "DoughBorderModel" ⟨"DoughBorderModel", "villagesOn", "(I)I"⟩ ⟨"DoughBorderModel", "villagesOn", "(I)I"⟩) ∈ lw_all := lw_g (lw_at lw_ms 103 rfl) rfl
theorem qs104 : (Cond.selects "DoughBorderModel" ⟨"DoughBorderModel", "laysBack", "()V"⟩ ⟨"DoughBorderModel", "laysBack", "()V"⟩) ∈ lw_all := lw_g (lw_at lw_ms 104 rfl) rfl
theorem qs105 : (Cond.selects "DoughBorderModel" ⟨"DoughBorderModel", "findsPush", "(I)I"⟩ ⟨"DoughBorderModel", "findsPush", "(I)I"⟩) ∈ lw_all := lw_g (lw_at lw_ms 105 rfl) rfl
theorem qs106 : (Cond.selects "DoughBorderModel" ⟨"DoughBorderModel", "pushesBy", "(I)I"⟩ ⟨"DoughBorderModel", "pushesBy", "(I)I"⟩) ∈ lw_all := lw_g (lw_at lw_ms 106 rfl) rfl
theorem qs107 : (Cond.selects "DoughBorderModel" ⟨"DoughBorderModel", "areWantsSo", "()Z"⟩ ⟨"DoughBorderModel", "areWantsSo", "()Z"⟩) ∈ lw_all := lw_g (lw_at lw_ms 107 rfl) rfl
theorem qs108 : (Cond.selects "DoughBorderModel" ⟨"DoughBorderModel", "playsDukes", "(I)I"⟩ ⟨"DoughBorderModel", "playsDukes", "(I)I"⟩) ∈ lw_all := lw_g (lw_at lw_ms 108 rfl) rfl
theorem qs109 : (Cond.selects "DoughBorderModel" ⟨"DoughBorderModel", "movesDuke", "(IZ)V"⟩ ⟨"DoughBorderModel", "movesDuke", "(IZ)V"⟩) ∈ lw_all := lw_g (lw_at lw_ms 109 rfl) rfl
theorem qs110 : (Cond.selects "DoughBorderModel" ⟨"DoughBorderModel", "westLessEast", "()I"⟩ ⟨"DoughBorderModel", "westLessEast", "()I"⟩) ∈ lw_all := lw_g (lw_at lw_ms 110 rfl) rfl
theorem qs111 : (Cond.selects "DoughBorderModel" ⟨"DoughBorderModel", "takesWorth", "(II)V"⟩ ⟨"DoughBorderModel", "takesWorth", "(II)V"⟩) ∈ lw_all := lw_g (lw_at lw_ms 111 rfl) rfl
theorem qs112 : (Cond.selects "DoughBorderModel" ⟨"DoughBorderModel", "goesDuke", "(I)V"⟩ ⟨"DoughBorderModel", "goesDuke", "(I)V"⟩) ∈ lw_all := lw_g (lw_at lw_ms 112 rfl) rfl
theorem qs113 : (Cond.selects "DoughBorderModel" ⟨"DoughBorderModel", "opensDuke", "(II)V"⟩ ⟨"DoughBorderModel", "opensDuke", "(II)V"⟩) ∈ lw_all := lw_g (lw_at lw_ms 113 rfl) rfl
theorem qs114 : (Cond.selects "DoughBorderModel" ⟨"DoughBorderModel", "doesFit", "(III)Z"⟩ ⟨"DoughBorderModel", "doesFit", "(III)Z"⟩) ∈ lw_all := lw_g (lw_at lw_ms 114 rfl) rfl
theorem qs115 : (Cond.selects "DoughBorderModel" ⟨"DoughBorderModel", "laysCourse", "(IIII)V"⟩ ⟨"DoughBorderModel", "laysCourse", "(IIII)V"⟩) ∈ lw_all := lw_g (lw_at lw_ms 115 rfl) rfl
theorem qs116 : (Cond.selects "DoughBorderModel" ⟨"DoughBorderModel", "ownNights", "(IIII)I"⟩ ⟨"DoughBorderModel", "ownNights", "(IIII)I"⟩) ∈ lw_all := lw_g (lw_at lw_ms 116 rfl) rfl
theorem qs117 : (Cond.selects "DoughBorderModel" ⟨"DoughBorderModel", "draws", "(I)I"⟩ ⟨"DoughBorderModel", "draws", "(I)I"⟩) ∈ lw_all := lw_g (lw_at lw_ms 117 rfl) rfl
theorem qs118 : (Cond.selects "DoughBorderModel" ⟨"DoughBorderModel", "crossedAll", "()I"⟩ ⟨"DoughBorderModel", "crossedAll", "()I"⟩) ∈ lw_all := lw_g (lw_at lw_ms 118 rfl) rfl
-- ===== end of PART A; then your names; then what follows =====
