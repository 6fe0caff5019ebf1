/-! the JDK's members on the claim's literals: length, charAt -/
set_option maxRecDepth 100000
theorem st_q {i : Nat} (hi : i < 43) : ∃ q, stT[i]? = some q := ⟨_, List.getElem?_eq_getElem (show i < stT.length from hi)⟩
theorem st_ok : ∀ i, i < 43 → ((stC i).length < 2 ^ 31 ∧ ∀ b ∈ stC i, ((b &&& 255).toUInt32 % 65536).toInt32 = b ∧ narrow .char (.int b) = .int b) := by decide +kernel
section STR
variable {p : Program} {l : Launch} {e : Env} {R : Room} {s : State} {m : MethodId} {args : Array Value} {below : List Frame} {meth : Method} {c : Code} {H : Heap} {locs : List Loc} {cells slots : Nat} {Q : State → Prop}
variable {cc : ByteArray} {nL : Nat} {own : String} {ret : Option FieldType} {g : gG} {A : Nat → Prop} {ids : List Nat} {ad : Nat → Nat} {E : Nat → va_E} {pc : Nat} {ls : Array Slot} {rest : List Value}
theorem r_callVr (X : MX p s m args meth c cc nL own ret g A) (hW : WB g A s.heap ids ad E H locs) {ids2 : List Nat} {ad2 : Nat → Nat} {E' E2 E2' : Nat → va_E} (hs : Sub ids ad E E' ids2 ad2 E2 E2') {y : MethodName} {bytes : ByteArray} {maxL fr2 lo2 index n b : Nat} {ret2 : Option FieldType} {C : String} {As st : List Value} {rv : Option Value}
    (hM : MC l y bytes maxL ret2 fr2 lo2 g ids2 ad2 E2 E2' (.ref b :: As) rv) (hG : GoodIn lw_all (wsV own index C y (ws_ y bytes maxL ret2))) (hd : y.cls = C ∧ y.cls ≠ "java/lang/invoke/MethodHandle" ∧ y.cls ≠ "java/lang/invoke/VarHandle" ∧ (parseMethodDescriptor y.desc).map (fun d => d.parameters.length) = some n)
    (hrec : ∃ cell : Cell, H[b]? = some cell ∧ cell.vm.isStatics = false ∧ s.vm.findClass C = some cell.cls) (hR : fr2 + 1 ≤ R.frames ∧ 8 + (maxL + 11) + lo2 ≤ R.locals) {lv : List (Nat × Value)} (hls : lv_has ls nL lv) (hn : As.length = n) (hst : st = As.reverse ++ .ref b :: rest) (hcat : (rest.map fun v => v.category).sum ≤ 8) (hcs : cells ≤ R.cells ∧ slots ≤ R.slots) (hdg : decode cc pc = .ok (.invokevirtual index, 3))
    (kk : ∀ (H1 : Heap) (locs1 : List Loc), WB g A s.heap ids ad E' H1 locs1 → W p l e R s m args below meth c H1 locs1 cells slots Q (F0 m (pc + 3) ls (rv.toList ++ rest))) : W p l e R s m args below meth c H locs cells slots Q (F0 m pc ls st) :=
  r_back X hW hs (va_runV X.1 (hM H.size) (cwV n X.1.2.2.2.2 hG rfl rfl rfl hd hR) ⟨pre_blind, hrec, fun U hU hWm => ⟨rfl, r_pre X hW hs U hU hWm⟩⟩ rfl hn hls.1 hst (lv_room hcat) hdg hcs) kk
theorem st_recv (X : MX p s m args meth c cc nL own ret g A) (hW : WB g A s.heap ids ad E H locs) {i : Nat} (hi : i < 43) : ∃ cell : Cell, H[g.2.2.1 i]? = some cell ∧ cell.vm.isStatics = false ∧ s.vm.findClass "java/lang/String" = some cell.cls := by
  obtain ⟨q, hq⟩ := st_q hi
  obtain ⟨-, h2, -⟩ := X.2.2.2.2.1.1 i q hq
  obtain ⟨cell, h1, h2, h3, -⟩ := h2.kept hW.2.2.2.1
  exact ⟨cell, h1, h2, h3⟩
theorem r_sget (X : MX p s m args meth c cc nL RJ3 ret g A) (hW : WB g A s.heap ids ad E H locs) {i : Nat} (hi : i < 43) (hdg : decode cc pc = .ok (.getfield 9, 3)) (kk : W p l e R s m args below meth c H locs cells slots Q (F0 m (pc + 3) ls (.ref (g.2.2.2.1 i) :: rest))) : W p l e R s m args below meth c H locs cells slots Q (F0 m pc ls (.ref (g.2.2.1 i) :: rest)) := by
  obtain ⟨q, hq⟩ := st_q hi
  obtain ⟨-, -, -, h4, -⟩ := X.2.2.2.2.1.1 i q hq
  exact vk_getf X.1.1 X.1.2.1 h4 hW.2.2 X.1.2.2.2.1 (X.1.2.2.2.2 _ q1838) (fun _ h => h) hdg kk
theorem r_scod (X : MX p s m args meth c cc nL RJ3 ret g A) (hW : WB g A s.heap ids ad E H locs) {i : Nat} (hi : i < 43) (hdg : decode cc pc = .ok (.getfield 15, 3)) (kk : W p l e R s m args below meth c H locs cells slots Q (F0 m (pc + 3) ls (.int 0 :: rest))) : W p l e R s m args below meth c H locs cells slots Q (F0 m pc ls (.ref (g.2.2.1 i) :: rest)) := by
  obtain ⟨q, hq⟩ := st_q hi
  obtain ⟨-, -, h3, -⟩ := X.2.2.2.2.1.1 i q hq
  exact vk_getf X.1.1 X.1.2.1 h3 hW.2.2 X.1.2.2.2.1 (X.1.2.2.2.2 _ q1839) (fun _ h => h) hdg kk
theorem p_sret {v r : Nat} (X : MX p s m args meth c cc nL own (some (.object "java/lang/String")) g A) (hW : WB g A s.heap ids ad E H locs) (hf : some v = some r) (hdg : decode cc pc = .ok (.areturn, 1)) : W p l e R s m args below meth c H locs 0 0 (Qm below g ids ad E (some (.ref (g.2.2.1 r))) A args s) (F0 m pc ls [.ref (g.2.2.1 v)]) := by
  cases hf
  exact W.aret X.1.1 X.1.2.1 X.2.1 (Or.inl ⟨_, rfl⟩) (Or.inr ⟨_, rfl⟩) (fun t ht _ => ⟨⟨rfl, by show va_P _ _ _ t.heap; rw [ht]; exact hW.1⟩, hW.2.2.F ht⟩) hW.2.2.2.2 hdg X.2.2.1
theorem va_ldcStrW {T : State} (X : Stand p l e R s m args below meth c T locs cells slots) (hexec : p.tables.exec = Jvm.exec) {own text : String} {index : Nat} {a : Addr} (hown : s.vm.findClass own = some m.cls)
    (hconst : (Cond.stringRef own index text).before args s = true) (hev : (Term.string own index).eval args s none [] s = some (.ref a)) {g : JFrame} (hg : g.method = m) (hdg : decode c.code g.pc = .ok (.ldc_w index, 3)) :
    ∀ target, Steps p.tables e below (T.setTop { g with pc := g.pc + 3, stack := .ref a :: g.stack }) target → Steps p.tables e below (T.setTop g) target := by
  obtain ⟨k, cf, i, a', hk, hcf, hcp, -, hr, hev'⟩ := Cond.stringRef_spec hown hconst
  cases hev.symm.trans hev'
  obtain ⟨k', hk', he⟩ := X.warmed.alike.2.2 _ _ hk
  have hr' : k'.resolved[index]? = some (some (.string a)) := by
    rcases X.warmed.entry hk hk' index with h | ⟨h, -⟩
    · rw [h]; exact hr
    · rw [hr] at h; cases h
  intro target hrest
  subst hg
  jvm_step X.here [hexec, hdg, ldc_w.wp_string (e := e) (s := T) (f := g) X.here.top hk' (by rw [he]; exact hcf) hcp hr']
  exact hrest
theorem va_ldcSw {tx : String} {index q : Nat} (hexec : p.tables.exec = Jvm.exec) (hb : c.code = cc) (hown : s.vm.findClass own = some m.cls) (hZ : vk_R own index tx q s) (hdg : decode cc pc = .ok (.ldc_w index, 3))
    (k : W p l e R s m args below meth c H locs cells slots Q (F0 m (pc + 3) ls (.ref q :: rest))) : W p l e R s m args below meth c H locs cells slots Q (F0 m pc ls rest) := by
  intro T hT X
  obtain ⟨t, a1, b1⟩ := k T hT X
  exact ⟨t, va_ldcStrW X hexec hown (text := tx) (a := q) hZ.1 hZ.2 (g := F0 m pc ls rest) rfl (by rw [hb]; exact hdg) t a1, b1⟩
end STR
theorem n_bret {p : Program} {l : Launch} {e : Env} {R : Room} {s : State} {m : MethodId} {args : Array Value} {below : List Frame} {meth : Method} {c : Code} {H : Heap} {locs : List Loc} {cc : ByteArray} {nL : Nat} {own : String} {g : gG} {A : Nat → Prop} {ids : List Nat} {ad : Nat → Nat} {E : Nat → va_E} {pc : Nat} {ls : Array Slot} {ty : FieldType} {v : Int32} (X : MX p s m args meth c cc nL own (some ty) g A) (hW : WB g A s.heap ids ad E H locs) (hn : narrow ty (.int v) = .int v) (hdg : decode cc pc = .ok (.ireturn, 1)) : W p l e R s m args below meth c H locs 0 0 (Qm below g ids ad E (some (.int v)) A args s) (F0 m pc ls [.int v]) :=
  W.zret X.1.1 X.1.2.1 X.2.1 hn (fun t ht _ => ⟨⟨rfl, by show va_P _ _ _ t.heap; rw [ht]; exact hW.1⟩, hW.2.2.F ht⟩) hW.2.2.2.2 hdg X.2.2.1
theorem w_coder (l : Launch) {g : gG} {i : Nat} (hi : i < 43) : MS l yJ3_coder cJ3_coder 1 (some .byte) 1 20 g [.ref (g.2.2.1 i)] (some (.int 0)) := by
  refine MC.of (by decide) List.nodup_nil wI_nil (Nat.le_of_ble_eq_true rfl) (fun p e s m below meth c A ls X hW hl => ?_)
  have hx := X.1.1
  have hb := X.1.2.1
  have hl : lv_has ls 1 [(0, .ref (g.2.2.1 i))] := hl
  refine va_gets hx hb X.2.2.2.2.1.2.1 hW.2.2 X.1.2.2.2.1 (X.1.2.2.2.2 _ q535) (fun _ h => h) dJ3_coder_0 ?_
  refine lv_if_eq (tgt := 13) hx hb dJ3_coder_3 (by decide) (fun c_1 => absurd c_1 (by decide)) (fun c_1 => ?_)
  refine lv_aload_n hx hb dJ3_coder_6 rfl (lv_at hl 0 rfl) ?_
  refine r_scod X hW hi dJ3_coder_7 ?_
  refine lv_goto (tgt := 14) hx hb dJ3_coder_10 (by decide) ?_
  exact n_bret X hW rfl dJ3_coder_14
theorem w_isLatin1 (l : Launch) {g : gG} {i : Nat} (hi : i < 43) : MS l yJ3_isLatin1 cJ3_isLatin1 1 (some .boolean) 1 20 g [.ref (g.2.2.1 i)] (some (.int 1)) := by
  refine MC.of (by decide) List.nodup_nil wI_nil (Nat.le_of_ble_eq_true rfl) (fun p e s m below meth c A ls X hW hl => ?_)
  have hx := X.1.1
  have hb := X.1.2.1
  have hl : lv_has ls 1 [(0, .ref (g.2.2.1 i))] := hl
  refine va_gets hx hb X.2.2.2.2.1.2.1 hW.2.2 X.1.2.2.2.1 (X.1.2.2.2.2 _ q535) (fun _ h => h) dJ3_isLatin1_0 ?_
  refine lv_if_eq (tgt := 17) hx hb dJ3_isLatin1_3 (by decide) (fun c_1 => absurd c_1 (by decide)) (fun c_1 => ?_)
  refine lv_aload_n hx hb dJ3_isLatin1_6 rfl (lv_at hl 0 rfl) ?_
  refine r_scod X hW hi dJ3_isLatin1_7 ?_
  refine lv_if_ne (tgt := 17) hx hb dJ3_isLatin1_10 (by decide) (fun c_1 => absurd rfl c_1) (fun c_1 => ?_)
  refine lv_iconst (v := 1) hx hb dJ3_isLatin1_13 (by decide) ?_
  refine lv_goto (tgt := 18) hx hb dJ3_isLatin1_14 (by decide) ?_
  exact n_bret X hW rfl dJ3_isLatin1_18
theorem w_slen (l : Launch) {g : gG} {i : Nat} (hi : i < 43) : MS l yJ3_length cJ3_length 1 (some .int) 2 60 g [.ref (g.2.2.1 i)] (some (.int (nI (stC i).length))) := by
  refine MC.of (by decide) List.nodup_nil wI_nil (Nat.le_of_ble_eq_true rfl) (fun p e s m below meth c A ls X hW hl => ?_)
  have hx := X.1.1
  have hb := X.1.2.1
  have hl : lv_has ls 1 [(0, .ref (g.2.2.1 i))] := hl
  refine lv_aload_n hx hb dJ3_length_0 rfl (lv_at hl 0 rfl) ?_
  refine r_sget X hW hi dJ3_length_1 ?_
  obtain ⟨q, hq⟩ := st_q hi
  obtain ⟨-, -, -, -, h5⟩ := X.2.2.2.2.1.1 i q hq
  refine va_tlen (v := nI (stC i).length) hx hb h5 hW.2.2 rfl dJ3_length_4 ?_
  refine lv_aload_n hx hb dJ3_length_5 rfl (lv_at hl 0 rfl) ?_
  refine r_callVr X hW Sub.nil (w_coder l hi) (lw_V q531 q532 q533 q129 q534) ⟨rfl, by decide, by decide, by decide +kernel⟩ (st_recv X hW hi) (n := 0) ⟨Nat.le_of_ble_eq_true rfl, Nat.le_of_ble_eq_true rfl⟩ hl rfl rfl (Nat.le_of_ble_eq_true rfl) ⟨Nat.zero_le _, Nat.zero_le _⟩ dJ3_length_6 (fun H locs hW => ?_)
  refine lv_ishr hx hb dJ3_length_9 ?_
  rw [sb_shr0]
  exact r_iret X hW (fun _ _ => rfl) rfl dJ3_length_10
theorem w_pci (l : Launch) {g : gG} {i n : Int32} {v : Value} (hv : v = .null ∨ ∃ t, v = .ref t) (h0 : ¬ i < 0) (hn : i < n) : MS l yJ5_checkIndex cJ5_checkIndex 3 (some .int) 1 20 g [.int i, .int n, v] (some (.int i)) := by
  have hL : (lg_sl [.int i, .int n, v]).length ≤ 3 := by rcases hv with rfl | ⟨t, rfl⟩ <;> exact Nat.le_of_ble_eq_true rfl
  refine MC.of (by decide) List.nodup_nil wI_nil hL (fun p e s m below meth c A ls X hW hl => ?_)
  have hx := X.1.1
  have hb := X.1.2.1
  have hl : lv_has ls 3 [(0, .int i), (1, .int n), (2, v)] := by rcases hv with rfl | ⟨t, rfl⟩ <;> exact hl
  refine lv_iload_n hx hb dJ5_checkIndex_0 rfl (lv_at hl 0 rfl) ?_
  refine lv_if_lt (tgt := 9) hx hb dJ5_checkIndex_1 (by decide) (fun c_1 => absurd c_1 h0) (fun c_1 => ?_)
  refine lv_iload_n hx hb dJ5_checkIndex_4 rfl (lv_at hl 0 rfl) ?_
  refine lv_iload_n hx hb dJ5_checkIndex_5 rfl (lv_at hl 1 rfl) ?_
  refine lv_icmp_lt (tgt := 16) hx hb dJ5_checkIndex_6 (by decide) (fun c_1 => ?_) (fun c_1 => absurd hn c_1)
  refine lv_iload_n hx hb dJ5_checkIndex_16 rfl (lv_at hl 0 rfl) ?_
  exact r_iret X hW (fun _ _ => rfl) rfl dJ5_checkIndex_17
theorem w_sci (l : Launch) {g : gG} {i n : Int32} (h0 : ¬ i < 0) (hn : i < n) : MS l yJ3_checkIndex cJ3_checkIndex 2 none 2 60 g [.int i, .int n] none := by
  refine MC.of (by decide) List.nodup_nil wI_nil (Nat.le_of_ble_eq_true rfl) (fun p e s m below meth c A ls X hW hl => ?_)
  have hx := X.1.1
  have hb := X.1.2.1
  have hl : lv_has ls 2 [(0, .int i), (1, .int n)] := hl
  refine lv_iload_n hx hb dJ3_checkIndex_0 rfl (lv_at hl 0 rfl) ?_
  refine lv_iload_n hx hb dJ3_checkIndex_1 rfl (lv_at hl 1 rfl) ?_
  obtain ⟨v, hv, hZ⟩ : ∃ v : Value, (v = .null ∨ ∃ t, v = .ref t) ∧ va_Z "jdk/internal/util/Preconditions" "SIOOBE_FORMATTER" "Ljava/util/function/BiFunction;" v A s s.heap := by
    rcases X.2.2.2.2.1.2.2.1.1 with h | ⟨t, h⟩
    · exact ⟨_, Or.inl rfl, h⟩
    · exact ⟨_, Or.inr ⟨t, rfl⟩, h⟩
  refine va_gets hx hb hZ hW.2.2 X.1.2.2.2.1 (X.1.2.2.2.2 _ q551) (fun _ h => h) dJ3_checkIndex_2 ?_
  refine r_callS X hW Sub.nil (w_pci l hv h0 hn) (lw_S q553 q554 q131 q555) ⟨by decide, by decide, by decide +kernel⟩ (n := 3) (rest := []) ⟨Nat.le_of_ble_eq_true rfl, Nat.le_of_ble_eq_true rfl⟩ hl rfl rfl (Nat.le_of_ble_eq_true rfl) ⟨Nat.zero_le _, Nat.zero_le _⟩ dJ3_checkIndex_5 (fun H locs hW => ?_)
  refine lv_pop hx hb dJ3_checkIndex_8 rfl ?_
  exact r_vret X hW (fun _ _ => rfl) rfl dJ3_checkIndex_9
theorem inb_lt {k : Int32} {n : Nat} (h : inb k n = true) (hn : n < 2 ^ 31) : ¬ k < 0 ∧ k < nI n := by
  have h1 := inb_in h
  obtain ⟨j, hj, rfl⟩ := vp_in_of h1 hn
  exact ⟨nI_pos (by omega), nI_lt hj hn⟩
theorem w_l1ch (l : Launch) {g : gG} {i : Nat} {k : Int32} (hi : i < 43) (hk : inb k (stC i).length = true) : MS l yJ4_charAt cJ4_charAt 2 (some .char) 3 100 g [.ref (g.2.2.2.1 i), .int k] (some (.int ((stC i).getD (ix k) 0))) := by
  refine MC.of (by decide) List.nodup_nil wI_nil (Nat.le_of_ble_eq_true rfl) (fun p e s m below meth c A ls X hW hl => ?_)
  have hx := X.1.1
  have hb := X.1.2.1
  have hl : lv_has ls 2 [(0, .ref (g.2.2.2.1 i)), (1, .int k)] := hl
  obtain ⟨q, hq⟩ := st_q hi
  obtain ⟨-, -, -, -, h5⟩ := X.2.2.2.2.1.1 i q hq
  obtain ⟨ho1, ho2⟩ := st_ok i hi
  obtain ⟨hk1, hk2⟩ := inb_lt hk ho1
  refine lv_iload_n hx hb dJ4_charAt_0 rfl (lv_at hl 1 rfl) ?_
  refine lv_aload_n hx hb dJ4_charAt_1 rfl (lv_at hl 0 rfl) ?_
  refine va_tlen (v := nI (stC i).length) hx hb h5 hW.2.2 rfl dJ4_charAt_2 ?_
  refine r_callS X hW Sub.nil (w_sci l hk1 hk2) (lw_S q548 q549 q129 q550) ⟨by decide, by decide, by decide +kernel⟩ (n := 2) (rest := []) ⟨Nat.le_of_ble_eq_true rfl, Nat.le_of_ble_eq_true rfl⟩ hl rfl rfl (Nat.le_of_ble_eq_true rfl) ⟨Nat.zero_le _, Nat.zero_le _⟩ dJ4_charAt_3 (fun H locs hW => ?_)
  refine lv_aload_n hx hb dJ4_charAt_6 rfl (lv_at hl 0 rfl) ?_
  refine lv_iload_n hx hb dJ4_charAt_7 rfl (lv_at hl 1 rfl) ?_
  refine va_tb (v := .int ((stC i).getD (ix k) 0)) hx hb h5 hW.2.2 (inb_in hk) rfl dJ4_charAt_8 ?_
  refine lv_sipush (v := 255) hx hb dJ4_charAt_9 (by decide) ?_
  refine lv_iand hx hb dJ4_charAt_12 ?_
  have hmem : (stC i).getD (ix k) 0 ∈ stC i := by
    obtain ⟨j, hj, rfl⟩ := vp_in_of (inb_in hk) ho1
    rw [show ix (nI j) = j from nI_clamp (by omega), List.getD_eq_getElem?_getD, List.getElem?_eq_getElem hj]
    exact List.getElem_mem hj
  refine lv_i2c (v := (stC i).getD (ix k) 0) hx hb dJ4_charAt_13 (ho2 _ hmem).1 ?_
  exact n_bret X hW (ho2 _ hmem).2 dJ4_charAt_14
theorem w_schar (l : Launch) {g : gG} {i : Nat} {k : Int32} (hi : i < 43) (hk : inb k (stC i).length = true) : MS l yJ3_charAt cJ3_charAt 2 (some .char) 4 150 g [.ref (g.2.2.1 i), .int k] (some (.int ((stC i).getD (ix k) 0))) := by
  refine MC.of (by decide) List.nodup_nil wI_nil (Nat.le_of_ble_eq_true rfl) (fun p e s m below meth c A ls X hW hl => ?_)
  have hx := X.1.1
  have hb := X.1.2.1
  have hl : lv_has ls 2 [(0, .ref (g.2.2.1 i)), (1, .int k)] := hl
  refine lv_aload_n hx hb dJ3_charAt_0 rfl (lv_at hl 0 rfl) ?_
  refine r_callVr X hW Sub.nil (w_isLatin1 l hi) (lw_V q541 q542 q543 q129 q544) ⟨rfl, by decide, by decide, by decide +kernel⟩ (st_recv X hW hi) (n := 0) (rest := []) ⟨Nat.le_of_ble_eq_true rfl, Nat.le_of_ble_eq_true rfl⟩ hl rfl rfl (Nat.le_of_ble_eq_true rfl) ⟨Nat.zero_le _, Nat.zero_le _⟩ dJ3_charAt_1 (fun H locs hW => ?_)
  refine lv_if_eq (tgt := 16) hx hb dJ3_charAt_4 (by decide) (fun c_1 => absurd c_1 (by decide)) (fun c_1 => ?_)
  refine lv_aload_n hx hb dJ3_charAt_7 rfl (lv_at hl 0 rfl) ?_
  refine r_sget X hW hi dJ3_charAt_8 ?_
  refine lv_iload_n hx hb dJ3_charAt_11 rfl (lv_at hl 1 rfl) ?_
  obtain ⟨ho1, ho2⟩ := st_ok i hi
  have hmem : (stC i).getD (ix k) 0 ∈ stC i := by
    obtain ⟨j, hj, rfl⟩ := vp_in_of (inb_in hk) ho1
    rw [show ix (nI j) = j from nI_clamp (by omega), List.getD_eq_getElem?_getD, List.getElem?_eq_getElem hj]
    exact List.getElem_mem hj
  refine r_callS X hW Sub.nil (w_l1ch l hi hk) (lw_S q545 q546 q130 q547) ⟨by decide, by decide, by decide +kernel⟩ (n := 2) (rest := []) ⟨Nat.le_of_ble_eq_true rfl, Nat.le_of_ble_eq_true rfl⟩ hl rfl rfl (Nat.le_of_ble_eq_true rfl) ⟨Nat.zero_le _, Nat.zero_le _⟩ dJ3_charAt_12 (fun H locs hW => ?_)
  exact n_bret X hW (ho2 _ hmem).2 dJ3_charAt_15
section STK
variable {p : Program} {l : Launch} {e : Env} {R : Room} {s : State} {m : MethodId} {args : Array Value} {below : List Frame} {meth : Method} {c : Code} {H : Heap} {locs : List Loc} {cells slots : Nat} {Q : State → Prop}
variable {cc : ByteArray} {nL : Nat} {own : String} {ret : Option FieldType} {g : gG} {A : Nat → Prop} {ids : List Nat} {ad : Nat → Nat} {E : Nat → va_E} {pc : Nat} {ls : Array Slot} {rest : List Value}
theorem k_slen (X : MX p s m args meth c cc nL own ret g A) (hW : WB g A s.heap ids ad E H locs) {i index : Nat} (hi : i < 43) (hR : 3 ≤ R.frames ∧ 80 ≤ R.locals) {lv : List (Nat × Value)} (hl : lv_has ls nL lv) (hcat : (rest.map fun v => v.category).sum ≤ 8) (hq : Cond.methodLink own index yJ3_length ∈ lw_all) (hdg : decode cc pc = .ok (.invokevirtual index, 3)) (kk : ∀ (H1 : Heap) (l1 : List Loc), WB g A s.heap ids ad E H1 l1 → W p l e R s m args below meth c H1 l1 0 0 Q (F0 m (pc + 3) ls (.int (nI (stC i).length) :: rest))) : W p l e R s m args below meth c H locs 0 0 Q (F0 m pc ls (.ref (g.2.2.1 i) :: rest)) :=
  r_callVr X hW Sub.nil (w_slen l hi) (lw_V hq q528 q529 q129 q530) ⟨rfl, by decide, by decide, by decide +kernel⟩ (st_recv X hW hi) (n := 0) hR hl rfl rfl hcat ⟨Nat.zero_le _, Nat.zero_le _⟩ hdg kk
theorem k_schar (X : MX p s m args meth c cc nL own ret g A) (hW : WB g A s.heap ids ad E H locs) {i index : Nat} {k : Int32} (hi : i < 43) (hk : inb k (stC i).length = true) (hR : 5 ≤ R.frames ∧ 171 ≤ R.locals) {lv : List (Nat × Value)} (hl : lv_has ls nL lv) (hcat : (rest.map fun v => v.category).sum ≤ 8) (hq : Cond.methodLink own index yJ3_charAt ∈ lw_all) (hdg : decode cc pc = .ok (.invokevirtual index, 3)) (kk : ∀ (H1 : Heap) (l1 : List Loc), WB g A s.heap ids ad E H1 l1 → W p l e R s m args below meth c H1 l1 0 0 Q (F0 m (pc + 3) ls (.int ((stC i).getD (ix k) 0) :: rest))) : W p l e R s m args below meth c H locs 0 0 Q (F0 m pc ls (.int k :: .ref (g.2.2.1 i) :: rest)) :=
  r_callVr X hW Sub.nil (w_schar l hi hk) (lw_V hq q538 q539 q129 q540) ⟨rfl, by decide, by decide, by decide +kernel⟩ (st_recv X hW hi) (n := 1) hR hl rfl rfl hcat ⟨Nat.zero_le _, Nat.zero_le _⟩ hdg kk
end STK
