/-! calls of constructors; the constructors of nodes, clauses -/
set_option maxRecDepth 100000
section CI
variable {p : Program} {l : Launch} {e : Env} {R : Room} {s : State} {m : MethodId} {args : Array Value} {below : List Frame} {meth : Method} {c : Code} {H : Heap} {locs : List Loc} {cells slots : Nat} {Q : State → Prop}
variable {cc : ByteArray} {nL : Nat} {own : String} {ret : Option FieldType} {g : gG} {A : Nat → Prop} {ids : List Nat} {ad : Nat → Nat} {E : Nat → va_E} {pc : Nat} {ls : Array Slot} {rest : List Value}
theorem r_callI (X : MX p s m args meth c cc nL own ret g A) (hW : WB g A s.heap ids ad E H locs) {ids2 : List Nat} {ad2 : Nat → Nat} {E' E2 E2' : Nat → va_E} (hs : Sub ids ad E E' ids2 ad2 E2 E2') {y : MethodName} {bytes : ByteArray} {maxL fr2 lo2 index n b : Nat} {As st : List Value}
    (hM : MC l y bytes maxL none fr2 lo2 g ids2 ad2 E2 E2' (.ref b :: As) none) (hco : Cond.code y bytes maxL none ∈ lw_all) (hini : Cond.initialized y.cls ∈ lw_all) (hlk : Cond.methodLink own index y ∈ lw_all) (hinst : Cond.instanceMethod y ∈ lw_all) (hy1 : y.name = "<init>") (hd : y.cls ≠ "java/lang/invoke/MethodHandle" ∧ y.cls ≠ "java/lang/invoke/VarHandle" ∧ (parseMethodDescriptor y.desc).map (fun d => d.parameters.length) = some n)
    (hR : fr2 + 1 ≤ R.frames ∧ 8 + (maxL + 11) + lo2 ≤ R.locals) {lv : List (Nat × Value)} (hls : lv_has ls nL lv) (hn : As.length = n) (hst : st = As.reverse ++ .ref b :: rest) (hcat : (rest.map fun v => v.category).sum ≤ 8) (hcs : cells ≤ R.cells ∧ slots ≤ R.slots) (hdg : decode cc pc = .ok (.invokespecial index, 3))
    (kk : ∀ (H1 : Heap) (locs1 : List Loc), WB g A s.heap ids ad E' H1 locs1 → W p l e R s m args below meth c H1 locs1 cells slots Q (F0 m (pc + 3) ls rest)) : W p l e R s m args below meth c H locs cells slots Q (F0 m pc ls st) :=
  r_back X hW hs (va_runI X.1 (hM H.size) (cwI n X.1.2.2.2.2 (lw_meth hco) rfl rfl rfl (X.1.2.2.2.2 _ hini) (X.1.2.2.2.2 _ hlk) (X.1.2.2.2.2 _ hinst) hy1 hd hR) ⟨pre_blind, fun U hU hWm => ⟨rfl, r_pre X hW hs U hU hWm⟩⟩ rfl hn hls.1 hst (lv_room hcat) hdg hcs) kk
theorem r_callIN (X : MX p s m args meth c cc nL own ret g A) (hW : WB g A s.heap ids ad E H locs) {ids2 : List Nat} {ad2 : Nat → Nat} {E' E2 E2' : Nat → va_E} (hs : Sub ids ad E E' ids2 ad2 E2 E2') {y : MethodName} {host : String} {bytes : ByteArray} {maxL fr2 lo2 index n b : Nat} {As st : List Value}
    (hM : MC l y bytes maxL none fr2 lo2 g ids2 ad2 E2 E2' (.ref b :: As) none) (hco : Cond.code y bytes maxL none ∈ lw_all) (hini : Cond.initialized y.cls ∈ lw_all) (hlk : Cond.methodLinkNest own index y host ∈ lw_tbl) (hinst : Cond.instanceMethod y ∈ lw_all) (hy1 : y.name = "<init>") (hd : y.cls ≠ "java/lang/invoke/MethodHandle" ∧ y.cls ≠ "java/lang/invoke/VarHandle" ∧ (parseMethodDescriptor y.desc).map (fun d => d.parameters.length) = some n)
    (hR : fr2 + 1 ≤ R.frames ∧ 8 + (maxL + 11) + lo2 ≤ R.locals) {lv : List (Nat × Value)} (hls : lv_has ls nL lv) (hn : As.length = n) (hst : st = As.reverse ++ .ref b :: rest) (hcat : (rest.map fun v => v.category).sum ≤ 8) (hcs : cells ≤ R.cells ∧ slots ≤ R.slots) (hdg : decode cc pc = .ok (.invokespecial index, 3))
    (kk : ∀ (H1 : Heap) (locs1 : List Loc), WB g A s.heap ids ad E' H1 locs1 → W p l e R s m args below meth c H1 locs1 cells slots Q (F0 m (pc + 3) ls rest)) : W p l e R s m args below meth c H locs cells slots Q (F0 m pc ls st) :=
  r_back X hW hs (va_runIN X.1 (hM H.size) ⟨va_cnB n X.1.2.2.2.2 (lw_meth hco) rfl rfl rfl (X.2.2.2.1.2.1 _ (nst_in hlk rfl)) (X.1.2.2.2.2 _ hini) hd hR, hy1, X.1.2.2.2.2 _ hinst⟩ ⟨pre_blind, fun U hU hWm => ⟨rfl, r_pre X hW hs U hU hWm⟩⟩ rfl hn hls.1 hst (lv_room hcat) hdg hcs) kk
theorem r_putF (X : MX p s m args meth c cc nL own ret g A) (hW : WB g A s.heap ids ad E H locs) (hin2 : meth.name = "<init>") {k ci j index N : Nat} {C : String} {T : u_T} {ty0 : Nat → FieldType} {fs : List Value} {v : Value} (hk : k ∈ ids) (hE : E k = .inr (ci, fs)) (hc : clG[ci]? = some (C, T, N)) (hin : ∀ w ∈ u_ws C T N, w ∈ lw_all) (hty : ∀ k, k < N → parseFieldDescriptor (T k).2.2.1 = some (ty0 k)) (hnm : ∀ a, a < N → ∀ b, b < N → a ≠ b → (T a).2.1 ≠ (T b).2.1) (hj : j < N) (hl : Cond.fieldLink own index (T j).1 (T j).2.1 (T j).2.2.1 ∈ lw_all) (hfin : (T j).2.2.2 = true) (hdecl : (T j).1 = own) (hn : narrow (ty0 j) v = v) (hfit : fits (ty0 j) v = true) (hlen : j < fs.length) (hdg : decode cc pc = .ok (.putfield index, 3))
    (kk : ∀ (H1 : Heap) (locs1 : List Loc), WB g A s.heap ids ad (va_up E k (.inr (ci, fs.set j v))) H1 locs1 → W p l e R s m args below meth c H1 locs1 cells slots Q (F0 m (pc + 3) ls rest)) : W p l e R s m args below meth c H locs cells slots Q (F0 m pc ls (v :: .ref (ad k) :: rest)) := by
  obtain ⟨q, hqi, hq⟩ := wl_i (ad := ad) (E := E) hk
  rw [hE] at hq
  exact va_putF X.1.1 X.1.2.1 X.1.2.2.2.2 hin ty0 hty hnm X.1.2.2.2.1 X.2.2.2.1.1 hW.1 hW.D hW.2.2 q hq hc j hj (X.1.2.2.2.2 _ hl) (fun _ h => h) hfin hin2 hdecl (hty j hj) hn hfit hlen hdg (fun H1 locs1 hP _ hS => kk H1 locs1 ⟨wl_set hW.2.1.1 hW.2.1.2 hqi hP, hW.2.1, hS⟩)
end CI
theorem MC.ofI {l : Launch} {y : MethodName} {cc : ByteArray} {nL : Nat} {ret : Option FieldType} {fr lo : Nat} {g : gG} {ids : List Nat} {ad : Nat → Nat} {E E' : Nat → va_E} {As : List Value} {rv : Option Value} (hy : plainName y.cls = true) (hn : ids.Nodup) (hi : wI (fun _ => True) ids ad) (hL : (lg_sl As).length ≤ nL)
    (body : ∀ (p : Program) (e : Env) (s : State) (m : MethodId) (below : List Frame) (meth : Method) (c : Code) (A : Nat → Prop) (ls : Array Slot), MX p s m As.toArray meth c cc nL y.cls ret g A → meth.name = y.name → WB g A s.heap ids ad E s.heap [] → lv_has ls nL (lv_args 0 As) →
      W p l e (rm_ fr lo) s m As.toArray below meth c s.heap [] 0 0 (Qm below g ids ad E' rv A As.toArray s) (F0 m 0 ls [])) : MC l y cc nL ret fr lo g ids ad E E' As rv := by
  intro sz
  refine Met.ofW (cc := cc) (maxL := nL) (ret := ret) hy rfl ?_
  intro p e s m args below meth c s₁ B hml hv
  obtain ⟨rfl, hsz, hP, hK, hF⟩ := hv
  subst hsz
  have hts := atoms_spec (ws := ws_ y cc nL ret) B.pre
  have hts : ∀ w ∈ lw_all, w.before _ s = true := fun w h => hts w (List.mem_cons_of_mem _ h)
  have hl := lv_entry As (n := nL) hL
  rw [lg_entry_eq]
  exact body p e s m below meth c (wA ids ad s.heap.size) _ ⟨⟨B.exec, B.bytes, hml, findClass_of_methodNamed B.named, hts⟩, B.returns, B.notSynchronized, hK, hF, fun q h => Or.inr h⟩ (name_of_methodNamed B.named B.method).1 ⟨hP, ⟨hn, hi.1, fun k hk => Or.inl ⟨k, hk, rfl⟩⟩, va_S.rf⟩ hl
theorem wI_0 {ad : Nat → Nat} : wI (fun _ => True) [0] ad := ⟨fun i j hi hj _ => by simp at hi hj; rw [hi, hj], fun _ _ => trivial⟩
def oneE (x : va_E) : Nat → va_E := fun _ => x
theorem wone_up {x y : va_E} : ∀ k ∈ [0], oneE y k = va_up (oneE x) 0 y k := by
  intro k hk
  simp at hk
  subst hk
  rfl
theorem w_X7_init (l : Launch) {g : gG} {a : Nat} : MS l yX7_init cX7_init 1 none 2 40 g [.ref a] none := by
  refine MC.ofI (by decide) List.nodup_nil wI_nil (Nat.le_of_ble_eq_true rfl) (fun p e s m below meth c A ls X hin hW hl => ?_)
  have hx := X.1.1
  have hb := X.1.2.1
  have hl : lv_has ls 1 [(0, .ref a)] := hl
  refine lv_aload_n hx hb dX7_init_0 rfl (lv_at hl 0 rfl) ?_
  refine W.objInit hx hb X.1.2.2.2.1 (X.1.2.2.2.2 _ q693) (X.1.2.2.2.2 _ q152) (X.1.2.2.2.2 _ q153) rfl (by rw [X.1.2.2.1]; exact hl.1) rfl dX7_init_1 (Nat.le_of_ble_eq_true rfl) (Nat.le_of_ble_eq_true rfl) ?_
  refine W.eq (g2 := F0 m 4 ls []) rfl ?_
  exact r_vret X hW (fun _ _ => rfl) rfl dX7_init_4
theorem w_X11_init (l : Launch) {g : gG} {a : Nat} : MS l yX11_init cX11_init 1 none 2 40 g [.ref a] none := by
  refine MC.ofI (by decide) List.nodup_nil wI_nil (Nat.le_of_ble_eq_true rfl) (fun p e s m below meth c A ls X hin hW hl => ?_)
  have hx := X.1.1
  have hb := X.1.2.1
  have hl : lv_has ls 1 [(0, .ref a)] := hl
  refine lv_aload_n hx hb dX11_init_0 rfl (lv_at hl 0 rfl) ?_
  refine W.objInit hx hb X.1.2.2.2.1 (X.1.2.2.2.2 _ q754) (X.1.2.2.2.2 _ q152) (X.1.2.2.2.2 _ q153) rfl (by rw [X.1.2.2.1]; exact hl.1) rfl dX11_init_1 (Nat.le_of_ble_eq_true rfl) (Nat.le_of_ble_eq_true rfl) ?_
  refine W.eq (g2 := F0 m 4 ls []) rfl ?_
  exact r_vret X hW (fun _ _ => rfl) rfl dX11_init_4
theorem w_X6_init (l : Launch) {g : gG} {a : Nat} : MS l yX6_init cX6_init 1 none 2 40 g [.ref a] none := by
  refine MC.ofI (by decide) List.nodup_nil wI_nil (Nat.le_of_ble_eq_true rfl) (fun p e s m below meth c A ls X hin hW hl => ?_)
  have hx := X.1.1
  have hb := X.1.2.1
  have hl : lv_has ls 1 [(0, .ref a)] := hl
  refine lv_aload_n hx hb dX6_init_0 rfl (lv_at hl 0 rfl) ?_
  refine W.objInit hx hb X.1.2.2.2.1 (X.1.2.2.2.2 _ q658) (X.1.2.2.2.2 _ q152) (X.1.2.2.2.2 _ q153) rfl (by rw [X.1.2.2.1]; exact hl.1) rfl dX6_init_1 (Nat.le_of_ble_eq_true rfl) (Nat.le_of_ble_eq_true rfl) ?_
  refine W.eq (g2 := F0 m 4 ls []) rfl ?_
  exact r_vret X hW (fun _ _ => rfl) rfl dX6_init_4
theorem w_X8_init (l : Launch) {g : gG} {ad : Nat → Nat} {n : Int64}  : MC l yX8_init cX8_init 3 none 4 120 g [0] ad (oneE (.inr (7, [.long 0]))) (oneE (.inr (7, [.long n]))) [.ref (ad 0), .long n] none := by
  refine MC.ofI (by decide) (by decide) wI_0 (Nat.le_of_ble_eq_true rfl) (fun p e s m below meth c A ls X hin hW hl => ?_)
  have hx := X.1.1
  have hb := X.1.2.1
  have hl : lv_has ls 3 [(0, .ref (ad 0)), (1, .long n)] := hl
  generalize ([.ref (ad 0), .long n] : List Value).toArray = args at X ⊢
  refine lv_aload_n hx hb dX8_init_0 rfl (lv_at hl 0 rfl) ?_
  refine r_callIN X hW Sub.nil (w_X7_init l) q692 q135 q690 q691 rfl ⟨by decide, by decide, by decide +kernel⟩ (n := 0) (rest := []) (by decide) hl rfl rfl (Nat.le_of_ble_eq_true rfl) ⟨Nat.zero_le _, Nat.zero_le _⟩ dX8_init_1 (fun H locs hW => ?_)
  refine lv_aload_n hx hb dX8_init_4 rfl (lv_at hl 0 rfl) ?_
  refine lv_lload_n hx hb dX8_init_5 rfl (lv_at hl 1 rfl) ?_
  refine r_putF X hW hin (k := 0) (ci := 7) (j := 0) (N := 1) List.mem_cons_self rfl rfl in_X8 tyX8_ok nmX8 (by decide) q694 rfl rfl rfl rfl (by show 0 < 1; decide) dX8_init_6 (fun H locs hW => ?_)
  replace hW := hW.e (E' := oneE (.inr (7, [.long n]))) wone_up
  exact r_vret X hW (fun _ _ => rfl) rfl dX8_init_9
theorem w_X9_init (l : Launch) {g : gG} {ad : Nat → Nat} {w : Int32}  : MC l yX9_init cX9_init 2 none 4 120 g [0] ad (oneE (.inr (8, [.int 0]))) (oneE (.inr (8, [.int w]))) [.ref (ad 0), .int w] none := by
  refine MC.ofI (by decide) (by decide) wI_0 (Nat.le_of_ble_eq_true rfl) (fun p e s m below meth c A ls X hin hW hl => ?_)
  have hx := X.1.1
  have hb := X.1.2.1
  have hl : lv_has ls 2 [(0, .ref (ad 0)), (1, .int w)] := hl
  generalize ([.ref (ad 0), .int w] : List Value).toArray = args at X ⊢
  refine lv_aload_n hx hb dX9_init_0 rfl (lv_at hl 0 rfl) ?_
  refine r_callIN X hW Sub.nil (w_X7_init l) q692 q135 q703 q691 rfl ⟨by decide, by decide, by decide +kernel⟩ (n := 0) (rest := []) (by decide) hl rfl rfl (Nat.le_of_ble_eq_true rfl) ⟨Nat.zero_le _, Nat.zero_le _⟩ dX9_init_1 (fun H locs hW => ?_)
  refine lv_aload_n hx hb dX9_init_4 rfl (lv_at hl 0 rfl) ?_
  refine lv_iload_n hx hb dX9_init_5 rfl (lv_at hl 1 rfl) ?_
  refine r_putF X hW hin (k := 0) (ci := 8) (j := 0) (N := 1) List.mem_cons_self rfl rfl in_X9 tyX9_ok nmX9 (by decide) q704 rfl rfl rfl rfl (by show 0 < 1; decide) dX9_init_6 (fun H locs hW => ?_)
  replace hW := hW.e (E' := oneE (.inr (8, [.int w]))) wone_up
  exact r_vret X hW (fun _ _ => rfl) rfl dX9_init_9
theorem w_X10_init (l : Launch) {g : gG} {ad : Nat → Nat} {a1 : Nat} {sg : Int32} {a2 : Nat}  : MC l yX10_init cX10_init 4 none 4 120 g [0] ad (oneE (.inr (9, [.null, .null, .int 0]))) (oneE (.inr (9, [.ref a1, .ref a2, .int sg]))) [.ref (ad 0), .ref a1, .int sg, .ref a2] none := by
  refine MC.ofI (by decide) (by decide) wI_0 (Nat.le_of_ble_eq_true rfl) (fun p e s m below meth c A ls X hin hW hl => ?_)
  have hx := X.1.1
  have hb := X.1.2.1
  have hl : lv_has ls 4 [(0, .ref (ad 0)), (1, .ref a1), (2, .int sg), (3, .ref a2)] := hl
  generalize ([.ref (ad 0), .ref a1, .int sg, .ref a2] : List Value).toArray = args at X ⊢
  refine lv_aload_n hx hb dX10_init_0 rfl (lv_at hl 0 rfl) ?_
  refine r_callIN X hW Sub.nil (w_X7_init l) q692 q135 q713 q691 rfl ⟨by decide, by decide, by decide +kernel⟩ (n := 0) (rest := []) (by decide) hl rfl rfl (Nat.le_of_ble_eq_true rfl) ⟨Nat.zero_le _, Nat.zero_le _⟩ dX10_init_1 (fun H locs hW => ?_)
  refine lv_aload_n hx hb dX10_init_4 rfl (lv_at hl 0 rfl) ?_
  refine lv_aload_n hx hb dX10_init_5 rfl (lv_at hl 1 rfl) ?_
  refine r_putF X hW hin (k := 0) (ci := 9) (j := 0) (N := 3) List.mem_cons_self rfl rfl in_X10 tyX10_ok nmX10 (by decide) q714 rfl rfl rfl rfl (by show 0 < 3; decide) dX10_init_6 (fun H locs hW => ?_)
  replace hW := hW.e (E' := oneE (.inr (9, [.ref a1, .null, .int 0]))) wone_up
  refine lv_aload_n hx hb dX10_init_9 rfl (lv_at hl 0 rfl) ?_
  refine lv_iload_n hx hb dX10_init_10 rfl (lv_at hl 2 rfl) ?_
  refine r_putF X hW hin (k := 0) (ci := 9) (j := 2) (N := 3) List.mem_cons_self rfl rfl in_X10 tyX10_ok nmX10 (by decide) q716 rfl rfl rfl rfl (by show 2 < 3; decide) dX10_init_11 (fun H locs hW => ?_)
  replace hW := hW.e (E' := oneE (.inr (9, [.ref a1, .null, .int sg]))) wone_up
  refine lv_aload_n hx hb dX10_init_14 rfl (lv_at hl 0 rfl) ?_
  refine lv_aload_n hx hb dX10_init_15 rfl (lv_at hl 3 rfl) ?_
  refine r_putF X hW hin (k := 0) (ci := 9) (j := 1) (N := 3) List.mem_cons_self rfl rfl in_X10 tyX10_ok nmX10 (by decide) q715 rfl rfl rfl rfl (by show 1 < 3; decide) dX10_init_16 (fun H locs hW => ?_)
  replace hW := hW.e (E' := oneE (.inr (9, [.ref a1, .ref a2, .int sg]))) wone_up
  exact r_vret X hW (fun _ _ => rfl) rfl dX10_init_19
theorem w_X12_init (l : Launch) {g : gG} {ad : Nat → Nat} {a1 : Nat}  : MC l yX12_init cX12_init 2 none 4 120 g [0] ad (oneE (.inr (10, [.null]))) (oneE (.inr (10, [.ref a1]))) [.ref (ad 0), .ref a1] none := by
  refine MC.ofI (by decide) (by decide) wI_0 (Nat.le_of_ble_eq_true rfl) (fun p e s m below meth c A ls X hin hW hl => ?_)
  have hx := X.1.1
  have hb := X.1.2.1
  have hl : lv_has ls 2 [(0, .ref (ad 0)), (1, .ref a1)] := hl
  generalize ([.ref (ad 0), .ref a1] : List Value).toArray = args at X ⊢
  refine lv_aload_n hx hb dX12_init_0 rfl (lv_at hl 0 rfl) ?_
  refine r_callIN X hW Sub.nil (w_X11_init l) q753 q139 q751 q752 rfl ⟨by decide, by decide, by decide +kernel⟩ (n := 0) (rest := []) (by decide) hl rfl rfl (Nat.le_of_ble_eq_true rfl) ⟨Nat.zero_le _, Nat.zero_le _⟩ dX12_init_1 (fun H locs hW => ?_)
  refine lv_aload_n hx hb dX12_init_4 rfl (lv_at hl 0 rfl) ?_
  refine lv_aload_n hx hb dX12_init_5 rfl (lv_at hl 1 rfl) ?_
  refine r_putF X hW hin (k := 0) (ci := 10) (j := 0) (N := 1) List.mem_cons_self rfl rfl in_X12 tyX12_ok nmX12 (by decide) q755 rfl rfl rfl rfl (by show 0 < 1; decide) dX12_init_6 (fun H locs hW => ?_)
  replace hW := hW.e (E' := oneE (.inr (10, [.ref a1]))) wone_up
  exact r_vret X hW (fun _ _ => rfl) rfl dX12_init_9
theorem w_X13_init (l : Launch) {g : gG} {ad : Nat → Nat} {a1 : Nat} {sg : Int32} {a2 : Nat}  : MC l yX13_init cX13_init 4 none 4 120 g [0] ad (oneE (.inr (11, [.null, .null, .int 0]))) (oneE (.inr (11, [.ref a1, .ref a2, .int sg]))) [.ref (ad 0), .ref a1, .int sg, .ref a2] none := by
  refine MC.ofI (by decide) (by decide) wI_0 (Nat.le_of_ble_eq_true rfl) (fun p e s m below meth c A ls X hin hW hl => ?_)
  have hx := X.1.1
  have hb := X.1.2.1
  have hl : lv_has ls 4 [(0, .ref (ad 0)), (1, .ref a1), (2, .int sg), (3, .ref a2)] := hl
  generalize ([.ref (ad 0), .ref a1, .int sg, .ref a2] : List Value).toArray = args at X ⊢
  refine lv_aload_n hx hb dX13_init_0 rfl (lv_at hl 0 rfl) ?_
  refine r_callIN X hW Sub.nil (w_X11_init l) q753 q139 q768 q752 rfl ⟨by decide, by decide, by decide +kernel⟩ (n := 0) (rest := []) (by decide) hl rfl rfl (Nat.le_of_ble_eq_true rfl) ⟨Nat.zero_le _, Nat.zero_le _⟩ dX13_init_1 (fun H locs hW => ?_)
  refine lv_aload_n hx hb dX13_init_4 rfl (lv_at hl 0 rfl) ?_
  refine lv_aload_n hx hb dX13_init_5 rfl (lv_at hl 1 rfl) ?_
  refine r_putF X hW hin (k := 0) (ci := 11) (j := 0) (N := 3) List.mem_cons_self rfl rfl in_X13 tyX13_ok nmX13 (by decide) q769 rfl rfl rfl rfl (by show 0 < 3; decide) dX13_init_6 (fun H locs hW => ?_)
  replace hW := hW.e (E' := oneE (.inr (11, [.ref a1, .null, .int 0]))) wone_up
  refine lv_aload_n hx hb dX13_init_9 rfl (lv_at hl 0 rfl) ?_
  refine lv_iload_n hx hb dX13_init_10 rfl (lv_at hl 2 rfl) ?_
  refine r_putF X hW hin (k := 0) (ci := 11) (j := 2) (N := 3) List.mem_cons_self rfl rfl in_X13 tyX13_ok nmX13 (by decide) q771 rfl rfl rfl rfl (by show 2 < 3; decide) dX13_init_11 (fun H locs hW => ?_)
  replace hW := hW.e (E' := oneE (.inr (11, [.ref a1, .null, .int sg]))) wone_up
  refine lv_aload_n hx hb dX13_init_14 rfl (lv_at hl 0 rfl) ?_
  refine lv_aload_n hx hb dX13_init_15 rfl (lv_at hl 3 rfl) ?_
  refine r_putF X hW hin (k := 0) (ci := 11) (j := 1) (N := 3) List.mem_cons_self rfl rfl in_X13 tyX13_ok nmX13 (by decide) q770 rfl rfl rfl rfl (by show 1 < 3; decide) dX13_init_16 (fun H locs hW => ?_)
  replace hW := hW.e (E' := oneE (.inr (11, [.ref a1, .ref a2, .int sg]))) wone_up
  exact r_vret X hW (fun _ _ => rfl) rfl dX13_init_19
theorem w_X14_init (l : Launch) {g : gG} {ad : Nat → Nat} {a1 : Nat} {z : Int32} {a2 : Nat} (hz_z : zb z = true) : MC l yX14_init cX14_init 4 none 4 120 g [0] ad (oneE (.inr (12, [.null, .null, .int 0]))) (oneE (.inr (12, [.ref a1, .ref a2, .int z]))) [.ref (ad 0), .ref a1, .int z, .ref a2] none := by
  refine MC.ofI (by decide) (by decide) wI_0 (Nat.le_of_ble_eq_true rfl) (fun p e s m below meth c A ls X hin hW hl => ?_)
  have hx := X.1.1
  have hb := X.1.2.1
  have hl : lv_has ls 4 [(0, .ref (ad 0)), (1, .ref a1), (2, .int z), (3, .ref a2)] := hl
  generalize ([.ref (ad 0), .ref a1, .int z, .ref a2] : List Value).toArray = args at X ⊢
  refine lv_aload_n hx hb dX14_init_0 rfl (lv_at hl 0 rfl) ?_
  refine r_callIN X hW Sub.nil (w_X11_init l) q753 q139 q785 q752 rfl ⟨by decide, by decide, by decide +kernel⟩ (n := 0) (rest := []) (by decide) hl rfl rfl (Nat.le_of_ble_eq_true rfl) ⟨Nat.zero_le _, Nat.zero_le _⟩ dX14_init_1 (fun H locs hW => ?_)
  refine lv_aload_n hx hb dX14_init_4 rfl (lv_at hl 0 rfl) ?_
  refine lv_aload_n hx hb dX14_init_5 rfl (lv_at hl 1 rfl) ?_
  refine r_putF X hW hin (k := 0) (ci := 12) (j := 0) (N := 3) List.mem_cons_self rfl rfl in_X14 tyX14_ok nmX14 (by decide) q786 rfl rfl rfl rfl (by show 0 < 3; decide) dX14_init_6 (fun H locs hW => ?_)
  replace hW := hW.e (E' := oneE (.inr (12, [.ref a1, .null, .int 0]))) wone_up
  refine lv_aload_n hx hb dX14_init_9 rfl (lv_at hl 0 rfl) ?_
  refine lv_iload_n hx hb dX14_init_10 rfl (lv_at hl 2 rfl) ?_
  refine r_putF X hW hin (k := 0) (ci := 12) (j := 2) (N := 3) List.mem_cons_self rfl rfl in_X14 tyX14_ok nmX14 (by decide) q788 rfl rfl (zb_n hz_z) (fits_z hz_z) (by show 2 < 3; decide) dX14_init_11 (fun H locs hW => ?_)
  replace hW := hW.e (E' := oneE (.inr (12, [.ref a1, .null, .int z]))) wone_up
  refine lv_aload_n hx hb dX14_init_14 rfl (lv_at hl 0 rfl) ?_
  refine lv_aload_n hx hb dX14_init_15 rfl (lv_at hl 3 rfl) ?_
  refine r_putF X hW hin (k := 0) (ci := 12) (j := 1) (N := 3) List.mem_cons_self rfl rfl in_X14 tyX14_ok nmX14 (by decide) q787 rfl rfl rfl rfl (by show 1 < 3; decide) dX14_init_16 (fun H locs hW => ?_)
  replace hW := hW.e (E' := oneE (.inr (12, [.ref a1, .ref a2, .int z]))) wone_up
  exact r_vret X hW (fun _ _ => rfl) rfl dX14_init_19
