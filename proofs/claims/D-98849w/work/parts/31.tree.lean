/-! rule trees: frozen cells, what they answer -/
set_option maxRecDepth 100000
theorem lw_U {own : String} {idx : Nat} {C owner : String} {x y : MethodName} {b : ByteArray} {L : Nat} {r : Option FieldType} (h1 : Cond.methodLink own idx x ∈ lw_all) (h2 : Cond.sameMethod x.cls owner x.name x.desc ∈ lw_all) (h3 : Cond.selects C x y ∈ lw_all) (h4 : Cond.instanceMethod y ∈ lw_all) (h5 : Cond.initialized y.cls ∈ lw_all) (h6 : Cond.code y b L r ∈ lw_all) : GoodIn lw_all (va_wsU own idx C owner x y (ws_ y b L r)) := by
  refine lw_app ?_ (lw_meth h6)
  intro w hw
  simp only [List.mem_cons, List.not_mem_nil, or_false] at hw
  rcases hw with e | e | e | e | e
  · rw [e]; exact h1
  · rw [e]; exact h2
  · rw [e]; exact h3
  · rw [e]; exact h4
  · rw [e]; exact h5
def yVof : MethodName := ⟨"DoughBorder$Value", "of", "([J)J"⟩
def yTis : MethodName := ⟨"DoughBorder$Test", "is", "([J)Z"⟩
abbrev Wds : Type := Nat → Int64
def wE (g : gG) (ws : Wds) : Nat → va_E := fun _ => .inl (g.2.1 3, 12, .inr (.inl ws))
/-- what the tree at a answers -/
def OfC (l : Launch) (g : gG) (d : Nat) (φ : Wds → Int64) (a : Nat) : Prop := ∀ (ad : Nat → Nat) (ws : Wds), ∃ (C : String) (y : MethodName) (bytes : ByteArray) (maxL ci N : Nat) (T : u_T) (fs : List Value),
  (a, .inr (ci, fs)) ∈ g.2.2.2.2 ∧ clG[ci]? = some (C, T, N) ∧ Cond.selects C yVof y ∈ lw_all ∧ Cond.instanceMethod y ∈ lw_all ∧ Cond.initialized y.cls ∈ lw_all ∧ Cond.code y bytes maxL (some .long) ∈ lw_all ∧ maxL ≤ 6 ∧
  MC l y bytes maxL (some .long) (d + 1) (20 + 40 * d) g [23] ad (wE g ws) (wE g ws) [.ref a, .ref (ad 23)] (some (.long (φ ws)))
def IsC (l : Launch) (g : gG) (d : Nat) (φ : Wds → Int32) (a : Nat) : Prop := ∀ (ad : Nat → Nat) (ws : Wds), ∃ (C : String) (y : MethodName) (bytes : ByteArray) (maxL ci N : Nat) (T : u_T) (fs : List Value),
  (a, .inr (ci, fs)) ∈ g.2.2.2.2 ∧ clG[ci]? = some (C, T, N) ∧ Cond.selects C yTis y ∈ lw_all ∧ Cond.instanceMethod y ∈ lw_all ∧ Cond.initialized y.cls ∈ lw_all ∧ Cond.code y bytes maxL (some .boolean) ∈ lw_all ∧ maxL ≤ 6 ∧
  MC l y bytes maxL (some .boolean) (d + 1) (20 + 40 * d) g [23] ad (wE g ws) (wE g ws) [.ref a, .ref (ad 23)] (some (.int (φ ws)))
theorem wI_23 {ad : Nat → Nat} : wI (fun _ => True) [23] ad := ⟨fun i j hi hj _ => by simp at hi hj; rw [hi, hj], fun _ _ => trivial⟩
section TR
variable {p : Program} {l : Launch} {e : Env} {R : Room} {s : State} {m : MethodId} {args : Array Value} {below : List Frame} {meth : Method} {c : Code} {H : Heap} {locs : List Loc} {cells slots : Nat} {Q : State → Prop}
variable {cc : ByteArray} {nL : Nat} {own : String} {ret : Option FieldType} {g : gG} {A : Nat → Prop} {ids : List Nat} {ad : Nat → Nat} {E : Nat → va_E} {pc : Nat} {ls : Array Slot} {rest : List Value}
theorem Sub.one {ids : List Nat} {ad : Nat → Nat} {E : Nat → va_E} {A : Nat → Prop} (hI : wI A ids ad) {k k2 : Nat} (hk : k ∈ ids) {x : va_E} (hE : E k = x) {E2 : Nat → va_E} (h2 : E2 k2 = x) : Sub ids ad E E [k2] (fun _ => ad k) E2 E2 := by
  refine ⟨fun j hj => ?_, fun j hj => ?_⟩
  · simp at hj
    subst hj
    exact ⟨k, hk, rfl, by rw [hE, h2]⟩
  · by_cases h : ad j = ad k
    · have := hI.1 j k hj hk h
      subst this
      exact Or.inl ⟨k2, by simp, rfl, by rw [hE, h2]⟩
    · exact Or.inr ⟨rfl, fun _ _ => h⟩
theorem r_callA (X : MX p s m args meth c cc nL own ret g A) (hW : WB g A s.heap ids ad E H locs) {ids2 : List Nat} {ad2 : Nat → Nat} {E' E2 E2' : Nat → va_E} (hs : Sub ids ad E E' ids2 ad2 E2 E2') {x y : MethodName} {bytes : ByteArray} {maxL fr2 lo2 index n b : Nat} {ret2 : Option FieldType} {C owner : String} {As st : List Value} {rv : Option Value}
    (hM : MC l y bytes maxL ret2 fr2 lo2 g ids2 ad2 E2 E2' (.ref b :: As) rv) (hG : GoodIn lw_all (va_wsU own index C owner x y (ws_ y bytes maxL ret2))) (hz : Cond.declares ⟨owner, x.name, x.desc⟩ ∈ lw_tbl) (hd : owner ≠ "java/lang/invoke/MethodHandle" ∧ owner ≠ "java/lang/invoke/VarHandle" ∧ (parseMethodDescriptor x.desc).map (fun d => d.parameters.length) = some n)
    (hrec : ∃ cell : Cell, H[b]? = some cell ∧ cell.vm.isStatics = false ∧ s.vm.findClass C = some cell.cls) (hR : fr2 + 1 ≤ R.frames ∧ 8 + (maxL + 11) + lo2 ≤ R.locals) {lv : List (Nat × Value)} (hls : lv_has ls nL lv) (hn : As.length = n) (hst : st = As.reverse ++ .ref b :: rest) (hcat : (rest.map fun v => v.category).sum ≤ 8) (hcs : cells ≤ R.cells ∧ slots ≤ R.slots) (hdg : decode cc pc = .ok (.invokevirtual index, 3))
    (kk : ∀ (H1 : Heap) (locs1 : List Loc), WB g A s.heap ids ad E' H1 locs1 → W p l e R s m args below meth c H1 locs1 cells slots Q (F0 m (pc + 3) ls (rv.toList ++ rest))) : W p l e R s m args below meth c H locs cells slots Q (F0 m pc ls st) :=
  r_back X hW hs (va_runU X.1 (hM H.size) (va_cwA n X.1.2.2.2.2 hG rfl rfl rfl (X.2.2.2.1.2.1 _ (nst_in hz rfl)) hd hR) ⟨pre_blind, hrec, fun U hU hWm => ⟨rfl, r_pre X hW hs U hU hWm⟩⟩ rfl hn hls.1 hst (lv_room hcat) hdg hcs) kk
theorem k_of {d : Nat} {φ : Wds → Int64} {a : Nat} (X : MX p s m args meth c cc nL own ret g A) (hW : WB g A s.heap ids ad E H locs) (hv : OfC l g d φ a) {k index : Nat} {ws : Wds} (hk : k ∈ ids) (hE : E k = .inl (g.2.1 3, 12, .inr (.inl ws))) (hq : Cond.methodLink own index yVof ∈ lw_all) (hR : d + 2 ≤ R.frames ∧ 60 + 40 * d ≤ R.locals) {lv : List (Nat × Value)} (hl : lv_has ls nL lv) (hcat : (rest.map fun v => v.category).sum ≤ 8) (hdg : decode cc pc = .ok (.invokevirtual index, 3))
    (kk : ∀ (H1 : Heap) (l1 : List Loc), WB g A s.heap ids ad E H1 l1 → W p l e R s m args below meth c H1 l1 0 0 Q (F0 m (pc + 3) ls (.long (φ ws) :: rest))) : W p l e R s m args below meth c H locs 0 0 Q (F0 m pc ls (.ref (ad k) :: .ref a :: rest)) := by
  obtain ⟨C, y, bytes, maxL, ci, N, T, fs, ha, hc, h1, h2, h3, h4, h5, hM⟩ := hv (fun _ => ad k) ws
  exact r_callA X hW (Sub.one hW.2.1.2 hk hE (E2 := wE g ws) (k2 := 23) rfl) hM (lw_U (owner := "DoughBorder$Value") hq q918 h1 h2 h3 h4) q917 ⟨by decide, by decide, by decide +kernel⟩ (fz_recv X hW ha hc) (n := 1) ⟨by have := hR.1; omega, by have := hR.2; omega⟩ hl rfl rfl hcat ⟨Nat.zero_le _, Nat.zero_le _⟩ hdg kk
theorem k_is {d : Nat} {φ : Wds → Int32} {a : Nat} (X : MX p s m args meth c cc nL own ret g A) (hW : WB g A s.heap ids ad E H locs) (hv : IsC l g d φ a) {k index : Nat} {ws : Wds} (hk : k ∈ ids) (hE : E k = .inl (g.2.1 3, 12, .inr (.inl ws))) (hq : Cond.methodLink own index yTis ∈ lw_all) (hR : d + 2 ≤ R.frames ∧ 60 + 40 * d ≤ R.locals) {lv : List (Nat × Value)} (hl : lv_has ls nL lv) (hcat : (rest.map fun v => v.category).sum ≤ 8) (hdg : decode cc pc = .ok (.invokevirtual index, 3))
    (kk : ∀ (H1 : Heap) (l1 : List Loc), WB g A s.heap ids ad E H1 l1 → W p l e R s m args below meth c H1 l1 0 0 Q (F0 m (pc + 3) ls (.int (φ ws) :: rest))) : W p l e R s m args below meth c H locs 0 0 Q (F0 m pc ls (.ref (ad k) :: .ref a :: rest)) := by
  obtain ⟨C, y, bytes, maxL, ci, N, T, fs, ha, hc, h1, h2, h3, h4, h5, hM⟩ := hv (fun _ => ad k) ws
  exact r_callA X hW (Sub.one hW.2.1.2 hk hE (E2 := wE g ws) (k2 := 23) rfl) hM (lw_U (owner := "DoughBorder$Test") hq q909 h1 h2 h3 h4) q908 ⟨by decide, by decide, by decide +kernel⟩ (fz_recv X hW ha hc) (n := 1) ⟨by have := hR.1; omega, by have := hR.2; omega⟩ hl rfl rfl hcat ⟨Nat.zero_le _, Nat.zero_le _⟩ hdg kk
theorem r_fgetN (X : MX p s m args meth c cc nL own ret g A) (hW : WB g A s.heap ids ad E H locs) {a ci j index N : Nat} {C host : String} {T : u_T} {fs : List Value} {v : Value} (ha : (a, .inr (ci, fs)) ∈ g.2.2.2.2) (hc : clG[ci]? = some (C, T, N)) (hin : ∀ w ∈ u_ws C T N, w ∈ lw_all) (hj : j < N) (hl : Cond.fieldLinkNest own index (T j).1 (T j).2.1 (T j).2.2.1 host ∈ lw_tbl) (hv : fs[j]? = some v) (hdg : decode cc pc = .ok (.getfield index, 3))
    (kk : W p l e R s m args below meth c H locs cells slots Q (F0 m (pc + 3) ls (v :: rest))) : W p l e R s m args below meth c H locs cells slots Q (F0 m pc ls (.ref a :: rest)) := by
  obtain ⟨q, hq⟩ := List.getElem?_of_mem ha
  exact va_getN X.1.1 X.1.2.1 X.1.2.2.2.2 hin X.1.2.2.2.1 X.2.2.2.1.1 (fz_P X hW) q hq hc j hj (va_Nw.use rfl (X.2.2.2.1.2.1 _ (nst_in hl rfl))) (fun _ h => h) hv hdg kk
end TR

noncomputable def t_num (n : Int64) (ws : Wds) : Option Int64 :=
  some n
set_option maxHeartbeats 4000000 in
theorem wt_num (l : Launch) {g : gG} {d a  : Nat} {n : Int64} {ws : Wds} {ad : Nat → Nat} {r : Int64} (ha : (a, .inr (7, [.long n])) ∈ g.2.2.2.2)  (hf : t_num n ws = some r) : MC l yX8_of cX8_of 2 (some .long) (d + 1) (20 + 40 * d) g [23] ad (wE g ws) (wE g ws) [.ref a, .ref (ad 23)] (some (.long r)) := by
  refine MC.of (by decide) (by decide) wI_23 (Nat.le_of_ble_eq_true rfl) (fun p e s m below meth c A ls X hW hl => ?_)
  have hx := X.1.1
  have hb := X.1.2.1
  have hl : lv_has ls 2 [(0, .ref a), (1, .ref (ad 23))] := hl
  unfold t_num at hf
  generalize ([.ref a, .ref (ad 23)] : List Value).toArray = args at X ⊢
  refine lv_aload_n hx hb dX8_of_0 rfl (lv_at hl 0 rfl) ?_
  refine r_fget X hW ha rfl in_X8 (j := 0) (N := 1) (Nat.le_of_ble_eq_true rfl) q694 rfl dX8_of_1 ?_
  exact p_lret X hW hf dX8_of_4
noncomputable def t_word (w : Int32) (ws : Wds) : Option Int64 :=
  gd (inb w 12) (some (ws (ix w)))
set_option maxHeartbeats 4000000 in
theorem wt_word (l : Launch) {g : gG} {d a  : Nat} {w : Int32} {ws : Wds} {ad : Nat → Nat} {r : Int64} (ha : (a, .inr (8, [.int w])) ∈ g.2.2.2.2)  (hf : t_word w ws = some r) : MC l yX9_of cX9_of 2 (some .long) (d + 1) (20 + 40 * d) g [23] ad (wE g ws) (wE g ws) [.ref a, .ref (ad 23)] (some (.long r)) := by
  refine MC.of (by decide) (by decide) wI_23 (Nat.le_of_ble_eq_true rfl) (fun p e s m below meth c A ls X hW hl => ?_)
  have hx := X.1.1
  have hb := X.1.2.1
  have hl : lv_has ls 2 [(0, .ref a), (1, .ref (ad 23))] := hl
  unfold t_word at hf
  generalize ([.ref a, .ref (ad 23)] : List Value).toArray = args at X ⊢
  refine lv_aload_n hx hb dX9_of_0 rfl (lv_at hl 1 rfl) ?_
  refine lv_aload_n hx hb dX9_of_1 rfl (lv_at hl 0 rfl) ?_
  refine r_fget X hW ha rfl in_X9 (j := 0) (N := 1) (Nat.le_of_ble_eq_true rfl) q704 rfl dX9_of_2 ?_
  obtain ⟨h_1, hf⟩ := gd_e hf
  refine r_lald X hW (k := 23) List.mem_cons_self rfl h_1 dX9_of_5 ?_
  exact p_lret X hW hf dX9_of_6
noncomputable def t_pair (φ1 : Wds → Int64) (φ2 : Wds → Int64) (sg : Int32) (ws : Wds) : Option Int64 :=
  if sg = 37 then (if (lg_cmp (φ2 ws) 0) = 0 then (some 0) else (gd (nzL (φ2 ws)) (some ((φ1 ws) - (φ1 ws) / (φ2 ws) * (φ2 ws))))) else (if sg = 38 then (if (lg_cmp (φ2 ws) 0) = 0 then (some 0) else (gd (nzL (φ2 ws)) (some ((φ1 ws) / (φ2 ws))))) else (if sg = 39 then (if (lg_cmp (φ2 ws) 0) = 0 then (some 0) else (gd (nzL (φ2 ws)) (some ((φ1 ws) / (φ2 ws))))) else (if sg = 40 then (if (lg_cmp (φ2 ws) 0) = 0 then (some 0) else (gd (nzL (φ2 ws)) (some ((φ1 ws) / (φ2 ws))))) else (if sg = 41 then (if (lg_cmp (φ2 ws) 0) = 0 then (some 0) else (gd (nzL (φ2 ws)) (some ((φ1 ws) / (φ2 ws))))) else (if sg = 42 then (some ((φ1 ws) * (φ2 ws))) else (if sg = 43 then (some ((φ1 ws) + (φ2 ws))) else (if sg = 44 then (if (lg_cmp (φ2 ws) 0) = 0 then (some 0) else (gd (nzL (φ2 ws)) (some ((φ1 ws) / (φ2 ws))))) else (if sg = 45 then (some ((φ1 ws) - (φ2 ws))) else (if (lg_cmp (φ2 ws) 0) = 0 then (some 0) else (gd (nzL (φ2 ws)) (some ((φ1 ws) / (φ2 ws)))))))))))))
set_option maxHeartbeats 4000000 in
theorem wt_pair (l : Launch) {g : gG} {d a a1 a2 : Nat} {φ1 : Wds → Int64} {φ2 : Wds → Int64} {sg : Int32} {ws : Wds} {ad : Nat → Nat} {r : Int64} (ha : (a, .inr (9, [.ref a1, .ref a2, .int sg])) ∈ g.2.2.2.2) (h1 : OfC l g d φ1 a1) (h2 : OfC l g d φ2 a2) (hf : t_pair φ1 φ2 sg ws = some r) : MC l yX10_of cX10_of 6 (some .long) (d + 1 + 1) (20 + 40 * (d + 1)) g [23] ad (wE g ws) (wE g ws) [.ref a, .ref (ad 23)] (some (.long r)) := by
  refine MC.of (by decide) (by decide) wI_23 (Nat.le_of_ble_eq_true rfl) (fun p e s m below meth c A ls X hW hl => ?_)
  have hx := X.1.1
  have hb := X.1.2.1
  have hl : lv_has ls 6 [(0, .ref a), (1, .ref (ad 23))] := hl
  unfold t_pair at hf
  generalize ([.ref a, .ref (ad 23)] : List Value).toArray = args at X ⊢
  refine lv_aload_n hx hb dX10_of_0 rfl (lv_at hl 0 rfl) ?_
  refine r_fget X hW ha rfl in_X10 (j := 0) (N := 3) (Nat.le_of_ble_eq_true rfl) q714 rfl dX10_of_1 ?_
  refine lv_aload_n hx hb dX10_of_4 rfl (lv_at hl 1 rfl) ?_
  refine k_of X hW h1 List.mem_cons_self rfl q925 (by show d + 2 ≤ _ ∧ _ ≤ _; constructor <;> simp <;> omega) hl (Nat.le_of_ble_eq_true rfl) dX10_of_5 (fun H locs hW => ?_)
  refine lv_lstore_n (lv' := [(2, .long (φ1 ws)), (0, .ref a), (1, .ref (ad 23))]) hx hb dX10_of_8 rfl hl (by decide) rfl (fun ls hl => ?_)
  refine lv_aload_n hx hb dX10_of_9 rfl (lv_at hl 1 rfl) ?_
  refine r_fget X hW ha rfl in_X10 (j := 1) (N := 3) (Nat.le_of_ble_eq_true rfl) q715 rfl dX10_of_10 ?_
  refine lv_aload_n hx hb dX10_of_13 rfl (lv_at hl 2 rfl) ?_
  refine k_of X hW h2 List.mem_cons_self rfl q925 (by show d + 2 ≤ _ ∧ _ ≤ _; constructor <;> simp <;> omega) hl (Nat.le_of_ble_eq_true rfl) dX10_of_14 (fun H locs hW => ?_)
  refine lv_lstore (lv' := [(4, .long (φ2 ws)), (2, .long (φ1 ws)), (0, .ref a), (1, .ref (ad 23))]) hx hb dX10_of_17 hl (by decide) rfl (fun ls hl => ?_)
  refine lv_aload_n hx hb dX10_of_19 rfl (lv_at hl 2 rfl) ?_
  refine r_fget X hW ha rfl in_X10 (j := 2) (N := 3) (Nat.le_of_ble_eq_true rfl) q716 rfl dX10_of_20 ?_
  by_cases c_1 : sg = 37
  · replace hf := ip hf c_1
    refine r_tabIn (tgt := 87) (off := 64) (k := 37) hx hb c_1 dX10_of_23 (by decide) (by decide) rfl (by decide) ?_
    refine lv_lload hx hb dX10_of_87 (lv_at hl 0 rfl) ?_
    refine lv_lconst (v := 0) hx hb dX10_of_89 (by decide) ?_
    refine W.lcmp hx hb dX10_of_90 ?_
    refine lv_if_ne (tgt := 98) hx hb dX10_of_91 (by decide) (fun c_2 => ?_) (fun c_2 => ?_)
    · replace hf := ine hf c_2
      refine lv_lload_n hx hb dX10_of_98 rfl (lv_at hl 1 rfl) ?_
      refine lv_lload hx hb dX10_of_99 (lv_at hl 0 rfl) ?_
      obtain ⟨z_3, hf⟩ := gd_e hf
      refine lv_lrem hx hb dX10_of_101 (nzL_e z_3) ?_
      exact p_lret X hW hf dX10_of_102
    · replace hf := ip hf c_2
      refine lv_lconst (v := 0) hx hb dX10_of_94 (by decide) ?_
      refine lv_goto (tgt := 102) hx hb dX10_of_95 (by decide) ?_
      exact p_lret X hW hf dX10_of_102
  · replace hf := ine hf c_1
    by_cases c_4 : sg = 38
    · replace hf := ip hf c_4
      refine r_tabIn (tgt := 103) (off := 80) (k := 38) hx hb c_4 dX10_of_23 (by decide) (by decide) rfl (by decide) ?_
      refine lv_lload hx hb dX10_of_103 (lv_at hl 0 rfl) ?_
      refine lv_lconst (v := 0) hx hb dX10_of_105 (by decide) ?_
      refine W.lcmp hx hb dX10_of_106 ?_
      refine lv_if_ne (tgt := 114) hx hb dX10_of_107 (by decide) (fun c_5 => ?_) (fun c_5 => ?_)
      · replace hf := ine hf c_5
        refine lv_lload_n hx hb dX10_of_114 rfl (lv_at hl 1 rfl) ?_
        refine lv_lload hx hb dX10_of_115 (lv_at hl 0 rfl) ?_
        obtain ⟨z_6, hf⟩ := gd_e hf
        refine lv_ldiv hx hb dX10_of_117 (nzL_e z_6) ?_
        exact p_lret X hW hf dX10_of_118
      · replace hf := ip hf c_5
        refine lv_lconst (v := 0) hx hb dX10_of_110 (by decide) ?_
        refine lv_goto (tgt := 118) hx hb dX10_of_111 (by decide) ?_
        exact p_lret X hW hf dX10_of_118
    · replace hf := ine hf c_4
      by_cases c_7 : sg = 39
      · replace hf := ip hf c_7
        refine r_tabIn (tgt := 103) (off := 80) (k := 39) hx hb c_7 dX10_of_23 (by decide) (by decide) rfl (by decide) ?_
        refine lv_lload hx hb dX10_of_103 (lv_at hl 0 rfl) ?_
        refine lv_lconst (v := 0) hx hb dX10_of_105 (by decide) ?_
        refine W.lcmp hx hb dX10_of_106 ?_
        refine lv_if_ne (tgt := 114) hx hb dX10_of_107 (by decide) (fun c_8 => ?_) (fun c_8 => ?_)
        · replace hf := ine hf c_8
          refine lv_lload_n hx hb dX10_of_114 rfl (lv_at hl 1 rfl) ?_
          refine lv_lload hx hb dX10_of_115 (lv_at hl 0 rfl) ?_
          obtain ⟨z_9, hf⟩ := gd_e hf
          refine lv_ldiv hx hb dX10_of_117 (nzL_e z_9) ?_
          exact p_lret X hW hf dX10_of_118
        · replace hf := ip hf c_8
          refine lv_lconst (v := 0) hx hb dX10_of_110 (by decide) ?_
          refine lv_goto (tgt := 118) hx hb dX10_of_111 (by decide) ?_
          exact p_lret X hW hf dX10_of_118
      · replace hf := ine hf c_7
        by_cases c_10 : sg = 40
        · replace hf := ip hf c_10
          refine r_tabIn (tgt := 103) (off := 80) (k := 40) hx hb c_10 dX10_of_23 (by decide) (by decide) rfl (by decide) ?_
          refine lv_lload hx hb dX10_of_103 (lv_at hl 0 rfl) ?_
          refine lv_lconst (v := 0) hx hb dX10_of_105 (by decide) ?_
          refine W.lcmp hx hb dX10_of_106 ?_
          refine lv_if_ne (tgt := 114) hx hb dX10_of_107 (by decide) (fun c_11 => ?_) (fun c_11 => ?_)
          · replace hf := ine hf c_11
            refine lv_lload_n hx hb dX10_of_114 rfl (lv_at hl 1 rfl) ?_
            refine lv_lload hx hb dX10_of_115 (lv_at hl 0 rfl) ?_
            obtain ⟨z_12, hf⟩ := gd_e hf
            refine lv_ldiv hx hb dX10_of_117 (nzL_e z_12) ?_
            exact p_lret X hW hf dX10_of_118
          · replace hf := ip hf c_11
            refine lv_lconst (v := 0) hx hb dX10_of_110 (by decide) ?_
            refine lv_goto (tgt := 118) hx hb dX10_of_111 (by decide) ?_
            exact p_lret X hW hf dX10_of_118
        · replace hf := ine hf c_10
          by_cases c_13 : sg = 41
          · replace hf := ip hf c_13
            refine r_tabIn (tgt := 103) (off := 80) (k := 41) hx hb c_13 dX10_of_23 (by decide) (by decide) rfl (by decide) ?_
            refine lv_lload hx hb dX10_of_103 (lv_at hl 0 rfl) ?_
            refine lv_lconst (v := 0) hx hb dX10_of_105 (by decide) ?_
            refine W.lcmp hx hb dX10_of_106 ?_
            refine lv_if_ne (tgt := 114) hx hb dX10_of_107 (by decide) (fun c_14 => ?_) (fun c_14 => ?_)
            · replace hf := ine hf c_14
              refine lv_lload_n hx hb dX10_of_114 rfl (lv_at hl 1 rfl) ?_
              refine lv_lload hx hb dX10_of_115 (lv_at hl 0 rfl) ?_
              obtain ⟨z_15, hf⟩ := gd_e hf
              refine lv_ldiv hx hb dX10_of_117 (nzL_e z_15) ?_
              exact p_lret X hW hf dX10_of_118
            · replace hf := ip hf c_14
              refine lv_lconst (v := 0) hx hb dX10_of_110 (by decide) ?_
              refine lv_goto (tgt := 118) hx hb dX10_of_111 (by decide) ?_
              exact p_lret X hW hf dX10_of_118
          · replace hf := ine hf c_13
            by_cases c_16 : sg = 42
            · replace hf := ip hf c_16
              refine r_tabIn (tgt := 82) (off := 59) (k := 42) hx hb c_16 dX10_of_23 (by decide) (by decide) rfl (by decide) ?_
              refine lv_lload_n hx hb dX10_of_82 rfl (lv_at hl 1 rfl) ?_
              refine lv_lload hx hb dX10_of_83 (lv_at hl 0 rfl) ?_
              refine lv_lmul hx hb dX10_of_85 ?_
              exact p_lret X hW hf dX10_of_86
            · replace hf := ine hf c_16
              by_cases c_17 : sg = 43
              · replace hf := ip hf c_17
                refine r_tabIn (tgt := 72) (off := 49) (k := 43) hx hb c_17 dX10_of_23 (by decide) (by decide) rfl (by decide) ?_
                refine lv_lload_n hx hb dX10_of_72 rfl (lv_at hl 1 rfl) ?_
                refine lv_lload hx hb dX10_of_73 (lv_at hl 0 rfl) ?_
                refine lv_ladd hx hb dX10_of_75 ?_
                exact p_lret X hW hf dX10_of_76
              · replace hf := ine hf c_17
                by_cases c_18 : sg = 44
                · replace hf := ip hf c_18
                  refine r_tabIn (tgt := 103) (off := 80) (k := 44) hx hb c_18 dX10_of_23 (by decide) (by decide) rfl (by decide) ?_
                  refine lv_lload hx hb dX10_of_103 (lv_at hl 0 rfl) ?_
                  refine lv_lconst (v := 0) hx hb dX10_of_105 (by decide) ?_
                  refine W.lcmp hx hb dX10_of_106 ?_
                  refine lv_if_ne (tgt := 114) hx hb dX10_of_107 (by decide) (fun c_19 => ?_) (fun c_19 => ?_)
                  · replace hf := ine hf c_19
                    refine lv_lload_n hx hb dX10_of_114 rfl (lv_at hl 1 rfl) ?_
                    refine lv_lload hx hb dX10_of_115 (lv_at hl 0 rfl) ?_
                    obtain ⟨z_20, hf⟩ := gd_e hf
                    refine lv_ldiv hx hb dX10_of_117 (nzL_e z_20) ?_
                    exact p_lret X hW hf dX10_of_118
                  · replace hf := ip hf c_19
                    refine lv_lconst (v := 0) hx hb dX10_of_110 (by decide) ?_
                    refine lv_goto (tgt := 118) hx hb dX10_of_111 (by decide) ?_
                    exact p_lret X hW hf dX10_of_118
                · replace hf := ine hf c_18
                  by_cases c_21 : sg = 45
                  · replace hf := ip hf c_21
                    refine r_tabIn (tgt := 77) (off := 54) (k := 45) hx hb c_21 dX10_of_23 (by decide) (by decide) rfl (by decide) ?_
                    refine lv_lload_n hx hb dX10_of_77 rfl (lv_at hl 1 rfl) ?_
                    refine lv_lload hx hb dX10_of_78 (lv_at hl 0 rfl) ?_
                    refine lv_lsub hx hb dX10_of_80 ?_
                    exact p_lret X hW hf dX10_of_81
                  · replace hf := ine hf c_21
                    refine lv_tableOut (tgt := 103) hx hb dX10_of_23 (by have := lv_neT c_1 (a := 37) rfl; have := lv_neT c_4 (a := 38) rfl; have := lv_neT c_7 (a := 39) rfl; have := lv_neT c_10 (a := 40) rfl; have := lv_neT c_13 (a := 41) rfl; have := lv_neT c_16 (a := 42) rfl; have := lv_neT c_17 (a := 43) rfl; have := lv_neT c_18 (a := 44) rfl; have := lv_neT c_21 (a := 45) rfl; omega) (by decide) ?_
                    refine lv_lload hx hb dX10_of_103 (lv_at hl 0 rfl) ?_
                    refine lv_lconst (v := 0) hx hb dX10_of_105 (by decide) ?_
                    refine W.lcmp hx hb dX10_of_106 ?_
                    refine lv_if_ne (tgt := 114) hx hb dX10_of_107 (by decide) (fun c_22 => ?_) (fun c_22 => ?_)
                    · replace hf := ine hf c_22
                      refine lv_lload_n hx hb dX10_of_114 rfl (lv_at hl 1 rfl) ?_
                      refine lv_lload hx hb dX10_of_115 (lv_at hl 0 rfl) ?_
                      obtain ⟨z_23, hf⟩ := gd_e hf
                      refine lv_ldiv hx hb dX10_of_117 (nzL_e z_23) ?_
                      exact p_lret X hW hf dX10_of_118
                    · replace hf := ip hf c_22
                      refine lv_lconst (v := 0) hx hb dX10_of_110 (by decide) ?_
                      refine lv_goto (tgt := 118) hx hb dX10_of_111 (by decide) ?_
                      exact p_lret X hW hf dX10_of_118
noncomputable def t_not (τ1 : Wds → Int32) (ws : Wds) : Option Int32 :=
  if (τ1 ws) = 0 then (some 1) else (some 0)
set_option maxHeartbeats 4000000 in
theorem wt_not (l : Launch) {g : gG} {d a a1 : Nat} {τ1 : Wds → Int32} {ws : Wds} {ad : Nat → Nat} {r : Int32} (ha : (a, .inr (10, [.ref a1])) ∈ g.2.2.2.2) (h1 : IsC l g d τ1 a1) (hf : t_not τ1 ws = some r) : MC l yX12_is cX12_is 2 (some .boolean) (d + 1 + 1) (20 + 40 * (d + 1)) g [23] ad (wE g ws) (wE g ws) [.ref a, .ref (ad 23)] (some (.int r)) := by
  refine MC.of (by decide) (by decide) wI_23 (Nat.le_of_ble_eq_true rfl) (fun p e s m below meth c A ls X hW hl => ?_)
  have hx := X.1.1
  have hb := X.1.2.1
  have hl : lv_has ls 2 [(0, .ref a), (1, .ref (ad 23))] := hl
  unfold t_not at hf
  generalize ([.ref a, .ref (ad 23)] : List Value).toArray = args at X ⊢
  refine lv_aload_n hx hb dX12_is_0 rfl (lv_at hl 0 rfl) ?_
  refine r_fget X hW ha rfl in_X12 (j := 0) (N := 1) (Nat.le_of_ble_eq_true rfl) q755 rfl dX12_is_1 ?_
  refine lv_aload_n hx hb dX12_is_4 rfl (lv_at hl 1 rfl) ?_
  refine k_is X hW h1 List.mem_cons_self rfl q931 (by show d + 2 ≤ _ ∧ _ ≤ _; constructor <;> simp <;> omega) hl (Nat.le_of_ble_eq_true rfl) dX12_is_5 (fun H locs hW => ?_)
  refine lv_if_ne (tgt := 15) hx hb dX12_is_8 (by decide) (fun c_1 => ?_) (fun c_1 => ?_)
  · replace hf := ine hf c_1
    refine lv_iconst (v := 0) hx hb dX12_is_15 (by decide) ?_
    exact p_zret X hW hf (by decide) dX12_is_16
  · replace hf := ip hf c_1
    refine lv_iconst (v := 1) hx hb dX12_is_11 (by decide) ?_
    refine lv_goto (tgt := 16) hx hb dX12_is_12 (by decide) ?_
    exact p_zret X hW hf (by decide) dX12_is_16
noncomputable def t_cmp (φ1 : Wds → Int64) (φ2 : Wds → Int64) (sg : Int32) (ws : Wds) : Option Int32 :=
  if sg = 0 then (if 0 ≤ (lg_cmp (φ1 ws) (φ2 ws)) then (some 0) else (some 1)) else (if sg = 1 then (if 0 < (lg_cmp (φ1 ws) (φ2 ws)) then (some 0) else (some 1)) else (if sg = 2 then (if (lg_cmp (φ1 ws) (φ2 ws)) = 0 then (some 1) else (some 0)) else (if sg = 3 then (if (lg_cmp (φ1 ws) (φ2 ws)) < 0 then (some 0) else (some 1)) else (if (lg_cmp (φ1 ws) (φ2 ws)) ≤ 0 then (some 0) else (some 1)))))
set_option maxHeartbeats 4000000 in
theorem wt_cmp (l : Launch) {g : gG} {d a a1 a2 : Nat} {φ1 : Wds → Int64} {φ2 : Wds → Int64} {sg : Int32} {ws : Wds} {ad : Nat → Nat} {r : Int32} (ha : (a, .inr (11, [.ref a1, .ref a2, .int sg])) ∈ g.2.2.2.2) (h1 : OfC l g d φ1 a1) (h2 : OfC l g d φ2 a2) (hf : t_cmp φ1 φ2 sg ws = some r) : MC l yX13_is cX13_is 6 (some .boolean) (d + 1 + 1) (20 + 40 * (d + 1)) g [23] ad (wE g ws) (wE g ws) [.ref a, .ref (ad 23)] (some (.int r)) := by
  refine MC.of (by decide) (by decide) wI_23 (Nat.le_of_ble_eq_true rfl) (fun p e s m below meth c A ls X hW hl => ?_)
  have hx := X.1.1
  have hb := X.1.2.1
  have hl : lv_has ls 6 [(0, .ref a), (1, .ref (ad 23))] := hl
  unfold t_cmp at hf
  generalize ([.ref a, .ref (ad 23)] : List Value).toArray = args at X ⊢
  refine lv_aload_n hx hb dX13_is_0 rfl (lv_at hl 0 rfl) ?_
  refine r_fget X hW ha rfl in_X13 (j := 0) (N := 3) (Nat.le_of_ble_eq_true rfl) q769 rfl dX13_is_1 ?_
  refine lv_aload_n hx hb dX13_is_4 rfl (lv_at hl 1 rfl) ?_
  refine k_of X hW h1 List.mem_cons_self rfl q916 (by show d + 2 ≤ _ ∧ _ ≤ _; constructor <;> simp <;> omega) hl (Nat.le_of_ble_eq_true rfl) dX13_is_5 (fun H locs hW => ?_)
  refine lv_lstore_n (lv' := [(2, .long (φ1 ws)), (0, .ref a), (1, .ref (ad 23))]) hx hb dX13_is_8 rfl hl (by decide) rfl (fun ls hl => ?_)
  refine lv_aload_n hx hb dX13_is_9 rfl (lv_at hl 1 rfl) ?_
  refine r_fget X hW ha rfl in_X13 (j := 1) (N := 3) (Nat.le_of_ble_eq_true rfl) q770 rfl dX13_is_10 ?_
  refine lv_aload_n hx hb dX13_is_13 rfl (lv_at hl 2 rfl) ?_
  refine k_of X hW h2 List.mem_cons_self rfl q916 (by show d + 2 ≤ _ ∧ _ ≤ _; constructor <;> simp <;> omega) hl (Nat.le_of_ble_eq_true rfl) dX13_is_14 (fun H locs hW => ?_)
  refine lv_lstore (lv' := [(4, .long (φ2 ws)), (2, .long (φ1 ws)), (0, .ref a), (1, .ref (ad 23))]) hx hb dX13_is_17 hl (by decide) rfl (fun ls hl => ?_)
  refine lv_aload_n hx hb dX13_is_19 rfl (lv_at hl 2 rfl) ?_
  refine r_fget X hW ha rfl in_X13 (j := 2) (N := 3) (Nat.le_of_ble_eq_true rfl) q771 rfl dX13_is_20 ?_
  by_cases c_1 : sg = 0
  · replace hf := ip hf c_1
    refine r_tabIn (tgt := 52) (off := 29) (k := 0) hx hb c_1 dX13_is_23 (by decide) (by decide) rfl (by decide) ?_
    refine lv_lload_n hx hb dX13_is_52 rfl (lv_at hl 1 rfl) ?_
    refine lv_lload hx hb dX13_is_53 (lv_at hl 0 rfl) ?_
    refine W.lcmp hx hb dX13_is_55 ?_
    refine lv_if_ge (tgt := 63) hx hb dX13_is_56 (by decide) (fun c_2 => ?_) (fun c_2 => ?_)
    · replace hf := ip hf c_2
      refine lv_iconst (v := 0) hx hb dX13_is_63 (by decide) ?_
      exact p_zret X hW hf (by decide) dX13_is_64
    · replace hf := ine hf c_2
      refine lv_iconst (v := 1) hx hb dX13_is_59 (by decide) ?_
      refine lv_goto (tgt := 64) hx hb dX13_is_60 (by decide) ?_
      exact p_zret X hW hf (by decide) dX13_is_64
  · replace hf := ine hf c_1
    by_cases c_3 : sg = 1
    · replace hf := ip hf c_3
      refine r_tabIn (tgt := 65) (off := 42) (k := 1) hx hb c_3 dX13_is_23 (by decide) (by decide) rfl (by decide) ?_
      refine lv_lload_n hx hb dX13_is_65 rfl (lv_at hl 1 rfl) ?_
      refine lv_lload hx hb dX13_is_66 (lv_at hl 0 rfl) ?_
      refine W.lcmp hx hb dX13_is_68 ?_
      refine lv_if_gt (tgt := 76) hx hb dX13_is_69 (by decide) (fun c_4 => ?_) (fun c_4 => ?_)
      · replace hf := ip hf c_4
        refine lv_iconst (v := 0) hx hb dX13_is_76 (by decide) ?_
        exact p_zret X hW hf (by decide) dX13_is_77
      · replace hf := ine hf c_4
        refine lv_iconst (v := 1) hx hb dX13_is_72 (by decide) ?_
        refine lv_goto (tgt := 77) hx hb dX13_is_73 (by decide) ?_
        exact p_zret X hW hf (by decide) dX13_is_77
    · replace hf := ine hf c_3
      by_cases c_5 : sg = 2
      · replace hf := ip hf c_5
        refine r_tabIn (tgt := 78) (off := 55) (k := 2) hx hb c_5 dX13_is_23 (by decide) (by decide) rfl (by decide) ?_
        refine lv_lload_n hx hb dX13_is_78 rfl (lv_at hl 1 rfl) ?_
        refine lv_lload hx hb dX13_is_79 (lv_at hl 0 rfl) ?_
        refine W.lcmp hx hb dX13_is_81 ?_
        refine lv_if_ne (tgt := 89) hx hb dX13_is_82 (by decide) (fun c_6 => ?_) (fun c_6 => ?_)
        · replace hf := ine hf c_6
          refine lv_iconst (v := 0) hx hb dX13_is_89 (by decide) ?_
          exact p_zret X hW hf (by decide) dX13_is_90
        · replace hf := ip hf c_6
          refine lv_iconst (v := 1) hx hb dX13_is_85 (by decide) ?_
          refine lv_goto (tgt := 90) hx hb dX13_is_86 (by decide) ?_
          exact p_zret X hW hf (by decide) dX13_is_90
      · replace hf := ine hf c_5
        by_cases c_7 : sg = 3
        · replace hf := ip hf c_7
          refine r_tabIn (tgt := 91) (off := 68) (k := 3) hx hb c_7 dX13_is_23 (by decide) (by decide) rfl (by decide) ?_
          refine lv_lload_n hx hb dX13_is_91 rfl (lv_at hl 1 rfl) ?_
          refine lv_lload hx hb dX13_is_92 (lv_at hl 0 rfl) ?_
          refine W.lcmp hx hb dX13_is_94 ?_
          refine lv_if_lt (tgt := 102) hx hb dX13_is_95 (by decide) (fun c_8 => ?_) (fun c_8 => ?_)
          · replace hf := ip hf c_8
            refine lv_iconst (v := 0) hx hb dX13_is_102 (by decide) ?_
            exact p_zret X hW hf (by decide) dX13_is_103
          · replace hf := ine hf c_8
            refine lv_iconst (v := 1) hx hb dX13_is_98 (by decide) ?_
            refine lv_goto (tgt := 103) hx hb dX13_is_99 (by decide) ?_
            exact p_zret X hW hf (by decide) dX13_is_103
        · replace hf := ine hf c_7
          refine lv_tableOut (tgt := 104) hx hb dX13_is_23 (by have := lv_neT c_1 (a := 0) rfl; have := lv_neT c_3 (a := 1) rfl; have := lv_neT c_5 (a := 2) rfl; have := lv_neT c_7 (a := 3) rfl; omega) (by decide) ?_
          refine lv_lload_n hx hb dX13_is_104 rfl (lv_at hl 1 rfl) ?_
          refine lv_lload hx hb dX13_is_105 (lv_at hl 0 rfl) ?_
          refine W.lcmp hx hb dX13_is_107 ?_
          refine lv_if_le (tgt := 115) hx hb dX13_is_108 (by decide) (fun c_9 => ?_) (fun c_9 => ?_)
          · replace hf := ip hf c_9
            refine lv_iconst (v := 0) hx hb dX13_is_115 (by decide) ?_
            exact p_zret X hW hf (by decide) dX13_is_116
          · replace hf := ine hf c_9
            refine lv_iconst (v := 1) hx hb dX13_is_111 (by decide) ?_
            refine lv_goto (tgt := 116) hx hb dX13_is_112 (by decide) ?_
            exact p_zret X hW hf (by decide) dX13_is_116
noncomputable def t_both (τ1 : Wds → Int32) (τ2 : Wds → Int32) (z : Int32) (ws : Wds) : Option Int32 :=
  if z = 0 then (if (τ1 ws) = 0 then (if (τ2 ws) = 0 then (some 0) else (some 1)) else (some 1)) else (if (τ1 ws) = 0 then (some 0) else (if (τ2 ws) = 0 then (some 0) else (some 1)))
set_option maxHeartbeats 4000000 in
theorem wt_both (l : Launch) {g : gG} {d a a1 a2 : Nat} {τ1 : Wds → Int32} {τ2 : Wds → Int32} {z : Int32} {ws : Wds} {ad : Nat → Nat} {r : Int32} (ha : (a, .inr (12, [.ref a1, .ref a2, .int z])) ∈ g.2.2.2.2) (h1 : IsC l g d τ1 a1) (h2 : IsC l g d τ2 a2) (hf : t_both τ1 τ2 z ws = some r) : MC l yX14_is cX14_is 2 (some .boolean) (d + 1 + 1) (20 + 40 * (d + 1)) g [23] ad (wE g ws) (wE g ws) [.ref a, .ref (ad 23)] (some (.int r)) := by
  refine MC.of (by decide) (by decide) wI_23 (Nat.le_of_ble_eq_true rfl) (fun p e s m below meth c A ls X hW hl => ?_)
  have hx := X.1.1
  have hb := X.1.2.1
  have hl : lv_has ls 2 [(0, .ref a), (1, .ref (ad 23))] := hl
  unfold t_both at hf
  generalize ([.ref a, .ref (ad 23)] : List Value).toArray = args at X ⊢
  refine lv_aload_n hx hb dX14_is_0 rfl (lv_at hl 0 rfl) ?_
  refine r_fget X hW ha rfl in_X14 (j := 2) (N := 3) (Nat.le_of_ble_eq_true rfl) q788 rfl dX14_is_1 ?_
  refine lv_if_eq (tgt := 37) hx hb dX14_is_4 (by decide) (fun c_1 => ?_) (fun c_1 => ?_)
  · replace hf := ip hf c_1
    refine lv_aload_n hx hb dX14_is_37 rfl (lv_at hl 0 rfl) ?_
    refine r_fget X hW ha rfl in_X14 (j := 0) (N := 3) (Nat.le_of_ble_eq_true rfl) q786 rfl dX14_is_38 ?_
    refine lv_aload_n hx hb dX14_is_41 rfl (lv_at hl 1 rfl) ?_
    refine k_is X hW h1 List.mem_cons_self rfl q913 (by show d + 2 ≤ _ ∧ _ ≤ _; constructor <;> simp <;> omega) hl (Nat.le_of_ble_eq_true rfl) dX14_is_42 (fun H locs hW => ?_)
    refine lv_if_ne (tgt := 59) hx hb dX14_is_45 (by decide) (fun c_2 => ?_) (fun c_2 => ?_)
    · replace hf := ine hf c_2
      refine lv_iconst (v := 1) hx hb dX14_is_59 (by decide) ?_
      refine lv_goto (tgt := 64) hx hb dX14_is_60 (by decide) ?_
      exact p_zret X hW hf (by decide) dX14_is_64
    · replace hf := ip hf c_2
      refine lv_aload_n hx hb dX14_is_48 rfl (lv_at hl 0 rfl) ?_
      refine r_fget X hW ha rfl in_X14 (j := 1) (N := 3) (Nat.le_of_ble_eq_true rfl) q787 rfl dX14_is_49 ?_
      refine lv_aload_n hx hb dX14_is_52 rfl (lv_at hl 1 rfl) ?_
      refine k_is X hW h2 List.mem_cons_self rfl q913 (by show d + 2 ≤ _ ∧ _ ≤ _; constructor <;> simp <;> omega) hl (Nat.le_of_ble_eq_true rfl) dX14_is_53 (fun H locs hW => ?_)
      refine lv_if_eq (tgt := 63) hx hb dX14_is_56 (by decide) (fun c_3 => ?_) (fun c_3 => ?_)
      · replace hf := ip hf c_3
        refine lv_iconst (v := 0) hx hb dX14_is_63 (by decide) ?_
        exact p_zret X hW hf (by decide) dX14_is_64
      · replace hf := ine hf c_3
        refine lv_iconst (v := 1) hx hb dX14_is_59 (by decide) ?_
        refine lv_goto (tgt := 64) hx hb dX14_is_60 (by decide) ?_
        exact p_zret X hW hf (by decide) dX14_is_64
  · replace hf := ine hf c_1
    refine lv_aload_n hx hb dX14_is_7 rfl (lv_at hl 0 rfl) ?_
    refine r_fget X hW ha rfl in_X14 (j := 0) (N := 3) (Nat.le_of_ble_eq_true rfl) q786 rfl dX14_is_8 ?_
    refine lv_aload_n hx hb dX14_is_11 rfl (lv_at hl 1 rfl) ?_
    refine k_is X hW h1 List.mem_cons_self rfl q913 (by show d + 2 ≤ _ ∧ _ ≤ _; constructor <;> simp <;> omega) hl (Nat.le_of_ble_eq_true rfl) dX14_is_12 (fun H locs hW => ?_)
    refine lv_if_eq (tgt := 33) hx hb dX14_is_15 (by decide) (fun c_4 => ?_) (fun c_4 => ?_)
    · replace hf := ip hf c_4
      refine lv_iconst (v := 0) hx hb dX14_is_33 (by decide) ?_
      refine lv_goto (tgt := 64) hx hb dX14_is_34 (by decide) ?_
      exact p_zret X hW hf (by decide) dX14_is_64
    · replace hf := ine hf c_4
      refine lv_aload_n hx hb dX14_is_18 rfl (lv_at hl 0 rfl) ?_
      refine r_fget X hW ha rfl in_X14 (j := 1) (N := 3) (Nat.le_of_ble_eq_true rfl) q787 rfl dX14_is_19 ?_
      refine lv_aload_n hx hb dX14_is_22 rfl (lv_at hl 1 rfl) ?_
      refine k_is X hW h2 List.mem_cons_self rfl q913 (by show d + 2 ≤ _ ∧ _ ≤ _; constructor <;> simp <;> omega) hl (Nat.le_of_ble_eq_true rfl) dX14_is_23 (fun H locs hW => ?_)
      refine lv_if_eq (tgt := 33) hx hb dX14_is_26 (by decide) (fun c_5 => ?_) (fun c_5 => ?_)
      · replace hf := ip hf c_5
        refine lv_iconst (v := 0) hx hb dX14_is_33 (by decide) ?_
        refine lv_goto (tgt := 64) hx hb dX14_is_34 (by decide) ?_
        exact p_zret X hW hf (by decide) dX14_is_64
      · replace hf := ine hf c_5
        refine lv_iconst (v := 1) hx hb dX14_is_29 (by decide) ?_
        refine lv_goto (tgt := 64) hx hb dX14_is_30 (by decide) ?_
        exact p_zret X hW hf (by decide) dX14_is_64
