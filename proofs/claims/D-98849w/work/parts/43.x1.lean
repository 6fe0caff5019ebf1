set_option maxRecDepth 100000
-- four
noncomputable def x_four_3 {ρ : Type} (v1 : Int32) (K : cS → Option ρ) : Nat → cS → Int32 → Option ρ
  | 0, _, _ => none
  | n + 1, σ, v2 => if v2 < 0 then (K σ) else (gd (inb (σ.1 999 10) 400) (nmb (si σ 9 (ix (σ.1 999 10)) ((v1 >>> (v2 &&& 31)).toInt8.toInt32).toInt8.toInt32) fun σ_3 => (x_four_3 v1 K n (si σ_3 999 10 (((si σ 9 (ix (σ.1 999 10)) ((v1 >>> (v2 &&& 31)).toInt8.toInt32).toInt8.toInt32).1 999 10) + 1)) (v2 + (-8)))))
set_option maxHeartbeats 4000000 in
theorem wx_four_3 {p : Program} {l : Launch} {e : Env} {s : State} {m : MethodId} {args : Array Value} {below : List Frame} {meth : Method} {c : Code} {g : gG} {A : Nat → Prop} {ad : Nat → Nat} {q : xR} (X : MX p s m args meth c cX0_four 3 RX0 none g A) (had : xI_ ad) {ρ : Type} {res : ρ} {Q : State → Prop} {v1 : Int32}  {K : cS → Option ρ}
    (hK : ∀ (σ : cS) (H : Heap) (locs : List Loc) (ls : Array Slot), WB g A s.heap xIds ad (xE g ad q σ) H locs → lv_has ls 3 [] → K σ = some res → W p l e (rm_ 2 60) s m args below meth c H locs 0 0 Q (F0 m 36 ls [])) :
    ∀ (n : Nat) (σ : cS) (v2 : Int32) (H : Heap) (locs : List Loc) (ls : Array Slot), WB g A s.heap xIds ad (xE g ad q σ) H locs → lv_has ls 3 [(0, .ref (ad 999)), (1, .int v1), (2, .int v2)] → x_four_3 v1 K n σ v2 = some res → W p l e (rm_ 2 60) s m args below meth c H locs 0 0 Q (F0 m 3 ls []) := by
  have hx := X.1.1
  have hb := X.1.2.1
  intro n
  induction n with
  | zero =>
    intro σ v2 H locs ls hW hl hf
    rw [x_four_3] at hf
    cases hf
  | succ n ih =>
    intro σ v2 H locs ls hW hl hf
    rw [x_four_3] at hf
    refine lv_iload_n hx hb dX0_four_3 rfl (lv_at hl 2 rfl) ?_
    refine lv_if_lt (tgt := 36) hx hb dX0_four_4 (by decide) (fun c_1 => ?_) (fun c_1 => ?_)
    · replace hf := ip hf c_1
      exact hK _ _ _ _ hW (lv_sub hl [] rfl) hf
    · replace hf := ine hf c_1
      refine lv_aload_n hx hb dX0_four_7 rfl (lv_at hl 0 rfl) ?_
      refine xg_9 X hW xm_999 dX0_four_8 ?_
      refine lv_aload_n hx hb dX0_four_11 rfl (lv_at hl 0 rfl) ?_
      refine xg_10 X hW xm_999 dX0_four_12 ?_
      refine lv_iload_n hx hb dX0_four_15 rfl (lv_at hl 1 rfl) ?_
      refine lv_iload_n hx hb dX0_four_16 rfl (lv_at hl 2 rfl) ?_
      refine lv_ishr hx hb dX0_four_17 ?_
      refine lv_i2b (v := (v1 >>> (v2 &&& 31)).toInt8.toInt32) hx hb dX0_four_18 rfl ?_
      obtain ⟨h_2, hf⟩ := gd_e hf
      refine xs_9 X hW xm_9 h_2 dX0_four_19 (fun H locs hW => ?_)
      refine lv_aload_n hx hb dX0_four_20 rfl (lv_at hl 0 rfl) ?_
      refine lv_dup hx hb dX0_four_21 rfl ?_
      refine xg_10 X hW xm_999 dX0_four_22 ?_
      refine lv_iconst (v := 1) hx hb dX0_four_25 (by decide) ?_
      refine lv_iadd hx hb dX0_four_26 ?_
      obtain ⟨σ_3, e_4, hf⟩ := nmb_e hf
      rw [← e_4] at hW
      clear e_4
      refine xp_10 X hW xm_999 dX0_four_27 (fun H locs hW => ?_)
      refine lv_iinc (v := (v2 + (-8))) (lv' := [(2, .int (v2 + (-8))), (0, .ref (ad 999)), (1, .int v1)]) hx hb dX0_four_30 hl (k := 2) rfl (ii_v _ _ _ (by decide)) (by decide) rfl (fun ls hl => ?_)
      refine lv_goto (tgt := 3) hx hb dX0_four_33 (by decide) ?_
      exact ih _ _ _ _ _ hW (lv_sub hl [1, 2, 0] rfl) hf
noncomputable def x_four (σ : cS) (v1 : Int32) : Option (cS) :=
  x_four_3 v1 (fun σ_5 => (some σ_5)) FU σ 24
set_option maxHeartbeats 4000000 in
theorem wb_x_four {p : Program} {l : Launch} {e : Env} {s : State} {m : MethodId} {args : Array Value} {below : List Frame} {meth : Method} {c : Code} {g : gG} {A : Nat → Prop} {ad : Nat → Nat} {q : xR} (X : MX p s m args meth c cX0_four 3 RX0 none g A) (had : xI_ ad) {σr : cS}  {σ : cS} {v1 : Int32} {H : Heap} {locs : List Loc} {ls : Array Slot} (hW : WB g A s.heap xIds ad (xE g ad q σ) H locs) (hl : lv_has ls 3 [(0, .ref (ad 999)), (1, .int v1)]) (hf : x_four σ v1 = some σr) : W p l e (rm_ 2 60) s m args below meth c H locs 0 0 (Qm below g xIds ad (xE g ad q σr) none A args s) (F0 m 0 ls []) := by
  have hx := X.1.1
  have hb := X.1.2.1
  unfold x_four at hf
  refine lv_bipush (v := 24) hx hb dX0_four_0 (by decide) ?_
  refine lv_istore_n (lv' := [(2, .int 24), (0, .ref (ad 999)), (1, .int v1)]) hx hb dX0_four_2 rfl hl (by decide) rfl (fun ls hl => ?_)
  refine wx_four_3 X had (fun σ_5 H locs ls hW hl hf => ?_) _ _ _ _ _ _ hW (lv_sub hl [1, 2, 0] rfl) hf
  exact x_vret X hW hf dX0_four_36
theorem w_x_four (l : Launch) {g : gG} {ad : Nat → Nat} {q : xR} (had : xI_ ad) {σr : cS}  {σ : cS} {v1 : Int32} (hf : x_four σ v1 = some σr) : MC l yX0_four cX0_four 3 none 2 60 g xIds ad (xE g ad q σ) (xE g ad q σr) [.ref (ad 999), .int v1] none :=
  MC.of (by decide) xIds_nd had (Nat.le_of_ble_eq_true rfl) (fun p e s m below meth c A ls X hW hl => wb_x_four X had hW hl hf)
theorem kx_four {p : Program} {l : Launch} {e : Env} {R : Room} {s : State} {m : MethodId} {args : Array Value} {below : List Frame} {meth : Method} {c : Code} {H : Heap} {locs : List Loc} {Q : State → Prop} {cc : ByteArray} {nL : Nat} {ret : Option FieldType} {g : gG} {A : Nat → Prop} {ad : Nat → Nat} {q : xR} {pc : Nat} {ls : Array Slot} {rest : List Value} {lv : List (Nat × Value)} {σr : cS}  {σ : cS} {v1 : Int32} (X : MX p s m args meth c cc nL RX0 ret g A) (hW : WB g A s.heap xIds ad (xE g ad q σ) H locs) (had : xI_ ad) (hf : x_four σ v1 = some σr) (hR : 3 ≤ R.frames ∧ 82 ≤ R.locals) (hl : lv_has ls nL lv) (hcat : (rest.map fun v => v.category).sum ≤ 8) (hdg : decode cc pc = .ok (.invokevirtual 127, 3)) (kk : ∀ (H1 : Heap) (l1 : List Loc), WB g A s.heap xIds ad (xE g ad q σr) H1 l1 → W p l e R s m args below meth c H1 l1 0 0 Q (F0 m (pc + 3) ls (rest))) : W p l e R s m args below meth c H locs 0 0 Q (F0 m pc ls (.int v1 :: .ref (ad 999) :: rest)) :=
  r_callV X hW Sub.all (w_x_four l had hf) (lw_V q456 q458 qs1 q120 q459) ⟨rfl, by decide, by decide, by decide +kernel⟩ xm_999 rfl rfl (n := 1) hR hl rfl rfl hcat ⟨Nat.zero_le _, Nat.zero_le _⟩ hdg kk
-- feed
noncomputable def x_feed (σ : cS) (v1 : Int32) (v2 : Int32) (v3 : Int32) (v4 : Int32) (v5 : Int32) : Option (cS × Int32) :=
  if ((σ.1 999 10) + 20) ≤ 400 then (((x_four σ v1).bind fun σ_3 => ((x_four σ_3 v2).bind fun σ_5 => ((x_four σ_5 v3).bind fun σ_7 => ((x_four σ_7 v4).bind fun σ_9 => ((x_four σ_9 v5).bind fun σ_11 => some (σ_11, (σ_11.1 999 10)))))))) else (some (σ, (-1)))
set_option maxHeartbeats 4000000 in
theorem wb_x_feed {p : Program} {l : Launch} {e : Env} {s : State} {m : MethodId} {args : Array Value} {below : List Frame} {meth : Method} {c : Code} {g : gG} {A : Nat → Prop} {ad : Nat → Nat} {q : xR} (X : MX p s m args meth c cX0_feed 6 RX0 (some .int) g A) (had : xI_ ad) {σr : cS} {r : Int32} {σ : cS} {v1 : Int32} {v2 : Int32} {v3 : Int32} {v4 : Int32} {v5 : Int32} {H : Heap} {locs : List Loc} {ls : Array Slot} (hW : WB g A s.heap xIds ad (xE g ad q σ) H locs) (hl : lv_has ls 6 [(0, .ref (ad 999)), (1, .int v1), (2, .int v2), (3, .int v3), (4, .int v4), (5, .int v5)]) (hf : x_feed σ v1 v2 v3 v4 v5 = some (σr, r)) : W p l e (rm_ 3 82) s m args below meth c H locs 0 0 (Qm below g xIds ad (xE g ad q σr) (some (.int r)) A args s) (F0 m 0 ls []) := by
  have hx := X.1.1
  have hb := X.1.2.1
  unfold x_feed at hf
  refine lv_aload_n hx hb dX0_feed_0 rfl (lv_at hl 0 rfl) ?_
  refine xg_10 X hW xm_999 dX0_feed_1 ?_
  refine lv_bipush (v := 20) hx hb dX0_feed_4 (by decide) ?_
  refine lv_iadd hx hb dX0_feed_6 ?_
  refine lv_sipush (v := 400) hx hb dX0_feed_7 (by decide) ?_
  refine lv_icmp_le (tgt := 15) hx hb dX0_feed_10 (by decide) (fun c_1 => ?_) (fun c_1 => ?_)
  · replace hf := ip hf c_1
    refine lv_aload_n hx hb dX0_feed_15 rfl (lv_at hl 0 rfl) ?_
    refine lv_iload_n hx hb dX0_feed_16 rfl (lv_at hl 1 rfl) ?_
    obtain ⟨σ_3, h_2, hf⟩ := bd_e hf
    refine kx_four X hW had h_2 (by decide) hl (Nat.le_of_ble_eq_true rfl) dX0_feed_17 (fun H locs hW => ?_)
    refine lv_aload_n hx hb dX0_feed_20 rfl (lv_at hl 0 rfl) ?_
    refine lv_iload_n hx hb dX0_feed_21 rfl (lv_at hl 2 rfl) ?_
    obtain ⟨σ_5, h_4, hf⟩ := bd_e hf
    refine kx_four X hW had h_4 (by decide) hl (Nat.le_of_ble_eq_true rfl) dX0_feed_22 (fun H locs hW => ?_)
    refine lv_aload_n hx hb dX0_feed_25 rfl (lv_at hl 0 rfl) ?_
    refine lv_iload_n hx hb dX0_feed_26 rfl (lv_at hl 3 rfl) ?_
    obtain ⟨σ_7, h_6, hf⟩ := bd_e hf
    refine kx_four X hW had h_6 (by decide) hl (Nat.le_of_ble_eq_true rfl) dX0_feed_27 (fun H locs hW => ?_)
    refine lv_aload_n hx hb dX0_feed_30 rfl (lv_at hl 0 rfl) ?_
    refine lv_iload hx hb dX0_feed_31 (lv_at hl 4 rfl) ?_
    obtain ⟨σ_9, h_8, hf⟩ := bd_e hf
    refine kx_four X hW had h_8 (by decide) hl (Nat.le_of_ble_eq_true rfl) dX0_feed_33 (fun H locs hW => ?_)
    refine lv_aload_n hx hb dX0_feed_36 rfl (lv_at hl 0 rfl) ?_
    refine lv_iload hx hb dX0_feed_37 (lv_at hl 5 rfl) ?_
    obtain ⟨σ_11, h_10, hf⟩ := bd_e hf
    refine kx_four X hW had h_10 (by decide) hl (Nat.le_of_ble_eq_true rfl) dX0_feed_39 (fun H locs hW => ?_)
    refine lv_aload_n hx hb dX0_feed_42 rfl (lv_at hl 0 rfl) ?_
    refine xg_10 X hW xm_999 dX0_feed_43 ?_
    exact x_iret X hW hf dX0_feed_46
  · replace hf := ine hf c_1
    refine lv_iconst (v := (-1)) hx hb dX0_feed_13 (by decide) ?_
    exact x_iret X hW hf dX0_feed_14
theorem w_x_feed (l : Launch) {g : gG} {ad : Nat → Nat} {q : xR} (had : xI_ ad) {σr : cS} {r : Int32} {σ : cS} {v1 : Int32} {v2 : Int32} {v3 : Int32} {v4 : Int32} {v5 : Int32} (hf : x_feed σ v1 v2 v3 v4 v5 = some (σr, r)) : MC l yX0_feed cX0_feed 6 (some .int) 3 82 g xIds ad (xE g ad q σ) (xE g ad q σr) [.ref (ad 999), .int v1, .int v2, .int v3, .int v4, .int v5] (some (.int r)) :=
  MC.of (by decide) xIds_nd had (Nat.le_of_ble_eq_true rfl) (fun p e s m below meth c A ls X hW hl => wb_x_feed X had hW hl hf)
-- end
noncomputable def x_end (σ : cS) (v1 : Int32) : Option (cS × Int32) :=
  if v1 < 0 then (some (σ, (-1))) else (if v1 ≤ (σ.1 999 10) then (some ((si σ 999 10 v1), v1)) else (some (σ, (-1))))
set_option maxHeartbeats 4000000 in
theorem wb_x_end {p : Program} {l : Launch} {e : Env} {s : State} {m : MethodId} {args : Array Value} {below : List Frame} {meth : Method} {c : Code} {g : gG} {A : Nat → Prop} {ad : Nat → Nat} {q : xR} (X : MX p s m args meth c cX0_end 2 RX0 (some .int) g A) (had : xI_ ad) {σr : cS} {r : Int32} {σ : cS} {v1 : Int32} {H : Heap} {locs : List Loc} {ls : Array Slot} (hW : WB g A s.heap xIds ad (xE g ad q σ) H locs) (hl : lv_has ls 2 [(0, .ref (ad 999)), (1, .int v1)]) (hf : x_end σ v1 = some (σr, r)) : W p l e (rm_ 2 60) s m args below meth c H locs 0 0 (Qm below g xIds ad (xE g ad q σr) (some (.int r)) A args s) (F0 m 0 ls []) := by
  have hx := X.1.1
  have hb := X.1.2.1
  unfold x_end at hf
  refine lv_iload_n hx hb dX0_end_0 rfl (lv_at hl 1 rfl) ?_
  refine lv_if_lt (tgt := 12) hx hb dX0_end_1 (by decide) (fun c_1 => ?_) (fun c_1 => ?_)
  · replace hf := ip hf c_1
    refine lv_iconst (v := (-1)) hx hb dX0_end_12 (by decide) ?_
    exact x_iret X hW hf dX0_end_13
  · replace hf := ine hf c_1
    refine lv_iload_n hx hb dX0_end_4 rfl (lv_at hl 1 rfl) ?_
    refine lv_aload_n hx hb dX0_end_5 rfl (lv_at hl 0 rfl) ?_
    refine xg_10 X hW xm_999 dX0_end_6 ?_
    refine lv_icmp_le (tgt := 14) hx hb dX0_end_9 (by decide) (fun c_2 => ?_) (fun c_2 => ?_)
    · replace hf := ip hf c_2
      refine lv_aload_n hx hb dX0_end_14 rfl (lv_at hl 0 rfl) ?_
      refine lv_iload_n hx hb dX0_end_15 rfl (lv_at hl 1 rfl) ?_
      refine xp_10 X hW xm_999 dX0_end_16 (fun H locs hW => ?_)
      refine lv_iload_n hx hb dX0_end_19 rfl (lv_at hl 1 rfl) ?_
      exact x_iret X hW hf dX0_end_20
    · replace hf := ine hf c_2
      refine lv_iconst (v := (-1)) hx hb dX0_end_12 (by decide) ?_
      exact x_iret X hW hf dX0_end_13
theorem w_x_end (l : Launch) {g : gG} {ad : Nat → Nat} {q : xR} (had : xI_ ad) {σr : cS} {r : Int32} {σ : cS} {v1 : Int32} (hf : x_end σ v1 = some (σr, r)) : MC l yX0_end cX0_end 2 (some .int) 2 60 g xIds ad (xE g ad q σ) (xE g ad q σr) [.ref (ad 999), .int v1] (some (.int r)) :=
  MC.of (by decide) xIds_nd had (Nat.le_of_ble_eq_true rfl) (fun p e s m below meth c A ls X hW hl => wb_x_end X had hW hl hf)
-- faulted
noncomputable def x_faulted (σ : cS) : Option (Int32) :=
  some ((-2) - ((1 + (8 * (σ.1 998 7))) + (σ.1 998 6)))
set_option maxHeartbeats 4000000 in
theorem wb_x_faulted {p : Program} {l : Launch} {e : Env} {s : State} {m : MethodId} {args : Array Value} {below : List Frame} {meth : Method} {c : Code} {g : gG} {A : Nat → Prop} {ad : Nat → Nat} {q : xR} (X : MX p s m args meth c cX0_faulted 1 RX0 (some .int) g A) (had : xI_ ad) {r : Int32} {σ : cS} {H : Heap} {locs : List Loc} {ls : Array Slot} (hW : WB g A s.heap xIds ad (xE g ad q σ) H locs) (hl : lv_has ls 1 [(0, .ref (ad 999))]) (hf : x_faulted σ = some r) : W p l e (rm_ 2 60) s m args below meth c H locs 0 0 (Qm below g xIds ad (xE g ad q σ) (some (.int r)) A args s) (F0 m 0 ls []) := by
  have hx := X.1.1
  have hb := X.1.2.1
  unfold x_faulted at hf
  refine lv_bipush (v := (-2)) hx hb dX0_faulted_0 (by decide) ?_
  refine lv_iconst (v := 1) hx hb dX0_faulted_2 (by decide) ?_
  refine lv_bipush (v := 8) hx hb dX0_faulted_3 (by decide) ?_
  refine lv_aload_n hx hb dX0_faulted_5 rfl (lv_at hl 0 rfl) ?_
  refine xg_8 X hW xm_999 dX0_faulted_6 ?_
  refine xgF_7 X hW xm_998 dX0_faulted_9 ?_
  refine lv_imul hx hb dX0_faulted_12 ?_
  refine lv_iadd hx hb dX0_faulted_13 ?_
  refine lv_aload_n hx hb dX0_faulted_14 rfl (lv_at hl 0 rfl) ?_
  refine xg_8 X hW xm_999 dX0_faulted_15 ?_
  refine xgF_6 X hW xm_998 dX0_faulted_18 ?_
  refine lv_iadd hx hb dX0_faulted_21 ?_
  refine lv_isub hx hb dX0_faulted_22 ?_
  exact p_iret X hW hf dX0_faulted_23
theorem w_x_faulted (l : Launch) {g : gG} {ad : Nat → Nat} {q : xR} (had : xI_ ad) {r : Int32} {σ : cS} (hf : x_faulted σ = some r) : MC l yX0_faulted cX0_faulted 1 (some .int) 2 60 g xIds ad (xE g ad q σ) (xE g ad q σ) [.ref (ad 999)] (some (.int r)) :=
  MC.of (by decide) xIds_nd had (Nat.le_of_ble_eq_true rfl) (fun p e s m below meth c A ls X hW hl => wb_x_faulted X had hW hl hf)
theorem kx_faulted {p : Program} {l : Launch} {e : Env} {R : Room} {s : State} {m : MethodId} {args : Array Value} {below : List Frame} {meth : Method} {c : Code} {H : Heap} {locs : List Loc} {Q : State → Prop} {cc : ByteArray} {nL : Nat} {ret : Option FieldType} {g : gG} {A : Nat → Prop} {ad : Nat → Nat} {q : xR} {pc : Nat} {ls : Array Slot} {rest : List Value} {lv : List (Nat × Value)} {r : Int32} {σ : cS} (X : MX p s m args meth c cc nL RX0 ret g A) (hW : WB g A s.heap xIds ad (xE g ad q σ) H locs) (had : xI_ ad) (hf : x_faulted σ = some r) (hR : 3 ≤ R.frames ∧ 80 ≤ R.locals) (hl : lv_has ls nL lv) (hcat : (rest.map fun v => v.category).sum ≤ 8) (hdg : decode cc pc = .ok (.invokevirtual 155, 3)) (kk : ∀ (H1 : Heap) (l1 : List Loc), WB g A s.heap xIds ad (xE g ad q σ) H1 l1 → W p l e R s m args below meth c H1 l1 0 0 Q (F0 m (pc + 3) ls (.int r :: rest))) : W p l e R s m args below meth c H locs 0 0 Q (F0 m pc ls (.ref (ad 999) :: rest)) :=
  r_callV X hW Sub.all (w_x_faulted l had hf) (lw_V q620 q622 qs16 q120 q623) ⟨rfl, by decide, by decide, by decide +kernel⟩ xm_999 rfl rfl (n := 0) hR hl rfl rfl hcat ⟨Nat.zero_le _, Nat.zero_le _⟩ hdg kk
-- force
noncomputable def x_force (σ : cS) (v1 : Int32) : Option (cS × Int32) :=
  if v1 = (-1) then (some ((si σ 999 7 v1), (σ.1 999 7))) else (if v1 < 0 then (some (σ, (-2))) else (if v1 < (σ.1 999 15) then (some ((si σ 999 7 v1), (σ.1 999 7))) else (some (σ, (-2)))))
set_option maxHeartbeats 4000000 in
theorem wb_x_force {p : Program} {l : Launch} {e : Env} {s : State} {m : MethodId} {args : Array Value} {below : List Frame} {meth : Method} {c : Code} {g : gG} {A : Nat → Prop} {ad : Nat → Nat} {q : xR} (X : MX p s m args meth c cX0_force 3 RX0 (some .int) g A) (had : xI_ ad) {σr : cS} {r : Int32} {σ : cS} {v1 : Int32} {H : Heap} {locs : List Loc} {ls : Array Slot} (hW : WB g A s.heap xIds ad (xE g ad q σ) H locs) (hl : lv_has ls 3 [(0, .ref (ad 999)), (1, .int v1)]) (hf : x_force σ v1 = some (σr, r)) : W p l e (rm_ 2 60) s m args below meth c H locs 0 0 (Qm below g xIds ad (xE g ad q σr) (some (.int r)) A args s) (F0 m 0 ls []) := by
  have hx := X.1.1
  have hb := X.1.2.1
  unfold x_force at hf
  refine lv_iload_n hx hb dX0_force_0 rfl (lv_at hl 1 rfl) ?_
  refine lv_iconst (v := (-1)) hx hb dX0_force_1 (by decide) ?_
  refine lv_icmp_eq (tgt := 20) hx hb dX0_force_2 (by decide) (fun c_1 => ?_) (fun c_1 => ?_)
  · replace hf := ip hf c_1
    refine lv_aload_n hx hb dX0_force_20 rfl (lv_at hl 0 rfl) ?_
    refine xg_7 X hW xm_999 dX0_force_21 ?_
    refine lv_istore_n (lv' := [(2, .int (σ.1 999 7)), (0, .ref (ad 999)), (1, .int v1)]) hx hb dX0_force_24 rfl hl (by decide) rfl (fun ls hl => ?_)
    refine lv_aload_n hx hb dX0_force_25 rfl (lv_at hl 1 rfl) ?_
    refine lv_iload_n hx hb dX0_force_26 rfl (lv_at hl 2 rfl) ?_
    refine xp_7 X hW xm_999 dX0_force_27 (fun H locs hW => ?_)
    refine lv_iload_n hx hb dX0_force_30 rfl (lv_at hl 0 rfl) ?_
    exact x_iret X hW hf dX0_force_31
  · replace hf := ine hf c_1
    refine lv_iload_n hx hb dX0_force_5 rfl (lv_at hl 1 rfl) ?_
    refine lv_if_lt (tgt := 17) hx hb dX0_force_6 (by decide) (fun c_2 => ?_) (fun c_2 => ?_)
    · replace hf := ip hf c_2
      refine lv_bipush (v := (-2)) hx hb dX0_force_17 (by decide) ?_
      exact x_iret X hW hf dX0_force_19
    · replace hf := ine hf c_2
      refine lv_iload_n hx hb dX0_force_9 rfl (lv_at hl 1 rfl) ?_
      refine lv_aload_n hx hb dX0_force_10 rfl (lv_at hl 0 rfl) ?_
      refine xg_15 X hW xm_999 dX0_force_11 ?_
      refine lv_icmp_lt (tgt := 20) hx hb dX0_force_14 (by decide) (fun c_3 => ?_) (fun c_3 => ?_)
      · replace hf := ip hf c_3
        refine lv_aload_n hx hb dX0_force_20 rfl (lv_at hl 0 rfl) ?_
        refine xg_7 X hW xm_999 dX0_force_21 ?_
        refine lv_istore_n (lv' := [(2, .int (σ.1 999 7)), (0, .ref (ad 999)), (1, .int v1)]) hx hb dX0_force_24 rfl hl (by decide) rfl (fun ls hl => ?_)
        refine lv_aload_n hx hb dX0_force_25 rfl (lv_at hl 1 rfl) ?_
        refine lv_iload_n hx hb dX0_force_26 rfl (lv_at hl 2 rfl) ?_
        refine xp_7 X hW xm_999 dX0_force_27 (fun H locs hW => ?_)
        refine lv_iload_n hx hb dX0_force_30 rfl (lv_at hl 0 rfl) ?_
        exact x_iret X hW hf dX0_force_31
      · replace hf := ine hf c_3
        refine lv_bipush (v := (-2)) hx hb dX0_force_17 (by decide) ?_
        exact x_iret X hW hf dX0_force_19
theorem w_x_force (l : Launch) {g : gG} {ad : Nat → Nat} {q : xR} (had : xI_ ad) {σr : cS} {r : Int32} {σ : cS} {v1 : Int32} (hf : x_force σ v1 = some (σr, r)) : MC l yX0_force cX0_force 3 (some .int) 2 60 g xIds ad (xE g ad q σ) (xE g ad q σr) [.ref (ad 999), .int v1] (some (.int r)) :=
  MC.of (by decide) xIds_nd had (Nat.le_of_ble_eq_true rfl) (fun p e s m below meth c A ls X hW hl => wb_x_force X had hW hl hf)
-- isMile
noncomputable def x_isMile (σ : cS) (v1 : Int32) : Option (Int32) :=
  if (σ.1 999 0) = 0 then (some 0) else (if v1 < 0 then (some 0) else (if (σ.1 1999 0) ≤ v1 then (some 0) else (some 1)))
set_option maxHeartbeats 4000000 in
theorem wb_x_isMile {p : Program} {l : Launch} {e : Env} {s : State} {m : MethodId} {args : Array Value} {below : List Frame} {meth : Method} {c : Code} {g : gG} {A : Nat → Prop} {ad : Nat → Nat} {q : xR} (X : MX p s m args meth c cX0_isMile 2 RX0 (some .boolean) g A) (had : xI_ ad) {r : Int32} {σ : cS} {v1 : Int32} {H : Heap} {locs : List Loc} {ls : Array Slot} (hW : WB g A s.heap xIds ad (xE g ad q σ) H locs) (hl : lv_has ls 2 [(0, .ref (ad 999)), (1, .int v1)]) (hf : x_isMile σ v1 = some r) : W p l e (rm_ 2 60) s m args below meth c H locs 0 0 (Qm below g xIds ad (xE g ad q σ) (some (.int r)) A args s) (F0 m 0 ls []) := by
  have hx := X.1.1
  have hb := X.1.2.1
  unfold x_isMile at hf
  refine lv_aload_n hx hb dX0_isMile_0 rfl (lv_at hl 0 rfl) ?_
  refine xg_0 X hW xm_999 dX0_isMile_1 ?_
  by_cases c_1 : (σ.1 999 0) = 0
  · replace hf := ip hf c_1
    rw [dn_n c_1]
    refine lv_ifnullN (tgt := 26) hx hb dX0_isMile_4 (by decide) ?_
    refine lv_iconst (v := 0) hx hb dX0_isMile_26 (by decide) ?_
    exact p_zret X hW hf (by decide) dX0_isMile_27
  · replace hf := ine hf c_1
    rw [dn_s c_1]
    refine lv_ifnull (x := ad 1999) hx hb dX0_isMile_4 ?_
    refine lv_iload_n hx hb dX0_isMile_7 rfl (lv_at hl 1 rfl) ?_
    refine lv_if_lt (tgt := 26) hx hb dX0_isMile_8 (by decide) (fun c_2 => ?_) (fun c_2 => ?_)
    · replace hf := ip hf c_2
      refine lv_iconst (v := 0) hx hb dX0_isMile_26 (by decide) ?_
      exact p_zret X hW hf (by decide) dX0_isMile_27
    · replace hf := ine hf c_2
      refine lv_iload_n hx hb dX0_isMile_11 rfl (lv_at hl 1 rfl) ?_
      refine lv_aload_n hx hb dX0_isMile_12 rfl (lv_at hl 0 rfl) ?_
      refine xg_0s X hW xm_999 c_1 dX0_isMile_13 ?_
      refine xg_1000 X hW xm_1999 dX0_isMile_16 ?_
      refine lv_icmp_ge (tgt := 26) hx hb dX0_isMile_19 (by decide) (fun c_3 => ?_) (fun c_3 => ?_)
      · replace hf := ip hf c_3
        refine lv_iconst (v := 0) hx hb dX0_isMile_26 (by decide) ?_
        exact p_zret X hW hf (by decide) dX0_isMile_27
      · replace hf := ine hf c_3
        refine lv_iconst (v := 1) hx hb dX0_isMile_22 (by decide) ?_
        refine lv_goto (tgt := 27) hx hb dX0_isMile_23 (by decide) ?_
        exact p_zret X hW hf (by decide) dX0_isMile_27
theorem w_x_isMile (l : Launch) {g : gG} {ad : Nat → Nat} {q : xR} (had : xI_ ad) {r : Int32} {σ : cS} {v1 : Int32} (hf : x_isMile σ v1 = some r) : MC l yX0_isMile cX0_isMile 2 (some .boolean) 2 60 g xIds ad (xE g ad q σ) (xE g ad q σ) [.ref (ad 999), .int v1] (some (.int r)) :=
  MC.of (by decide) xIds_nd had (Nat.le_of_ble_eq_true rfl) (fun p e s m below meth c A ls X hW hl => wb_x_isMile X had hW hl hf)
theorem kx_isMile {p : Program} {l : Launch} {e : Env} {R : Room} {s : State} {m : MethodId} {args : Array Value} {below : List Frame} {meth : Method} {c : Code} {H : Heap} {locs : List Loc} {Q : State → Prop} {cc : ByteArray} {nL : Nat} {ret : Option FieldType} {g : gG} {A : Nat → Prop} {ad : Nat → Nat} {q : xR} {pc : Nat} {ls : Array Slot} {rest : List Value} {lv : List (Nat × Value)} {r : Int32} {σ : cS} {v1 : Int32} (X : MX p s m args meth c cc nL RX0 ret g A) (hW : WB g A s.heap xIds ad (xE g ad q σ) H locs) (had : xI_ ad) (hf : x_isMile σ v1 = some r) (hR : 3 ≤ R.frames ∧ 81 ≤ R.locals) (hl : lv_has ls nL lv) (hcat : (rest.map fun v => v.category).sum ≤ 8) (hdg : decode cc pc = .ok (.invokevirtual 169, 3)) (kk : ∀ (H1 : Heap) (l1 : List Loc), WB g A s.heap xIds ad (xE g ad q σ) H1 l1 → W p l e R s m args below meth c H1 l1 0 0 Q (F0 m (pc + 3) ls (.int r :: rest))) : W p l e R s m args below meth c H locs 0 0 Q (F0 m pc ls (.int v1 :: .ref (ad 999) :: rest)) :=
  r_callV X hW Sub.all (w_x_isMile l had hf) (lw_V q805 q807 qs28 q120 q808) ⟨rfl, by decide, by decide, by decide +kernel⟩ xm_999 rfl rfl (n := 1) hR hl rfl rfl hcat ⟨Nat.zero_le _, Nat.zero_le _⟩ hdg kk
-- mile
noncomputable def x_mile_106 {ρ : Type} (σ : cS) (v1 : Int32) (K : Int32 → Option ρ) : Nat → Int32 → Int32 → Option ρ
  | 0, _, _ => none
  | n + 1, v3, v4 => gd (nz (σ.1 999 0)) (if (σ.1 1999 2) ≤ v4 then (K v3) else (gd (inb v4 8) (if (σ.1 1011 (ix v4)) = v1 then (x_mile_106 σ v1 K n (v3 ||| (1 <<< (v4 &&& 31))) (v4 + 1)) else (x_mile_106 σ v1 K n (v3 ||| 0) (v4 + 1)))))
set_option maxHeartbeats 4000000 in
theorem wx_mile_106 {p : Program} {l : Launch} {e : Env} {s : State} {m : MethodId} {args : Array Value} {below : List Frame} {meth : Method} {c : Code} {g : gG} {A : Nat → Prop} {ad : Nat → Nat} {q : xR} (X : MX p s m args meth c cX0_mile 5 RX0 (some .int) g A) (had : xI_ ad) {ρ : Type} {res : ρ} {Q : State → Prop} {v1 : Int32} {σ : cS}  {K : Int32 → Option ρ}
    (hK : ∀ (k3 : Int32) (H : Heap) (locs : List Loc) (ls : Array Slot), WB g A s.heap xIds ad (xE g ad q σ) H locs → lv_has ls 5 [(3, .int k3)] → K k3 = some res → W p l e (rm_ 5 121) s m args below meth c H locs 0 0 Q (F0 m 149 ls [])) :
    ∀ (n : Nat) (v3 : Int32) (v4 : Int32) (H : Heap) (locs : List Loc) (ls : Array Slot), WB g A s.heap xIds ad (xE g ad q σ) H locs → lv_has ls 5 [(0, .ref (ad 999)), (1, .int v1), (3, .int v3), (4, .int v4)] → x_mile_106 σ v1 K n v3 v4 = some res → W p l e (rm_ 5 121) s m args below meth c H locs 0 0 Q (F0 m 106 ls []) := by
  have hx := X.1.1
  have hb := X.1.2.1
  intro n
  induction n with
  | zero =>
    intro v3 v4 H locs ls hW hl hf
    rw [x_mile_106] at hf
    cases hf
  | succ n ih =>
    intro v3 v4 H locs ls hW hl hf
    rw [x_mile_106] at hf
    refine lv_iload hx hb dX0_mile_106 (lv_at hl 3 rfl) ?_
    refine lv_aload_n hx hb dX0_mile_108 rfl (lv_at hl 0 rfl) ?_
    obtain ⟨z_19, hf⟩ := gd_e hf
    replace z_19 := nz_e z_19
    refine xg_0s X hW xm_999 z_19 dX0_mile_109 ?_
    refine xg_1002 X hW xm_1999 dX0_mile_112 ?_
    refine lv_icmp_ge (tgt := 149) hx hb dX0_mile_115 (by decide) (fun c_20 => ?_) (fun c_20 => ?_)
    · replace hf := ip hf c_20
      exact hK _ _ _ _ hW (lv_sub hl [2] rfl) hf
    · replace hf := ine hf c_20
      refine lv_iload_n hx hb dX0_mile_118 rfl (lv_at hl 2 rfl) ?_
      refine lv_aload_n hx hb dX0_mile_119 rfl (lv_at hl 0 rfl) ?_
      refine xg_0s X hW xm_999 z_19 dX0_mile_120 ?_
      refine xg_1011 X hW xm_1999 dX0_mile_123 ?_
      refine lv_iload hx hb dX0_mile_126 (lv_at hl 3 rfl) ?_
      obtain ⟨h_21, hf⟩ := gd_e hf
      refine xl_1011 X hW xm_1011 h_21 dX0_mile_128 ?_
      refine lv_iload_n hx hb dX0_mile_129 rfl (lv_at hl 1 rfl) ?_
      refine lv_icmp_ne (tgt := 140) hx hb dX0_mile_130 (by decide) (fun c_22 => ?_) (fun c_22 => ?_)
      · replace hf := ine hf c_22
        refine lv_iconst (v := 0) hx hb dX0_mile_140 (by decide) ?_
        refine lv_ior hx hb dX0_mile_141 ?_
        refine lv_istore_n (lv' := [(3, .int (v3 ||| 0)), (0, .ref (ad 999)), (1, .int v1), (4, .int v4)]) hx hb dX0_mile_142 rfl hl (by decide) rfl (fun ls hl => ?_)
        refine lv_iinc (v := (v4 + 1)) (lv' := [(4, .int (v4 + 1)), (3, .int (v3 ||| 0)), (0, .ref (ad 999)), (1, .int v1)]) hx hb dX0_mile_143 hl (k := 3) rfl (ii_v _ _ _ (by decide)) (by decide) rfl (fun ls hl => ?_)
        refine lv_goto (tgt := 106) hx hb dX0_mile_146 (by decide) ?_
        exact ih _ _ _ _ _ hW (lv_sub hl [2, 3, 1, 0] rfl) hf
      · replace hf := ip hf c_22
        refine lv_iconst (v := 1) hx hb dX0_mile_133 (by decide) ?_
        refine lv_iload hx hb dX0_mile_134 (lv_at hl 3 rfl) ?_
        refine lv_ishl hx hb dX0_mile_136 ?_
        refine lv_goto (tgt := 141) hx hb dX0_mile_137 (by decide) ?_
        refine lv_ior hx hb dX0_mile_141 ?_
        refine lv_istore_n (lv' := [(3, .int (v3 ||| (1 <<< (v4 &&& 31)))), (0, .ref (ad 999)), (1, .int v1), (4, .int v4)]) hx hb dX0_mile_142 rfl hl (by decide) rfl (fun ls hl => ?_)
        refine lv_iinc (v := (v4 + 1)) (lv' := [(4, .int (v4 + 1)), (3, .int (v3 ||| (1 <<< (v4 &&& 31)))), (0, .ref (ad 999)), (1, .int v1)]) hx hb dX0_mile_143 hl (k := 3) rfl (ii_v _ _ _ (by decide)) (by decide) rfl (fun ls hl => ?_)
        refine lv_goto (tgt := 106) hx hb dX0_mile_146 (by decide) ?_
        exact ih _ _ _ _ _ hW (lv_sub hl [2, 3, 1, 0] rfl) hf
noncomputable def x_mile (σ : cS) (v1 : Int32) (v2 : Int32) : Option (Int32) :=
  ((x_isMile σ v1).bind fun r_2 => if r_2 = 0 then (some (-100)) else (if v2 = 0 then (gd (nz (σ.1 999 0)) (gd (inb v1 10) (some (σ.1 1016 (ix v1))))) else (if v2 = 1 then (gd (nz (σ.1 999 0)) (gd (inb v1 10) (some (σ.1 1017 (ix v1))))) else (if v2 = 2 then (gd (nz (σ.1 999 0)) (gd (inb v1 10) (some (σ.1 1018 (ix v1))))) else (if v2 = 3 then (gd (nz (σ.1 999 0)) (((d_isBaked (vw σ 1000) v1).bind fun r_16 => if r_16 = 0 then (some 0) else (some 1)))) else (if v2 = 4 then (x_mile_106 σ v1 (fun v_23 => (some v_23)) FU 0 0) else (some (-100))))))))
set_option maxHeartbeats 4000000 in
theorem wb_x_mile {p : Program} {l : Launch} {e : Env} {s : State} {m : MethodId} {args : Array Value} {below : List Frame} {meth : Method} {c : Code} {g : gG} {A : Nat → Prop} {ad : Nat → Nat} {q : xR} (X : MX p s m args meth c cX0_mile 5 RX0 (some .int) g A) (had : xI_ ad) {r : Int32} {σ : cS} {v1 : Int32} {v2 : Int32} {H : Heap} {locs : List Loc} {ls : Array Slot} (hW : WB g A s.heap xIds ad (xE g ad q σ) H locs) (hl : lv_has ls 5 [(0, .ref (ad 999)), (1, .int v1), (2, .int v2)]) (hf : x_mile σ v1 v2 = some r) : W p l e (rm_ 5 121) s m args below meth c H locs 0 0 (Qm below g xIds ad (xE g ad q σ) (some (.int r)) A args s) (F0 m 0 ls []) := by
  have hx := X.1.1
  have hb := X.1.2.1
  unfold x_mile at hf
  refine lv_aload_n hx hb dX0_mile_0 rfl (lv_at hl 0 rfl) ?_
  refine lv_iload_n hx hb dX0_mile_1 rfl (lv_at hl 1 rfl) ?_
  obtain ⟨r_2, h_1, hf⟩ := bd_e hf
  refine kx_isMile X hW had h_1 (by decide) hl (Nat.le_of_ble_eq_true rfl) dX0_mile_2 (fun H locs hW => ?_)
  refine lv_if_ne (tgt := 11) hx hb dX0_mile_5 (by decide) (fun c_3 => ?_) (fun c_3 => ?_)
  · replace hf := ine hf c_3
    refine lv_iload_n hx hb dX0_mile_11 rfl (lv_at hl 2 rfl) ?_
    by_cases c_4 : v2 = 0
    · replace hf := ip hf c_4
      refine r_tabIn (tgt := 48) (off := 36) (k := 0) hx hb c_4 dX0_mile_12 (by decide) (by decide) rfl (by decide) ?_
      refine lv_aload_n hx hb dX0_mile_48 rfl (lv_at hl 0 rfl) ?_
      obtain ⟨z_5, hf⟩ := gd_e hf
      replace z_5 := nz_e z_5
      refine xg_0s X hW xm_999 z_5 dX0_mile_49 ?_
      refine xg_1016 X hW xm_1999 dX0_mile_52 ?_
      refine lv_iload_n hx hb dX0_mile_55 rfl (lv_at hl 1 rfl) ?_
      obtain ⟨h_6, hf⟩ := gd_e hf
      refine xl_1016 X hW xm_1016 h_6 dX0_mile_56 ?_
      exact p_iret X hW hf dX0_mile_57
    · replace hf := ine hf c_4
      by_cases c_7 : v2 = 1
      · replace hf := ip hf c_7
        refine r_tabIn (tgt := 58) (off := 46) (k := 1) hx hb c_7 dX0_mile_12 (by decide) (by decide) rfl (by decide) ?_
        refine lv_aload_n hx hb dX0_mile_58 rfl (lv_at hl 0 rfl) ?_
        obtain ⟨z_8, hf⟩ := gd_e hf
        replace z_8 := nz_e z_8
        refine xg_0s X hW xm_999 z_8 dX0_mile_59 ?_
        refine xg_1017 X hW xm_1999 dX0_mile_62 ?_
        refine lv_iload_n hx hb dX0_mile_65 rfl (lv_at hl 1 rfl) ?_
        obtain ⟨h_9, hf⟩ := gd_e hf
        refine xl_1017 X hW xm_1017 h_9 dX0_mile_66 ?_
        exact p_iret X hW hf dX0_mile_67
      · replace hf := ine hf c_7
        by_cases c_10 : v2 = 2
        · replace hf := ip hf c_10
          refine r_tabIn (tgt := 68) (off := 56) (k := 2) hx hb c_10 dX0_mile_12 (by decide) (by decide) rfl (by decide) ?_
          refine lv_aload_n hx hb dX0_mile_68 rfl (lv_at hl 0 rfl) ?_
          obtain ⟨z_11, hf⟩ := gd_e hf
          replace z_11 := nz_e z_11
          refine xg_0s X hW xm_999 z_11 dX0_mile_69 ?_
          refine xg_1018 X hW xm_1999 dX0_mile_72 ?_
          refine lv_iload_n hx hb dX0_mile_75 rfl (lv_at hl 1 rfl) ?_
          obtain ⟨h_12, hf⟩ := gd_e hf
          refine xl_1018 X hW xm_1018 h_12 dX0_mile_76 ?_
          exact p_iret X hW hf dX0_mile_77
        · replace hf := ine hf c_10
          by_cases c_13 : v2 = 3
          · replace hf := ip hf c_13
            refine r_tabIn (tgt := 78) (off := 66) (k := 3) hx hb c_13 dX0_mile_12 (by decide) (by decide) rfl (by decide) ?_
            refine lv_aload_n hx hb dX0_mile_78 rfl (lv_at hl 0 rfl) ?_
            obtain ⟨z_14, hf⟩ := gd_e hf
            replace z_14 := nz_e z_14
            refine xg_0s X hW xm_999 z_14 dX0_mile_79 ?_
            refine lv_iload_n hx hb dX0_mile_82 rfl (lv_at hl 1 rfl) ?_
            obtain ⟨r_16, h_15, hf⟩ := bd_e hf
            refine kx_isBaked X hW had (b := 1000) (by decide) h_15 (by decide) hl (Nat.le_of_ble_eq_true rfl) dX0_mile_83 (fun H locs hW => ?_)
            refine lv_if_eq (tgt := 93) hx hb dX0_mile_86 (by decide) (fun c_17 => ?_) (fun c_17 => ?_)
            · replace hf := ip hf c_17
              refine lv_iconst (v := 0) hx hb dX0_mile_93 (by decide) ?_
              exact p_iret X hW hf dX0_mile_94
            · replace hf := ine hf c_17
              refine lv_iconst (v := 1) hx hb dX0_mile_89 (by decide) ?_
              refine lv_goto (tgt := 94) hx hb dX0_mile_90 (by decide) ?_
              exact p_iret X hW hf dX0_mile_94
          · replace hf := ine hf c_13
            by_cases c_18 : v2 = 4
            · replace hf := ip hf c_18
              refine r_tabIn (tgt := 95) (off := 83) (k := 4) hx hb c_18 dX0_mile_12 (by decide) (by decide) rfl (by decide) ?_
              refine lv_goto (tgt := 101) hx hb dX0_mile_95 (by decide) ?_
              refine lv_iconst (v := 0) hx hb dX0_mile_101 (by decide) ?_
              refine lv_istore_n (lv' := [(3, .int 0), (0, .ref (ad 999)), (1, .int v1), (2, .int v2)]) hx hb dX0_mile_102 rfl hl (by decide) rfl (fun ls hl => ?_)
              refine lv_iconst (v := 0) hx hb dX0_mile_103 (by decide) ?_
              refine lv_istore (lv' := [(4, .int 0), (3, .int 0), (0, .ref (ad 999)), (1, .int v1), (2, .int v2)]) hx hb dX0_mile_104 hl (by decide) rfl (fun ls hl => ?_)
              refine wx_mile_106 X had (fun v_23 H locs ls hW hl hf => ?_) _ _ _ _ _ _ hW (lv_sub hl [2, 3, 1, 0] rfl) hf
              refine lv_iload_n hx hb dX0_mile_149 rfl (lv_at hl 0 rfl) ?_
              exact p_iret X hW hf dX0_mile_150
            · replace hf := ine hf c_18
              refine lv_tableOut (tgt := 98) hx hb dX0_mile_12 (by have := lv_neT c_4 (a := 0) rfl; have := lv_neT c_7 (a := 1) rfl; have := lv_neT c_10 (a := 2) rfl; have := lv_neT c_13 (a := 3) rfl; have := lv_neT c_18 (a := 4) rfl; omega) (by decide) ?_
              refine lv_bipush (v := (-100)) hx hb dX0_mile_98 (by decide) ?_
              exact p_iret X hW hf dX0_mile_100
  · replace hf := ip hf c_3
    refine lv_bipush (v := (-100)) hx hb dX0_mile_8 (by decide) ?_
    exact p_iret X hW hf dX0_mile_10
theorem w_x_mile (l : Launch) {g : gG} {ad : Nat → Nat} {q : xR} (had : xI_ ad) {r : Int32} {σ : cS} {v1 : Int32} {v2 : Int32} (hf : x_mile σ v1 v2 = some r) : MC l yX0_mile cX0_mile 5 (some .int) 5 121 g xIds ad (xE g ad q σ) (xE g ad q σ) [.ref (ad 999), .int v1, .int v2] (some (.int r)) :=
  MC.of (by decide) xIds_nd had (Nat.le_of_ble_eq_true rfl) (fun p e s m below meth c A ls X hW hl => wb_x_mile X had hW hl hf)
-- isVillage
noncomputable def x_isVillage (σ : cS) (v1 : Int32) : Option (Int32) :=
  if (σ.1 999 0) = 0 then (some 0) else (if v1 < 0 then (some 0) else (if (σ.1 1999 2) ≤ v1 then (some 0) else (some 1)))
set_option maxHeartbeats 4000000 in
theorem wb_x_isVillage {p : Program} {l : Launch} {e : Env} {s : State} {m : MethodId} {args : Array Value} {below : List Frame} {meth : Method} {c : Code} {g : gG} {A : Nat → Prop} {ad : Nat → Nat} {q : xR} (X : MX p s m args meth c cX0_isVillage 2 RX0 (some .boolean) g A) (had : xI_ ad) {r : Int32} {σ : cS} {v1 : Int32} {H : Heap} {locs : List Loc} {ls : Array Slot} (hW : WB g A s.heap xIds ad (xE g ad q σ) H locs) (hl : lv_has ls 2 [(0, .ref (ad 999)), (1, .int v1)]) (hf : x_isVillage σ v1 = some r) : W p l e (rm_ 2 60) s m args below meth c H locs 0 0 (Qm below g xIds ad (xE g ad q σ) (some (.int r)) A args s) (F0 m 0 ls []) := by
  have hx := X.1.1
  have hb := X.1.2.1
  unfold x_isVillage at hf
  refine lv_aload_n hx hb dX0_isVillage_0 rfl (lv_at hl 0 rfl) ?_
  refine xg_0 X hW xm_999 dX0_isVillage_1 ?_
  by_cases c_1 : (σ.1 999 0) = 0
  · replace hf := ip hf c_1
    rw [dn_n c_1]
    refine lv_ifnullN (tgt := 26) hx hb dX0_isVillage_4 (by decide) ?_
    refine lv_iconst (v := 0) hx hb dX0_isVillage_26 (by decide) ?_
    exact p_zret X hW hf (by decide) dX0_isVillage_27
  · replace hf := ine hf c_1
    rw [dn_s c_1]
    refine lv_ifnull (x := ad 1999) hx hb dX0_isVillage_4 ?_
    refine lv_iload_n hx hb dX0_isVillage_7 rfl (lv_at hl 1 rfl) ?_
    refine lv_if_lt (tgt := 26) hx hb dX0_isVillage_8 (by decide) (fun c_2 => ?_) (fun c_2 => ?_)
    · replace hf := ip hf c_2
      refine lv_iconst (v := 0) hx hb dX0_isVillage_26 (by decide) ?_
      exact p_zret X hW hf (by decide) dX0_isVillage_27
    · replace hf := ine hf c_2
      refine lv_iload_n hx hb dX0_isVillage_11 rfl (lv_at hl 1 rfl) ?_
      refine lv_aload_n hx hb dX0_isVillage_12 rfl (lv_at hl 0 rfl) ?_
      refine xg_0s X hW xm_999 c_1 dX0_isVillage_13 ?_
      refine xg_1002 X hW xm_1999 dX0_isVillage_16 ?_
      refine lv_icmp_ge (tgt := 26) hx hb dX0_isVillage_19 (by decide) (fun c_3 => ?_) (fun c_3 => ?_)
      · replace hf := ip hf c_3
        refine lv_iconst (v := 0) hx hb dX0_isVillage_26 (by decide) ?_
        exact p_zret X hW hf (by decide) dX0_isVillage_27
      · replace hf := ine hf c_3
        refine lv_iconst (v := 1) hx hb dX0_isVillage_22 (by decide) ?_
        refine lv_goto (tgt := 27) hx hb dX0_isVillage_23 (by decide) ?_
        exact p_zret X hW hf (by decide) dX0_isVillage_27
theorem w_x_isVillage (l : Launch) {g : gG} {ad : Nat → Nat} {q : xR} (had : xI_ ad) {r : Int32} {σ : cS} {v1 : Int32} (hf : x_isVillage σ v1 = some r) : MC l yX0_isVillage cX0_isVillage 2 (some .boolean) 2 60 g xIds ad (xE g ad q σ) (xE g ad q σ) [.ref (ad 999), .int v1] (some (.int r)) :=
  MC.of (by decide) xIds_nd had (Nat.le_of_ble_eq_true rfl) (fun p e s m below meth c A ls X hW hl => wb_x_isVillage X had hW hl hf)
theorem kx_isVillage {p : Program} {l : Launch} {e : Env} {R : Room} {s : State} {m : MethodId} {args : Array Value} {below : List Frame} {meth : Method} {c : Code} {H : Heap} {locs : List Loc} {Q : State → Prop} {cc : ByteArray} {nL : Nat} {ret : Option FieldType} {g : gG} {A : Nat → Prop} {ad : Nat → Nat} {q : xR} {pc : Nat} {ls : Array Slot} {rest : List Value} {lv : List (Nat × Value)} {r : Int32} {σ : cS} {v1 : Int32} (X : MX p s m args meth c cc nL RX0 ret g A) (hW : WB g A s.heap xIds ad (xE g ad q σ) H locs) (had : xI_ ad) (hf : x_isVillage σ v1 = some r) (hR : 3 ≤ R.frames ∧ 81 ≤ R.locals) (hl : lv_has ls nL lv) (hcat : (rest.map fun v => v.category).sum ≤ 8) (hdg : decode cc pc = .ok (.invokevirtual 185, 3)) (kk : ∀ (H1 : Heap) (l1 : List Loc), WB g A s.heap xIds ad (xE g ad q σ) H1 l1 → W p l e R s m args below meth c H1 l1 0 0 Q (F0 m (pc + 3) ls (.int r :: rest))) : W p l e R s m args below meth c H locs 0 0 Q (F0 m pc ls (.int v1 :: .ref (ad 999) :: rest)) :=
  r_callV X hW Sub.all (w_x_isVillage l had hf) (lw_V q820 q822 qs29 q120 q823) ⟨rfl, by decide, by decide, by decide +kernel⟩ xm_999 rfl rfl (n := 1) hR hl rfl rfl hcat ⟨Nat.zero_le _, Nat.zero_le _⟩ hdg kk
-- village
noncomputable def x_village (σ : cS) (v1 : Int32) (v2 : Int32) : Option (Int32) :=
  ((x_isVillage σ v1).bind fun r_2 => if r_2 = 0 then (some (-100)) else (if v2 = 0 then (gd (nz (σ.1 999 0)) (gd (inb v1 8) (some (σ.1 1011 (ix v1))))) else (if v2 = 1 then (gd (nz (σ.1 999 0)) (gd (inb v1 8) (some (σ.1 1012 (ix v1))))) else (if v2 = 2 then (gd (nz (σ.1 999 0)) (gd (inb v1 8) (some (σ.1 1013 (ix v1))))) else (if v2 = 3 then (gd (nz (σ.1 999 0)) (((d_sideOf (vw σ 1000) v1).bind fun r_16 => some r_16))) else (if v2 = 4 then (gd (nz (σ.1 999 0)) (gd (inb v1 8) (some (σ.1 1019 (ix v1))))) else (some (-100))))))))
set_option maxHeartbeats 4000000 in
theorem wb_x_village {p : Program} {l : Launch} {e : Env} {s : State} {m : MethodId} {args : Array Value} {below : List Frame} {meth : Method} {c : Code} {g : gG} {A : Nat → Prop} {ad : Nat → Nat} {q : xR} (X : MX p s m args meth c cX0_village 3 RX0 (some .int) g A) (had : xI_ ad) {r : Int32} {σ : cS} {v1 : Int32} {v2 : Int32} {H : Heap} {locs : List Loc} {ls : Array Slot} (hW : WB g A s.heap xIds ad (xE g ad q σ) H locs) (hl : lv_has ls 3 [(0, .ref (ad 999)), (1, .int v1), (2, .int v2)]) (hf : x_village σ v1 v2 = some r) : W p l e (rm_ 3 81) s m args below meth c H locs 0 0 (Qm below g xIds ad (xE g ad q σ) (some (.int r)) A args s) (F0 m 0 ls []) := by
  have hx := X.1.1
  have hb := X.1.2.1
  unfold x_village at hf
  refine lv_aload_n hx hb dX0_village_0 rfl (lv_at hl 0 rfl) ?_
  refine lv_iload_n hx hb dX0_village_1 rfl (lv_at hl 1 rfl) ?_
  obtain ⟨r_2, h_1, hf⟩ := bd_e hf
  refine kx_isVillage X hW had h_1 (by decide) hl (Nat.le_of_ble_eq_true rfl) dX0_village_2 (fun H locs hW => ?_)
  refine lv_if_ne (tgt := 11) hx hb dX0_village_5 (by decide) (fun c_3 => ?_) (fun c_3 => ?_)
  · replace hf := ine hf c_3
    refine lv_iload_n hx hb dX0_village_11 rfl (lv_at hl 2 rfl) ?_
    by_cases c_4 : v2 = 0
    · replace hf := ip hf c_4
      refine r_tabIn (tgt := 48) (off := 36) (k := 0) hx hb c_4 dX0_village_12 (by decide) (by decide) rfl (by decide) ?_
      refine lv_aload_n hx hb dX0_village_48 rfl (lv_at hl 0 rfl) ?_
      obtain ⟨z_5, hf⟩ := gd_e hf
      replace z_5 := nz_e z_5
      refine xg_0s X hW xm_999 z_5 dX0_village_49 ?_
      refine xg_1011 X hW xm_1999 dX0_village_52 ?_
      refine lv_iload_n hx hb dX0_village_55 rfl (lv_at hl 1 rfl) ?_
      obtain ⟨h_6, hf⟩ := gd_e hf
      refine xl_1011 X hW xm_1011 h_6 dX0_village_56 ?_
      exact p_iret X hW hf dX0_village_57
    · replace hf := ine hf c_4
      by_cases c_7 : v2 = 1
      · replace hf := ip hf c_7
        refine r_tabIn (tgt := 58) (off := 46) (k := 1) hx hb c_7 dX0_village_12 (by decide) (by decide) rfl (by decide) ?_
        refine lv_aload_n hx hb dX0_village_58 rfl (lv_at hl 0 rfl) ?_
        obtain ⟨z_8, hf⟩ := gd_e hf
        replace z_8 := nz_e z_8
        refine xg_0s X hW xm_999 z_8 dX0_village_59 ?_
        refine xg_1012 X hW xm_1999 dX0_village_62 ?_
        refine lv_iload_n hx hb dX0_village_65 rfl (lv_at hl 1 rfl) ?_
        obtain ⟨h_9, hf⟩ := gd_e hf
        refine xl_1012 X hW xm_1012 h_9 dX0_village_66 ?_
        exact p_iret X hW hf dX0_village_67
      · replace hf := ine hf c_7
        by_cases c_10 : v2 = 2
        · replace hf := ip hf c_10
          refine r_tabIn (tgt := 68) (off := 56) (k := 2) hx hb c_10 dX0_village_12 (by decide) (by decide) rfl (by decide) ?_
          refine lv_aload_n hx hb dX0_village_68 rfl (lv_at hl 0 rfl) ?_
          obtain ⟨z_11, hf⟩ := gd_e hf
          replace z_11 := nz_e z_11
          refine xg_0s X hW xm_999 z_11 dX0_village_69 ?_
          refine xg_1013 X hW xm_1999 dX0_village_72 ?_
          refine lv_iload_n hx hb dX0_village_75 rfl (lv_at hl 1 rfl) ?_
          obtain ⟨h_12, hf⟩ := gd_e hf
          refine xl_1013 X hW xm_1013 h_12 dX0_village_76 ?_
          exact p_iret X hW hf dX0_village_77
        · replace hf := ine hf c_10
          by_cases c_13 : v2 = 3
          · replace hf := ip hf c_13
            refine r_tabIn (tgt := 78) (off := 66) (k := 3) hx hb c_13 dX0_village_12 (by decide) (by decide) rfl (by decide) ?_
            refine lv_aload_n hx hb dX0_village_78 rfl (lv_at hl 0 rfl) ?_
            obtain ⟨z_14, hf⟩ := gd_e hf
            replace z_14 := nz_e z_14
            refine xg_0s X hW xm_999 z_14 dX0_village_79 ?_
            refine lv_iload_n hx hb dX0_village_82 rfl (lv_at hl 1 rfl) ?_
            obtain ⟨r_16, h_15, hf⟩ := bd_e hf
            refine kx_sideOf X hW had (b := 1000) (by decide) h_15 (by decide) hl (Nat.le_of_ble_eq_true rfl) dX0_village_83 (fun H locs hW => ?_)
            exact p_iret X hW hf dX0_village_86
          · replace hf := ine hf c_13
            by_cases c_17 : v2 = 4
            · replace hf := ip hf c_17
              refine r_tabIn (tgt := 87) (off := 75) (k := 4) hx hb c_17 dX0_village_12 (by decide) (by decide) rfl (by decide) ?_
              refine lv_aload_n hx hb dX0_village_87 rfl (lv_at hl 0 rfl) ?_
              obtain ⟨z_18, hf⟩ := gd_e hf
              replace z_18 := nz_e z_18
              refine xg_0s X hW xm_999 z_18 dX0_village_88 ?_
              refine xg_1019 X hW xm_1999 dX0_village_91 ?_
              refine lv_iload_n hx hb dX0_village_94 rfl (lv_at hl 1 rfl) ?_
              obtain ⟨h_19, hf⟩ := gd_e hf
              refine xl_1019 X hW xm_1019 h_19 dX0_village_95 ?_
              exact p_iret X hW hf dX0_village_96
            · replace hf := ine hf c_17
              refine lv_tableOut (tgt := 97) hx hb dX0_village_12 (by have := lv_neT c_4 (a := 0) rfl; have := lv_neT c_7 (a := 1) rfl; have := lv_neT c_10 (a := 2) rfl; have := lv_neT c_13 (a := 3) rfl; have := lv_neT c_17 (a := 4) rfl; omega) (by decide) ?_
              refine lv_bipush (v := (-100)) hx hb dX0_village_97 (by decide) ?_
              exact p_iret X hW hf dX0_village_99
  · replace hf := ip hf c_3
    refine lv_bipush (v := (-100)) hx hb dX0_village_8 (by decide) ?_
    exact p_iret X hW hf dX0_village_10
theorem w_x_village (l : Launch) {g : gG} {ad : Nat → Nat} {q : xR} (had : xI_ ad) {r : Int32} {σ : cS} {v1 : Int32} {v2 : Int32} (hf : x_village σ v1 v2 = some r) : MC l yX0_village cX0_village 3 (some .int) 3 81 g xIds ad (xE g ad q σ) (xE g ad q σ) [.ref (ad 999), .int v1, .int v2] (some (.int r)) :=
  MC.of (by decide) xIds_nd had (Nat.le_of_ble_eq_true rfl) (fun p e s m below meth c A ls X hW hl => wb_x_village X had hW hl hf)
-- warm
noncomputable def x_warm (σ : cS) (v1 : Int32) : Option (Int32) :=
  if (σ.1 999 0) = 0 then (some (-1)) else (if 0 ≤ v1 then (((d_warmOn (vw σ 1000) v1).bind fun r_4 => some r_4)) else (some (-1)))
set_option maxHeartbeats 4000000 in
theorem wb_x_warm {p : Program} {l : Launch} {e : Env} {s : State} {m : MethodId} {args : Array Value} {below : List Frame} {meth : Method} {c : Code} {g : gG} {A : Nat → Prop} {ad : Nat → Nat} {q : xR} (X : MX p s m args meth c cX0_warm 2 RX0 (some .int) g A) (had : xI_ ad) {r : Int32} {σ : cS} {v1 : Int32} {H : Heap} {locs : List Loc} {ls : Array Slot} (hW : WB g A s.heap xIds ad (xE g ad q σ) H locs) (hl : lv_has ls 2 [(0, .ref (ad 999)), (1, .int v1)]) (hf : x_warm σ v1 = some r) : W p l e (rm_ 3 81) s m args below meth c H locs 0 0 (Qm below g xIds ad (xE g ad q σ) (some (.int r)) A args s) (F0 m 0 ls []) := by
  have hx := X.1.1
  have hb := X.1.2.1
  unfold x_warm at hf
  refine lv_aload_n hx hb dX0_warm_0 rfl (lv_at hl 0 rfl) ?_
  refine xg_0 X hW xm_999 dX0_warm_1 ?_
  by_cases c_1 : (σ.1 999 0) = 0
  · replace hf := ip hf c_1
    rw [dn_n c_1]
    refine lv_ifnullN (tgt := 11) hx hb dX0_warm_4 (by decide) ?_
    refine lv_iconst (v := (-1)) hx hb dX0_warm_11 (by decide) ?_
    refine lv_goto (tgt := 23) hx hb dX0_warm_12 (by decide) ?_
    exact p_iret X hW hf dX0_warm_23
  · replace hf := ine hf c_1
    rw [dn_s c_1]
    refine lv_ifnull (x := ad 1999) hx hb dX0_warm_4 ?_
    refine lv_iload_n hx hb dX0_warm_7 rfl (lv_at hl 1 rfl) ?_
    refine lv_if_ge (tgt := 15) hx hb dX0_warm_8 (by decide) (fun c_2 => ?_) (fun c_2 => ?_)
    · replace hf := ip hf c_2
      refine lv_aload_n hx hb dX0_warm_15 rfl (lv_at hl 0 rfl) ?_
      refine xg_0s X hW xm_999 c_1 dX0_warm_16 ?_
      refine lv_iload_n hx hb dX0_warm_19 rfl (lv_at hl 1 rfl) ?_
      obtain ⟨r_4, h_3, hf⟩ := bd_e hf
      refine kx_warmOn X hW had (b := 1000) (by decide) h_3 (by decide) hl (Nat.le_of_ble_eq_true rfl) dX0_warm_20 (fun H locs hW => ?_)
      exact p_iret X hW hf dX0_warm_23
    · replace hf := ine hf c_2
      refine lv_iconst (v := (-1)) hx hb dX0_warm_11 (by decide) ?_
      refine lv_goto (tgt := 23) hx hb dX0_warm_12 (by decide) ?_
      exact p_iret X hW hf dX0_warm_23
theorem w_x_warm (l : Launch) {g : gG} {ad : Nat → Nat} {q : xR} (had : xI_ ad) {r : Int32} {σ : cS} {v1 : Int32} (hf : x_warm σ v1 = some r) : MC l yX0_warm cX0_warm 2 (some .int) 3 81 g xIds ad (xE g ad q σ) (xE g ad q σ) [.ref (ad 999), .int v1] (some (.int r)) :=
  MC.of (by decide) xIds_nd had (Nat.le_of_ble_eq_true rfl) (fun p e s m below meth c A ls X hW hl => wb_x_warm X had hW hl hf)
-- undo
noncomputable def x_undo (σ : cS) : Option (cS × Int32) :=
  if (σ.1 999 0) = 0 then (some (σ, (-2))) else (if (σ.1 1999 5) = 0 then (some (σ, (-2))) else (gd (nz ((si σ 1999 5 ((σ.1 1999 5) - 1)).1 999 0)) (((d_takes (vw (si σ 1999 5 ((σ.1 1999 5) - 1)) 1000) ((si σ 1999 5 ((σ.1 1999 5) - 1)).1 1999 5)).bind fun σ_5 => gd (nz ((pb (si σ 1999 5 ((σ.1 1999 5) - 1)) 1000 σ_5).1 999 0)) (some ((pb (si σ 1999 5 ((σ.1 1999 5) - 1)) 1000 σ_5), ((pb (si σ 1999 5 ((σ.1 1999 5) - 1)) 1000 σ_5).1 1999 5)))))))
set_option maxHeartbeats 4000000 in
theorem wb_x_undo {p : Program} {l : Launch} {e : Env} {s : State} {m : MethodId} {args : Array Value} {below : List Frame} {meth : Method} {c : Code} {g : gG} {A : Nat → Prop} {ad : Nat → Nat} {q : xR} (X : MX p s m args meth c cX0_undo 1 RX0 (some .int) g A) (had : xI_ ad) {σr : cS} {r : Int32} {σ : cS} {H : Heap} {locs : List Loc} {ls : Array Slot} (hW : WB g A s.heap xIds ad (xE g ad q σ) H locs) (hl : lv_has ls 1 [(0, .ref (ad 999))]) (hf : x_undo σ = some (σr, r)) : W p l e (rm_ 3 82) s m args below meth c H locs 0 0 (Qm below g xIds ad (xE g ad q σr) (some (.int r)) A args s) (F0 m 0 ls []) := by
  have hx := X.1.1
  have hb := X.1.2.1
  unfold x_undo at hf
  refine lv_aload_n hx hb dX0_undo_0 rfl (lv_at hl 0 rfl) ?_
  refine xg_0 X hW xm_999 dX0_undo_1 ?_
  by_cases c_1 : (σ.1 999 0) = 0
  · replace hf := ip hf c_1
    rw [dn_n c_1]
    refine lv_ifnullN (tgt := 17) hx hb dX0_undo_4 (by decide) ?_
    refine lv_bipush (v := (-2)) hx hb dX0_undo_17 (by decide) ?_
    exact x_iret X hW hf dX0_undo_19
  · replace hf := ine hf c_1
    rw [dn_s c_1]
    refine lv_ifnull (x := ad 1999) hx hb dX0_undo_4 ?_
    refine lv_aload_n hx hb dX0_undo_7 rfl (lv_at hl 0 rfl) ?_
    refine xg_0s X hW xm_999 c_1 dX0_undo_8 ?_
    refine xg_1005 X hW xm_1999 dX0_undo_11 ?_
    refine lv_if_ne (tgt := 20) hx hb dX0_undo_14 (by decide) (fun c_2 => ?_) (fun c_2 => ?_)
    · replace hf := ine hf c_2
      refine lv_aload_n hx hb dX0_undo_20 rfl (lv_at hl 0 rfl) ?_
      refine xg_0s X hW xm_999 c_1 dX0_undo_21 ?_
      refine lv_dup hx hb dX0_undo_24 rfl ?_
      refine xg_1005 X hW xm_1999 dX0_undo_25 ?_
      refine lv_iconst (v := 1) hx hb dX0_undo_28 (by decide) ?_
      refine lv_isub hx hb dX0_undo_29 ?_
      refine xp_1005 X hW xm_1999 dX0_undo_30 (fun H locs hW => ?_)
      refine lv_aload_n hx hb dX0_undo_33 rfl (lv_at hl 0 rfl) ?_
      obtain ⟨z_3, hf⟩ := gd_e hf
      replace z_3 := nz_e z_3
      refine xg_0s X hW xm_999 z_3 dX0_undo_34 ?_
      refine lv_aload_n hx hb dX0_undo_37 rfl (lv_at hl 0 rfl) ?_
      refine xg_0s X hW xm_999 z_3 dX0_undo_38 ?_
      refine xg_1005 X hW xm_1999 dX0_undo_41 ?_
      obtain ⟨σ_5, h_4, hf⟩ := bd_e hf
      refine kx_takes X hW had (b := 1000) (by decide) h_4 (by decide) hl (Nat.le_of_ble_eq_true rfl) dX0_undo_44 (fun H locs hW => ?_)
      refine lv_aload_n hx hb dX0_undo_47 rfl (lv_at hl 0 rfl) ?_
      obtain ⟨z_6, hf⟩ := gd_e hf
      replace z_6 := nz_e z_6
      refine xg_0s X hW xm_999 z_6 dX0_undo_48 ?_
      refine xg_1005 X hW xm_1999 dX0_undo_51 ?_
      exact x_iret X hW hf dX0_undo_54
    · replace hf := ip hf c_2
      refine lv_bipush (v := (-2)) hx hb dX0_undo_17 (by decide) ?_
      exact x_iret X hW hf dX0_undo_19
theorem w_x_undo (l : Launch) {g : gG} {ad : Nat → Nat} {q : xR} (had : xI_ ad) {σr : cS} {r : Int32} {σ : cS} (hf : x_undo σ = some (σr, r)) : MC l yX0_undo cX0_undo 1 (some .int) 3 82 g xIds ad (xE g ad q σ) (xE g ad q σr) [.ref (ad 999)] (some (.int r)) :=
  MC.of (by decide) xIds_nd had (Nat.le_of_ble_eq_true rfl) (fun p e s m below meth c A ls X hW hl => wb_x_undo X had hW hl hf)
-- keepsAct
noncomputable def x_keepsAct (σ : cS) : Option (cS) :=
  gd (nz (σ.1 999 0)) (((if (σ.1 1999 5) = 20 then (gd (nz ((sA σ 1020 (va_cpy (σ.1 1020) (σ.1 1020) (ix 40) (ix 0) (ix 760))).1 999 0)) (nmb (sA σ 1020 (va_cpy (σ.1 1020) (σ.1 1020) (ix 40) (ix 0) (ix 760))) fun σ_12 => (some ((si σ_12 1999 5 (((sA σ 1020 (va_cpy (σ.1 1020) (σ.1 1020) (ix 40) (ix 0) (ix 760))).1 1999 5) - 1)))))) else (some (σ)) : Option (cS)).bind fun σ_2 => (gd (nz (σ_2.1 999 0)) (((d_lays (vw σ_2 1000) (σ_2.1 1999 5)).bind fun σ_6 => gd (nz ((pb σ_2 1000 σ_6).1 999 0)) (nmb (pb σ_2 1000 σ_6) fun σ_8 => (some (si σ_8 1999 5 (((pb σ_2 1000 σ_6).1 1999 5) + 1)))))))))
set_option maxHeartbeats 4000000 in
theorem wb_x_keepsAct {p : Program} {l : Launch} {e : Env} {s : State} {m : MethodId} {args : Array Value} {below : List Frame} {meth : Method} {c : Code} {g : gG} {A : Nat → Prop} {ad : Nat → Nat} {q : xR} (X : MX p s m args meth c cX0_keepsAct 1 RX0 none g A) (had : xI_ ad) {σr : cS}  {σ : cS} {H : Heap} {locs : List Loc} {ls : Array Slot} (hW : WB g A s.heap xIds ad (xE g ad q σ) H locs) (hl : lv_has ls 1 [(0, .ref (ad 999))]) (hf : x_keepsAct σ = some σr) : W p l e (rm_ 3 82) s m args below meth c H locs 0 0 (Qm below g xIds ad (xE g ad q σr) none A args s) (F0 m 0 ls []) := by
  have hx := X.1.1
  have hb := X.1.2.1
  unfold x_keepsAct at hf
  refine lv_aload_n hx hb dX0_keepsAct_0 rfl (lv_at hl 0 rfl) ?_
  obtain ⟨z_1, hf⟩ := gd_e hf
  replace z_1 := nz_e z_1
  refine xg_0s X hW xm_999 z_1 dX0_keepsAct_1 ?_
  refine xg_1005 X hW xm_1999 dX0_keepsAct_4 ?_
  refine lv_bipush (v := 20) hx hb dX0_keepsAct_7 (by decide) ?_
  obtain ⟨σ_2, hD_3, hf⟩ := bd_e hf
  have hJ : ∀ (H : Heap) (locs : List Loc) (ls : Array Slot), WB g A s.heap xIds ad (xE g ad q σ_2) H locs → lv_has ls 1 [(0, .ref (ad 999))] → W p l e (rm_ 3 82) s m args below meth c H locs 0 0 (Qm below g xIds ad (xE g ad q σr) none A args s) (F0 m 48 ls []) := by
    intro H locs ls hW hl
    refine lv_aload_n hx hb dX0_keepsAct_48 rfl (lv_at hl 0 rfl) ?_
    obtain ⟨z_4, hf⟩ := gd_e hf
    replace z_4 := nz_e z_4
    refine xg_0s X hW xm_999 z_4 dX0_keepsAct_49 ?_
    refine lv_aload_n hx hb dX0_keepsAct_52 rfl (lv_at hl 0 rfl) ?_
    refine xg_0s X hW xm_999 z_4 dX0_keepsAct_53 ?_
    refine xg_1005 X hW xm_1999 dX0_keepsAct_56 ?_
    obtain ⟨σ_6, h_5, hf⟩ := bd_e hf
    refine kx_lays X hW had (b := 1000) (by decide) h_5 (by decide) hl (Nat.le_of_ble_eq_true rfl) dX0_keepsAct_59 (fun H locs hW => ?_)
    refine lv_aload_n hx hb dX0_keepsAct_62 rfl (lv_at hl 0 rfl) ?_
    obtain ⟨z_7, hf⟩ := gd_e hf
    replace z_7 := nz_e z_7
    refine xg_0s X hW xm_999 z_7 dX0_keepsAct_63 ?_
    refine lv_dup hx hb dX0_keepsAct_66 rfl ?_
    refine xg_1005 X hW xm_1999 dX0_keepsAct_67 ?_
    refine lv_iconst (v := 1) hx hb dX0_keepsAct_70 (by decide) ?_
    refine lv_iadd hx hb dX0_keepsAct_71 ?_
    obtain ⟨σ_8, e_9, hf⟩ := nmb_e hf
    rw [← e_9] at hW
    clear e_9
    refine xp_1005 X hW xm_1999 dX0_keepsAct_72 (fun H locs hW => ?_)
    exact x_vret X hW hf dX0_keepsAct_75
  clear hf
  refine lv_icmp_ne (tgt := 48) hx hb dX0_keepsAct_9 (by decide) (fun c_10 => ?_) (fun c_10 => ?_)
  · replace hD_3 := ine hD_3 c_10
    cases hD_3
    exact hJ _ _ _ hW (lv_sub hl [0] rfl)
  · replace hD_3 := ip hD_3 c_10
    refine lv_aload_n hx hb dX0_keepsAct_12 rfl (lv_at hl 0 rfl) ?_
    refine xg_0s X hW xm_999 z_1 dX0_keepsAct_13 ?_
    refine xg_1020 X hW xm_1999 dX0_keepsAct_16 ?_
    refine lv_bipush (v := 40) hx hb dX0_keepsAct_19 (by decide) ?_
    refine lv_aload_n hx hb dX0_keepsAct_21 rfl (lv_at hl 0 rfl) ?_
    refine xg_0s X hW xm_999 z_1 dX0_keepsAct_22 ?_
    refine xg_1020 X hW xm_1999 dX0_keepsAct_25 ?_
    refine lv_iconst (v := 0) hx hb dX0_keepsAct_28 (by decide) ?_
    refine lv_sipush (v := 760) hx hb dX0_keepsAct_29 (by decide) ?_
    refine x_copy X hW hl q852 (by decide) (Nat.le_of_ble_eq_true rfl) xm_1020 xm_1020 rfl rfl (fun _ => rfl) (by decide) dX0_keepsAct_32 (fun H locs hW => ?_)
    refine lv_aload_n hx hb dX0_keepsAct_35 rfl (lv_at hl 0 rfl) ?_
    obtain ⟨z_11, hD_3⟩ := gd_e hD_3
    replace z_11 := nz_e z_11
    refine xg_0s X hW xm_999 z_11 dX0_keepsAct_36 ?_
    refine lv_dup hx hb dX0_keepsAct_39 rfl ?_
    refine xg_1005 X hW xm_1999 dX0_keepsAct_40 ?_
    refine lv_iconst (v := 1) hx hb dX0_keepsAct_43 (by decide) ?_
    refine lv_isub hx hb dX0_keepsAct_44 ?_
    obtain ⟨σ_12, e_13, hD_3⟩ := nmb_e hD_3
    rw [← e_13] at hW
    clear e_13
    refine xp_1005 X hW xm_1999 dX0_keepsAct_45 (fun H locs hW => ?_)
    cases hD_3
    exact hJ _ _ _ hW (lv_sub hl [0] rfl)
theorem w_x_keepsAct (l : Launch) {g : gG} {ad : Nat → Nat} {q : xR} (had : xI_ ad) {σr : cS}  {σ : cS} (hf : x_keepsAct σ = some σr) : MC l yX0_keepsAct cX0_keepsAct 1 none 3 82 g xIds ad (xE g ad q σ) (xE g ad q σr) [.ref (ad 999)] none :=
  MC.of (by decide) xIds_nd had (Nat.le_of_ble_eq_true rfl) (fun p e s m below meth c A ls X hW hl => wb_x_keepsAct X had hW hl hf)
theorem kx_keepsAct {p : Program} {l : Launch} {e : Env} {R : Room} {s : State} {m : MethodId} {args : Array Value} {below : List Frame} {meth : Method} {c : Code} {H : Heap} {locs : List Loc} {Q : State → Prop} {cc : ByteArray} {nL : Nat} {ret : Option FieldType} {g : gG} {A : Nat → Prop} {ad : Nat → Nat} {q : xR} {pc : Nat} {ls : Array Slot} {rest : List Value} {lv : List (Nat × Value)} {σr : cS}  {σ : cS} (X : MX p s m args meth c cc nL RX0 ret g A) (hW : WB g A s.heap xIds ad (xE g ad q σ) H locs) (had : xI_ ad) (hf : x_keepsAct σ = some σr) (hR : 4 ≤ R.frames ∧ 102 ≤ R.locals) (hl : lv_has ls nL lv) (hcat : (rest.map fun v => v.category).sum ≤ 8) (hdg : decode cc pc = .ok (.invokevirtual 224, 3)) (kk : ∀ (H1 : Heap) (l1 : List Loc), WB g A s.heap xIds ad (xE g ad q σr) H1 l1 → W p l e R s m args below meth c H1 l1 0 0 Q (F0 m (pc + 3) ls (rest))) : W p l e R s m args below meth c H locs 0 0 Q (F0 m pc ls (.ref (ad 999) :: rest)) :=
  r_callV X hW Sub.all (w_x_keepsAct l had hf) (lw_V q848 q850 qs30 q120 q851) ⟨rfl, by decide, by decide, by decide +kernel⟩ xm_999 rfl rfl (n := 0) hR hl rfl rfl hcat ⟨Nat.zero_le _, Nat.zero_le _⟩ hdg kk
-- night
noncomputable def x_night (σ : cS) (rs : List RS) : Option (cS × Int32) :=
  if (σ.1 999 0) = 0 then (some (σ, (-1))) else (if (σ.1 1999 8) = 999 then (some (σ, (-1))) else (((x_keepsAct σ).bind fun σ_4 => gd (nz (σ_4.1 999 0)) (((x_law σ_4 rs).bind fun R_7 => ((d_goes (vw σ_4 1000) R_7).bind fun (σ_10, r_9) => some ((pb σ_4 1000 σ_10), r_9)))))))
set_option maxHeartbeats 4000000 in
theorem wb_x_night {p : Program} {l : Launch} {e : Env} {s : State} {m : MethodId} {args : Array Value} {below : List Frame} {meth : Method} {c : Code} {g : gG} {A : Nat → Prop} {ad : Nat → Nat} {q : xR} (X : MX p s m args meth c cX0_night 1 RX0 (some .int) g A) (had : xI_ ad) {rs : List RS} (hrs : RSok q.1 g rs) {σr : cS} {r : Int32} {σ : cS} {H : Heap} {locs : List Loc} {ls : Array Slot} (hW : WB g A s.heap xIds ad (xE g ad q σ) H locs) (hl : lv_has ls 1 [(0, .ref (ad 999))]) (hf : x_night σ rs = some (σr, r)) : W p l e (rm_ 407 16367) s m args below meth c H locs 0 0 (Qm below g xIds ad (xE g ad q σr) (some (.int r)) A args s) (F0 m 0 ls []) := by
  have hx := X.1.1
  have hb := X.1.2.1
  unfold x_night at hf
  refine lv_aload_n hx hb dX0_night_0 rfl (lv_at hl 0 rfl) ?_
  refine xg_0 X hW xm_999 dX0_night_1 ?_
  by_cases c_1 : (σ.1 999 0) = 0
  · replace hf := ip hf c_1
    rw [dn_n c_1]
    refine lv_ifnullN (tgt := 20) hx hb dX0_night_4 (by decide) ?_
    refine lv_iconst (v := (-1)) hx hb dX0_night_20 (by decide) ?_
    exact x_iret X hW hf dX0_night_21
  · replace hf := ine hf c_1
    rw [dn_s c_1]
    refine lv_ifnull (x := ad 1999) hx hb dX0_night_4 ?_
    refine lv_aload_n hx hb dX0_night_7 rfl (lv_at hl 0 rfl) ?_
    refine xg_0s X hW xm_999 c_1 dX0_night_8 ?_
    refine xg_1008 X hW xm_1999 dX0_night_11 ?_
    refine lv_sipush (v := 999) hx hb dX0_night_14 (by decide) ?_
    refine lv_icmp_ne (tgt := 22) hx hb dX0_night_17 (by decide) (fun c_2 => ?_) (fun c_2 => ?_)
    · replace hf := ine hf c_2
      refine lv_aload_n hx hb dX0_night_22 rfl (lv_at hl 0 rfl) ?_
      obtain ⟨σ_4, h_3, hf⟩ := bd_e hf
      refine kx_keepsAct X hW had h_3 (by decide) hl (Nat.le_of_ble_eq_true rfl) dX0_night_23 (fun H locs hW => ?_)
      refine lv_aload_n hx hb dX0_night_26 rfl (lv_at hl 0 rfl) ?_
      obtain ⟨z_5, hf⟩ := gd_e hf
      replace z_5 := nz_e z_5
      refine xg_0s X hW xm_999 z_5 dX0_night_27 ?_
      refine lv_aload_n hx hb dX0_night_30 rfl (lv_at hl 0 rfl) ?_
      obtain ⟨R_7, h_6, hf⟩ := bd_e hf
      refine kx_law X hW had hrs h_6 (by decide) hl (Nat.le_of_ble_eq_true rfl) dX0_night_31 (fun q_R_7 hq_R_7 H locs hW => ?_)
      obtain ⟨⟨σ_10, r_9⟩, h_8, hf⟩ := bd_e hf
      refine kx_goes X hW had (b := 1000) (by decide) hq_R_7 h_8 (by decide) hl (Nat.le_of_ble_eq_true rfl) dX0_night_34 (fun H locs hW => ?_)
      exact x_iret X hW hf dX0_night_37
    · replace hf := ip hf c_2
      refine lv_iconst (v := (-1)) hx hb dX0_night_20 (by decide) ?_
      exact x_iret X hW hf dX0_night_21
theorem w_x_night (l : Launch) {g : gG} {ad : Nat → Nat} {q : xR} (had : xI_ ad) {rs : List RS} (hrs : RSok q.1 g rs) {σr : cS} {r : Int32} {σ : cS} (hf : x_night σ rs = some (σr, r)) : MC l yX0_night cX0_night 1 (some .int) 407 16367 g xIds ad (xE g ad q σ) (xE g ad q σr) [.ref (ad 999)] (some (.int r)) :=
  MC.of (by decide) xIds_nd had (Nat.le_of_ble_eq_true rfl) (fun p e s m below meth c A ls X hW hl => wb_x_night X had hrs hW hl hf)
-- isSoft
noncomputable def x_isSoft (σ : cS) (v1 : Int32) : Option (Int32) :=
  ((x_isMile σ v1).bind fun r_2 => if r_2 = 0 then (some 0) else (gd (nz (σ.1 999 0)) (((d_isBaked (vw σ 1000) v1).bind fun r_6 => if r_6 = 0 then (some 1) else (some 0)))))
set_option maxHeartbeats 4000000 in
theorem wb_x_isSoft {p : Program} {l : Launch} {e : Env} {s : State} {m : MethodId} {args : Array Value} {below : List Frame} {meth : Method} {c : Code} {g : gG} {A : Nat → Prop} {ad : Nat → Nat} {q : xR} (X : MX p s m args meth c cX0_isSoft 2 RX0 (some .boolean) g A) (had : xI_ ad) {r : Int32} {σ : cS} {v1 : Int32} {H : Heap} {locs : List Loc} {ls : Array Slot} (hW : WB g A s.heap xIds ad (xE g ad q σ) H locs) (hl : lv_has ls 2 [(0, .ref (ad 999)), (1, .int v1)]) (hf : x_isSoft σ v1 = some r) : W p l e (rm_ 5 121) s m args below meth c H locs 0 0 (Qm below g xIds ad (xE g ad q σ) (some (.int r)) A args s) (F0 m 0 ls []) := by
  have hx := X.1.1
  have hb := X.1.2.1
  unfold x_isSoft at hf
  refine lv_aload_n hx hb dX0_isSoft_0 rfl (lv_at hl 0 rfl) ?_
  refine lv_iload_n hx hb dX0_isSoft_1 rfl (lv_at hl 1 rfl) ?_
  obtain ⟨r_2, h_1, hf⟩ := bd_e hf
  refine kx_isMile X hW had h_1 (by decide) hl (Nat.le_of_ble_eq_true rfl) dX0_isSoft_2 (fun H locs hW => ?_)
  refine lv_if_eq (tgt := 23) hx hb dX0_isSoft_5 (by decide) (fun c_3 => ?_) (fun c_3 => ?_)
  · replace hf := ip hf c_3
    refine lv_iconst (v := 0) hx hb dX0_isSoft_23 (by decide) ?_
    exact p_zret X hW hf (by decide) dX0_isSoft_24
  · replace hf := ine hf c_3
    refine lv_aload_n hx hb dX0_isSoft_8 rfl (lv_at hl 0 rfl) ?_
    obtain ⟨z_4, hf⟩ := gd_e hf
    replace z_4 := nz_e z_4
    refine xg_0s X hW xm_999 z_4 dX0_isSoft_9 ?_
    refine lv_iload_n hx hb dX0_isSoft_12 rfl (lv_at hl 1 rfl) ?_
    obtain ⟨r_6, h_5, hf⟩ := bd_e hf
    refine kx_isBaked X hW had (b := 1000) (by decide) h_5 (by decide) hl (Nat.le_of_ble_eq_true rfl) dX0_isSoft_13 (fun H locs hW => ?_)
    refine lv_if_ne (tgt := 23) hx hb dX0_isSoft_16 (by decide) (fun c_7 => ?_) (fun c_7 => ?_)
    · replace hf := ine hf c_7
      refine lv_iconst (v := 0) hx hb dX0_isSoft_23 (by decide) ?_
      exact p_zret X hW hf (by decide) dX0_isSoft_24
    · replace hf := ip hf c_7
      refine lv_iconst (v := 1) hx hb dX0_isSoft_19 (by decide) ?_
      refine lv_goto (tgt := 24) hx hb dX0_isSoft_20 (by decide) ?_
      exact p_zret X hW hf (by decide) dX0_isSoft_24
theorem w_x_isSoft (l : Launch) {g : gG} {ad : Nat → Nat} {q : xR} (had : xI_ ad) {r : Int32} {σ : cS} {v1 : Int32} (hf : x_isSoft σ v1 = some r) : MC l yX0_isSoft cX0_isSoft 2 (some .boolean) 5 121 g xIds ad (xE g ad q σ) (xE g ad q σ) [.ref (ad 999), .int v1] (some (.int r)) :=
  MC.of (by decide) xIds_nd had (Nat.le_of_ble_eq_true rfl) (fun p e s m below meth c A ls X hW hl => wb_x_isSoft X had hW hl hf)
theorem kx_isSoft {p : Program} {l : Launch} {e : Env} {R : Room} {s : State} {m : MethodId} {args : Array Value} {below : List Frame} {meth : Method} {c : Code} {H : Heap} {locs : List Loc} {Q : State → Prop} {cc : ByteArray} {nL : Nat} {ret : Option FieldType} {g : gG} {A : Nat → Prop} {ad : Nat → Nat} {q : xR} {pc : Nat} {ls : Array Slot} {rest : List Value} {lv : List (Nat × Value)} {r : Int32} {σ : cS} {v1 : Int32} (X : MX p s m args meth c cc nL RX0 ret g A) (hW : WB g A s.heap xIds ad (xE g ad q σ) H locs) (had : xI_ ad) (hf : x_isSoft σ v1 = some r) (hR : 6 ≤ R.frames ∧ 142 ≤ R.locals) (hl : lv_has ls nL lv) (hcat : (rest.map fun v => v.category).sum ≤ 8) (hdg : decode cc pc = .ok (.invokevirtual 234, 3)) (kk : ∀ (H1 : Heap) (l1 : List Loc), WB g A s.heap xIds ad (xE g ad q σ) H1 l1 → W p l e R s m args below meth c H1 l1 0 0 Q (F0 m (pc + 3) ls (.int r :: rest))) : W p l e R s m args below meth c H locs 0 0 Q (F0 m pc ls (.int v1 :: .ref (ad 999) :: rest)) :=
  r_callV X hW Sub.all (w_x_isSoft l had hf) (lw_V q958 q960 qs35 q120 q961) ⟨rfl, by decide, by decide, by decide +kernel⟩ xm_999 rfl rfl (n := 1) hR hl rfl rfl hcat ⟨Nat.zero_le _, Nat.zero_le _⟩ hdg kk
-- horses
noncomputable def x_horses (σ : cS) (v1 : Int32) (v2 : Int32) : Option (cS × Int32) :=
  ((x_isSoft σ v1).bind fun r_2 => if r_2 = 0 then (some (σ, (-100))) else (((x_in v2.toInt64 (-3) 3).bind fun r_5 => if r_5 = 0 then (some (σ, (-100))) else (if v2 = 0 then (some (σ, (-100))) else (((x_keepsAct σ).bind fun σ_9 => gd (nz (σ_9.1 999 0)) (((d_pushes (vw σ_9 1000) v1 v2).bind fun σ_12 => gd (nz ((pb σ_9 1000 σ_12).1 999 0)) (gd (inb v1 10) (some ((pb σ_9 1000 σ_12), ((pb σ_9 1000 σ_12).1 1016 (ix v1)))))))))))))
set_option maxHeartbeats 4000000 in
theorem wb_x_horses {p : Program} {l : Launch} {e : Env} {s : State} {m : MethodId} {args : Array Value} {below : List Frame} {meth : Method} {c : Code} {g : gG} {A : Nat → Prop} {ad : Nat → Nat} {q : xR} (X : MX p s m args meth c cX0_horses 3 RX0 (some .int) g A) (had : xI_ ad) {σr : cS} {r : Int32} {σ : cS} {v1 : Int32} {v2 : Int32} {H : Heap} {locs : List Loc} {ls : Array Slot} (hW : WB g A s.heap xIds ad (xE g ad q σ) H locs) (hl : lv_has ls 3 [(0, .ref (ad 999)), (1, .int v1), (2, .int v2)]) (hf : x_horses σ v1 v2 = some (σr, r)) : W p l e (rm_ 6 142) s m args below meth c H locs 0 0 (Qm below g xIds ad (xE g ad q σr) (some (.int r)) A args s) (F0 m 0 ls []) := by
  have hx := X.1.1
  have hb := X.1.2.1
  unfold x_horses at hf
  refine lv_aload_n hx hb dX0_horses_0 rfl (lv_at hl 0 rfl) ?_
  refine lv_iload_n hx hb dX0_horses_1 rfl (lv_at hl 1 rfl) ?_
  obtain ⟨r_2, h_1, hf⟩ := bd_e hf
  refine kx_isSoft X hW had h_1 (by decide) hl (Nat.le_of_ble_eq_true rfl) dX0_horses_2 (fun H locs hW => ?_)
  refine lv_if_eq (tgt := 26) hx hb dX0_horses_5 (by decide) (fun c_3 => ?_) (fun c_3 => ?_)
  · replace hf := ip hf c_3
    refine lv_bipush (v := (-100)) hx hb dX0_horses_26 (by decide) ?_
    exact x_iret X hW hf dX0_horses_28
  · replace hf := ine hf c_3
    refine lv_iload_n hx hb dX0_horses_8 rfl (lv_at hl 2 rfl) ?_
    refine lv_i2l (v := v2.toInt64) hx hb dX0_horses_9 rfl ?_
    refine lv_ldc2 (v := (-3)) hx hb X.1.2.2.2.1 (X.1.2.2.2.2 _ q962) dX0_horses_10 ?_
    refine lv_ldc2 (v := 3) hx hb X.1.2.2.2.1 (X.1.2.2.2.2 _ q963) dX0_horses_13 ?_
    obtain ⟨r_5, h_4, hf⟩ := bd_e hf
    refine kh_in X hW h_4 (by decide) hl (Nat.le_of_ble_eq_true rfl) dX0_horses_16 (fun H locs hW => ?_)
    refine lv_if_eq (tgt := 26) hx hb dX0_horses_19 (by decide) (fun c_6 => ?_) (fun c_6 => ?_)
    · replace hf := ip hf c_6
      refine lv_bipush (v := (-100)) hx hb dX0_horses_26 (by decide) ?_
      exact x_iret X hW hf dX0_horses_28
    · replace hf := ine hf c_6
      refine lv_iload_n hx hb dX0_horses_22 rfl (lv_at hl 2 rfl) ?_
      refine lv_if_ne (tgt := 29) hx hb dX0_horses_23 (by decide) (fun c_7 => ?_) (fun c_7 => ?_)
      · replace hf := ine hf c_7
        refine lv_aload_n hx hb dX0_horses_29 rfl (lv_at hl 0 rfl) ?_
        obtain ⟨σ_9, h_8, hf⟩ := bd_e hf
        refine kx_keepsAct X hW had h_8 (by decide) hl (Nat.le_of_ble_eq_true rfl) dX0_horses_30 (fun H locs hW => ?_)
        refine lv_aload_n hx hb dX0_horses_33 rfl (lv_at hl 0 rfl) ?_
        obtain ⟨z_10, hf⟩ := gd_e hf
        replace z_10 := nz_e z_10
        refine xg_0s X hW xm_999 z_10 dX0_horses_34 ?_
        refine lv_iload_n hx hb dX0_horses_37 rfl (lv_at hl 1 rfl) ?_
        refine lv_iload_n hx hb dX0_horses_38 rfl (lv_at hl 2 rfl) ?_
        obtain ⟨σ_12, h_11, hf⟩ := bd_e hf
        refine kx_pushes X hW had (b := 1000) (by decide) h_11 (by decide) hl (Nat.le_of_ble_eq_true rfl) dX0_horses_39 (fun H locs hW => ?_)
        refine lv_aload_n hx hb dX0_horses_42 rfl (lv_at hl 0 rfl) ?_
        obtain ⟨z_13, hf⟩ := gd_e hf
        replace z_13 := nz_e z_13
        refine xg_0s X hW xm_999 z_13 dX0_horses_43 ?_
        refine xg_1016 X hW xm_1999 dX0_horses_46 ?_
        refine lv_iload_n hx hb dX0_horses_49 rfl (lv_at hl 1 rfl) ?_
        obtain ⟨h_14, hf⟩ := gd_e hf
        refine xl_1016 X hW xm_1016 h_14 dX0_horses_50 ?_
        exact x_iret X hW hf dX0_horses_51
      · replace hf := ip hf c_7
        refine lv_bipush (v := (-100)) hx hb dX0_horses_26 (by decide) ?_
        exact x_iret X hW hf dX0_horses_28
theorem w_x_horses (l : Launch) {g : gG} {ad : Nat → Nat} {q : xR} (had : xI_ ad) {σr : cS} {r : Int32} {σ : cS} {v1 : Int32} {v2 : Int32} (hf : x_horses σ v1 v2 = some (σr, r)) : MC l yX0_horses cX0_horses 3 (some .int) 6 142 g xIds ad (xE g ad q σ) (xE g ad q σr) [.ref (ad 999), .int v1, .int v2] (some (.int r)) :=
  MC.of (by decide) xIds_nd had (Nat.le_of_ble_eq_true rfl) (fun p e s m below meth c A ls X hW hl => wb_x_horses X had hW hl hf)
-- salt
noncomputable def x_salt (σ : cS) (v1 : Int32) : Option (cS × Int32) :=
  ((x_isMile σ v1).bind fun r_2 => if r_2 = 0 then (some (σ, (-1))) else (gd (nz (σ.1 999 0)) (gd (inb v1 10) (if (σ.1 1018 (ix v1)) = 9 then (some (σ, (-1))) else (((x_keepsAct σ).bind fun σ_8 => gd (nz (σ_8.1 999 0)) (gd (nz ((si σ_8 1018 (ix v1) ((σ_8.1 1018 (ix v1)) + 1)).1 999 0)) (some ((si σ_8 1018 (ix v1) ((σ_8.1 1018 (ix v1)) + 1)), ((si σ_8 1018 (ix v1) ((σ_8.1 1018 (ix v1)) + 1)).1 1018 (ix v1)))))))))))
set_option maxHeartbeats 4000000 in
theorem wb_x_salt {p : Program} {l : Launch} {e : Env} {s : State} {m : MethodId} {args : Array Value} {below : List Frame} {meth : Method} {c : Code} {g : gG} {A : Nat → Prop} {ad : Nat → Nat} {q : xR} (X : MX p s m args meth c cX0_salt 2 RX0 (some .int) g A) (had : xI_ ad) {σr : cS} {r : Int32} {σ : cS} {v1 : Int32} {H : Heap} {locs : List Loc} {ls : Array Slot} (hW : WB g A s.heap xIds ad (xE g ad q σ) H locs) (hl : lv_has ls 2 [(0, .ref (ad 999)), (1, .int v1)]) (hf : x_salt σ v1 = some (σr, r)) : W p l e (rm_ 4 102) s m args below meth c H locs 0 0 (Qm below g xIds ad (xE g ad q σr) (some (.int r)) A args s) (F0 m 0 ls []) := by
  have hx := X.1.1
  have hb := X.1.2.1
  unfold x_salt at hf
  refine lv_aload_n hx hb dX0_salt_0 rfl (lv_at hl 0 rfl) ?_
  refine lv_iload_n hx hb dX0_salt_1 rfl (lv_at hl 1 rfl) ?_
  obtain ⟨r_2, h_1, hf⟩ := bd_e hf
  refine kx_isMile X hW had h_1 (by decide) hl (Nat.le_of_ble_eq_true rfl) dX0_salt_2 (fun H locs hW => ?_)
  refine lv_if_eq (tgt := 22) hx hb dX0_salt_5 (by decide) (fun c_3 => ?_) (fun c_3 => ?_)
  · replace hf := ip hf c_3
    refine lv_iconst (v := (-1)) hx hb dX0_salt_22 (by decide) ?_
    exact x_iret X hW hf dX0_salt_23
  · replace hf := ine hf c_3
    refine lv_aload_n hx hb dX0_salt_8 rfl (lv_at hl 0 rfl) ?_
    obtain ⟨z_4, hf⟩ := gd_e hf
    replace z_4 := nz_e z_4
    refine xg_0s X hW xm_999 z_4 dX0_salt_9 ?_
    refine xg_1018 X hW xm_1999 dX0_salt_12 ?_
    refine lv_iload_n hx hb dX0_salt_15 rfl (lv_at hl 1 rfl) ?_
    obtain ⟨h_5, hf⟩ := gd_e hf
    refine xl_1018 X hW xm_1018 h_5 dX0_salt_16 ?_
    refine lv_bipush (v := 9) hx hb dX0_salt_17 (by decide) ?_
    refine lv_icmp_ne (tgt := 24) hx hb dX0_salt_19 (by decide) (fun c_6 => ?_) (fun c_6 => ?_)
    · replace hf := ine hf c_6
      refine lv_aload_n hx hb dX0_salt_24 rfl (lv_at hl 0 rfl) ?_
      obtain ⟨σ_8, h_7, hf⟩ := bd_e hf
      refine kx_keepsAct X hW had h_7 (by decide) hl (Nat.le_of_ble_eq_true rfl) dX0_salt_25 (fun H locs hW => ?_)
      refine lv_aload_n hx hb dX0_salt_28 rfl (lv_at hl 0 rfl) ?_
      obtain ⟨z_9, hf⟩ := gd_e hf
      replace z_9 := nz_e z_9
      refine xg_0s X hW xm_999 z_9 dX0_salt_29 ?_
      refine xg_1018 X hW xm_1999 dX0_salt_32 ?_
      refine lv_iload_n hx hb dX0_salt_35 rfl (lv_at hl 1 rfl) ?_
      refine lv_dup2_11 hx hb dX0_salt_36 rfl rfl ?_
      refine xl_1018 X hW xm_1018 h_5 dX0_salt_37 ?_
      refine lv_iconst (v := 1) hx hb dX0_salt_38 (by decide) ?_
      refine lv_iadd hx hb dX0_salt_39 ?_
      refine xs_1018 X hW xm_1018 h_5 dX0_salt_40 (fun H locs hW => ?_)
      refine lv_aload_n hx hb dX0_salt_41 rfl (lv_at hl 0 rfl) ?_
      obtain ⟨z_10, hf⟩ := gd_e hf
      replace z_10 := nz_e z_10
      refine xg_0s X hW xm_999 z_10 dX0_salt_42 ?_
      refine xg_1018 X hW xm_1999 dX0_salt_45 ?_
      refine lv_iload_n hx hb dX0_salt_48 rfl (lv_at hl 1 rfl) ?_
      refine xl_1018 X hW xm_1018 h_5 dX0_salt_49 ?_
      exact x_iret X hW hf dX0_salt_50
    · replace hf := ip hf c_6
      refine lv_iconst (v := (-1)) hx hb dX0_salt_22 (by decide) ?_
      exact x_iret X hW hf dX0_salt_23
theorem w_x_salt (l : Launch) {g : gG} {ad : Nat → Nat} {q : xR} (had : xI_ ad) {σr : cS} {r : Int32} {σ : cS} {v1 : Int32} (hf : x_salt σ v1 = some (σr, r)) : MC l yX0_salt cX0_salt 2 (some .int) 4 102 g xIds ad (xE g ad q σ) (xE g ad q σr) [.ref (ad 999), .int v1] (some (.int r)) :=
  MC.of (by decide) xIds_nd had (Nat.le_of_ble_eq_true rfl) (fun p e s m below meth c A ls X hW hl => wb_x_salt X had hW hl hf)
-- sugar
noncomputable def x_sugar (σ : cS) (v1 : Int32) : Option (cS × Int32) :=
  ((x_isSoft σ v1).bind fun r_2 => if r_2 = 0 then (some (σ, (-1))) else (((x_keepsAct σ).bind fun σ_5 => gd (nz (σ_5.1 999 0)) (gd (inb v1 10) (gd (nz ((si σ_5 1018 (ix v1) (jmax 0 ((σ_5.1 1018 (ix v1)) - 1))).1 999 0)) (nmb (si σ_5 1018 (ix v1) (jmax 0 ((σ_5.1 1018 (ix v1)) - 1))) fun σ_9 => (gd (nz ((si σ_9 1017 (ix v1) (jmin 99 (((si σ_5 1018 (ix v1) (jmax 0 ((σ_5.1 1018 (ix v1)) - 1))).1 1017 (ix v1)) + 10))).1 999 0)) (some ((si σ_9 1017 (ix v1) (jmin 99 (((si σ_5 1018 (ix v1) (jmax 0 ((σ_5.1 1018 (ix v1)) - 1))).1 1017 (ix v1)) + 10))), ((si σ_9 1017 (ix v1) (jmin 99 (((si σ_5 1018 (ix v1) (jmax 0 ((σ_5.1 1018 (ix v1)) - 1))).1 1017 (ix v1)) + 10))).1 1017 (ix v1)))))))))))
set_option maxHeartbeats 4000000 in
theorem wb_x_sugar {p : Program} {l : Launch} {e : Env} {s : State} {m : MethodId} {args : Array Value} {below : List Frame} {meth : Method} {c : Code} {g : gG} {A : Nat → Prop} {ad : Nat → Nat} {q : xR} (X : MX p s m args meth c cX0_sugar 2 RX0 (some .int) g A) (had : xI_ ad) {σr : cS} {r : Int32} {σ : cS} {v1 : Int32} {H : Heap} {locs : List Loc} {ls : Array Slot} (hW : WB g A s.heap xIds ad (xE g ad q σ) H locs) (hl : lv_has ls 2 [(0, .ref (ad 999)), (1, .int v1)]) (hf : x_sugar σ v1 = some (σr, r)) : W p l e (rm_ 6 142) s m args below meth c H locs 0 0 (Qm below g xIds ad (xE g ad q σr) (some (.int r)) A args s) (F0 m 0 ls []) := by
  have hx := X.1.1
  have hb := X.1.2.1
  unfold x_sugar at hf
  refine lv_aload_n hx hb dX0_sugar_0 rfl (lv_at hl 0 rfl) ?_
  refine lv_iload_n hx hb dX0_sugar_1 rfl (lv_at hl 1 rfl) ?_
  obtain ⟨r_2, h_1, hf⟩ := bd_e hf
  refine kx_isSoft X hW had h_1 (by decide) hl (Nat.le_of_ble_eq_true rfl) dX0_sugar_2 (fun H locs hW => ?_)
  refine lv_if_ne (tgt := 10) hx hb dX0_sugar_5 (by decide) (fun c_3 => ?_) (fun c_3 => ?_)
  · replace hf := ine hf c_3
    refine lv_aload_n hx hb dX0_sugar_10 rfl (lv_at hl 0 rfl) ?_
    obtain ⟨σ_5, h_4, hf⟩ := bd_e hf
    refine kx_keepsAct X hW had h_4 (by decide) hl (Nat.le_of_ble_eq_true rfl) dX0_sugar_11 (fun H locs hW => ?_)
    refine lv_aload_n hx hb dX0_sugar_14 rfl (lv_at hl 0 rfl) ?_
    obtain ⟨z_6, hf⟩ := gd_e hf
    replace z_6 := nz_e z_6
    refine xg_0s X hW xm_999 z_6 dX0_sugar_15 ?_
    refine xg_1018 X hW xm_1999 dX0_sugar_18 ?_
    refine lv_iload_n hx hb dX0_sugar_21 rfl (lv_at hl 1 rfl) ?_
    refine lv_iconst (v := 0) hx hb dX0_sugar_22 (by decide) ?_
    refine lv_aload_n hx hb dX0_sugar_23 rfl (lv_at hl 0 rfl) ?_
    refine xg_0s X hW xm_999 z_6 dX0_sugar_24 ?_
    refine xg_1018 X hW xm_1999 dX0_sugar_27 ?_
    refine lv_iload_n hx hb dX0_sugar_30 rfl (lv_at hl 1 rfl) ?_
    obtain ⟨h_7, hf⟩ := gd_e hf
    refine xl_1018 X hW xm_1018 h_7 dX0_sugar_31 ?_
    refine lv_iconst (v := 1) hx hb dX0_sugar_32 (by decide) ?_
    refine lv_isub hx hb dX0_sugar_33 ?_
    refine r_max X hl q887 (by decide) (Nat.le_of_ble_eq_true rfl) dX0_sugar_34 ?_
    refine xs_1018 X hW xm_1018 h_7 dX0_sugar_37 (fun H locs hW => ?_)
    refine lv_aload_n hx hb dX0_sugar_38 rfl (lv_at hl 0 rfl) ?_
    obtain ⟨z_8, hf⟩ := gd_e hf
    replace z_8 := nz_e z_8
    refine xg_0s X hW xm_999 z_8 dX0_sugar_39 ?_
    refine xg_1017 X hW xm_1999 dX0_sugar_42 ?_
    refine lv_iload_n hx hb dX0_sugar_45 rfl (lv_at hl 1 rfl) ?_
    refine lv_bipush (v := 99) hx hb dX0_sugar_46 (by decide) ?_
    refine lv_aload_n hx hb dX0_sugar_48 rfl (lv_at hl 0 rfl) ?_
    refine xg_0s X hW xm_999 z_8 dX0_sugar_49 ?_
    refine xg_1017 X hW xm_1999 dX0_sugar_52 ?_
    refine lv_iload_n hx hb dX0_sugar_55 rfl (lv_at hl 1 rfl) ?_
    refine xl_1017 X hW xm_1017 h_7 dX0_sugar_56 ?_
    refine lv_bipush (v := 10) hx hb dX0_sugar_57 (by decide) ?_
    refine lv_iadd hx hb dX0_sugar_59 ?_
    refine r_min X hl q886 (by decide) (Nat.le_of_ble_eq_true rfl) dX0_sugar_60 ?_
    obtain ⟨σ_9, e_10, hf⟩ := nmb_e hf
    rw [← e_10] at hW
    clear e_10
    refine xs_1017 X hW xm_1017 h_7 dX0_sugar_63 (fun H locs hW => ?_)
    refine lv_aload_n hx hb dX0_sugar_64 rfl (lv_at hl 0 rfl) ?_
    obtain ⟨z_11, hf⟩ := gd_e hf
    replace z_11 := nz_e z_11
    refine xg_0s X hW xm_999 z_11 dX0_sugar_65 ?_
    refine xg_1017 X hW xm_1999 dX0_sugar_68 ?_
    refine lv_iload_n hx hb dX0_sugar_71 rfl (lv_at hl 1 rfl) ?_
    refine xl_1017 X hW xm_1017 h_7 dX0_sugar_72 ?_
    exact x_iret X hW hf dX0_sugar_73
  · replace hf := ip hf c_3
    refine lv_iconst (v := (-1)) hx hb dX0_sugar_8 (by decide) ?_
    exact x_iret X hW hf dX0_sugar_9
theorem w_x_sugar (l : Launch) {g : gG} {ad : Nat → Nat} {q : xR} (had : xI_ ad) {σr : cS} {r : Int32} {σ : cS} {v1 : Int32} (hf : x_sugar σ v1 = some (σr, r)) : MC l yX0_sugar cX0_sugar 2 (some .int) 6 142 g xIds ad (xE g ad q σ) (xE g ad q σr) [.ref (ad 999), .int v1] (some (.int r)) :=
  MC.of (by decide) xIds_nd had (Nat.le_of_ble_eq_true rfl) (fun p e s m below meth c A ls X hW hl => wb_x_sugar X had hW hl hf)
-- slice
noncomputable def x_slice (σ : cS) (v1 : Int32) (v2 : Int32) : Option (cS × Int32) :=
  ((x_isSoft σ v1).bind fun r_2 => if r_2 = 0 then (some (σ, (-1))) else (((x_in v2.toInt64 1 99).bind fun r_5 => if r_5 = 0 then (some (σ, (-1))) else (gd (nz (σ.1 999 0)) (gd (inb v1 10) (if v2 ≤ (σ.1 1017 (ix v1)) then (((x_keepsAct σ).bind fun σ_11 => gd (nz (σ_11.1 999 0)) (gd (nz ((si σ_11 1017 (ix v1) ((σ_11.1 1017 (ix v1)) - v2)).1 999 0)) (some ((si σ_11 1017 (ix v1) ((σ_11.1 1017 (ix v1)) - v2)), ((si σ_11 1017 (ix v1) ((σ_11.1 1017 (ix v1)) - v2)).1 1017 (ix v1))))))) else (some (σ, (-1)))))))))
set_option maxHeartbeats 4000000 in
theorem wb_x_slice {p : Program} {l : Launch} {e : Env} {s : State} {m : MethodId} {args : Array Value} {below : List Frame} {meth : Method} {c : Code} {g : gG} {A : Nat → Prop} {ad : Nat → Nat} {q : xR} (X : MX p s m args meth c cX0_slice 3 RX0 (some .int) g A) (had : xI_ ad) {σr : cS} {r : Int32} {σ : cS} {v1 : Int32} {v2 : Int32} {H : Heap} {locs : List Loc} {ls : Array Slot} (hW : WB g A s.heap xIds ad (xE g ad q σ) H locs) (hl : lv_has ls 3 [(0, .ref (ad 999)), (1, .int v1), (2, .int v2)]) (hf : x_slice σ v1 v2 = some (σr, r)) : W p l e (rm_ 6 142) s m args below meth c H locs 0 0 (Qm below g xIds ad (xE g ad q σr) (some (.int r)) A args s) (F0 m 0 ls []) := by
  have hx := X.1.1
  have hb := X.1.2.1
  unfold x_slice at hf
  refine lv_aload_n hx hb dX0_slice_0 rfl (lv_at hl 0 rfl) ?_
  refine lv_iload_n hx hb dX0_slice_1 rfl (lv_at hl 1 rfl) ?_
  obtain ⟨r_2, h_1, hf⟩ := bd_e hf
  refine kx_isSoft X hW had h_1 (by decide) hl (Nat.le_of_ble_eq_true rfl) dX0_slice_2 (fun H locs hW => ?_)
  refine lv_if_eq (tgt := 33) hx hb dX0_slice_5 (by decide) (fun c_3 => ?_) (fun c_3 => ?_)
  · replace hf := ip hf c_3
    refine lv_iconst (v := (-1)) hx hb dX0_slice_33 (by decide) ?_
    exact x_iret X hW hf dX0_slice_34
  · replace hf := ine hf c_3
    refine lv_iload_n hx hb dX0_slice_8 rfl (lv_at hl 2 rfl) ?_
    refine lv_i2l (v := v2.toInt64) hx hb dX0_slice_9 rfl ?_
    refine lv_lconst (v := 1) hx hb dX0_slice_10 (by decide) ?_
    refine lv_ldc2 (v := 99) hx hb X.1.2.2.2.1 (X.1.2.2.2.2 _ q981) dX0_slice_11 ?_
    obtain ⟨r_5, h_4, hf⟩ := bd_e hf
    refine kh_in X hW h_4 (by decide) hl (Nat.le_of_ble_eq_true rfl) dX0_slice_14 (fun H locs hW => ?_)
    refine lv_if_eq (tgt := 33) hx hb dX0_slice_17 (by decide) (fun c_6 => ?_) (fun c_6 => ?_)
    · replace hf := ip hf c_6
      refine lv_iconst (v := (-1)) hx hb dX0_slice_33 (by decide) ?_
      exact x_iret X hW hf dX0_slice_34
    · replace hf := ine hf c_6
      refine lv_aload_n hx hb dX0_slice_20 rfl (lv_at hl 0 rfl) ?_
      obtain ⟨z_7, hf⟩ := gd_e hf
      replace z_7 := nz_e z_7
      refine xg_0s X hW xm_999 z_7 dX0_slice_21 ?_
      refine xg_1017 X hW xm_1999 dX0_slice_24 ?_
      refine lv_iload_n hx hb dX0_slice_27 rfl (lv_at hl 1 rfl) ?_
      obtain ⟨h_8, hf⟩ := gd_e hf
      refine xl_1017 X hW xm_1017 h_8 dX0_slice_28 ?_
      refine lv_iload_n hx hb dX0_slice_29 rfl (lv_at hl 2 rfl) ?_
      refine lv_icmp_ge (tgt := 35) hx hb dX0_slice_30 (by decide) (fun c_9 => ?_) (fun c_9 => ?_)
      · replace hf := ip hf c_9
        refine lv_aload_n hx hb dX0_slice_35 rfl (lv_at hl 0 rfl) ?_
        obtain ⟨σ_11, h_10, hf⟩ := bd_e hf
        refine kx_keepsAct X hW had h_10 (by decide) hl (Nat.le_of_ble_eq_true rfl) dX0_slice_36 (fun H locs hW => ?_)
        refine lv_aload_n hx hb dX0_slice_39 rfl (lv_at hl 0 rfl) ?_
        obtain ⟨z_12, hf⟩ := gd_e hf
        replace z_12 := nz_e z_12
        refine xg_0s X hW xm_999 z_12 dX0_slice_40 ?_
        refine xg_1017 X hW xm_1999 dX0_slice_43 ?_
        refine lv_iload_n hx hb dX0_slice_46 rfl (lv_at hl 1 rfl) ?_
        refine lv_dup2_11 hx hb dX0_slice_47 rfl rfl ?_
        refine xl_1017 X hW xm_1017 h_8 dX0_slice_48 ?_
        refine lv_iload_n hx hb dX0_slice_49 rfl (lv_at hl 2 rfl) ?_
        refine lv_isub hx hb dX0_slice_50 ?_
        refine xs_1017 X hW xm_1017 h_8 dX0_slice_51 (fun H locs hW => ?_)
        refine lv_aload_n hx hb dX0_slice_52 rfl (lv_at hl 0 rfl) ?_
        obtain ⟨z_13, hf⟩ := gd_e hf
        replace z_13 := nz_e z_13
        refine xg_0s X hW xm_999 z_13 dX0_slice_53 ?_
        refine xg_1017 X hW xm_1999 dX0_slice_56 ?_
        refine lv_iload_n hx hb dX0_slice_59 rfl (lv_at hl 1 rfl) ?_
        refine xl_1017 X hW xm_1017 h_8 dX0_slice_60 ?_
        exact x_iret X hW hf dX0_slice_61
      · replace hf := ine hf c_9
        refine lv_iconst (v := (-1)) hx hb dX0_slice_33 (by decide) ?_
        exact x_iret X hW hf dX0_slice_34
theorem w_x_slice (l : Launch) {g : gG} {ad : Nat → Nat} {q : xR} (had : xI_ ad) {σr : cS} {r : Int32} {σ : cS} {v1 : Int32} {v2 : Int32} (hf : x_slice σ v1 v2 = some (σr, r)) : MC l yX0_slice cX0_slice 3 (some .int) 6 142 g xIds ad (xE g ad q σ) (xE g ad q σr) [.ref (ad 999), .int v1, .int v2] (some (.int r)) :=
  MC.of (by decide) xIds_nd had (Nat.le_of_ble_eq_true rfl) (fun p e s m below meth c A ls X hW hl => wb_x_slice X had hW hl hf)
-- bake
noncomputable def x_bake (σ : cS) (v1 : Int32) : Option (cS × Int32) :=
  ((x_isSoft σ v1).bind fun r_2 => if r_2 = 0 then (some (σ, 0)) else (((x_keepsAct σ).bind fun σ_5 => gd (nz (σ_5.1 999 0)) (some ((si σ_5 1999 7 ((σ_5.1 1999 7) ||| (1 <<< (v1 &&& 31)))), 1)))))
set_option maxHeartbeats 4000000 in
theorem wb_x_bake {p : Program} {l : Launch} {e : Env} {s : State} {m : MethodId} {args : Array Value} {below : List Frame} {meth : Method} {c : Code} {g : gG} {A : Nat → Prop} {ad : Nat → Nat} {q : xR} (X : MX p s m args meth c cX0_bake 2 RX0 (some .boolean) g A) (had : xI_ ad) {σr : cS} {r : Int32} {σ : cS} {v1 : Int32} {H : Heap} {locs : List Loc} {ls : Array Slot} (hW : WB g A s.heap xIds ad (xE g ad q σ) H locs) (hl : lv_has ls 2 [(0, .ref (ad 999)), (1, .int v1)]) (hf : x_bake σ v1 = some (σr, r)) : W p l e (rm_ 6 142) s m args below meth c H locs 0 0 (Qm below g xIds ad (xE g ad q σr) (some (.int r)) A args s) (F0 m 0 ls []) := by
  have hx := X.1.1
  have hb := X.1.2.1
  unfold x_bake at hf
  refine lv_aload_n hx hb dX0_bake_0 rfl (lv_at hl 0 rfl) ?_
  refine lv_iload_n hx hb dX0_bake_1 rfl (lv_at hl 1 rfl) ?_
  obtain ⟨r_2, h_1, hf⟩ := bd_e hf
  refine kx_isSoft X hW had h_1 (by decide) hl (Nat.le_of_ble_eq_true rfl) dX0_bake_2 (fun H locs hW => ?_)
  refine lv_if_ne (tgt := 10) hx hb dX0_bake_5 (by decide) (fun c_3 => ?_) (fun c_3 => ?_)
  · replace hf := ine hf c_3
    refine lv_aload_n hx hb dX0_bake_10 rfl (lv_at hl 0 rfl) ?_
    obtain ⟨σ_5, h_4, hf⟩ := bd_e hf
    refine kx_keepsAct X hW had h_4 (by decide) hl (Nat.le_of_ble_eq_true rfl) dX0_bake_11 (fun H locs hW => ?_)
    refine lv_aload_n hx hb dX0_bake_14 rfl (lv_at hl 0 rfl) ?_
    obtain ⟨z_6, hf⟩ := gd_e hf
    replace z_6 := nz_e z_6
    refine xg_0s X hW xm_999 z_6 dX0_bake_15 ?_
    refine lv_dup hx hb dX0_bake_18 rfl ?_
    refine xg_1007 X hW xm_1999 dX0_bake_19 ?_
    refine lv_iconst (v := 1) hx hb dX0_bake_22 (by decide) ?_
    refine lv_iload_n hx hb dX0_bake_23 rfl (lv_at hl 1 rfl) ?_
    refine lv_ishl hx hb dX0_bake_24 ?_
    refine lv_ior hx hb dX0_bake_25 ?_
    refine xp_1007 X hW xm_1999 dX0_bake_26 (fun H locs hW => ?_)
    refine lv_iconst (v := 1) hx hb dX0_bake_29 (by decide) ?_
    exact x_zret X hW hf (by decide) dX0_bake_30
  · replace hf := ip hf c_3
    refine lv_iconst (v := 0) hx hb dX0_bake_8 (by decide) ?_
    exact x_zret X hW hf (by decide) dX0_bake_9
theorem w_x_bake (l : Launch) {g : gG} {ad : Nat → Nat} {q : xR} (had : xI_ ad) {σr : cS} {r : Int32} {σ : cS} {v1 : Int32} (hf : x_bake σ v1 = some (σr, r)) : MC l yX0_bake cX0_bake 2 (some .boolean) 6 142 g xIds ad (xE g ad q σ) (xE g ad q σr) [.ref (ad 999), .int v1] (some (.int r)) :=
  MC.of (by decide) xIds_nd had (Nat.le_of_ble_eq_true rfl) (fun p e s m below meth c A ls X hW hl => wb_x_bake X had hW hl hf)
-- ahead
noncomputable def x_ahead_51 {ρ : Type} (rs : List RS) (v1 : Int32) (v2 : Int32) (v3 : Int32) (K : cS → Option ρ) : Nat → cS → Int32 → Option ρ
  | 0, _, _ => none
  | n + 1, σ, v5 => if v2 ≤ v5 then (K σ) else (((x_law σ rs).bind fun R_15 => ((d_goes (vw σ 2000) R_15).bind fun (σ_18, r_17) => x_ahead_51 rs v1 v2 v3 K n (pb σ 2000 σ_18) (v5 + 1))))
set_option maxHeartbeats 4000000 in
theorem wx_ahead_51 {p : Program} {l : Launch} {e : Env} {s : State} {m : MethodId} {args : Array Value} {below : List Frame} {meth : Method} {c : Code} {g : gG} {A : Nat → Prop} {ad : Nat → Nat} {q : xR} (X : MX p s m args meth c cX0_ahead 6 RX0 (some .int) g A) (had : xI_ ad) {rs : List RS} (hrs : RSok q.1 g rs) {ρ : Type} {res : ρ} {Q : State → Prop} {v1 : Int32} {v2 : Int32} {v3 : Int32}  {K : cS → Option ρ}
    (hK : ∀ (σ : cS) (H : Heap) (locs : List Loc) (ls : Array Slot), WB g A s.heap xIds ad (xE g ad q σ) H locs → lv_has ls 6 [(1, .int v1), (3, .int v3), (4, .ref (ad 2999))] → K σ = some res → W p l e (rm_ 407 16367) s m args below meth c H locs 0 0 Q (F0 m 73 ls [])) :
    ∀ (n : Nat) (σ : cS) (v5 : Int32) (H : Heap) (locs : List Loc) (ls : Array Slot), WB g A s.heap xIds ad (xE g ad q σ) H locs → lv_has ls 6 [(0, .ref (ad 999)), (1, .int v1), (2, .int v2), (3, .int v3), (4, .ref (ad 2999)), (5, .int v5)] → x_ahead_51 rs v1 v2 v3 K n σ v5 = some res → W p l e (rm_ 407 16367) s m args below meth c H locs 0 0 Q (F0 m 51 ls []) := by
  have hx := X.1.1
  have hb := X.1.2.1
  intro n
  induction n with
  | zero =>
    intro σ v5 H locs ls hW hl hf
    rw [x_ahead_51] at hf
    cases hf
  | succ n ih =>
    intro σ v5 H locs ls hW hl hf
    rw [x_ahead_51] at hf
    refine lv_iload hx hb dX0_ahead_51 (lv_at hl 5 rfl) ?_
    refine lv_iload_n hx hb dX0_ahead_53 rfl (lv_at hl 2 rfl) ?_
    refine lv_icmp_ge (tgt := 73) hx hb dX0_ahead_54 (by decide) (fun c_13 => ?_) (fun c_13 => ?_)
    · replace hf := ip hf c_13
      exact hK _ _ _ _ hW (lv_sub hl [1, 3, 4] rfl) hf
    · replace hf := ine hf c_13
      refine lv_aload hx hb dX0_ahead_57 (lv_at hl 4 rfl) ?_
      refine lv_aload_n hx hb dX0_ahead_59 rfl (lv_at hl 0 rfl) ?_
      obtain ⟨R_15, h_14, hf⟩ := bd_e hf
      refine kx_law X hW had hrs h_14 (by decide) hl (Nat.le_of_ble_eq_true rfl) dX0_ahead_60 (fun q_R_15 hq_R_15 H locs hW => ?_)
      obtain ⟨⟨σ_18, r_17⟩, h_16, hf⟩ := bd_e hf
      refine kx_goes X hW had (b := 2000) (by decide) hq_R_15 h_16 (by decide) hl (Nat.le_of_ble_eq_true rfl) dX0_ahead_63 (fun H locs hW => ?_)
      refine lv_pop hx hb dX0_ahead_66 rfl ?_
      refine lv_iinc (v := (v5 + 1)) (lv' := [(5, .int (v5 + 1)), (0, .ref (ad 999)), (1, .int v1), (2, .int v2), (3, .int v3), (4, .ref (ad 2999))]) hx hb dX0_ahead_67 hl (k := 5) rfl (ii_v _ _ _ (by decide)) (by decide) rfl (fun ls hl => ?_)
      refine lv_goto (tgt := 51) hx hb dX0_ahead_70 (by decide) ?_
      exact ih _ _ _ _ _ hW (lv_sub hl [1, 2, 3, 4, 5, 0] rfl) hf
noncomputable def x_ahead (σ : cS) (rs : List RS) (v1 : Int32) (v2 : Int32) (v3 : Int32) : Option (cS × Int32) :=
  ((x_isMile σ v1).bind fun r_2 => if r_2 = 0 then (some (σ, (-100))) else (((x_in v2.toInt64 0 100).bind fun r_5 => if r_5 = 0 then (some (σ, (-100))) else (((x_in v3.toInt64 0 2).bind fun r_8 => if r_8 = 0 then (some (σ, (-100))) else (gd (nz (σ.1 999 0)) (((d_copies (vw2 σ 2000 1000)).bind fun σ_12 => x_ahead_51 rs v1 v2 v3 (fun σ_19 => (if v3 = 0 then (gd (inb v1 10) (some (σ_19, (σ_19.1 2016 (ix v1))))) else (if v3 = 1 then (gd (inb v1 10) (some (σ_19, (σ_19.1 2017 (ix v1))))) else (((d_easts (vw σ_19 2000)).bind fun r_23 => some (σ_19, r_23)))))) FU (pb2 σ 2000 1000 σ_12) 0))))))))
set_option maxHeartbeats 4000000 in
theorem wb_x_ahead {p : Program} {l : Launch} {e : Env} {s : State} {m : MethodId} {args : Array Value} {below : List Frame} {meth : Method} {c : Code} {g : gG} {A : Nat → Prop} {ad : Nat → Nat} {q : xR} (X : MX p s m args meth c cX0_ahead 6 RX0 (some .int) g A) (had : xI_ ad) {rs : List RS} (hrs : RSok q.1 g rs) {σr : cS} {r : Int32} {σ : cS} {v1 : Int32} {v2 : Int32} {v3 : Int32} {H : Heap} {locs : List Loc} {ls : Array Slot} (hW : WB g A s.heap xIds ad (xE g ad q σ) H locs) (hl : lv_has ls 6 [(0, .ref (ad 999)), (1, .int v1), (2, .int v2), (3, .int v3)]) (hf : x_ahead σ rs v1 v2 v3 = some (σr, r)) : W p l e (rm_ 407 16367) s m args below meth c H locs 0 0 (Qm below g xIds ad (xE g ad q σr) (some (.int r)) A args s) (F0 m 0 ls []) := by
  have hx := X.1.1
  have hb := X.1.2.1
  unfold x_ahead at hf
  refine lv_aload_n hx hb dX0_ahead_0 rfl (lv_at hl 0 rfl) ?_
  refine lv_iload_n hx hb dX0_ahead_1 rfl (lv_at hl 1 rfl) ?_
  obtain ⟨r_2, h_1, hf⟩ := bd_e hf
  refine kx_isMile X hW had h_1 (by decide) hl (Nat.le_of_ble_eq_true rfl) dX0_ahead_2 (fun H locs hW => ?_)
  refine lv_if_eq (tgt := 32) hx hb dX0_ahead_5 (by decide) (fun c_3 => ?_) (fun c_3 => ?_)
  · replace hf := ip hf c_3
    refine lv_bipush (v := (-100)) hx hb dX0_ahead_32 (by decide) ?_
    exact x_iret X hW hf dX0_ahead_34
  · replace hf := ine hf c_3
    refine lv_iload_n hx hb dX0_ahead_8 rfl (lv_at hl 2 rfl) ?_
    refine lv_i2l (v := v2.toInt64) hx hb dX0_ahead_9 rfl ?_
    refine lv_lconst (v := 0) hx hb dX0_ahead_10 (by decide) ?_
    refine lv_ldc2 (v := 100) hx hb X.1.2.2.2.1 (X.1.2.2.2.2 _ q990) dX0_ahead_11 ?_
    obtain ⟨r_5, h_4, hf⟩ := bd_e hf
    refine kh_in X hW h_4 (by decide) hl (Nat.le_of_ble_eq_true rfl) dX0_ahead_14 (fun H locs hW => ?_)
    refine lv_if_eq (tgt := 32) hx hb dX0_ahead_17 (by decide) (fun c_6 => ?_) (fun c_6 => ?_)
    · replace hf := ip hf c_6
      refine lv_bipush (v := (-100)) hx hb dX0_ahead_32 (by decide) ?_
      exact x_iret X hW hf dX0_ahead_34
    · replace hf := ine hf c_6
      refine lv_iload_n hx hb dX0_ahead_20 rfl (lv_at hl 3 rfl) ?_
      refine lv_i2l (v := v3.toInt64) hx hb dX0_ahead_21 rfl ?_
      refine lv_lconst (v := 0) hx hb dX0_ahead_22 (by decide) ?_
      refine lv_ldc2 (v := 2) hx hb X.1.2.2.2.1 (X.1.2.2.2.2 _ q991) dX0_ahead_23 ?_
      obtain ⟨r_8, h_7, hf⟩ := bd_e hf
      refine kh_in X hW h_7 (by decide) hl (Nat.le_of_ble_eq_true rfl) dX0_ahead_26 (fun H locs hW => ?_)
      refine lv_if_ne (tgt := 35) hx hb dX0_ahead_29 (by decide) (fun c_9 => ?_) (fun c_9 => ?_)
      · replace hf := ine hf c_9
        refine lv_aload_n hx hb dX0_ahead_35 rfl (lv_at hl 0 rfl) ?_
        refine xg_2 X hW xm_999 dX0_ahead_36 ?_
        refine lv_aload_n hx hb dX0_ahead_39 rfl (lv_at hl 0 rfl) ?_
        obtain ⟨z_10, hf⟩ := gd_e hf
        replace z_10 := nz_e z_10
        refine xg_0s X hW xm_999 z_10 dX0_ahead_40 ?_
        obtain ⟨σ_12, h_11, hf⟩ := bd_e hf
        refine kx_copies X hW had (b := 2000) (c2 := 1000) (by decide) (by decide) (by decide) h_11 (by decide) hl (Nat.le_of_ble_eq_true rfl) dX0_ahead_43 (fun H locs hW => ?_)
        refine lv_astore (lv' := [(4, .ref (ad 2999)), (0, .ref (ad 999)), (1, .int v1), (2, .int v2), (3, .int v3)]) hx hb dX0_ahead_46 hl (by decide) rfl (fun ls hl => ?_)
        refine lv_iconst (v := 0) hx hb dX0_ahead_48 (by decide) ?_
        refine lv_istore (lv' := [(5, .int 0), (4, .ref (ad 2999)), (0, .ref (ad 999)), (1, .int v1), (2, .int v2), (3, .int v3)]) hx hb dX0_ahead_49 hl (by decide) rfl (fun ls hl => ?_)
        refine wx_ahead_51 X had hrs (fun σ_19 H locs ls hW hl hf => ?_) _ _ _ _ _ _ hW (lv_sub hl [2, 3, 4, 5, 1, 0] rfl) hf
        refine lv_iload_n hx hb dX0_ahead_73 rfl (lv_at hl 1 rfl) ?_
        refine lv_if_ne (tgt := 87) hx hb dX0_ahead_74 (by decide) (fun c_20 => ?_) (fun c_20 => ?_)
        · replace hf := ine hf c_20
          refine lv_iload_n hx hb dX0_ahead_87 rfl (lv_at hl 1 rfl) ?_
          refine lv_iconst (v := 1) hx hb dX0_ahead_88 (by decide) ?_
          refine lv_icmp_ne (tgt := 102) hx hb dX0_ahead_89 (by decide) (fun c_21 => ?_) (fun c_21 => ?_)
          · replace hf := ine hf c_21
            refine lv_aload hx hb dX0_ahead_102 (lv_at hl 2 rfl) ?_
            obtain ⟨r_23, h_22, hf⟩ := bd_e hf
            refine kx_easts X hW had (b := 2000) (by decide) h_22 (by decide) hl (Nat.le_of_ble_eq_true rfl) dX0_ahead_104 (fun H locs hW => ?_)
            exact x_iret X hW hf dX0_ahead_107
          · replace hf := ip hf c_21
            refine lv_aload hx hb dX0_ahead_92 (lv_at hl 2 rfl) ?_
            refine xg_2017 X hW xm_2999 dX0_ahead_94 ?_
            refine lv_iload_n hx hb dX0_ahead_97 rfl (lv_at hl 0 rfl) ?_
            obtain ⟨h_24, hf⟩ := gd_e hf
            refine xl_2017 X hW xm_2017 h_24 dX0_ahead_98 ?_
            refine lv_goto (tgt := 107) hx hb dX0_ahead_99 (by decide) ?_
            exact x_iret X hW hf dX0_ahead_107
        · replace hf := ip hf c_20
          refine lv_aload hx hb dX0_ahead_77 (lv_at hl 2 rfl) ?_
          refine xg_2016 X hW xm_2999 dX0_ahead_79 ?_
          refine lv_iload_n hx hb dX0_ahead_82 rfl (lv_at hl 0 rfl) ?_
          obtain ⟨h_25, hf⟩ := gd_e hf
          refine xl_2016 X hW xm_2016 h_25 dX0_ahead_83 ?_
          refine lv_goto (tgt := 107) hx hb dX0_ahead_84 (by decide) ?_
          exact x_iret X hW hf dX0_ahead_107
      · replace hf := ip hf c_9
        refine lv_bipush (v := (-100)) hx hb dX0_ahead_32 (by decide) ?_
        exact x_iret X hW hf dX0_ahead_34
theorem w_x_ahead (l : Launch) {g : gG} {ad : Nat → Nat} {q : xR} (had : xI_ ad) {rs : List RS} (hrs : RSok q.1 g rs) {σr : cS} {r : Int32} {σ : cS} {v1 : Int32} {v2 : Int32} {v3 : Int32} (hf : x_ahead σ rs v1 v2 v3 = some (σr, r)) : MC l yX0_ahead cX0_ahead 6 (some .int) 407 16367 g xIds ad (xE g ad q σ) (xE g ad q σr) [.ref (ad 999), .int v1, .int v2, .int v3] (some (.int r)) :=
  MC.of (by decide) xIds_nd had (Nat.le_of_ble_eq_true rfl) (fun p e s m below meth c A ls X hW hl => wb_x_ahead X had hrs hW hl hf)
-- crosses
noncomputable def x_crosses_24 (rs : List RS) (v1 : Int32) (K : cS → Int32 → Option (cS × Int32)) : Nat → cS → Int32 → Option (cS × Int32)
  | 0, _, _ => none
  | n + 1, σ, v3 => if 60 ≤ v3 then (some (σ, (-2))) else (((x_law σ rs).bind fun R_9 => ((d_goes (vw σ 2000) R_9).bind fun (σ_12, r_11) => gd (inb v1 8) (gd (nz ((pb σ 2000 σ_12).1 999 0)) (if ((pb σ 2000 σ_12).1 2019 (ix v1)) ≤ ((pb σ 2000 σ_12).1 1019 (ix v1)) then (x_crosses_24 rs v1 K n (pb σ 2000 σ_12) (v3 + 1)) else (K (pb σ 2000 σ_12) v3))))))
set_option maxHeartbeats 4000000 in
theorem wx_crosses_24 {p : Program} {l : Launch} {e : Env} {s : State} {m : MethodId} {args : Array Value} {below : List Frame} {meth : Method} {c : Code} {g : gG} {A : Nat → Prop} {ad : Nat → Nat} {q : xR} (X : MX p s m args meth c cX0_crosses 4 RX0 (some .int) g A) (had : xI_ ad) {rs : List RS} (hrs : RSok q.1 g rs) {σr : cS} {r : Int32} {v1 : Int32}  {K : cS → Int32 → Option (cS × Int32)}
    (hK : ∀ (σ : cS) (k3 : Int32) (H : Heap) (locs : List Loc) (ls : Array Slot), WB g A s.heap xIds ad (xE g ad q σ) H locs → lv_has ls 4 [(0, .ref (ad 999)), (3, .int k3)] → K σ k3 = some (σr, r) → W p l e (rm_ 407 16367) s m args below meth c H locs 0 0 (Qm below g xIds ad (xE g ad q σr) (some (.int r)) A args s) (F0 m 57 ls [])) :
    ∀ (n : Nat) (σ : cS) (v3 : Int32) (H : Heap) (locs : List Loc) (ls : Array Slot), WB g A s.heap xIds ad (xE g ad q σ) H locs → lv_has ls 4 [(0, .ref (ad 999)), (1, .int v1), (2, .ref (ad 2999)), (3, .int v3)] → x_crosses_24 rs v1 K n σ v3 = some (σr, r) → W p l e (rm_ 407 16367) s m args below meth c H locs 0 0 (Qm below g xIds ad (xE g ad q σr) (some (.int r)) A args s) (F0 m 24 ls []) := by
  have hx := X.1.1
  have hb := X.1.2.1
  intro n
  induction n with
  | zero =>
    intro σ v3 H locs ls hW hl hf
    rw [x_crosses_24] at hf
    cases hf
  | succ n ih =>
    intro σ v3 H locs ls hW hl hf
    rw [x_crosses_24] at hf
    refine lv_iload_n hx hb dX0_crosses_24 rfl (lv_at hl 3 rfl) ?_
    refine lv_bipush (v := 60) hx hb dX0_crosses_25 (by decide) ?_
    refine lv_icmp_ge (tgt := 73) hx hb dX0_crosses_27 (by decide) (fun c_7 => ?_) (fun c_7 => ?_)
    · replace hf := ip hf c_7
      refine lv_bipush (v := (-2)) hx hb dX0_crosses_73 (by decide) ?_
      exact x_iret X hW hf dX0_crosses_75
    · replace hf := ine hf c_7
      refine lv_aload_n hx hb dX0_crosses_30 rfl (lv_at hl 2 rfl) ?_
      refine lv_aload_n hx hb dX0_crosses_31 rfl (lv_at hl 0 rfl) ?_
      obtain ⟨R_9, h_8, hf⟩ := bd_e hf
      refine kx_law X hW had hrs h_8 (by decide) hl (Nat.le_of_ble_eq_true rfl) dX0_crosses_32 (fun q_R_9 hq_R_9 H locs hW => ?_)
      obtain ⟨⟨σ_12, r_11⟩, h_10, hf⟩ := bd_e hf
      refine kx_goes X hW had (b := 2000) (by decide) hq_R_9 h_10 (by decide) hl (Nat.le_of_ble_eq_true rfl) dX0_crosses_35 (fun H locs hW => ?_)
      refine lv_pop hx hb dX0_crosses_38 rfl ?_
      refine lv_aload_n hx hb dX0_crosses_39 rfl (lv_at hl 2 rfl) ?_
      refine xg_2019 X hW xm_2999 dX0_crosses_40 ?_
      refine lv_iload_n hx hb dX0_crosses_43 rfl (lv_at hl 1 rfl) ?_
      obtain ⟨h_13, hf⟩ := gd_e hf
      refine xl_2019 X hW xm_2019 h_13 dX0_crosses_44 ?_
      refine lv_aload_n hx hb dX0_crosses_45 rfl (lv_at hl 0 rfl) ?_
      obtain ⟨z_14, hf⟩ := gd_e hf
      replace z_14 := nz_e z_14
      refine xg_0s X hW xm_999 z_14 dX0_crosses_46 ?_
      refine xg_1019 X hW xm_1999 dX0_crosses_49 ?_
      refine lv_iload_n hx hb dX0_crosses_52 rfl (lv_at hl 1 rfl) ?_
      refine xl_1019 X hW xm_1019 h_13 dX0_crosses_53 ?_
      refine lv_icmp_le (tgt := 67) hx hb dX0_crosses_54 (by decide) (fun c_15 => ?_) (fun c_15 => ?_)
      · replace hf := ip hf c_15
        refine lv_iinc (v := (v3 + 1)) (lv' := [(3, .int (v3 + 1)), (0, .ref (ad 999)), (1, .int v1), (2, .ref (ad 2999))]) hx hb dX0_crosses_67 hl (k := 3) rfl (ii_v _ _ _ (by decide)) (by decide) rfl (fun ls hl => ?_)
        refine lv_goto (tgt := 24) hx hb dX0_crosses_70 (by decide) ?_
        exact ih _ _ _ _ _ hW (lv_sub hl [1, 2, 3, 0] rfl) hf
      · replace hf := ine hf c_15
        exact hK _ _ _ _ _ hW (lv_sub hl [0, 3] rfl) hf
noncomputable def x_crosses (σ : cS) (rs : List RS) (v1 : Int32) : Option (cS × Int32) :=
  ((x_isVillage σ v1).bind fun r_2 => if r_2 = 0 then (some (σ, (-1))) else (gd (nz (σ.1 999 0)) (((d_copies (vw2 σ 2000 1000)).bind fun σ_6 => x_crosses_24 rs v1 (fun σ_16 v_17 => (gd (nz (σ_16.1 999 0)) (some (σ_16, ((σ_16.1 1999 8) + v_17))))) FU (pb2 σ 2000 1000 σ_6) 0))))
set_option maxHeartbeats 4000000 in
theorem wb_x_crosses {p : Program} {l : Launch} {e : Env} {s : State} {m : MethodId} {args : Array Value} {below : List Frame} {meth : Method} {c : Code} {g : gG} {A : Nat → Prop} {ad : Nat → Nat} {q : xR} (X : MX p s m args meth c cX0_crosses 4 RX0 (some .int) g A) (had : xI_ ad) {rs : List RS} (hrs : RSok q.1 g rs) {σr : cS} {r : Int32} {σ : cS} {v1 : Int32} {H : Heap} {locs : List Loc} {ls : Array Slot} (hW : WB g A s.heap xIds ad (xE g ad q σ) H locs) (hl : lv_has ls 4 [(0, .ref (ad 999)), (1, .int v1)]) (hf : x_crosses σ rs v1 = some (σr, r)) : W p l e (rm_ 407 16367) s m args below meth c H locs 0 0 (Qm below g xIds ad (xE g ad q σr) (some (.int r)) A args s) (F0 m 0 ls []) := by
  have hx := X.1.1
  have hb := X.1.2.1
  unfold x_crosses at hf
  refine lv_aload_n hx hb dX0_crosses_0 rfl (lv_at hl 0 rfl) ?_
  refine lv_iload_n hx hb dX0_crosses_1 rfl (lv_at hl 1 rfl) ?_
  obtain ⟨r_2, h_1, hf⟩ := bd_e hf
  refine kx_isVillage X hW had h_1 (by decide) hl (Nat.le_of_ble_eq_true rfl) dX0_crosses_2 (fun H locs hW => ?_)
  refine lv_if_ne (tgt := 10) hx hb dX0_crosses_5 (by decide) (fun c_3 => ?_) (fun c_3 => ?_)
  · replace hf := ine hf c_3
    refine lv_aload_n hx hb dX0_crosses_10 rfl (lv_at hl 0 rfl) ?_
    refine xg_2 X hW xm_999 dX0_crosses_11 ?_
    refine lv_aload_n hx hb dX0_crosses_14 rfl (lv_at hl 0 rfl) ?_
    obtain ⟨z_4, hf⟩ := gd_e hf
    replace z_4 := nz_e z_4
    refine xg_0s X hW xm_999 z_4 dX0_crosses_15 ?_
    obtain ⟨σ_6, h_5, hf⟩ := bd_e hf
    refine kx_copies X hW had (b := 2000) (c2 := 1000) (by decide) (by decide) (by decide) h_5 (by decide) hl (Nat.le_of_ble_eq_true rfl) dX0_crosses_18 (fun H locs hW => ?_)
    refine lv_astore_n (lv' := [(2, .ref (ad 2999)), (0, .ref (ad 999)), (1, .int v1)]) hx hb dX0_crosses_21 rfl hl (by decide) rfl (fun ls hl => ?_)
    refine lv_iconst (v := 0) hx hb dX0_crosses_22 (by decide) ?_
    refine lv_istore_n (lv' := [(3, .int 0), (2, .ref (ad 2999)), (0, .ref (ad 999)), (1, .int v1)]) hx hb dX0_crosses_23 rfl hl (by decide) rfl (fun ls hl => ?_)
    refine wx_crosses_24 X had hrs (fun σ_16 v_17 H locs ls hW hl hf => ?_) _ _ _ _ _ _ hW (lv_sub hl [2, 3, 1, 0] rfl) hf
    refine lv_aload_n hx hb dX0_crosses_57 rfl (lv_at hl 0 rfl) ?_
    obtain ⟨z_18, hf⟩ := gd_e hf
    replace z_18 := nz_e z_18
    refine xg_0s X hW xm_999 z_18 dX0_crosses_58 ?_
    refine xg_1008 X hW xm_1999 dX0_crosses_61 ?_
    refine lv_iload_n hx hb dX0_crosses_64 rfl (lv_at hl 1 rfl) ?_
    refine lv_iadd hx hb dX0_crosses_65 ?_
    exact x_iret X hW hf dX0_crosses_66
  · replace hf := ip hf c_3
    refine lv_iconst (v := (-1)) hx hb dX0_crosses_8 (by decide) ?_
    exact x_iret X hW hf dX0_crosses_9
theorem w_x_crosses (l : Launch) {g : gG} {ad : Nat → Nat} {q : xR} (had : xI_ ad) {rs : List RS} (hrs : RSok q.1 g rs) {σr : cS} {r : Int32} {σ : cS} {v1 : Int32} (hf : x_crosses σ rs v1 = some (σr, r)) : MC l yX0_crosses cX0_crosses 4 (some .int) 407 16367 g xIds ad (xE g ad q σ) (xE g ad q σr) [.ref (ad 999), .int v1] (some (.int r)) :=
  MC.of (by decide) xIds_nd had (Nat.le_of_ble_eq_true rfl) (fun p e s m below meth c A ls X hW hl => wb_x_crosses X had hrs hW hl hf)
-- preparesDeep
noncomputable def x_preparesDeep (σ : cS) (v1 : Int32) : Option (cS) :=
  if v1 < 0 then (some σ) else (gd (nz (σ.1 999 0)) (((d_copies (vw2 σ 3000 1000)).bind fun σ_4 => if v1 < 1 then (some (pb2 σ 3000 1000 σ_4)) else (gd (nz ((pb2 σ 3000 1000 σ_4).1 999 0)) (((d_copies (vw2 (pb2 σ 3000 1000 σ_4) 4000 1000)).bind fun σ_8 => if v1 < 2 then (some (pb2 (pb2 σ 3000 1000 σ_4) 4000 1000 σ_8)) else (gd (nz ((pb2 (pb2 σ 3000 1000 σ_4) 4000 1000 σ_8).1 999 0)) (((d_copies (vw2 (pb2 (pb2 σ 3000 1000 σ_4) 4000 1000 σ_8) 5000 1000)).bind fun σ_12 => if v1 < 3 then (some (pb2 (pb2 (pb2 σ 3000 1000 σ_4) 4000 1000 σ_8) 5000 1000 σ_12)) else (gd (nz ((pb2 (pb2 (pb2 σ 3000 1000 σ_4) 4000 1000 σ_8) 5000 1000 σ_12).1 999 0)) (((d_copies (vw2 (pb2 (pb2 (pb2 σ 3000 1000 σ_4) 4000 1000 σ_8) 5000 1000 σ_12) 6000 1000)).bind fun σ_16 => if v1 < 4 then (some (pb2 (pb2 (pb2 (pb2 σ 3000 1000 σ_4) 4000 1000 σ_8) 5000 1000 σ_12) 6000 1000 σ_16)) else (gd (nz ((pb2 (pb2 (pb2 (pb2 σ 3000 1000 σ_4) 4000 1000 σ_8) 5000 1000 σ_12) 6000 1000 σ_16).1 999 0)) (((d_copies (vw2 (pb2 (pb2 (pb2 (pb2 σ 3000 1000 σ_4) 4000 1000 σ_8) 5000 1000 σ_12) 6000 1000 σ_16) 7000 1000)).bind fun σ_20 => if v1 < 5 then (some (pb2 (pb2 (pb2 (pb2 (pb2 σ 3000 1000 σ_4) 4000 1000 σ_8) 5000 1000 σ_12) 6000 1000 σ_16) 7000 1000 σ_20)) else (none))))))))))))))))
set_option maxHeartbeats 4000000 in
theorem wb_x_preparesDeep {p : Program} {l : Launch} {e : Env} {s : State} {m : MethodId} {args : Array Value} {below : List Frame} {meth : Method} {c : Code} {g : gG} {A : Nat → Prop} {ad : Nat → Nat} {q : xR} (X : MX p s m args meth c cX0_preparesDeep 3 RX0 none g A) (had : xI_ ad) {σr : cS}  {σ : cS} {v1 : Int32} {H : Heap} {locs : List Loc} {ls : Array Slot} (hW : WB g A s.heap xIds ad (xE g ad q σ) H locs) (hl : lv_has ls 3 [(0, .ref (ad 999)), (1, .int v1)]) (hf : x_preparesDeep σ v1 = some σr) : W p l e (rm_ 4 102) s m args below meth c H locs 0 0 (Qm below g xIds ad (xE g ad q σr) none A args s) (F0 m 0 ls []) := by
  have hx := X.1.1
  have hb := X.1.2.1
  unfold x_preparesDeep at hf
  refine lv_iconst (v := 0) hx hb dX0_preparesDeep_0 (by decide) ?_
  refine lv_istore_n (lv' := [(2, .int 0), (0, .ref (ad 999)), (1, .int v1)]) hx hb dX0_preparesDeep_1 rfl hl (by decide) rfl (fun ls hl => ?_)
  refine lv_iload_n hx hb dX0_preparesDeep_2 rfl (lv_at hl 0 rfl) ?_
  refine lv_iload_n hx hb dX0_preparesDeep_3 rfl (lv_at hl 2 rfl) ?_
  refine lv_icmp_gt (tgt := 27) hx hb dX0_preparesDeep_4 (by decide) (fun c_1 => ?_) (fun c_1 => ?_)
  · replace hf := ip hf c_1
    exact x_vret X hW hf dX0_preparesDeep_27
  · replace hf := ine hf c_1
    refine lv_aload_n hx hb dX0_preparesDeep_7 rfl (lv_at hl 1 rfl) ?_
    refine xg_3 X hW xm_999 dX0_preparesDeep_8 ?_
    refine lv_iload_n hx hb dX0_preparesDeep_11 rfl (lv_at hl 0 rfl) ?_
    refine r_aald X hW (t0 := 4) xm_3 rfl rfl (by decide) (v := .ref (ad 3999)) rfl dX0_preparesDeep_12 ?_
    refine lv_aload_n hx hb dX0_preparesDeep_13 rfl (lv_at hl 1 rfl) ?_
    obtain ⟨z_2, hf⟩ := gd_e hf
    replace z_2 := nz_e z_2
    refine xg_0s X hW xm_999 z_2 dX0_preparesDeep_14 ?_
    obtain ⟨σ_4, h_3, hf⟩ := bd_e hf
    refine kx_copies X hW had (b := 3000) (c2 := 1000) (by decide) (by decide) (by decide) h_3 (by decide) hl (Nat.le_of_ble_eq_true rfl) dX0_preparesDeep_17 (fun H locs hW => ?_)
    refine lv_pop hx hb dX0_preparesDeep_20 rfl ?_
    refine lv_iinc (v := 1) (lv' := [(2, .int 1), (0, .ref (ad 999)), (1, .int v1)]) hx hb dX0_preparesDeep_21 hl (k := 0) rfl (by decide) (by decide) rfl (fun ls hl => ?_)
    refine lv_goto (tgt := 2) hx hb dX0_preparesDeep_24 (by decide) ?_
    refine lv_iload_n hx hb dX0_preparesDeep_2 rfl (lv_at hl 0 rfl) ?_
    refine lv_iload_n hx hb dX0_preparesDeep_3 rfl (lv_at hl 2 rfl) ?_
    refine lv_icmp_gt (tgt := 27) hx hb dX0_preparesDeep_4 (by decide) (fun c_5 => ?_) (fun c_5 => ?_)
    · replace hf := ip hf c_5
      exact x_vret X hW hf dX0_preparesDeep_27
    · replace hf := ine hf c_5
      refine lv_aload_n hx hb dX0_preparesDeep_7 rfl (lv_at hl 1 rfl) ?_
      refine xg_3 X hW xm_999 dX0_preparesDeep_8 ?_
      refine lv_iload_n hx hb dX0_preparesDeep_11 rfl (lv_at hl 0 rfl) ?_
      refine r_aald X hW (t0 := 4) xm_3 rfl rfl (by decide) (v := .ref (ad 4999)) rfl dX0_preparesDeep_12 ?_
      refine lv_aload_n hx hb dX0_preparesDeep_13 rfl (lv_at hl 1 rfl) ?_
      obtain ⟨z_6, hf⟩ := gd_e hf
      replace z_6 := nz_e z_6
      refine xg_0s X hW xm_999 z_6 dX0_preparesDeep_14 ?_
      obtain ⟨σ_8, h_7, hf⟩ := bd_e hf
      refine kx_copies X hW had (b := 4000) (c2 := 1000) (by decide) (by decide) (by decide) h_7 (by decide) hl (Nat.le_of_ble_eq_true rfl) dX0_preparesDeep_17 (fun H locs hW => ?_)
      refine lv_pop hx hb dX0_preparesDeep_20 rfl ?_
      refine lv_iinc (v := 2) (lv' := [(2, .int 2), (0, .ref (ad 999)), (1, .int v1)]) hx hb dX0_preparesDeep_21 hl (k := 0) rfl (by decide) (by decide) rfl (fun ls hl => ?_)
      refine lv_goto (tgt := 2) hx hb dX0_preparesDeep_24 (by decide) ?_
      refine lv_iload_n hx hb dX0_preparesDeep_2 rfl (lv_at hl 0 rfl) ?_
      refine lv_iload_n hx hb dX0_preparesDeep_3 rfl (lv_at hl 2 rfl) ?_
      refine lv_icmp_gt (tgt := 27) hx hb dX0_preparesDeep_4 (by decide) (fun c_9 => ?_) (fun c_9 => ?_)
      · replace hf := ip hf c_9
        exact x_vret X hW hf dX0_preparesDeep_27
      · replace hf := ine hf c_9
        refine lv_aload_n hx hb dX0_preparesDeep_7 rfl (lv_at hl 1 rfl) ?_
        refine xg_3 X hW xm_999 dX0_preparesDeep_8 ?_
        refine lv_iload_n hx hb dX0_preparesDeep_11 rfl (lv_at hl 0 rfl) ?_
        refine r_aald X hW (t0 := 4) xm_3 rfl rfl (by decide) (v := .ref (ad 5999)) rfl dX0_preparesDeep_12 ?_
        refine lv_aload_n hx hb dX0_preparesDeep_13 rfl (lv_at hl 1 rfl) ?_
        obtain ⟨z_10, hf⟩ := gd_e hf
        replace z_10 := nz_e z_10
        refine xg_0s X hW xm_999 z_10 dX0_preparesDeep_14 ?_
        obtain ⟨σ_12, h_11, hf⟩ := bd_e hf
        refine kx_copies X hW had (b := 5000) (c2 := 1000) (by decide) (by decide) (by decide) h_11 (by decide) hl (Nat.le_of_ble_eq_true rfl) dX0_preparesDeep_17 (fun H locs hW => ?_)
        refine lv_pop hx hb dX0_preparesDeep_20 rfl ?_
        refine lv_iinc (v := 3) (lv' := [(2, .int 3), (0, .ref (ad 999)), (1, .int v1)]) hx hb dX0_preparesDeep_21 hl (k := 0) rfl (by decide) (by decide) rfl (fun ls hl => ?_)
        refine lv_goto (tgt := 2) hx hb dX0_preparesDeep_24 (by decide) ?_
        refine lv_iload_n hx hb dX0_preparesDeep_2 rfl (lv_at hl 0 rfl) ?_
        refine lv_iload_n hx hb dX0_preparesDeep_3 rfl (lv_at hl 2 rfl) ?_
        refine lv_icmp_gt (tgt := 27) hx hb dX0_preparesDeep_4 (by decide) (fun c_13 => ?_) (fun c_13 => ?_)
        · replace hf := ip hf c_13
          exact x_vret X hW hf dX0_preparesDeep_27
        · replace hf := ine hf c_13
          refine lv_aload_n hx hb dX0_preparesDeep_7 rfl (lv_at hl 1 rfl) ?_
          refine xg_3 X hW xm_999 dX0_preparesDeep_8 ?_
          refine lv_iload_n hx hb dX0_preparesDeep_11 rfl (lv_at hl 0 rfl) ?_
          refine r_aald X hW (t0 := 4) xm_3 rfl rfl (by decide) (v := .ref (ad 6999)) rfl dX0_preparesDeep_12 ?_
          refine lv_aload_n hx hb dX0_preparesDeep_13 rfl (lv_at hl 1 rfl) ?_
          obtain ⟨z_14, hf⟩ := gd_e hf
          replace z_14 := nz_e z_14
          refine xg_0s X hW xm_999 z_14 dX0_preparesDeep_14 ?_
          obtain ⟨σ_16, h_15, hf⟩ := bd_e hf
          refine kx_copies X hW had (b := 6000) (c2 := 1000) (by decide) (by decide) (by decide) h_15 (by decide) hl (Nat.le_of_ble_eq_true rfl) dX0_preparesDeep_17 (fun H locs hW => ?_)
          refine lv_pop hx hb dX0_preparesDeep_20 rfl ?_
          refine lv_iinc (v := 4) (lv' := [(2, .int 4), (0, .ref (ad 999)), (1, .int v1)]) hx hb dX0_preparesDeep_21 hl (k := 0) rfl (by decide) (by decide) rfl (fun ls hl => ?_)
          refine lv_goto (tgt := 2) hx hb dX0_preparesDeep_24 (by decide) ?_
          refine lv_iload_n hx hb dX0_preparesDeep_2 rfl (lv_at hl 0 rfl) ?_
          refine lv_iload_n hx hb dX0_preparesDeep_3 rfl (lv_at hl 2 rfl) ?_
          refine lv_icmp_gt (tgt := 27) hx hb dX0_preparesDeep_4 (by decide) (fun c_17 => ?_) (fun c_17 => ?_)
          · replace hf := ip hf c_17
            exact x_vret X hW hf dX0_preparesDeep_27
          · replace hf := ine hf c_17
            refine lv_aload_n hx hb dX0_preparesDeep_7 rfl (lv_at hl 1 rfl) ?_
            refine xg_3 X hW xm_999 dX0_preparesDeep_8 ?_
            refine lv_iload_n hx hb dX0_preparesDeep_11 rfl (lv_at hl 0 rfl) ?_
            refine r_aald X hW (t0 := 4) xm_3 rfl rfl (by decide) (v := .ref (ad 7999)) rfl dX0_preparesDeep_12 ?_
            refine lv_aload_n hx hb dX0_preparesDeep_13 rfl (lv_at hl 1 rfl) ?_
            obtain ⟨z_18, hf⟩ := gd_e hf
            replace z_18 := nz_e z_18
            refine xg_0s X hW xm_999 z_18 dX0_preparesDeep_14 ?_
            obtain ⟨σ_20, h_19, hf⟩ := bd_e hf
            refine kx_copies X hW had (b := 7000) (c2 := 1000) (by decide) (by decide) (by decide) h_19 (by decide) hl (Nat.le_of_ble_eq_true rfl) dX0_preparesDeep_17 (fun H locs hW => ?_)
            refine lv_pop hx hb dX0_preparesDeep_20 rfl ?_
            refine lv_iinc (v := 5) (lv' := [(2, .int 5), (0, .ref (ad 999)), (1, .int v1)]) hx hb dX0_preparesDeep_21 hl (k := 0) rfl (by decide) (by decide) rfl (fun ls hl => ?_)
            refine lv_goto (tgt := 2) hx hb dX0_preparesDeep_24 (by decide) ?_
            refine lv_iload_n hx hb dX0_preparesDeep_2 rfl (lv_at hl 0 rfl) ?_
            refine lv_iload_n hx hb dX0_preparesDeep_3 rfl (lv_at hl 2 rfl) ?_
            refine lv_icmp_gt (tgt := 27) hx hb dX0_preparesDeep_4 (by decide) (fun c_21 => ?_) (fun c_21 => ?_)
            · replace hf := ip hf c_21
              exact x_vret X hW hf dX0_preparesDeep_27
            · replace hf := ine hf c_21
              refine lv_aload_n hx hb dX0_preparesDeep_7 rfl (lv_at hl 1 rfl) ?_
              refine xg_3 X hW xm_999 dX0_preparesDeep_8 ?_
              refine lv_iload_n hx hb dX0_preparesDeep_11 rfl (lv_at hl 0 rfl) ?_
              cases hf
theorem w_x_preparesDeep (l : Launch) {g : gG} {ad : Nat → Nat} {q : xR} (had : xI_ ad) {σr : cS}  {σ : cS} {v1 : Int32} (hf : x_preparesDeep σ v1 = some σr) : MC l yX0_preparesDeep cX0_preparesDeep 3 none 4 102 g xIds ad (xE g ad q σ) (xE g ad q σr) [.ref (ad 999), .int v1] none :=
  MC.of (by decide) xIds_nd had (Nat.le_of_ble_eq_true rfl) (fun p e s m below meth c A ls X hW hl => wb_x_preparesDeep X had hW hl hf)
theorem kx_preparesDeep {p : Program} {l : Launch} {e : Env} {R : Room} {s : State} {m : MethodId} {args : Array Value} {below : List Frame} {meth : Method} {c : Code} {H : Heap} {locs : List Loc} {Q : State → Prop} {cc : ByteArray} {nL : Nat} {ret : Option FieldType} {g : gG} {A : Nat → Prop} {ad : Nat → Nat} {q : xR} {pc : Nat} {ls : Array Slot} {rest : List Value} {lv : List (Nat × Value)} {σr : cS}  {σ : cS} {v1 : Int32} (X : MX p s m args meth c cc nL RX0 ret g A) (hW : WB g A s.heap xIds ad (xE g ad q σ) H locs) (had : xI_ ad) (hf : x_preparesDeep σ v1 = some σr) (hR : 5 ≤ R.frames ∧ 124 ≤ R.locals) (hl : lv_has ls nL lv) (hcat : (rest.map fun v => v.category).sum ≤ 8) (hdg : decode cc pc = .ok (.invokevirtual 274, 3)) (kk : ∀ (H1 : Heap) (l1 : List Loc), WB g A s.heap xIds ad (xE g ad q σr) H1 l1 → W p l e R s m args below meth c H1 l1 0 0 Q (F0 m (pc + 3) ls (rest))) : W p l e R s m args below meth c H locs 0 0 Q (F0 m pc ls (.int v1 :: .ref (ad 999) :: rest)) :=
  r_callV X hW Sub.all (w_x_preparesDeep l had hf) (lw_V q1004 q1006 qs36 q120 q1007) ⟨rfl, by decide, by decide, by decide +kernel⟩ xm_999 rfl rfl (n := 1) hR hl rfl rfl hcat ⟨Nat.zero_le _, Nat.zero_le _⟩ hdg kk
-- triesPushes_3
noncomputable def x_triesPushes_3_58 {ρ : Type} (rs : List RS) (v2 : Int32) (v3 : Int32) (K : cS → Option ρ) : Nat → cS → Int32 → Option ρ
  | 0, _, _ => none
  | n + 1, σ, v4 => gd (nz (σ.1 999 0)) (if (2 * (σ.1 1999 0)) ≤ v4 then (K σ) else (if v4 = (-1) then (((d_standsAs (vw2 σ 7000 6000)).bind fun σ_7 => ((if v4 = (-1) then (some ((pb2 σ 7000 6000 σ_7))) else (if (v4 - v4 / 2 * 2) = 0 then (((d_pushes (vw (pb2 σ 7000 6000 σ_7) 7000) (v4 / 2) (-2)).bind fun σ_22 => some ((pb (pb2 σ 7000 6000 σ_7) 7000 σ_22)))) else (((d_pushes (vw (pb2 σ 7000 6000 σ_7) 7000) (v4 / 2) 2).bind fun σ_20 => some ((pb (pb2 σ 7000 6000 σ_7) 7000 σ_20))))) : Option (cS)).bind fun σ_8 => (((x_law σ_8 rs).bind fun R_11 => ((d_goes (vw σ_8 7000) R_11).bind fun (σ_14, r_13) => nmb (pb σ_8 7000 σ_14) fun σ_15 => (none))))))) else (((d_isBaked (vw σ 1000) (v4 / 2)).bind fun r_24 => if r_24 = 0 then (((d_standsAs (vw2 σ 7000 6000)).bind fun σ_27 => ((if v4 = (-1) then (some ((pb2 σ 7000 6000 σ_27))) else (if (v4 - v4 / 2 * 2) = 0 then (((d_pushes (vw (pb2 σ 7000 6000 σ_27) 7000) (v4 / 2) (-2)).bind fun σ_42 => some ((pb (pb2 σ 7000 6000 σ_27) 7000 σ_42)))) else (((d_pushes (vw (pb2 σ 7000 6000 σ_27) 7000) (v4 / 2) 2).bind fun σ_40 => some ((pb (pb2 σ 7000 6000 σ_27) 7000 σ_40))))) : Option (cS)).bind fun σ_28 => (((x_law σ_28 rs).bind fun R_31 => ((d_goes (vw σ_28 7000) R_31).bind fun (σ_34, r_33) => nmb (pb σ_28 7000 σ_34) fun σ_35 => (none))))))) else (x_triesPushes_3_58 rs v2 v3 K n σ (v4 + 1))))))
set_option maxHeartbeats 4000000 in
theorem wx_triesPushes_3_58 {p : Program} {l : Launch} {e : Env} {s : State} {m : MethodId} {args : Array Value} {below : List Frame} {meth : Method} {c : Code} {g : gG} {A : Nat → Prop} {ad : Nat → Nat} {q : xR} (X : MX p s m args meth c cX0_triesPushes 6 RX0 none g A) (had : xI_ ad) {rs : List RS} (hrs : RSok q.1 g rs) {ρ : Type} {res : ρ} {Q : State → Prop} {v2 : Int32} {v3 : Int32}  {K : cS → Option ρ}
    (hK : ∀ (σ : cS) (H : Heap) (locs : List Loc) (ls : Array Slot), WB g A s.heap xIds ad (xE g ad q σ) H locs → lv_has ls 6 [] → K σ = some res → W p l e (rm_ 407 16367) s m args below meth c H locs 0 0 Q (F0 m 187 ls [])) :
    ∀ (n : Nat) (σ : cS) (v4 : Int32) (H : Heap) (locs : List Loc) (ls : Array Slot), WB g A s.heap xIds ad (xE g ad q σ) H locs → lv_has ls 6 [(0, .ref (ad 999)), (1, .int 3), (2, .int v2), (3, .int v3), (4, .int v4)] → x_triesPushes_3_58 rs v2 v3 K n σ v4 = some res → W p l e (rm_ 407 16367) s m args below meth c H locs 0 0 Q (F0 m 58 ls []) := by
  have hx := X.1.1
  have hb := X.1.2.1
  intro n
  induction n with
  | zero =>
    intro σ v4 H locs ls hW hl hf
    rw [x_triesPushes_3_58] at hf
    cases hf
  | succ n ih =>
    intro σ v4 H locs ls hW hl hf
    rw [x_triesPushes_3_58] at hf
    refine lv_iload hx hb dX0_triesPushes_58 (lv_at hl 4 rfl) ?_
    refine lv_iconst (v := 2) hx hb dX0_triesPushes_60 (by decide) ?_
    refine lv_aload_n hx hb dX0_triesPushes_61 rfl (lv_at hl 0 rfl) ?_
    obtain ⟨z_3, hf⟩ := gd_e hf
    replace z_3 := nz_e z_3
    refine xg_0s X hW xm_999 z_3 dX0_triesPushes_62 ?_
    refine xg_1000 X hW xm_1999 dX0_triesPushes_65 ?_
    refine lv_imul hx hb dX0_triesPushes_68 ?_
    refine lv_icmp_ge (tgt := 187) hx hb dX0_triesPushes_69 (by decide) (fun c_4 => ?_) (fun c_4 => ?_)
    · replace hf := ip hf c_4
      exact hK _ _ _ _ hW (lv_sub hl [] rfl) hf
    · replace hf := ine hf c_4
      refine lv_iload hx hb dX0_triesPushes_72 (lv_at hl 4 rfl) ?_
      refine lv_iconst (v := (-1)) hx hb dX0_triesPushes_74 (by decide) ?_
      refine lv_icmp_eq (tgt := 95) hx hb dX0_triesPushes_75 (by decide) (fun c_5 => ?_) (fun c_5 => ?_)
      · replace hf := ip hf c_5
        refine lv_aload_n hx hb dX0_triesPushes_95 rfl (lv_at hl 0 rfl) ?_
        refine xg_3 X hW xm_999 dX0_triesPushes_96 ?_
        refine lv_iload_n hx hb dX0_triesPushes_99 rfl (lv_at hl 1 rfl) ?_
        refine lv_iconst (v := 1) hx hb dX0_triesPushes_100 (by decide) ?_
        refine r_iaddv (v := 4) hx hb dX0_triesPushes_101 (by decide) ?_
        refine r_aald X hW (t0 := 4) xm_3 rfl rfl (by decide) (v := .ref (ad 7999)) rfl dX0_triesPushes_102 ?_
        refine lv_aload_n hx hb dX0_triesPushes_103 rfl (lv_at hl 0 rfl) ?_
        refine xg_3 X hW xm_999 dX0_triesPushes_104 ?_
        refine lv_iload_n hx hb dX0_triesPushes_107 rfl (lv_at hl 1 rfl) ?_
        refine r_aald X hW (t0 := 4) xm_3 rfl rfl (by decide) (v := .ref (ad 6999)) rfl dX0_triesPushes_108 ?_
        obtain ⟨σ_7, h_6, hf⟩ := bd_e hf
        refine kx_standsAs X hW had (b := 7000) (c2 := 6000) (by decide) (by decide) (by decide) h_6 (by decide) hl (Nat.le_of_ble_eq_true rfl) dX0_triesPushes_109 (fun H locs hW => ?_)
        refine lv_astore (lv' := [(5, .ref (ad 7999)), (0, .ref (ad 999)), (1, .int 3), (2, .int v2), (3, .int v3), (4, .int v4)]) hx hb dX0_triesPushes_112 hl (by decide) rfl (fun ls hl => ?_)
        refine lv_iload hx hb dX0_triesPushes_114 (lv_at hl 5 rfl) ?_
        refine lv_iconst (v := (-1)) hx hb dX0_triesPushes_116 (by decide) ?_
        obtain ⟨σ_8, hD_9, hf⟩ := bd_e hf
        have hJ : ∀ (H : Heap) (locs : List Loc) (ls : Array Slot), WB g A s.heap xIds ad (xE g ad q σ_8) H locs → lv_has ls 6 [(0, .ref (ad 999)), (1, .int 3), (2, .int v2), (3, .int v3), (4, .int v4), (5, .ref (ad 7999))] → W p l e (rm_ 407 16367) s m args below meth c H locs 0 0 Q (F0 m 142 ls []) := by
          intro H locs ls hW hl
          refine lv_aload hx hb dX0_triesPushes_142 (lv_at hl 5 rfl) ?_
          refine lv_aload_n hx hb dX0_triesPushes_144 rfl (lv_at hl 0 rfl) ?_
          obtain ⟨R_11, h_10, hf⟩ := bd_e hf
          refine kx_law X hW had hrs h_10 (by decide) hl (Nat.le_of_ble_eq_true rfl) dX0_triesPushes_145 (fun q_R_11 hq_R_11 H locs hW => ?_)
          obtain ⟨⟨σ_14, r_13⟩, h_12, hf⟩ := bd_e hf
          refine kx_goes X hW had (b := 7000) (by decide) hq_R_11 h_12 (by decide) hl (Nat.le_of_ble_eq_true rfl) dX0_triesPushes_148 (fun H locs hW => ?_)
          refine lv_pop hx hb dX0_triesPushes_151 rfl ?_
          refine lv_aload_n hx hb dX0_triesPushes_152 rfl (lv_at hl 0 rfl) ?_
          refine xg_16 X hW xm_999 dX0_triesPushes_153 ?_
          refine lv_iload_n hx hb dX0_triesPushes_156 rfl (lv_at hl 1 rfl) ?_
          refine lv_iload hx hb dX0_triesPushes_157 (lv_at hl 4 rfl) ?_
          obtain ⟨σ_15, e_16, hf⟩ := nmb_e hf
          rw [← e_16] at hW
          clear e_16
          cases hf
        clear hf
        refine lv_icmp_eq (tgt := 142) hx hb dX0_triesPushes_117 (by decide) (fun c_17 => ?_) (fun c_17 => ?_)
        · replace hD_9 := ip hD_9 c_17
          cases hD_9
          exact hJ _ _ _ hW (lv_sub hl [1, 2, 3, 4, 5, 0] rfl)
        · replace hD_9 := ine hD_9 c_17
          refine lv_aload hx hb dX0_triesPushes_120 (lv_at hl 0 rfl) ?_
          refine lv_iload hx hb dX0_triesPushes_122 (lv_at hl 5 rfl) ?_
          refine lv_iconst (v := 2) hx hb dX0_triesPushes_124 (by decide) ?_
          refine lv_idiv hx hb dX0_triesPushes_125 (by decide) ?_
          refine lv_iload hx hb dX0_triesPushes_126 (lv_at hl 5 rfl) ?_
          refine lv_iconst (v := 2) hx hb dX0_triesPushes_128 (by decide) ?_
          refine lv_irem hx hb dX0_triesPushes_129 (by decide) ?_
          refine lv_if_ne (tgt := 138) hx hb dX0_triesPushes_130 (by decide) (fun c_18 => ?_) (fun c_18 => ?_)
          · replace hD_9 := ine hD_9 c_18
            refine lv_iconst (v := 2) hx hb dX0_triesPushes_138 (by decide) ?_
            obtain ⟨σ_20, h_19, hD_9⟩ := bd_e hD_9
            refine kx_pushes X hW had (b := 7000) (by decide) h_19 (by decide) hl (Nat.le_of_ble_eq_true rfl) dX0_triesPushes_139 (fun H locs hW => ?_)
            cases hD_9
            exact hJ _ _ _ hW (lv_sub hl [1, 2, 3, 4, 5, 0] rfl)
          · replace hD_9 := ip hD_9 c_18
            refine lv_bipush (v := (-2)) hx hb dX0_triesPushes_133 (by decide) ?_
            refine lv_goto (tgt := 139) hx hb dX0_triesPushes_135 (by decide) ?_
            obtain ⟨σ_22, h_21, hD_9⟩ := bd_e hD_9
            refine kx_pushes X hW had (b := 7000) (by decide) h_21 (by decide) hl (Nat.le_of_ble_eq_true rfl) dX0_triesPushes_139 (fun H locs hW => ?_)
            cases hD_9
            exact hJ _ _ _ hW (lv_sub hl [1, 2, 3, 4, 5, 0] rfl)
      · replace hf := ine hf c_5
        refine lv_aload_n hx hb dX0_triesPushes_78 rfl (lv_at hl 0 rfl) ?_
        refine xg_0s X hW xm_999 z_3 dX0_triesPushes_79 ?_
        refine lv_iload hx hb dX0_triesPushes_82 (lv_at hl 4 rfl) ?_
        refine lv_iconst (v := 2) hx hb dX0_triesPushes_84 (by decide) ?_
        refine lv_idiv hx hb dX0_triesPushes_85 (by decide) ?_
        obtain ⟨r_24, h_23, hf⟩ := bd_e hf
        refine kx_isBaked X hW had (b := 1000) (by decide) h_23 (by decide) hl (Nat.le_of_ble_eq_true rfl) dX0_triesPushes_86 (fun H locs hW => ?_)
        refine lv_if_eq (tgt := 95) hx hb dX0_triesPushes_89 (by decide) (fun c_25 => ?_) (fun c_25 => ?_)
        · replace hf := ip hf c_25
          refine lv_aload_n hx hb dX0_triesPushes_95 rfl (lv_at hl 0 rfl) ?_
          refine xg_3 X hW xm_999 dX0_triesPushes_96 ?_
          refine lv_iload_n hx hb dX0_triesPushes_99 rfl (lv_at hl 1 rfl) ?_
          refine lv_iconst (v := 1) hx hb dX0_triesPushes_100 (by decide) ?_
          refine r_iaddv (v := 4) hx hb dX0_triesPushes_101 (by decide) ?_
          refine r_aald X hW (t0 := 4) xm_3 rfl rfl (by decide) (v := .ref (ad 7999)) rfl dX0_triesPushes_102 ?_
          refine lv_aload_n hx hb dX0_triesPushes_103 rfl (lv_at hl 0 rfl) ?_
          refine xg_3 X hW xm_999 dX0_triesPushes_104 ?_
          refine lv_iload_n hx hb dX0_triesPushes_107 rfl (lv_at hl 1 rfl) ?_
          refine r_aald X hW (t0 := 4) xm_3 rfl rfl (by decide) (v := .ref (ad 6999)) rfl dX0_triesPushes_108 ?_
          obtain ⟨σ_27, h_26, hf⟩ := bd_e hf
          refine kx_standsAs X hW had (b := 7000) (c2 := 6000) (by decide) (by decide) (by decide) h_26 (by decide) hl (Nat.le_of_ble_eq_true rfl) dX0_triesPushes_109 (fun H locs hW => ?_)
          refine lv_astore (lv' := [(5, .ref (ad 7999)), (0, .ref (ad 999)), (1, .int 3), (2, .int v2), (3, .int v3), (4, .int v4)]) hx hb dX0_triesPushes_112 hl (by decide) rfl (fun ls hl => ?_)
          refine lv_iload hx hb dX0_triesPushes_114 (lv_at hl 5 rfl) ?_
          refine lv_iconst (v := (-1)) hx hb dX0_triesPushes_116 (by decide) ?_
          obtain ⟨σ_28, hD_29, hf⟩ := bd_e hf
          have hJ : ∀ (H : Heap) (locs : List Loc) (ls : Array Slot), WB g A s.heap xIds ad (xE g ad q σ_28) H locs → lv_has ls 6 [(0, .ref (ad 999)), (1, .int 3), (2, .int v2), (3, .int v3), (4, .int v4), (5, .ref (ad 7999))] → W p l e (rm_ 407 16367) s m args below meth c H locs 0 0 Q (F0 m 142 ls []) := by
            intro H locs ls hW hl
            refine lv_aload hx hb dX0_triesPushes_142 (lv_at hl 5 rfl) ?_
            refine lv_aload_n hx hb dX0_triesPushes_144 rfl (lv_at hl 0 rfl) ?_
            obtain ⟨R_31, h_30, hf⟩ := bd_e hf
            refine kx_law X hW had hrs h_30 (by decide) hl (Nat.le_of_ble_eq_true rfl) dX0_triesPushes_145 (fun q_R_31 hq_R_31 H locs hW => ?_)
            obtain ⟨⟨σ_34, r_33⟩, h_32, hf⟩ := bd_e hf
            refine kx_goes X hW had (b := 7000) (by decide) hq_R_31 h_32 (by decide) hl (Nat.le_of_ble_eq_true rfl) dX0_triesPushes_148 (fun H locs hW => ?_)
            refine lv_pop hx hb dX0_triesPushes_151 rfl ?_
            refine lv_aload_n hx hb dX0_triesPushes_152 rfl (lv_at hl 0 rfl) ?_
            refine xg_16 X hW xm_999 dX0_triesPushes_153 ?_
            refine lv_iload_n hx hb dX0_triesPushes_156 rfl (lv_at hl 1 rfl) ?_
            refine lv_iload hx hb dX0_triesPushes_157 (lv_at hl 4 rfl) ?_
            obtain ⟨σ_35, e_36, hf⟩ := nmb_e hf
            rw [← e_36] at hW
            clear e_36
            cases hf
          clear hf
          refine lv_icmp_eq (tgt := 142) hx hb dX0_triesPushes_117 (by decide) (fun c_37 => ?_) (fun c_37 => ?_)
          · replace hD_29 := ip hD_29 c_37
            cases hD_29
            exact hJ _ _ _ hW (lv_sub hl [1, 2, 3, 4, 5, 0] rfl)
          · replace hD_29 := ine hD_29 c_37
            refine lv_aload hx hb dX0_triesPushes_120 (lv_at hl 0 rfl) ?_
            refine lv_iload hx hb dX0_triesPushes_122 (lv_at hl 5 rfl) ?_
            refine lv_iconst (v := 2) hx hb dX0_triesPushes_124 (by decide) ?_
            refine lv_idiv hx hb dX0_triesPushes_125 (by decide) ?_
            refine lv_iload hx hb dX0_triesPushes_126 (lv_at hl 5 rfl) ?_
            refine lv_iconst (v := 2) hx hb dX0_triesPushes_128 (by decide) ?_
            refine lv_irem hx hb dX0_triesPushes_129 (by decide) ?_
            refine lv_if_ne (tgt := 138) hx hb dX0_triesPushes_130 (by decide) (fun c_38 => ?_) (fun c_38 => ?_)
            · replace hD_29 := ine hD_29 c_38
              refine lv_iconst (v := 2) hx hb dX0_triesPushes_138 (by decide) ?_
              obtain ⟨σ_40, h_39, hD_29⟩ := bd_e hD_29
              refine kx_pushes X hW had (b := 7000) (by decide) h_39 (by decide) hl (Nat.le_of_ble_eq_true rfl) dX0_triesPushes_139 (fun H locs hW => ?_)
              cases hD_29
              exact hJ _ _ _ hW (lv_sub hl [1, 2, 3, 4, 5, 0] rfl)
            · replace hD_29 := ip hD_29 c_38
              refine lv_bipush (v := (-2)) hx hb dX0_triesPushes_133 (by decide) ?_
              refine lv_goto (tgt := 139) hx hb dX0_triesPushes_135 (by decide) ?_
              obtain ⟨σ_42, h_41, hD_29⟩ := bd_e hD_29
              refine kx_pushes X hW had (b := 7000) (by decide) h_41 (by decide) hl (Nat.le_of_ble_eq_true rfl) dX0_triesPushes_139 (fun H locs hW => ?_)
              cases hD_29
              exact hJ _ _ _ hW (lv_sub hl [1, 2, 3, 4, 5, 0] rfl)
        · replace hf := ine hf c_25
          refine lv_goto (tgt := 181) hx hb dX0_triesPushes_92 (by decide) ?_
          refine lv_iinc (v := (v4 + 1)) (lv' := [(4, .int (v4 + 1)), (0, .ref (ad 999)), (1, .int 3), (2, .int v2), (3, .int v3)]) hx hb dX0_triesPushes_181 hl (k := 4) rfl (ii_v _ _ _ (by decide)) (by decide) rfl (fun ls hl => ?_)
          refine lv_goto (tgt := 58) hx hb dX0_triesPushes_184 (by decide) ?_
          exact ih _ _ _ _ _ hW (lv_sub hl [1, 2, 3, 4, 0] rfl) hf
noncomputable def x_triesPushes_3 (σ : cS) (rs : List RS) (v2 : Int32) (v3 : Int32) : Option (cS) :=
  if (σ.1 999 18) = (-1) then (if 3 = v2 then (((d_areWants (vw σ 6000)).bind fun r_45 => if r_45 = 0 then (some σ) else (nmb (si σ 999 18 v3) fun σ_47 => (some (sA σ_47 17 (va_cpy (σ_47.1 16) (σ_47.1 17) (ix 0) (ix 0) (ix 3))))))) else (x_triesPushes_3_58 rs v2 v3 (fun σ_43 => (some σ_43)) FU σ (-1))) else (if v3 < (σ.1 999 18) then (if 3 = v2 then (((d_areWants (vw σ 6000)).bind fun r_53 => if r_53 = 0 then (some σ) else (nmb (si σ 999 18 v3) fun σ_55 => (some (sA σ_55 17 (va_cpy (σ_55.1 16) (σ_55.1 17) (ix 0) (ix 0) (ix 3))))))) else (x_triesPushes_3_58 rs v2 v3 (fun σ_51 => (some σ_51)) FU σ (-1))) else (some σ))
set_option maxHeartbeats 4000000 in
theorem wb_x_triesPushes_3 {p : Program} {l : Launch} {e : Env} {s : State} {m : MethodId} {args : Array Value} {below : List Frame} {meth : Method} {c : Code} {g : gG} {A : Nat → Prop} {ad : Nat → Nat} {q : xR} (X : MX p s m args meth c cX0_triesPushes 6 RX0 none g A) (had : xI_ ad) {rs : List RS} (hrs : RSok q.1 g rs) {σr : cS}  {σ : cS} {v2 : Int32} {v3 : Int32} {H : Heap} {locs : List Loc} {ls : Array Slot} (hW : WB g A s.heap xIds ad (xE g ad q σ) H locs) (hl : lv_has ls 6 [(0, .ref (ad 999)), (1, .int 3), (2, .int v2), (3, .int v3)]) (hf : x_triesPushes_3 σ rs v2 v3 = some σr) : W p l e (rm_ 407 16367) s m args below meth c H locs 0 0 (Qm below g xIds ad (xE g ad q σr) none A args s) (F0 m 0 ls []) := by
  have hx := X.1.1
  have hb := X.1.2.1
  unfold x_triesPushes_3 at hf
  refine lv_aload_n hx hb dX0_triesPushes_0 rfl (lv_at hl 0 rfl) ?_
  refine xg_18 X hW xm_999 dX0_triesPushes_1 ?_
  refine lv_iconst (v := (-1)) hx hb dX0_triesPushes_4 (by decide) ?_
  refine lv_icmp_eq (tgt := 17) hx hb dX0_triesPushes_5 (by decide) (fun c_1 => ?_) (fun c_1 => ?_)
  · replace hf := ip hf c_1
    refine lv_iload_n hx hb dX0_triesPushes_17 rfl (lv_at hl 1 rfl) ?_
    refine lv_iload_n hx hb dX0_triesPushes_18 rfl (lv_at hl 2 rfl) ?_
    refine lv_icmp_ne (tgt := 55) hx hb dX0_triesPushes_19 (by decide) (fun c_2 => ?_) (fun c_2 => ?_)
    · replace hf := ine hf c_2
      refine lv_iconst (v := (-1)) hx hb dX0_triesPushes_55 (by decide) ?_
      refine lv_istore (lv' := [(4, .int (-1)), (0, .ref (ad 999)), (1, .int 3), (2, .int v2), (3, .int v3)]) hx hb dX0_triesPushes_56 hl (by decide) rfl (fun ls hl => ?_)
      refine wx_triesPushes_3_58 X had hrs (fun σ_43 H locs ls hW hl hf => ?_) _ _ _ _ _ _ hW (lv_sub hl [1, 2, 3, 4, 0] rfl) hf
      exact x_vret X hW hf dX0_triesPushes_187
    · replace hf := ip hf c_2
      refine lv_aload_n hx hb dX0_triesPushes_22 rfl (lv_at hl 0 rfl) ?_
      refine xg_3 X hW xm_999 dX0_triesPushes_23 ?_
      refine lv_iload_n hx hb dX0_triesPushes_26 rfl (lv_at hl 1 rfl) ?_
      refine r_aald X hW (t0 := 4) xm_3 rfl rfl (by decide) (v := .ref (ad 6999)) rfl dX0_triesPushes_27 ?_
      obtain ⟨r_45, h_44, hf⟩ := bd_e hf
      refine kx_areWants X hW had (b := 6000) (by decide) h_44 (by decide) hl (Nat.le_of_ble_eq_true rfl) dX0_triesPushes_28 (fun H locs hW => ?_)
      refine lv_if_ne (tgt := 35) hx hb dX0_triesPushes_31 (by decide) (fun c_46 => ?_) (fun c_46 => ?_)
      · replace hf := ine hf c_46
        refine lv_aload_n hx hb dX0_triesPushes_35 rfl (lv_at hl 0 rfl) ?_
        refine lv_iload_n hx hb dX0_triesPushes_36 rfl (lv_at hl 3 rfl) ?_
        refine xp_18 X hW xm_999 dX0_triesPushes_37 (fun H locs hW => ?_)
        refine lv_aload_n hx hb dX0_triesPushes_40 rfl (lv_at hl 0 rfl) ?_
        refine xg_16 X hW xm_999 dX0_triesPushes_41 ?_
        refine lv_iconst (v := 0) hx hb dX0_triesPushes_44 (by decide) ?_
        refine lv_aload_n hx hb dX0_triesPushes_45 rfl (lv_at hl 0 rfl) ?_
        refine xg_17 X hW xm_999 dX0_triesPushes_46 ?_
        refine lv_iconst (v := 0) hx hb dX0_triesPushes_49 (by decide) ?_
        refine lv_iconst (v := 3) hx hb dX0_triesPushes_50 (by decide) ?_
        obtain ⟨σ_47, e_48, hf⟩ := nmb_e hf
        rw [← e_48] at hW
        clear e_48
        refine x_copy X hW hl q852 (by decide) (Nat.le_of_ble_eq_true rfl) xm_16 xm_17 rfl rfl (fun _ => rfl) (by decide) dX0_triesPushes_51 (fun H locs hW => ?_)
        exact x_vret X hW hf dX0_triesPushes_54
      · replace hf := ip hf c_46
        exact x_vret X hW hf dX0_triesPushes_34
  · replace hf := ine hf c_1
    refine lv_iload_n hx hb dX0_triesPushes_8 rfl (lv_at hl 3 rfl) ?_
    refine lv_aload_n hx hb dX0_triesPushes_9 rfl (lv_at hl 0 rfl) ?_
    refine xg_18 X hW xm_999 dX0_triesPushes_10 ?_
    refine lv_icmp_lt (tgt := 17) hx hb dX0_triesPushes_13 (by decide) (fun c_49 => ?_) (fun c_49 => ?_)
    · replace hf := ip hf c_49
      refine lv_iload_n hx hb dX0_triesPushes_17 rfl (lv_at hl 1 rfl) ?_
      refine lv_iload_n hx hb dX0_triesPushes_18 rfl (lv_at hl 2 rfl) ?_
      refine lv_icmp_ne (tgt := 55) hx hb dX0_triesPushes_19 (by decide) (fun c_50 => ?_) (fun c_50 => ?_)
      · replace hf := ine hf c_50
        refine lv_iconst (v := (-1)) hx hb dX0_triesPushes_55 (by decide) ?_
        refine lv_istore (lv' := [(4, .int (-1)), (0, .ref (ad 999)), (1, .int 3), (2, .int v2), (3, .int v3)]) hx hb dX0_triesPushes_56 hl (by decide) rfl (fun ls hl => ?_)
        refine wx_triesPushes_3_58 X had hrs (fun σ_51 H locs ls hW hl hf => ?_) _ _ _ _ _ _ hW (lv_sub hl [1, 2, 3, 4, 0] rfl) hf
        exact x_vret X hW hf dX0_triesPushes_187
      · replace hf := ip hf c_50
        refine lv_aload_n hx hb dX0_triesPushes_22 rfl (lv_at hl 0 rfl) ?_
        refine xg_3 X hW xm_999 dX0_triesPushes_23 ?_
        refine lv_iload_n hx hb dX0_triesPushes_26 rfl (lv_at hl 1 rfl) ?_
        refine r_aald X hW (t0 := 4) xm_3 rfl rfl (by decide) (v := .ref (ad 6999)) rfl dX0_triesPushes_27 ?_
        obtain ⟨r_53, h_52, hf⟩ := bd_e hf
        refine kx_areWants X hW had (b := 6000) (by decide) h_52 (by decide) hl (Nat.le_of_ble_eq_true rfl) dX0_triesPushes_28 (fun H locs hW => ?_)
        refine lv_if_ne (tgt := 35) hx hb dX0_triesPushes_31 (by decide) (fun c_54 => ?_) (fun c_54 => ?_)
        · replace hf := ine hf c_54
          refine lv_aload_n hx hb dX0_triesPushes_35 rfl (lv_at hl 0 rfl) ?_
          refine lv_iload_n hx hb dX0_triesPushes_36 rfl (lv_at hl 3 rfl) ?_
          refine xp_18 X hW xm_999 dX0_triesPushes_37 (fun H locs hW => ?_)
          refine lv_aload_n hx hb dX0_triesPushes_40 rfl (lv_at hl 0 rfl) ?_
          refine xg_16 X hW xm_999 dX0_triesPushes_41 ?_
          refine lv_iconst (v := 0) hx hb dX0_triesPushes_44 (by decide) ?_
          refine lv_aload_n hx hb dX0_triesPushes_45 rfl (lv_at hl 0 rfl) ?_
          refine xg_17 X hW xm_999 dX0_triesPushes_46 ?_
          refine lv_iconst (v := 0) hx hb dX0_triesPushes_49 (by decide) ?_
          refine lv_iconst (v := 3) hx hb dX0_triesPushes_50 (by decide) ?_
          obtain ⟨σ_55, e_56, hf⟩ := nmb_e hf
          rw [← e_56] at hW
          clear e_56
          refine x_copy X hW hl q852 (by decide) (Nat.le_of_ble_eq_true rfl) xm_16 xm_17 rfl rfl (fun _ => rfl) (by decide) dX0_triesPushes_51 (fun H locs hW => ?_)
          exact x_vret X hW hf dX0_triesPushes_54
        · replace hf := ip hf c_54
          exact x_vret X hW hf dX0_triesPushes_34
    · replace hf := ine hf c_49
      exact x_vret X hW hf dX0_triesPushes_16
theorem w_x_triesPushes_3 (l : Launch) {g : gG} {ad : Nat → Nat} {q : xR} (had : xI_ ad) {rs : List RS} (hrs : RSok q.1 g rs) {σr : cS}  {σ : cS} {v2 : Int32} {v3 : Int32} (hf : x_triesPushes_3 σ rs v2 v3 = some σr) : MC l yX0_triesPushes cX0_triesPushes 6 none 407 16367 g xIds ad (xE g ad q σ) (xE g ad q σr) [.ref (ad 999), .int 3, .int v2, .int v3] none :=
  MC.of (by decide) xIds_nd had (Nat.le_of_ble_eq_true rfl) (fun p e s m below meth c A ls X hW hl => wb_x_triesPushes_3 X had hrs hW hl hf)
theorem kx_triesPushes_3 {p : Program} {l : Launch} {e : Env} {R : Room} {s : State} {m : MethodId} {args : Array Value} {below : List Frame} {meth : Method} {c : Code} {H : Heap} {locs : List Loc} {Q : State → Prop} {cc : ByteArray} {nL : Nat} {ret : Option FieldType} {g : gG} {A : Nat → Prop} {ad : Nat → Nat} {q : xR} {pc : Nat} {ls : Array Slot} {rest : List Value} {lv : List (Nat × Value)} {σr : cS}  {σ : cS} {v2 : Int32} {v3 : Int32} (X : MX p s m args meth c cc nL RX0 ret g A) (hW : WB g A s.heap xIds ad (xE g ad q σ) H locs) (had : xI_ ad) {rs : List RS} (hrs : RSok q.1 g rs) (hf : x_triesPushes_3 σ rs v2 v3 = some σr) (hR : 408 ≤ R.frames ∧ 16392 ≤ R.locals) (hl : lv_has ls nL lv) (hcat : (rest.map fun v => v.category).sum ≤ 8) (hdg : decode cc pc = .ok (.invokevirtual 270, 3)) (kk : ∀ (H1 : Heap) (l1 : List Loc), WB g A s.heap xIds ad (xE g ad q σr) H1 l1 → W p l e R s m args below meth c H1 l1 0 0 Q (F0 m (pc + 3) ls (rest))) : W p l e R s m args below meth c H locs 0 0 Q (F0 m pc ls (.int v3 :: .int v2 :: .int 3 :: .ref (ad 999) :: rest)) :=
  r_callV X hW Sub.all (w_x_triesPushes_3 l had hrs hf) (lw_V q1008 q1010 qs37 q120 q1011) ⟨rfl, by decide, by decide, by decide +kernel⟩ xm_999 rfl rfl (n := 3) hR hl rfl rfl hcat ⟨Nat.zero_le _, Nat.zero_le _⟩ hdg kk
-- triesPushes_2
noncomputable def x_triesPushes_2_58 {ρ : Type} (rs : List RS) (v2 : Int32) (v3 : Int32) (K : cS → Option ρ) : Nat → cS → Int32 → Option ρ
  | 0, _, _ => none
  | n + 1, σ, v4 => gd (nz (σ.1 999 0)) (if (2 * (σ.1 1999 0)) ≤ v4 then (K σ) else (if v4 = (-1) then (((d_standsAs (vw2 σ 6000 5000)).bind fun σ_7 => ((if v4 = (-1) then (some ((pb2 σ 6000 5000 σ_7))) else (if (v4 - v4 / 2 * 2) = 0 then (((d_pushes (vw (pb2 σ 6000 5000 σ_7) 6000) (v4 / 2) (-2)).bind fun σ_27 => some ((pb (pb2 σ 6000 5000 σ_7) 6000 σ_27)))) else (((d_pushes (vw (pb2 σ 6000 5000 σ_7) 6000) (v4 / 2) 2).bind fun σ_25 => some ((pb (pb2 σ 6000 5000 σ_7) 6000 σ_25))))) : Option (cS)).bind fun σ_8 => (((x_law σ_8 rs).bind fun R_11 => ((d_goes (vw σ_8 6000) R_11).bind fun (σ_14, r_13) => nmb (pb σ_8 6000 σ_14) fun σ_15 => (if v4 = (-1) then (((x_triesPushes_3 (si σ_15 16 (ix 2) v4) rs v2 v3).bind fun σ_21 => x_triesPushes_2_58 rs v2 v3 K n σ_21 (v4 + 1))) else (((x_triesPushes_3 (si σ_15 16 (ix 2) v4) rs v2 (v3 + 1)).bind fun σ_19 => x_triesPushes_2_58 rs v2 v3 K n σ_19 (v4 + 1)))))))))) else (((d_isBaked (vw σ 1000) (v4 / 2)).bind fun r_29 => if r_29 = 0 then (((d_standsAs (vw2 σ 6000 5000)).bind fun σ_32 => ((if v4 = (-1) then (some ((pb2 σ 6000 5000 σ_32))) else (if (v4 - v4 / 2 * 2) = 0 then (((d_pushes (vw (pb2 σ 6000 5000 σ_32) 6000) (v4 / 2) (-2)).bind fun σ_52 => some ((pb (pb2 σ 6000 5000 σ_32) 6000 σ_52)))) else (((d_pushes (vw (pb2 σ 6000 5000 σ_32) 6000) (v4 / 2) 2).bind fun σ_50 => some ((pb (pb2 σ 6000 5000 σ_32) 6000 σ_50))))) : Option (cS)).bind fun σ_33 => (((x_law σ_33 rs).bind fun R_36 => ((d_goes (vw σ_33 6000) R_36).bind fun (σ_39, r_38) => nmb (pb σ_33 6000 σ_39) fun σ_40 => (if v4 = (-1) then (((x_triesPushes_3 (si σ_40 16 (ix 2) v4) rs v2 v3).bind fun σ_46 => x_triesPushes_2_58 rs v2 v3 K n σ_46 (v4 + 1))) else (((x_triesPushes_3 (si σ_40 16 (ix 2) v4) rs v2 (v3 + 1)).bind fun σ_44 => x_triesPushes_2_58 rs v2 v3 K n σ_44 (v4 + 1)))))))))) else (x_triesPushes_2_58 rs v2 v3 K n σ (v4 + 1))))))
set_option maxHeartbeats 4000000 in
theorem wx_triesPushes_2_58 {p : Program} {l : Launch} {e : Env} {s : State} {m : MethodId} {args : Array Value} {below : List Frame} {meth : Method} {c : Code} {g : gG} {A : Nat → Prop} {ad : Nat → Nat} {q : xR} (X : MX p s m args meth c cX0_triesPushes 6 RX0 none g A) (had : xI_ ad) {rs : List RS} (hrs : RSok q.1 g rs) {ρ : Type} {res : ρ} {Q : State → Prop} {v2 : Int32} {v3 : Int32}  {K : cS → Option ρ}
    (hK : ∀ (σ : cS) (H : Heap) (locs : List Loc) (ls : Array Slot), WB g A s.heap xIds ad (xE g ad q σ) H locs → lv_has ls 6 [] → K σ = some res → W p l e (rm_ 408 16392) s m args below meth c H locs 0 0 Q (F0 m 187 ls [])) :
    ∀ (n : Nat) (σ : cS) (v4 : Int32) (H : Heap) (locs : List Loc) (ls : Array Slot), WB g A s.heap xIds ad (xE g ad q σ) H locs → lv_has ls 6 [(0, .ref (ad 999)), (1, .int 2), (2, .int v2), (3, .int v3), (4, .int v4)] → x_triesPushes_2_58 rs v2 v3 K n σ v4 = some res → W p l e (rm_ 408 16392) s m args below meth c H locs 0 0 Q (F0 m 58 ls []) := by
  have hx := X.1.1
  have hb := X.1.2.1
  intro n
  induction n with
  | zero =>
    intro σ v4 H locs ls hW hl hf
    rw [x_triesPushes_2_58] at hf
    cases hf
  | succ n ih =>
    intro σ v4 H locs ls hW hl hf
    rw [x_triesPushes_2_58] at hf
    refine lv_iload hx hb dX0_triesPushes_58 (lv_at hl 4 rfl) ?_
    refine lv_iconst (v := 2) hx hb dX0_triesPushes_60 (by decide) ?_
    refine lv_aload_n hx hb dX0_triesPushes_61 rfl (lv_at hl 0 rfl) ?_
    obtain ⟨z_3, hf⟩ := gd_e hf
    replace z_3 := nz_e z_3
    refine xg_0s X hW xm_999 z_3 dX0_triesPushes_62 ?_
    refine xg_1000 X hW xm_1999 dX0_triesPushes_65 ?_
    refine lv_imul hx hb dX0_triesPushes_68 ?_
    refine lv_icmp_ge (tgt := 187) hx hb dX0_triesPushes_69 (by decide) (fun c_4 => ?_) (fun c_4 => ?_)
    · replace hf := ip hf c_4
      exact hK _ _ _ _ hW (lv_sub hl [] rfl) hf
    · replace hf := ine hf c_4
      refine lv_iload hx hb dX0_triesPushes_72 (lv_at hl 4 rfl) ?_
      refine lv_iconst (v := (-1)) hx hb dX0_triesPushes_74 (by decide) ?_
      refine lv_icmp_eq (tgt := 95) hx hb dX0_triesPushes_75 (by decide) (fun c_5 => ?_) (fun c_5 => ?_)
      · replace hf := ip hf c_5
        refine lv_aload_n hx hb dX0_triesPushes_95 rfl (lv_at hl 0 rfl) ?_
        refine xg_3 X hW xm_999 dX0_triesPushes_96 ?_
        refine lv_iload_n hx hb dX0_triesPushes_99 rfl (lv_at hl 1 rfl) ?_
        refine lv_iconst (v := 1) hx hb dX0_triesPushes_100 (by decide) ?_
        refine r_iaddv (v := 3) hx hb dX0_triesPushes_101 (by decide) ?_
        refine r_aald X hW (t0 := 4) xm_3 rfl rfl (by decide) (v := .ref (ad 6999)) rfl dX0_triesPushes_102 ?_
        refine lv_aload_n hx hb dX0_triesPushes_103 rfl (lv_at hl 0 rfl) ?_
        refine xg_3 X hW xm_999 dX0_triesPushes_104 ?_
        refine lv_iload_n hx hb dX0_triesPushes_107 rfl (lv_at hl 1 rfl) ?_
        refine r_aald X hW (t0 := 4) xm_3 rfl rfl (by decide) (v := .ref (ad 5999)) rfl dX0_triesPushes_108 ?_
        obtain ⟨σ_7, h_6, hf⟩ := bd_e hf
        refine kx_standsAs X hW had (b := 6000) (c2 := 5000) (by decide) (by decide) (by decide) h_6 (by decide) hl (Nat.le_of_ble_eq_true rfl) dX0_triesPushes_109 (fun H locs hW => ?_)
        refine lv_astore (lv' := [(5, .ref (ad 6999)), (0, .ref (ad 999)), (1, .int 2), (2, .int v2), (3, .int v3), (4, .int v4)]) hx hb dX0_triesPushes_112 hl (by decide) rfl (fun ls hl => ?_)
        refine lv_iload hx hb dX0_triesPushes_114 (lv_at hl 5 rfl) ?_
        refine lv_iconst (v := (-1)) hx hb dX0_triesPushes_116 (by decide) ?_
        obtain ⟨σ_8, hD_9, hf⟩ := bd_e hf
        have hJ : ∀ (H : Heap) (locs : List Loc) (ls : Array Slot), WB g A s.heap xIds ad (xE g ad q σ_8) H locs → lv_has ls 6 [(0, .ref (ad 999)), (1, .int 2), (2, .int v2), (3, .int v3), (4, .int v4), (5, .ref (ad 6999))] → W p l e (rm_ 408 16392) s m args below meth c H locs 0 0 Q (F0 m 142 ls []) := by
          intro H locs ls hW hl
          refine lv_aload hx hb dX0_triesPushes_142 (lv_at hl 5 rfl) ?_
          refine lv_aload_n hx hb dX0_triesPushes_144 rfl (lv_at hl 0 rfl) ?_
          obtain ⟨R_11, h_10, hf⟩ := bd_e hf
          refine kx_law X hW had hrs h_10 (by decide) hl (Nat.le_of_ble_eq_true rfl) dX0_triesPushes_145 (fun q_R_11 hq_R_11 H locs hW => ?_)
          obtain ⟨⟨σ_14, r_13⟩, h_12, hf⟩ := bd_e hf
          refine kx_goes X hW had (b := 6000) (by decide) hq_R_11 h_12 (by decide) hl (Nat.le_of_ble_eq_true rfl) dX0_triesPushes_148 (fun H locs hW => ?_)
          refine lv_pop hx hb dX0_triesPushes_151 rfl ?_
          refine lv_aload_n hx hb dX0_triesPushes_152 rfl (lv_at hl 0 rfl) ?_
          refine xg_16 X hW xm_999 dX0_triesPushes_153 ?_
          refine lv_iload_n hx hb dX0_triesPushes_156 rfl (lv_at hl 1 rfl) ?_
          refine lv_iload hx hb dX0_triesPushes_157 (lv_at hl 4 rfl) ?_
          obtain ⟨σ_15, e_16, hf⟩ := nmb_e hf
          rw [← e_16] at hW
          clear e_16
          refine xs_16 X hW xm_16 (by decide) dX0_triesPushes_159 (fun H locs hW => ?_)
          refine lv_aload_n hx hb dX0_triesPushes_160 rfl (lv_at hl 0 rfl) ?_
          refine lv_iload_n hx hb dX0_triesPushes_161 rfl (lv_at hl 1 rfl) ?_
          refine lv_iconst (v := 1) hx hb dX0_triesPushes_162 (by decide) ?_
          refine r_iaddv (v := 3) hx hb dX0_triesPushes_163 (by decide) ?_
          refine lv_iload_n hx hb dX0_triesPushes_164 rfl (lv_at hl 2 rfl) ?_
          refine lv_iload hx hb dX0_triesPushes_165 (lv_at hl 4 rfl) ?_
          refine lv_iconst (v := (-1)) hx hb dX0_triesPushes_167 (by decide) ?_
          refine lv_icmp_ne (tgt := 175) hx hb dX0_triesPushes_168 (by decide) (fun c_17 => ?_) (fun c_17 => ?_)
          · replace hf := ine hf c_17
            refine lv_iload_n hx hb dX0_triesPushes_175 rfl (lv_at hl 3 rfl) ?_
            refine lv_iconst (v := 1) hx hb dX0_triesPushes_176 (by decide) ?_
            refine lv_iadd hx hb dX0_triesPushes_177 ?_
            obtain ⟨σ_19, h_18, hf⟩ := bd_e hf
            refine kx_triesPushes_3 X hW had hrs h_18 (by decide) hl (Nat.le_of_ble_eq_true rfl) dX0_triesPushes_178 (fun H locs hW => ?_)
            refine lv_iinc (v := (v4 + 1)) (lv' := [(4, .int (v4 + 1)), (0, .ref (ad 999)), (1, .int 2), (2, .int v2), (3, .int v3), (5, .ref (ad 6999))]) hx hb dX0_triesPushes_181 hl (k := 4) rfl (ii_v _ _ _ (by decide)) (by decide) rfl (fun ls hl => ?_)
            refine lv_goto (tgt := 58) hx hb dX0_triesPushes_184 (by decide) ?_
            exact ih _ _ _ _ _ hW (lv_sub hl [1, 2, 3, 4, 0] rfl) hf
          · replace hf := ip hf c_17
            refine lv_iload_n hx hb dX0_triesPushes_171 rfl (lv_at hl 3 rfl) ?_
            refine lv_goto (tgt := 178) hx hb dX0_triesPushes_172 (by decide) ?_
            obtain ⟨σ_21, h_20, hf⟩ := bd_e hf
            refine kx_triesPushes_3 X hW had hrs h_20 (by decide) hl (Nat.le_of_ble_eq_true rfl) dX0_triesPushes_178 (fun H locs hW => ?_)
            refine lv_iinc (v := (v4 + 1)) (lv' := [(4, .int (v4 + 1)), (0, .ref (ad 999)), (1, .int 2), (2, .int v2), (3, .int v3), (5, .ref (ad 6999))]) hx hb dX0_triesPushes_181 hl (k := 4) rfl (ii_v _ _ _ (by decide)) (by decide) rfl (fun ls hl => ?_)
            refine lv_goto (tgt := 58) hx hb dX0_triesPushes_184 (by decide) ?_
            exact ih _ _ _ _ _ hW (lv_sub hl [1, 2, 3, 4, 0] rfl) hf
        clear hf
        refine lv_icmp_eq (tgt := 142) hx hb dX0_triesPushes_117 (by decide) (fun c_22 => ?_) (fun c_22 => ?_)
        · replace hD_9 := ip hD_9 c_22
          cases hD_9
          exact hJ _ _ _ hW (lv_sub hl [1, 2, 3, 4, 5, 0] rfl)
        · replace hD_9 := ine hD_9 c_22
          refine lv_aload hx hb dX0_triesPushes_120 (lv_at hl 0 rfl) ?_
          refine lv_iload hx hb dX0_triesPushes_122 (lv_at hl 5 rfl) ?_
          refine lv_iconst (v := 2) hx hb dX0_triesPushes_124 (by decide) ?_
          refine lv_idiv hx hb dX0_triesPushes_125 (by decide) ?_
          refine lv_iload hx hb dX0_triesPushes_126 (lv_at hl 5 rfl) ?_
          refine lv_iconst (v := 2) hx hb dX0_triesPushes_128 (by decide) ?_
          refine lv_irem hx hb dX0_triesPushes_129 (by decide) ?_
          refine lv_if_ne (tgt := 138) hx hb dX0_triesPushes_130 (by decide) (fun c_23 => ?_) (fun c_23 => ?_)
          · replace hD_9 := ine hD_9 c_23
            refine lv_iconst (v := 2) hx hb dX0_triesPushes_138 (by decide) ?_
            obtain ⟨σ_25, h_24, hD_9⟩ := bd_e hD_9
            refine kx_pushes X hW had (b := 6000) (by decide) h_24 (by decide) hl (Nat.le_of_ble_eq_true rfl) dX0_triesPushes_139 (fun H locs hW => ?_)
            cases hD_9
            exact hJ _ _ _ hW (lv_sub hl [1, 2, 3, 4, 5, 0] rfl)
          · replace hD_9 := ip hD_9 c_23
            refine lv_bipush (v := (-2)) hx hb dX0_triesPushes_133 (by decide) ?_
            refine lv_goto (tgt := 139) hx hb dX0_triesPushes_135 (by decide) ?_
            obtain ⟨σ_27, h_26, hD_9⟩ := bd_e hD_9
            refine kx_pushes X hW had (b := 6000) (by decide) h_26 (by decide) hl (Nat.le_of_ble_eq_true rfl) dX0_triesPushes_139 (fun H locs hW => ?_)
            cases hD_9
            exact hJ _ _ _ hW (lv_sub hl [1, 2, 3, 4, 5, 0] rfl)
      · replace hf := ine hf c_5
        refine lv_aload_n hx hb dX0_triesPushes_78 rfl (lv_at hl 0 rfl) ?_
        refine xg_0s X hW xm_999 z_3 dX0_triesPushes_79 ?_
        refine lv_iload hx hb dX0_triesPushes_82 (lv_at hl 4 rfl) ?_
        refine lv_iconst (v := 2) hx hb dX0_triesPushes_84 (by decide) ?_
        refine lv_idiv hx hb dX0_triesPushes_85 (by decide) ?_
        obtain ⟨r_29, h_28, hf⟩ := bd_e hf
        refine kx_isBaked X hW had (b := 1000) (by decide) h_28 (by decide) hl (Nat.le_of_ble_eq_true rfl) dX0_triesPushes_86 (fun H locs hW => ?_)
        refine lv_if_eq (tgt := 95) hx hb dX0_triesPushes_89 (by decide) (fun c_30 => ?_) (fun c_30 => ?_)
        · replace hf := ip hf c_30
          refine lv_aload_n hx hb dX0_triesPushes_95 rfl (lv_at hl 0 rfl) ?_
          refine xg_3 X hW xm_999 dX0_triesPushes_96 ?_
          refine lv_iload_n hx hb dX0_triesPushes_99 rfl (lv_at hl 1 rfl) ?_
          refine lv_iconst (v := 1) hx hb dX0_triesPushes_100 (by decide) ?_
          refine r_iaddv (v := 3) hx hb dX0_triesPushes_101 (by decide) ?_
          refine r_aald X hW (t0 := 4) xm_3 rfl rfl (by decide) (v := .ref (ad 6999)) rfl dX0_triesPushes_102 ?_
          refine lv_aload_n hx hb dX0_triesPushes_103 rfl (lv_at hl 0 rfl) ?_
          refine xg_3 X hW xm_999 dX0_triesPushes_104 ?_
          refine lv_iload_n hx hb dX0_triesPushes_107 rfl (lv_at hl 1 rfl) ?_
          refine r_aald X hW (t0 := 4) xm_3 rfl rfl (by decide) (v := .ref (ad 5999)) rfl dX0_triesPushes_108 ?_
          obtain ⟨σ_32, h_31, hf⟩ := bd_e hf
          refine kx_standsAs X hW had (b := 6000) (c2 := 5000) (by decide) (by decide) (by decide) h_31 (by decide) hl (Nat.le_of_ble_eq_true rfl) dX0_triesPushes_109 (fun H locs hW => ?_)
          refine lv_astore (lv' := [(5, .ref (ad 6999)), (0, .ref (ad 999)), (1, .int 2), (2, .int v2), (3, .int v3), (4, .int v4)]) hx hb dX0_triesPushes_112 hl (by decide) rfl (fun ls hl => ?_)
          refine lv_iload hx hb dX0_triesPushes_114 (lv_at hl 5 rfl) ?_
          refine lv_iconst (v := (-1)) hx hb dX0_triesPushes_116 (by decide) ?_
          obtain ⟨σ_33, hD_34, hf⟩ := bd_e hf
          have hJ : ∀ (H : Heap) (locs : List Loc) (ls : Array Slot), WB g A s.heap xIds ad (xE g ad q σ_33) H locs → lv_has ls 6 [(0, .ref (ad 999)), (1, .int 2), (2, .int v2), (3, .int v3), (4, .int v4), (5, .ref (ad 6999))] → W p l e (rm_ 408 16392) s m args below meth c H locs 0 0 Q (F0 m 142 ls []) := by
            intro H locs ls hW hl
            refine lv_aload hx hb dX0_triesPushes_142 (lv_at hl 5 rfl) ?_
            refine lv_aload_n hx hb dX0_triesPushes_144 rfl (lv_at hl 0 rfl) ?_
            obtain ⟨R_36, h_35, hf⟩ := bd_e hf
            refine kx_law X hW had hrs h_35 (by decide) hl (Nat.le_of_ble_eq_true rfl) dX0_triesPushes_145 (fun q_R_36 hq_R_36 H locs hW => ?_)
            obtain ⟨⟨σ_39, r_38⟩, h_37, hf⟩ := bd_e hf
            refine kx_goes X hW had (b := 6000) (by decide) hq_R_36 h_37 (by decide) hl (Nat.le_of_ble_eq_true rfl) dX0_triesPushes_148 (fun H locs hW => ?_)
            refine lv_pop hx hb dX0_triesPushes_151 rfl ?_
            refine lv_aload_n hx hb dX0_triesPushes_152 rfl (lv_at hl 0 rfl) ?_
            refine xg_16 X hW xm_999 dX0_triesPushes_153 ?_
            refine lv_iload_n hx hb dX0_triesPushes_156 rfl (lv_at hl 1 rfl) ?_
            refine lv_iload hx hb dX0_triesPushes_157 (lv_at hl 4 rfl) ?_
            obtain ⟨σ_40, e_41, hf⟩ := nmb_e hf
            rw [← e_41] at hW
            clear e_41
            refine xs_16 X hW xm_16 (by decide) dX0_triesPushes_159 (fun H locs hW => ?_)
            refine lv_aload_n hx hb dX0_triesPushes_160 rfl (lv_at hl 0 rfl) ?_
            refine lv_iload_n hx hb dX0_triesPushes_161 rfl (lv_at hl 1 rfl) ?_
            refine lv_iconst (v := 1) hx hb dX0_triesPushes_162 (by decide) ?_
            refine r_iaddv (v := 3) hx hb dX0_triesPushes_163 (by decide) ?_
            refine lv_iload_n hx hb dX0_triesPushes_164 rfl (lv_at hl 2 rfl) ?_
            refine lv_iload hx hb dX0_triesPushes_165 (lv_at hl 4 rfl) ?_
            refine lv_iconst (v := (-1)) hx hb dX0_triesPushes_167 (by decide) ?_
            refine lv_icmp_ne (tgt := 175) hx hb dX0_triesPushes_168 (by decide) (fun c_42 => ?_) (fun c_42 => ?_)
            · replace hf := ine hf c_42
              refine lv_iload_n hx hb dX0_triesPushes_175 rfl (lv_at hl 3 rfl) ?_
              refine lv_iconst (v := 1) hx hb dX0_triesPushes_176 (by decide) ?_
              refine lv_iadd hx hb dX0_triesPushes_177 ?_
              obtain ⟨σ_44, h_43, hf⟩ := bd_e hf
              refine kx_triesPushes_3 X hW had hrs h_43 (by decide) hl (Nat.le_of_ble_eq_true rfl) dX0_triesPushes_178 (fun H locs hW => ?_)
              refine lv_iinc (v := (v4 + 1)) (lv' := [(4, .int (v4 + 1)), (0, .ref (ad 999)), (1, .int 2), (2, .int v2), (3, .int v3), (5, .ref (ad 6999))]) hx hb dX0_triesPushes_181 hl (k := 4) rfl (ii_v _ _ _ (by decide)) (by decide) rfl (fun ls hl => ?_)
              refine lv_goto (tgt := 58) hx hb dX0_triesPushes_184 (by decide) ?_
              exact ih _ _ _ _ _ hW (lv_sub hl [1, 2, 3, 4, 0] rfl) hf
            · replace hf := ip hf c_42
              refine lv_iload_n hx hb dX0_triesPushes_171 rfl (lv_at hl 3 rfl) ?_
              refine lv_goto (tgt := 178) hx hb dX0_triesPushes_172 (by decide) ?_
              obtain ⟨σ_46, h_45, hf⟩ := bd_e hf
              refine kx_triesPushes_3 X hW had hrs h_45 (by decide) hl (Nat.le_of_ble_eq_true rfl) dX0_triesPushes_178 (fun H locs hW => ?_)
              refine lv_iinc (v := (v4 + 1)) (lv' := [(4, .int (v4 + 1)), (0, .ref (ad 999)), (1, .int 2), (2, .int v2), (3, .int v3), (5, .ref (ad 6999))]) hx hb dX0_triesPushes_181 hl (k := 4) rfl (ii_v _ _ _ (by decide)) (by decide) rfl (fun ls hl => ?_)
              refine lv_goto (tgt := 58) hx hb dX0_triesPushes_184 (by decide) ?_
              exact ih _ _ _ _ _ hW (lv_sub hl [1, 2, 3, 4, 0] rfl) hf
          clear hf
          refine lv_icmp_eq (tgt := 142) hx hb dX0_triesPushes_117 (by decide) (fun c_47 => ?_) (fun c_47 => ?_)
          · replace hD_34 := ip hD_34 c_47
            cases hD_34
            exact hJ _ _ _ hW (lv_sub hl [1, 2, 3, 4, 5, 0] rfl)
          · replace hD_34 := ine hD_34 c_47
            refine lv_aload hx hb dX0_triesPushes_120 (lv_at hl 0 rfl) ?_
            refine lv_iload hx hb dX0_triesPushes_122 (lv_at hl 5 rfl) ?_
            refine lv_iconst (v := 2) hx hb dX0_triesPushes_124 (by decide) ?_
            refine lv_idiv hx hb dX0_triesPushes_125 (by decide) ?_
            refine lv_iload hx hb dX0_triesPushes_126 (lv_at hl 5 rfl) ?_
            refine lv_iconst (v := 2) hx hb dX0_triesPushes_128 (by decide) ?_
            refine lv_irem hx hb dX0_triesPushes_129 (by decide) ?_
            refine lv_if_ne (tgt := 138) hx hb dX0_triesPushes_130 (by decide) (fun c_48 => ?_) (fun c_48 => ?_)
            · replace hD_34 := ine hD_34 c_48
              refine lv_iconst (v := 2) hx hb dX0_triesPushes_138 (by decide) ?_
              obtain ⟨σ_50, h_49, hD_34⟩ := bd_e hD_34
              refine kx_pushes X hW had (b := 6000) (by decide) h_49 (by decide) hl (Nat.le_of_ble_eq_true rfl) dX0_triesPushes_139 (fun H locs hW => ?_)
              cases hD_34
              exact hJ _ _ _ hW (lv_sub hl [1, 2, 3, 4, 5, 0] rfl)
            · replace hD_34 := ip hD_34 c_48
              refine lv_bipush (v := (-2)) hx hb dX0_triesPushes_133 (by decide) ?_
              refine lv_goto (tgt := 139) hx hb dX0_triesPushes_135 (by decide) ?_
              obtain ⟨σ_52, h_51, hD_34⟩ := bd_e hD_34
              refine kx_pushes X hW had (b := 6000) (by decide) h_51 (by decide) hl (Nat.le_of_ble_eq_true rfl) dX0_triesPushes_139 (fun H locs hW => ?_)
              cases hD_34
              exact hJ _ _ _ hW (lv_sub hl [1, 2, 3, 4, 5, 0] rfl)
        · replace hf := ine hf c_30
          refine lv_goto (tgt := 181) hx hb dX0_triesPushes_92 (by decide) ?_
          refine lv_iinc (v := (v4 + 1)) (lv' := [(4, .int (v4 + 1)), (0, .ref (ad 999)), (1, .int 2), (2, .int v2), (3, .int v3)]) hx hb dX0_triesPushes_181 hl (k := 4) rfl (ii_v _ _ _ (by decide)) (by decide) rfl (fun ls hl => ?_)
          refine lv_goto (tgt := 58) hx hb dX0_triesPushes_184 (by decide) ?_
          exact ih _ _ _ _ _ hW (lv_sub hl [1, 2, 3, 4, 0] rfl) hf
noncomputable def x_triesPushes_2 (σ : cS) (rs : List RS) (v2 : Int32) (v3 : Int32) : Option (cS) :=
  if (σ.1 999 18) = (-1) then (if 2 = v2 then (((d_areWants (vw σ 5000)).bind fun r_55 => if r_55 = 0 then (some σ) else (nmb (si σ 999 18 v3) fun σ_57 => (some (sA σ_57 17 (va_cpy (σ_57.1 16) (σ_57.1 17) (ix 0) (ix 0) (ix 3))))))) else (x_triesPushes_2_58 rs v2 v3 (fun σ_53 => (some σ_53)) FU σ (-1))) else (if v3 < (σ.1 999 18) then (if 2 = v2 then (((d_areWants (vw σ 5000)).bind fun r_63 => if r_63 = 0 then (some σ) else (nmb (si σ 999 18 v3) fun σ_65 => (some (sA σ_65 17 (va_cpy (σ_65.1 16) (σ_65.1 17) (ix 0) (ix 0) (ix 3))))))) else (x_triesPushes_2_58 rs v2 v3 (fun σ_61 => (some σ_61)) FU σ (-1))) else (some σ))
set_option maxHeartbeats 4000000 in
theorem wb_x_triesPushes_2 {p : Program} {l : Launch} {e : Env} {s : State} {m : MethodId} {args : Array Value} {below : List Frame} {meth : Method} {c : Code} {g : gG} {A : Nat → Prop} {ad : Nat → Nat} {q : xR} (X : MX p s m args meth c cX0_triesPushes 6 RX0 none g A) (had : xI_ ad) {rs : List RS} (hrs : RSok q.1 g rs) {σr : cS}  {σ : cS} {v2 : Int32} {v3 : Int32} {H : Heap} {locs : List Loc} {ls : Array Slot} (hW : WB g A s.heap xIds ad (xE g ad q σ) H locs) (hl : lv_has ls 6 [(0, .ref (ad 999)), (1, .int 2), (2, .int v2), (3, .int v3)]) (hf : x_triesPushes_2 σ rs v2 v3 = some σr) : W p l e (rm_ 408 16392) s m args below meth c H locs 0 0 (Qm below g xIds ad (xE g ad q σr) none A args s) (F0 m 0 ls []) := by
  have hx := X.1.1
  have hb := X.1.2.1
  unfold x_triesPushes_2 at hf
  refine lv_aload_n hx hb dX0_triesPushes_0 rfl (lv_at hl 0 rfl) ?_
  refine xg_18 X hW xm_999 dX0_triesPushes_1 ?_
  refine lv_iconst (v := (-1)) hx hb dX0_triesPushes_4 (by decide) ?_
  refine lv_icmp_eq (tgt := 17) hx hb dX0_triesPushes_5 (by decide) (fun c_1 => ?_) (fun c_1 => ?_)
  · replace hf := ip hf c_1
    refine lv_iload_n hx hb dX0_triesPushes_17 rfl (lv_at hl 1 rfl) ?_
    refine lv_iload_n hx hb dX0_triesPushes_18 rfl (lv_at hl 2 rfl) ?_
    refine lv_icmp_ne (tgt := 55) hx hb dX0_triesPushes_19 (by decide) (fun c_2 => ?_) (fun c_2 => ?_)
    · replace hf := ine hf c_2
      refine lv_iconst (v := (-1)) hx hb dX0_triesPushes_55 (by decide) ?_
      refine lv_istore (lv' := [(4, .int (-1)), (0, .ref (ad 999)), (1, .int 2), (2, .int v2), (3, .int v3)]) hx hb dX0_triesPushes_56 hl (by decide) rfl (fun ls hl => ?_)
      refine wx_triesPushes_2_58 X had hrs (fun σ_53 H locs ls hW hl hf => ?_) _ _ _ _ _ _ hW (lv_sub hl [1, 2, 3, 4, 0] rfl) hf
      exact x_vret X hW hf dX0_triesPushes_187
    · replace hf := ip hf c_2
      refine lv_aload_n hx hb dX0_triesPushes_22 rfl (lv_at hl 0 rfl) ?_
      refine xg_3 X hW xm_999 dX0_triesPushes_23 ?_
      refine lv_iload_n hx hb dX0_triesPushes_26 rfl (lv_at hl 1 rfl) ?_
      refine r_aald X hW (t0 := 4) xm_3 rfl rfl (by decide) (v := .ref (ad 5999)) rfl dX0_triesPushes_27 ?_
      obtain ⟨r_55, h_54, hf⟩ := bd_e hf
      refine kx_areWants X hW had (b := 5000) (by decide) h_54 (by decide) hl (Nat.le_of_ble_eq_true rfl) dX0_triesPushes_28 (fun H locs hW => ?_)
      refine lv_if_ne (tgt := 35) hx hb dX0_triesPushes_31 (by decide) (fun c_56 => ?_) (fun c_56 => ?_)
      · replace hf := ine hf c_56
        refine lv_aload_n hx hb dX0_triesPushes_35 rfl (lv_at hl 0 rfl) ?_
        refine lv_iload_n hx hb dX0_triesPushes_36 rfl (lv_at hl 3 rfl) ?_
        refine xp_18 X hW xm_999 dX0_triesPushes_37 (fun H locs hW => ?_)
        refine lv_aload_n hx hb dX0_triesPushes_40 rfl (lv_at hl 0 rfl) ?_
        refine xg_16 X hW xm_999 dX0_triesPushes_41 ?_
        refine lv_iconst (v := 0) hx hb dX0_triesPushes_44 (by decide) ?_
        refine lv_aload_n hx hb dX0_triesPushes_45 rfl (lv_at hl 0 rfl) ?_
        refine xg_17 X hW xm_999 dX0_triesPushes_46 ?_
        refine lv_iconst (v := 0) hx hb dX0_triesPushes_49 (by decide) ?_
        refine lv_iconst (v := 3) hx hb dX0_triesPushes_50 (by decide) ?_
        obtain ⟨σ_57, e_58, hf⟩ := nmb_e hf
        rw [← e_58] at hW
        clear e_58
        refine x_copy X hW hl q852 (by decide) (Nat.le_of_ble_eq_true rfl) xm_16 xm_17 rfl rfl (fun _ => rfl) (by decide) dX0_triesPushes_51 (fun H locs hW => ?_)
        exact x_vret X hW hf dX0_triesPushes_54
      · replace hf := ip hf c_56
        exact x_vret X hW hf dX0_triesPushes_34
  · replace hf := ine hf c_1
    refine lv_iload_n hx hb dX0_triesPushes_8 rfl (lv_at hl 3 rfl) ?_
    refine lv_aload_n hx hb dX0_triesPushes_9 rfl (lv_at hl 0 rfl) ?_
    refine xg_18 X hW xm_999 dX0_triesPushes_10 ?_
    refine lv_icmp_lt (tgt := 17) hx hb dX0_triesPushes_13 (by decide) (fun c_59 => ?_) (fun c_59 => ?_)
    · replace hf := ip hf c_59
      refine lv_iload_n hx hb dX0_triesPushes_17 rfl (lv_at hl 1 rfl) ?_
      refine lv_iload_n hx hb dX0_triesPushes_18 rfl (lv_at hl 2 rfl) ?_
      refine lv_icmp_ne (tgt := 55) hx hb dX0_triesPushes_19 (by decide) (fun c_60 => ?_) (fun c_60 => ?_)
      · replace hf := ine hf c_60
        refine lv_iconst (v := (-1)) hx hb dX0_triesPushes_55 (by decide) ?_
        refine lv_istore (lv' := [(4, .int (-1)), (0, .ref (ad 999)), (1, .int 2), (2, .int v2), (3, .int v3)]) hx hb dX0_triesPushes_56 hl (by decide) rfl (fun ls hl => ?_)
        refine wx_triesPushes_2_58 X had hrs (fun σ_61 H locs ls hW hl hf => ?_) _ _ _ _ _ _ hW (lv_sub hl [1, 2, 3, 4, 0] rfl) hf
        exact x_vret X hW hf dX0_triesPushes_187
      · replace hf := ip hf c_60
        refine lv_aload_n hx hb dX0_triesPushes_22 rfl (lv_at hl 0 rfl) ?_
        refine xg_3 X hW xm_999 dX0_triesPushes_23 ?_
        refine lv_iload_n hx hb dX0_triesPushes_26 rfl (lv_at hl 1 rfl) ?_
        refine r_aald X hW (t0 := 4) xm_3 rfl rfl (by decide) (v := .ref (ad 5999)) rfl dX0_triesPushes_27 ?_
        obtain ⟨r_63, h_62, hf⟩ := bd_e hf
        refine kx_areWants X hW had (b := 5000) (by decide) h_62 (by decide) hl (Nat.le_of_ble_eq_true rfl) dX0_triesPushes_28 (fun H locs hW => ?_)
        refine lv_if_ne (tgt := 35) hx hb dX0_triesPushes_31 (by decide) (fun c_64 => ?_) (fun c_64 => ?_)
        · replace hf := ine hf c_64
          refine lv_aload_n hx hb dX0_triesPushes_35 rfl (lv_at hl 0 rfl) ?_
          refine lv_iload_n hx hb dX0_triesPushes_36 rfl (lv_at hl 3 rfl) ?_
          refine xp_18 X hW xm_999 dX0_triesPushes_37 (fun H locs hW => ?_)
          refine lv_aload_n hx hb dX0_triesPushes_40 rfl (lv_at hl 0 rfl) ?_
          refine xg_16 X hW xm_999 dX0_triesPushes_41 ?_
          refine lv_iconst (v := 0) hx hb dX0_triesPushes_44 (by decide) ?_
          refine lv_aload_n hx hb dX0_triesPushes_45 rfl (lv_at hl 0 rfl) ?_
          refine xg_17 X hW xm_999 dX0_triesPushes_46 ?_
          refine lv_iconst (v := 0) hx hb dX0_triesPushes_49 (by decide) ?_
          refine lv_iconst (v := 3) hx hb dX0_triesPushes_50 (by decide) ?_
          obtain ⟨σ_65, e_66, hf⟩ := nmb_e hf
          rw [← e_66] at hW
          clear e_66
          refine x_copy X hW hl q852 (by decide) (Nat.le_of_ble_eq_true rfl) xm_16 xm_17 rfl rfl (fun _ => rfl) (by decide) dX0_triesPushes_51 (fun H locs hW => ?_)
          exact x_vret X hW hf dX0_triesPushes_54
        · replace hf := ip hf c_64
          exact x_vret X hW hf dX0_triesPushes_34
    · replace hf := ine hf c_59
      exact x_vret X hW hf dX0_triesPushes_16
theorem w_x_triesPushes_2 (l : Launch) {g : gG} {ad : Nat → Nat} {q : xR} (had : xI_ ad) {rs : List RS} (hrs : RSok q.1 g rs) {σr : cS}  {σ : cS} {v2 : Int32} {v3 : Int32} (hf : x_triesPushes_2 σ rs v2 v3 = some σr) : MC l yX0_triesPushes cX0_triesPushes 6 none 408 16392 g xIds ad (xE g ad q σ) (xE g ad q σr) [.ref (ad 999), .int 2, .int v2, .int v3] none :=
  MC.of (by decide) xIds_nd had (Nat.le_of_ble_eq_true rfl) (fun p e s m below meth c A ls X hW hl => wb_x_triesPushes_2 X had hrs hW hl hf)
theorem kx_triesPushes_2 {p : Program} {l : Launch} {e : Env} {R : Room} {s : State} {m : MethodId} {args : Array Value} {below : List Frame} {meth : Method} {c : Code} {H : Heap} {locs : List Loc} {Q : State → Prop} {cc : ByteArray} {nL : Nat} {ret : Option FieldType} {g : gG} {A : Nat → Prop} {ad : Nat → Nat} {q : xR} {pc : Nat} {ls : Array Slot} {rest : List Value} {lv : List (Nat × Value)} {σr : cS}  {σ : cS} {v2 : Int32} {v3 : Int32} (X : MX p s m args meth c cc nL RX0 ret g A) (hW : WB g A s.heap xIds ad (xE g ad q σ) H locs) (had : xI_ ad) {rs : List RS} (hrs : RSok q.1 g rs) (hf : x_triesPushes_2 σ rs v2 v3 = some σr) (hR : 409 ≤ R.frames ∧ 16417 ≤ R.locals) (hl : lv_has ls nL lv) (hcat : (rest.map fun v => v.category).sum ≤ 8) (hdg : decode cc pc = .ok (.invokevirtual 270, 3)) (kk : ∀ (H1 : Heap) (l1 : List Loc), WB g A s.heap xIds ad (xE g ad q σr) H1 l1 → W p l e R s m args below meth c H1 l1 0 0 Q (F0 m (pc + 3) ls (rest))) : W p l e R s m args below meth c H locs 0 0 Q (F0 m pc ls (.int v3 :: .int v2 :: .int 2 :: .ref (ad 999) :: rest)) :=
  r_callV X hW Sub.all (w_x_triesPushes_2 l had hrs hf) (lw_V q1008 q1010 qs37 q120 q1011) ⟨rfl, by decide, by decide, by decide +kernel⟩ xm_999 rfl rfl (n := 3) hR hl rfl rfl hcat ⟨Nat.zero_le _, Nat.zero_le _⟩ hdg kk
-- triesPushes_1
noncomputable def x_triesPushes_1_58 {ρ : Type} (rs : List RS) (v2 : Int32) (v3 : Int32) (K : cS → Option ρ) : Nat → cS → Int32 → Option ρ
  | 0, _, _ => none
  | n + 1, σ, v4 => gd (nz (σ.1 999 0)) (if (2 * (σ.1 1999 0)) ≤ v4 then (K σ) else (if v4 = (-1) then (((d_standsAs (vw2 σ 5000 4000)).bind fun σ_7 => ((if v4 = (-1) then (some ((pb2 σ 5000 4000 σ_7))) else (if (v4 - v4 / 2 * 2) = 0 then (((d_pushes (vw (pb2 σ 5000 4000 σ_7) 5000) (v4 / 2) (-2)).bind fun σ_27 => some ((pb (pb2 σ 5000 4000 σ_7) 5000 σ_27)))) else (((d_pushes (vw (pb2 σ 5000 4000 σ_7) 5000) (v4 / 2) 2).bind fun σ_25 => some ((pb (pb2 σ 5000 4000 σ_7) 5000 σ_25))))) : Option (cS)).bind fun σ_8 => (((x_law σ_8 rs).bind fun R_11 => ((d_goes (vw σ_8 5000) R_11).bind fun (σ_14, r_13) => nmb (pb σ_8 5000 σ_14) fun σ_15 => (if v4 = (-1) then (((x_triesPushes_2 (si σ_15 16 (ix 1) v4) rs v2 v3).bind fun σ_21 => x_triesPushes_1_58 rs v2 v3 K n σ_21 (v4 + 1))) else (((x_triesPushes_2 (si σ_15 16 (ix 1) v4) rs v2 (v3 + 1)).bind fun σ_19 => x_triesPushes_1_58 rs v2 v3 K n σ_19 (v4 + 1)))))))))) else (((d_isBaked (vw σ 1000) (v4 / 2)).bind fun r_29 => if r_29 = 0 then (((d_standsAs (vw2 σ 5000 4000)).bind fun σ_32 => ((if v4 = (-1) then (some ((pb2 σ 5000 4000 σ_32))) else (if (v4 - v4 / 2 * 2) = 0 then (((d_pushes (vw (pb2 σ 5000 4000 σ_32) 5000) (v4 / 2) (-2)).bind fun σ_52 => some ((pb (pb2 σ 5000 4000 σ_32) 5000 σ_52)))) else (((d_pushes (vw (pb2 σ 5000 4000 σ_32) 5000) (v4 / 2) 2).bind fun σ_50 => some ((pb (pb2 σ 5000 4000 σ_32) 5000 σ_50))))) : Option (cS)).bind fun σ_33 => (((x_law σ_33 rs).bind fun R_36 => ((d_goes (vw σ_33 5000) R_36).bind fun (σ_39, r_38) => nmb (pb σ_33 5000 σ_39) fun σ_40 => (if v4 = (-1) then (((x_triesPushes_2 (si σ_40 16 (ix 1) v4) rs v2 v3).bind fun σ_46 => x_triesPushes_1_58 rs v2 v3 K n σ_46 (v4 + 1))) else (((x_triesPushes_2 (si σ_40 16 (ix 1) v4) rs v2 (v3 + 1)).bind fun σ_44 => x_triesPushes_1_58 rs v2 v3 K n σ_44 (v4 + 1)))))))))) else (x_triesPushes_1_58 rs v2 v3 K n σ (v4 + 1))))))
set_option maxHeartbeats 4000000 in
theorem wx_triesPushes_1_58 {p : Program} {l : Launch} {e : Env} {s : State} {m : MethodId} {args : Array Value} {below : List Frame} {meth : Method} {c : Code} {g : gG} {A : Nat → Prop} {ad : Nat → Nat} {q : xR} (X : MX p s m args meth c cX0_triesPushes 6 RX0 none g A) (had : xI_ ad) {rs : List RS} (hrs : RSok q.1 g rs) {ρ : Type} {res : ρ} {Q : State → Prop} {v2 : Int32} {v3 : Int32}  {K : cS → Option ρ}
    (hK : ∀ (σ : cS) (H : Heap) (locs : List Loc) (ls : Array Slot), WB g A s.heap xIds ad (xE g ad q σ) H locs → lv_has ls 6 [] → K σ = some res → W p l e (rm_ 409 16417) s m args below meth c H locs 0 0 Q (F0 m 187 ls [])) :
    ∀ (n : Nat) (σ : cS) (v4 : Int32) (H : Heap) (locs : List Loc) (ls : Array Slot), WB g A s.heap xIds ad (xE g ad q σ) H locs → lv_has ls 6 [(0, .ref (ad 999)), (1, .int 1), (2, .int v2), (3, .int v3), (4, .int v4)] → x_triesPushes_1_58 rs v2 v3 K n σ v4 = some res → W p l e (rm_ 409 16417) s m args below meth c H locs 0 0 Q (F0 m 58 ls []) := by
  have hx := X.1.1
  have hb := X.1.2.1
  intro n
  induction n with
  | zero =>
    intro σ v4 H locs ls hW hl hf
    rw [x_triesPushes_1_58] at hf
    cases hf
  | succ n ih =>
    intro σ v4 H locs ls hW hl hf
    rw [x_triesPushes_1_58] at hf
    refine lv_iload hx hb dX0_triesPushes_58 (lv_at hl 4 rfl) ?_
    refine lv_iconst (v := 2) hx hb dX0_triesPushes_60 (by decide) ?_
    refine lv_aload_n hx hb dX0_triesPushes_61 rfl (lv_at hl 0 rfl) ?_
    obtain ⟨z_3, hf⟩ := gd_e hf
    replace z_3 := nz_e z_3
    refine xg_0s X hW xm_999 z_3 dX0_triesPushes_62 ?_
    refine xg_1000 X hW xm_1999 dX0_triesPushes_65 ?_
    refine lv_imul hx hb dX0_triesPushes_68 ?_
    refine lv_icmp_ge (tgt := 187) hx hb dX0_triesPushes_69 (by decide) (fun c_4 => ?_) (fun c_4 => ?_)
    · replace hf := ip hf c_4
      exact hK _ _ _ _ hW (lv_sub hl [] rfl) hf
    · replace hf := ine hf c_4
      refine lv_iload hx hb dX0_triesPushes_72 (lv_at hl 4 rfl) ?_
      refine lv_iconst (v := (-1)) hx hb dX0_triesPushes_74 (by decide) ?_
      refine lv_icmp_eq (tgt := 95) hx hb dX0_triesPushes_75 (by decide) (fun c_5 => ?_) (fun c_5 => ?_)
      · replace hf := ip hf c_5
        refine lv_aload_n hx hb dX0_triesPushes_95 rfl (lv_at hl 0 rfl) ?_
        refine xg_3 X hW xm_999 dX0_triesPushes_96 ?_
        refine lv_iload_n hx hb dX0_triesPushes_99 rfl (lv_at hl 1 rfl) ?_
        refine lv_iconst (v := 1) hx hb dX0_triesPushes_100 (by decide) ?_
        refine r_iaddv (v := 2) hx hb dX0_triesPushes_101 (by decide) ?_
        refine r_aald X hW (t0 := 4) xm_3 rfl rfl (by decide) (v := .ref (ad 5999)) rfl dX0_triesPushes_102 ?_
        refine lv_aload_n hx hb dX0_triesPushes_103 rfl (lv_at hl 0 rfl) ?_
        refine xg_3 X hW xm_999 dX0_triesPushes_104 ?_
        refine lv_iload_n hx hb dX0_triesPushes_107 rfl (lv_at hl 1 rfl) ?_
        refine r_aald X hW (t0 := 4) xm_3 rfl rfl (by decide) (v := .ref (ad 4999)) rfl dX0_triesPushes_108 ?_
        obtain ⟨σ_7, h_6, hf⟩ := bd_e hf
        refine kx_standsAs X hW had (b := 5000) (c2 := 4000) (by decide) (by decide) (by decide) h_6 (by decide) hl (Nat.le_of_ble_eq_true rfl) dX0_triesPushes_109 (fun H locs hW => ?_)
        refine lv_astore (lv' := [(5, .ref (ad 5999)), (0, .ref (ad 999)), (1, .int 1), (2, .int v2), (3, .int v3), (4, .int v4)]) hx hb dX0_triesPushes_112 hl (by decide) rfl (fun ls hl => ?_)
        refine lv_iload hx hb dX0_triesPushes_114 (lv_at hl 5 rfl) ?_
        refine lv_iconst (v := (-1)) hx hb dX0_triesPushes_116 (by decide) ?_
        obtain ⟨σ_8, hD_9, hf⟩ := bd_e hf
        have hJ : ∀ (H : Heap) (locs : List Loc) (ls : Array Slot), WB g A s.heap xIds ad (xE g ad q σ_8) H locs → lv_has ls 6 [(0, .ref (ad 999)), (1, .int 1), (2, .int v2), (3, .int v3), (4, .int v4), (5, .ref (ad 5999))] → W p l e (rm_ 409 16417) s m args below meth c H locs 0 0 Q (F0 m 142 ls []) := by
          intro H locs ls hW hl
          refine lv_aload hx hb dX0_triesPushes_142 (lv_at hl 5 rfl) ?_
          refine lv_aload_n hx hb dX0_triesPushes_144 rfl (lv_at hl 0 rfl) ?_
          obtain ⟨R_11, h_10, hf⟩ := bd_e hf
          refine kx_law X hW had hrs h_10 (by decide) hl (Nat.le_of_ble_eq_true rfl) dX0_triesPushes_145 (fun q_R_11 hq_R_11 H locs hW => ?_)
          obtain ⟨⟨σ_14, r_13⟩, h_12, hf⟩ := bd_e hf
          refine kx_goes X hW had (b := 5000) (by decide) hq_R_11 h_12 (by decide) hl (Nat.le_of_ble_eq_true rfl) dX0_triesPushes_148 (fun H locs hW => ?_)
          refine lv_pop hx hb dX0_triesPushes_151 rfl ?_
          refine lv_aload_n hx hb dX0_triesPushes_152 rfl (lv_at hl 0 rfl) ?_
          refine xg_16 X hW xm_999 dX0_triesPushes_153 ?_
          refine lv_iload_n hx hb dX0_triesPushes_156 rfl (lv_at hl 1 rfl) ?_
          refine lv_iload hx hb dX0_triesPushes_157 (lv_at hl 4 rfl) ?_
          obtain ⟨σ_15, e_16, hf⟩ := nmb_e hf
          rw [← e_16] at hW
          clear e_16
          refine xs_16 X hW xm_16 (by decide) dX0_triesPushes_159 (fun H locs hW => ?_)
          refine lv_aload_n hx hb dX0_triesPushes_160 rfl (lv_at hl 0 rfl) ?_
          refine lv_iload_n hx hb dX0_triesPushes_161 rfl (lv_at hl 1 rfl) ?_
          refine lv_iconst (v := 1) hx hb dX0_triesPushes_162 (by decide) ?_
          refine r_iaddv (v := 2) hx hb dX0_triesPushes_163 (by decide) ?_
          refine lv_iload_n hx hb dX0_triesPushes_164 rfl (lv_at hl 2 rfl) ?_
          refine lv_iload hx hb dX0_triesPushes_165 (lv_at hl 4 rfl) ?_
          refine lv_iconst (v := (-1)) hx hb dX0_triesPushes_167 (by decide) ?_
          refine lv_icmp_ne (tgt := 175) hx hb dX0_triesPushes_168 (by decide) (fun c_17 => ?_) (fun c_17 => ?_)
          · replace hf := ine hf c_17
            refine lv_iload_n hx hb dX0_triesPushes_175 rfl (lv_at hl 3 rfl) ?_
            refine lv_iconst (v := 1) hx hb dX0_triesPushes_176 (by decide) ?_
            refine lv_iadd hx hb dX0_triesPushes_177 ?_
            obtain ⟨σ_19, h_18, hf⟩ := bd_e hf
            refine kx_triesPushes_2 X hW had hrs h_18 (by decide) hl (Nat.le_of_ble_eq_true rfl) dX0_triesPushes_178 (fun H locs hW => ?_)
            refine lv_iinc (v := (v4 + 1)) (lv' := [(4, .int (v4 + 1)), (0, .ref (ad 999)), (1, .int 1), (2, .int v2), (3, .int v3), (5, .ref (ad 5999))]) hx hb dX0_triesPushes_181 hl (k := 4) rfl (ii_v _ _ _ (by decide)) (by decide) rfl (fun ls hl => ?_)
            refine lv_goto (tgt := 58) hx hb dX0_triesPushes_184 (by decide) ?_
            exact ih _ _ _ _ _ hW (lv_sub hl [1, 2, 3, 4, 0] rfl) hf
          · replace hf := ip hf c_17
            refine lv_iload_n hx hb dX0_triesPushes_171 rfl (lv_at hl 3 rfl) ?_
            refine lv_goto (tgt := 178) hx hb dX0_triesPushes_172 (by decide) ?_
            obtain ⟨σ_21, h_20, hf⟩ := bd_e hf
            refine kx_triesPushes_2 X hW had hrs h_20 (by decide) hl (Nat.le_of_ble_eq_true rfl) dX0_triesPushes_178 (fun H locs hW => ?_)
            refine lv_iinc (v := (v4 + 1)) (lv' := [(4, .int (v4 + 1)), (0, .ref (ad 999)), (1, .int 1), (2, .int v2), (3, .int v3), (5, .ref (ad 5999))]) hx hb dX0_triesPushes_181 hl (k := 4) rfl (ii_v _ _ _ (by decide)) (by decide) rfl (fun ls hl => ?_)
            refine lv_goto (tgt := 58) hx hb dX0_triesPushes_184 (by decide) ?_
            exact ih _ _ _ _ _ hW (lv_sub hl [1, 2, 3, 4, 0] rfl) hf
        clear hf
        refine lv_icmp_eq (tgt := 142) hx hb dX0_triesPushes_117 (by decide) (fun c_22 => ?_) (fun c_22 => ?_)
        · replace hD_9 := ip hD_9 c_22
          cases hD_9
          exact hJ _ _ _ hW (lv_sub hl [1, 2, 3, 4, 5, 0] rfl)
        · replace hD_9 := ine hD_9 c_22
          refine lv_aload hx hb dX0_triesPushes_120 (lv_at hl 0 rfl) ?_
          refine lv_iload hx hb dX0_triesPushes_122 (lv_at hl 5 rfl) ?_
          refine lv_iconst (v := 2) hx hb dX0_triesPushes_124 (by decide) ?_
          refine lv_idiv hx hb dX0_triesPushes_125 (by decide) ?_
          refine lv_iload hx hb dX0_triesPushes_126 (lv_at hl 5 rfl) ?_
          refine lv_iconst (v := 2) hx hb dX0_triesPushes_128 (by decide) ?_
          refine lv_irem hx hb dX0_triesPushes_129 (by decide) ?_
          refine lv_if_ne (tgt := 138) hx hb dX0_triesPushes_130 (by decide) (fun c_23 => ?_) (fun c_23 => ?_)
          · replace hD_9 := ine hD_9 c_23
            refine lv_iconst (v := 2) hx hb dX0_triesPushes_138 (by decide) ?_
            obtain ⟨σ_25, h_24, hD_9⟩ := bd_e hD_9
            refine kx_pushes X hW had (b := 5000) (by decide) h_24 (by decide) hl (Nat.le_of_ble_eq_true rfl) dX0_triesPushes_139 (fun H locs hW => ?_)
            cases hD_9
            exact hJ _ _ _ hW (lv_sub hl [1, 2, 3, 4, 5, 0] rfl)
          · replace hD_9 := ip hD_9 c_23
            refine lv_bipush (v := (-2)) hx hb dX0_triesPushes_133 (by decide) ?_
            refine lv_goto (tgt := 139) hx hb dX0_triesPushes_135 (by decide) ?_
            obtain ⟨σ_27, h_26, hD_9⟩ := bd_e hD_9
            refine kx_pushes X hW had (b := 5000) (by decide) h_26 (by decide) hl (Nat.le_of_ble_eq_true rfl) dX0_triesPushes_139 (fun H locs hW => ?_)
            cases hD_9
            exact hJ _ _ _ hW (lv_sub hl [1, 2, 3, 4, 5, 0] rfl)
      · replace hf := ine hf c_5
        refine lv_aload_n hx hb dX0_triesPushes_78 rfl (lv_at hl 0 rfl) ?_
        refine xg_0s X hW xm_999 z_3 dX0_triesPushes_79 ?_
        refine lv_iload hx hb dX0_triesPushes_82 (lv_at hl 4 rfl) ?_
        refine lv_iconst (v := 2) hx hb dX0_triesPushes_84 (by decide) ?_
        refine lv_idiv hx hb dX0_triesPushes_85 (by decide) ?_
        obtain ⟨r_29, h_28, hf⟩ := bd_e hf
        refine kx_isBaked X hW had (b := 1000) (by decide) h_28 (by decide) hl (Nat.le_of_ble_eq_true rfl) dX0_triesPushes_86 (fun H locs hW => ?_)
        refine lv_if_eq (tgt := 95) hx hb dX0_triesPushes_89 (by decide) (fun c_30 => ?_) (fun c_30 => ?_)
        · replace hf := ip hf c_30
          refine lv_aload_n hx hb dX0_triesPushes_95 rfl (lv_at hl 0 rfl) ?_
          refine xg_3 X hW xm_999 dX0_triesPushes_96 ?_
          refine lv_iload_n hx hb dX0_triesPushes_99 rfl (lv_at hl 1 rfl) ?_
          refine lv_iconst (v := 1) hx hb dX0_triesPushes_100 (by decide) ?_
          refine r_iaddv (v := 2) hx hb dX0_triesPushes_101 (by decide) ?_
          refine r_aald X hW (t0 := 4) xm_3 rfl rfl (by decide) (v := .ref (ad 5999)) rfl dX0_triesPushes_102 ?_
          refine lv_aload_n hx hb dX0_triesPushes_103 rfl (lv_at hl 0 rfl) ?_
          refine xg_3 X hW xm_999 dX0_triesPushes_104 ?_
          refine lv_iload_n hx hb dX0_triesPushes_107 rfl (lv_at hl 1 rfl) ?_
          refine r_aald X hW (t0 := 4) xm_3 rfl rfl (by decide) (v := .ref (ad 4999)) rfl dX0_triesPushes_108 ?_
          obtain ⟨σ_32, h_31, hf⟩ := bd_e hf
          refine kx_standsAs X hW had (b := 5000) (c2 := 4000) (by decide) (by decide) (by decide) h_31 (by decide) hl (Nat.le_of_ble_eq_true rfl) dX0_triesPushes_109 (fun H locs hW => ?_)
          refine lv_astore (lv' := [(5, .ref (ad 5999)), (0, .ref (ad 999)), (1, .int 1), (2, .int v2), (3, .int v3), (4, .int v4)]) hx hb dX0_triesPushes_112 hl (by decide) rfl (fun ls hl => ?_)
          refine lv_iload hx hb dX0_triesPushes_114 (lv_at hl 5 rfl) ?_
          refine lv_iconst (v := (-1)) hx hb dX0_triesPushes_116 (by decide) ?_
          obtain ⟨σ_33, hD_34, hf⟩ := bd_e hf
          have hJ : ∀ (H : Heap) (locs : List Loc) (ls : Array Slot), WB g A s.heap xIds ad (xE g ad q σ_33) H locs → lv_has ls 6 [(0, .ref (ad 999)), (1, .int 1), (2, .int v2), (3, .int v3), (4, .int v4), (5, .ref (ad 5999))] → W p l e (rm_ 409 16417) s m args below meth c H locs 0 0 Q (F0 m 142 ls []) := by
            intro H locs ls hW hl
            refine lv_aload hx hb dX0_triesPushes_142 (lv_at hl 5 rfl) ?_
            refine lv_aload_n hx hb dX0_triesPushes_144 rfl (lv_at hl 0 rfl) ?_
            obtain ⟨R_36, h_35, hf⟩ := bd_e hf
            refine kx_law X hW had hrs h_35 (by decide) hl (Nat.le_of_ble_eq_true rfl) dX0_triesPushes_145 (fun q_R_36 hq_R_36 H locs hW => ?_)
            obtain ⟨⟨σ_39, r_38⟩, h_37, hf⟩ := bd_e hf
            refine kx_goes X hW had (b := 5000) (by decide) hq_R_36 h_37 (by decide) hl (Nat.le_of_ble_eq_true rfl) dX0_triesPushes_148 (fun H locs hW => ?_)
            refine lv_pop hx hb dX0_triesPushes_151 rfl ?_
            refine lv_aload_n hx hb dX0_triesPushes_152 rfl (lv_at hl 0 rfl) ?_
            refine xg_16 X hW xm_999 dX0_triesPushes_153 ?_
            refine lv_iload_n hx hb dX0_triesPushes_156 rfl (lv_at hl 1 rfl) ?_
            refine lv_iload hx hb dX0_triesPushes_157 (lv_at hl 4 rfl) ?_
            obtain ⟨σ_40, e_41, hf⟩ := nmb_e hf
            rw [← e_41] at hW
            clear e_41
            refine xs_16 X hW xm_16 (by decide) dX0_triesPushes_159 (fun H locs hW => ?_)
            refine lv_aload_n hx hb dX0_triesPushes_160 rfl (lv_at hl 0 rfl) ?_
            refine lv_iload_n hx hb dX0_triesPushes_161 rfl (lv_at hl 1 rfl) ?_
            refine lv_iconst (v := 1) hx hb dX0_triesPushes_162 (by decide) ?_
            refine r_iaddv (v := 2) hx hb dX0_triesPushes_163 (by decide) ?_
            refine lv_iload_n hx hb dX0_triesPushes_164 rfl (lv_at hl 2 rfl) ?_
            refine lv_iload hx hb dX0_triesPushes_165 (lv_at hl 4 rfl) ?_
            refine lv_iconst (v := (-1)) hx hb dX0_triesPushes_167 (by decide) ?_
            refine lv_icmp_ne (tgt := 175) hx hb dX0_triesPushes_168 (by decide) (fun c_42 => ?_) (fun c_42 => ?_)
            · replace hf := ine hf c_42
              refine lv_iload_n hx hb dX0_triesPushes_175 rfl (lv_at hl 3 rfl) ?_
              refine lv_iconst (v := 1) hx hb dX0_triesPushes_176 (by decide) ?_
              refine lv_iadd hx hb dX0_triesPushes_177 ?_
              obtain ⟨σ_44, h_43, hf⟩ := bd_e hf
              refine kx_triesPushes_2 X hW had hrs h_43 (by decide) hl (Nat.le_of_ble_eq_true rfl) dX0_triesPushes_178 (fun H locs hW => ?_)
              refine lv_iinc (v := (v4 + 1)) (lv' := [(4, .int (v4 + 1)), (0, .ref (ad 999)), (1, .int 1), (2, .int v2), (3, .int v3), (5, .ref (ad 5999))]) hx hb dX0_triesPushes_181 hl (k := 4) rfl (ii_v _ _ _ (by decide)) (by decide) rfl (fun ls hl => ?_)
              refine lv_goto (tgt := 58) hx hb dX0_triesPushes_184 (by decide) ?_
              exact ih _ _ _ _ _ hW (lv_sub hl [1, 2, 3, 4, 0] rfl) hf
            · replace hf := ip hf c_42
              refine lv_iload_n hx hb dX0_triesPushes_171 rfl (lv_at hl 3 rfl) ?_
              refine lv_goto (tgt := 178) hx hb dX0_triesPushes_172 (by decide) ?_
              obtain ⟨σ_46, h_45, hf⟩ := bd_e hf
              refine kx_triesPushes_2 X hW had hrs h_45 (by decide) hl (Nat.le_of_ble_eq_true rfl) dX0_triesPushes_178 (fun H locs hW => ?_)
              refine lv_iinc (v := (v4 + 1)) (lv' := [(4, .int (v4 + 1)), (0, .ref (ad 999)), (1, .int 1), (2, .int v2), (3, .int v3), (5, .ref (ad 5999))]) hx hb dX0_triesPushes_181 hl (k := 4) rfl (ii_v _ _ _ (by decide)) (by decide) rfl (fun ls hl => ?_)
              refine lv_goto (tgt := 58) hx hb dX0_triesPushes_184 (by decide) ?_
              exact ih _ _ _ _ _ hW (lv_sub hl [1, 2, 3, 4, 0] rfl) hf
          clear hf
          refine lv_icmp_eq (tgt := 142) hx hb dX0_triesPushes_117 (by decide) (fun c_47 => ?_) (fun c_47 => ?_)
          · replace hD_34 := ip hD_34 c_47
            cases hD_34
            exact hJ _ _ _ hW (lv_sub hl [1, 2, 3, 4, 5, 0] rfl)
          · replace hD_34 := ine hD_34 c_47
            refine lv_aload hx hb dX0_triesPushes_120 (lv_at hl 0 rfl) ?_
            refine lv_iload hx hb dX0_triesPushes_122 (lv_at hl 5 rfl) ?_
            refine lv_iconst (v := 2) hx hb dX0_triesPushes_124 (by decide) ?_
            refine lv_idiv hx hb dX0_triesPushes_125 (by decide) ?_
            refine lv_iload hx hb dX0_triesPushes_126 (lv_at hl 5 rfl) ?_
            refine lv_iconst (v := 2) hx hb dX0_triesPushes_128 (by decide) ?_
            refine lv_irem hx hb dX0_triesPushes_129 (by decide) ?_
            refine lv_if_ne (tgt := 138) hx hb dX0_triesPushes_130 (by decide) (fun c_48 => ?_) (fun c_48 => ?_)
            · replace hD_34 := ine hD_34 c_48
              refine lv_iconst (v := 2) hx hb dX0_triesPushes_138 (by decide) ?_
              obtain ⟨σ_50, h_49, hD_34⟩ := bd_e hD_34
              refine kx_pushes X hW had (b := 5000) (by decide) h_49 (by decide) hl (Nat.le_of_ble_eq_true rfl) dX0_triesPushes_139 (fun H locs hW => ?_)
              cases hD_34
              exact hJ _ _ _ hW (lv_sub hl [1, 2, 3, 4, 5, 0] rfl)
            · replace hD_34 := ip hD_34 c_48
              refine lv_bipush (v := (-2)) hx hb dX0_triesPushes_133 (by decide) ?_
              refine lv_goto (tgt := 139) hx hb dX0_triesPushes_135 (by decide) ?_
              obtain ⟨σ_52, h_51, hD_34⟩ := bd_e hD_34
              refine kx_pushes X hW had (b := 5000) (by decide) h_51 (by decide) hl (Nat.le_of_ble_eq_true rfl) dX0_triesPushes_139 (fun H locs hW => ?_)
              cases hD_34
              exact hJ _ _ _ hW (lv_sub hl [1, 2, 3, 4, 5, 0] rfl)
        · replace hf := ine hf c_30
          refine lv_goto (tgt := 181) hx hb dX0_triesPushes_92 (by decide) ?_
          refine lv_iinc (v := (v4 + 1)) (lv' := [(4, .int (v4 + 1)), (0, .ref (ad 999)), (1, .int 1), (2, .int v2), (3, .int v3)]) hx hb dX0_triesPushes_181 hl (k := 4) rfl (ii_v _ _ _ (by decide)) (by decide) rfl (fun ls hl => ?_)
          refine lv_goto (tgt := 58) hx hb dX0_triesPushes_184 (by decide) ?_
          exact ih _ _ _ _ _ hW (lv_sub hl [1, 2, 3, 4, 0] rfl) hf
noncomputable def x_triesPushes_1 (σ : cS) (rs : List RS) (v2 : Int32) (v3 : Int32) : Option (cS) :=
  if (σ.1 999 18) = (-1) then (if 1 = v2 then (((d_areWants (vw σ 4000)).bind fun r_55 => if r_55 = 0 then (some σ) else (nmb (si σ 999 18 v3) fun σ_57 => (some (sA σ_57 17 (va_cpy (σ_57.1 16) (σ_57.1 17) (ix 0) (ix 0) (ix 3))))))) else (x_triesPushes_1_58 rs v2 v3 (fun σ_53 => (some σ_53)) FU σ (-1))) else (if v3 < (σ.1 999 18) then (if 1 = v2 then (((d_areWants (vw σ 4000)).bind fun r_63 => if r_63 = 0 then (some σ) else (nmb (si σ 999 18 v3) fun σ_65 => (some (sA σ_65 17 (va_cpy (σ_65.1 16) (σ_65.1 17) (ix 0) (ix 0) (ix 3))))))) else (x_triesPushes_1_58 rs v2 v3 (fun σ_61 => (some σ_61)) FU σ (-1))) else (some σ))
set_option maxHeartbeats 4000000 in
theorem wb_x_triesPushes_1 {p : Program} {l : Launch} {e : Env} {s : State} {m : MethodId} {args : Array Value} {below : List Frame} {meth : Method} {c : Code} {g : gG} {A : Nat → Prop} {ad : Nat → Nat} {q : xR} (X : MX p s m args meth c cX0_triesPushes 6 RX0 none g A) (had : xI_ ad) {rs : List RS} (hrs : RSok q.1 g rs) {σr : cS}  {σ : cS} {v2 : Int32} {v3 : Int32} {H : Heap} {locs : List Loc} {ls : Array Slot} (hW : WB g A s.heap xIds ad (xE g ad q σ) H locs) (hl : lv_has ls 6 [(0, .ref (ad 999)), (1, .int 1), (2, .int v2), (3, .int v3)]) (hf : x_triesPushes_1 σ rs v2 v3 = some σr) : W p l e (rm_ 409 16417) s m args below meth c H locs 0 0 (Qm below g xIds ad (xE g ad q σr) none A args s) (F0 m 0 ls []) := by
  have hx := X.1.1
  have hb := X.1.2.1
  unfold x_triesPushes_1 at hf
  refine lv_aload_n hx hb dX0_triesPushes_0 rfl (lv_at hl 0 rfl) ?_
  refine xg_18 X hW xm_999 dX0_triesPushes_1 ?_
  refine lv_iconst (v := (-1)) hx hb dX0_triesPushes_4 (by decide) ?_
  refine lv_icmp_eq (tgt := 17) hx hb dX0_triesPushes_5 (by decide) (fun c_1 => ?_) (fun c_1 => ?_)
  · replace hf := ip hf c_1
    refine lv_iload_n hx hb dX0_triesPushes_17 rfl (lv_at hl 1 rfl) ?_
    refine lv_iload_n hx hb dX0_triesPushes_18 rfl (lv_at hl 2 rfl) ?_
    refine lv_icmp_ne (tgt := 55) hx hb dX0_triesPushes_19 (by decide) (fun c_2 => ?_) (fun c_2 => ?_)
    · replace hf := ine hf c_2
      refine lv_iconst (v := (-1)) hx hb dX0_triesPushes_55 (by decide) ?_
      refine lv_istore (lv' := [(4, .int (-1)), (0, .ref (ad 999)), (1, .int 1), (2, .int v2), (3, .int v3)]) hx hb dX0_triesPushes_56 hl (by decide) rfl (fun ls hl => ?_)
      refine wx_triesPushes_1_58 X had hrs (fun σ_53 H locs ls hW hl hf => ?_) _ _ _ _ _ _ hW (lv_sub hl [1, 2, 3, 4, 0] rfl) hf
      exact x_vret X hW hf dX0_triesPushes_187
    · replace hf := ip hf c_2
      refine lv_aload_n hx hb dX0_triesPushes_22 rfl (lv_at hl 0 rfl) ?_
      refine xg_3 X hW xm_999 dX0_triesPushes_23 ?_
      refine lv_iload_n hx hb dX0_triesPushes_26 rfl (lv_at hl 1 rfl) ?_
      refine r_aald X hW (t0 := 4) xm_3 rfl rfl (by decide) (v := .ref (ad 4999)) rfl dX0_triesPushes_27 ?_
      obtain ⟨r_55, h_54, hf⟩ := bd_e hf
      refine kx_areWants X hW had (b := 4000) (by decide) h_54 (by decide) hl (Nat.le_of_ble_eq_true rfl) dX0_triesPushes_28 (fun H locs hW => ?_)
      refine lv_if_ne (tgt := 35) hx hb dX0_triesPushes_31 (by decide) (fun c_56 => ?_) (fun c_56 => ?_)
      · replace hf := ine hf c_56
        refine lv_aload_n hx hb dX0_triesPushes_35 rfl (lv_at hl 0 rfl) ?_
        refine lv_iload_n hx hb dX0_triesPushes_36 rfl (lv_at hl 3 rfl) ?_
        refine xp_18 X hW xm_999 dX0_triesPushes_37 (fun H locs hW => ?_)
        refine lv_aload_n hx hb dX0_triesPushes_40 rfl (lv_at hl 0 rfl) ?_
        refine xg_16 X hW xm_999 dX0_triesPushes_41 ?_
        refine lv_iconst (v := 0) hx hb dX0_triesPushes_44 (by decide) ?_
        refine lv_aload_n hx hb dX0_triesPushes_45 rfl (lv_at hl 0 rfl) ?_
        refine xg_17 X hW xm_999 dX0_triesPushes_46 ?_
        refine lv_iconst (v := 0) hx hb dX0_triesPushes_49 (by decide) ?_
        refine lv_iconst (v := 3) hx hb dX0_triesPushes_50 (by decide) ?_
        obtain ⟨σ_57, e_58, hf⟩ := nmb_e hf
        rw [← e_58] at hW
        clear e_58
        refine x_copy X hW hl q852 (by decide) (Nat.le_of_ble_eq_true rfl) xm_16 xm_17 rfl rfl (fun _ => rfl) (by decide) dX0_triesPushes_51 (fun H locs hW => ?_)
        exact x_vret X hW hf dX0_triesPushes_54
      · replace hf := ip hf c_56
        exact x_vret X hW hf dX0_triesPushes_34
  · replace hf := ine hf c_1
    refine lv_iload_n hx hb dX0_triesPushes_8 rfl (lv_at hl 3 rfl) ?_
    refine lv_aload_n hx hb dX0_triesPushes_9 rfl (lv_at hl 0 rfl) ?_
    refine xg_18 X hW xm_999 dX0_triesPushes_10 ?_
    refine lv_icmp_lt (tgt := 17) hx hb dX0_triesPushes_13 (by decide) (fun c_59 => ?_) (fun c_59 => ?_)
    · replace hf := ip hf c_59
      refine lv_iload_n hx hb dX0_triesPushes_17 rfl (lv_at hl 1 rfl) ?_
      refine lv_iload_n hx hb dX0_triesPushes_18 rfl (lv_at hl 2 rfl) ?_
      refine lv_icmp_ne (tgt := 55) hx hb dX0_triesPushes_19 (by decide) (fun c_60 => ?_) (fun c_60 => ?_)
      · replace hf := ine hf c_60
        refine lv_iconst (v := (-1)) hx hb dX0_triesPushes_55 (by decide) ?_
        refine lv_istore (lv' := [(4, .int (-1)), (0, .ref (ad 999)), (1, .int 1), (2, .int v2), (3, .int v3)]) hx hb dX0_triesPushes_56 hl (by decide) rfl (fun ls hl => ?_)
        refine wx_triesPushes_1_58 X had hrs (fun σ_61 H locs ls hW hl hf => ?_) _ _ _ _ _ _ hW (lv_sub hl [1, 2, 3, 4, 0] rfl) hf
        exact x_vret X hW hf dX0_triesPushes_187
      · replace hf := ip hf c_60
        refine lv_aload_n hx hb dX0_triesPushes_22 rfl (lv_at hl 0 rfl) ?_
        refine xg_3 X hW xm_999 dX0_triesPushes_23 ?_
        refine lv_iload_n hx hb dX0_triesPushes_26 rfl (lv_at hl 1 rfl) ?_
        refine r_aald X hW (t0 := 4) xm_3 rfl rfl (by decide) (v := .ref (ad 4999)) rfl dX0_triesPushes_27 ?_
        obtain ⟨r_63, h_62, hf⟩ := bd_e hf
        refine kx_areWants X hW had (b := 4000) (by decide) h_62 (by decide) hl (Nat.le_of_ble_eq_true rfl) dX0_triesPushes_28 (fun H locs hW => ?_)
        refine lv_if_ne (tgt := 35) hx hb dX0_triesPushes_31 (by decide) (fun c_64 => ?_) (fun c_64 => ?_)
        · replace hf := ine hf c_64
          refine lv_aload_n hx hb dX0_triesPushes_35 rfl (lv_at hl 0 rfl) ?_
          refine lv_iload_n hx hb dX0_triesPushes_36 rfl (lv_at hl 3 rfl) ?_
          refine xp_18 X hW xm_999 dX0_triesPushes_37 (fun H locs hW => ?_)
          refine lv_aload_n hx hb dX0_triesPushes_40 rfl (lv_at hl 0 rfl) ?_
          refine xg_16 X hW xm_999 dX0_triesPushes_41 ?_
          refine lv_iconst (v := 0) hx hb dX0_triesPushes_44 (by decide) ?_
          refine lv_aload_n hx hb dX0_triesPushes_45 rfl (lv_at hl 0 rfl) ?_
          refine xg_17 X hW xm_999 dX0_triesPushes_46 ?_
          refine lv_iconst (v := 0) hx hb dX0_triesPushes_49 (by decide) ?_
          refine lv_iconst (v := 3) hx hb dX0_triesPushes_50 (by decide) ?_
          obtain ⟨σ_65, e_66, hf⟩ := nmb_e hf
          rw [← e_66] at hW
          clear e_66
          refine x_copy X hW hl q852 (by decide) (Nat.le_of_ble_eq_true rfl) xm_16 xm_17 rfl rfl (fun _ => rfl) (by decide) dX0_triesPushes_51 (fun H locs hW => ?_)
          exact x_vret X hW hf dX0_triesPushes_54
        · replace hf := ip hf c_64
          exact x_vret X hW hf dX0_triesPushes_34
    · replace hf := ine hf c_59
      exact x_vret X hW hf dX0_triesPushes_16
theorem w_x_triesPushes_1 (l : Launch) {g : gG} {ad : Nat → Nat} {q : xR} (had : xI_ ad) {rs : List RS} (hrs : RSok q.1 g rs) {σr : cS}  {σ : cS} {v2 : Int32} {v3 : Int32} (hf : x_triesPushes_1 σ rs v2 v3 = some σr) : MC l yX0_triesPushes cX0_triesPushes 6 none 409 16417 g xIds ad (xE g ad q σ) (xE g ad q σr) [.ref (ad 999), .int 1, .int v2, .int v3] none :=
  MC.of (by decide) xIds_nd had (Nat.le_of_ble_eq_true rfl) (fun p e s m below meth c A ls X hW hl => wb_x_triesPushes_1 X had hrs hW hl hf)
theorem kx_triesPushes_1 {p : Program} {l : Launch} {e : Env} {R : Room} {s : State} {m : MethodId} {args : Array Value} {below : List Frame} {meth : Method} {c : Code} {H : Heap} {locs : List Loc} {Q : State → Prop} {cc : ByteArray} {nL : Nat} {ret : Option FieldType} {g : gG} {A : Nat → Prop} {ad : Nat → Nat} {q : xR} {pc : Nat} {ls : Array Slot} {rest : List Value} {lv : List (Nat × Value)} {σr : cS}  {σ : cS} {v2 : Int32} {v3 : Int32} (X : MX p s m args meth c cc nL RX0 ret g A) (hW : WB g A s.heap xIds ad (xE g ad q σ) H locs) (had : xI_ ad) {rs : List RS} (hrs : RSok q.1 g rs) (hf : x_triesPushes_1 σ rs v2 v3 = some σr) (hR : 410 ≤ R.frames ∧ 16442 ≤ R.locals) (hl : lv_has ls nL lv) (hcat : (rest.map fun v => v.category).sum ≤ 8) (hdg : decode cc pc = .ok (.invokevirtual 270, 3)) (kk : ∀ (H1 : Heap) (l1 : List Loc), WB g A s.heap xIds ad (xE g ad q σr) H1 l1 → W p l e R s m args below meth c H1 l1 0 0 Q (F0 m (pc + 3) ls (rest))) : W p l e R s m args below meth c H locs 0 0 Q (F0 m pc ls (.int v3 :: .int v2 :: .int 1 :: .ref (ad 999) :: rest)) :=
  r_callV X hW Sub.all (w_x_triesPushes_1 l had hrs hf) (lw_V q1008 q1010 qs37 q120 q1011) ⟨rfl, by decide, by decide, by decide +kernel⟩ xm_999 rfl rfl (n := 3) hR hl rfl rfl hcat ⟨Nat.zero_le _, Nat.zero_le _⟩ hdg kk
-- triesPushes_0
noncomputable def x_triesPushes_0_58 {ρ : Type} (rs : List RS) (v2 : Int32) (v3 : Int32) (K : cS → Option ρ) : Nat → cS → Int32 → Option ρ
  | 0, _, _ => none
  | n + 1, σ, v4 => gd (nz (σ.1 999 0)) (if (2 * (σ.1 1999 0)) ≤ v4 then (K σ) else (if v4 = (-1) then (((d_standsAs (vw2 σ 4000 3000)).bind fun σ_7 => ((if v4 = (-1) then (some ((pb2 σ 4000 3000 σ_7))) else (if (v4 - v4 / 2 * 2) = 0 then (((d_pushes (vw (pb2 σ 4000 3000 σ_7) 4000) (v4 / 2) (-2)).bind fun σ_27 => some ((pb (pb2 σ 4000 3000 σ_7) 4000 σ_27)))) else (((d_pushes (vw (pb2 σ 4000 3000 σ_7) 4000) (v4 / 2) 2).bind fun σ_25 => some ((pb (pb2 σ 4000 3000 σ_7) 4000 σ_25))))) : Option (cS)).bind fun σ_8 => (((x_law σ_8 rs).bind fun R_11 => ((d_goes (vw σ_8 4000) R_11).bind fun (σ_14, r_13) => nmb (pb σ_8 4000 σ_14) fun σ_15 => (if v4 = (-1) then (((x_triesPushes_1 (si σ_15 16 (ix 0) v4) rs v2 v3).bind fun σ_21 => x_triesPushes_0_58 rs v2 v3 K n σ_21 (v4 + 1))) else (((x_triesPushes_1 (si σ_15 16 (ix 0) v4) rs v2 (v3 + 1)).bind fun σ_19 => x_triesPushes_0_58 rs v2 v3 K n σ_19 (v4 + 1)))))))))) else (((d_isBaked (vw σ 1000) (v4 / 2)).bind fun r_29 => if r_29 = 0 then (((d_standsAs (vw2 σ 4000 3000)).bind fun σ_32 => ((if v4 = (-1) then (some ((pb2 σ 4000 3000 σ_32))) else (if (v4 - v4 / 2 * 2) = 0 then (((d_pushes (vw (pb2 σ 4000 3000 σ_32) 4000) (v4 / 2) (-2)).bind fun σ_52 => some ((pb (pb2 σ 4000 3000 σ_32) 4000 σ_52)))) else (((d_pushes (vw (pb2 σ 4000 3000 σ_32) 4000) (v4 / 2) 2).bind fun σ_50 => some ((pb (pb2 σ 4000 3000 σ_32) 4000 σ_50))))) : Option (cS)).bind fun σ_33 => (((x_law σ_33 rs).bind fun R_36 => ((d_goes (vw σ_33 4000) R_36).bind fun (σ_39, r_38) => nmb (pb σ_33 4000 σ_39) fun σ_40 => (if v4 = (-1) then (((x_triesPushes_1 (si σ_40 16 (ix 0) v4) rs v2 v3).bind fun σ_46 => x_triesPushes_0_58 rs v2 v3 K n σ_46 (v4 + 1))) else (((x_triesPushes_1 (si σ_40 16 (ix 0) v4) rs v2 (v3 + 1)).bind fun σ_44 => x_triesPushes_0_58 rs v2 v3 K n σ_44 (v4 + 1)))))))))) else (x_triesPushes_0_58 rs v2 v3 K n σ (v4 + 1))))))
set_option maxHeartbeats 4000000 in
theorem wx_triesPushes_0_58 {p : Program} {l : Launch} {e : Env} {s : State} {m : MethodId} {args : Array Value} {below : List Frame} {meth : Method} {c : Code} {g : gG} {A : Nat → Prop} {ad : Nat → Nat} {q : xR} (X : MX p s m args meth c cX0_triesPushes 6 RX0 none g A) (had : xI_ ad) {rs : List RS} (hrs : RSok q.1 g rs) {ρ : Type} {res : ρ} {Q : State → Prop} {v2 : Int32} {v3 : Int32}  {K : cS → Option ρ}
    (hK : ∀ (σ : cS) (H : Heap) (locs : List Loc) (ls : Array Slot), WB g A s.heap xIds ad (xE g ad q σ) H locs → lv_has ls 6 [] → K σ = some res → W p l e (rm_ 410 16442) s m args below meth c H locs 0 0 Q (F0 m 187 ls [])) :
    ∀ (n : Nat) (σ : cS) (v4 : Int32) (H : Heap) (locs : List Loc) (ls : Array Slot), WB g A s.heap xIds ad (xE g ad q σ) H locs → lv_has ls 6 [(0, .ref (ad 999)), (1, .int 0), (2, .int v2), (3, .int v3), (4, .int v4)] → x_triesPushes_0_58 rs v2 v3 K n σ v4 = some res → W p l e (rm_ 410 16442) s m args below meth c H locs 0 0 Q (F0 m 58 ls []) := by
  have hx := X.1.1
  have hb := X.1.2.1
  intro n
  induction n with
  | zero =>
    intro σ v4 H locs ls hW hl hf
    rw [x_triesPushes_0_58] at hf
    cases hf
  | succ n ih =>
    intro σ v4 H locs ls hW hl hf
    rw [x_triesPushes_0_58] at hf
    refine lv_iload hx hb dX0_triesPushes_58 (lv_at hl 4 rfl) ?_
    refine lv_iconst (v := 2) hx hb dX0_triesPushes_60 (by decide) ?_
    refine lv_aload_n hx hb dX0_triesPushes_61 rfl (lv_at hl 0 rfl) ?_
    obtain ⟨z_3, hf⟩ := gd_e hf
    replace z_3 := nz_e z_3
    refine xg_0s X hW xm_999 z_3 dX0_triesPushes_62 ?_
    refine xg_1000 X hW xm_1999 dX0_triesPushes_65 ?_
    refine lv_imul hx hb dX0_triesPushes_68 ?_
    refine lv_icmp_ge (tgt := 187) hx hb dX0_triesPushes_69 (by decide) (fun c_4 => ?_) (fun c_4 => ?_)
    · replace hf := ip hf c_4
      exact hK _ _ _ _ hW (lv_sub hl [] rfl) hf
    · replace hf := ine hf c_4
      refine lv_iload hx hb dX0_triesPushes_72 (lv_at hl 4 rfl) ?_
      refine lv_iconst (v := (-1)) hx hb dX0_triesPushes_74 (by decide) ?_
      refine lv_icmp_eq (tgt := 95) hx hb dX0_triesPushes_75 (by decide) (fun c_5 => ?_) (fun c_5 => ?_)
      · replace hf := ip hf c_5
        refine lv_aload_n hx hb dX0_triesPushes_95 rfl (lv_at hl 0 rfl) ?_
        refine xg_3 X hW xm_999 dX0_triesPushes_96 ?_
        refine lv_iload_n hx hb dX0_triesPushes_99 rfl (lv_at hl 1 rfl) ?_
        refine lv_iconst (v := 1) hx hb dX0_triesPushes_100 (by decide) ?_
        refine r_iaddv (v := 1) hx hb dX0_triesPushes_101 (by decide) ?_
        refine r_aald X hW (t0 := 4) xm_3 rfl rfl (by decide) (v := .ref (ad 4999)) rfl dX0_triesPushes_102 ?_
        refine lv_aload_n hx hb dX0_triesPushes_103 rfl (lv_at hl 0 rfl) ?_
        refine xg_3 X hW xm_999 dX0_triesPushes_104 ?_
        refine lv_iload_n hx hb dX0_triesPushes_107 rfl (lv_at hl 1 rfl) ?_
        refine r_aald X hW (t0 := 4) xm_3 rfl rfl (by decide) (v := .ref (ad 3999)) rfl dX0_triesPushes_108 ?_
        obtain ⟨σ_7, h_6, hf⟩ := bd_e hf
        refine kx_standsAs X hW had (b := 4000) (c2 := 3000) (by decide) (by decide) (by decide) h_6 (by decide) hl (Nat.le_of_ble_eq_true rfl) dX0_triesPushes_109 (fun H locs hW => ?_)
        refine lv_astore (lv' := [(5, .ref (ad 4999)), (0, .ref (ad 999)), (1, .int 0), (2, .int v2), (3, .int v3), (4, .int v4)]) hx hb dX0_triesPushes_112 hl (by decide) rfl (fun ls hl => ?_)
        refine lv_iload hx hb dX0_triesPushes_114 (lv_at hl 5 rfl) ?_
        refine lv_iconst (v := (-1)) hx hb dX0_triesPushes_116 (by decide) ?_
        obtain ⟨σ_8, hD_9, hf⟩ := bd_e hf
        have hJ : ∀ (H : Heap) (locs : List Loc) (ls : Array Slot), WB g A s.heap xIds ad (xE g ad q σ_8) H locs → lv_has ls 6 [(0, .ref (ad 999)), (1, .int 0), (2, .int v2), (3, .int v3), (4, .int v4), (5, .ref (ad 4999))] → W p l e (rm_ 410 16442) s m args below meth c H locs 0 0 Q (F0 m 142 ls []) := by
          intro H locs ls hW hl
          refine lv_aload hx hb dX0_triesPushes_142 (lv_at hl 5 rfl) ?_
          refine lv_aload_n hx hb dX0_triesPushes_144 rfl (lv_at hl 0 rfl) ?_
          obtain ⟨R_11, h_10, hf⟩ := bd_e hf
          refine kx_law X hW had hrs h_10 (by decide) hl (Nat.le_of_ble_eq_true rfl) dX0_triesPushes_145 (fun q_R_11 hq_R_11 H locs hW => ?_)
          obtain ⟨⟨σ_14, r_13⟩, h_12, hf⟩ := bd_e hf
          refine kx_goes X hW had (b := 4000) (by decide) hq_R_11 h_12 (by decide) hl (Nat.le_of_ble_eq_true rfl) dX0_triesPushes_148 (fun H locs hW => ?_)
          refine lv_pop hx hb dX0_triesPushes_151 rfl ?_
          refine lv_aload_n hx hb dX0_triesPushes_152 rfl (lv_at hl 0 rfl) ?_
          refine xg_16 X hW xm_999 dX0_triesPushes_153 ?_
          refine lv_iload_n hx hb dX0_triesPushes_156 rfl (lv_at hl 1 rfl) ?_
          refine lv_iload hx hb dX0_triesPushes_157 (lv_at hl 4 rfl) ?_
          obtain ⟨σ_15, e_16, hf⟩ := nmb_e hf
          rw [← e_16] at hW
          clear e_16
          refine xs_16 X hW xm_16 (by decide) dX0_triesPushes_159 (fun H locs hW => ?_)
          refine lv_aload_n hx hb dX0_triesPushes_160 rfl (lv_at hl 0 rfl) ?_
          refine lv_iload_n hx hb dX0_triesPushes_161 rfl (lv_at hl 1 rfl) ?_
          refine lv_iconst (v := 1) hx hb dX0_triesPushes_162 (by decide) ?_
          refine r_iaddv (v := 1) hx hb dX0_triesPushes_163 (by decide) ?_
          refine lv_iload_n hx hb dX0_triesPushes_164 rfl (lv_at hl 2 rfl) ?_
          refine lv_iload hx hb dX0_triesPushes_165 (lv_at hl 4 rfl) ?_
          refine lv_iconst (v := (-1)) hx hb dX0_triesPushes_167 (by decide) ?_
          refine lv_icmp_ne (tgt := 175) hx hb dX0_triesPushes_168 (by decide) (fun c_17 => ?_) (fun c_17 => ?_)
          · replace hf := ine hf c_17
            refine lv_iload_n hx hb dX0_triesPushes_175 rfl (lv_at hl 3 rfl) ?_
            refine lv_iconst (v := 1) hx hb dX0_triesPushes_176 (by decide) ?_
            refine lv_iadd hx hb dX0_triesPushes_177 ?_
            obtain ⟨σ_19, h_18, hf⟩ := bd_e hf
            refine kx_triesPushes_1 X hW had hrs h_18 (by decide) hl (Nat.le_of_ble_eq_true rfl) dX0_triesPushes_178 (fun H locs hW => ?_)
            refine lv_iinc (v := (v4 + 1)) (lv' := [(4, .int (v4 + 1)), (0, .ref (ad 999)), (1, .int 0), (2, .int v2), (3, .int v3), (5, .ref (ad 4999))]) hx hb dX0_triesPushes_181 hl (k := 4) rfl (ii_v _ _ _ (by decide)) (by decide) rfl (fun ls hl => ?_)
            refine lv_goto (tgt := 58) hx hb dX0_triesPushes_184 (by decide) ?_
            exact ih _ _ _ _ _ hW (lv_sub hl [1, 2, 3, 4, 0] rfl) hf
          · replace hf := ip hf c_17
            refine lv_iload_n hx hb dX0_triesPushes_171 rfl (lv_at hl 3 rfl) ?_
            refine lv_goto (tgt := 178) hx hb dX0_triesPushes_172 (by decide) ?_
            obtain ⟨σ_21, h_20, hf⟩ := bd_e hf
            refine kx_triesPushes_1 X hW had hrs h_20 (by decide) hl (Nat.le_of_ble_eq_true rfl) dX0_triesPushes_178 (fun H locs hW => ?_)
            refine lv_iinc (v := (v4 + 1)) (lv' := [(4, .int (v4 + 1)), (0, .ref (ad 999)), (1, .int 0), (2, .int v2), (3, .int v3), (5, .ref (ad 4999))]) hx hb dX0_triesPushes_181 hl (k := 4) rfl (ii_v _ _ _ (by decide)) (by decide) rfl (fun ls hl => ?_)
            refine lv_goto (tgt := 58) hx hb dX0_triesPushes_184 (by decide) ?_
            exact ih _ _ _ _ _ hW (lv_sub hl [1, 2, 3, 4, 0] rfl) hf
        clear hf
        refine lv_icmp_eq (tgt := 142) hx hb dX0_triesPushes_117 (by decide) (fun c_22 => ?_) (fun c_22 => ?_)
        · replace hD_9 := ip hD_9 c_22
          cases hD_9
          exact hJ _ _ _ hW (lv_sub hl [1, 2, 3, 4, 5, 0] rfl)
        · replace hD_9 := ine hD_9 c_22
          refine lv_aload hx hb dX0_triesPushes_120 (lv_at hl 0 rfl) ?_
          refine lv_iload hx hb dX0_triesPushes_122 (lv_at hl 5 rfl) ?_
          refine lv_iconst (v := 2) hx hb dX0_triesPushes_124 (by decide) ?_
          refine lv_idiv hx hb dX0_triesPushes_125 (by decide) ?_
          refine lv_iload hx hb dX0_triesPushes_126 (lv_at hl 5 rfl) ?_
          refine lv_iconst (v := 2) hx hb dX0_triesPushes_128 (by decide) ?_
          refine lv_irem hx hb dX0_triesPushes_129 (by decide) ?_
          refine lv_if_ne (tgt := 138) hx hb dX0_triesPushes_130 (by decide) (fun c_23 => ?_) (fun c_23 => ?_)
          · replace hD_9 := ine hD_9 c_23
            refine lv_iconst (v := 2) hx hb dX0_triesPushes_138 (by decide) ?_
            obtain ⟨σ_25, h_24, hD_9⟩ := bd_e hD_9
            refine kx_pushes X hW had (b := 4000) (by decide) h_24 (by decide) hl (Nat.le_of_ble_eq_true rfl) dX0_triesPushes_139 (fun H locs hW => ?_)
            cases hD_9
            exact hJ _ _ _ hW (lv_sub hl [1, 2, 3, 4, 5, 0] rfl)
          · replace hD_9 := ip hD_9 c_23
            refine lv_bipush (v := (-2)) hx hb dX0_triesPushes_133 (by decide) ?_
            refine lv_goto (tgt := 139) hx hb dX0_triesPushes_135 (by decide) ?_
            obtain ⟨σ_27, h_26, hD_9⟩ := bd_e hD_9
            refine kx_pushes X hW had (b := 4000) (by decide) h_26 (by decide) hl (Nat.le_of_ble_eq_true rfl) dX0_triesPushes_139 (fun H locs hW => ?_)
            cases hD_9
            exact hJ _ _ _ hW (lv_sub hl [1, 2, 3, 4, 5, 0] rfl)
      · replace hf := ine hf c_5
        refine lv_aload_n hx hb dX0_triesPushes_78 rfl (lv_at hl 0 rfl) ?_
        refine xg_0s X hW xm_999 z_3 dX0_triesPushes_79 ?_
        refine lv_iload hx hb dX0_triesPushes_82 (lv_at hl 4 rfl) ?_
        refine lv_iconst (v := 2) hx hb dX0_triesPushes_84 (by decide) ?_
        refine lv_idiv hx hb dX0_triesPushes_85 (by decide) ?_
        obtain ⟨r_29, h_28, hf⟩ := bd_e hf
        refine kx_isBaked X hW had (b := 1000) (by decide) h_28 (by decide) hl (Nat.le_of_ble_eq_true rfl) dX0_triesPushes_86 (fun H locs hW => ?_)
        refine lv_if_eq (tgt := 95) hx hb dX0_triesPushes_89 (by decide) (fun c_30 => ?_) (fun c_30 => ?_)
        · replace hf := ip hf c_30
          refine lv_aload_n hx hb dX0_triesPushes_95 rfl (lv_at hl 0 rfl) ?_
          refine xg_3 X hW xm_999 dX0_triesPushes_96 ?_
          refine lv_iload_n hx hb dX0_triesPushes_99 rfl (lv_at hl 1 rfl) ?_
          refine lv_iconst (v := 1) hx hb dX0_triesPushes_100 (by decide) ?_
          refine r_iaddv (v := 1) hx hb dX0_triesPushes_101 (by decide) ?_
          refine r_aald X hW (t0 := 4) xm_3 rfl rfl (by decide) (v := .ref (ad 4999)) rfl dX0_triesPushes_102 ?_
          refine lv_aload_n hx hb dX0_triesPushes_103 rfl (lv_at hl 0 rfl) ?_
          refine xg_3 X hW xm_999 dX0_triesPushes_104 ?_
          refine lv_iload_n hx hb dX0_triesPushes_107 rfl (lv_at hl 1 rfl) ?_
          refine r_aald X hW (t0 := 4) xm_3 rfl rfl (by decide) (v := .ref (ad 3999)) rfl dX0_triesPushes_108 ?_
          obtain ⟨σ_32, h_31, hf⟩ := bd_e hf
          refine kx_standsAs X hW had (b := 4000) (c2 := 3000) (by decide) (by decide) (by decide) h_31 (by decide) hl (Nat.le_of_ble_eq_true rfl) dX0_triesPushes_109 (fun H locs hW => ?_)
          refine lv_astore (lv' := [(5, .ref (ad 4999)), (0, .ref (ad 999)), (1, .int 0), (2, .int v2), (3, .int v3), (4, .int v4)]) hx hb dX0_triesPushes_112 hl (by decide) rfl (fun ls hl => ?_)
          refine lv_iload hx hb dX0_triesPushes_114 (lv_at hl 5 rfl) ?_
          refine lv_iconst (v := (-1)) hx hb dX0_triesPushes_116 (by decide) ?_
          obtain ⟨σ_33, hD_34, hf⟩ := bd_e hf
          have hJ : ∀ (H : Heap) (locs : List Loc) (ls : Array Slot), WB g A s.heap xIds ad (xE g ad q σ_33) H locs → lv_has ls 6 [(0, .ref (ad 999)), (1, .int 0), (2, .int v2), (3, .int v3), (4, .int v4), (5, .ref (ad 4999))] → W p l e (rm_ 410 16442) s m args below meth c H locs 0 0 Q (F0 m 142 ls []) := by
            intro H locs ls hW hl
            refine lv_aload hx hb dX0_triesPushes_142 (lv_at hl 5 rfl) ?_
            refine lv_aload_n hx hb dX0_triesPushes_144 rfl (lv_at hl 0 rfl) ?_
            obtain ⟨R_36, h_35, hf⟩ := bd_e hf
            refine kx_law X hW had hrs h_35 (by decide) hl (Nat.le_of_ble_eq_true rfl) dX0_triesPushes_145 (fun q_R_36 hq_R_36 H locs hW => ?_)
            obtain ⟨⟨σ_39, r_38⟩, h_37, hf⟩ := bd_e hf
            refine kx_goes X hW had (b := 4000) (by decide) hq_R_36 h_37 (by decide) hl (Nat.le_of_ble_eq_true rfl) dX0_triesPushes_148 (fun H locs hW => ?_)
            refine lv_pop hx hb dX0_triesPushes_151 rfl ?_
            refine lv_aload_n hx hb dX0_triesPushes_152 rfl (lv_at hl 0 rfl) ?_
            refine xg_16 X hW xm_999 dX0_triesPushes_153 ?_
            refine lv_iload_n hx hb dX0_triesPushes_156 rfl (lv_at hl 1 rfl) ?_
            refine lv_iload hx hb dX0_triesPushes_157 (lv_at hl 4 rfl) ?_
            obtain ⟨σ_40, e_41, hf⟩ := nmb_e hf
            rw [← e_41] at hW
            clear e_41
            refine xs_16 X hW xm_16 (by decide) dX0_triesPushes_159 (fun H locs hW => ?_)
            refine lv_aload_n hx hb dX0_triesPushes_160 rfl (lv_at hl 0 rfl) ?_
            refine lv_iload_n hx hb dX0_triesPushes_161 rfl (lv_at hl 1 rfl) ?_
            refine lv_iconst (v := 1) hx hb dX0_triesPushes_162 (by decide) ?_
            refine r_iaddv (v := 1) hx hb dX0_triesPushes_163 (by decide) ?_
            refine lv_iload_n hx hb dX0_triesPushes_164 rfl (lv_at hl 2 rfl) ?_
            refine lv_iload hx hb dX0_triesPushes_165 (lv_at hl 4 rfl) ?_
            refine lv_iconst (v := (-1)) hx hb dX0_triesPushes_167 (by decide) ?_
            refine lv_icmp_ne (tgt := 175) hx hb dX0_triesPushes_168 (by decide) (fun c_42 => ?_) (fun c_42 => ?_)
            · replace hf := ine hf c_42
              refine lv_iload_n hx hb dX0_triesPushes_175 rfl (lv_at hl 3 rfl) ?_
              refine lv_iconst (v := 1) hx hb dX0_triesPushes_176 (by decide) ?_
              refine lv_iadd hx hb dX0_triesPushes_177 ?_
              obtain ⟨σ_44, h_43, hf⟩ := bd_e hf
              refine kx_triesPushes_1 X hW had hrs h_43 (by decide) hl (Nat.le_of_ble_eq_true rfl) dX0_triesPushes_178 (fun H locs hW => ?_)
              refine lv_iinc (v := (v4 + 1)) (lv' := [(4, .int (v4 + 1)), (0, .ref (ad 999)), (1, .int 0), (2, .int v2), (3, .int v3), (5, .ref (ad 4999))]) hx hb dX0_triesPushes_181 hl (k := 4) rfl (ii_v _ _ _ (by decide)) (by decide) rfl (fun ls hl => ?_)
              refine lv_goto (tgt := 58) hx hb dX0_triesPushes_184 (by decide) ?_
              exact ih _ _ _ _ _ hW (lv_sub hl [1, 2, 3, 4, 0] rfl) hf
            · replace hf := ip hf c_42
              refine lv_iload_n hx hb dX0_triesPushes_171 rfl (lv_at hl 3 rfl) ?_
              refine lv_goto (tgt := 178) hx hb dX0_triesPushes_172 (by decide) ?_
              obtain ⟨σ_46, h_45, hf⟩ := bd_e hf
              refine kx_triesPushes_1 X hW had hrs h_45 (by decide) hl (Nat.le_of_ble_eq_true rfl) dX0_triesPushes_178 (fun H locs hW => ?_)
              refine lv_iinc (v := (v4 + 1)) (lv' := [(4, .int (v4 + 1)), (0, .ref (ad 999)), (1, .int 0), (2, .int v2), (3, .int v3), (5, .ref (ad 4999))]) hx hb dX0_triesPushes_181 hl (k := 4) rfl (ii_v _ _ _ (by decide)) (by decide) rfl (fun ls hl => ?_)
              refine lv_goto (tgt := 58) hx hb dX0_triesPushes_184 (by decide) ?_
              exact ih _ _ _ _ _ hW (lv_sub hl [1, 2, 3, 4, 0] rfl) hf
          clear hf
          refine lv_icmp_eq (tgt := 142) hx hb dX0_triesPushes_117 (by decide) (fun c_47 => ?_) (fun c_47 => ?_)
          · replace hD_34 := ip hD_34 c_47
            cases hD_34
            exact hJ _ _ _ hW (lv_sub hl [1, 2, 3, 4, 5, 0] rfl)
          · replace hD_34 := ine hD_34 c_47
            refine lv_aload hx hb dX0_triesPushes_120 (lv_at hl 0 rfl) ?_
            refine lv_iload hx hb dX0_triesPushes_122 (lv_at hl 5 rfl) ?_
            refine lv_iconst (v := 2) hx hb dX0_triesPushes_124 (by decide) ?_
            refine lv_idiv hx hb dX0_triesPushes_125 (by decide) ?_
            refine lv_iload hx hb dX0_triesPushes_126 (lv_at hl 5 rfl) ?_
            refine lv_iconst (v := 2) hx hb dX0_triesPushes_128 (by decide) ?_
            refine lv_irem hx hb dX0_triesPushes_129 (by decide) ?_
            refine lv_if_ne (tgt := 138) hx hb dX0_triesPushes_130 (by decide) (fun c_48 => ?_) (fun c_48 => ?_)
            · replace hD_34 := ine hD_34 c_48
              refine lv_iconst (v := 2) hx hb dX0_triesPushes_138 (by decide) ?_
              obtain ⟨σ_50, h_49, hD_34⟩ := bd_e hD_34
              refine kx_pushes X hW had (b := 4000) (by decide) h_49 (by decide) hl (Nat.le_of_ble_eq_true rfl) dX0_triesPushes_139 (fun H locs hW => ?_)
              cases hD_34
              exact hJ _ _ _ hW (lv_sub hl [1, 2, 3, 4, 5, 0] rfl)
            · replace hD_34 := ip hD_34 c_48
              refine lv_bipush (v := (-2)) hx hb dX0_triesPushes_133 (by decide) ?_
              refine lv_goto (tgt := 139) hx hb dX0_triesPushes_135 (by decide) ?_
              obtain ⟨σ_52, h_51, hD_34⟩ := bd_e hD_34
              refine kx_pushes X hW had (b := 4000) (by decide) h_51 (by decide) hl (Nat.le_of_ble_eq_true rfl) dX0_triesPushes_139 (fun H locs hW => ?_)
              cases hD_34
              exact hJ _ _ _ hW (lv_sub hl [1, 2, 3, 4, 5, 0] rfl)
        · replace hf := ine hf c_30
          refine lv_goto (tgt := 181) hx hb dX0_triesPushes_92 (by decide) ?_
          refine lv_iinc (v := (v4 + 1)) (lv' := [(4, .int (v4 + 1)), (0, .ref (ad 999)), (1, .int 0), (2, .int v2), (3, .int v3)]) hx hb dX0_triesPushes_181 hl (k := 4) rfl (ii_v _ _ _ (by decide)) (by decide) rfl (fun ls hl => ?_)
          refine lv_goto (tgt := 58) hx hb dX0_triesPushes_184 (by decide) ?_
          exact ih _ _ _ _ _ hW (lv_sub hl [1, 2, 3, 4, 0] rfl) hf
noncomputable def x_triesPushes_0 (σ : cS) (rs : List RS) (v2 : Int32) (v3 : Int32) : Option (cS) :=
  if (σ.1 999 18) = (-1) then (if 0 = v2 then (((d_areWants (vw σ 3000)).bind fun r_55 => if r_55 = 0 then (some σ) else (nmb (si σ 999 18 v3) fun σ_57 => (some (sA σ_57 17 (va_cpy (σ_57.1 16) (σ_57.1 17) (ix 0) (ix 0) (ix 3))))))) else (x_triesPushes_0_58 rs v2 v3 (fun σ_53 => (some σ_53)) FU σ (-1))) else (if v3 < (σ.1 999 18) then (if 0 = v2 then (((d_areWants (vw σ 3000)).bind fun r_63 => if r_63 = 0 then (some σ) else (nmb (si σ 999 18 v3) fun σ_65 => (some (sA σ_65 17 (va_cpy (σ_65.1 16) (σ_65.1 17) (ix 0) (ix 0) (ix 3))))))) else (x_triesPushes_0_58 rs v2 v3 (fun σ_61 => (some σ_61)) FU σ (-1))) else (some σ))
set_option maxHeartbeats 4000000 in
theorem wb_x_triesPushes_0 {p : Program} {l : Launch} {e : Env} {s : State} {m : MethodId} {args : Array Value} {below : List Frame} {meth : Method} {c : Code} {g : gG} {A : Nat → Prop} {ad : Nat → Nat} {q : xR} (X : MX p s m args meth c cX0_triesPushes 6 RX0 none g A) (had : xI_ ad) {rs : List RS} (hrs : RSok q.1 g rs) {σr : cS}  {σ : cS} {v2 : Int32} {v3 : Int32} {H : Heap} {locs : List Loc} {ls : Array Slot} (hW : WB g A s.heap xIds ad (xE g ad q σ) H locs) (hl : lv_has ls 6 [(0, .ref (ad 999)), (1, .int 0), (2, .int v2), (3, .int v3)]) (hf : x_triesPushes_0 σ rs v2 v3 = some σr) : W p l e (rm_ 410 16442) s m args below meth c H locs 0 0 (Qm below g xIds ad (xE g ad q σr) none A args s) (F0 m 0 ls []) := by
  have hx := X.1.1
  have hb := X.1.2.1
  unfold x_triesPushes_0 at hf
  refine lv_aload_n hx hb dX0_triesPushes_0 rfl (lv_at hl 0 rfl) ?_
  refine xg_18 X hW xm_999 dX0_triesPushes_1 ?_
  refine lv_iconst (v := (-1)) hx hb dX0_triesPushes_4 (by decide) ?_
  refine lv_icmp_eq (tgt := 17) hx hb dX0_triesPushes_5 (by decide) (fun c_1 => ?_) (fun c_1 => ?_)
  · replace hf := ip hf c_1
    refine lv_iload_n hx hb dX0_triesPushes_17 rfl (lv_at hl 1 rfl) ?_
    refine lv_iload_n hx hb dX0_triesPushes_18 rfl (lv_at hl 2 rfl) ?_
    refine lv_icmp_ne (tgt := 55) hx hb dX0_triesPushes_19 (by decide) (fun c_2 => ?_) (fun c_2 => ?_)
    · replace hf := ine hf c_2
      refine lv_iconst (v := (-1)) hx hb dX0_triesPushes_55 (by decide) ?_
      refine lv_istore (lv' := [(4, .int (-1)), (0, .ref (ad 999)), (1, .int 0), (2, .int v2), (3, .int v3)]) hx hb dX0_triesPushes_56 hl (by decide) rfl (fun ls hl => ?_)
      refine wx_triesPushes_0_58 X had hrs (fun σ_53 H locs ls hW hl hf => ?_) _ _ _ _ _ _ hW (lv_sub hl [1, 2, 3, 4, 0] rfl) hf
      exact x_vret X hW hf dX0_triesPushes_187
    · replace hf := ip hf c_2
      refine lv_aload_n hx hb dX0_triesPushes_22 rfl (lv_at hl 0 rfl) ?_
      refine xg_3 X hW xm_999 dX0_triesPushes_23 ?_
      refine lv_iload_n hx hb dX0_triesPushes_26 rfl (lv_at hl 1 rfl) ?_
      refine r_aald X hW (t0 := 4) xm_3 rfl rfl (by decide) (v := .ref (ad 3999)) rfl dX0_triesPushes_27 ?_
      obtain ⟨r_55, h_54, hf⟩ := bd_e hf
      refine kx_areWants X hW had (b := 3000) (by decide) h_54 (by decide) hl (Nat.le_of_ble_eq_true rfl) dX0_triesPushes_28 (fun H locs hW => ?_)
      refine lv_if_ne (tgt := 35) hx hb dX0_triesPushes_31 (by decide) (fun c_56 => ?_) (fun c_56 => ?_)
      · replace hf := ine hf c_56
        refine lv_aload_n hx hb dX0_triesPushes_35 rfl (lv_at hl 0 rfl) ?_
        refine lv_iload_n hx hb dX0_triesPushes_36 rfl (lv_at hl 3 rfl) ?_
        refine xp_18 X hW xm_999 dX0_triesPushes_37 (fun H locs hW => ?_)
        refine lv_aload_n hx hb dX0_triesPushes_40 rfl (lv_at hl 0 rfl) ?_
        refine xg_16 X hW xm_999 dX0_triesPushes_41 ?_
        refine lv_iconst (v := 0) hx hb dX0_triesPushes_44 (by decide) ?_
        refine lv_aload_n hx hb dX0_triesPushes_45 rfl (lv_at hl 0 rfl) ?_
        refine xg_17 X hW xm_999 dX0_triesPushes_46 ?_
        refine lv_iconst (v := 0) hx hb dX0_triesPushes_49 (by decide) ?_
        refine lv_iconst (v := 3) hx hb dX0_triesPushes_50 (by decide) ?_
        obtain ⟨σ_57, e_58, hf⟩ := nmb_e hf
        rw [← e_58] at hW
        clear e_58
        refine x_copy X hW hl q852 (by decide) (Nat.le_of_ble_eq_true rfl) xm_16 xm_17 rfl rfl (fun _ => rfl) (by decide) dX0_triesPushes_51 (fun H locs hW => ?_)
        exact x_vret X hW hf dX0_triesPushes_54
      · replace hf := ip hf c_56
        exact x_vret X hW hf dX0_triesPushes_34
  · replace hf := ine hf c_1
    refine lv_iload_n hx hb dX0_triesPushes_8 rfl (lv_at hl 3 rfl) ?_
    refine lv_aload_n hx hb dX0_triesPushes_9 rfl (lv_at hl 0 rfl) ?_
    refine xg_18 X hW xm_999 dX0_triesPushes_10 ?_
    refine lv_icmp_lt (tgt := 17) hx hb dX0_triesPushes_13 (by decide) (fun c_59 => ?_) (fun c_59 => ?_)
    · replace hf := ip hf c_59
      refine lv_iload_n hx hb dX0_triesPushes_17 rfl (lv_at hl 1 rfl) ?_
      refine lv_iload_n hx hb dX0_triesPushes_18 rfl (lv_at hl 2 rfl) ?_
      refine lv_icmp_ne (tgt := 55) hx hb dX0_triesPushes_19 (by decide) (fun c_60 => ?_) (fun c_60 => ?_)
      · replace hf := ine hf c_60
        refine lv_iconst (v := (-1)) hx hb dX0_triesPushes_55 (by decide) ?_
        refine lv_istore (lv' := [(4, .int (-1)), (0, .ref (ad 999)), (1, .int 0), (2, .int v2), (3, .int v3)]) hx hb dX0_triesPushes_56 hl (by decide) rfl (fun ls hl => ?_)
        refine wx_triesPushes_0_58 X had hrs (fun σ_61 H locs ls hW hl hf => ?_) _ _ _ _ _ _ hW (lv_sub hl [1, 2, 3, 4, 0] rfl) hf
        exact x_vret X hW hf dX0_triesPushes_187
      · replace hf := ip hf c_60
        refine lv_aload_n hx hb dX0_triesPushes_22 rfl (lv_at hl 0 rfl) ?_
        refine xg_3 X hW xm_999 dX0_triesPushes_23 ?_
        refine lv_iload_n hx hb dX0_triesPushes_26 rfl (lv_at hl 1 rfl) ?_
        refine r_aald X hW (t0 := 4) xm_3 rfl rfl (by decide) (v := .ref (ad 3999)) rfl dX0_triesPushes_27 ?_
        obtain ⟨r_63, h_62, hf⟩ := bd_e hf
        refine kx_areWants X hW had (b := 3000) (by decide) h_62 (by decide) hl (Nat.le_of_ble_eq_true rfl) dX0_triesPushes_28 (fun H locs hW => ?_)
        refine lv_if_ne (tgt := 35) hx hb dX0_triesPushes_31 (by decide) (fun c_64 => ?_) (fun c_64 => ?_)
        · replace hf := ine hf c_64
          refine lv_aload_n hx hb dX0_triesPushes_35 rfl (lv_at hl 0 rfl) ?_
          refine lv_iload_n hx hb dX0_triesPushes_36 rfl (lv_at hl 3 rfl) ?_
          refine xp_18 X hW xm_999 dX0_triesPushes_37 (fun H locs hW => ?_)
          refine lv_aload_n hx hb dX0_triesPushes_40 rfl (lv_at hl 0 rfl) ?_
          refine xg_16 X hW xm_999 dX0_triesPushes_41 ?_
          refine lv_iconst (v := 0) hx hb dX0_triesPushes_44 (by decide) ?_
          refine lv_aload_n hx hb dX0_triesPushes_45 rfl (lv_at hl 0 rfl) ?_
          refine xg_17 X hW xm_999 dX0_triesPushes_46 ?_
          refine lv_iconst (v := 0) hx hb dX0_triesPushes_49 (by decide) ?_
          refine lv_iconst (v := 3) hx hb dX0_triesPushes_50 (by decide) ?_
          obtain ⟨σ_65, e_66, hf⟩ := nmb_e hf
          rw [← e_66] at hW
          clear e_66
          refine x_copy X hW hl q852 (by decide) (Nat.le_of_ble_eq_true rfl) xm_16 xm_17 rfl rfl (fun _ => rfl) (by decide) dX0_triesPushes_51 (fun H locs hW => ?_)
          exact x_vret X hW hf dX0_triesPushes_54
        · replace hf := ip hf c_64
          exact x_vret X hW hf dX0_triesPushes_34
    · replace hf := ine hf c_59
      exact x_vret X hW hf dX0_triesPushes_16
theorem w_x_triesPushes_0 (l : Launch) {g : gG} {ad : Nat → Nat} {q : xR} (had : xI_ ad) {rs : List RS} (hrs : RSok q.1 g rs) {σr : cS}  {σ : cS} {v2 : Int32} {v3 : Int32} (hf : x_triesPushes_0 σ rs v2 v3 = some σr) : MC l yX0_triesPushes cX0_triesPushes 6 none 410 16442 g xIds ad (xE g ad q σ) (xE g ad q σr) [.ref (ad 999), .int 0, .int v2, .int v3] none :=
  MC.of (by decide) xIds_nd had (Nat.le_of_ble_eq_true rfl) (fun p e s m below meth c A ls X hW hl => wb_x_triesPushes_0 X had hrs hW hl hf)
theorem kx_triesPushes_0 {p : Program} {l : Launch} {e : Env} {R : Room} {s : State} {m : MethodId} {args : Array Value} {below : List Frame} {meth : Method} {c : Code} {H : Heap} {locs : List Loc} {Q : State → Prop} {cc : ByteArray} {nL : Nat} {ret : Option FieldType} {g : gG} {A : Nat → Prop} {ad : Nat → Nat} {q : xR} {pc : Nat} {ls : Array Slot} {rest : List Value} {lv : List (Nat × Value)} {σr : cS}  {σ : cS} {v2 : Int32} {v3 : Int32} (X : MX p s m args meth c cc nL RX0 ret g A) (hW : WB g A s.heap xIds ad (xE g ad q σ) H locs) (had : xI_ ad) {rs : List RS} (hrs : RSok q.1 g rs) (hf : x_triesPushes_0 σ rs v2 v3 = some σr) (hR : 411 ≤ R.frames ∧ 16467 ≤ R.locals) (hl : lv_has ls nL lv) (hcat : (rest.map fun v => v.category).sum ≤ 8) (hdg : decode cc pc = .ok (.invokevirtual 270, 3)) (kk : ∀ (H1 : Heap) (l1 : List Loc), WB g A s.heap xIds ad (xE g ad q σr) H1 l1 → W p l e R s m args below meth c H1 l1 0 0 Q (F0 m (pc + 3) ls (rest))) : W p l e R s m args below meth c H locs 0 0 Q (F0 m pc ls (.int v3 :: .int v2 :: .int 0 :: .ref (ad 999) :: rest)) :=
  r_callV X hW Sub.all (w_x_triesPushes_0 l had hrs hf) (lw_V q1008 q1010 qs37 q120 q1011) ⟨rfl, by decide, by decide, by decide +kernel⟩ xm_999 rfl rfl (n := 3) hR hl rfl rfl hcat ⟨Nat.zero_le _, Nat.zero_le _⟩ hdg kk
