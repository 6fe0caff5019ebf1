set_option maxRecDepth 100000
-- night
noncomputable def m_night (σ : cS) : Option (cS × Int32) :=
  ((m_isStrip σ).bind fun r_2 => if r_2 = 0 then (some (σ, (-1))) else (if (σ.1 1 (ix 5)) = 999 then (some (σ, (-1))) else (((m_keepsAct σ).bind fun σ_6 => ((m_goesNight σ_6).bind fun (σ_9, r_8) => some (σ_9, r_8))))))
set_option maxHeartbeats 4000000 in
theorem wb_night {p : Program} {l : Launch} {e : Env} {s : State} {m : MethodId} {args : Array Value} {below : List Frame} {meth : Method} {c : Code} {g : gG} {A : Nat → Prop} {ad : Nat → Nat} (X : MX p s m args meth c cX3_night 1 RX3 (some .int) g A) (had : mI ad) {σr : cS} {r : Int32} {σ : cS}  {H : Heap} {locs : List Loc} {ls : Array Slot} (hW : WB g A s.heap mIds ad (mE g ad σ) H locs) (hl : lv_has ls 1 [(0, .ref (ad 999))]) (hf : m_night σ = some (σr, r)) : W p l e (rm_ 8 177) s m args below meth c H locs 0 0 (Qm below g mIds ad (mE g ad σr) (some (.int r)) A args s) (F0 m 0 ls []) := by
  have hx := X.1.1
  have hb := X.1.2.1
  unfold m_night at hf
  refine lv_aload_n hx hb dX3_night_0 rfl (lv_at hl 0 rfl) ?_
  obtain ⟨r_2, h_1, hf⟩ := bd_e hf
  refine k_isStrip X hW had h_1 (by decide) hl (Nat.le_of_ble_eq_true rfl) dX3_night_1 (fun H locs hW => ?_)
  refine lv_if_eq (tgt := 19) hx hb dX3_night_4 (by decide) (fun c_3 => ?_) (fun c_3 => ?_)
  · replace hf := ip hf c_3
    refine lv_iconst (v := (-1)) hx hb dX3_night_19 (by decide) ?_
    exact m_iret X hW hf dX3_night_20
  · replace hf := ine hf c_3
    refine lv_aload_n hx hb dX3_night_7 rfl (lv_at hl 0 rfl) ?_
    refine mg_1 X hW dX3_night_8 ?_
    refine lv_iconst (v := 5) hx hb dX3_night_11 (by decide) ?_
    refine ml_1 X hW (by decide) dX3_night_12 ?_
    refine lv_sipush (v := 999) hx hb dX3_night_13 (by decide) ?_
    refine lv_icmp_ne (tgt := 21) hx hb dX3_night_16 (by decide) (fun c_4 => ?_) (fun c_4 => ?_)
    · replace hf := ine hf c_4
      refine lv_aload_n hx hb dX3_night_21 rfl (lv_at hl 0 rfl) ?_
      obtain ⟨σ_6, h_5, hf⟩ := bd_e hf
      refine k_keepsAct X hW had h_5 (by decide) hl (Nat.le_of_ble_eq_true rfl) dX3_night_22 (fun H locs hW => ?_)
      refine lv_aload_n hx hb dX3_night_25 rfl (lv_at hl 0 rfl) ?_
      obtain ⟨⟨σ_9, r_8⟩, h_7, hf⟩ := bd_e hf
      refine k_goesNight X hW had h_7 (by decide) hl (Nat.le_of_ble_eq_true rfl) dX3_night_26 (fun H locs hW => ?_)
      exact m_iret X hW hf dX3_night_29
    · replace hf := ip hf c_4
      refine lv_iconst (v := (-1)) hx hb dX3_night_19 (by decide) ?_
      exact m_iret X hW hf dX3_night_20
theorem w_night (l : Launch) {g : gG} {ad : Nat → Nat} (had : mI ad) {σr : cS} {r : Int32} {σ : cS}  (hf : m_night σ = some (σr, r)) : MM l yX3_night cX3_night 1 (some .int) 8 177 g ad σ σr [.ref (ad 999)] (some (.int r)) :=
  MC.of (by decide) mIds_nd had (Nat.le_of_ble_eq_true rfl) (fun p e s m below meth c A ls X hW hl => wb_night X had hW hl hf)
-- isSoft
noncomputable def m_isSoft (σ : cS) (v1 : Int32) : Option (Int32) :=
  ((m_isMile σ v1).bind fun r_2 => if r_2 = 0 then (some 0) else (((m_isBaked σ v1).bind fun r_5 => if r_5 = 0 then (some 1) else (some 0))))
set_option maxHeartbeats 4000000 in
theorem wb_isSoft {p : Program} {l : Launch} {e : Env} {s : State} {m : MethodId} {args : Array Value} {below : List Frame} {meth : Method} {c : Code} {g : gG} {A : Nat → Prop} {ad : Nat → Nat} (X : MX p s m args meth c cX3_isSoft 2 RX3 (some .boolean) g A) (had : mI ad) {r : Int32} {σ : cS} {v1 : Int32}  {H : Heap} {locs : List Loc} {ls : Array Slot} (hW : WB g A s.heap mIds ad (mE g ad σ) H locs) (hl : lv_has ls 2 [(0, .ref (ad 999)), (1, .int v1)]) (hf : m_isSoft σ v1 = some r) : W p l e (rm_ 3 66) s m args below meth c H locs 0 0 (Qm below g mIds ad (mE g ad σ) (some (.int r)) A args s) (F0 m 0 ls []) := by
  have hx := X.1.1
  have hb := X.1.2.1
  unfold m_isSoft at hf
  refine lv_aload_n hx hb dX3_isSoft_0 rfl (lv_at hl 0 rfl) ?_
  refine lv_iload_n hx hb dX3_isSoft_1 rfl (lv_at hl 1 rfl) ?_
  obtain ⟨r_2, h_1, hf⟩ := bd_e hf
  refine k_isMile X hW had h_1 (by decide) hl (Nat.le_of_ble_eq_true rfl) dX3_isSoft_2 (fun H locs hW => ?_)
  refine lv_if_eq (tgt := 20) hx hb dX3_isSoft_5 (by decide) (fun c_3 => ?_) (fun c_3 => ?_)
  · replace hf := ip hf c_3
    refine lv_iconst (v := 0) hx hb dX3_isSoft_20 (by decide) ?_
    exact p_zret X hW hf (by decide) dX3_isSoft_21
  · replace hf := ine hf c_3
    refine lv_aload_n hx hb dX3_isSoft_8 rfl (lv_at hl 0 rfl) ?_
    refine lv_iload_n hx hb dX3_isSoft_9 rfl (lv_at hl 1 rfl) ?_
    obtain ⟨r_5, h_4, hf⟩ := bd_e hf
    refine k_isBaked X hW had h_4 (by decide) hl (Nat.le_of_ble_eq_true rfl) dX3_isSoft_10 (fun H locs hW => ?_)
    refine lv_if_ne (tgt := 20) hx hb dX3_isSoft_13 (by decide) (fun c_6 => ?_) (fun c_6 => ?_)
    · replace hf := ine hf c_6
      refine lv_iconst (v := 0) hx hb dX3_isSoft_20 (by decide) ?_
      exact p_zret X hW hf (by decide) dX3_isSoft_21
    · replace hf := ip hf c_6
      refine lv_iconst (v := 1) hx hb dX3_isSoft_16 (by decide) ?_
      refine lv_goto (tgt := 21) hx hb dX3_isSoft_17 (by decide) ?_
      exact p_zret X hW hf (by decide) dX3_isSoft_21
theorem w_isSoft (l : Launch) {g : gG} {ad : Nat → Nat} (had : mI ad) {r : Int32} {σ : cS} {v1 : Int32}  (hf : m_isSoft σ v1 = some r) : MM l yX3_isSoft cX3_isSoft 2 (some .boolean) 3 66 g ad σ σ [.ref (ad 999), .int v1] (some (.int r)) :=
  MC.of (by decide) mIds_nd had (Nat.le_of_ble_eq_true rfl) (fun p e s m below meth c A ls X hW hl => wb_isSoft X had hW hl hf)
theorem k_isSoft {p : Program} {l : Launch} {e : Env} {R : Room} {s : State} {m : MethodId} {args : Array Value} {below : List Frame} {meth : Method} {c : Code} {H : Heap} {locs : List Loc} {Q : State → Prop} {cc : ByteArray} {nL : Nat} {ret : Option FieldType} {g : gG} {A : Nat → Prop} {ad : Nat → Nat} {pc : Nat} {ls : Array Slot} {rest : List Value} {lv : List (Nat × Value)} {r : Int32} {σ : cS} {v1 : Int32} (X : MX p s m args meth c cc nL RX3 ret g A) (hW : WB g A s.heap mIds ad (mE g ad σ) H locs) (had : mI ad)  (hf : m_isSoft σ v1 = some r) (hR : 4 ≤ R.frames ∧ 87 ≤ R.locals) (hl : lv_has ls nL lv) (hcat : (rest.map fun v => v.category).sum ≤ 8) (hdg : decode cc pc = .ok (.invokevirtual 463, 3)) (kk : ∀ (H1 : Heap) (l1 : List Loc), WB g A s.heap mIds ad (mE g ad σ) H1 l1 → W p l e R s m args below meth c H1 l1 0 0 Q (F0 m (pc + 3) ls (.int r :: rest))) : W p l e R s m args below meth c H locs 0 0 Q (F0 m pc ls (.int v1 :: .ref (ad 999) :: rest)) :=
  r_callV X hW Sub.all (w_isSoft l had hf) (lw_V q1655 q1657 qs97 q126 q1658) ⟨rfl, by decide, by decide, by decide +kernel⟩ m_999 mE_o rfl (n := 1) hR hl rfl rfl hcat ⟨Nat.zero_le _, Nat.zero_le _⟩ hdg kk
-- pushes
noncomputable def m_pushes (σ : cS) (v1 : Int32) (v2 : Int32) : Option (cS) :=
  gd (inb v1 10) (((m_held (((σ.1 2 (ix v1)) + v2).toInt64) 20).bind fun r_3 => some (si σ 2 (ix v1) r_3)))
set_option maxHeartbeats 4000000 in
theorem wb_pushes {p : Program} {l : Launch} {e : Env} {s : State} {m : MethodId} {args : Array Value} {below : List Frame} {meth : Method} {c : Code} {g : gG} {A : Nat → Prop} {ad : Nat → Nat} (X : MX p s m args meth c cX3_pushes 3 RX3 none g A) (had : mI ad) {σr : cS}  {σ : cS} {v1 : Int32} {v2 : Int32}  {H : Heap} {locs : List Loc} {ls : Array Slot} (hW : WB g A s.heap mIds ad (mE g ad σ) H locs) (hl : lv_has ls 3 [(0, .ref (ad 999)), (1, .int v1), (2, .int v2)]) (hf : m_pushes σ v1 v2 = some σr) : W p l e (rm_ 2 42) s m args below meth c H locs 0 0 (Qm below g mIds ad (mE g ad σr) none A args s) (F0 m 0 ls []) := by
  have hx := X.1.1
  have hb := X.1.2.1
  unfold m_pushes at hf
  refine lv_aload_n hx hb dX3_pushes_0 rfl (lv_at hl 0 rfl) ?_
  refine mg_2 X hW dX3_pushes_1 ?_
  refine lv_iload_n hx hb dX3_pushes_4 rfl (lv_at hl 1 rfl) ?_
  refine lv_aload_n hx hb dX3_pushes_5 rfl (lv_at hl 0 rfl) ?_
  refine mg_2 X hW dX3_pushes_6 ?_
  refine lv_iload_n hx hb dX3_pushes_9 rfl (lv_at hl 1 rfl) ?_
  obtain ⟨h_1, hf⟩ := gd_e hf
  refine ml_2 X hW h_1 dX3_pushes_10 ?_
  refine lv_iload_n hx hb dX3_pushes_11 rfl (lv_at hl 2 rfl) ?_
  refine lv_iadd hx hb dX3_pushes_12 ?_
  refine lv_i2l (v := ((σ.1 2 (ix v1)) + v2).toInt64) hx hb dX3_pushes_13 rfl ?_
  refine lv_bipush (v := 20) hx hb dX3_pushes_14 (by decide) ?_
  obtain ⟨r_3, h_2, hf⟩ := bd_e hf
  refine k_held X hW h_2 (by decide) hl (Nat.le_of_ble_eq_true rfl) dX3_pushes_16 (fun H locs hW => ?_)
  refine ms_2 X hW h_1 dX3_pushes_19 (fun H locs hW => ?_)
  exact m_vret X hW hf dX3_pushes_20
theorem w_pushes (l : Launch) {g : gG} {ad : Nat → Nat} (had : mI ad) {σr : cS}  {σ : cS} {v1 : Int32} {v2 : Int32}  (hf : m_pushes σ v1 v2 = some σr) : MM l yX3_pushes cX3_pushes 3 none 2 42 g ad σ σr [.ref (ad 999), .int v1, .int v2] none :=
  MC.of (by decide) mIds_nd had (Nat.le_of_ble_eq_true rfl) (fun p e s m below meth c A ls X hW hl => wb_pushes X had hW hl hf)
theorem k_pushes {p : Program} {l : Launch} {e : Env} {R : Room} {s : State} {m : MethodId} {args : Array Value} {below : List Frame} {meth : Method} {c : Code} {H : Heap} {locs : List Loc} {Q : State → Prop} {cc : ByteArray} {nL : Nat} {ret : Option FieldType} {g : gG} {A : Nat → Prop} {ad : Nat → Nat} {pc : Nat} {ls : Array Slot} {rest : List Value} {lv : List (Nat × Value)} {σr : cS}  {σ : cS} {v1 : Int32} {v2 : Int32} (X : MX p s m args meth c cc nL RX3 ret g A) (hW : WB g A s.heap mIds ad (mE g ad σ) H locs) (had : mI ad)  (hf : m_pushes σ v1 v2 = some σr) (hR : 3 ≤ R.frames ∧ 64 ≤ R.locals) (hl : lv_has ls nL lv) (hcat : (rest.map fun v => v.category).sum ≤ 8) (hdg : decode cc pc = .ok (.invokevirtual 470, 3)) (kk : ∀ (H1 : Heap) (l1 : List Loc), WB g A s.heap mIds ad (mE g ad σr) H1 l1 → W p l e R s m args below meth c H1 l1 0 0 Q (F0 m (pc + 3) ls (rest))) : W p l e R s m args below meth c H locs 0 0 Q (F0 m pc ls (.int v2 :: .int v1 :: .ref (ad 999) :: rest)) :=
  r_callV X hW Sub.all (w_pushes l had hf) (lw_V q1661 q1663 qs98 q126 q1664) ⟨rfl, by decide, by decide, by decide +kernel⟩ m_999 mE_o rfl (n := 2) hR hl rfl rfl hcat ⟨Nat.zero_le _, Nat.zero_le _⟩ hdg kk
-- horses
noncomputable def m_horses (σ : cS) (v1 : Int32) (v2 : Int32) : Option (cS × Int32) :=
  ((m_isSoft σ v1).bind fun r_2 => if r_2 = 0 then (some (σ, (-100))) else (((m_in v2.toInt64 (-3) 3).bind fun r_5 => if r_5 = 0 then (some (σ, (-100))) else (if v2 = 0 then (some (σ, (-100))) else (((m_keepsAct σ).bind fun σ_9 => ((m_notesSides σ_9).bind fun σ_11 => ((m_pushes σ_11 v1 v2).bind fun σ_13 => ((m_crossing σ_13).bind fun (σ_16, r_15) => gd (inb v1 10) (some (σ_16, (σ_16.1 2 (ix v1)))))))))))))
set_option maxHeartbeats 4000000 in
theorem wb_horses {p : Program} {l : Launch} {e : Env} {s : State} {m : MethodId} {args : Array Value} {below : List Frame} {meth : Method} {c : Code} {g : gG} {A : Nat → Prop} {ad : Nat → Nat} (X : MX p s m args meth c cX3_horses 3 RX3 (some .int) g A) (had : mI ad) {σr : cS} {r : Int32} {σ : cS} {v1 : Int32} {v2 : Int32}  {H : Heap} {locs : List Loc} {ls : Array Slot} (hW : WB g A s.heap mIds ad (mE g ad σ) H locs) (hl : lv_has ls 3 [(0, .ref (ad 999)), (1, .int v1), (2, .int v2)]) (hf : m_horses σ v1 v2 = some (σr, r)) : W p l e (rm_ 5 107) s m args below meth c H locs 0 0 (Qm below g mIds ad (mE g ad σr) (some (.int r)) A args s) (F0 m 0 ls []) := by
  have hx := X.1.1
  have hb := X.1.2.1
  unfold m_horses at hf
  refine lv_aload_n hx hb dX3_horses_0 rfl (lv_at hl 0 rfl) ?_
  refine lv_iload_n hx hb dX3_horses_1 rfl (lv_at hl 1 rfl) ?_
  obtain ⟨r_2, h_1, hf⟩ := bd_e hf
  refine k_isSoft X hW had h_1 (by decide) hl (Nat.le_of_ble_eq_true rfl) dX3_horses_2 (fun H locs hW => ?_)
  refine lv_if_eq (tgt := 26) hx hb dX3_horses_5 (by decide) (fun c_3 => ?_) (fun c_3 => ?_)
  · replace hf := ip hf c_3
    refine lv_bipush (v := (-100)) hx hb dX3_horses_26 (by decide) ?_
    exact m_iret X hW hf dX3_horses_28
  · replace hf := ine hf c_3
    refine lv_iload_n hx hb dX3_horses_8 rfl (lv_at hl 2 rfl) ?_
    refine lv_i2l (v := v2.toInt64) hx hb dX3_horses_9 rfl ?_
    refine lv_ldc2 (v := (-3)) hx hb X.1.2.2.2.1 (X.1.2.2.2.2 _ q1659) dX3_horses_10 ?_
    refine lv_ldc2 (v := 3) hx hb X.1.2.2.2.1 (X.1.2.2.2.2 _ q1660) dX3_horses_13 ?_
    obtain ⟨r_5, h_4, hf⟩ := bd_e hf
    refine k_in X hW h_4 (by decide) hl (Nat.le_of_ble_eq_true rfl) dX3_horses_16 (fun H locs hW => ?_)
    refine lv_if_eq (tgt := 26) hx hb dX3_horses_19 (by decide) (fun c_6 => ?_) (fun c_6 => ?_)
    · replace hf := ip hf c_6
      refine lv_bipush (v := (-100)) hx hb dX3_horses_26 (by decide) ?_
      exact m_iret X hW hf dX3_horses_28
    · replace hf := ine hf c_6
      refine lv_iload_n hx hb dX3_horses_22 rfl (lv_at hl 2 rfl) ?_
      refine lv_if_ne (tgt := 29) hx hb dX3_horses_23 (by decide) (fun c_7 => ?_) (fun c_7 => ?_)
      · replace hf := ine hf c_7
        refine lv_aload_n hx hb dX3_horses_29 rfl (lv_at hl 0 rfl) ?_
        obtain ⟨σ_9, h_8, hf⟩ := bd_e hf
        refine k_keepsAct X hW had h_8 (by decide) hl (Nat.le_of_ble_eq_true rfl) dX3_horses_30 (fun H locs hW => ?_)
        refine lv_aload_n hx hb dX3_horses_33 rfl (lv_at hl 0 rfl) ?_
        obtain ⟨σ_11, h_10, hf⟩ := bd_e hf
        refine k_notesSides X hW had h_10 (by decide) hl (Nat.le_of_ble_eq_true rfl) dX3_horses_34 (fun H locs hW => ?_)
        refine lv_aload_n hx hb dX3_horses_37 rfl (lv_at hl 0 rfl) ?_
        refine lv_iload_n hx hb dX3_horses_38 rfl (lv_at hl 1 rfl) ?_
        refine lv_iload_n hx hb dX3_horses_39 rfl (lv_at hl 2 rfl) ?_
        obtain ⟨σ_13, h_12, hf⟩ := bd_e hf
        refine k_pushes X hW had h_12 (by decide) hl (Nat.le_of_ble_eq_true rfl) dX3_horses_40 (fun H locs hW => ?_)
        refine lv_aload_n hx hb dX3_horses_43 rfl (lv_at hl 0 rfl) ?_
        obtain ⟨⟨σ_16, r_15⟩, h_14, hf⟩ := bd_e hf
        refine k_crossing X hW had h_14 (by decide) hl (Nat.le_of_ble_eq_true rfl) dX3_horses_44 (fun H locs hW => ?_)
        refine lv_pop hx hb dX3_horses_47 rfl ?_
        refine lv_aload_n hx hb dX3_horses_48 rfl (lv_at hl 0 rfl) ?_
        refine mg_2 X hW dX3_horses_49 ?_
        refine lv_iload_n hx hb dX3_horses_52 rfl (lv_at hl 1 rfl) ?_
        obtain ⟨h_17, hf⟩ := gd_e hf
        refine ml_2 X hW h_17 dX3_horses_53 ?_
        exact m_iret X hW hf dX3_horses_54
      · replace hf := ip hf c_7
        refine lv_bipush (v := (-100)) hx hb dX3_horses_26 (by decide) ?_
        exact m_iret X hW hf dX3_horses_28
theorem w_horses (l : Launch) {g : gG} {ad : Nat → Nat} (had : mI ad) {σr : cS} {r : Int32} {σ : cS} {v1 : Int32} {v2 : Int32}  (hf : m_horses σ v1 v2 = some (σr, r)) : MM l yX3_horses cX3_horses 3 (some .int) 5 107 g ad σ σr [.ref (ad 999), .int v1, .int v2] (some (.int r)) :=
  MC.of (by decide) mIds_nd had (Nat.le_of_ble_eq_true rfl) (fun p e s m below meth c A ls X hW hl => wb_horses X had hW hl hf)
-- salt
noncomputable def m_salt (σ : cS) (v1 : Int32) : Option (cS × Int32) :=
  ((m_isMile σ v1).bind fun r_2 => if r_2 = 0 then (some (σ, (-1))) else (gd (inb v1 10) (if (σ.1 4 (ix v1)) = 9 then (some (σ, (-1))) else (((m_keepsAct σ).bind fun σ_7 => some ((si σ_7 4 (ix v1) ((σ_7.1 4 (ix v1)) + 1)), ((si σ_7 4 (ix v1) ((σ_7.1 4 (ix v1)) + 1)).1 4 (ix v1))))))))
set_option maxHeartbeats 4000000 in
theorem wb_salt {p : Program} {l : Launch} {e : Env} {s : State} {m : MethodId} {args : Array Value} {below : List Frame} {meth : Method} {c : Code} {g : gG} {A : Nat → Prop} {ad : Nat → Nat} (X : MX p s m args meth c cX3_salt 2 RX3 (some .int) g A) (had : mI ad) {σr : cS} {r : Int32} {σ : cS} {v1 : Int32}  {H : Heap} {locs : List Loc} {ls : Array Slot} (hW : WB g A s.heap mIds ad (mE g ad σ) H locs) (hl : lv_has ls 2 [(0, .ref (ad 999)), (1, .int v1)]) (hf : m_salt σ v1 = some (σr, r)) : W p l e (rm_ 5 107) s m args below meth c H locs 0 0 (Qm below g mIds ad (mE g ad σr) (some (.int r)) A args s) (F0 m 0 ls []) := by
  have hx := X.1.1
  have hb := X.1.2.1
  unfold m_salt at hf
  refine lv_aload_n hx hb dX3_salt_0 rfl (lv_at hl 0 rfl) ?_
  refine lv_iload_n hx hb dX3_salt_1 rfl (lv_at hl 1 rfl) ?_
  obtain ⟨r_2, h_1, hf⟩ := bd_e hf
  refine k_isMile X hW had h_1 (by decide) hl (Nat.le_of_ble_eq_true rfl) dX3_salt_2 (fun H locs hW => ?_)
  refine lv_if_eq (tgt := 19) hx hb dX3_salt_5 (by decide) (fun c_3 => ?_) (fun c_3 => ?_)
  · replace hf := ip hf c_3
    refine lv_iconst (v := (-1)) hx hb dX3_salt_19 (by decide) ?_
    exact m_iret X hW hf dX3_salt_20
  · replace hf := ine hf c_3
    refine lv_aload_n hx hb dX3_salt_8 rfl (lv_at hl 0 rfl) ?_
    refine mg_4 X hW dX3_salt_9 ?_
    refine lv_iload_n hx hb dX3_salt_12 rfl (lv_at hl 1 rfl) ?_
    obtain ⟨h_4, hf⟩ := gd_e hf
    refine ml_4 X hW h_4 dX3_salt_13 ?_
    refine lv_bipush (v := 9) hx hb dX3_salt_14 (by decide) ?_
    refine lv_icmp_ne (tgt := 21) hx hb dX3_salt_16 (by decide) (fun c_5 => ?_) (fun c_5 => ?_)
    · replace hf := ine hf c_5
      refine lv_aload_n hx hb dX3_salt_21 rfl (lv_at hl 0 rfl) ?_
      obtain ⟨σ_7, h_6, hf⟩ := bd_e hf
      refine k_keepsAct X hW had h_6 (by decide) hl (Nat.le_of_ble_eq_true rfl) dX3_salt_22 (fun H locs hW => ?_)
      refine lv_aload_n hx hb dX3_salt_25 rfl (lv_at hl 0 rfl) ?_
      refine mg_4 X hW dX3_salt_26 ?_
      refine lv_iload_n hx hb dX3_salt_29 rfl (lv_at hl 1 rfl) ?_
      refine lv_dup2_11 hx hb dX3_salt_30 rfl rfl ?_
      refine ml_4 X hW h_4 dX3_salt_31 ?_
      refine lv_iconst (v := 1) hx hb dX3_salt_32 (by decide) ?_
      refine lv_iadd hx hb dX3_salt_33 ?_
      refine ms_4 X hW h_4 dX3_salt_34 (fun H locs hW => ?_)
      refine lv_aload_n hx hb dX3_salt_35 rfl (lv_at hl 0 rfl) ?_
      refine mg_4 X hW dX3_salt_36 ?_
      refine lv_iload_n hx hb dX3_salt_39 rfl (lv_at hl 1 rfl) ?_
      refine ml_4 X hW h_4 dX3_salt_40 ?_
      exact m_iret X hW hf dX3_salt_41
    · replace hf := ip hf c_5
      refine lv_iconst (v := (-1)) hx hb dX3_salt_19 (by decide) ?_
      exact m_iret X hW hf dX3_salt_20
theorem w_salt (l : Launch) {g : gG} {ad : Nat → Nat} (had : mI ad) {σr : cS} {r : Int32} {σ : cS} {v1 : Int32}  (hf : m_salt σ v1 = some (σr, r)) : MM l yX3_salt cX3_salt 2 (some .int) 5 107 g ad σ σr [.ref (ad 999), .int v1] (some (.int r)) :=
  MC.of (by decide) mIds_nd had (Nat.le_of_ble_eq_true rfl) (fun p e s m below meth c A ls X hW hl => wb_salt X had hW hl hf)
-- sugar
noncomputable def m_sugar (σ : cS) (v1 : Int32) : Option (cS × Int32) :=
  ((m_isSoft σ v1).bind fun r_2 => if r_2 = 0 then (some (σ, (-1))) else (((m_keepsAct σ).bind fun σ_5 => gd (inb v1 10) (((if (σ_5.1 4 (ix v1)) ≤ 0 then (some (0)) else (some (((σ_5.1 4 (ix v1)) - 1))) : Option (Int32)).bind fun t_7 => (((if (((si σ_5 4 (ix v1) t_7).1 3 (ix v1)) + 10) ≤ 99 then (some ((((si σ_5 4 (ix v1) t_7).1 3 (ix v1)) + 10))) else (some (99)) : Option (Int32)).bind fun t_9 => (nmb (si σ_5 4 (ix v1) t_7) fun σ_11 => (some ((si σ_11 3 (ix v1) t_9), ((si σ_11 3 (ix v1) t_9).1 3 (ix v1))))))))))))
set_option maxHeartbeats 4000000 in
theorem wb_sugar {p : Program} {l : Launch} {e : Env} {s : State} {m : MethodId} {args : Array Value} {below : List Frame} {meth : Method} {c : Code} {g : gG} {A : Nat → Prop} {ad : Nat → Nat} (X : MX p s m args meth c cX3_sugar 2 RX3 (some .int) g A) (had : mI ad) {σr : cS} {r : Int32} {σ : cS} {v1 : Int32}  {H : Heap} {locs : List Loc} {ls : Array Slot} (hW : WB g A s.heap mIds ad (mE g ad σ) H locs) (hl : lv_has ls 2 [(0, .ref (ad 999)), (1, .int v1)]) (hf : m_sugar σ v1 = some (σr, r)) : W p l e (rm_ 5 107) s m args below meth c H locs 0 0 (Qm below g mIds ad (mE g ad σr) (some (.int r)) A args s) (F0 m 0 ls []) := by
  have hx := X.1.1
  have hb := X.1.2.1
  unfold m_sugar at hf
  refine lv_aload_n hx hb dX3_sugar_0 rfl (lv_at hl 0 rfl) ?_
  refine lv_iload_n hx hb dX3_sugar_1 rfl (lv_at hl 1 rfl) ?_
  obtain ⟨r_2, h_1, hf⟩ := bd_e hf
  refine k_isSoft X hW had h_1 (by decide) hl (Nat.le_of_ble_eq_true rfl) dX3_sugar_2 (fun H locs hW => ?_)
  refine lv_if_ne (tgt := 10) hx hb dX3_sugar_5 (by decide) (fun c_3 => ?_) (fun c_3 => ?_)
  · replace hf := ine hf c_3
    refine lv_aload_n hx hb dX3_sugar_10 rfl (lv_at hl 0 rfl) ?_
    obtain ⟨σ_5, h_4, hf⟩ := bd_e hf
    refine k_keepsAct X hW had h_4 (by decide) hl (Nat.le_of_ble_eq_true rfl) dX3_sugar_11 (fun H locs hW => ?_)
    refine lv_aload_n hx hb dX3_sugar_14 rfl (lv_at hl 0 rfl) ?_
    refine mg_4 X hW dX3_sugar_15 ?_
    refine lv_iload_n hx hb dX3_sugar_18 rfl (lv_at hl 1 rfl) ?_
    refine lv_aload_n hx hb dX3_sugar_19 rfl (lv_at hl 0 rfl) ?_
    refine mg_4 X hW dX3_sugar_20 ?_
    refine lv_iload_n hx hb dX3_sugar_23 rfl (lv_at hl 1 rfl) ?_
    obtain ⟨h_6, hf⟩ := gd_e hf
    refine ml_4 X hW h_6 dX3_sugar_24 ?_
    obtain ⟨t_7, hD_8, hf⟩ := bd_e hf
    have hJ : ∀ (H : Heap) (locs : List Loc) (ls : Array Slot), WB g A s.heap mIds ad (mE g ad σ_5) H locs → lv_has ls 2 [(0, .ref (ad 999)), (1, .int v1)] → W p l e (rm_ 5 107) s m args below meth c H locs 0 0 (Qm below g mIds ad (mE g ad σr) (some (.int r)) A args s) (F0 m 40 ls [.int t_7, .int v1, .ref (ad 4)]) := by
      intro H locs ls hW hl
      refine ms_4 X hW h_6 dX3_sugar_40 (fun H locs hW => ?_)
      refine lv_aload_n hx hb dX3_sugar_41 rfl (lv_at hl 0 rfl) ?_
      refine mg_3 X hW dX3_sugar_42 ?_
      refine lv_iload_n hx hb dX3_sugar_45 rfl (lv_at hl 1 rfl) ?_
      refine lv_aload_n hx hb dX3_sugar_46 rfl (lv_at hl 0 rfl) ?_
      refine mg_3 X hW dX3_sugar_47 ?_
      refine lv_iload_n hx hb dX3_sugar_50 rfl (lv_at hl 1 rfl) ?_
      refine ml_3 X hW h_6 dX3_sugar_51 ?_
      refine lv_bipush (v := 10) hx hb dX3_sugar_52 (by decide) ?_
      refine lv_iadd hx hb dX3_sugar_54 ?_
      refine lv_bipush (v := 99) hx hb dX3_sugar_55 (by decide) ?_
      obtain ⟨t_9, hD_10, hf⟩ := bd_e hf
      have hJ : ∀ (H : Heap) (locs : List Loc) (ls : Array Slot), WB g A s.heap mIds ad (mE g ad (si σ_5 4 (ix v1) t_7)) H locs → lv_has ls 2 [(0, .ref (ad 999)), (1, .int v1)] → W p l e (rm_ 5 107) s m args below meth c H locs 0 0 (Qm below g mIds ad (mE g ad σr) (some (.int r)) A args s) (F0 m 74 ls [.int t_9, .int v1, .ref (ad 3)]) := by
        intro H locs ls hW hl
        obtain ⟨σ_11, e_12, hf⟩ := nmb_e hf
        rw [← e_12] at hW
        clear e_12
        refine ms_3 X hW h_6 dX3_sugar_74 (fun H locs hW => ?_)
        refine lv_aload_n hx hb dX3_sugar_75 rfl (lv_at hl 0 rfl) ?_
        refine mg_3 X hW dX3_sugar_76 ?_
        refine lv_iload_n hx hb dX3_sugar_79 rfl (lv_at hl 1 rfl) ?_
        refine ml_3 X hW h_6 dX3_sugar_80 ?_
        exact m_iret X hW hf dX3_sugar_81
      clear hf
      refine lv_icmp_le (tgt := 65) hx hb dX3_sugar_57 (by decide) (fun c_13 => ?_) (fun c_13 => ?_)
      · replace hD_10 := ip hD_10 c_13
        refine lv_aload_n hx hb dX3_sugar_65 rfl (lv_at hl 0 rfl) ?_
        refine mg_3 X hW dX3_sugar_66 ?_
        refine lv_iload_n hx hb dX3_sugar_69 rfl (lv_at hl 1 rfl) ?_
        refine ml_3 X hW h_6 dX3_sugar_70 ?_
        refine lv_bipush (v := 10) hx hb dX3_sugar_71 (by decide) ?_
        refine lv_iadd hx hb dX3_sugar_73 ?_
        cases hD_10
        exact hJ _ _ _ hW (lv_sub hl [0, 1] rfl)
      · replace hD_10 := ine hD_10 c_13
        refine lv_bipush (v := 99) hx hb dX3_sugar_60 (by decide) ?_
        refine lv_goto (tgt := 74) hx hb dX3_sugar_62 (by decide) ?_
        cases hD_10
        exact hJ _ _ _ hW (lv_sub hl [0, 1] rfl)
    clear hf
    refine lv_if_le (tgt := 39) hx hb dX3_sugar_25 (by decide) (fun c_14 => ?_) (fun c_14 => ?_)
    · replace hD_8 := ip hD_8 c_14
      refine lv_iconst (v := 0) hx hb dX3_sugar_39 (by decide) ?_
      cases hD_8
      exact hJ _ _ _ hW (lv_sub hl [0, 1] rfl)
    · replace hD_8 := ine hD_8 c_14
      refine lv_aload_n hx hb dX3_sugar_28 rfl (lv_at hl 0 rfl) ?_
      refine mg_4 X hW dX3_sugar_29 ?_
      refine lv_iload_n hx hb dX3_sugar_32 rfl (lv_at hl 1 rfl) ?_
      refine ml_4 X hW h_6 dX3_sugar_33 ?_
      refine lv_iconst (v := 1) hx hb dX3_sugar_34 (by decide) ?_
      refine lv_isub hx hb dX3_sugar_35 ?_
      refine lv_goto (tgt := 40) hx hb dX3_sugar_36 (by decide) ?_
      cases hD_8
      exact hJ _ _ _ hW (lv_sub hl [0, 1] rfl)
  · replace hf := ip hf c_3
    refine lv_iconst (v := (-1)) hx hb dX3_sugar_8 (by decide) ?_
    exact m_iret X hW hf dX3_sugar_9
theorem w_sugar (l : Launch) {g : gG} {ad : Nat → Nat} (had : mI ad) {σr : cS} {r : Int32} {σ : cS} {v1 : Int32}  (hf : m_sugar σ v1 = some (σr, r)) : MM l yX3_sugar cX3_sugar 2 (some .int) 5 107 g ad σ σr [.ref (ad 999), .int v1] (some (.int r)) :=
  MC.of (by decide) mIds_nd had (Nat.le_of_ble_eq_true rfl) (fun p e s m below meth c A ls X hW hl => wb_sugar X had hW hl hf)
-- slice
noncomputable def m_slice (σ : cS) (v1 : Int32) (v2 : Int32) : Option (cS × Int32) :=
  ((m_isSoft σ v1).bind fun r_2 => if r_2 = 0 then (some (σ, (-1))) else (((m_in v2.toInt64 1 99).bind fun r_5 => if r_5 = 0 then (some (σ, (-1))) else (gd (inb v1 10) (if v2 ≤ (σ.1 3 (ix v1)) then (((m_keepsAct σ).bind fun σ_10 => some ((si σ_10 3 (ix v1) ((σ_10.1 3 (ix v1)) - v2)), ((si σ_10 3 (ix v1) ((σ_10.1 3 (ix v1)) - v2)).1 3 (ix v1))))) else (some (σ, (-1))))))))
set_option maxHeartbeats 4000000 in
theorem wb_slice {p : Program} {l : Launch} {e : Env} {s : State} {m : MethodId} {args : Array Value} {below : List Frame} {meth : Method} {c : Code} {g : gG} {A : Nat → Prop} {ad : Nat → Nat} (X : MX p s m args meth c cX3_slice 3 RX3 (some .int) g A) (had : mI ad) {σr : cS} {r : Int32} {σ : cS} {v1 : Int32} {v2 : Int32}  {H : Heap} {locs : List Loc} {ls : Array Slot} (hW : WB g A s.heap mIds ad (mE g ad σ) H locs) (hl : lv_has ls 3 [(0, .ref (ad 999)), (1, .int v1), (2, .int v2)]) (hf : m_slice σ v1 v2 = some (σr, r)) : W p l e (rm_ 5 107) s m args below meth c H locs 0 0 (Qm below g mIds ad (mE g ad σr) (some (.int r)) A args s) (F0 m 0 ls []) := by
  have hx := X.1.1
  have hb := X.1.2.1
  unfold m_slice at hf
  refine lv_aload_n hx hb dX3_slice_0 rfl (lv_at hl 0 rfl) ?_
  refine lv_iload_n hx hb dX3_slice_1 rfl (lv_at hl 1 rfl) ?_
  obtain ⟨r_2, h_1, hf⟩ := bd_e hf
  refine k_isSoft X hW had h_1 (by decide) hl (Nat.le_of_ble_eq_true rfl) dX3_slice_2 (fun H locs hW => ?_)
  refine lv_if_eq (tgt := 30) hx hb dX3_slice_5 (by decide) (fun c_3 => ?_) (fun c_3 => ?_)
  · replace hf := ip hf c_3
    refine lv_iconst (v := (-1)) hx hb dX3_slice_30 (by decide) ?_
    exact m_iret X hW hf dX3_slice_31
  · replace hf := ine hf c_3
    refine lv_iload_n hx hb dX3_slice_8 rfl (lv_at hl 2 rfl) ?_
    refine lv_i2l (v := v2.toInt64) hx hb dX3_slice_9 rfl ?_
    refine lv_lconst (v := 1) hx hb dX3_slice_10 (by decide) ?_
    refine lv_ldc2 (v := 99) hx hb X.1.2.2.2.1 (X.1.2.2.2.2 _ q1677) dX3_slice_11 ?_
    obtain ⟨r_5, h_4, hf⟩ := bd_e hf
    refine k_in X hW h_4 (by decide) hl (Nat.le_of_ble_eq_true rfl) dX3_slice_14 (fun H locs hW => ?_)
    refine lv_if_eq (tgt := 30) hx hb dX3_slice_17 (by decide) (fun c_6 => ?_) (fun c_6 => ?_)
    · replace hf := ip hf c_6
      refine lv_iconst (v := (-1)) hx hb dX3_slice_30 (by decide) ?_
      exact m_iret X hW hf dX3_slice_31
    · replace hf := ine hf c_6
      refine lv_aload_n hx hb dX3_slice_20 rfl (lv_at hl 0 rfl) ?_
      refine mg_3 X hW dX3_slice_21 ?_
      refine lv_iload_n hx hb dX3_slice_24 rfl (lv_at hl 1 rfl) ?_
      obtain ⟨h_7, hf⟩ := gd_e hf
      refine ml_3 X hW h_7 dX3_slice_25 ?_
      refine lv_iload_n hx hb dX3_slice_26 rfl (lv_at hl 2 rfl) ?_
      refine lv_icmp_ge (tgt := 32) hx hb dX3_slice_27 (by decide) (fun c_8 => ?_) (fun c_8 => ?_)
      · replace hf := ip hf c_8
        refine lv_aload_n hx hb dX3_slice_32 rfl (lv_at hl 0 rfl) ?_
        obtain ⟨σ_10, h_9, hf⟩ := bd_e hf
        refine k_keepsAct X hW had h_9 (by decide) hl (Nat.le_of_ble_eq_true rfl) dX3_slice_33 (fun H locs hW => ?_)
        refine lv_aload_n hx hb dX3_slice_36 rfl (lv_at hl 0 rfl) ?_
        refine mg_3 X hW dX3_slice_37 ?_
        refine lv_iload_n hx hb dX3_slice_40 rfl (lv_at hl 1 rfl) ?_
        refine lv_dup2_11 hx hb dX3_slice_41 rfl rfl ?_
        refine ml_3 X hW h_7 dX3_slice_42 ?_
        refine lv_iload_n hx hb dX3_slice_43 rfl (lv_at hl 2 rfl) ?_
        refine lv_isub hx hb dX3_slice_44 ?_
        refine ms_3 X hW h_7 dX3_slice_45 (fun H locs hW => ?_)
        refine lv_aload_n hx hb dX3_slice_46 rfl (lv_at hl 0 rfl) ?_
        refine mg_3 X hW dX3_slice_47 ?_
        refine lv_iload_n hx hb dX3_slice_50 rfl (lv_at hl 1 rfl) ?_
        refine ml_3 X hW h_7 dX3_slice_51 ?_
        exact m_iret X hW hf dX3_slice_52
      · replace hf := ine hf c_8
        refine lv_iconst (v := (-1)) hx hb dX3_slice_30 (by decide) ?_
        exact m_iret X hW hf dX3_slice_31
theorem w_slice (l : Launch) {g : gG} {ad : Nat → Nat} (had : mI ad) {σr : cS} {r : Int32} {σ : cS} {v1 : Int32} {v2 : Int32}  (hf : m_slice σ v1 v2 = some (σr, r)) : MM l yX3_slice cX3_slice 3 (some .int) 5 107 g ad σ σr [.ref (ad 999), .int v1, .int v2] (some (.int r)) :=
  MC.of (by decide) mIds_nd had (Nat.le_of_ble_eq_true rfl) (fun p e s m below meth c A ls X hW hl => wb_slice X had hW hl hf)
-- bake
noncomputable def m_bake (σ : cS) (v1 : Int32) : Option (cS × Int32) :=
  ((m_isSoft σ v1).bind fun r_2 => if r_2 = 0 then (some (σ, 0)) else (((m_keepsAct σ).bind fun σ_5 => some ((si σ_5 1 (ix 4) ((σ_5.1 1 (ix 4)) ||| (1 <<< (v1 &&& 31)))), 1))))
set_option maxHeartbeats 4000000 in
theorem wb_bake {p : Program} {l : Launch} {e : Env} {s : State} {m : MethodId} {args : Array Value} {below : List Frame} {meth : Method} {c : Code} {g : gG} {A : Nat → Prop} {ad : Nat → Nat} (X : MX p s m args meth c cX3_bake 2 RX3 (some .boolean) g A) (had : mI ad) {σr : cS} {r : Int32} {σ : cS} {v1 : Int32}  {H : Heap} {locs : List Loc} {ls : Array Slot} (hW : WB g A s.heap mIds ad (mE g ad σ) H locs) (hl : lv_has ls 2 [(0, .ref (ad 999)), (1, .int v1)]) (hf : m_bake σ v1 = some (σr, r)) : W p l e (rm_ 5 107) s m args below meth c H locs 0 0 (Qm below g mIds ad (mE g ad σr) (some (.int r)) A args s) (F0 m 0 ls []) := by
  have hx := X.1.1
  have hb := X.1.2.1
  unfold m_bake at hf
  refine lv_aload_n hx hb dX3_bake_0 rfl (lv_at hl 0 rfl) ?_
  refine lv_iload_n hx hb dX3_bake_1 rfl (lv_at hl 1 rfl) ?_
  obtain ⟨r_2, h_1, hf⟩ := bd_e hf
  refine k_isSoft X hW had h_1 (by decide) hl (Nat.le_of_ble_eq_true rfl) dX3_bake_2 (fun H locs hW => ?_)
  refine lv_if_ne (tgt := 10) hx hb dX3_bake_5 (by decide) (fun c_3 => ?_) (fun c_3 => ?_)
  · replace hf := ine hf c_3
    refine lv_aload_n hx hb dX3_bake_10 rfl (lv_at hl 0 rfl) ?_
    obtain ⟨σ_5, h_4, hf⟩ := bd_e hf
    refine k_keepsAct X hW had h_4 (by decide) hl (Nat.le_of_ble_eq_true rfl) dX3_bake_11 (fun H locs hW => ?_)
    refine lv_aload_n hx hb dX3_bake_14 rfl (lv_at hl 0 rfl) ?_
    refine mg_1 X hW dX3_bake_15 ?_
    refine lv_iconst (v := 4) hx hb dX3_bake_18 (by decide) ?_
    refine lv_dup2_11 hx hb dX3_bake_19 rfl rfl ?_
    refine ml_1 X hW (by decide) dX3_bake_20 ?_
    refine lv_iconst (v := 1) hx hb dX3_bake_21 (by decide) ?_
    refine lv_iload_n hx hb dX3_bake_22 rfl (lv_at hl 1 rfl) ?_
    refine lv_ishl hx hb dX3_bake_23 ?_
    refine lv_ior hx hb dX3_bake_24 ?_
    refine ms_1 X hW (by decide) dX3_bake_25 (fun H locs hW => ?_)
    refine lv_iconst (v := 1) hx hb dX3_bake_26 (by decide) ?_
    exact m_zret X hW hf (by decide) dX3_bake_27
  · replace hf := ip hf c_3
    refine lv_iconst (v := 0) hx hb dX3_bake_8 (by decide) ?_
    exact m_zret X hW hf (by decide) dX3_bake_9
theorem w_bake (l : Launch) {g : gG} {ad : Nat → Nat} (had : mI ad) {σr : cS} {r : Int32} {σ : cS} {v1 : Int32}  (hf : m_bake σ v1 = some (σr, r)) : MM l yX3_bake cX3_bake 2 (some .boolean) 5 107 g ad σ σr [.ref (ad 999), .int v1] (some (.int r)) :=
  MC.of (by decide) mIds_nd had (Nat.le_of_ble_eq_true rfl) (fun p e s m below meth c A ls X hW hl => wb_bake X had hW hl hf)
-- carryRow
noncomputable def m_carryRow_2 {ρ : Type} (v1 : Nat) (K : cS → Option ρ) : Nat → cS → Int32 → Option ρ
  | 0, _, _ => none
  | n + 1, σ, v2 => if (nI (mK v1).2) ≤ v2 then (K σ) else (((if (σ.1 999 67) = 0 then (gd (inb v2 (mK v1).2) (gd (inb (σ.1 999 66) 5500) (some ((si σ 64 (ix (σ.1 999 66)) (σ.1 v1 (ix v2))))))) else (gd (inb (σ.1 999 66) 5500) (gd (inb v2 (mK v1).2) (some ((si σ v1 (ix v2) (σ.1 64 (ix (σ.1 999 66)))))))) : Option (cS)).bind fun σ_2 => (m_carryRow_2 v1 K n (si σ_2 999 66 ((σ_2.1 999 66) + 1)) (v2 + 1))))
set_option maxHeartbeats 4000000 in
theorem wm_carryRow_2 {p : Program} {l : Launch} {e : Env} {s : State} {m : MethodId} {args : Array Value} {below : List Frame} {meth : Method} {c : Code} {g : gG} {A : Nat → Prop} {ad : Nat → Nat} (X : MX p s m args meth c cX3_carryRow 3 RX3 none g A) (had : mI ad) {ρ : Type} {res : ρ} {Q : State → Prop} {v1 : Nat} (hk_v1 : v1 ∈ mIds) (hc_v1 : (mK v1).1 = 0) {K : cS → Option ρ}
    (hK : ∀ (σ : cS) (H : Heap) (locs : List Loc) (ls : Array Slot), WB g A s.heap mIds ad (mE g ad σ) H locs → lv_has ls 3 [] → K σ = some res → W p l e (rm_ 1 20) s m args below meth c H locs 0 0 Q (F0 m 58 ls [])) :
    ∀ (n : Nat) (σ : cS) (v2 : Int32) (H : Heap) (locs : List Loc) (ls : Array Slot), WB g A s.heap mIds ad (mE g ad σ) H locs → lv_has ls 3 [(0, .ref (ad 999)), (1, .ref (ad v1)), (2, .int v2)] → m_carryRow_2 v1 K n σ v2 = some res → W p l e (rm_ 1 20) s m args below meth c H locs 0 0 Q (F0 m 2 ls []) := by
  have hx := X.1.1
  have hb := X.1.2.1
  intro n
  induction n with
  | zero =>
    intro σ v2 H locs ls hW hl hf
    rw [m_carryRow_2] at hf
    cases hf
  | succ n ih =>
    intro σ v2 H locs ls hW hl hf
    rw [m_carryRow_2] at hf
    refine lv_iload_n hx hb dX3_carryRow_2 rfl (lv_at hl 2 rfl) ?_
    refine lv_aload_n hx hb dX3_carryRow_3 rfl (lv_at hl 1 rfl) ?_
    refine ma_v X hW hk_v1 hc_v1 dX3_carryRow_4 ?_
    refine lv_icmp_ge (tgt := 58) hx hb dX3_carryRow_5 (by decide) (fun c_1 => ?_) (fun c_1 => ?_)
    · replace hf := ip hf c_1
      exact hK _ _ _ _ hW (lv_sub hl [] rfl) hf
    · replace hf := ine hf c_1
      refine lv_aload_n hx hb dX3_carryRow_8 rfl (lv_at hl 0 rfl) ?_
      refine mg_67 X hW dX3_carryRow_9 ?_
      obtain ⟨σ_2, hD_3, hf⟩ := bd_e hf
      have hJ : ∀ (H : Heap) (locs : List Loc) (ls : Array Slot), WB g A s.heap mIds ad (mE g ad σ_2) H locs → lv_has ls 3 [(0, .ref (ad 999)), (1, .ref (ad v1)), (2, .int v2)] → W p l e (rm_ 1 20) s m args below meth c H locs 0 0 Q (F0 m 42 ls []) := by
        intro H locs ls hW hl
        refine lv_aload_n hx hb dX3_carryRow_42 rfl (lv_at hl 0 rfl) ?_
        refine lv_dup hx hb dX3_carryRow_43 rfl ?_
        refine mg_66 X hW dX3_carryRow_44 ?_
        refine lv_iconst (v := 1) hx hb dX3_carryRow_47 (by decide) ?_
        refine lv_iadd hx hb dX3_carryRow_48 ?_
        refine mp_66 X hW dX3_carryRow_49 (fun H locs hW => ?_)
        refine lv_iinc (v := (v2 + 1)) (lv' := [(2, .int (v2 + 1)), (0, .ref (ad 999)), (1, .ref (ad v1))]) hx hb dX3_carryRow_52 hl (k := 2) rfl (ii_v _ _ _ (by decide)) (by decide) rfl (fun ls hl => ?_)
        refine lv_goto (tgt := 2) hx hb dX3_carryRow_55 (by decide) ?_
        exact ih _ _ _ _ _ hW (lv_sub hl [1, 2, 0] rfl) hf
      clear hf
      refine lv_if_eq (tgt := 30) hx hb dX3_carryRow_12 (by decide) (fun c_4 => ?_) (fun c_4 => ?_)
      · replace hD_3 := ip hD_3 c_4
        refine lv_aload_n hx hb dX3_carryRow_30 rfl (lv_at hl 0 rfl) ?_
        refine mg_64 X hW dX3_carryRow_31 ?_
        refine lv_aload_n hx hb dX3_carryRow_34 rfl (lv_at hl 0 rfl) ?_
        refine mg_66 X hW dX3_carryRow_35 ?_
        refine lv_aload_n hx hb dX3_carryRow_38 rfl (lv_at hl 1 rfl) ?_
        refine lv_iload_n hx hb dX3_carryRow_39 rfl (lv_at hl 2 rfl) ?_
        obtain ⟨h_5, hD_3⟩ := gd_e hD_3
        refine ml_v X hW hk_v1 hc_v1 h_5 dX3_carryRow_40 ?_
        obtain ⟨h_6, hD_3⟩ := gd_e hD_3
        refine ms_64 X hW h_6 dX3_carryRow_41 (fun H locs hW => ?_)
        cases hD_3
        exact hJ _ _ _ hW (lv_sub hl [0, 1, 2] rfl)
      · replace hD_3 := ine hD_3 c_4
        refine lv_aload_n hx hb dX3_carryRow_15 rfl (lv_at hl 1 rfl) ?_
        refine lv_iload_n hx hb dX3_carryRow_16 rfl (lv_at hl 2 rfl) ?_
        refine lv_aload_n hx hb dX3_carryRow_17 rfl (lv_at hl 0 rfl) ?_
        refine mg_64 X hW dX3_carryRow_18 ?_
        refine lv_aload_n hx hb dX3_carryRow_21 rfl (lv_at hl 0 rfl) ?_
        refine mg_66 X hW dX3_carryRow_22 ?_
        obtain ⟨h_7, hD_3⟩ := gd_e hD_3
        refine ml_64 X hW h_7 dX3_carryRow_25 ?_
        obtain ⟨h_8, hD_3⟩ := gd_e hD_3
        refine ms_v X hW hk_v1 hc_v1 h_8 dX3_carryRow_26 (fun H locs hW => ?_)
        refine lv_goto (tgt := 42) hx hb dX3_carryRow_27 (by decide) ?_
        cases hD_3
        exact hJ _ _ _ hW (lv_sub hl [0, 1, 2] rfl)
noncomputable def m_carryRow (σ : cS) (v1 : Nat) : Option (cS) :=
  m_carryRow_2 v1 (fun σ_9 => (some σ_9)) FU σ 0
set_option maxHeartbeats 4000000 in
theorem wb_carryRow {p : Program} {l : Launch} {e : Env} {s : State} {m : MethodId} {args : Array Value} {below : List Frame} {meth : Method} {c : Code} {g : gG} {A : Nat → Prop} {ad : Nat → Nat} (X : MX p s m args meth c cX3_carryRow 3 RX3 none g A) (had : mI ad) {σr : cS}  {σ : cS} {v1 : Nat} (hk_v1 : v1 ∈ mIds) (hc_v1 : (mK v1).1 = 0) {H : Heap} {locs : List Loc} {ls : Array Slot} (hW : WB g A s.heap mIds ad (mE g ad σ) H locs) (hl : lv_has ls 3 [(0, .ref (ad 999)), (1, .ref (ad v1))]) (hf : m_carryRow σ v1 = some σr) : W p l e (rm_ 1 20) s m args below meth c H locs 0 0 (Qm below g mIds ad (mE g ad σr) none A args s) (F0 m 0 ls []) := by
  have hx := X.1.1
  have hb := X.1.2.1
  unfold m_carryRow at hf
  refine lv_iconst (v := 0) hx hb dX3_carryRow_0 (by decide) ?_
  refine lv_istore_n (lv' := [(2, .int 0), (0, .ref (ad 999)), (1, .ref (ad v1))]) hx hb dX3_carryRow_1 rfl hl (by decide) rfl (fun ls hl => ?_)
  refine wm_carryRow_2 X had hk_v1 hc_v1 (fun σ_9 H locs ls hW hl hf => ?_) _ _ _ _ _ _ hW (lv_sub hl [1, 2, 0] rfl) hf
  exact m_vret X hW hf dX3_carryRow_58
theorem w_carryRow (l : Launch) {g : gG} {ad : Nat → Nat} (had : mI ad) {σr : cS}  {σ : cS} {v1 : Nat} (hk_v1 : v1 ∈ mIds) (hc_v1 : (mK v1).1 = 0) (hf : m_carryRow σ v1 = some σr) : MM l yX3_carryRow cX3_carryRow 3 none 1 20 g ad σ σr [.ref (ad 999), .ref (ad v1)] none :=
  MC.of (by decide) mIds_nd had (Nat.le_of_ble_eq_true rfl) (fun p e s m below meth c A ls X hW hl => wb_carryRow X had hk_v1 hc_v1 hW hl hf)
theorem k_carryRow {p : Program} {l : Launch} {e : Env} {R : Room} {s : State} {m : MethodId} {args : Array Value} {below : List Frame} {meth : Method} {c : Code} {H : Heap} {locs : List Loc} {Q : State → Prop} {cc : ByteArray} {nL : Nat} {ret : Option FieldType} {g : gG} {A : Nat → Prop} {ad : Nat → Nat} {pc : Nat} {ls : Array Slot} {rest : List Value} {lv : List (Nat × Value)} {σr : cS}  {σ : cS} {v1 : Nat} (X : MX p s m args meth c cc nL RX3 ret g A) (hW : WB g A s.heap mIds ad (mE g ad σ) H locs) (had : mI ad) (hk_v1 : v1 ∈ mIds) (hc_v1 : (mK v1).1 = 0) (hf : m_carryRow σ v1 = some σr) (hR : 2 ≤ R.frames ∧ 42 ≤ R.locals) (hl : lv_has ls nL lv) (hcat : (rest.map fun v => v.category).sum ≤ 8) (hdg : decode cc pc = .ok (.invokevirtual 570, 3)) (kk : ∀ (H1 : Heap) (l1 : List Loc), WB g A s.heap mIds ad (mE g ad σr) H1 l1 → W p l e R s m args below meth c H1 l1 0 0 Q (F0 m (pc + 3) ls (rest))) : W p l e R s m args below meth c H locs 0 0 Q (F0 m pc ls (.ref (ad v1) :: .ref (ad 999) :: rest)) :=
  r_callV X hW Sub.all (w_carryRow l had hk_v1 hc_v1 hf) (lw_V q1696 q1698 qs101 q126 q1699) ⟨rfl, by decide, by decide, by decide +kernel⟩ m_999 mE_o rfl (n := 1) hR hl rfl rfl hcat ⟨Nat.zero_le _, Nat.zero_le _⟩ hdg kk
-- carriesAll
noncomputable def m_carriesAll (σ : cS) (v1 : Int32) (v2 : Int32) : Option (cS) :=
  nmb (si σ 999 66 (1100 * v1)) fun σ_1 => (gd (zb v2) (((m_carryRow (si σ_1 999 67 v2) 1).bind fun σ_5 => ((m_carryRow σ_5 2).bind fun σ_7 => ((m_carryRow σ_7 3).bind fun σ_9 => ((m_carryRow σ_9 4).bind fun σ_11 => ((m_carryRow σ_11 9).bind fun σ_13 => if v1 = 4 then (some σ_13) else (((m_carryRow (si σ_13 50 (ix 0) (σ_13.1 999 51)) 50).bind fun σ_16 => ((m_carryRow (si σ_16 999 51 (σ_16.1 50 (ix 0))) 5).bind fun σ_18 => ((m_carryRow σ_18 6).bind fun σ_20 => ((m_carryRow σ_20 7).bind fun σ_22 => ((m_carryRow σ_22 8).bind fun σ_24 => ((m_carryRow σ_24 10).bind fun σ_26 => ((m_carryRow σ_26 11).bind fun σ_28 => ((m_carryRow σ_28 12).bind fun σ_30 => ((m_carryRow σ_30 13).bind fun σ_32 => ((m_carryRow σ_32 14).bind fun σ_34 => ((m_carryRow σ_34 15).bind fun σ_36 => ((m_carryRow σ_36 16).bind fun σ_38 => ((m_carryRow σ_38 49).bind fun σ_40 => some σ_40)))))))))))))))))))))
set_option maxHeartbeats 4000000 in
theorem wb_carriesAll {p : Program} {l : Launch} {e : Env} {s : State} {m : MethodId} {args : Array Value} {below : List Frame} {meth : Method} {c : Code} {g : gG} {A : Nat → Prop} {ad : Nat → Nat} (X : MX p s m args meth c cX3_carriesAll 3 RX3 none g A) (had : mI ad) {σr : cS}  {σ : cS} {v1 : Int32} {v2 : Int32}  {H : Heap} {locs : List Loc} {ls : Array Slot} (hW : WB g A s.heap mIds ad (mE g ad σ) H locs) (hl : lv_has ls 3 [(0, .ref (ad 999)), (1, .int v1), (2, .int v2)]) (hf : m_carriesAll σ v1 v2 = some σr) : W p l e (rm_ 2 42) s m args below meth c H locs 0 0 (Qm below g mIds ad (mE g ad σr) none A args s) (F0 m 0 ls []) := by
  have hx := X.1.1
  have hb := X.1.2.1
  unfold m_carriesAll at hf
  refine lv_aload_n hx hb dX3_carriesAll_0 rfl (lv_at hl 0 rfl) ?_
  refine lv_sipush (v := 1100) hx hb dX3_carriesAll_1 (by decide) ?_
  refine lv_iload_n hx hb dX3_carriesAll_4 rfl (lv_at hl 1 rfl) ?_
  refine lv_imul hx hb dX3_carriesAll_5 ?_
  refine mp_66 X hW dX3_carriesAll_6 (fun H locs hW => ?_)
  refine lv_aload_n hx hb dX3_carriesAll_9 rfl (lv_at hl 0 rfl) ?_
  refine lv_iload_n hx hb dX3_carriesAll_10 rfl (lv_at hl 2 rfl) ?_
  obtain ⟨σ_1, e_2, hf⟩ := nmb_e hf
  rw [← e_2] at hW
  clear e_2
  obtain ⟨h_3, hf⟩ := gd_e hf
  refine mp_67 X hW h_3 dX3_carriesAll_11 (fun H locs hW => ?_)
  refine lv_aload_n hx hb dX3_carriesAll_14 rfl (lv_at hl 0 rfl) ?_
  refine lv_aload_n hx hb dX3_carriesAll_15 rfl (lv_at hl 0 rfl) ?_
  refine mg_1 X hW dX3_carriesAll_16 ?_
  obtain ⟨σ_5, h_4, hf⟩ := bd_e hf
  refine k_carryRow X hW had m_1 rfl h_4 (by decide) hl (Nat.le_of_ble_eq_true rfl) dX3_carriesAll_19 (fun H locs hW => ?_)
  refine lv_aload_n hx hb dX3_carriesAll_22 rfl (lv_at hl 0 rfl) ?_
  refine lv_aload_n hx hb dX3_carriesAll_23 rfl (lv_at hl 0 rfl) ?_
  refine mg_2 X hW dX3_carriesAll_24 ?_
  obtain ⟨σ_7, h_6, hf⟩ := bd_e hf
  refine k_carryRow X hW had m_2 rfl h_6 (by decide) hl (Nat.le_of_ble_eq_true rfl) dX3_carriesAll_27 (fun H locs hW => ?_)
  refine lv_aload_n hx hb dX3_carriesAll_30 rfl (lv_at hl 0 rfl) ?_
  refine lv_aload_n hx hb dX3_carriesAll_31 rfl (lv_at hl 0 rfl) ?_
  refine mg_3 X hW dX3_carriesAll_32 ?_
  obtain ⟨σ_9, h_8, hf⟩ := bd_e hf
  refine k_carryRow X hW had m_3 rfl h_8 (by decide) hl (Nat.le_of_ble_eq_true rfl) dX3_carriesAll_35 (fun H locs hW => ?_)
  refine lv_aload_n hx hb dX3_carriesAll_38 rfl (lv_at hl 0 rfl) ?_
  refine lv_aload_n hx hb dX3_carriesAll_39 rfl (lv_at hl 0 rfl) ?_
  refine mg_4 X hW dX3_carriesAll_40 ?_
  obtain ⟨σ_11, h_10, hf⟩ := bd_e hf
  refine k_carryRow X hW had m_4 rfl h_10 (by decide) hl (Nat.le_of_ble_eq_true rfl) dX3_carriesAll_43 (fun H locs hW => ?_)
  refine lv_aload_n hx hb dX3_carriesAll_46 rfl (lv_at hl 0 rfl) ?_
  refine lv_aload_n hx hb dX3_carriesAll_47 rfl (lv_at hl 0 rfl) ?_
  refine mg_9 X hW dX3_carriesAll_48 ?_
  obtain ⟨σ_13, h_12, hf⟩ := bd_e hf
  refine k_carryRow X hW had m_9 rfl h_12 (by decide) hl (Nat.le_of_ble_eq_true rfl) dX3_carriesAll_51 (fun H locs hW => ?_)
  refine lv_iload_n hx hb dX3_carriesAll_54 rfl (lv_at hl 1 rfl) ?_
  refine lv_iconst (v := 4) hx hb dX3_carriesAll_55 (by decide) ?_
  refine lv_icmp_ne (tgt := 60) hx hb dX3_carriesAll_56 (by decide) (fun c_14 => ?_) (fun c_14 => ?_)
  · replace hf := ine hf c_14
    refine lv_aload_n hx hb dX3_carriesAll_60 rfl (lv_at hl 0 rfl) ?_
    refine mg_50 X hW dX3_carriesAll_61 ?_
    refine lv_iconst (v := 0) hx hb dX3_carriesAll_64 (by decide) ?_
    refine lv_aload_n hx hb dX3_carriesAll_65 rfl (lv_at hl 0 rfl) ?_
    refine mg_51 X hW dX3_carriesAll_66 ?_
    refine ms_50 X hW (by decide) dX3_carriesAll_69 (fun H locs hW => ?_)
    refine lv_aload_n hx hb dX3_carriesAll_70 rfl (lv_at hl 0 rfl) ?_
    refine lv_aload_n hx hb dX3_carriesAll_71 rfl (lv_at hl 0 rfl) ?_
    refine mg_50 X hW dX3_carriesAll_72 ?_
    obtain ⟨σ_16, h_15, hf⟩ := bd_e hf
    refine k_carryRow X hW had m_50 rfl h_15 (by decide) hl (Nat.le_of_ble_eq_true rfl) dX3_carriesAll_75 (fun H locs hW => ?_)
    refine lv_aload_n hx hb dX3_carriesAll_78 rfl (lv_at hl 0 rfl) ?_
    refine lv_aload_n hx hb dX3_carriesAll_79 rfl (lv_at hl 0 rfl) ?_
    refine mg_50 X hW dX3_carriesAll_80 ?_
    refine lv_iconst (v := 0) hx hb dX3_carriesAll_83 (by decide) ?_
    refine ml_50 X hW (by decide) dX3_carriesAll_84 ?_
    refine mp_51 X hW dX3_carriesAll_85 (fun H locs hW => ?_)
    refine lv_aload_n hx hb dX3_carriesAll_88 rfl (lv_at hl 0 rfl) ?_
    refine lv_aload_n hx hb dX3_carriesAll_89 rfl (lv_at hl 0 rfl) ?_
    refine mg_5 X hW dX3_carriesAll_90 ?_
    obtain ⟨σ_18, h_17, hf⟩ := bd_e hf
    refine k_carryRow X hW had m_5 rfl h_17 (by decide) hl (Nat.le_of_ble_eq_true rfl) dX3_carriesAll_93 (fun H locs hW => ?_)
    refine lv_aload_n hx hb dX3_carriesAll_96 rfl (lv_at hl 0 rfl) ?_
    refine lv_aload_n hx hb dX3_carriesAll_97 rfl (lv_at hl 0 rfl) ?_
    refine mg_6 X hW dX3_carriesAll_98 ?_
    obtain ⟨σ_20, h_19, hf⟩ := bd_e hf
    refine k_carryRow X hW had m_6 rfl h_19 (by decide) hl (Nat.le_of_ble_eq_true rfl) dX3_carriesAll_101 (fun H locs hW => ?_)
    refine lv_aload_n hx hb dX3_carriesAll_104 rfl (lv_at hl 0 rfl) ?_
    refine lv_aload_n hx hb dX3_carriesAll_105 rfl (lv_at hl 0 rfl) ?_
    refine mg_7 X hW dX3_carriesAll_106 ?_
    obtain ⟨σ_22, h_21, hf⟩ := bd_e hf
    refine k_carryRow X hW had m_7 rfl h_21 (by decide) hl (Nat.le_of_ble_eq_true rfl) dX3_carriesAll_109 (fun H locs hW => ?_)
    refine lv_aload_n hx hb dX3_carriesAll_112 rfl (lv_at hl 0 rfl) ?_
    refine lv_aload_n hx hb dX3_carriesAll_113 rfl (lv_at hl 0 rfl) ?_
    refine mg_8 X hW dX3_carriesAll_114 ?_
    obtain ⟨σ_24, h_23, hf⟩ := bd_e hf
    refine k_carryRow X hW had m_8 rfl h_23 (by decide) hl (Nat.le_of_ble_eq_true rfl) dX3_carriesAll_117 (fun H locs hW => ?_)
    refine lv_aload_n hx hb dX3_carriesAll_120 rfl (lv_at hl 0 rfl) ?_
    refine lv_aload_n hx hb dX3_carriesAll_121 rfl (lv_at hl 0 rfl) ?_
    refine mg_10 X hW dX3_carriesAll_122 ?_
    obtain ⟨σ_26, h_25, hf⟩ := bd_e hf
    refine k_carryRow X hW had m_10 rfl h_25 (by decide) hl (Nat.le_of_ble_eq_true rfl) dX3_carriesAll_125 (fun H locs hW => ?_)
    refine lv_aload_n hx hb dX3_carriesAll_128 rfl (lv_at hl 0 rfl) ?_
    refine lv_aload_n hx hb dX3_carriesAll_129 rfl (lv_at hl 0 rfl) ?_
    refine mg_11 X hW dX3_carriesAll_130 ?_
    obtain ⟨σ_28, h_27, hf⟩ := bd_e hf
    refine k_carryRow X hW had m_11 rfl h_27 (by decide) hl (Nat.le_of_ble_eq_true rfl) dX3_carriesAll_133 (fun H locs hW => ?_)
    refine lv_aload_n hx hb dX3_carriesAll_136 rfl (lv_at hl 0 rfl) ?_
    refine lv_aload_n hx hb dX3_carriesAll_137 rfl (lv_at hl 0 rfl) ?_
    refine mg_12 X hW dX3_carriesAll_138 ?_
    obtain ⟨σ_30, h_29, hf⟩ := bd_e hf
    refine k_carryRow X hW had m_12 rfl h_29 (by decide) hl (Nat.le_of_ble_eq_true rfl) dX3_carriesAll_141 (fun H locs hW => ?_)
    refine lv_aload_n hx hb dX3_carriesAll_144 rfl (lv_at hl 0 rfl) ?_
    refine lv_aload_n hx hb dX3_carriesAll_145 rfl (lv_at hl 0 rfl) ?_
    refine mg_13 X hW dX3_carriesAll_146 ?_
    obtain ⟨σ_32, h_31, hf⟩ := bd_e hf
    refine k_carryRow X hW had m_13 rfl h_31 (by decide) hl (Nat.le_of_ble_eq_true rfl) dX3_carriesAll_149 (fun H locs hW => ?_)
    refine lv_aload_n hx hb dX3_carriesAll_152 rfl (lv_at hl 0 rfl) ?_
    refine lv_aload_n hx hb dX3_carriesAll_153 rfl (lv_at hl 0 rfl) ?_
    refine mg_14 X hW dX3_carriesAll_154 ?_
    obtain ⟨σ_34, h_33, hf⟩ := bd_e hf
    refine k_carryRow X hW had m_14 rfl h_33 (by decide) hl (Nat.le_of_ble_eq_true rfl) dX3_carriesAll_157 (fun H locs hW => ?_)
    refine lv_aload_n hx hb dX3_carriesAll_160 rfl (lv_at hl 0 rfl) ?_
    refine lv_aload_n hx hb dX3_carriesAll_161 rfl (lv_at hl 0 rfl) ?_
    refine mg_15 X hW dX3_carriesAll_162 ?_
    obtain ⟨σ_36, h_35, hf⟩ := bd_e hf
    refine k_carryRow X hW had m_15 rfl h_35 (by decide) hl (Nat.le_of_ble_eq_true rfl) dX3_carriesAll_165 (fun H locs hW => ?_)
    refine lv_aload_n hx hb dX3_carriesAll_168 rfl (lv_at hl 0 rfl) ?_
    refine lv_aload_n hx hb dX3_carriesAll_169 rfl (lv_at hl 0 rfl) ?_
    refine mg_16 X hW dX3_carriesAll_170 ?_
    obtain ⟨σ_38, h_37, hf⟩ := bd_e hf
    refine k_carryRow X hW had m_16 rfl h_37 (by decide) hl (Nat.le_of_ble_eq_true rfl) dX3_carriesAll_173 (fun H locs hW => ?_)
    refine lv_aload_n hx hb dX3_carriesAll_176 rfl (lv_at hl 0 rfl) ?_
    refine lv_aload_n hx hb dX3_carriesAll_177 rfl (lv_at hl 0 rfl) ?_
    refine mg_49 X hW dX3_carriesAll_178 ?_
    obtain ⟨σ_40, h_39, hf⟩ := bd_e hf
    refine k_carryRow X hW had m_49 rfl h_39 (by decide) hl (Nat.le_of_ble_eq_true rfl) dX3_carriesAll_181 (fun H locs hW => ?_)
    exact m_vret X hW hf dX3_carriesAll_184
  · replace hf := ip hf c_14
    exact m_vret X hW hf dX3_carriesAll_59
theorem w_carriesAll (l : Launch) {g : gG} {ad : Nat → Nat} (had : mI ad) {σr : cS}  {σ : cS} {v1 : Int32} {v2 : Int32}  (hf : m_carriesAll σ v1 v2 = some σr) : MM l yX3_carriesAll cX3_carriesAll 3 none 2 42 g ad σ σr [.ref (ad 999), .int v1, .int v2] none :=
  MC.of (by decide) mIds_nd had (Nat.le_of_ble_eq_true rfl) (fun p e s m below meth c A ls X hW hl => wb_carriesAll X had hW hl hf)
theorem k_carriesAll {p : Program} {l : Launch} {e : Env} {R : Room} {s : State} {m : MethodId} {args : Array Value} {below : List Frame} {meth : Method} {c : Code} {H : Heap} {locs : List Loc} {Q : State → Prop} {cc : ByteArray} {nL : Nat} {ret : Option FieldType} {g : gG} {A : Nat → Prop} {ad : Nat → Nat} {pc : Nat} {ls : Array Slot} {rest : List Value} {lv : List (Nat × Value)} {σr : cS}  {σ : cS} {v1 : Int32} {v2 : Int32} (X : MX p s m args meth c cc nL RX3 ret g A) (hW : WB g A s.heap mIds ad (mE g ad σ) H locs) (had : mI ad)  (hf : m_carriesAll σ v1 v2 = some σr) (hR : 3 ≤ R.frames ∧ 64 ≤ R.locals) (hl : lv_has ls nL lv) (hcat : (rest.map fun v => v.category).sum ≤ 8) (hdg : decode cc pc = .ok (.invokevirtual 475, 3)) (kk : ∀ (H1 : Heap) (l1 : List Loc), WB g A s.heap mIds ad (mE g ad σr) H1 l1 → W p l e R s m args below meth c H1 l1 0 0 Q (F0 m (pc + 3) ls (rest))) : W p l e R s m args below meth c H locs 0 0 Q (F0 m pc ls (.int v2 :: .int v1 :: .ref (ad 999) :: rest)) :=
  r_callV X hW Sub.all (w_carriesAll l had hf) (lw_V q1692 q1694 qs100 q126 q1695) ⟨rfl, by decide, by decide, by decide +kernel⟩ m_999 mE_o rfl (n := 2) hR hl rfl rfl hcat ⟨Nat.zero_le _, Nat.zero_le _⟩ hdg kk
-- keepsAll
noncomputable def m_keepsAll (σ : cS) : Option (cS) :=
  ((m_carriesAll σ 4 0).bind fun σ_2 => some σ_2)
set_option maxHeartbeats 4000000 in
theorem wb_keepsAll {p : Program} {l : Launch} {e : Env} {s : State} {m : MethodId} {args : Array Value} {below : List Frame} {meth : Method} {c : Code} {g : gG} {A : Nat → Prop} {ad : Nat → Nat} (X : MX p s m args meth c cX3_keepsAll 1 RX3 none g A) (had : mI ad) {σr : cS}  {σ : cS}  {H : Heap} {locs : List Loc} {ls : Array Slot} (hW : WB g A s.heap mIds ad (mE g ad σ) H locs) (hl : lv_has ls 1 [(0, .ref (ad 999))]) (hf : m_keepsAll σ = some σr) : W p l e (rm_ 3 64) s m args below meth c H locs 0 0 (Qm below g mIds ad (mE g ad σr) none A args s) (F0 m 0 ls []) := by
  have hx := X.1.1
  have hb := X.1.2.1
  unfold m_keepsAll at hf
  refine lv_aload_n hx hb dX3_keepsAll_0 rfl (lv_at hl 0 rfl) ?_
  refine lv_iconst (v := 4) hx hb dX3_keepsAll_1 (by decide) ?_
  refine lv_iconst (v := 0) hx hb dX3_keepsAll_2 (by decide) ?_
  obtain ⟨σ_2, h_1, hf⟩ := bd_e hf
  refine k_carriesAll X hW had h_1 (by decide) hl (Nat.le_of_ble_eq_true rfl) dX3_keepsAll_3 (fun H locs hW => ?_)
  exact m_vret X hW hf dX3_keepsAll_6
theorem w_keepsAll (l : Launch) {g : gG} {ad : Nat → Nat} (had : mI ad) {σr : cS}  {σ : cS}  (hf : m_keepsAll σ = some σr) : MM l yX3_keepsAll cX3_keepsAll 1 none 3 64 g ad σ σr [.ref (ad 999)] none :=
  MC.of (by decide) mIds_nd had (Nat.le_of_ble_eq_true rfl) (fun p e s m below meth c A ls X hW hl => wb_keepsAll X had hW hl hf)
theorem k_keepsAll {p : Program} {l : Launch} {e : Env} {R : Room} {s : State} {m : MethodId} {args : Array Value} {below : List Frame} {meth : Method} {c : Code} {H : Heap} {locs : List Loc} {Q : State → Prop} {cc : ByteArray} {nL : Nat} {ret : Option FieldType} {g : gG} {A : Nat → Prop} {ad : Nat → Nat} {pc : Nat} {ls : Array Slot} {rest : List Value} {lv : List (Nat × Value)} {σr : cS}  {σ : cS} (X : MX p s m args meth c cc nL RX3 ret g A) (hW : WB g A s.heap mIds ad (mE g ad σ) H locs) (had : mI ad)  (hf : m_keepsAll σ = some σr) (hR : 4 ≤ R.frames ∧ 84 ≤ R.locals) (hl : lv_has ls nL lv) (hcat : (rest.map fun v => v.category).sum ≤ 8) (hdg : decode cc pc = .ok (.invokevirtual 482, 3)) (kk : ∀ (H1 : Heap) (l1 : List Loc), WB g A s.heap mIds ad (mE g ad σr) H1 l1 → W p l e R s m args below meth c H1 l1 0 0 Q (F0 m (pc + 3) ls (rest))) : W p l e R s m args below meth c H locs 0 0 Q (F0 m pc ls (.ref (ad 999) :: rest)) :=
  r_callV X hW Sub.all (w_keepsAll l had hf) (lw_V q1688 q1690 qs99 q126 q1691) ⟨rfl, by decide, by decide, by decide +kernel⟩ m_999 mE_o rfl (n := 0) hR hl rfl rfl hcat ⟨Nat.zero_le _, Nat.zero_le _⟩ hdg kk
-- goes
noncomputable def m_goes_4 {ρ : Type} (v1 : Int32) (K : cS → Int32 → Option ρ) : Nat → cS → Int32 → Int32 → Option ρ
  | 0, _, _, _ => none
  | n + 1, σ, v2, v3 => if v1 ≤ v3 then (K σ v2) else (((m_goesNight σ).bind fun (σ_4, r_3) => m_goes_4 v1 K n σ_4 (v2 + r_3) (v3 + 1)))
set_option maxHeartbeats 4000000 in
theorem wm_goes_4 {p : Program} {l : Launch} {e : Env} {s : State} {m : MethodId} {args : Array Value} {below : List Frame} {meth : Method} {c : Code} {g : gG} {A : Nat → Prop} {ad : Nat → Nat} (X : MX p s m args meth c cX3_goes 4 RX3 (some .int) g A) (had : mI ad) {ρ : Type} {res : ρ} {Q : State → Prop} {v1 : Int32}  {K : cS → Int32 → Option ρ}
    (hK : ∀ (σ : cS) (k2 : Int32) (H : Heap) (locs : List Loc) (ls : Array Slot), WB g A s.heap mIds ad (mE g ad σ) H locs → lv_has ls 4 [(2, .int k2)] → K σ k2 = some res → W p l e (rm_ 8 177) s m args below meth c H locs 0 0 Q (F0 m 22 ls [])) :
    ∀ (n : Nat) (σ : cS) (v2 : Int32) (v3 : Int32) (H : Heap) (locs : List Loc) (ls : Array Slot), WB g A s.heap mIds ad (mE g ad σ) H locs → lv_has ls 4 [(0, .ref (ad 999)), (1, .int v1), (2, .int v2), (3, .int v3)] → m_goes_4 v1 K n σ v2 v3 = some res → W p l e (rm_ 8 177) s m args below meth c H locs 0 0 Q (F0 m 4 ls []) := by
  have hx := X.1.1
  have hb := X.1.2.1
  intro n
  induction n with
  | zero =>
    intro σ v2 v3 H locs ls hW hl hf
    rw [m_goes_4] at hf
    cases hf
  | succ n ih =>
    intro σ v2 v3 H locs ls hW hl hf
    rw [m_goes_4] at hf
    refine lv_iload_n hx hb dX3_goes_4 rfl (lv_at hl 3 rfl) ?_
    refine lv_iload_n hx hb dX3_goes_5 rfl (lv_at hl 1 rfl) ?_
    refine lv_icmp_ge (tgt := 22) hx hb dX3_goes_6 (by decide) (fun c_1 => ?_) (fun c_1 => ?_)
    · replace hf := ip hf c_1
      exact hK _ _ _ _ _ hW (lv_sub hl [2] rfl) hf
    · replace hf := ine hf c_1
      refine lv_iload_n hx hb dX3_goes_9 rfl (lv_at hl 2 rfl) ?_
      refine lv_aload_n hx hb dX3_goes_10 rfl (lv_at hl 0 rfl) ?_
      obtain ⟨⟨σ_4, r_3⟩, h_2, hf⟩ := bd_e hf
      refine k_goesNight X hW had h_2 (by decide) hl (Nat.le_of_ble_eq_true rfl) dX3_goes_11 (fun H locs hW => ?_)
      refine lv_iadd hx hb dX3_goes_14 ?_
      refine lv_istore_n (lv' := [(2, .int (v2 + r_3)), (0, .ref (ad 999)), (1, .int v1), (3, .int v3)]) hx hb dX3_goes_15 rfl hl (by decide) rfl (fun ls hl => ?_)
      refine lv_iinc (v := (v3 + 1)) (lv' := [(3, .int (v3 + 1)), (2, .int (v2 + r_3)), (0, .ref (ad 999)), (1, .int v1)]) hx hb dX3_goes_16 hl (k := 3) rfl (ii_v _ _ _ (by decide)) (by decide) rfl (fun ls hl => ?_)
      refine lv_goto (tgt := 4) hx hb dX3_goes_19 (by decide) ?_
      exact ih _ _ _ _ _ _ hW (lv_sub hl [2, 3, 1, 0] rfl) hf
noncomputable def m_goes (σ : cS) (v1 : Int32) : Option (cS × Int32) :=
  m_goes_4 v1 (fun σ_5 v_6 => (some (σ_5, v_6))) FU σ 0 0
set_option maxHeartbeats 4000000 in
theorem wb_goes {p : Program} {l : Launch} {e : Env} {s : State} {m : MethodId} {args : Array Value} {below : List Frame} {meth : Method} {c : Code} {g : gG} {A : Nat → Prop} {ad : Nat → Nat} (X : MX p s m args meth c cX3_goes 4 RX3 (some .int) g A) (had : mI ad) {σr : cS} {r : Int32} {σ : cS} {v1 : Int32}  {H : Heap} {locs : List Loc} {ls : Array Slot} (hW : WB g A s.heap mIds ad (mE g ad σ) H locs) (hl : lv_has ls 4 [(0, .ref (ad 999)), (1, .int v1)]) (hf : m_goes σ v1 = some (σr, r)) : W p l e (rm_ 8 177) s m args below meth c H locs 0 0 (Qm below g mIds ad (mE g ad σr) (some (.int r)) A args s) (F0 m 0 ls []) := by
  have hx := X.1.1
  have hb := X.1.2.1
  unfold m_goes at hf
  refine lv_iconst (v := 0) hx hb dX3_goes_0 (by decide) ?_
  refine lv_istore_n (lv' := [(2, .int 0), (0, .ref (ad 999)), (1, .int v1)]) hx hb dX3_goes_1 rfl hl (by decide) rfl (fun ls hl => ?_)
  refine lv_iconst (v := 0) hx hb dX3_goes_2 (by decide) ?_
  refine lv_istore_n (lv' := [(3, .int 0), (2, .int 0), (0, .ref (ad 999)), (1, .int v1)]) hx hb dX3_goes_3 rfl hl (by decide) rfl (fun ls hl => ?_)
  refine wm_goes_4 X had (fun σ_5 v_6 H locs ls hW hl hf => ?_) _ _ _ _ _ _ _ hW (lv_sub hl [2, 3, 1, 0] rfl) hf
  refine lv_iload_n hx hb dX3_goes_22 rfl (lv_at hl 0 rfl) ?_
  exact m_iret X hW hf dX3_goes_23
theorem w_goes (l : Launch) {g : gG} {ad : Nat → Nat} (had : mI ad) {σr : cS} {r : Int32} {σ : cS} {v1 : Int32}  (hf : m_goes σ v1 = some (σr, r)) : MM l yX3_goes cX3_goes 4 (some .int) 8 177 g ad σ σr [.ref (ad 999), .int v1] (some (.int r)) :=
  MC.of (by decide) mIds_nd had (Nat.le_of_ble_eq_true rfl) (fun p e s m below meth c A ls X hW hl => wb_goes X had hW hl hf)
theorem k_goes {p : Program} {l : Launch} {e : Env} {R : Room} {s : State} {m : MethodId} {args : Array Value} {below : List Frame} {meth : Method} {c : Code} {H : Heap} {locs : List Loc} {Q : State → Prop} {cc : ByteArray} {nL : Nat} {ret : Option FieldType} {g : gG} {A : Nat → Prop} {ad : Nat → Nat} {pc : Nat} {ls : Array Slot} {rest : List Value} {lv : List (Nat × Value)} {σr : cS} {r : Int32} {σ : cS} {v1 : Int32} (X : MX p s m args meth c cc nL RX3 ret g A) (hW : WB g A s.heap mIds ad (mE g ad σ) H locs) (had : mI ad)  (hf : m_goes σ v1 = some (σr, r)) (hR : 9 ≤ R.frames ∧ 200 ≤ R.locals) (hl : lv_has ls nL lv) (hcat : (rest.map fun v => v.category).sum ≤ 8) (hdg : decode cc pc = .ok (.invokevirtual 485, 3)) (kk : ∀ (H1 : Heap) (l1 : List Loc), WB g A s.heap mIds ad (mE g ad σr) H1 l1 → W p l e R s m args below meth c H1 l1 0 0 Q (F0 m (pc + 3) ls (.int r :: rest))) : W p l e R s m args below meth c H locs 0 0 Q (F0 m pc ls (.int v1 :: .ref (ad 999) :: rest)) :=
  r_callV X hW Sub.all (w_goes l had hf) (lw_V q1700 q1702 qs102 q126 q1703) ⟨rfl, by decide, by decide, by decide +kernel⟩ m_999 mE_o rfl (n := 1) hR hl rfl rfl hcat ⟨Nat.zero_le _, Nat.zero_le _⟩ hdg kk
-- villagesOn
noncomputable def m_villagesOn_4 {ρ : Type} (σ : cS) (v1 : Int32) (K : Int32 → Option ρ) : Nat → Int32 → Int32 → Option ρ
  | 0, _, _ => none
  | n + 1, v2, v3 => if (σ.1 1 (ix 2)) ≤ v3 then (K v2) else (((m_sideOf σ v3).bind fun r_3 => if r_3 = v1 then (m_villagesOn_4 σ v1 K n (v2 ||| (1 <<< (v3 &&& 31))) (v3 + 1)) else (m_villagesOn_4 σ v1 K n (v2 ||| 0) (v3 + 1))))
set_option maxHeartbeats 4000000 in
theorem wm_villagesOn_4 {p : Program} {l : Launch} {e : Env} {s : State} {m : MethodId} {args : Array Value} {below : List Frame} {meth : Method} {c : Code} {g : gG} {A : Nat → Prop} {ad : Nat → Nat} (X : MX p s m args meth c cX3_villagesOn 4 RX3 (some .int) g A) (had : mI ad) {ρ : Type} {res : ρ} {Q : State → Prop} {v1 : Int32} {σ : cS}  {K : Int32 → Option ρ}
    (hK : ∀ (k2 : Int32) (H : Heap) (locs : List Loc) (ls : Array Slot), WB g A s.heap mIds ad (mE g ad σ) H locs → lv_has ls 4 [(2, .int k2)] → K k2 = some res → W p l e (rm_ 2 42) s m args below meth c H locs 0 0 Q (F0 m 39 ls [])) :
    ∀ (n : Nat) (v2 : Int32) (v3 : Int32) (H : Heap) (locs : List Loc) (ls : Array Slot), WB g A s.heap mIds ad (mE g ad σ) H locs → lv_has ls 4 [(0, .ref (ad 999)), (1, .int v1), (2, .int v2), (3, .int v3)] → m_villagesOn_4 σ v1 K n v2 v3 = some res → W p l e (rm_ 2 42) s m args below meth c H locs 0 0 Q (F0 m 4 ls []) := by
  have hx := X.1.1
  have hb := X.1.2.1
  intro n
  induction n with
  | zero =>
    intro v2 v3 H locs ls hW hl hf
    rw [m_villagesOn_4] at hf
    cases hf
  | succ n ih =>
    intro v2 v3 H locs ls hW hl hf
    rw [m_villagesOn_4] at hf
    refine lv_iload_n hx hb dX3_villagesOn_4 rfl (lv_at hl 3 rfl) ?_
    refine lv_aload_n hx hb dX3_villagesOn_5 rfl (lv_at hl 0 rfl) ?_
    refine mg_1 X hW dX3_villagesOn_6 ?_
    refine lv_iconst (v := 2) hx hb dX3_villagesOn_9 (by decide) ?_
    refine ml_1 X hW (by decide) dX3_villagesOn_10 ?_
    refine lv_icmp_ge (tgt := 39) hx hb dX3_villagesOn_11 (by decide) (fun c_1 => ?_) (fun c_1 => ?_)
    · replace hf := ip hf c_1
      exact hK _ _ _ _ hW (lv_sub hl [2] rfl) hf
    · replace hf := ine hf c_1
      refine lv_iload_n hx hb dX3_villagesOn_14 rfl (lv_at hl 2 rfl) ?_
      refine lv_aload_n hx hb dX3_villagesOn_15 rfl (lv_at hl 0 rfl) ?_
      refine lv_iload_n hx hb dX3_villagesOn_16 rfl (lv_at hl 3 rfl) ?_
      obtain ⟨r_3, h_2, hf⟩ := bd_e hf
      refine k_sideOf X hW had h_2 (by decide) hl (Nat.le_of_ble_eq_true rfl) dX3_villagesOn_17 (fun H locs hW => ?_)
      refine lv_iload_n hx hb dX3_villagesOn_20 rfl (lv_at hl 1 rfl) ?_
      refine lv_icmp_ne (tgt := 30) hx hb dX3_villagesOn_21 (by decide) (fun c_4 => ?_) (fun c_4 => ?_)
      · replace hf := ine hf c_4
        refine lv_iconst (v := 0) hx hb dX3_villagesOn_30 (by decide) ?_
        refine lv_ior hx hb dX3_villagesOn_31 ?_
        refine lv_istore_n (lv' := [(2, .int (v2 ||| 0)), (0, .ref (ad 999)), (1, .int v1), (3, .int v3)]) hx hb dX3_villagesOn_32 rfl hl (by decide) rfl (fun ls hl => ?_)
        refine lv_iinc (v := (v3 + 1)) (lv' := [(3, .int (v3 + 1)), (2, .int (v2 ||| 0)), (0, .ref (ad 999)), (1, .int v1)]) hx hb dX3_villagesOn_33 hl (k := 3) rfl (ii_v _ _ _ (by decide)) (by decide) rfl (fun ls hl => ?_)
        refine lv_goto (tgt := 4) hx hb dX3_villagesOn_36 (by decide) ?_
        exact ih _ _ _ _ _ hW (lv_sub hl [2, 3, 1, 0] rfl) hf
      · replace hf := ip hf c_4
        refine lv_iconst (v := 1) hx hb dX3_villagesOn_24 (by decide) ?_
        refine lv_iload_n hx hb dX3_villagesOn_25 rfl (lv_at hl 3 rfl) ?_
        refine lv_ishl hx hb dX3_villagesOn_26 ?_
        refine lv_goto (tgt := 31) hx hb dX3_villagesOn_27 (by decide) ?_
        refine lv_ior hx hb dX3_villagesOn_31 ?_
        refine lv_istore_n (lv' := [(2, .int (v2 ||| (1 <<< (v3 &&& 31)))), (0, .ref (ad 999)), (1, .int v1), (3, .int v3)]) hx hb dX3_villagesOn_32 rfl hl (by decide) rfl (fun ls hl => ?_)
        refine lv_iinc (v := (v3 + 1)) (lv' := [(3, .int (v3 + 1)), (2, .int (v2 ||| (1 <<< (v3 &&& 31)))), (0, .ref (ad 999)), (1, .int v1)]) hx hb dX3_villagesOn_33 hl (k := 3) rfl (ii_v _ _ _ (by decide)) (by decide) rfl (fun ls hl => ?_)
        refine lv_goto (tgt := 4) hx hb dX3_villagesOn_36 (by decide) ?_
        exact ih _ _ _ _ _ hW (lv_sub hl [2, 3, 1, 0] rfl) hf
noncomputable def m_villagesOn (σ : cS) (v1 : Int32) : Option (Int32) :=
  m_villagesOn_4 σ v1 (fun v_5 => (some v_5)) FU 0 0
set_option maxHeartbeats 4000000 in
theorem wb_villagesOn {p : Program} {l : Launch} {e : Env} {s : State} {m : MethodId} {args : Array Value} {below : List Frame} {meth : Method} {c : Code} {g : gG} {A : Nat → Prop} {ad : Nat → Nat} (X : MX p s m args meth c cX3_villagesOn 4 RX3 (some .int) g A) (had : mI ad) {r : Int32} {σ : cS} {v1 : Int32}  {H : Heap} {locs : List Loc} {ls : Array Slot} (hW : WB g A s.heap mIds ad (mE g ad σ) H locs) (hl : lv_has ls 4 [(0, .ref (ad 999)), (1, .int v1)]) (hf : m_villagesOn σ v1 = some r) : W p l e (rm_ 2 42) s m args below meth c H locs 0 0 (Qm below g mIds ad (mE g ad σ) (some (.int r)) A args s) (F0 m 0 ls []) := by
  have hx := X.1.1
  have hb := X.1.2.1
  unfold m_villagesOn at hf
  refine lv_iconst (v := 0) hx hb dX3_villagesOn_0 (by decide) ?_
  refine lv_istore_n (lv' := [(2, .int 0), (0, .ref (ad 999)), (1, .int v1)]) hx hb dX3_villagesOn_1 rfl hl (by decide) rfl (fun ls hl => ?_)
  refine lv_iconst (v := 0) hx hb dX3_villagesOn_2 (by decide) ?_
  refine lv_istore_n (lv' := [(3, .int 0), (2, .int 0), (0, .ref (ad 999)), (1, .int v1)]) hx hb dX3_villagesOn_3 rfl hl (by decide) rfl (fun ls hl => ?_)
  refine wm_villagesOn_4 X had (fun v_5 H locs ls hW hl hf => ?_) _ _ _ _ _ _ hW (lv_sub hl [2, 3, 1, 0] rfl) hf
  refine lv_iload_n hx hb dX3_villagesOn_39 rfl (lv_at hl 0 rfl) ?_
  exact p_iret X hW hf dX3_villagesOn_40
theorem w_villagesOn (l : Launch) {g : gG} {ad : Nat → Nat} (had : mI ad) {r : Int32} {σ : cS} {v1 : Int32}  (hf : m_villagesOn σ v1 = some r) : MM l yX3_villagesOn cX3_villagesOn 4 (some .int) 2 42 g ad σ σ [.ref (ad 999), .int v1] (some (.int r)) :=
  MC.of (by decide) mIds_nd had (Nat.le_of_ble_eq_true rfl) (fun p e s m below meth c A ls X hW hl => wb_villagesOn X had hW hl hf)
theorem k_villagesOn {p : Program} {l : Launch} {e : Env} {R : Room} {s : State} {m : MethodId} {args : Array Value} {below : List Frame} {meth : Method} {c : Code} {H : Heap} {locs : List Loc} {Q : State → Prop} {cc : ByteArray} {nL : Nat} {ret : Option FieldType} {g : gG} {A : Nat → Prop} {ad : Nat → Nat} {pc : Nat} {ls : Array Slot} {rest : List Value} {lv : List (Nat × Value)} {r : Int32} {σ : cS} {v1 : Int32} (X : MX p s m args meth c cc nL RX3 ret g A) (hW : WB g A s.heap mIds ad (mE g ad σ) H locs) (had : mI ad)  (hf : m_villagesOn σ v1 = some r) (hR : 3 ≤ R.frames ∧ 65 ≤ R.locals) (hl : lv_has ls nL lv) (hcat : (rest.map fun v => v.category).sum ≤ 8) (hdg : decode cc pc = .ok (.invokevirtual 488, 3)) (kk : ∀ (H1 : Heap) (l1 : List Loc), WB g A s.heap mIds ad (mE g ad σ) H1 l1 → W p l e R s m args below meth c H1 l1 0 0 Q (F0 m (pc + 3) ls (.int r :: rest))) : W p l e R s m args below meth c H locs 0 0 Q (F0 m pc ls (.int v1 :: .ref (ad 999) :: rest)) :=
  r_callV X hW Sub.all (w_villagesOn l had hf) (lw_V q1704 q1706 qs103 q126 q1707) ⟨rfl, by decide, by decide, by decide +kernel⟩ m_999 mE_o rfl (n := 1) hR hl rfl rfl hcat ⟨Nat.zero_le _, Nat.zero_le _⟩ hdg kk
-- laysBack
noncomputable def m_laysBack (σ : cS) : Option (cS) :=
  ((m_carriesAll σ 4 1).bind fun σ_2 => some σ_2)
set_option maxHeartbeats 4000000 in
theorem wb_laysBack {p : Program} {l : Launch} {e : Env} {s : State} {m : MethodId} {args : Array Value} {below : List Frame} {meth : Method} {c : Code} {g : gG} {A : Nat → Prop} {ad : Nat → Nat} (X : MX p s m args meth c cX3_laysBack 1 RX3 none g A) (had : mI ad) {σr : cS}  {σ : cS}  {H : Heap} {locs : List Loc} {ls : Array Slot} (hW : WB g A s.heap mIds ad (mE g ad σ) H locs) (hl : lv_has ls 1 [(0, .ref (ad 999))]) (hf : m_laysBack σ = some σr) : W p l e (rm_ 3 64) s m args below meth c H locs 0 0 (Qm below g mIds ad (mE g ad σr) none A args s) (F0 m 0 ls []) := by
  have hx := X.1.1
  have hb := X.1.2.1
  unfold m_laysBack at hf
  refine lv_aload_n hx hb dX3_laysBack_0 rfl (lv_at hl 0 rfl) ?_
  refine lv_iconst (v := 4) hx hb dX3_laysBack_1 (by decide) ?_
  refine lv_iconst (v := 1) hx hb dX3_laysBack_2 (by decide) ?_
  obtain ⟨σ_2, h_1, hf⟩ := bd_e hf
  refine k_carriesAll X hW had h_1 (by decide) hl (Nat.le_of_ble_eq_true rfl) dX3_laysBack_3 (fun H locs hW => ?_)
  exact m_vret X hW hf dX3_laysBack_6
theorem w_laysBack (l : Launch) {g : gG} {ad : Nat → Nat} (had : mI ad) {σr : cS}  {σ : cS}  (hf : m_laysBack σ = some σr) : MM l yX3_laysBack cX3_laysBack 1 none 3 64 g ad σ σr [.ref (ad 999)] none :=
  MC.of (by decide) mIds_nd had (Nat.le_of_ble_eq_true rfl) (fun p e s m below meth c A ls X hW hl => wb_laysBack X had hW hl hf)
theorem k_laysBack {p : Program} {l : Launch} {e : Env} {R : Room} {s : State} {m : MethodId} {args : Array Value} {below : List Frame} {meth : Method} {c : Code} {H : Heap} {locs : List Loc} {Q : State → Prop} {cc : ByteArray} {nL : Nat} {ret : Option FieldType} {g : gG} {A : Nat → Prop} {ad : Nat → Nat} {pc : Nat} {ls : Array Slot} {rest : List Value} {lv : List (Nat × Value)} {σr : cS}  {σ : cS} (X : MX p s m args meth c cc nL RX3 ret g A) (hW : WB g A s.heap mIds ad (mE g ad σ) H locs) (had : mI ad)  (hf : m_laysBack σ = some σr) (hR : 4 ≤ R.frames ∧ 84 ≤ R.locals) (hl : lv_has ls nL lv) (hcat : (rest.map fun v => v.category).sum ≤ 8) (hdg : decode cc pc = .ok (.invokevirtual 491, 3)) (kk : ∀ (H1 : Heap) (l1 : List Loc), WB g A s.heap mIds ad (mE g ad σr) H1 l1 → W p l e R s m args below meth c H1 l1 0 0 Q (F0 m (pc + 3) ls (rest))) : W p l e R s m args below meth c H locs 0 0 Q (F0 m pc ls (.ref (ad 999) :: rest)) :=
  r_callV X hW Sub.all (w_laysBack l had hf) (lw_V q1708 q1710 qs104 q126 q1711) ⟨rfl, by decide, by decide, by decide +kernel⟩ m_999 mE_o rfl (n := 0) hR hl rfl rfl hcat ⟨Nat.zero_le _, Nat.zero_le _⟩ hdg kk
-- ahead
noncomputable def m_ahead (σ : cS) (v1 : Int32) (v2 : Int32) (v3 : Int32) : Option (cS × Int32) :=
  ((m_isMile σ v1).bind fun r_2 => if r_2 = 0 then (some (σ, (-100))) else (((m_in v2.toInt64 0 100).bind fun r_5 => if r_5 = 0 then (some (σ, (-100))) else (((m_in v3.toInt64 0 2).bind fun r_8 => if r_8 = 0 then (some (σ, (-100))) else (((m_keepsAll σ).bind fun σ_11 => ((m_goes σ_11 v2).bind fun (σ_14, r_13) => if v3 = 0 then (gd (inb v1 10) (((m_laysBack σ_14).bind fun σ_26 => some (σ_26, (σ_14.1 2 (ix v1)))))) else (if v3 = 1 then (gd (inb v1 10) (((m_laysBack σ_14).bind fun σ_23 => some (σ_23, (σ_14.1 3 (ix v1)))))) else (((m_villagesOn σ_14 1).bind fun r_18 => ((m_laysBack σ_14).bind fun σ_20 => some (σ_20, r_18)))))))))))))
set_option maxHeartbeats 4000000 in
theorem wb_ahead {p : Program} {l : Launch} {e : Env} {s : State} {m : MethodId} {args : Array Value} {below : List Frame} {meth : Method} {c : Code} {g : gG} {A : Nat → Prop} {ad : Nat → Nat} (X : MX p s m args meth c cX3_ahead 5 RX3 (some .int) g A) (had : mI ad) {σr : cS} {r : Int32} {σ : cS} {v1 : Int32} {v2 : Int32} {v3 : Int32}  {H : Heap} {locs : List Loc} {ls : Array Slot} (hW : WB g A s.heap mIds ad (mE g ad σ) H locs) (hl : lv_has ls 5 [(0, .ref (ad 999)), (1, .int v1), (2, .int v2), (3, .int v3)]) (hf : m_ahead σ v1 v2 v3 = some (σr, r)) : W p l e (rm_ 9 200) s m args below meth c H locs 0 0 (Qm below g mIds ad (mE g ad σr) (some (.int r)) A args s) (F0 m 0 ls []) := by
  have hx := X.1.1
  have hb := X.1.2.1
  unfold m_ahead at hf
  refine lv_aload_n hx hb dX3_ahead_0 rfl (lv_at hl 0 rfl) ?_
  refine lv_iload_n hx hb dX3_ahead_1 rfl (lv_at hl 1 rfl) ?_
  obtain ⟨r_2, h_1, hf⟩ := bd_e hf
  refine k_isMile X hW had h_1 (by decide) hl (Nat.le_of_ble_eq_true rfl) dX3_ahead_2 (fun H locs hW => ?_)
  refine lv_if_eq (tgt := 32) hx hb dX3_ahead_5 (by decide) (fun c_3 => ?_) (fun c_3 => ?_)
  · replace hf := ip hf c_3
    refine lv_bipush (v := (-100)) hx hb dX3_ahead_32 (by decide) ?_
    exact m_iret X hW hf dX3_ahead_34
  · replace hf := ine hf c_3
    refine lv_iload_n hx hb dX3_ahead_8 rfl (lv_at hl 2 rfl) ?_
    refine lv_i2l (v := v2.toInt64) hx hb dX3_ahead_9 rfl ?_
    refine lv_lconst (v := 0) hx hb dX3_ahead_10 (by decide) ?_
    refine lv_ldc2 (v := 100) hx hb X.1.2.2.2.1 (X.1.2.2.2.2 _ q1686) dX3_ahead_11 ?_
    obtain ⟨r_5, h_4, hf⟩ := bd_e hf
    refine k_in X hW h_4 (by decide) hl (Nat.le_of_ble_eq_true rfl) dX3_ahead_14 (fun H locs hW => ?_)
    refine lv_if_eq (tgt := 32) hx hb dX3_ahead_17 (by decide) (fun c_6 => ?_) (fun c_6 => ?_)
    · replace hf := ip hf c_6
      refine lv_bipush (v := (-100)) hx hb dX3_ahead_32 (by decide) ?_
      exact m_iret X hW hf dX3_ahead_34
    · replace hf := ine hf c_6
      refine lv_iload_n hx hb dX3_ahead_20 rfl (lv_at hl 3 rfl) ?_
      refine lv_i2l (v := v3.toInt64) hx hb dX3_ahead_21 rfl ?_
      refine lv_lconst (v := 0) hx hb dX3_ahead_22 (by decide) ?_
      refine lv_ldc2 (v := 2) hx hb X.1.2.2.2.1 (X.1.2.2.2.2 _ q1687) dX3_ahead_23 ?_
      obtain ⟨r_8, h_7, hf⟩ := bd_e hf
      refine k_in X hW h_7 (by decide) hl (Nat.le_of_ble_eq_true rfl) dX3_ahead_26 (fun H locs hW => ?_)
      refine lv_if_ne (tgt := 35) hx hb dX3_ahead_29 (by decide) (fun c_9 => ?_) (fun c_9 => ?_)
      · replace hf := ine hf c_9
        refine lv_aload_n hx hb dX3_ahead_35 rfl (lv_at hl 0 rfl) ?_
        obtain ⟨σ_11, h_10, hf⟩ := bd_e hf
        refine k_keepsAll X hW had h_10 (by decide) hl (Nat.le_of_ble_eq_true rfl) dX3_ahead_36 (fun H locs hW => ?_)
        refine lv_aload_n hx hb dX3_ahead_39 rfl (lv_at hl 0 rfl) ?_
        refine lv_iload_n hx hb dX3_ahead_40 rfl (lv_at hl 2 rfl) ?_
        obtain ⟨⟨σ_14, r_13⟩, h_12, hf⟩ := bd_e hf
        refine k_goes X hW had h_12 (by decide) hl (Nat.le_of_ble_eq_true rfl) dX3_ahead_41 (fun H locs hW => ?_)
        refine lv_pop hx hb dX3_ahead_44 rfl ?_
        refine lv_iload_n hx hb dX3_ahead_45 rfl (lv_at hl 3 rfl) ?_
        refine lv_if_ne (tgt := 58) hx hb dX3_ahead_46 (by decide) (fun c_15 => ?_) (fun c_15 => ?_)
        · replace hf := ine hf c_15
          refine lv_iload_n hx hb dX3_ahead_58 rfl (lv_at hl 3 rfl) ?_
          refine lv_iconst (v := 1) hx hb dX3_ahead_59 (by decide) ?_
          refine lv_icmp_ne (tgt := 72) hx hb dX3_ahead_60 (by decide) (fun c_16 => ?_) (fun c_16 => ?_)
          · replace hf := ine hf c_16
            refine lv_aload_n hx hb dX3_ahead_72 rfl (lv_at hl 0 rfl) ?_
            refine lv_iconst (v := 1) hx hb dX3_ahead_73 (by decide) ?_
            obtain ⟨r_18, h_17, hf⟩ := bd_e hf
            refine k_villagesOn X hW had h_17 (by decide) hl (Nat.le_of_ble_eq_true rfl) dX3_ahead_74 (fun H locs hW => ?_)
            refine lv_istore (lv' := [(4, .int r_18), (0, .ref (ad 999)), (1, .int v1), (2, .int v2), (3, .int v3)]) hx hb dX3_ahead_77 hl (by decide) rfl (fun ls hl => ?_)
            refine lv_aload_n hx hb dX3_ahead_79 rfl (lv_at hl 1 rfl) ?_
            obtain ⟨σ_20, h_19, hf⟩ := bd_e hf
            refine k_laysBack X hW had h_19 (by decide) hl (Nat.le_of_ble_eq_true rfl) dX3_ahead_80 (fun H locs hW => ?_)
            refine lv_iload hx hb dX3_ahead_83 (lv_at hl 0 rfl) ?_
            exact m_iret X hW hf dX3_ahead_85
          · replace hf := ip hf c_16
            refine lv_aload_n hx hb dX3_ahead_63 rfl (lv_at hl 0 rfl) ?_
            refine mg_3 X hW dX3_ahead_64 ?_
            refine lv_iload_n hx hb dX3_ahead_67 rfl (lv_at hl 1 rfl) ?_
            obtain ⟨h_21, hf⟩ := gd_e hf
            refine ml_3 X hW h_21 dX3_ahead_68 ?_
            refine lv_goto (tgt := 77) hx hb dX3_ahead_69 (by decide) ?_
            refine lv_istore (lv' := [(4, .int (σ_14.1 3 (ix v1))), (0, .ref (ad 999)), (1, .int v1), (2, .int v2), (3, .int v3)]) hx hb dX3_ahead_77 hl (by decide) rfl (fun ls hl => ?_)
            refine lv_aload_n hx hb dX3_ahead_79 rfl (lv_at hl 1 rfl) ?_
            obtain ⟨σ_23, h_22, hf⟩ := bd_e hf
            refine k_laysBack X hW had h_22 (by decide) hl (Nat.le_of_ble_eq_true rfl) dX3_ahead_80 (fun H locs hW => ?_)
            refine lv_iload hx hb dX3_ahead_83 (lv_at hl 0 rfl) ?_
            exact m_iret X hW hf dX3_ahead_85
        · replace hf := ip hf c_15
          refine lv_aload_n hx hb dX3_ahead_49 rfl (lv_at hl 0 rfl) ?_
          refine mg_2 X hW dX3_ahead_50 ?_
          refine lv_iload_n hx hb dX3_ahead_53 rfl (lv_at hl 1 rfl) ?_
          obtain ⟨h_24, hf⟩ := gd_e hf
          refine ml_2 X hW h_24 dX3_ahead_54 ?_
          refine lv_goto (tgt := 77) hx hb dX3_ahead_55 (by decide) ?_
          refine lv_istore (lv' := [(4, .int (σ_14.1 2 (ix v1))), (0, .ref (ad 999)), (1, .int v1), (2, .int v2), (3, .int v3)]) hx hb dX3_ahead_77 hl (by decide) rfl (fun ls hl => ?_)
          refine lv_aload_n hx hb dX3_ahead_79 rfl (lv_at hl 1 rfl) ?_
          obtain ⟨σ_26, h_25, hf⟩ := bd_e hf
          refine k_laysBack X hW had h_25 (by decide) hl (Nat.le_of_ble_eq_true rfl) dX3_ahead_80 (fun H locs hW => ?_)
          refine lv_iload hx hb dX3_ahead_83 (lv_at hl 0 rfl) ?_
          exact m_iret X hW hf dX3_ahead_85
      · replace hf := ip hf c_9
        refine lv_bipush (v := (-100)) hx hb dX3_ahead_32 (by decide) ?_
        exact m_iret X hW hf dX3_ahead_34
theorem w_ahead (l : Launch) {g : gG} {ad : Nat → Nat} (had : mI ad) {σr : cS} {r : Int32} {σ : cS} {v1 : Int32} {v2 : Int32} {v3 : Int32}  (hf : m_ahead σ v1 v2 v3 = some (σr, r)) : MM l yX3_ahead cX3_ahead 5 (some .int) 9 200 g ad σ σr [.ref (ad 999), .int v1, .int v2, .int v3] (some (.int r)) :=
  MC.of (by decide) mIds_nd had (Nat.le_of_ble_eq_true rfl) (fun p e s m below meth c A ls X hW hl => wb_ahead X had hW hl hf)
-- crosses
noncomputable def m_crosses_27 {ρ : Type} (v1 : Int32) (v2 : Int32) (K : cS → Int32 → Option ρ) : Nat → cS → Int32 → Int32 → Option ρ
  | 0, _, _, _ => none
  | n + 1, σ, v3, v4 => if 60 ≤ v4 then (K σ v3) else (if v3 = (-2) then (((m_goesNight σ).bind fun (σ_11, r_10) => gd (inb v1 8) (if (σ_11.1 9 (ix v1)) ≤ v2 then (m_crosses_27 v1 v2 K n σ_11 (-2) (v4 + 1)) else (m_crosses_27 v1 v2 K n σ_11 ((σ_11.1 1 (ix 5)) - 1) (v4 + 1))))) else (K σ v3))
set_option maxHeartbeats 4000000 in
theorem wm_crosses_27 {p : Program} {l : Launch} {e : Env} {s : State} {m : MethodId} {args : Array Value} {below : List Frame} {meth : Method} {c : Code} {g : gG} {A : Nat → Prop} {ad : Nat → Nat} (X : MX p s m args meth c cX3_crosses 5 RX3 (some .int) g A) (had : mI ad) {ρ : Type} {res : ρ} {Q : State → Prop} {v1 : Int32} {v2 : Int32}  {K : cS → Int32 → Option ρ}
    (hK : ∀ (σ : cS) (k3 : Int32) (H : Heap) (locs : List Loc) (ls : Array Slot), WB g A s.heap mIds ad (mE g ad σ) H locs → lv_has ls 5 [(0, .ref (ad 999)), (3, .int k3)] → K σ k3 = some res → W p l e (rm_ 8 177) s m args below meth c H locs 0 0 Q (F0 m 75 ls [])) :
    ∀ (n : Nat) (σ : cS) (v3 : Int32) (v4 : Int32) (H : Heap) (locs : List Loc) (ls : Array Slot), WB g A s.heap mIds ad (mE g ad σ) H locs → lv_has ls 5 [(0, .ref (ad 999)), (1, .int v1), (2, .int v2), (3, .int v3), (4, .int v4)] → m_crosses_27 v1 v2 K n σ v3 v4 = some res → W p l e (rm_ 8 177) s m args below meth c H locs 0 0 Q (F0 m 27 ls []) := by
  have hx := X.1.1
  have hb := X.1.2.1
  intro n
  induction n with
  | zero =>
    intro σ v3 v4 H locs ls hW hl hf
    rw [m_crosses_27] at hf
    cases hf
  | succ n ih =>
    intro σ v3 v4 H locs ls hW hl hf
    rw [m_crosses_27] at hf
    refine lv_iload hx hb dX3_crosses_27 (lv_at hl 4 rfl) ?_
    refine lv_bipush (v := 60) hx hb dX3_crosses_29 (by decide) ?_
    refine lv_icmp_ge (tgt := 75) hx hb dX3_crosses_31 (by decide) (fun c_7 => ?_) (fun c_7 => ?_)
    · replace hf := ip hf c_7
      exact hK _ _ _ _ _ hW (lv_sub hl [0, 3] rfl) hf
    · replace hf := ine hf c_7
      refine lv_iload_n hx hb dX3_crosses_34 rfl (lv_at hl 3 rfl) ?_
      refine lv_bipush (v := (-2)) hx hb dX3_crosses_35 (by decide) ?_
      refine lv_icmp_ne (tgt := 75) hx hb dX3_crosses_37 (by decide) (fun c_8 => ?_) (fun c_8 => ?_)
      · replace hf := ine hf c_8
        exact hK _ _ _ _ _ hW (lv_sub hl [0, 3] rfl) hf
      · replace hf := ip hf c_8
        refine lv_aload_n hx hb dX3_crosses_40 rfl (lv_at hl 0 rfl) ?_
        obtain ⟨⟨σ_11, r_10⟩, h_9, hf⟩ := bd_e hf
        refine k_goesNight X hW had h_9 (by decide) hl (Nat.le_of_ble_eq_true rfl) dX3_crosses_41 (fun H locs hW => ?_)
        refine lv_pop hx hb dX3_crosses_44 rfl ?_
        refine lv_aload_n hx hb dX3_crosses_45 rfl (lv_at hl 0 rfl) ?_
        refine mg_9 X hW dX3_crosses_46 ?_
        refine lv_iload_n hx hb dX3_crosses_49 rfl (lv_at hl 1 rfl) ?_
        obtain ⟨h_12, hf⟩ := gd_e hf
        refine ml_9 X hW h_12 dX3_crosses_50 ?_
        refine lv_iload_n hx hb dX3_crosses_51 rfl (lv_at hl 2 rfl) ?_
        refine lv_icmp_le (tgt := 66) hx hb dX3_crosses_52 (by decide) (fun c_13 => ?_) (fun c_13 => ?_)
        · replace hf := ip hf c_13
          refine lv_bipush (v := (-2)) hx hb dX3_crosses_66 (by decide) ?_
          refine lv_istore_n (lv' := [(3, .int (-2)), (0, .ref (ad 999)), (1, .int v1), (2, .int v2), (4, .int v4)]) hx hb dX3_crosses_68 rfl hl (by decide) rfl (fun ls hl => ?_)
          refine lv_iinc (v := (v4 + 1)) (lv' := [(4, .int (v4 + 1)), (3, .int (-2)), (0, .ref (ad 999)), (1, .int v1), (2, .int v2)]) hx hb dX3_crosses_69 hl (k := 4) rfl (ii_v _ _ _ (by decide)) (by decide) rfl (fun ls hl => ?_)
          refine lv_goto (tgt := 27) hx hb dX3_crosses_72 (by decide) ?_
          exact ih _ _ _ _ _ _ hW (lv_sub hl [2, 3, 4, 1, 0] rfl) hf
        · replace hf := ine hf c_13
          refine lv_aload_n hx hb dX3_crosses_55 rfl (lv_at hl 0 rfl) ?_
          refine mg_1 X hW dX3_crosses_56 ?_
          refine lv_iconst (v := 5) hx hb dX3_crosses_59 (by decide) ?_
          refine ml_1 X hW (by decide) dX3_crosses_60 ?_
          refine lv_iconst (v := 1) hx hb dX3_crosses_61 (by decide) ?_
          refine lv_isub hx hb dX3_crosses_62 ?_
          refine lv_goto (tgt := 68) hx hb dX3_crosses_63 (by decide) ?_
          refine lv_istore_n (lv' := [(3, .int ((σ_11.1 1 (ix 5)) - 1)), (0, .ref (ad 999)), (1, .int v1), (2, .int v2), (4, .int v4)]) hx hb dX3_crosses_68 rfl hl (by decide) rfl (fun ls hl => ?_)
          refine lv_iinc (v := (v4 + 1)) (lv' := [(4, .int (v4 + 1)), (3, .int ((σ_11.1 1 (ix 5)) - 1)), (0, .ref (ad 999)), (1, .int v1), (2, .int v2)]) hx hb dX3_crosses_69 hl (k := 4) rfl (ii_v _ _ _ (by decide)) (by decide) rfl (fun ls hl => ?_)
          refine lv_goto (tgt := 27) hx hb dX3_crosses_72 (by decide) ?_
          exact ih _ _ _ _ _ _ hW (lv_sub hl [2, 3, 4, 1, 0] rfl) hf
noncomputable def m_crosses (σ : cS) (v1 : Int32) : Option (cS × Int32) :=
  ((m_isVillage σ v1).bind fun r_2 => if r_2 = 0 then (some (σ, (-1))) else (((m_keepsAll σ).bind fun σ_5 => gd (inb v1 8) (m_crosses_27 v1 (σ_5.1 9 (ix v1)) (fun σ_14 v_15 => (((m_laysBack σ_14).bind fun σ_17 => some (σ_17, v_15)))) FU σ_5 (-2) 0))))
set_option maxHeartbeats 4000000 in
theorem wb_crosses {p : Program} {l : Launch} {e : Env} {s : State} {m : MethodId} {args : Array Value} {below : List Frame} {meth : Method} {c : Code} {g : gG} {A : Nat → Prop} {ad : Nat → Nat} (X : MX p s m args meth c cX3_crosses 5 RX3 (some .int) g A) (had : mI ad) {σr : cS} {r : Int32} {σ : cS} {v1 : Int32}  {H : Heap} {locs : List Loc} {ls : Array Slot} (hW : WB g A s.heap mIds ad (mE g ad σ) H locs) (hl : lv_has ls 5 [(0, .ref (ad 999)), (1, .int v1)]) (hf : m_crosses σ v1 = some (σr, r)) : W p l e (rm_ 8 177) s m args below meth c H locs 0 0 (Qm below g mIds ad (mE g ad σr) (some (.int r)) A args s) (F0 m 0 ls []) := by
  have hx := X.1.1
  have hb := X.1.2.1
  unfold m_crosses at hf
  refine lv_aload_n hx hb dX3_crosses_0 rfl (lv_at hl 0 rfl) ?_
  refine lv_iload_n hx hb dX3_crosses_1 rfl (lv_at hl 1 rfl) ?_
  obtain ⟨r_2, h_1, hf⟩ := bd_e hf
  refine k_isVillage X hW had h_1 (by decide) hl (Nat.le_of_ble_eq_true rfl) dX3_crosses_2 (fun H locs hW => ?_)
  refine lv_if_ne (tgt := 10) hx hb dX3_crosses_5 (by decide) (fun c_3 => ?_) (fun c_3 => ?_)
  · replace hf := ine hf c_3
    refine lv_aload_n hx hb dX3_crosses_10 rfl (lv_at hl 0 rfl) ?_
    obtain ⟨σ_5, h_4, hf⟩ := bd_e hf
    refine k_keepsAll X hW had h_4 (by decide) hl (Nat.le_of_ble_eq_true rfl) dX3_crosses_11 (fun H locs hW => ?_)
    refine lv_aload_n hx hb dX3_crosses_14 rfl (lv_at hl 0 rfl) ?_
    refine mg_9 X hW dX3_crosses_15 ?_
    refine lv_iload_n hx hb dX3_crosses_18 rfl (lv_at hl 1 rfl) ?_
    obtain ⟨h_6, hf⟩ := gd_e hf
    refine ml_9 X hW h_6 dX3_crosses_19 ?_
    refine lv_istore_n (lv' := [(2, .int (σ_5.1 9 (ix v1))), (0, .ref (ad 999)), (1, .int v1)]) hx hb dX3_crosses_20 rfl hl (by decide) rfl (fun ls hl => ?_)
    refine lv_bipush (v := (-2)) hx hb dX3_crosses_21 (by decide) ?_
    refine lv_istore_n (lv' := [(3, .int (-2)), (2, .int (σ_5.1 9 (ix v1))), (0, .ref (ad 999)), (1, .int v1)]) hx hb dX3_crosses_23 rfl hl (by decide) rfl (fun ls hl => ?_)
    refine lv_iconst (v := 0) hx hb dX3_crosses_24 (by decide) ?_
    refine lv_istore (lv' := [(4, .int 0), (3, .int (-2)), (2, .int (σ_5.1 9 (ix v1))), (0, .ref (ad 999)), (1, .int v1)]) hx hb dX3_crosses_25 hl (by decide) rfl (fun ls hl => ?_)
    refine wm_crosses_27 X had (fun σ_14 v_15 H locs ls hW hl hf => ?_) _ _ _ _ _ _ _ hW (lv_sub hl [3, 4, 2, 1, 0] rfl) hf
    refine lv_aload_n hx hb dX3_crosses_75 rfl (lv_at hl 0 rfl) ?_
    obtain ⟨σ_17, h_16, hf⟩ := bd_e hf
    refine k_laysBack X hW had h_16 (by decide) hl (Nat.le_of_ble_eq_true rfl) dX3_crosses_76 (fun H locs hW => ?_)
    refine lv_iload_n hx hb dX3_crosses_79 rfl (lv_at hl 1 rfl) ?_
    exact m_iret X hW hf dX3_crosses_80
  · replace hf := ip hf c_3
    refine lv_iconst (v := (-1)) hx hb dX3_crosses_8 (by decide) ?_
    exact m_iret X hW hf dX3_crosses_9
theorem w_crosses (l : Launch) {g : gG} {ad : Nat → Nat} (had : mI ad) {σr : cS} {r : Int32} {σ : cS} {v1 : Int32}  (hf : m_crosses σ v1 = some (σr, r)) : MM l yX3_crosses cX3_crosses 5 (some .int) 8 177 g ad σ σr [.ref (ad 999), .int v1] (some (.int r)) :=
  MC.of (by decide) mIds_nd had (Nat.le_of_ble_eq_true rfl) (fun p e s m below meth c A ls X hW hl => wb_crosses X had hW hl hf)
-- areWantsSo
noncomputable def m_areWantsSo_2 (σ : cS) (K : Option (Int32)) : Nat → Int32 → Option (Int32)
  | 0, _ => none
  | n + 1, v1 => if (σ.1 1 (ix 3)) ≤ v1 then (K) else (gd (inb v1 8) (((m_sideOf σ (σ.1 10 (ix v1))).bind fun r_4 => if r_4 = (σ.1 11 (ix v1)) then (m_areWantsSo_2 σ K n (v1 + 1)) else (some 0))))
set_option maxHeartbeats 4000000 in
theorem wm_areWantsSo_2 {p : Program} {l : Launch} {e : Env} {s : State} {m : MethodId} {args : Array Value} {below : List Frame} {meth : Method} {c : Code} {g : gG} {A : Nat → Prop} {ad : Nat → Nat} (X : MX p s m args meth c cX3_areWantsSo 2 RX3 (some .boolean) g A) (had : mI ad) {r : Int32}  {σ : cS}  {K : Option (Int32)}
    (hK : ∀  (H : Heap) (locs : List Loc) (ls : Array Slot), WB g A s.heap mIds ad (mE g ad σ) H locs → lv_has ls 2 [] → K = some r → W p l e (rm_ 2 42) s m args below meth c H locs 0 0 (Qm below g mIds ad (mE g ad σ) (some (.int r)) A args s) (F0 m 39 ls [])) :
    ∀ (n : Nat) (v1 : Int32) (H : Heap) (locs : List Loc) (ls : Array Slot), WB g A s.heap mIds ad (mE g ad σ) H locs → lv_has ls 2 [(0, .ref (ad 999)), (1, .int v1)] → m_areWantsSo_2 σ K n v1 = some r → W p l e (rm_ 2 42) s m args below meth c H locs 0 0 (Qm below g mIds ad (mE g ad σ) (some (.int r)) A args s) (F0 m 2 ls []) := by
  have hx := X.1.1
  have hb := X.1.2.1
  intro n
  induction n with
  | zero =>
    intro v1 H locs ls hW hl hf
    rw [m_areWantsSo_2] at hf
    cases hf
  | succ n ih =>
    intro v1 H locs ls hW hl hf
    rw [m_areWantsSo_2] at hf
    refine lv_iload_n hx hb dX3_areWantsSo_2 rfl (lv_at hl 1 rfl) ?_
    refine lv_aload_n hx hb dX3_areWantsSo_3 rfl (lv_at hl 0 rfl) ?_
    refine mg_1 X hW dX3_areWantsSo_4 ?_
    refine lv_iconst (v := 3) hx hb dX3_areWantsSo_7 (by decide) ?_
    refine ml_1 X hW (by decide) dX3_areWantsSo_8 ?_
    refine lv_icmp_ge (tgt := 39) hx hb dX3_areWantsSo_9 (by decide) (fun c_1 => ?_) (fun c_1 => ?_)
    · replace hf := ip hf c_1
      exact hK  _ _ _ hW (lv_sub hl [] rfl) hf
    · replace hf := ine hf c_1
      refine lv_aload_n hx hb dX3_areWantsSo_12 rfl (lv_at hl 0 rfl) ?_
      refine lv_aload_n hx hb dX3_areWantsSo_13 rfl (lv_at hl 0 rfl) ?_
      refine mg_10 X hW dX3_areWantsSo_14 ?_
      refine lv_iload_n hx hb dX3_areWantsSo_17 rfl (lv_at hl 1 rfl) ?_
      obtain ⟨h_2, hf⟩ := gd_e hf
      refine ml_10 X hW h_2 dX3_areWantsSo_18 ?_
      obtain ⟨r_4, h_3, hf⟩ := bd_e hf
      refine k_sideOf X hW had h_3 (by decide) hl (Nat.le_of_ble_eq_true rfl) dX3_areWantsSo_19 (fun H locs hW => ?_)
      refine lv_aload_n hx hb dX3_areWantsSo_22 rfl (lv_at hl 0 rfl) ?_
      refine mg_11 X hW dX3_areWantsSo_23 ?_
      refine lv_iload_n hx hb dX3_areWantsSo_26 rfl (lv_at hl 1 rfl) ?_
      refine ml_11 X hW h_2 dX3_areWantsSo_27 ?_
      refine lv_icmp_eq (tgt := 33) hx hb dX3_areWantsSo_28 (by decide) (fun c_5 => ?_) (fun c_5 => ?_)
      · replace hf := ip hf c_5
        refine lv_iinc (v := (v1 + 1)) (lv' := [(1, .int (v1 + 1)), (0, .ref (ad 999))]) hx hb dX3_areWantsSo_33 hl (k := 1) rfl (ii_v _ _ _ (by decide)) (by decide) rfl (fun ls hl => ?_)
        refine lv_goto (tgt := 2) hx hb dX3_areWantsSo_36 (by decide) ?_
        exact ih _ _ _ _ hW (lv_sub hl [1, 0] rfl) hf
      · replace hf := ine hf c_5
        refine lv_iconst (v := 0) hx hb dX3_areWantsSo_31 (by decide) ?_
        exact p_zret X hW hf (by decide) dX3_areWantsSo_32
noncomputable def m_areWantsSo (σ : cS) : Option (Int32) :=
  m_areWantsSo_2 σ (some 1) FU 0
set_option maxHeartbeats 4000000 in
theorem wb_areWantsSo {p : Program} {l : Launch} {e : Env} {s : State} {m : MethodId} {args : Array Value} {below : List Frame} {meth : Method} {c : Code} {g : gG} {A : Nat → Prop} {ad : Nat → Nat} (X : MX p s m args meth c cX3_areWantsSo 2 RX3 (some .boolean) g A) (had : mI ad) {r : Int32} {σ : cS}  {H : Heap} {locs : List Loc} {ls : Array Slot} (hW : WB g A s.heap mIds ad (mE g ad σ) H locs) (hl : lv_has ls 2 [(0, .ref (ad 999))]) (hf : m_areWantsSo σ = some r) : W p l e (rm_ 2 42) s m args below meth c H locs 0 0 (Qm below g mIds ad (mE g ad σ) (some (.int r)) A args s) (F0 m 0 ls []) := by
  have hx := X.1.1
  have hb := X.1.2.1
  unfold m_areWantsSo at hf
  refine lv_iconst (v := 0) hx hb dX3_areWantsSo_0 (by decide) ?_
  refine lv_istore_n (lv' := [(1, .int 0), (0, .ref (ad 999))]) hx hb dX3_areWantsSo_1 rfl hl (by decide) rfl (fun ls hl => ?_)
  refine wm_areWantsSo_2 X had (fun H locs ls hW hl hf => ?_) _ _ _ _ _ hW (lv_sub hl [1, 0] rfl) hf
  refine lv_iconst (v := 1) hx hb dX3_areWantsSo_39 (by decide) ?_
  exact p_zret X hW hf (by decide) dX3_areWantsSo_40
theorem w_areWantsSo (l : Launch) {g : gG} {ad : Nat → Nat} (had : mI ad) {r : Int32} {σ : cS}  (hf : m_areWantsSo σ = some r) : MM l yX3_areWantsSo cX3_areWantsSo 2 (some .boolean) 2 42 g ad σ σ [.ref (ad 999)] (some (.int r)) :=
  MC.of (by decide) mIds_nd had (Nat.le_of_ble_eq_true rfl) (fun p e s m below meth c A ls X hW hl => wb_areWantsSo X had hW hl hf)
theorem k_areWantsSo {p : Program} {l : Launch} {e : Env} {R : Room} {s : State} {m : MethodId} {args : Array Value} {below : List Frame} {meth : Method} {c : Code} {H : Heap} {locs : List Loc} {Q : State → Prop} {cc : ByteArray} {nL : Nat} {ret : Option FieldType} {g : gG} {A : Nat → Prop} {ad : Nat → Nat} {pc : Nat} {ls : Array Slot} {rest : List Value} {lv : List (Nat × Value)} {r : Int32} {σ : cS} (X : MX p s m args meth c cc nL RX3 ret g A) (hW : WB g A s.heap mIds ad (mE g ad σ) H locs) (had : mI ad)  (hf : m_areWantsSo σ = some r) (hR : 3 ≤ R.frames ∧ 63 ≤ R.locals) (hl : lv_has ls nL lv) (hcat : (rest.map fun v => v.category).sum ≤ 8) (hdg : decode cc pc = .ok (.invokevirtual 494, 3)) (kk : ∀ (H1 : Heap) (l1 : List Loc), WB g A s.heap mIds ad (mE g ad σ) H1 l1 → W p l e R s m args below meth c H1 l1 0 0 Q (F0 m (pc + 3) ls (.int r :: rest))) : W p l e R s m args below meth c H locs 0 0 Q (F0 m pc ls (.ref (ad 999) :: rest)) :=
  r_callV X hW Sub.all (w_areWantsSo l had hf) (lw_V q1728 q1730 qs107 q126 q1731) ⟨rfl, by decide, by decide, by decide +kernel⟩ m_999 mE_o rfl (n := 0) hR hl rfl rfl hcat ⟨Nat.zero_le _, Nat.zero_le _⟩ hdg kk
-- pushesBy
noncomputable def m_pushesBy_7 {ρ : Type} (v1 : Int32) (K : cS → Int32 → Int32 → Option ρ) : Nat → cS → Int32 → Int32 → Int32 → Option ρ
  | 0, _, _, _, _ => none
  | n + 1, σ, v2, v3, v4 => if v1 ≤ v4 then (K σ v2 v3) else (if v3 = 0 then (K σ v2 v3) else (gd (inb v4 3) (((if (σ.1 54 (ix v4)) = (-1) then (some (σ, v2, v3)) else (((m_isBaked σ ((σ.1 54 (ix v4)) / 2)).bind fun r_13 => ((if r_13 = 0 then (some (1)) else (some (0)) : Option (Int32)).bind fun t_14 => (if ((σ.1 54 (ix v4)) - (σ.1 54 (ix v4)) / 2 * 2) = 1 then (((m_pushes σ ((σ.1 54 (ix v4)) / 2) 2).bind fun σ_20 => some (σ_20, (v2 + 1), t_14))) else (((m_pushes σ ((σ.1 54 (ix v4)) / 2) (-2)).bind fun σ_18 => some (σ_18, (v2 + 1), t_14))))))) : Option (cS × Int32 × Int32)).bind fun (σ_4, v_5, v_6) => (((m_goesNight σ_4).bind fun (σ_10, r_9) => m_pushesBy_7 v1 K n σ_10 v_5 v_6 (v4 + 1)))))))
set_option maxHeartbeats 4000000 in
theorem wm_pushesBy_7 {p : Program} {l : Launch} {e : Env} {s : State} {m : MethodId} {args : Array Value} {below : List Frame} {meth : Method} {c : Code} {g : gG} {A : Nat → Prop} {ad : Nat → Nat} (X : MX p s m args meth c cX3_pushesBy 6 RX3 (some .int) g A) (had : mI ad) {ρ : Type} {res : ρ} {Q : State → Prop} {v1 : Int32}  {K : cS → Int32 → Int32 → Option ρ}
    (hK : ∀ (σ : cS) (k2 : Int32) (k3 : Int32) (H : Heap) (locs : List Loc) (ls : Array Slot), WB g A s.heap mIds ad (mE g ad σ) H locs → lv_has ls 6 [(0, .ref (ad 999)), (2, .int k2), (3, .int k3)] → K σ k2 k3 = some res → W p l e (rm_ 8 177) s m args below meth c H locs 0 0 Q (F0 m 85 ls [])) :
    ∀ (n : Nat) (σ : cS) (v2 : Int32) (v3 : Int32) (v4 : Int32) (H : Heap) (locs : List Loc) (ls : Array Slot), WB g A s.heap mIds ad (mE g ad σ) H locs → lv_has ls 6 [(0, .ref (ad 999)), (1, .int v1), (2, .int v2), (3, .int v3), (4, .int v4)] → m_pushesBy_7 v1 K n σ v2 v3 v4 = some res → W p l e (rm_ 8 177) s m args below meth c H locs 0 0 Q (F0 m 7 ls []) := by
  have hx := X.1.1
  have hb := X.1.2.1
  intro n
  induction n with
  | zero =>
    intro σ v2 v3 v4 H locs ls hW hl hf
    rw [m_pushesBy_7] at hf
    cases hf
  | succ n ih =>
    intro σ v2 v3 v4 H locs ls hW hl hf
    rw [m_pushesBy_7] at hf
    refine lv_iload hx hb dX3_pushesBy_7 (lv_at hl 4 rfl) ?_
    refine lv_iload_n hx hb dX3_pushesBy_9 rfl (lv_at hl 1 rfl) ?_
    refine lv_icmp_ge (tgt := 85) hx hb dX3_pushesBy_10 (by decide) (fun c_1 => ?_) (fun c_1 => ?_)
    · replace hf := ip hf c_1
      exact hK _ _ _ _ _ _ hW (lv_sub hl [0, 2, 3] rfl) hf
    · replace hf := ine hf c_1
      refine lv_iload_n hx hb dX3_pushesBy_13 rfl (lv_at hl 3 rfl) ?_
      refine lv_if_eq (tgt := 85) hx hb dX3_pushesBy_14 (by decide) (fun c_2 => ?_) (fun c_2 => ?_)
      · replace hf := ip hf c_2
        exact hK _ _ _ _ _ _ hW (lv_sub hl [0, 2, 3] rfl) hf
      · replace hf := ine hf c_2
        refine lv_aload_n hx hb dX3_pushesBy_17 rfl (lv_at hl 0 rfl) ?_
        refine mg_54 X hW dX3_pushesBy_18 ?_
        refine lv_iload hx hb dX3_pushesBy_21 (lv_at hl 4 rfl) ?_
        obtain ⟨h_3, hf⟩ := gd_e hf
        refine ml_54 X hW h_3 dX3_pushesBy_23 ?_
        refine lv_istore (lv' := [(5, .int (σ.1 54 (ix v4))), (0, .ref (ad 999)), (1, .int v1), (2, .int v2), (3, .int v3), (4, .int v4)]) hx hb dX3_pushesBy_24 hl (by decide) rfl (fun ls hl => ?_)
        refine lv_iload hx hb dX3_pushesBy_26 (lv_at hl 0 rfl) ?_
        refine lv_iconst (v := (-1)) hx hb dX3_pushesBy_28 (by decide) ?_
        obtain ⟨⟨σ_4, v_5, v_6⟩, hD_7, hf⟩ := bd_e hf
        have hJ : ∀ (H : Heap) (locs : List Loc) (ls : Array Slot), WB g A s.heap mIds ad (mE g ad σ_4) H locs → lv_has ls 6 [(0, .ref (ad 999)), (1, .int v1), (2, .int v_5), (3, .int v_6), (4, .int v4)] → W p l e (rm_ 8 177) s m args below meth c H locs 0 0 Q (F0 m 74 ls []) := by
          intro H locs ls hW hl
          refine lv_aload_n hx hb dX3_pushesBy_74 rfl (lv_at hl 0 rfl) ?_
          obtain ⟨⟨σ_10, r_9⟩, h_8, hf⟩ := bd_e hf
          refine k_goesNight X hW had h_8 (by decide) hl (Nat.le_of_ble_eq_true rfl) dX3_pushesBy_75 (fun H locs hW => ?_)
          refine lv_pop hx hb dX3_pushesBy_78 rfl ?_
          refine lv_iinc (v := (v4 + 1)) (lv' := [(4, .int (v4 + 1)), (0, .ref (ad 999)), (1, .int v1), (2, .int v_5), (3, .int v_6)]) hx hb dX3_pushesBy_79 hl (k := 4) rfl (ii_v _ _ _ (by decide)) (by decide) rfl (fun ls hl => ?_)
          refine lv_goto (tgt := 7) hx hb dX3_pushesBy_82 (by decide) ?_
          exact ih _ _ _ _ _ _ _ hW (lv_sub hl [1, 2, 3, 4, 0] rfl) hf
        clear hf
        refine lv_icmp_eq (tgt := 74) hx hb dX3_pushesBy_29 (by decide) (fun c_11 => ?_) (fun c_11 => ?_)
        · replace hD_7 := ip hD_7 c_11
          cases hD_7
          exact hJ _ _ _ hW (lv_sub hl [1, 2, 3, 4, 5] rfl)
        · replace hD_7 := ine hD_7 c_11
          refine lv_aload_n hx hb dX3_pushesBy_32 rfl (lv_at hl 1 rfl) ?_
          refine lv_iload hx hb dX3_pushesBy_33 (lv_at hl 0 rfl) ?_
          refine lv_iconst (v := 2) hx hb dX3_pushesBy_35 (by decide) ?_
          refine lv_idiv hx hb dX3_pushesBy_36 (by decide) ?_
          obtain ⟨r_13, h_12, hD_7⟩ := bd_e hD_7
          refine k_isBaked X hW had h_12 (by decide) hl (Nat.le_of_ble_eq_true rfl) dX3_pushesBy_37 (fun H locs hW => ?_)
          obtain ⟨t_14, hD_15, hD_7⟩ := bd_e hD_7
          have hJ : ∀ (H : Heap) (locs : List Loc) (ls : Array Slot), WB g A s.heap mIds ad (mE g ad σ) H locs → lv_has ls 6 [(0, .ref (ad 999)), (1, .int v1), (2, .int v2), (4, .int v4), (5, .int (σ.1 54 (ix v4)))] → W p l e (rm_ 8 177) s m args below meth c H locs 0 0 Q (F0 m 48 ls [.int t_14]) := by
            intro H locs ls hW hl
            refine lv_istore_n (lv' := [(3, .int t_14), (0, .ref (ad 999)), (1, .int v1), (2, .int v2), (4, .int v4), (5, .int (σ.1 54 (ix v4)))]) hx hb dX3_pushesBy_48 rfl hl (by decide) rfl (fun ls hl => ?_)
            refine lv_aload_n hx hb dX3_pushesBy_49 rfl (lv_at hl 1 rfl) ?_
            refine lv_iload hx hb dX3_pushesBy_50 (lv_at hl 5 rfl) ?_
            refine lv_iconst (v := 2) hx hb dX3_pushesBy_52 (by decide) ?_
            refine lv_idiv hx hb dX3_pushesBy_53 (by decide) ?_
            refine lv_iload hx hb dX3_pushesBy_54 (lv_at hl 5 rfl) ?_
            refine lv_iconst (v := 2) hx hb dX3_pushesBy_56 (by decide) ?_
            refine lv_irem hx hb dX3_pushesBy_57 (by decide) ?_
            refine lv_iconst (v := 1) hx hb dX3_pushesBy_58 (by decide) ?_
            refine lv_icmp_ne (tgt := 66) hx hb dX3_pushesBy_59 (by decide) (fun c_16 => ?_) (fun c_16 => ?_)
            · replace hD_7 := ine hD_7 c_16
              refine lv_bipush (v := (-2)) hx hb dX3_pushesBy_66 (by decide) ?_
              obtain ⟨σ_18, h_17, hD_7⟩ := bd_e hD_7
              refine k_pushes X hW had h_17 (by decide) hl (Nat.le_of_ble_eq_true rfl) dX3_pushesBy_68 (fun H locs hW => ?_)
              refine lv_iinc (v := (v2 + 1)) (lv' := [(2, .int (v2 + 1)), (3, .int t_14), (0, .ref (ad 999)), (1, .int v1), (4, .int v4), (5, .int (σ.1 54 (ix v4)))]) hx hb dX3_pushesBy_71 hl (k := 3) rfl (ii_v _ _ _ (by decide)) (by decide) rfl (fun ls hl => ?_)
              cases hD_7
              exact hJ _ _ _ hW (lv_sub hl [2, 3, 0, 1, 4] rfl)
            · replace hD_7 := ip hD_7 c_16
              refine lv_iconst (v := 2) hx hb dX3_pushesBy_62 (by decide) ?_
              refine lv_goto (tgt := 68) hx hb dX3_pushesBy_63 (by decide) ?_
              obtain ⟨σ_20, h_19, hD_7⟩ := bd_e hD_7
              refine k_pushes X hW had h_19 (by decide) hl (Nat.le_of_ble_eq_true rfl) dX3_pushesBy_68 (fun H locs hW => ?_)
              refine lv_iinc (v := (v2 + 1)) (lv' := [(2, .int (v2 + 1)), (3, .int t_14), (0, .ref (ad 999)), (1, .int v1), (4, .int v4), (5, .int (σ.1 54 (ix v4)))]) hx hb dX3_pushesBy_71 hl (k := 3) rfl (ii_v _ _ _ (by decide)) (by decide) rfl (fun ls hl => ?_)
              cases hD_7
              exact hJ _ _ _ hW (lv_sub hl [2, 3, 0, 1, 4] rfl)
          clear hD_7
          refine lv_if_ne (tgt := 47) hx hb dX3_pushesBy_40 (by decide) (fun c_21 => ?_) (fun c_21 => ?_)
          · replace hD_15 := ine hD_15 c_21
            refine lv_iconst (v := 0) hx hb dX3_pushesBy_47 (by decide) ?_
            cases hD_15
            exact hJ _ _ _ hW (lv_sub hl [1, 2, 3, 5, 0] rfl)
          · replace hD_15 := ip hD_15 c_21
            refine lv_iconst (v := 1) hx hb dX3_pushesBy_43 (by decide) ?_
            refine lv_goto (tgt := 48) hx hb dX3_pushesBy_44 (by decide) ?_
            cases hD_15
            exact hJ _ _ _ hW (lv_sub hl [1, 2, 3, 5, 0] rfl)
noncomputable def m_pushesBy (σ : cS) (v1 : Int32) : Option (cS × Int32) :=
  m_pushesBy_7 v1 (fun σ_22 v_23 v_24 => (if v_24 = 0 then (some (σ_22, (-1))) else (((m_areWantsSo σ_22).bind fun r_27 => if r_27 = 0 then (some (σ_22, (-1))) else (some (σ_22, v_23)))))) FU σ 0 1 0
set_option maxHeartbeats 4000000 in
theorem wb_pushesBy {p : Program} {l : Launch} {e : Env} {s : State} {m : MethodId} {args : Array Value} {below : List Frame} {meth : Method} {c : Code} {g : gG} {A : Nat → Prop} {ad : Nat → Nat} (X : MX p s m args meth c cX3_pushesBy 6 RX3 (some .int) g A) (had : mI ad) {σr : cS} {r : Int32} {σ : cS} {v1 : Int32}  {H : Heap} {locs : List Loc} {ls : Array Slot} (hW : WB g A s.heap mIds ad (mE g ad σ) H locs) (hl : lv_has ls 6 [(0, .ref (ad 999)), (1, .int v1)]) (hf : m_pushesBy σ v1 = some (σr, r)) : W p l e (rm_ 8 177) s m args below meth c H locs 0 0 (Qm below g mIds ad (mE g ad σr) (some (.int r)) A args s) (F0 m 0 ls []) := by
  have hx := X.1.1
  have hb := X.1.2.1
  unfold m_pushesBy at hf
  refine lv_iconst (v := 0) hx hb dX3_pushesBy_0 (by decide) ?_
  refine lv_istore_n (lv' := [(2, .int 0), (0, .ref (ad 999)), (1, .int v1)]) hx hb dX3_pushesBy_1 rfl hl (by decide) rfl (fun ls hl => ?_)
  refine lv_iconst (v := 1) hx hb dX3_pushesBy_2 (by decide) ?_
  refine lv_istore_n (lv' := [(3, .int 1), (2, .int 0), (0, .ref (ad 999)), (1, .int v1)]) hx hb dX3_pushesBy_3 rfl hl (by decide) rfl (fun ls hl => ?_)
  refine lv_iconst (v := 0) hx hb dX3_pushesBy_4 (by decide) ?_
  refine lv_istore (lv' := [(4, .int 0), (3, .int 1), (2, .int 0), (0, .ref (ad 999)), (1, .int v1)]) hx hb dX3_pushesBy_5 hl (by decide) rfl (fun ls hl => ?_)
  refine wm_pushesBy_7 X had (fun σ_22 v_23 v_24 H locs ls hW hl hf => ?_) _ _ _ _ _ _ _ _ hW (lv_sub hl [3, 4, 2, 1, 0] rfl) hf
  refine lv_iload_n hx hb dX3_pushesBy_85 rfl (lv_at hl 2 rfl) ?_
  refine lv_if_eq (tgt := 100) hx hb dX3_pushesBy_86 (by decide) (fun c_25 => ?_) (fun c_25 => ?_)
  · replace hf := ip hf c_25
    refine lv_iconst (v := (-1)) hx hb dX3_pushesBy_100 (by decide) ?_
    exact m_iret X hW hf dX3_pushesBy_101
  · replace hf := ine hf c_25
    refine lv_aload_n hx hb dX3_pushesBy_89 rfl (lv_at hl 0 rfl) ?_
    obtain ⟨r_27, h_26, hf⟩ := bd_e hf
    refine k_areWantsSo X hW had h_26 (by decide) hl (Nat.le_of_ble_eq_true rfl) dX3_pushesBy_90 (fun H locs hW => ?_)
    refine lv_if_eq (tgt := 100) hx hb dX3_pushesBy_93 (by decide) (fun c_28 => ?_) (fun c_28 => ?_)
    · replace hf := ip hf c_28
      refine lv_iconst (v := (-1)) hx hb dX3_pushesBy_100 (by decide) ?_
      exact m_iret X hW hf dX3_pushesBy_101
    · replace hf := ine hf c_28
      refine lv_iload_n hx hb dX3_pushesBy_96 rfl (lv_at hl 1 rfl) ?_
      refine lv_goto (tgt := 101) hx hb dX3_pushesBy_97 (by decide) ?_
      exact m_iret X hW hf dX3_pushesBy_101
theorem w_pushesBy (l : Launch) {g : gG} {ad : Nat → Nat} (had : mI ad) {σr : cS} {r : Int32} {σ : cS} {v1 : Int32}  (hf : m_pushesBy σ v1 = some (σr, r)) : MM l yX3_pushesBy cX3_pushesBy 6 (some .int) 8 177 g ad σ σr [.ref (ad 999), .int v1] (some (.int r)) :=
  MC.of (by decide) mIds_nd had (Nat.le_of_ble_eq_true rfl) (fun p e s m below meth c A ls X hW hl => wb_pushesBy X had hW hl hf)
theorem k_pushesBy {p : Program} {l : Launch} {e : Env} {R : Room} {s : State} {m : MethodId} {args : Array Value} {below : List Frame} {meth : Method} {c : Code} {H : Heap} {locs : List Loc} {Q : State → Prop} {cc : ByteArray} {nL : Nat} {ret : Option FieldType} {g : gG} {A : Nat → Prop} {ad : Nat → Nat} {pc : Nat} {ls : Array Slot} {rest : List Value} {lv : List (Nat × Value)} {σr : cS} {r : Int32} {σ : cS} {v1 : Int32} (X : MX p s m args meth c cc nL RX3 ret g A) (hW : WB g A s.heap mIds ad (mE g ad σ) H locs) (had : mI ad)  (hf : m_pushesBy σ v1 = some (σr, r)) (hR : 9 ≤ R.frames ∧ 202 ≤ R.locals) (hl : lv_has ls nL lv) (hcat : (rest.map fun v => v.category).sum ≤ 8) (hdg : decode cc pc = .ok (.invokevirtual 497, 3)) (kk : ∀ (H1 : Heap) (l1 : List Loc), WB g A s.heap mIds ad (mE g ad σr) H1 l1 → W p l e R s m args below meth c H1 l1 0 0 Q (F0 m (pc + 3) ls (.int r :: rest))) : W p l e R s m args below meth c H locs 0 0 Q (F0 m pc ls (.int v1 :: .ref (ad 999) :: rest)) :=
  r_callV X hW Sub.all (w_pushesBy l had hf) (lw_V q1724 q1726 qs106 q126 q1727) ⟨rfl, by decide, by decide, by decide +kernel⟩ m_999 mE_o rfl (n := 1) hR hl rfl rfl hcat ⟨Nat.zero_le _, Nat.zero_le _⟩ hdg kk
-- findsPush
noncomputable def m_findsPush_19 {ρ : Type} (σ : cS) (v1 : Int32) (v2 : Int32) (v3 : Int32) (K : Int32 → Option ρ) : Nat → Int32 → Int32 → Option ρ
  | 0, _, _ => none
  | n + 1, v4, v5 => if v1 ≤ v5 then (K v4) else (m_findsPush_19 σ v1 v2 v3 K n (v4 * v3) (v5 + 1))
set_option maxHeartbeats 4000000 in
theorem wm_findsPush_19 {p : Program} {l : Launch} {e : Env} {s : State} {m : MethodId} {args : Array Value} {below : List Frame} {meth : Method} {c : Code} {g : gG} {A : Nat → Prop} {ad : Nat → Nat} (X : MX p s m args meth c cX3_findsPush 8 RX3 (some .int) g A) (had : mI ad) {ρ : Type} {res : ρ} {Q : State → Prop} {v1 : Int32} {v2 : Int32} {v3 : Int32} {σ : cS}  {K : Int32 → Option ρ}
    (hK : ∀ (k4 : Int32) (H : Heap) (locs : List Loc) (ls : Array Slot), WB g A s.heap mIds ad (mE g ad σ) H locs → lv_has ls 8 [(0, .ref (ad 999)), (1, .int v1), (2, .int v2), (3, .int v3), (4, .int k4)] → K k4 = some res → W p l e (rm_ 9 202) s m args below meth c H locs 0 0 Q (F0 m 37 ls [])) :
    ∀ (n : Nat) (v4 : Int32) (v5 : Int32) (H : Heap) (locs : List Loc) (ls : Array Slot), WB g A s.heap mIds ad (mE g ad σ) H locs → lv_has ls 8 [(0, .ref (ad 999)), (1, .int v1), (2, .int v2), (3, .int v3), (4, .int v4), (5, .int v5)] → m_findsPush_19 σ v1 v2 v3 K n v4 v5 = some res → W p l e (rm_ 9 202) s m args below meth c H locs 0 0 Q (F0 m 19 ls []) := by
  have hx := X.1.1
  have hb := X.1.2.1
  intro n
  induction n with
  | zero =>
    intro v4 v5 H locs ls hW hl hf
    rw [m_findsPush_19] at hf
    cases hf
  | succ n ih =>
    intro v4 v5 H locs ls hW hl hf
    rw [m_findsPush_19] at hf
    refine lv_iload hx hb dX3_findsPush_19 (lv_at hl 5 rfl) ?_
    refine lv_iload_n hx hb dX3_findsPush_21 rfl (lv_at hl 1 rfl) ?_
    refine lv_icmp_ge (tgt := 37) hx hb dX3_findsPush_22 (by decide) (fun c_1 => ?_) (fun c_1 => ?_)
    · replace hf := ip hf c_1
      exact hK _ _ _ _ hW (lv_sub hl [0, 1, 2, 3, 4] rfl) hf
    · replace hf := ine hf c_1
      refine lv_iload hx hb dX3_findsPush_25 (lv_at hl 4 rfl) ?_
      refine lv_iload_n hx hb dX3_findsPush_27 rfl (lv_at hl 3 rfl) ?_
      refine lv_imul hx hb dX3_findsPush_28 ?_
      refine lv_istore (lv' := [(4, .int (v4 * v3)), (0, .ref (ad 999)), (1, .int v1), (2, .int v2), (3, .int v3), (5, .int v5)]) hx hb dX3_findsPush_29 hl (by decide) rfl (fun ls hl => ?_)
      refine lv_iinc (v := (v5 + 1)) (lv' := [(5, .int (v5 + 1)), (4, .int (v4 * v3)), (0, .ref (ad 999)), (1, .int v1), (2, .int v2), (3, .int v3)]) hx hb dX3_findsPush_31 hl (k := 5) rfl (ii_v _ _ _ (by decide)) (by decide) rfl (fun ls hl => ?_)
      refine lv_goto (tgt := 19) hx hb dX3_findsPush_34 (by decide) ?_
      exact ih _ _ _ _ _ hW (lv_sub hl [2, 3, 4, 5, 1, 0] rfl) hf
noncomputable def m_findsPush_60 {ρ : Type} (v1 : Int32) (v2 : Int32) (v3 : Int32) (v4 : Int32) (v5 : Int32) (K : cS → Option ρ) : Nat → cS → Int32 → Int32 → Option ρ
  | 0, _, _, _ => none
  | n + 1, σ, v6, v7 => if v7 < 0 then (K σ) else (gd (nz v3) (gd (inb v7 3) (m_findsPush_60 v1 v2 v3 v4 v5 K n (si σ 54 (ix v7) ((v6 - v6 / v3 * v3) - 1)) (v6 / v3) (v7 + (-1)))))
set_option maxHeartbeats 4000000 in
theorem wm_findsPush_60 {p : Program} {l : Launch} {e : Env} {s : State} {m : MethodId} {args : Array Value} {below : List Frame} {meth : Method} {c : Code} {g : gG} {A : Nat → Prop} {ad : Nat → Nat} (X : MX p s m args meth c cX3_findsPush 8 RX3 (some .int) g A) (had : mI ad) {ρ : Type} {res : ρ} {Q : State → Prop} {v1 : Int32} {v2 : Int32} {v3 : Int32} {v4 : Int32} {v5 : Int32}  {K : cS → Option ρ}
    (hK : ∀ (σ : cS) (H : Heap) (locs : List Loc) (ls : Array Slot), WB g A s.heap mIds ad (mE g ad σ) H locs → lv_has ls 8 [(0, .ref (ad 999)), (1, .int v1), (2, .int v2), (3, .int v3), (4, .int v4), (5, .int v5)] → K σ = some res → W p l e (rm_ 9 202) s m args below meth c H locs 0 0 Q (F0 m 90 ls [])) :
    ∀ (n : Nat) (σ : cS) (v6 : Int32) (v7 : Int32) (H : Heap) (locs : List Loc) (ls : Array Slot), WB g A s.heap mIds ad (mE g ad σ) H locs → lv_has ls 8 [(0, .ref (ad 999)), (1, .int v1), (2, .int v2), (3, .int v3), (4, .int v4), (5, .int v5), (6, .int v6), (7, .int v7)] → m_findsPush_60 v1 v2 v3 v4 v5 K n σ v6 v7 = some res → W p l e (rm_ 9 202) s m args below meth c H locs 0 0 Q (F0 m 60 ls []) := by
  have hx := X.1.1
  have hb := X.1.2.1
  intro n
  induction n with
  | zero =>
    intro σ v6 v7 H locs ls hW hl hf
    rw [m_findsPush_60] at hf
    cases hf
  | succ n ih =>
    intro σ v6 v7 H locs ls hW hl hf
    rw [m_findsPush_60] at hf
    refine lv_iload hx hb dX3_findsPush_60 (lv_at hl 7 rfl) ?_
    refine lv_if_lt (tgt := 90) hx hb dX3_findsPush_62 (by decide) (fun c_6 => ?_) (fun c_6 => ?_)
    · replace hf := ip hf c_6
      exact hK _ _ _ _ hW (lv_sub hl [0, 1, 2, 3, 4, 5] rfl) hf
    · replace hf := ine hf c_6
      refine lv_aload_n hx hb dX3_findsPush_65 rfl (lv_at hl 0 rfl) ?_
      refine mg_54 X hW dX3_findsPush_66 ?_
      refine lv_iload hx hb dX3_findsPush_69 (lv_at hl 7 rfl) ?_
      refine lv_iload hx hb dX3_findsPush_71 (lv_at hl 6 rfl) ?_
      refine lv_iload_n hx hb dX3_findsPush_73 rfl (lv_at hl 3 rfl) ?_
      obtain ⟨z_7, hf⟩ := gd_e hf
      refine lv_irem hx hb dX3_findsPush_74 (nz_e z_7) ?_
      refine lv_iconst (v := 1) hx hb dX3_findsPush_75 (by decide) ?_
      refine lv_isub hx hb dX3_findsPush_76 ?_
      obtain ⟨h_8, hf⟩ := gd_e hf
      refine ms_54 X hW h_8 dX3_findsPush_77 (fun H locs hW => ?_)
      refine lv_iload hx hb dX3_findsPush_78 (lv_at hl 6 rfl) ?_
      refine lv_iload_n hx hb dX3_findsPush_80 rfl (lv_at hl 3 rfl) ?_
      refine lv_idiv hx hb dX3_findsPush_81 (nz_e z_7) ?_
      refine lv_istore (lv' := [(6, .int (v6 / v3)), (0, .ref (ad 999)), (1, .int v1), (2, .int v2), (3, .int v3), (4, .int v4), (5, .int v5), (7, .int v7)]) hx hb dX3_findsPush_82 hl (by decide) rfl (fun ls hl => ?_)
      refine lv_iinc (v := (v7 + (-1))) (lv' := [(7, .int (v7 + (-1))), (6, .int (v6 / v3)), (0, .ref (ad 999)), (1, .int v1), (2, .int v2), (3, .int v3), (4, .int v4), (5, .int v5)]) hx hb dX3_findsPush_84 hl (k := 7) rfl (ii_v _ _ _ (by decide)) (by decide) rfl (fun ls hl => ?_)
      refine lv_goto (tgt := 60) hx hb dX3_findsPush_87 (by decide) ?_
      exact ih _ _ _ _ _ _ hW (lv_sub hl [2, 3, 4, 5, 6, 7, 1, 0] rfl) hf
noncomputable def m_findsPush_44 {ρ : Type} (v1 : Int32) (v3 : Int32) (v4 : Int32) (K : cS → Int32 → Option ρ) : Nat → cS → Int32 → Int32 → Option ρ
  | 0, _, _, _ => none
  | n + 1, σ, v2, v5 => if v4 ≤ v5 then (K σ v2) else (m_findsPush_60 v1 v2 v3 v4 v5 (fun σ_9 => (((m_pushesBy σ_9 v1).bind fun (σ_12, r_11) => ((m_laysBack σ_12).bind fun σ_14 => if r_11 = (-1) then (m_findsPush_44 v1 v3 v4 K n σ_14 v2 (v5 + 1)) else (if v2 = (-1) then (((m_copies σ_14 54 55).bind fun σ_18 => m_findsPush_44 v1 v3 v4 K n σ_18 r_11 (v5 + 1))) else (if v2 ≤ r_11 then (m_findsPush_44 v1 v3 v4 K n σ_14 v2 (v5 + 1)) else (((m_copies σ_14 54 55).bind fun σ_21 => m_findsPush_44 v1 v3 v4 K n σ_21 r_11 (v5 + 1))))))))) FU σ v5 (v1 - 1))
set_option maxHeartbeats 4000000 in
theorem wm_findsPush_44 {p : Program} {l : Launch} {e : Env} {s : State} {m : MethodId} {args : Array Value} {below : List Frame} {meth : Method} {c : Code} {g : gG} {A : Nat → Prop} {ad : Nat → Nat} (X : MX p s m args meth c cX3_findsPush 8 RX3 (some .int) g A) (had : mI ad) {ρ : Type} {res : ρ} {Q : State → Prop} {v1 : Int32} {v3 : Int32} {v4 : Int32}  {K : cS → Int32 → Option ρ}
    (hK : ∀ (σ : cS) (k2 : Int32) (H : Heap) (locs : List Loc) (ls : Array Slot), WB g A s.heap mIds ad (mE g ad σ) H locs → lv_has ls 8 [(2, .int k2)] → K σ k2 = some res → W p l e (rm_ 9 202) s m args below meth c H locs 0 0 Q (F0 m 138 ls [])) :
    ∀ (n : Nat) (σ : cS) (v2 : Int32) (v5 : Int32) (H : Heap) (locs : List Loc) (ls : Array Slot), WB g A s.heap mIds ad (mE g ad σ) H locs → lv_has ls 8 [(0, .ref (ad 999)), (1, .int v1), (2, .int v2), (3, .int v3), (4, .int v4), (5, .int v5)] → m_findsPush_44 v1 v3 v4 K n σ v2 v5 = some res → W p l e (rm_ 9 202) s m args below meth c H locs 0 0 Q (F0 m 44 ls []) := by
  have hx := X.1.1
  have hb := X.1.2.1
  intro n
  induction n with
  | zero =>
    intro σ v2 v5 H locs ls hW hl hf
    rw [m_findsPush_44] at hf
    cases hf
  | succ n ih =>
    intro σ v2 v5 H locs ls hW hl hf
    rw [m_findsPush_44] at hf
    refine lv_iload hx hb dX3_findsPush_44 (lv_at hl 5 rfl) ?_
    refine lv_iload hx hb dX3_findsPush_46 (lv_at hl 4 rfl) ?_
    refine lv_icmp_ge (tgt := 138) hx hb dX3_findsPush_48 (by decide) (fun c_5 => ?_) (fun c_5 => ?_)
    · replace hf := ip hf c_5
      exact hK _ _ _ _ _ hW (lv_sub hl [2] rfl) hf
    · replace hf := ine hf c_5
      refine lv_iload hx hb dX3_findsPush_51 (lv_at hl 5 rfl) ?_
      refine lv_istore (lv' := [(6, .int v5), (0, .ref (ad 999)), (1, .int v1), (2, .int v2), (3, .int v3), (4, .int v4), (5, .int v5)]) hx hb dX3_findsPush_53 hl (by decide) rfl (fun ls hl => ?_)
      refine lv_iload_n hx hb dX3_findsPush_55 rfl (lv_at hl 2 rfl) ?_
      refine lv_iconst (v := 1) hx hb dX3_findsPush_56 (by decide) ?_
      refine lv_isub hx hb dX3_findsPush_57 ?_
      refine lv_istore (lv' := [(7, .int (v1 - 1)), (6, .int v5), (0, .ref (ad 999)), (1, .int v1), (2, .int v2), (3, .int v3), (4, .int v4), (5, .int v5)]) hx hb dX3_findsPush_58 hl (by decide) rfl (fun ls hl => ?_)
      refine wm_findsPush_60 X had (fun σ_9 H locs ls hW hl hf => ?_) _ _ _ _ _ _ _ hW (lv_sub hl [2, 3, 4, 5, 6, 7, 1, 0] rfl) hf
      refine lv_aload_n hx hb dX3_findsPush_90 rfl (lv_at hl 0 rfl) ?_
      refine lv_iload_n hx hb dX3_findsPush_91 rfl (lv_at hl 1 rfl) ?_
      obtain ⟨⟨σ_12, r_11⟩, h_10, hf⟩ := bd_e hf
      refine k_pushesBy X hW had h_10 (by decide) hl (Nat.le_of_ble_eq_true rfl) dX3_findsPush_92 (fun H locs hW => ?_)
      refine lv_istore (lv' := [(7, .int r_11), (0, .ref (ad 999)), (1, .int v1), (2, .int v2), (3, .int v3), (4, .int v4), (5, .int v5)]) hx hb dX3_findsPush_95 hl (by decide) rfl (fun ls hl => ?_)
      refine lv_aload_n hx hb dX3_findsPush_97 rfl (lv_at hl 1 rfl) ?_
      obtain ⟨σ_14, h_13, hf⟩ := bd_e hf
      refine k_laysBack X hW had h_13 (by decide) hl (Nat.le_of_ble_eq_true rfl) dX3_findsPush_98 (fun H locs hW => ?_)
      refine lv_iload hx hb dX3_findsPush_101 (lv_at hl 0 rfl) ?_
      refine lv_iconst (v := (-1)) hx hb dX3_findsPush_103 (by decide) ?_
      refine lv_icmp_eq (tgt := 132) hx hb dX3_findsPush_104 (by decide) (fun c_15 => ?_) (fun c_15 => ?_)
      · replace hf := ip hf c_15
        refine lv_iinc (v := (v5 + 1)) (lv' := [(5, .int (v5 + 1)), (7, .int r_11), (0, .ref (ad 999)), (1, .int v1), (2, .int v2), (3, .int v3), (4, .int v4)]) hx hb dX3_findsPush_132 hl (k := 6) rfl (ii_v _ _ _ (by decide)) (by decide) rfl (fun ls hl => ?_)
        refine lv_goto (tgt := 44) hx hb dX3_findsPush_135 (by decide) ?_
        exact ih _ _ _ _ _ _ hW (lv_sub hl [2, 3, 4, 5, 6, 0] rfl) hf
      · replace hf := ine hf c_15
        refine lv_iload_n hx hb dX3_findsPush_107 rfl (lv_at hl 3 rfl) ?_
        refine lv_iconst (v := (-1)) hx hb dX3_findsPush_108 (by decide) ?_
        refine lv_icmp_eq (tgt := 118) hx hb dX3_findsPush_109 (by decide) (fun c_16 => ?_) (fun c_16 => ?_)
        · replace hf := ip hf c_16
          refine lv_iload hx hb dX3_findsPush_118 (lv_at hl 0 rfl) ?_
          refine lv_istore_n (lv' := [(2, .int r_11), (7, .int r_11), (0, .ref (ad 999)), (1, .int v1), (3, .int v3), (4, .int v4), (5, .int v5)]) hx hb dX3_findsPush_120 rfl hl (by decide) rfl (fun ls hl => ?_)
          refine lv_aload_n hx hb dX3_findsPush_121 rfl (lv_at hl 2 rfl) ?_
          refine mg_54 X hW dX3_findsPush_122 ?_
          refine lv_aload_n hx hb dX3_findsPush_125 rfl (lv_at hl 2 rfl) ?_
          refine mg_55 X hW dX3_findsPush_126 ?_
          obtain ⟨σ_18, h_17, hf⟩ := bd_e hf
          refine k_copies X hW had m_54 rfl m_55 rfl h_17 (by decide) hl (Nat.le_of_ble_eq_true rfl) dX3_findsPush_129 (fun H locs hW => ?_)
          refine lv_iinc (v := (v5 + 1)) (lv' := [(5, .int (v5 + 1)), (2, .int r_11), (7, .int r_11), (0, .ref (ad 999)), (1, .int v1), (3, .int v3), (4, .int v4)]) hx hb dX3_findsPush_132 hl (k := 6) rfl (ii_v _ _ _ (by decide)) (by decide) rfl (fun ls hl => ?_)
          refine lv_goto (tgt := 44) hx hb dX3_findsPush_135 (by decide) ?_
          exact ih _ _ _ _ _ _ hW (lv_sub hl [3, 4, 1, 5, 6, 0] rfl) hf
        · replace hf := ine hf c_16
          refine lv_iload hx hb dX3_findsPush_112 (lv_at hl 0 rfl) ?_
          refine lv_iload_n hx hb dX3_findsPush_114 rfl (lv_at hl 3 rfl) ?_
          refine lv_icmp_ge (tgt := 132) hx hb dX3_findsPush_115 (by decide) (fun c_19 => ?_) (fun c_19 => ?_)
          · replace hf := ip hf c_19
            refine lv_iinc (v := (v5 + 1)) (lv' := [(5, .int (v5 + 1)), (7, .int r_11), (0, .ref (ad 999)), (1, .int v1), (2, .int v2), (3, .int v3), (4, .int v4)]) hx hb dX3_findsPush_132 hl (k := 6) rfl (ii_v _ _ _ (by decide)) (by decide) rfl (fun ls hl => ?_)
            refine lv_goto (tgt := 44) hx hb dX3_findsPush_135 (by decide) ?_
            exact ih _ _ _ _ _ _ hW (lv_sub hl [2, 3, 4, 5, 6, 0] rfl) hf
          · replace hf := ine hf c_19
            refine lv_iload hx hb dX3_findsPush_118 (lv_at hl 0 rfl) ?_
            refine lv_istore_n (lv' := [(2, .int r_11), (7, .int r_11), (0, .ref (ad 999)), (1, .int v1), (3, .int v3), (4, .int v4), (5, .int v5)]) hx hb dX3_findsPush_120 rfl hl (by decide) rfl (fun ls hl => ?_)
            refine lv_aload_n hx hb dX3_findsPush_121 rfl (lv_at hl 2 rfl) ?_
            refine mg_54 X hW dX3_findsPush_122 ?_
            refine lv_aload_n hx hb dX3_findsPush_125 rfl (lv_at hl 2 rfl) ?_
            refine mg_55 X hW dX3_findsPush_126 ?_
            obtain ⟨σ_21, h_20, hf⟩ := bd_e hf
            refine k_copies X hW had m_54 rfl m_55 rfl h_20 (by decide) hl (Nat.le_of_ble_eq_true rfl) dX3_findsPush_129 (fun H locs hW => ?_)
            refine lv_iinc (v := (v5 + 1)) (lv' := [(5, .int (v5 + 1)), (2, .int r_11), (7, .int r_11), (0, .ref (ad 999)), (1, .int v1), (3, .int v3), (4, .int v4)]) hx hb dX3_findsPush_132 hl (k := 6) rfl (ii_v _ _ _ (by decide)) (by decide) rfl (fun ls hl => ?_)
            refine lv_goto (tgt := 44) hx hb dX3_findsPush_135 (by decide) ?_
            exact ih _ _ _ _ _ _ hW (lv_sub hl [3, 4, 1, 5, 6, 0] rfl) hf
noncomputable def m_findsPush (σ : cS) (v1 : Int32) : Option (cS × Int32) :=
  m_findsPush_19 σ v1 (-1) ((2 * (σ.1 1 (ix 0))) + 1) (fun v_2 => (((m_keepsAll σ).bind fun σ_4 => m_findsPush_44 v1 ((2 * (σ.1 1 (ix 0))) + 1) v_2 (fun σ_22 v_23 => (some (σ_22, v_23))) FU σ_4 (-1) 0))) FU 1 0
set_option maxHeartbeats 4000000 in
theorem wb_findsPush {p : Program} {l : Launch} {e : Env} {s : State} {m : MethodId} {args : Array Value} {below : List Frame} {meth : Method} {c : Code} {g : gG} {A : Nat → Prop} {ad : Nat → Nat} (X : MX p s m args meth c cX3_findsPush 8 RX3 (some .int) g A) (had : mI ad) {σr : cS} {r : Int32} {σ : cS} {v1 : Int32}  {H : Heap} {locs : List Loc} {ls : Array Slot} (hW : WB g A s.heap mIds ad (mE g ad σ) H locs) (hl : lv_has ls 8 [(0, .ref (ad 999)), (1, .int v1)]) (hf : m_findsPush σ v1 = some (σr, r)) : W p l e (rm_ 9 202) s m args below meth c H locs 0 0 (Qm below g mIds ad (mE g ad σr) (some (.int r)) A args s) (F0 m 0 ls []) := by
  have hx := X.1.1
  have hb := X.1.2.1
  unfold m_findsPush at hf
  refine lv_iconst (v := (-1)) hx hb dX3_findsPush_0 (by decide) ?_
  refine lv_istore_n (lv' := [(2, .int (-1)), (0, .ref (ad 999)), (1, .int v1)]) hx hb dX3_findsPush_1 rfl hl (by decide) rfl (fun ls hl => ?_)
  refine lv_iconst (v := 2) hx hb dX3_findsPush_2 (by decide) ?_
  refine lv_aload_n hx hb dX3_findsPush_3 rfl (lv_at hl 1 rfl) ?_
  refine mg_1 X hW dX3_findsPush_4 ?_
  refine lv_iconst (v := 0) hx hb dX3_findsPush_7 (by decide) ?_
  refine ml_1 X hW (by decide) dX3_findsPush_8 ?_
  refine lv_imul hx hb dX3_findsPush_9 ?_
  refine lv_iconst (v := 1) hx hb dX3_findsPush_10 (by decide) ?_
  refine lv_iadd hx hb dX3_findsPush_11 ?_
  refine lv_istore_n (lv' := [(3, .int ((2 * (σ.1 1 (ix 0))) + 1)), (2, .int (-1)), (0, .ref (ad 999)), (1, .int v1)]) hx hb dX3_findsPush_12 rfl hl (by decide) rfl (fun ls hl => ?_)
  refine lv_iconst (v := 1) hx hb dX3_findsPush_13 (by decide) ?_
  refine lv_istore (lv' := [(4, .int 1), (3, .int ((2 * (σ.1 1 (ix 0))) + 1)), (2, .int (-1)), (0, .ref (ad 999)), (1, .int v1)]) hx hb dX3_findsPush_14 hl (by decide) rfl (fun ls hl => ?_)
  refine lv_iconst (v := 0) hx hb dX3_findsPush_16 (by decide) ?_
  refine lv_istore (lv' := [(5, .int 0), (4, .int 1), (3, .int ((2 * (σ.1 1 (ix 0))) + 1)), (2, .int (-1)), (0, .ref (ad 999)), (1, .int v1)]) hx hb dX3_findsPush_17 hl (by decide) rfl (fun ls hl => ?_)
  refine wm_findsPush_19 X had (fun v_2 H locs ls hW hl hf => ?_) _ _ _ _ _ _ hW (lv_sub hl [4, 5, 3, 2, 1, 0] rfl) hf
  refine lv_aload_n hx hb dX3_findsPush_37 rfl (lv_at hl 0 rfl) ?_
  obtain ⟨σ_4, h_3, hf⟩ := bd_e hf
  refine k_keepsAll X hW had h_3 (by decide) hl (Nat.le_of_ble_eq_true rfl) dX3_findsPush_38 (fun H locs hW => ?_)
  refine lv_iconst (v := 0) hx hb dX3_findsPush_41 (by decide) ?_
  refine lv_istore (lv' := [(5, .int 0), (0, .ref (ad 999)), (1, .int v1), (2, .int (-1)), (3, .int ((2 * (σ.1 1 (ix 0))) + 1)), (4, .int v_2)]) hx hb dX3_findsPush_42 hl (by decide) rfl (fun ls hl => ?_)
  refine wm_findsPush_44 X had (fun σ_22 v_23 H locs ls hW hl hf => ?_) _ _ _ _ _ _ _ hW (lv_sub hl [1, 2, 3, 4, 5, 0] rfl) hf
  refine lv_iload_n hx hb dX3_findsPush_138 rfl (lv_at hl 0 rfl) ?_
  exact m_iret X hW hf dX3_findsPush_139
theorem w_findsPush (l : Launch) {g : gG} {ad : Nat → Nat} (had : mI ad) {σr : cS} {r : Int32} {σ : cS} {v1 : Int32}  (hf : m_findsPush σ v1 = some (σr, r)) : MM l yX3_findsPush cX3_findsPush 8 (some .int) 9 202 g ad σ σr [.ref (ad 999), .int v1] (some (.int r)) :=
  MC.of (by decide) mIds_nd had (Nat.le_of_ble_eq_true rfl) (fun p e s m below meth c A ls X hW hl => wb_findsPush X had hW hl hf)
theorem k_findsPush {p : Program} {l : Launch} {e : Env} {R : Room} {s : State} {m : MethodId} {args : Array Value} {below : List Frame} {meth : Method} {c : Code} {H : Heap} {locs : List Loc} {Q : State → Prop} {cc : ByteArray} {nL : Nat} {ret : Option FieldType} {g : gG} {A : Nat → Prop} {ad : Nat → Nat} {pc : Nat} {ls : Array Slot} {rest : List Value} {lv : List (Nat × Value)} {σr : cS} {r : Int32} {σ : cS} {v1 : Int32} (X : MX p s m args meth c cc nL RX3 ret g A) (hW : WB g A s.heap mIds ad (mE g ad σ) H locs) (had : mI ad)  (hf : m_findsPush σ v1 = some (σr, r)) (hR : 10 ≤ R.frames ∧ 229 ≤ R.locals) (hl : lv_has ls nL lv) (hcat : (rest.map fun v => v.category).sum ≤ 8) (hdg : decode cc pc = .ok (.invokevirtual 500, 3)) (kk : ∀ (H1 : Heap) (l1 : List Loc), WB g A s.heap mIds ad (mE g ad σr) H1 l1 → W p l e R s m args below meth c H1 l1 0 0 Q (F0 m (pc + 3) ls (.int r :: rest))) : W p l e R s m args below meth c H locs 0 0 Q (F0 m pc ls (.int v1 :: .ref (ad 999) :: rest)) :=
  r_callV X hW Sub.all (w_findsPush l had hf) (lw_V q1720 q1722 qs105 q126 q1723) ⟨rfl, by decide, by decide, by decide +kernel⟩ m_999 mE_o rfl (n := 1) hR hl rfl rfl hcat ⟨Nat.zero_le _, Nat.zero_le _⟩ hdg kk
-- push
noncomputable def m_push (σ : cS) (v1 : Int32) (v2 : Int32) : Option (cS × Int32) :=
  ((m_isStrip σ).bind fun r_2 => if r_2 = 0 then (some (σ, (-3))) else (((m_in v1.toInt64 1 3).bind fun r_5 => if r_5 = 0 then (some (σ, (-3))) else (((m_in v2.toInt64 0 3).bind fun r_8 => if r_8 = 0 then (some (σ, (-3))) else (((m_findsPush σ v1).bind fun (σ_12, r_11) => if r_11 = (-1) then (some (σ_12, (-2))) else (if v2 = 0 then (some (σ_12, r_11)) else (if v1 < v2 then (some (σ_12, (-2))) else (gd (inb (v2 - 1) 3) (some (σ_12, (σ_12.1 55 (ix (v2 - 1)))))))))))))))
set_option maxHeartbeats 4000000 in
theorem wb_push {p : Program} {l : Launch} {e : Env} {s : State} {m : MethodId} {args : Array Value} {below : List Frame} {meth : Method} {c : Code} {g : gG} {A : Nat → Prop} {ad : Nat → Nat} (X : MX p s m args meth c cX3_push 4 RX3 (some .int) g A) (had : mI ad) {σr : cS} {r : Int32} {σ : cS} {v1 : Int32} {v2 : Int32}  {H : Heap} {locs : List Loc} {ls : Array Slot} (hW : WB g A s.heap mIds ad (mE g ad σ) H locs) (hl : lv_has ls 4 [(0, .ref (ad 999)), (1, .int v1), (2, .int v2)]) (hf : m_push σ v1 v2 = some (σr, r)) : W p l e (rm_ 10 229) s m args below meth c H locs 0 0 (Qm below g mIds ad (mE g ad σr) (some (.int r)) A args s) (F0 m 0 ls []) := by
  have hx := X.1.1
  have hb := X.1.2.1
  unfold m_push at hf
  refine lv_aload_n hx hb dX3_push_0 rfl (lv_at hl 0 rfl) ?_
  obtain ⟨r_2, h_1, hf⟩ := bd_e hf
  refine k_isStrip X hW had h_1 (by decide) hl (Nat.le_of_ble_eq_true rfl) dX3_push_1 (fun H locs hW => ?_)
  refine lv_if_eq (tgt := 31) hx hb dX3_push_4 (by decide) (fun c_3 => ?_) (fun c_3 => ?_)
  · replace hf := ip hf c_3
    refine lv_bipush (v := (-3)) hx hb dX3_push_31 (by decide) ?_
    exact m_iret X hW hf dX3_push_33
  · replace hf := ine hf c_3
    refine lv_iload_n hx hb dX3_push_7 rfl (lv_at hl 1 rfl) ?_
    refine lv_i2l (v := v1.toInt64) hx hb dX3_push_8 rfl ?_
    refine lv_lconst (v := 1) hx hb dX3_push_9 (by decide) ?_
    refine lv_ldc2 (v := 3) hx hb X.1.2.2.2.1 (X.1.2.2.2.2 _ q1660) dX3_push_10 ?_
    obtain ⟨r_5, h_4, hf⟩ := bd_e hf
    refine k_in X hW h_4 (by decide) hl (Nat.le_of_ble_eq_true rfl) dX3_push_13 (fun H locs hW => ?_)
    refine lv_if_eq (tgt := 31) hx hb dX3_push_16 (by decide) (fun c_6 => ?_) (fun c_6 => ?_)
    · replace hf := ip hf c_6
      refine lv_bipush (v := (-3)) hx hb dX3_push_31 (by decide) ?_
      exact m_iret X hW hf dX3_push_33
    · replace hf := ine hf c_6
      refine lv_iload_n hx hb dX3_push_19 rfl (lv_at hl 2 rfl) ?_
      refine lv_i2l (v := v2.toInt64) hx hb dX3_push_20 rfl ?_
      refine lv_lconst (v := 0) hx hb dX3_push_21 (by decide) ?_
      refine lv_ldc2 (v := 3) hx hb X.1.2.2.2.1 (X.1.2.2.2.2 _ q1660) dX3_push_22 ?_
      obtain ⟨r_8, h_7, hf⟩ := bd_e hf
      refine k_in X hW h_7 (by decide) hl (Nat.le_of_ble_eq_true rfl) dX3_push_25 (fun H locs hW => ?_)
      refine lv_if_ne (tgt := 34) hx hb dX3_push_28 (by decide) (fun c_9 => ?_) (fun c_9 => ?_)
      · replace hf := ine hf c_9
        refine lv_aload_n hx hb dX3_push_34 rfl (lv_at hl 0 rfl) ?_
        refine lv_iload_n hx hb dX3_push_35 rfl (lv_at hl 1 rfl) ?_
        obtain ⟨⟨σ_12, r_11⟩, h_10, hf⟩ := bd_e hf
        refine k_findsPush X hW had h_10 (by decide) hl (Nat.le_of_ble_eq_true rfl) dX3_push_36 (fun H locs hW => ?_)
        refine lv_istore_n (lv' := [(3, .int r_11), (0, .ref (ad 999)), (1, .int v1), (2, .int v2)]) hx hb dX3_push_39 rfl hl (by decide) rfl (fun ls hl => ?_)
        refine lv_iload_n hx hb dX3_push_40 rfl (lv_at hl 0 rfl) ?_
        refine lv_iconst (v := (-1)) hx hb dX3_push_41 (by decide) ?_
        refine lv_icmp_ne (tgt := 48) hx hb dX3_push_42 (by decide) (fun c_13 => ?_) (fun c_13 => ?_)
        · replace hf := ine hf c_13
          refine lv_iload_n hx hb dX3_push_48 rfl (lv_at hl 3 rfl) ?_
          refine lv_if_ne (tgt := 56) hx hb dX3_push_49 (by decide) (fun c_14 => ?_) (fun c_14 => ?_)
          · replace hf := ine hf c_14
            refine lv_iload_n hx hb dX3_push_56 rfl (lv_at hl 3 rfl) ?_
            refine lv_iload_n hx hb dX3_push_57 rfl (lv_at hl 2 rfl) ?_
            refine lv_icmp_gt (tgt := 72) hx hb dX3_push_58 (by decide) (fun c_15 => ?_) (fun c_15 => ?_)
            · replace hf := ip hf c_15
              refine lv_bipush (v := (-2)) hx hb dX3_push_72 (by decide) ?_
              exact m_iret X hW hf dX3_push_74
            · replace hf := ine hf c_15
              refine lv_aload_n hx hb dX3_push_61 rfl (lv_at hl 1 rfl) ?_
              refine mg_55 X hW dX3_push_62 ?_
              refine lv_iload_n hx hb dX3_push_65 rfl (lv_at hl 3 rfl) ?_
              refine lv_iconst (v := 1) hx hb dX3_push_66 (by decide) ?_
              refine lv_isub hx hb dX3_push_67 ?_
              obtain ⟨h_16, hf⟩ := gd_e hf
              refine ml_55 X hW h_16 dX3_push_68 ?_
              refine lv_goto (tgt := 74) hx hb dX3_push_69 (by decide) ?_
              exact m_iret X hW hf dX3_push_74
          · replace hf := ip hf c_14
            refine lv_iload_n hx hb dX3_push_52 rfl (lv_at hl 0 rfl) ?_
            refine lv_goto (tgt := 74) hx hb dX3_push_53 (by decide) ?_
            exact m_iret X hW hf dX3_push_74
        · replace hf := ip hf c_13
          refine lv_bipush (v := (-2)) hx hb dX3_push_45 (by decide) ?_
          exact m_iret X hW hf dX3_push_47
      · replace hf := ip hf c_9
        refine lv_bipush (v := (-3)) hx hb dX3_push_31 (by decide) ?_
        exact m_iret X hW hf dX3_push_33
theorem w_push (l : Launch) {g : gG} {ad : Nat → Nat} (had : mI ad) {σr : cS} {r : Int32} {σ : cS} {v1 : Int32} {v2 : Int32}  (hf : m_push σ v1 v2 = some (σr, r)) : MM l yX3_push cX3_push 4 (some .int) 10 229 g ad σ σr [.ref (ad 999), .int v1, .int v2] (some (.int r)) :=
  MC.of (by decide) mIds_nd had (Nat.le_of_ble_eq_true rfl) (fun p e s m below meth c A ls X hW hl => wb_push X had hW hl hf)
-- movesDuke
noncomputable def m_movesDuke_8 {ρ : Type} (v2 : Int32) (v3 : Int32) (K : cS → Option ρ) : Nat → cS → Int32 → Option ρ
  | 0, _, _ => none
  | n + 1, σ, v4 => if 10 ≤ v4 then (K σ) else (if v2 = 0 then (gd (inb v4 10) (gd (inb (v3 + v4) 84) (nmb (si σ 56 (ix (v3 + v4)) (σ.1 2 (ix v4))) fun σ_5 => (gd (inb ((v3 + 10) + v4) 84) (m_movesDuke_8 v2 v3 K n (si σ_5 56 (ix ((v3 + 10) + v4)) ((si σ 56 (ix (v3 + v4)) (σ.1 2 (ix v4))).1 3 (ix v4))) (v4 + 1)))))) else (gd (inb (v3 + v4) 84) (gd (inb v4 10) (gd (inb ((v3 + 10) + v4) 84) (nmb (si σ 2 (ix v4) (σ.1 56 (ix (v3 + v4)))) fun σ_11 => (m_movesDuke_8 v2 v3 K n (si σ_11 3 (ix v4) ((si σ 2 (ix v4) (σ.1 56 (ix (v3 + v4)))).1 56 (ix ((v3 + 10) + v4)))) (v4 + 1)))))))
set_option maxHeartbeats 4000000 in
theorem wm_movesDuke_8 {p : Program} {l : Launch} {e : Env} {s : State} {m : MethodId} {args : Array Value} {below : List Frame} {meth : Method} {c : Code} {g : gG} {A : Nat → Prop} {ad : Nat → Nat} (X : MX p s m args meth c cX3_movesDuke 5 RX3 none g A) (had : mI ad) {ρ : Type} {res : ρ} {Q : State → Prop} {v2 : Int32} {v3 : Int32}  {K : cS → Option ρ}
    (hK : ∀ (σ : cS) (H : Heap) (locs : List Loc) (ls : Array Slot), WB g A s.heap mIds ad (mE g ad σ) H locs → lv_has ls 5 [(0, .ref (ad 999)), (2, .int v2), (3, .int v3)] → K σ = some res → W p l e (rm_ 1 20) s m args below meth c H locs 0 0 Q (F0 m 98 ls [])) :
    ∀ (n : Nat) (σ : cS) (v4 : Int32) (H : Heap) (locs : List Loc) (ls : Array Slot), WB g A s.heap mIds ad (mE g ad σ) H locs → lv_has ls 5 [(0, .ref (ad 999)), (2, .int v2), (3, .int v3), (4, .int v4)] → m_movesDuke_8 v2 v3 K n σ v4 = some res → W p l e (rm_ 1 20) s m args below meth c H locs 0 0 Q (F0 m 8 ls []) := by
  have hx := X.1.1
  have hb := X.1.2.1
  intro n
  induction n with
  | zero =>
    intro σ v4 H locs ls hW hl hf
    rw [m_movesDuke_8] at hf
    cases hf
  | succ n ih =>
    intro σ v4 H locs ls hW hl hf
    rw [m_movesDuke_8] at hf
    refine lv_iload hx hb dX3_movesDuke_8 (lv_at hl 3 rfl) ?_
    refine lv_bipush (v := 10) hx hb dX3_movesDuke_10 (by decide) ?_
    refine lv_icmp_ge (tgt := 98) hx hb dX3_movesDuke_12 (by decide) (fun c_1 => ?_) (fun c_1 => ?_)
    · replace hf := ip hf c_1
      exact hK _ _ _ _ hW (lv_sub hl [0, 1, 2] rfl) hf
    · replace hf := ine hf c_1
      refine lv_iload_n hx hb dX3_movesDuke_15 rfl (lv_at hl 1 rfl) ?_
      refine lv_if_eq (tgt := 57) hx hb dX3_movesDuke_16 (by decide) (fun c_2 => ?_) (fun c_2 => ?_)
      · replace hf := ip hf c_2
        refine lv_aload_n hx hb dX3_movesDuke_57 rfl (lv_at hl 0 rfl) ?_
        refine mg_56 X hW dX3_movesDuke_58 ?_
        refine lv_iload_n hx hb dX3_movesDuke_61 rfl (lv_at hl 2 rfl) ?_
        refine lv_iload hx hb dX3_movesDuke_62 (lv_at hl 3 rfl) ?_
        refine lv_iadd hx hb dX3_movesDuke_64 ?_
        refine lv_aload_n hx hb dX3_movesDuke_65 rfl (lv_at hl 0 rfl) ?_
        refine mg_2 X hW dX3_movesDuke_66 ?_
        refine lv_iload hx hb dX3_movesDuke_69 (lv_at hl 3 rfl) ?_
        obtain ⟨h_3, hf⟩ := gd_e hf
        refine ml_2 X hW h_3 dX3_movesDuke_71 ?_
        obtain ⟨h_4, hf⟩ := gd_e hf
        refine ms_56 X hW h_4 dX3_movesDuke_72 (fun H locs hW => ?_)
        refine lv_aload_n hx hb dX3_movesDuke_73 rfl (lv_at hl 0 rfl) ?_
        refine mg_56 X hW dX3_movesDuke_74 ?_
        refine lv_iload_n hx hb dX3_movesDuke_77 rfl (lv_at hl 2 rfl) ?_
        refine lv_bipush (v := 10) hx hb dX3_movesDuke_78 (by decide) ?_
        refine lv_iadd hx hb dX3_movesDuke_80 ?_
        refine lv_iload hx hb dX3_movesDuke_81 (lv_at hl 3 rfl) ?_
        refine lv_iadd hx hb dX3_movesDuke_83 ?_
        refine lv_aload_n hx hb dX3_movesDuke_84 rfl (lv_at hl 0 rfl) ?_
        refine mg_3 X hW dX3_movesDuke_85 ?_
        refine lv_iload hx hb dX3_movesDuke_88 (lv_at hl 3 rfl) ?_
        refine ml_3 X hW h_3 dX3_movesDuke_90 ?_
        obtain ⟨σ_5, e_6, hf⟩ := nmb_e hf
        rw [← e_6] at hW
        clear e_6
        obtain ⟨h_7, hf⟩ := gd_e hf
        refine ms_56 X hW h_7 dX3_movesDuke_91 (fun H locs hW => ?_)
        refine lv_iinc (v := (v4 + 1)) (lv' := [(4, .int (v4 + 1)), (0, .ref (ad 999)), (2, .int v2), (3, .int v3)]) hx hb dX3_movesDuke_92 hl (k := 3) rfl (ii_v _ _ _ (by decide)) (by decide) rfl (fun ls hl => ?_)
        refine lv_goto (tgt := 8) hx hb dX3_movesDuke_95 (by decide) ?_
        exact ih _ _ _ _ _ hW (lv_sub hl [1, 2, 3, 0] rfl) hf
      · replace hf := ine hf c_2
        refine lv_aload_n hx hb dX3_movesDuke_19 rfl (lv_at hl 0 rfl) ?_
        refine mg_2 X hW dX3_movesDuke_20 ?_
        refine lv_iload hx hb dX3_movesDuke_23 (lv_at hl 3 rfl) ?_
        refine lv_aload_n hx hb dX3_movesDuke_25 rfl (lv_at hl 0 rfl) ?_
        refine mg_56 X hW dX3_movesDuke_26 ?_
        refine lv_iload_n hx hb dX3_movesDuke_29 rfl (lv_at hl 2 rfl) ?_
        refine lv_iload hx hb dX3_movesDuke_30 (lv_at hl 3 rfl) ?_
        refine lv_iadd hx hb dX3_movesDuke_32 ?_
        obtain ⟨h_8, hf⟩ := gd_e hf
        refine ml_56 X hW h_8 dX3_movesDuke_33 ?_
        obtain ⟨h_9, hf⟩ := gd_e hf
        refine ms_2 X hW h_9 dX3_movesDuke_34 (fun H locs hW => ?_)
        refine lv_aload_n hx hb dX3_movesDuke_35 rfl (lv_at hl 0 rfl) ?_
        refine mg_3 X hW dX3_movesDuke_36 ?_
        refine lv_iload hx hb dX3_movesDuke_39 (lv_at hl 3 rfl) ?_
        refine lv_aload_n hx hb dX3_movesDuke_41 rfl (lv_at hl 0 rfl) ?_
        refine mg_56 X hW dX3_movesDuke_42 ?_
        refine lv_iload_n hx hb dX3_movesDuke_45 rfl (lv_at hl 2 rfl) ?_
        refine lv_bipush (v := 10) hx hb dX3_movesDuke_46 (by decide) ?_
        refine lv_iadd hx hb dX3_movesDuke_48 ?_
        refine lv_iload hx hb dX3_movesDuke_49 (lv_at hl 3 rfl) ?_
        refine lv_iadd hx hb dX3_movesDuke_51 ?_
        obtain ⟨h_10, hf⟩ := gd_e hf
        refine ml_56 X hW h_10 dX3_movesDuke_52 ?_
        obtain ⟨σ_11, e_12, hf⟩ := nmb_e hf
        rw [← e_12] at hW
        clear e_12
        refine ms_3 X hW h_9 dX3_movesDuke_53 (fun H locs hW => ?_)
        refine lv_goto (tgt := 92) hx hb dX3_movesDuke_54 (by decide) ?_
        refine lv_iinc (v := (v4 + 1)) (lv' := [(4, .int (v4 + 1)), (0, .ref (ad 999)), (2, .int v2), (3, .int v3)]) hx hb dX3_movesDuke_92 hl (k := 3) rfl (ii_v _ _ _ (by decide)) (by decide) rfl (fun ls hl => ?_)
        refine lv_goto (tgt := 8) hx hb dX3_movesDuke_95 (by decide) ?_
        exact ih _ _ _ _ _ hW (lv_sub hl [1, 2, 3, 0] rfl) hf
noncomputable def m_movesDuke (σ : cS) (v1 : Int32) (v2 : Int32) : Option (cS) :=
  m_movesDuke_8 v2 (21 * v1) (fun σ_13 => (if v2 = 0 then (gd (inb ((21 * v1) + 20) 84) (some (si σ_13 56 (ix ((21 * v1) + 20)) (σ_13.1 1 (ix 5))))) else (gd (inb ((21 * v1) + 20) 84) (some (si σ_13 1 (ix 5) (σ_13.1 56 (ix ((21 * v1) + 20)))))))) FU σ 0
set_option maxHeartbeats 4000000 in
theorem wb_movesDuke {p : Program} {l : Launch} {e : Env} {s : State} {m : MethodId} {args : Array Value} {below : List Frame} {meth : Method} {c : Code} {g : gG} {A : Nat → Prop} {ad : Nat → Nat} (X : MX p s m args meth c cX3_movesDuke 5 RX3 none g A) (had : mI ad) {σr : cS}  {σ : cS} {v1 : Int32} {v2 : Int32}  {H : Heap} {locs : List Loc} {ls : Array Slot} (hW : WB g A s.heap mIds ad (mE g ad σ) H locs) (hl : lv_has ls 5 [(0, .ref (ad 999)), (1, .int v1), (2, .int v2)]) (hf : m_movesDuke σ v1 v2 = some σr) : W p l e (rm_ 1 20) s m args below meth c H locs 0 0 (Qm below g mIds ad (mE g ad σr) none A args s) (F0 m 0 ls []) := by
  have hx := X.1.1
  have hb := X.1.2.1
  unfold m_movesDuke at hf
  refine lv_bipush (v := 21) hx hb dX3_movesDuke_0 (by decide) ?_
  refine lv_iload_n hx hb dX3_movesDuke_2 rfl (lv_at hl 1 rfl) ?_
  refine lv_imul hx hb dX3_movesDuke_3 ?_
  refine lv_istore_n (lv' := [(3, .int (21 * v1)), (0, .ref (ad 999)), (1, .int v1), (2, .int v2)]) hx hb dX3_movesDuke_4 rfl hl (by decide) rfl (fun ls hl => ?_)
  refine lv_iconst (v := 0) hx hb dX3_movesDuke_5 (by decide) ?_
  refine lv_istore (lv' := [(4, .int 0), (3, .int (21 * v1)), (0, .ref (ad 999)), (1, .int v1), (2, .int v2)]) hx hb dX3_movesDuke_6 hl (by decide) rfl (fun ls hl => ?_)
  refine wm_movesDuke_8 X had (fun σ_13 H locs ls hW hl hf => ?_) _ _ _ _ _ _ hW (lv_sub hl [2, 4, 1, 0] rfl) hf
  refine lv_iload_n hx hb dX3_movesDuke_98 rfl (lv_at hl 1 rfl) ?_
  refine lv_if_eq (tgt := 120) hx hb dX3_movesDuke_99 (by decide) (fun c_14 => ?_) (fun c_14 => ?_)
  · replace hf := ip hf c_14
    refine lv_aload_n hx hb dX3_movesDuke_120 rfl (lv_at hl 0 rfl) ?_
    refine mg_56 X hW dX3_movesDuke_121 ?_
    refine lv_iload_n hx hb dX3_movesDuke_124 rfl (lv_at hl 2 rfl) ?_
    refine lv_bipush (v := 20) hx hb dX3_movesDuke_125 (by decide) ?_
    refine lv_iadd hx hb dX3_movesDuke_127 ?_
    refine lv_aload_n hx hb dX3_movesDuke_128 rfl (lv_at hl 0 rfl) ?_
    refine mg_1 X hW dX3_movesDuke_129 ?_
    refine lv_iconst (v := 5) hx hb dX3_movesDuke_132 (by decide) ?_
    refine ml_1 X hW (by decide) dX3_movesDuke_133 ?_
    obtain ⟨h_15, hf⟩ := gd_e hf
    refine ms_56 X hW h_15 dX3_movesDuke_134 (fun H locs hW => ?_)
    exact m_vret X hW hf dX3_movesDuke_135
  · replace hf := ine hf c_14
    refine lv_aload_n hx hb dX3_movesDuke_102 rfl (lv_at hl 0 rfl) ?_
    refine mg_1 X hW dX3_movesDuke_103 ?_
    refine lv_iconst (v := 5) hx hb dX3_movesDuke_106 (by decide) ?_
    refine lv_aload_n hx hb dX3_movesDuke_107 rfl (lv_at hl 0 rfl) ?_
    refine mg_56 X hW dX3_movesDuke_108 ?_
    refine lv_iload_n hx hb dX3_movesDuke_111 rfl (lv_at hl 2 rfl) ?_
    refine lv_bipush (v := 20) hx hb dX3_movesDuke_112 (by decide) ?_
    refine lv_iadd hx hb dX3_movesDuke_114 ?_
    obtain ⟨h_16, hf⟩ := gd_e hf
    refine ml_56 X hW h_16 dX3_movesDuke_115 ?_
    refine ms_1 X hW (by decide) dX3_movesDuke_116 (fun H locs hW => ?_)
    refine lv_goto (tgt := 135) hx hb dX3_movesDuke_117 (by decide) ?_
    exact m_vret X hW hf dX3_movesDuke_135
theorem w_movesDuke (l : Launch) {g : gG} {ad : Nat → Nat} (had : mI ad) {σr : cS}  {σ : cS} {v1 : Int32} {v2 : Int32}  (hf : m_movesDuke σ v1 v2 = some σr) : MM l yX3_movesDuke cX3_movesDuke 5 none 1 20 g ad σ σr [.ref (ad 999), .int v1, .int v2] none :=
  MC.of (by decide) mIds_nd had (Nat.le_of_ble_eq_true rfl) (fun p e s m below meth c A ls X hW hl => wb_movesDuke X had hW hl hf)
theorem k_movesDuke {p : Program} {l : Launch} {e : Env} {R : Room} {s : State} {m : MethodId} {args : Array Value} {below : List Frame} {meth : Method} {c : Code} {H : Heap} {locs : List Loc} {Q : State → Prop} {cc : ByteArray} {nL : Nat} {ret : Option FieldType} {g : gG} {A : Nat → Prop} {ad : Nat → Nat} {pc : Nat} {ls : Array Slot} {rest : List Value} {lv : List (Nat × Value)} {σr : cS}  {σ : cS} {v1 : Int32} {v2 : Int32} (X : MX p s m args meth c cc nL RX3 ret g A) (hW : WB g A s.heap mIds ad (mE g ad σ) H locs) (had : mI ad)  (hf : m_movesDuke σ v1 v2 = some σr) (hR : 2 ≤ R.frames ∧ 44 ≤ R.locals) (hl : lv_has ls nL lv) (hcat : (rest.map fun v => v.category).sum ≤ 8) (hdg : decode cc pc = .ok (.invokevirtual 506, 3)) (kk : ∀ (H1 : Heap) (l1 : List Loc), WB g A s.heap mIds ad (mE g ad σr) H1 l1 → W p l e R s m args below meth c H1 l1 0 0 Q (F0 m (pc + 3) ls (rest))) : W p l e R s m args below meth c H locs 0 0 Q (F0 m pc ls (.int v2 :: .int v1 :: .ref (ad 999) :: rest)) :=
  r_callV X hW Sub.all (w_movesDuke l had hf) (lw_V q1740 q1742 qs109 q126 q1743) ⟨rfl, by decide, by decide, by decide +kernel⟩ m_999 mE_o rfl (n := 2) hR hl rfl rfl hcat ⟨Nat.zero_le _, Nat.zero_le _⟩ hdg kk
-- bits
noncomputable def m_bits_4 {ρ : Type} (v0 : Int32) (K : Int32 → Option ρ) : Nat → Int32 → Int32 → Option ρ
  | 0, _, _ => none
  | n + 1, v1, v2 => if 16 ≤ v2 then (K v1) else (m_bits_4 v0 K n (v1 + ((v0 >>> (v2 &&& 31)) &&& 1)) (v2 + 1))
set_option maxHeartbeats 4000000 in
theorem wm_bits_4 {p : Program} {l : Launch} {e : Env} {s : State} {m : MethodId} {args : Array Value} {below : List Frame} {meth : Method} {c : Code} {g : gG} {A : Nat → Prop} (X : MX p s m args meth c cX3_bits 3 RX3 (some .int) g A)  {ρ : Type} {res : ρ} {Q : State → Prop} {v0 : Int32}  {K : Int32 → Option ρ}
    (hK : ∀ (k1 : Int32) (H : Heap) (locs : List Loc) (ls : Array Slot), WB g A s.heap [] ad0 E0 H locs → lv_has ls 3 [(1, .int k1)] → K k1 = some res → W p l e (rm_ 1 20) s m args below meth c H locs 0 0 Q (F0 m 24 ls [])) :
    ∀ (n : Nat) (v1 : Int32) (v2 : Int32) (H : Heap) (locs : List Loc) (ls : Array Slot), WB g A s.heap [] ad0 E0 H locs → lv_has ls 3 [(0, .int v0), (1, .int v1), (2, .int v2)] → m_bits_4 v0 K n v1 v2 = some res → W p l e (rm_ 1 20) s m args below meth c H locs 0 0 Q (F0 m 4 ls []) := by
  have hx := X.1.1
  have hb := X.1.2.1
  intro n
  induction n with
  | zero =>
    intro v1 v2 H locs ls hW hl hf
    rw [m_bits_4] at hf
    cases hf
  | succ n ih =>
    intro v1 v2 H locs ls hW hl hf
    rw [m_bits_4] at hf
    refine lv_iload_n hx hb dX3_bits_4 rfl (lv_at hl 2 rfl) ?_
    refine lv_bipush (v := 16) hx hb dX3_bits_5 (by decide) ?_
    refine lv_icmp_ge (tgt := 24) hx hb dX3_bits_7 (by decide) (fun c_1 => ?_) (fun c_1 => ?_)
    · replace hf := ip hf c_1
      exact hK _ _ _ _ hW (lv_sub hl [1] rfl) hf
    · replace hf := ine hf c_1
      refine lv_iload_n hx hb dX3_bits_10 rfl (lv_at hl 1 rfl) ?_
      refine lv_iload_n hx hb dX3_bits_11 rfl (lv_at hl 0 rfl) ?_
      refine lv_iload_n hx hb dX3_bits_12 rfl (lv_at hl 2 rfl) ?_
      refine lv_ishr hx hb dX3_bits_13 ?_
      refine lv_iconst (v := 1) hx hb dX3_bits_14 (by decide) ?_
      refine lv_iand hx hb dX3_bits_15 ?_
      refine lv_iadd hx hb dX3_bits_16 ?_
      refine lv_istore_n (lv' := [(1, .int (v1 + ((v0 >>> (v2 &&& 31)) &&& 1))), (0, .int v0), (2, .int v2)]) hx hb dX3_bits_17 rfl hl (by decide) rfl (fun ls hl => ?_)
      refine lv_iinc (v := (v2 + 1)) (lv' := [(2, .int (v2 + 1)), (1, .int (v1 + ((v0 >>> (v2 &&& 31)) &&& 1))), (0, .int v0)]) hx hb dX3_bits_18 hl (k := 2) rfl (ii_v _ _ _ (by decide)) (by decide) rfl (fun ls hl => ?_)
      refine lv_goto (tgt := 4) hx hb dX3_bits_21 (by decide) ?_
      exact ih _ _ _ _ _ hW (lv_sub hl [2, 1, 0] rfl) hf
noncomputable def m_bits (v0 : Int32) : Option (Int32) :=
  m_bits_4 v0 (fun v_2 => (some v_2)) FU 0 0
set_option maxHeartbeats 4000000 in
theorem wb_bits {p : Program} {l : Launch} {e : Env} {s : State} {m : MethodId} {args : Array Value} {below : List Frame} {meth : Method} {c : Code} {g : gG} {A : Nat → Prop} (X : MX p s m args meth c cX3_bits 3 RX3 (some .int) g A)  {r : Int32} {v0 : Int32}  {H : Heap} {locs : List Loc} {ls : Array Slot} (hW : WB g A s.heap [] ad0 E0 H locs) (hl : lv_has ls 3 [(0, .int v0)]) (hf : m_bits v0 = some r) : W p l e (rm_ 1 20) s m args below meth c H locs 0 0 (Qm below g [] ad0 E0 (some (.int r)) A args s) (F0 m 0 ls []) := by
  have hx := X.1.1
  have hb := X.1.2.1
  unfold m_bits at hf
  refine lv_iconst (v := 0) hx hb dX3_bits_0 (by decide) ?_
  refine lv_istore_n (lv' := [(1, .int 0), (0, .int v0)]) hx hb dX3_bits_1 rfl hl (by decide) rfl (fun ls hl => ?_)
  refine lv_iconst (v := 0) hx hb dX3_bits_2 (by decide) ?_
  refine lv_istore_n (lv' := [(2, .int 0), (1, .int 0), (0, .int v0)]) hx hb dX3_bits_3 rfl hl (by decide) rfl (fun ls hl => ?_)
  refine wm_bits_4 X (fun v_2 H locs ls hW hl hf => ?_) _ _ _ _ _ _ hW (lv_sub hl [2, 1, 0] rfl) hf
  refine lv_iload_n hx hb dX3_bits_24 rfl (lv_at hl 0 rfl) ?_
  exact p_iret X hW hf dX3_bits_25
theorem w_bits (l : Launch) {g : gG} {r : Int32} {v0 : Int32}  (hf : m_bits v0 = some r) : MS l yX3_bits cX3_bits 3 (some .int) 1 20 g [.int v0] (some (.int r)) :=
  MC.of (by decide) List.nodup_nil wI_nil (Nat.le_of_ble_eq_true rfl) (fun p e s m below meth c A ls X hW hl => wb_bits X hW hl hf)
theorem k_bits {p : Program} {l : Launch} {e : Env} {R : Room} {s : State} {m : MethodId} {args : Array Value} {below : List Frame} {meth : Method} {c : Code} {H : Heap} {locs : List Loc} {Q : State → Prop} {cc : ByteArray} {nL : Nat} {ret : Option FieldType} {g : gG} {A : Nat → Prop} {ad : Nat → Nat} {ids : List Nat} {E : Nat → va_E} {pc : Nat} {ls : Array Slot} {rest : List Value} {lv : List (Nat × Value)} {r : Int32} {v0 : Int32} (X : MX p s m args meth c cc nL RX3 ret g A) (hW : WB g A s.heap ids ad E H locs)  (hf : m_bits v0 = some r) (hR : 2 ≤ R.frames ∧ 42 ≤ R.locals) (hl : lv_has ls nL lv) (hcat : (rest.map fun v => v.category).sum ≤ 8) (hdg : decode cc pc = .ok (.invokestatic 503, 3)) (kk : ∀ (H1 : Heap) (l1 : List Loc), WB g A s.heap ids ad E H1 l1 → W p l e R s m args below meth c H1 l1 0 0 Q (F0 m (pc + 3) ls (.int r :: rest))) : W p l e R s m args below meth c H locs 0 0 Q (F0 m pc ls (.int v0 :: rest)) :=
  r_callS X hW Sub.nil (w_bits l hf) (lw_S q1748 q1749 q126 q1750) ⟨by decide, by decide, by decide +kernel⟩ (n := 1) hR hl rfl rfl hcat ⟨Nat.zero_le _, Nat.zero_le _⟩ hdg kk
-- westLessEast
noncomputable def m_westLessEast (σ : cS) : Option (Int32) :=
  ((m_villagesOn σ 0).bind fun r_2 => ((m_bits r_2).bind fun r_4 => ((m_villagesOn σ 1).bind fun r_6 => ((m_bits r_6).bind fun r_8 => some (r_4 - r_8)))))
set_option maxHeartbeats 4000000 in
theorem wb_westLessEast {p : Program} {l : Launch} {e : Env} {s : State} {m : MethodId} {args : Array Value} {below : List Frame} {meth : Method} {c : Code} {g : gG} {A : Nat → Prop} {ad : Nat → Nat} (X : MX p s m args meth c cX3_westLessEast 1 RX3 (some .int) g A) (had : mI ad) {r : Int32} {σ : cS}  {H : Heap} {locs : List Loc} {ls : Array Slot} (hW : WB g A s.heap mIds ad (mE g ad σ) H locs) (hl : lv_has ls 1 [(0, .ref (ad 999))]) (hf : m_westLessEast σ = some r) : W p l e (rm_ 3 65) s m args below meth c H locs 0 0 (Qm below g mIds ad (mE g ad σ) (some (.int r)) A args s) (F0 m 0 ls []) := by
  have hx := X.1.1
  have hb := X.1.2.1
  unfold m_westLessEast at hf
  refine lv_aload_n hx hb dX3_westLessEast_0 rfl (lv_at hl 0 rfl) ?_
  refine lv_iconst (v := 0) hx hb dX3_westLessEast_1 (by decide) ?_
  obtain ⟨r_2, h_1, hf⟩ := bd_e hf
  refine k_villagesOn X hW had h_1 (by decide) hl (Nat.le_of_ble_eq_true rfl) dX3_westLessEast_2 (fun H locs hW => ?_)
  obtain ⟨r_4, h_3, hf⟩ := bd_e hf
  refine k_bits X hW h_3 (by decide) hl (Nat.le_of_ble_eq_true rfl) dX3_westLessEast_5 (fun H locs hW => ?_)
  refine lv_aload_n hx hb dX3_westLessEast_8 rfl (lv_at hl 0 rfl) ?_
  refine lv_iconst (v := 1) hx hb dX3_westLessEast_9 (by decide) ?_
  obtain ⟨r_6, h_5, hf⟩ := bd_e hf
  refine k_villagesOn X hW had h_5 (by decide) hl (Nat.le_of_ble_eq_true rfl) dX3_westLessEast_10 (fun H locs hW => ?_)
  obtain ⟨r_8, h_7, hf⟩ := bd_e hf
  refine k_bits X hW h_7 (by decide) hl (Nat.le_of_ble_eq_true rfl) dX3_westLessEast_13 (fun H locs hW => ?_)
  refine lv_isub hx hb dX3_westLessEast_16 ?_
  exact p_iret X hW hf dX3_westLessEast_17
theorem w_westLessEast (l : Launch) {g : gG} {ad : Nat → Nat} (had : mI ad) {r : Int32} {σ : cS}  (hf : m_westLessEast σ = some r) : MM l yX3_westLessEast cX3_westLessEast 1 (some .int) 3 65 g ad σ σ [.ref (ad 999)] (some (.int r)) :=
  MC.of (by decide) mIds_nd had (Nat.le_of_ble_eq_true rfl) (fun p e s m below meth c A ls X hW hl => wb_westLessEast X had hW hl hf)
theorem k_westLessEast {p : Program} {l : Launch} {e : Env} {R : Room} {s : State} {m : MethodId} {args : Array Value} {below : List Frame} {meth : Method} {c : Code} {H : Heap} {locs : List Loc} {Q : State → Prop} {cc : ByteArray} {nL : Nat} {ret : Option FieldType} {g : gG} {A : Nat → Prop} {ad : Nat → Nat} {pc : Nat} {ls : Array Slot} {rest : List Value} {lv : List (Nat × Value)} {r : Int32} {σ : cS} (X : MX p s m args meth c cc nL RX3 ret g A) (hW : WB g A s.heap mIds ad (mE g ad σ) H locs) (had : mI ad)  (hf : m_westLessEast σ = some r) (hR : 4 ≤ R.frames ∧ 85 ≤ R.locals) (hl : lv_has ls nL lv) (hcat : (rest.map fun v => v.category).sum ≤ 8) (hdg : decode cc pc = .ok (.invokevirtual 512, 3)) (kk : ∀ (H1 : Heap) (l1 : List Loc), WB g A s.heap mIds ad (mE g ad σ) H1 l1 → W p l e R s m args below meth c H1 l1 0 0 Q (F0 m (pc + 3) ls (.int r :: rest))) : W p l e R s m args below meth c H locs 0 0 Q (F0 m pc ls (.ref (ad 999) :: rest)) :=
  r_callV X hW Sub.all (w_westLessEast l had hf) (lw_V q1744 q1746 qs110 q126 q1747) ⟨rfl, by decide, by decide, by decide +kernel⟩ m_999 mE_o rfl (n := 0) hR hl rfl rfl hcat ⟨Nat.zero_le _, Nat.zero_le _⟩ hdg kk
-- isBetter
noncomputable def m_isBetter (v0 : Int32) (v1 : Int32) (v2 : Int32) : Option (Int32) :=
  if v1 = 1000 then (some 1) else (if (v2 - v2 / 2 * 2) = 0 then (if v0 ≤ v1 then (some 0) else (some 1)) else (if v1 ≤ v0 then (some 0) else (some 1)))
set_option maxHeartbeats 4000000 in
theorem wb_isBetter {p : Program} {l : Launch} {e : Env} {s : State} {m : MethodId} {args : Array Value} {below : List Frame} {meth : Method} {c : Code} {g : gG} {A : Nat → Prop} (X : MX p s m args meth c cX3_isBetter 3 RX3 (some .boolean) g A)  {r : Int32} {v0 : Int32} {v1 : Int32} {v2 : Int32}  {H : Heap} {locs : List Loc} {ls : Array Slot} (hW : WB g A s.heap [] ad0 E0 H locs) (hl : lv_has ls 3 [(0, .int v0), (1, .int v1), (2, .int v2)]) (hf : m_isBetter v0 v1 v2 = some r) : W p l e (rm_ 1 20) s m args below meth c H locs 0 0 (Qm below g [] ad0 E0 (some (.int r)) A args s) (F0 m 0 ls []) := by
  have hx := X.1.1
  have hb := X.1.2.1
  unfold m_isBetter at hf
  refine lv_iload_n hx hb dX3_isBetter_0 rfl (lv_at hl 1 rfl) ?_
  refine lv_sipush (v := 1000) hx hb dX3_isBetter_1 (by decide) ?_
  refine lv_icmp_eq (tgt := 26) hx hb dX3_isBetter_4 (by decide) (fun c_1 => ?_) (fun c_1 => ?_)
  · replace hf := ip hf c_1
    refine lv_iconst (v := 1) hx hb dX3_isBetter_26 (by decide) ?_
    refine lv_goto (tgt := 31) hx hb dX3_isBetter_27 (by decide) ?_
    exact p_zret X hW hf (by decide) dX3_isBetter_31
  · replace hf := ine hf c_1
    refine lv_iload_n hx hb dX3_isBetter_7 rfl (lv_at hl 2 rfl) ?_
    refine lv_iconst (v := 2) hx hb dX3_isBetter_8 (by decide) ?_
    refine lv_irem hx hb dX3_isBetter_9 (by decide) ?_
    refine lv_if_ne (tgt := 21) hx hb dX3_isBetter_10 (by decide) (fun c_2 => ?_) (fun c_2 => ?_)
    · replace hf := ine hf c_2
      refine lv_iload_n hx hb dX3_isBetter_21 rfl (lv_at hl 0 rfl) ?_
      refine lv_iload_n hx hb dX3_isBetter_22 rfl (lv_at hl 1 rfl) ?_
      refine lv_icmp_ge (tgt := 30) hx hb dX3_isBetter_23 (by decide) (fun c_3 => ?_) (fun c_3 => ?_)
      · replace hf := ip hf c_3
        refine lv_iconst (v := 0) hx hb dX3_isBetter_30 (by decide) ?_
        exact p_zret X hW hf (by decide) dX3_isBetter_31
      · replace hf := ine hf c_3
        refine lv_iconst (v := 1) hx hb dX3_isBetter_26 (by decide) ?_
        refine lv_goto (tgt := 31) hx hb dX3_isBetter_27 (by decide) ?_
        exact p_zret X hW hf (by decide) dX3_isBetter_31
    · replace hf := ip hf c_2
      refine lv_iload_n hx hb dX3_isBetter_13 rfl (lv_at hl 0 rfl) ?_
      refine lv_iload_n hx hb dX3_isBetter_14 rfl (lv_at hl 1 rfl) ?_
      refine lv_icmp_le (tgt := 30) hx hb dX3_isBetter_15 (by decide) (fun c_4 => ?_) (fun c_4 => ?_)
      · replace hf := ip hf c_4
        refine lv_iconst (v := 0) hx hb dX3_isBetter_30 (by decide) ?_
        exact p_zret X hW hf (by decide) dX3_isBetter_31
      · replace hf := ine hf c_4
        refine lv_goto (tgt := 26) hx hb dX3_isBetter_18 (by decide) ?_
        refine lv_iconst (v := 1) hx hb dX3_isBetter_26 (by decide) ?_
        refine lv_goto (tgt := 31) hx hb dX3_isBetter_27 (by decide) ?_
        exact p_zret X hW hf (by decide) dX3_isBetter_31
theorem w_isBetter (l : Launch) {g : gG} {r : Int32} {v0 : Int32} {v1 : Int32} {v2 : Int32}  (hf : m_isBetter v0 v1 v2 = some r) : MS l yX3_isBetter cX3_isBetter 3 (some .boolean) 1 20 g [.int v0, .int v1, .int v2] (some (.int r)) :=
  MC.of (by decide) List.nodup_nil wI_nil (Nat.le_of_ble_eq_true rfl) (fun p e s m below meth c A ls X hW hl => wb_isBetter X hW hl hf)
theorem k_isBetter {p : Program} {l : Launch} {e : Env} {R : Room} {s : State} {m : MethodId} {args : Array Value} {below : List Frame} {meth : Method} {c : Code} {H : Heap} {locs : List Loc} {Q : State → Prop} {cc : ByteArray} {nL : Nat} {ret : Option FieldType} {g : gG} {A : Nat → Prop} {ad : Nat → Nat} {ids : List Nat} {E : Nat → va_E} {pc : Nat} {ls : Array Slot} {rest : List Value} {lv : List (Nat × Value)} {r : Int32} {v0 : Int32} {v1 : Int32} {v2 : Int32} (X : MX p s m args meth c cc nL RX3 ret g A) (hW : WB g A s.heap ids ad E H locs)  (hf : m_isBetter v0 v1 v2 = some r) (hR : 2 ≤ R.frames ∧ 42 ≤ R.locals) (hl : lv_has ls nL lv) (hcat : (rest.map fun v => v.category).sum ≤ 8) (hdg : decode cc pc = .ok (.invokestatic 524, 3)) (kk : ∀ (H1 : Heap) (l1 : List Loc), WB g A s.heap ids ad E H1 l1 → W p l e R s m args below meth c H1 l1 0 0 Q (F0 m (pc + 3) ls (.int r :: rest))) : W p l e R s m args below meth c H locs 0 0 Q (F0 m pc ls (.int v2 :: .int v1 :: .int v0 :: rest)) :=
  r_callS X hW Sub.nil (w_isBetter l hf) (lw_S q1755 q1756 q126 q1757) ⟨by decide, by decide, by decide +kernel⟩ (n := 3) hR hl rfl rfl hcat ⟨Nat.zero_le _, Nat.zero_le _⟩ hdg kk
-- takesWorth
noncomputable def m_takesWorth (σ : cS) (v1 : Int32) (v2 : Int32) : Option (cS) :=
  gd (inb v1 5) (((m_isBetter v2 (σ.1 58 (ix v1)) v1).bind fun r_3 => if r_3 = 0 then (some σ) else (if v1 = 0 then (nmb (si σ 58 (ix v1) v2) fun σ_8 => (some (si σ_8 999 59 ((si σ 58 (ix v1) v2).1 57 (ix 0))))) else (nmb (si σ 58 (ix v1) v2) fun σ_6 => (some (si σ_6 999 59 ((si σ 58 (ix v1) v2).1 999 59)))))))
set_option maxHeartbeats 4000000 in
theorem wb_takesWorth {p : Program} {l : Launch} {e : Env} {s : State} {m : MethodId} {args : Array Value} {below : List Frame} {meth : Method} {c : Code} {g : gG} {A : Nat → Prop} {ad : Nat → Nat} (X : MX p s m args meth c cX3_takesWorth 3 RX3 none g A) (had : mI ad) {σr : cS}  {σ : cS} {v1 : Int32} {v2 : Int32}  {H : Heap} {locs : List Loc} {ls : Array Slot} (hW : WB g A s.heap mIds ad (mE g ad σ) H locs) (hl : lv_has ls 3 [(0, .ref (ad 999)), (1, .int v1), (2, .int v2)]) (hf : m_takesWorth σ v1 v2 = some σr) : W p l e (rm_ 2 42) s m args below meth c H locs 0 0 (Qm below g mIds ad (mE g ad σr) none A args s) (F0 m 0 ls []) := by
  have hx := X.1.1
  have hb := X.1.2.1
  unfold m_takesWorth at hf
  refine lv_iload_n hx hb dX3_takesWorth_0 rfl (lv_at hl 2 rfl) ?_
  refine lv_aload_n hx hb dX3_takesWorth_1 rfl (lv_at hl 0 rfl) ?_
  refine mg_58 X hW dX3_takesWorth_2 ?_
  refine lv_iload_n hx hb dX3_takesWorth_5 rfl (lv_at hl 1 rfl) ?_
  obtain ⟨h_1, hf⟩ := gd_e hf
  refine ml_58 X hW h_1 dX3_takesWorth_6 ?_
  refine lv_iload_n hx hb dX3_takesWorth_7 rfl (lv_at hl 1 rfl) ?_
  obtain ⟨r_3, h_2, hf⟩ := bd_e hf
  refine k_isBetter X hW h_2 (by decide) hl (Nat.le_of_ble_eq_true rfl) dX3_takesWorth_8 (fun H locs hW => ?_)
  refine lv_if_eq (tgt := 42) hx hb dX3_takesWorth_11 (by decide) (fun c_4 => ?_) (fun c_4 => ?_)
  · replace hf := ip hf c_4
    exact m_vret X hW hf dX3_takesWorth_42
  · replace hf := ine hf c_4
    refine lv_aload_n hx hb dX3_takesWorth_14 rfl (lv_at hl 0 rfl) ?_
    refine mg_58 X hW dX3_takesWorth_15 ?_
    refine lv_iload_n hx hb dX3_takesWorth_18 rfl (lv_at hl 1 rfl) ?_
    refine lv_iload_n hx hb dX3_takesWorth_19 rfl (lv_at hl 2 rfl) ?_
    refine ms_58 X hW h_1 dX3_takesWorth_20 (fun H locs hW => ?_)
    refine lv_aload_n hx hb dX3_takesWorth_21 rfl (lv_at hl 0 rfl) ?_
    refine lv_iload_n hx hb dX3_takesWorth_22 rfl (lv_at hl 1 rfl) ?_
    refine lv_if_ne (tgt := 35) hx hb dX3_takesWorth_23 (by decide) (fun c_5 => ?_) (fun c_5 => ?_)
    · replace hf := ine hf c_5
      refine lv_aload_n hx hb dX3_takesWorth_35 rfl (lv_at hl 0 rfl) ?_
      refine mg_59 X hW dX3_takesWorth_36 ?_
      obtain ⟨σ_6, e_7, hf⟩ := nmb_e hf
      rw [← e_7] at hW
      clear e_7
      refine mp_59 X hW dX3_takesWorth_39 (fun H locs hW => ?_)
      exact m_vret X hW hf dX3_takesWorth_42
    · replace hf := ip hf c_5
      refine lv_aload_n hx hb dX3_takesWorth_26 rfl (lv_at hl 0 rfl) ?_
      refine mg_57 X hW dX3_takesWorth_27 ?_
      refine lv_iconst (v := 0) hx hb dX3_takesWorth_30 (by decide) ?_
      refine ml_57 X hW (by decide) dX3_takesWorth_31 ?_
      refine lv_goto (tgt := 39) hx hb dX3_takesWorth_32 (by decide) ?_
      obtain ⟨σ_8, e_9, hf⟩ := nmb_e hf
      rw [← e_9] at hW
      clear e_9
      refine mp_59 X hW dX3_takesWorth_39 (fun H locs hW => ?_)
      exact m_vret X hW hf dX3_takesWorth_42
theorem w_takesWorth (l : Launch) {g : gG} {ad : Nat → Nat} (had : mI ad) {σr : cS}  {σ : cS} {v1 : Int32} {v2 : Int32}  (hf : m_takesWorth σ v1 v2 = some σr) : MM l yX3_takesWorth cX3_takesWorth 3 none 2 42 g ad σ σr [.ref (ad 999), .int v1, .int v2] none :=
  MC.of (by decide) mIds_nd had (Nat.le_of_ble_eq_true rfl) (fun p e s m below meth c A ls X hW hl => wb_takesWorth X had hW hl hf)
theorem k_takesWorth {p : Program} {l : Launch} {e : Env} {R : Room} {s : State} {m : MethodId} {args : Array Value} {below : List Frame} {meth : Method} {c : Code} {H : Heap} {locs : List Loc} {Q : State → Prop} {cc : ByteArray} {nL : Nat} {ret : Option FieldType} {g : gG} {A : Nat → Prop} {ad : Nat → Nat} {pc : Nat} {ls : Array Slot} {rest : List Value} {lv : List (Nat × Value)} {σr : cS}  {σ : cS} {v1 : Int32} {v2 : Int32} (X : MX p s m args meth c cc nL RX3 ret g A) (hW : WB g A s.heap mIds ad (mE g ad σ) H locs) (had : mI ad)  (hf : m_takesWorth σ v1 v2 = some σr) (hR : 3 ≤ R.frames ∧ 64 ≤ R.locals) (hl : lv_has ls nL lv) (hcat : (rest.map fun v => v.category).sum ≤ 8) (hdg : decode cc pc = .ok (.invokevirtual 515, 3)) (kk : ∀ (H1 : Heap) (l1 : List Loc), WB g A s.heap mIds ad (mE g ad σr) H1 l1 → W p l e R s m args below meth c H1 l1 0 0 Q (F0 m (pc + 3) ls (rest))) : W p l e R s m args below meth c H locs 0 0 Q (F0 m pc ls (.int v2 :: .int v1 :: .ref (ad 999) :: rest)) :=
  r_callV X hW Sub.all (w_takesWorth l had hf) (lw_V q1751 q1753 qs111 q126 q1754) ⟨rfl, by decide, by decide, by decide +kernel⟩ m_999 mE_o rfl (n := 2) hR hl rfl rfl hcat ⟨Nat.zero_le _, Nat.zero_le _⟩ hdg kk
-- goesDuke
noncomputable def m_goesDuke (σ : cS) (v1 : Int32) : Option (cS) :=
  gd (inb v1 5) (if (σ.1 57 (ix v1)) = (-1) then (((m_goesNight σ).bind fun (σ_5, r_4) => some σ_5)) else (if (v1 - v1 / 2 * 2) = 0 then (((m_pushes σ (σ.1 57 (ix v1)) 1).bind fun σ_13 => ((m_goesNight σ_13).bind fun (σ_16, r_15) => some σ_16))) else (((m_pushes σ (σ.1 57 (ix v1)) (-1)).bind fun σ_8 => ((m_goesNight σ_8).bind fun (σ_11, r_10) => some σ_11)))))
set_option maxHeartbeats 4000000 in
theorem wb_goesDuke {p : Program} {l : Launch} {e : Env} {s : State} {m : MethodId} {args : Array Value} {below : List Frame} {meth : Method} {c : Code} {g : gG} {A : Nat → Prop} {ad : Nat → Nat} (X : MX p s m args meth c cX3_goesDuke 2 RX3 none g A) (had : mI ad) {σr : cS}  {σ : cS} {v1 : Int32}  {H : Heap} {locs : List Loc} {ls : Array Slot} (hW : WB g A s.heap mIds ad (mE g ad σ) H locs) (hl : lv_has ls 2 [(0, .ref (ad 999)), (1, .int v1)]) (hf : m_goesDuke σ v1 = some σr) : W p l e (rm_ 8 177) s m args below meth c H locs 0 0 (Qm below g mIds ad (mE g ad σr) none A args s) (F0 m 0 ls []) := by
  have hx := X.1.1
  have hb := X.1.2.1
  unfold m_goesDuke at hf
  refine lv_aload_n hx hb dX3_goesDuke_0 rfl (lv_at hl 0 rfl) ?_
  refine mg_57 X hW dX3_goesDuke_1 ?_
  refine lv_iload_n hx hb dX3_goesDuke_4 rfl (lv_at hl 1 rfl) ?_
  obtain ⟨h_1, hf⟩ := gd_e hf
  refine ml_57 X hW h_1 dX3_goesDuke_5 ?_
  refine lv_iconst (v := (-1)) hx hb dX3_goesDuke_6 (by decide) ?_
  refine lv_icmp_eq (tgt := 31) hx hb dX3_goesDuke_7 (by decide) (fun c_2 => ?_) (fun c_2 => ?_)
  · replace hf := ip hf c_2
    refine lv_aload_n hx hb dX3_goesDuke_31 rfl (lv_at hl 0 rfl) ?_
    obtain ⟨⟨σ_5, r_4⟩, h_3, hf⟩ := bd_e hf
    refine k_goesNight X hW had h_3 (by decide) hl (Nat.le_of_ble_eq_true rfl) dX3_goesDuke_32 (fun H locs hW => ?_)
    refine lv_pop hx hb dX3_goesDuke_35 rfl ?_
    exact m_vret X hW hf dX3_goesDuke_36
  · replace hf := ine hf c_2
    refine lv_aload_n hx hb dX3_goesDuke_10 rfl (lv_at hl 0 rfl) ?_
    refine lv_aload_n hx hb dX3_goesDuke_11 rfl (lv_at hl 0 rfl) ?_
    refine mg_57 X hW dX3_goesDuke_12 ?_
    refine lv_iload_n hx hb dX3_goesDuke_15 rfl (lv_at hl 1 rfl) ?_
    refine ml_57 X hW h_1 dX3_goesDuke_16 ?_
    refine lv_iload_n hx hb dX3_goesDuke_17 rfl (lv_at hl 1 rfl) ?_
    refine lv_iconst (v := 2) hx hb dX3_goesDuke_18 (by decide) ?_
    refine lv_irem hx hb dX3_goesDuke_19 (by decide) ?_
    refine lv_if_ne (tgt := 27) hx hb dX3_goesDuke_20 (by decide) (fun c_6 => ?_) (fun c_6 => ?_)
    · replace hf := ine hf c_6
      refine lv_iconst (v := (-1)) hx hb dX3_goesDuke_27 (by decide) ?_
      obtain ⟨σ_8, h_7, hf⟩ := bd_e hf
      refine k_pushes X hW had h_7 (by decide) hl (Nat.le_of_ble_eq_true rfl) dX3_goesDuke_28 (fun H locs hW => ?_)
      refine lv_aload_n hx hb dX3_goesDuke_31 rfl (lv_at hl 0 rfl) ?_
      obtain ⟨⟨σ_11, r_10⟩, h_9, hf⟩ := bd_e hf
      refine k_goesNight X hW had h_9 (by decide) hl (Nat.le_of_ble_eq_true rfl) dX3_goesDuke_32 (fun H locs hW => ?_)
      refine lv_pop hx hb dX3_goesDuke_35 rfl ?_
      exact m_vret X hW hf dX3_goesDuke_36
    · replace hf := ip hf c_6
      refine lv_iconst (v := 1) hx hb dX3_goesDuke_23 (by decide) ?_
      refine lv_goto (tgt := 28) hx hb dX3_goesDuke_24 (by decide) ?_
      obtain ⟨σ_13, h_12, hf⟩ := bd_e hf
      refine k_pushes X hW had h_12 (by decide) hl (Nat.le_of_ble_eq_true rfl) dX3_goesDuke_28 (fun H locs hW => ?_)
      refine lv_aload_n hx hb dX3_goesDuke_31 rfl (lv_at hl 0 rfl) ?_
      obtain ⟨⟨σ_16, r_15⟩, h_14, hf⟩ := bd_e hf
      refine k_goesNight X hW had h_14 (by decide) hl (Nat.le_of_ble_eq_true rfl) dX3_goesDuke_32 (fun H locs hW => ?_)
      refine lv_pop hx hb dX3_goesDuke_35 rfl ?_
      exact m_vret X hW hf dX3_goesDuke_36
theorem w_goesDuke (l : Launch) {g : gG} {ad : Nat → Nat} (had : mI ad) {σr : cS}  {σ : cS} {v1 : Int32}  (hf : m_goesDuke σ v1 = some σr) : MM l yX3_goesDuke cX3_goesDuke 2 none 8 177 g ad σ σr [.ref (ad 999), .int v1] none :=
  MC.of (by decide) mIds_nd had (Nat.le_of_ble_eq_true rfl) (fun p e s m below meth c A ls X hW hl => wb_goesDuke X had hW hl hf)
theorem k_goesDuke {p : Program} {l : Launch} {e : Env} {R : Room} {s : State} {m : MethodId} {args : Array Value} {below : List Frame} {meth : Method} {c : Code} {H : Heap} {locs : List Loc} {Q : State → Prop} {cc : ByteArray} {nL : Nat} {ret : Option FieldType} {g : gG} {A : Nat → Prop} {ad : Nat → Nat} {pc : Nat} {ls : Array Slot} {rest : List Value} {lv : List (Nat × Value)} {σr : cS}  {σ : cS} {v1 : Int32} (X : MX p s m args meth c cc nL RX3 ret g A) (hW : WB g A s.heap mIds ad (mE g ad σ) H locs) (had : mI ad)  (hf : m_goesDuke σ v1 = some σr) (hR : 9 ≤ R.frames ∧ 198 ≤ R.locals) (hl : lv_has ls nL lv) (hcat : (rest.map fun v => v.category).sum ≤ 8) (hdg : decode cc pc = .ok (.invokevirtual 518, 3)) (kk : ∀ (H1 : Heap) (l1 : List Loc), WB g A s.heap mIds ad (mE g ad σr) H1 l1 → W p l e R s m args below meth c H1 l1 0 0 Q (F0 m (pc + 3) ls (rest))) : W p l e R s m args below meth c H locs 0 0 Q (F0 m pc ls (.int v1 :: .ref (ad 999) :: rest)) :=
  r_callV X hW Sub.all (w_goesDuke l had hf) (lw_V q1758 q1760 qs112 q126 q1761) ⟨rfl, by decide, by decide, by decide +kernel⟩ m_999 mE_o rfl (n := 1) hR hl rfl rfl hcat ⟨Nat.zero_le _, Nat.zero_le _⟩ hdg kk
-- opensDuke
noncomputable def m_opensDuke (σ : cS) (v1 : Int32) (v2 : Int32) : Option (cS) :=
  if v2 ≤ v1 then (some σ) else (((m_movesDuke σ v1 0).bind fun σ_3 => gd (inb v1 5) (nmb (si σ_3 57 (ix v1) (-2)) fun σ_5 => (some (si σ_5 58 (ix v1) 1000)))))
set_option maxHeartbeats 4000000 in
theorem wb_opensDuke {p : Program} {l : Launch} {e : Env} {s : State} {m : MethodId} {args : Array Value} {below : List Frame} {meth : Method} {c : Code} {g : gG} {A : Nat → Prop} {ad : Nat → Nat} (X : MX p s m args meth c cX3_opensDuke 3 RX3 none g A) (had : mI ad) {σr : cS}  {σ : cS} {v1 : Int32} {v2 : Int32}  {H : Heap} {locs : List Loc} {ls : Array Slot} (hW : WB g A s.heap mIds ad (mE g ad σ) H locs) (hl : lv_has ls 3 [(0, .ref (ad 999)), (1, .int v1), (2, .int v2)]) (hf : m_opensDuke σ v1 v2 = some σr) : W p l e (rm_ 2 44) s m args below meth c H locs 0 0 (Qm below g mIds ad (mE g ad σr) none A args s) (F0 m 0 ls []) := by
  have hx := X.1.1
  have hb := X.1.2.1
  unfold m_opensDuke at hf
  refine lv_iload_n hx hb dX3_opensDuke_0 rfl (lv_at hl 1 rfl) ?_
  refine lv_iload_n hx hb dX3_opensDuke_1 rfl (lv_at hl 2 rfl) ?_
  refine lv_icmp_ge (tgt := 28) hx hb dX3_opensDuke_2 (by decide) (fun c_1 => ?_) (fun c_1 => ?_)
  · replace hf := ip hf c_1
    exact m_vret X hW hf dX3_opensDuke_28
  · replace hf := ine hf c_1
    refine lv_aload_n hx hb dX3_opensDuke_5 rfl (lv_at hl 0 rfl) ?_
    refine lv_iload_n hx hb dX3_opensDuke_6 rfl (lv_at hl 1 rfl) ?_
    refine lv_iconst (v := 0) hx hb dX3_opensDuke_7 (by decide) ?_
    obtain ⟨σ_3, h_2, hf⟩ := bd_e hf
    refine k_movesDuke X hW had h_2 (by decide) hl (Nat.le_of_ble_eq_true rfl) dX3_opensDuke_8 (fun H locs hW => ?_)
    refine lv_aload_n hx hb dX3_opensDuke_11 rfl (lv_at hl 0 rfl) ?_
    refine mg_57 X hW dX3_opensDuke_12 ?_
    refine lv_iload_n hx hb dX3_opensDuke_15 rfl (lv_at hl 1 rfl) ?_
    refine lv_bipush (v := (-2)) hx hb dX3_opensDuke_16 (by decide) ?_
    obtain ⟨h_4, hf⟩ := gd_e hf
    refine ms_57 X hW h_4 dX3_opensDuke_18 (fun H locs hW => ?_)
    refine lv_aload_n hx hb dX3_opensDuke_19 rfl (lv_at hl 0 rfl) ?_
    refine mg_58 X hW dX3_opensDuke_20 ?_
    refine lv_iload_n hx hb dX3_opensDuke_23 rfl (lv_at hl 1 rfl) ?_
    refine lv_sipush (v := 1000) hx hb dX3_opensDuke_24 (by decide) ?_
    obtain ⟨σ_5, e_6, hf⟩ := nmb_e hf
    rw [← e_6] at hW
    clear e_6
    refine ms_58 X hW h_4 dX3_opensDuke_27 (fun H locs hW => ?_)
    exact m_vret X hW hf dX3_opensDuke_28
theorem w_opensDuke (l : Launch) {g : gG} {ad : Nat → Nat} (had : mI ad) {σr : cS}  {σ : cS} {v1 : Int32} {v2 : Int32}  (hf : m_opensDuke σ v1 v2 = some σr) : MM l yX3_opensDuke cX3_opensDuke 3 none 2 44 g ad σ σr [.ref (ad 999), .int v1, .int v2] none :=
  MC.of (by decide) mIds_nd had (Nat.le_of_ble_eq_true rfl) (fun p e s m below meth c A ls X hW hl => wb_opensDuke X had hW hl hf)
theorem k_opensDuke {p : Program} {l : Launch} {e : Env} {R : Room} {s : State} {m : MethodId} {args : Array Value} {below : List Frame} {meth : Method} {c : Code} {H : Heap} {locs : List Loc} {Q : State → Prop} {cc : ByteArray} {nL : Nat} {ret : Option FieldType} {g : gG} {A : Nat → Prop} {ad : Nat → Nat} {pc : Nat} {ls : Array Slot} {rest : List Value} {lv : List (Nat × Value)} {σr : cS}  {σ : cS} {v1 : Int32} {v2 : Int32} (X : MX p s m args meth c cc nL RX3 ret g A) (hW : WB g A s.heap mIds ad (mE g ad σ) H locs) (had : mI ad)  (hf : m_opensDuke σ v1 v2 = some σr) (hR : 3 ≤ R.frames ∧ 66 ≤ R.locals) (hl : lv_has ls nL lv) (hcat : (rest.map fun v => v.category).sum ≤ 8) (hdg : decode cc pc = .ok (.invokevirtual 521, 3)) (kk : ∀ (H1 : Heap) (l1 : List Loc), WB g A s.heap mIds ad (mE g ad σr) H1 l1 → W p l e R s m args below meth c H1 l1 0 0 Q (F0 m (pc + 3) ls (rest))) : W p l e R s m args below meth c H locs 0 0 Q (F0 m pc ls (.int v2 :: .int v1 :: .ref (ad 999) :: rest)) :=
  r_callV X hW Sub.all (w_opensDuke l had hf) (lw_V q1762 q1764 qs113 q126 q1765) ⟨rfl, by decide, by decide, by decide +kernel⟩ m_999 mE_o rfl (n := 2) hR hl rfl rfl hcat ⟨Nat.zero_le _, Nat.zero_le _⟩ hdg kk
-- playsDukes
noncomputable def m_playsDukes_74 {ρ : Type} (v1 : Int32) (v2 : Int32) (K : cS → Option ρ) : Nat → cS → Option ρ
  | 0, _ => none
  | n + 1, σ => gd (inb v2 5) (if (σ.1 57 (ix v2)) < 0 then (K σ) else (if (σ.1 1 (ix 0)) ≤ (σ.1 57 (ix v2)) then (K σ) else (((m_isBaked σ (σ.1 57 (ix v2))).bind fun r_18 => if r_18 = 0 then (K σ) else (m_playsDukes_74 v1 v2 K n (si σ 57 (ix v2) ((σ.1 57 (ix v2)) + 1)))))))
set_option maxHeartbeats 4000000 in
theorem wm_playsDukes_74 {p : Program} {l : Launch} {e : Env} {s : State} {m : MethodId} {args : Array Value} {below : List Frame} {meth : Method} {c : Code} {g : gG} {A : Nat → Prop} {ad : Nat → Nat} (X : MX p s m args meth c cX3_playsDukes 3 RX3 (some .int) g A) (had : mI ad) {ρ : Type} {res : ρ} {Q : State → Prop} {v1 : Int32} {v2 : Int32}  {K : cS → Option ρ}
    (hK : ∀ (σ : cS) (H : Heap) (locs : List Loc) (ls : Array Slot), WB g A s.heap mIds ad (mE g ad σ) H locs → lv_has ls 3 [(0, .ref (ad 999)), (1, .int v1), (2, .int v2)] → K σ = some res → W p l e (rm_ 9 198) s m args below meth c H locs 0 0 Q (F0 m 124 ls [])) :
    ∀ (n : Nat) (σ : cS) (H : Heap) (locs : List Loc) (ls : Array Slot), WB g A s.heap mIds ad (mE g ad σ) H locs → lv_has ls 3 [(0, .ref (ad 999)), (1, .int v1), (2, .int v2)] → m_playsDukes_74 v1 v2 K n σ = some res → W p l e (rm_ 9 198) s m args below meth c H locs 0 0 Q (F0 m 74 ls []) := by
  have hx := X.1.1
  have hb := X.1.2.1
  intro n
  induction n with
  | zero =>
    intro σ H locs ls hW hl hf
    rw [m_playsDukes_74] at hf
    cases hf
  | succ n ih =>
    intro σ H locs ls hW hl hf
    rw [m_playsDukes_74] at hf
    refine lv_aload_n hx hb dX3_playsDukes_74 rfl (lv_at hl 0 rfl) ?_
    refine mg_57 X hW dX3_playsDukes_75 ?_
    refine lv_iload_n hx hb dX3_playsDukes_78 rfl (lv_at hl 2 rfl) ?_
    obtain ⟨h_14, hf⟩ := gd_e hf
    refine ml_57 X hW h_14 dX3_playsDukes_79 ?_
    refine lv_if_lt (tgt := 124) hx hb dX3_playsDukes_80 (by decide) (fun c_15 => ?_) (fun c_15 => ?_)
    · replace hf := ip hf c_15
      exact hK _ _ _ _ hW (lv_sub hl [0, 1, 2] rfl) hf
    · replace hf := ine hf c_15
      refine lv_aload_n hx hb dX3_playsDukes_83 rfl (lv_at hl 0 rfl) ?_
      refine mg_57 X hW dX3_playsDukes_84 ?_
      refine lv_iload_n hx hb dX3_playsDukes_87 rfl (lv_at hl 2 rfl) ?_
      refine ml_57 X hW h_14 dX3_playsDukes_88 ?_
      refine lv_aload_n hx hb dX3_playsDukes_89 rfl (lv_at hl 0 rfl) ?_
      refine mg_1 X hW dX3_playsDukes_90 ?_
      refine lv_iconst (v := 0) hx hb dX3_playsDukes_93 (by decide) ?_
      refine ml_1 X hW (by decide) dX3_playsDukes_94 ?_
      refine lv_icmp_ge (tgt := 124) hx hb dX3_playsDukes_95 (by decide) (fun c_16 => ?_) (fun c_16 => ?_)
      · replace hf := ip hf c_16
        exact hK _ _ _ _ hW (lv_sub hl [0, 1, 2] rfl) hf
      · replace hf := ine hf c_16
        refine lv_aload_n hx hb dX3_playsDukes_98 rfl (lv_at hl 0 rfl) ?_
        refine lv_aload_n hx hb dX3_playsDukes_99 rfl (lv_at hl 0 rfl) ?_
        refine mg_57 X hW dX3_playsDukes_100 ?_
        refine lv_iload_n hx hb dX3_playsDukes_103 rfl (lv_at hl 2 rfl) ?_
        refine ml_57 X hW h_14 dX3_playsDukes_104 ?_
        obtain ⟨r_18, h_17, hf⟩ := bd_e hf
        refine k_isBaked X hW had h_17 (by decide) hl (Nat.le_of_ble_eq_true rfl) dX3_playsDukes_105 (fun H locs hW => ?_)
        refine lv_if_eq (tgt := 124) hx hb dX3_playsDukes_108 (by decide) (fun c_19 => ?_) (fun c_19 => ?_)
        · replace hf := ip hf c_19
          exact hK _ _ _ _ hW (lv_sub hl [0, 1, 2] rfl) hf
        · replace hf := ine hf c_19
          refine lv_aload_n hx hb dX3_playsDukes_111 rfl (lv_at hl 0 rfl) ?_
          refine mg_57 X hW dX3_playsDukes_112 ?_
          refine lv_iload_n hx hb dX3_playsDukes_115 rfl (lv_at hl 2 rfl) ?_
          refine lv_dup2_11 hx hb dX3_playsDukes_116 rfl rfl ?_
          refine ml_57 X hW h_14 dX3_playsDukes_117 ?_
          refine lv_iconst (v := 1) hx hb dX3_playsDukes_118 (by decide) ?_
          refine lv_iadd hx hb dX3_playsDukes_119 ?_
          refine ms_57 X hW h_14 dX3_playsDukes_120 (fun H locs hW => ?_)
          refine lv_goto (tgt := 74) hx hb dX3_playsDukes_121 (by decide) ?_
          exact ih _ _ _ _ hW (lv_sub hl [0, 1, 2] rfl) hf
noncomputable def m_playsDukes_34 {ρ : Type} (v1 : Int32) (K : cS → Option ρ) : Nat → cS → Int32 → Option ρ
  | 0, _, _ => none
  | n + 1, σ, v2 => if v2 < 0 then (K σ) else (if v2 = v1 then (((m_westLessEast σ).bind fun r_32 => ((m_takesWorth σ (v2 + (-1)) r_32).bind fun σ_34 => m_playsDukes_34 v1 K n σ_34 (v2 + (-1))))) else (((m_movesDuke σ v2 1).bind fun σ_12 => gd (inb v2 5) (m_playsDukes_74 v1 v2 (fun σ_20 => (gd (inb v2 5) (if (σ_20.1 57 (ix v2)) < (σ_20.1 1 (ix 0)) then (((m_goesDuke σ_20 v2).bind fun σ_24 => ((m_opensDuke σ_24 (v2 + 1) v1).bind fun σ_26 => m_playsDukes_34 v1 K n σ_26 (v2 + 1)))) else (if (v2 + (-1)) < 0 then (m_playsDukes_34 v1 K n σ_20 (v2 + (-1))) else (gd (inb ((v2 + (-1)) + 1) 5) (((m_takesWorth σ_20 (v2 + (-1)) (σ_20.1 58 (ix ((v2 + (-1)) + 1)))).bind fun σ_30 => m_playsDukes_34 v1 K n σ_30 (v2 + (-1))))))))) FU (si σ_12 57 (ix v2) ((σ_12.1 57 (ix v2)) + 1))))))
set_option maxHeartbeats 4000000 in
theorem wm_playsDukes_34 {p : Program} {l : Launch} {e : Env} {s : State} {m : MethodId} {args : Array Value} {below : List Frame} {meth : Method} {c : Code} {g : gG} {A : Nat → Prop} {ad : Nat → Nat} (X : MX p s m args meth c cX3_playsDukes 3 RX3 (some .int) g A) (had : mI ad) {ρ : Type} {res : ρ} {Q : State → Prop} {v1 : Int32}  {K : cS → Option ρ}
    (hK : ∀ (σ : cS) (H : Heap) (locs : List Loc) (ls : Array Slot), WB g A s.heap mIds ad (mE g ad σ) H locs → lv_has ls 3 [(0, .ref (ad 999))] → K σ = some res → W p l e (rm_ 9 198) s m args below meth c H locs 0 0 Q (F0 m 179 ls [])) :
    ∀ (n : Nat) (σ : cS) (v2 : Int32) (H : Heap) (locs : List Loc) (ls : Array Slot), WB g A s.heap mIds ad (mE g ad σ) H locs → lv_has ls 3 [(0, .ref (ad 999)), (1, .int v1), (2, .int v2)] → m_playsDukes_34 v1 K n σ v2 = some res → W p l e (rm_ 9 198) s m args below meth c H locs 0 0 Q (F0 m 34 ls []) := by
  have hx := X.1.1
  have hb := X.1.2.1
  intro n
  induction n with
  | zero =>
    intro σ v2 H locs ls hW hl hf
    rw [m_playsDukes_34] at hf
    cases hf
  | succ n ih =>
    intro σ v2 H locs ls hW hl hf
    rw [m_playsDukes_34] at hf
    refine lv_iload_n hx hb dX3_playsDukes_34 rfl (lv_at hl 2 rfl) ?_
    refine lv_if_lt (tgt := 179) hx hb dX3_playsDukes_35 (by decide) (fun c_9 => ?_) (fun c_9 => ?_)
    · replace hf := ip hf c_9
      exact hK _ _ _ _ hW (lv_sub hl [0] rfl) hf
    · replace hf := ine hf c_9
      refine lv_iload_n hx hb dX3_playsDukes_38 rfl (lv_at hl 2 rfl) ?_
      refine lv_iload_n hx hb dX3_playsDukes_39 rfl (lv_at hl 1 rfl) ?_
      refine lv_icmp_ne (tgt := 58) hx hb dX3_playsDukes_40 (by decide) (fun c_10 => ?_) (fun c_10 => ?_)
      · replace hf := ine hf c_10
        refine lv_aload_n hx hb dX3_playsDukes_58 rfl (lv_at hl 0 rfl) ?_
        refine lv_iload_n hx hb dX3_playsDukes_59 rfl (lv_at hl 2 rfl) ?_
        refine lv_iconst (v := 1) hx hb dX3_playsDukes_60 (by decide) ?_
        obtain ⟨σ_12, h_11, hf⟩ := bd_e hf
        refine k_movesDuke X hW had h_11 (by decide) hl (Nat.le_of_ble_eq_true rfl) dX3_playsDukes_61 (fun H locs hW => ?_)
        refine lv_aload_n hx hb dX3_playsDukes_64 rfl (lv_at hl 0 rfl) ?_
        refine mg_57 X hW dX3_playsDukes_65 ?_
        refine lv_iload_n hx hb dX3_playsDukes_68 rfl (lv_at hl 2 rfl) ?_
        refine lv_dup2_11 hx hb dX3_playsDukes_69 rfl rfl ?_
        obtain ⟨h_13, hf⟩ := gd_e hf
        refine ml_57 X hW h_13 dX3_playsDukes_70 ?_
        refine lv_iconst (v := 1) hx hb dX3_playsDukes_71 (by decide) ?_
        refine lv_iadd hx hb dX3_playsDukes_72 ?_
        refine ms_57 X hW h_13 dX3_playsDukes_73 (fun H locs hW => ?_)
        refine wm_playsDukes_74 X had (fun σ_20 H locs ls hW hl hf => ?_) _ _ _ _ _ hW (lv_sub hl [0, 1, 2] rfl) hf
        refine lv_aload_n hx hb dX3_playsDukes_124 rfl (lv_at hl 0 rfl) ?_
        refine mg_57 X hW dX3_playsDukes_125 ?_
        refine lv_iload_n hx hb dX3_playsDukes_128 rfl (lv_at hl 2 rfl) ?_
        obtain ⟨h_21, hf⟩ := gd_e hf
        refine ml_57 X hW h_21 dX3_playsDukes_129 ?_
        refine lv_aload_n hx hb dX3_playsDukes_130 rfl (lv_at hl 0 rfl) ?_
        refine mg_1 X hW dX3_playsDukes_131 ?_
        refine lv_iconst (v := 0) hx hb dX3_playsDukes_134 (by decide) ?_
        refine ml_1 X hW (by decide) dX3_playsDukes_135 ?_
        refine lv_icmp_lt (tgt := 162) hx hb dX3_playsDukes_136 (by decide) (fun c_22 => ?_) (fun c_22 => ?_)
        · replace hf := ip hf c_22
          refine lv_aload_n hx hb dX3_playsDukes_162 rfl (lv_at hl 0 rfl) ?_
          refine lv_iload_n hx hb dX3_playsDukes_163 rfl (lv_at hl 2 rfl) ?_
          obtain ⟨σ_24, h_23, hf⟩ := bd_e hf
          refine k_goesDuke X hW had h_23 (by decide) hl (Nat.le_of_ble_eq_true rfl) dX3_playsDukes_164 (fun H locs hW => ?_)
          refine lv_iinc (v := (v2 + 1)) (lv' := [(2, .int (v2 + 1)), (0, .ref (ad 999)), (1, .int v1)]) hx hb dX3_playsDukes_167 hl (k := 2) rfl (ii_v _ _ _ (by decide)) (by decide) rfl (fun ls hl => ?_)
          refine lv_aload_n hx hb dX3_playsDukes_170 rfl (lv_at hl 1 rfl) ?_
          refine lv_iload_n hx hb dX3_playsDukes_171 rfl (lv_at hl 0 rfl) ?_
          refine lv_iload_n hx hb dX3_playsDukes_172 rfl (lv_at hl 2 rfl) ?_
          obtain ⟨σ_26, h_25, hf⟩ := bd_e hf
          refine k_opensDuke X hW had h_25 (by decide) hl (Nat.le_of_ble_eq_true rfl) dX3_playsDukes_173 (fun H locs hW => ?_)
          refine lv_goto (tgt := 34) hx hb dX3_playsDukes_176 (by decide) ?_
          exact ih _ _ _ _ _ hW (lv_sub hl [1, 2, 0] rfl) hf
        · replace hf := ine hf c_22
          refine lv_iinc (v := (v2 + (-1))) (lv' := [(2, .int (v2 + (-1))), (0, .ref (ad 999)), (1, .int v1)]) hx hb dX3_playsDukes_139 hl (k := 2) rfl (ii_v _ _ _ (by decide)) (by decide) rfl (fun ls hl => ?_)
          refine lv_iload_n hx hb dX3_playsDukes_142 rfl (lv_at hl 0 rfl) ?_
          refine lv_if_lt (tgt := 34) hx hb dX3_playsDukes_143 (by decide) (fun c_27 => ?_) (fun c_27 => ?_)
          · replace hf := ip hf c_27
            exact ih _ _ _ _ _ hW (lv_sub hl [1, 2, 0] rfl) hf
          · replace hf := ine hf c_27
            refine lv_aload_n hx hb dX3_playsDukes_146 rfl (lv_at hl 1 rfl) ?_
            refine lv_iload_n hx hb dX3_playsDukes_147 rfl (lv_at hl 0 rfl) ?_
            refine lv_aload_n hx hb dX3_playsDukes_148 rfl (lv_at hl 1 rfl) ?_
            refine mg_58 X hW dX3_playsDukes_149 ?_
            refine lv_iload_n hx hb dX3_playsDukes_152 rfl (lv_at hl 0 rfl) ?_
            refine lv_iconst (v := 1) hx hb dX3_playsDukes_153 (by decide) ?_
            refine lv_iadd hx hb dX3_playsDukes_154 ?_
            obtain ⟨h_28, hf⟩ := gd_e hf
            refine ml_58 X hW h_28 dX3_playsDukes_155 ?_
            obtain ⟨σ_30, h_29, hf⟩ := bd_e hf
            refine k_takesWorth X hW had h_29 (by decide) hl (Nat.le_of_ble_eq_true rfl) dX3_playsDukes_156 (fun H locs hW => ?_)
            refine lv_goto (tgt := 34) hx hb dX3_playsDukes_159 (by decide) ?_
            exact ih _ _ _ _ _ hW (lv_sub hl [1, 2, 0] rfl) hf
      · replace hf := ip hf c_10
        refine lv_iinc (v := (v2 + (-1))) (lv' := [(2, .int (v2 + (-1))), (0, .ref (ad 999)), (1, .int v1)]) hx hb dX3_playsDukes_43 hl (k := 2) rfl (ii_v _ _ _ (by decide)) (by decide) rfl (fun ls hl => ?_)
        refine lv_aload_n hx hb dX3_playsDukes_46 rfl (lv_at hl 1 rfl) ?_
        refine lv_iload_n hx hb dX3_playsDukes_47 rfl (lv_at hl 0 rfl) ?_
        refine lv_aload_n hx hb dX3_playsDukes_48 rfl (lv_at hl 1 rfl) ?_
        obtain ⟨r_32, h_31, hf⟩ := bd_e hf
        refine k_westLessEast X hW had h_31 (by decide) hl (Nat.le_of_ble_eq_true rfl) dX3_playsDukes_49 (fun H locs hW => ?_)
        obtain ⟨σ_34, h_33, hf⟩ := bd_e hf
        refine k_takesWorth X hW had h_33 (by decide) hl (Nat.le_of_ble_eq_true rfl) dX3_playsDukes_52 (fun H locs hW => ?_)
        refine lv_goto (tgt := 34) hx hb dX3_playsDukes_55 (by decide) ?_
        exact ih _ _ _ _ _ hW (lv_sub hl [1, 2, 0] rfl) hf
noncomputable def m_playsDukes (σ : cS) (v1 : Int32) : Option (cS × Int32) :=
  ((m_keepsAll σ).bind fun σ_2 => ((m_movesDuke σ_2 0 0).bind fun σ_4 => nmb (si σ_4 57 (ix 0) (-2)) fun σ_5 => (nmb (si σ_5 58 (ix 0) 1000) fun σ_7 => (m_playsDukes_34 v1 (fun σ_35 => (((m_laysBack σ_35).bind fun σ_37 => some (σ_37, (σ_37.1 58 (ix 0)))))) FU (si σ_7 999 59 (-1)) 0))))
set_option maxHeartbeats 4000000 in
theorem wb_playsDukes {p : Program} {l : Launch} {e : Env} {s : State} {m : MethodId} {args : Array Value} {below : List Frame} {meth : Method} {c : Code} {g : gG} {A : Nat → Prop} {ad : Nat → Nat} (X : MX p s m args meth c cX3_playsDukes 3 RX3 (some .int) g A) (had : mI ad) {σr : cS} {r : Int32} {σ : cS} {v1 : Int32}  {H : Heap} {locs : List Loc} {ls : Array Slot} (hW : WB g A s.heap mIds ad (mE g ad σ) H locs) (hl : lv_has ls 3 [(0, .ref (ad 999)), (1, .int v1)]) (hf : m_playsDukes σ v1 = some (σr, r)) : W p l e (rm_ 9 198) s m args below meth c H locs 0 0 (Qm below g mIds ad (mE g ad σr) (some (.int r)) A args s) (F0 m 0 ls []) := by
  have hx := X.1.1
  have hb := X.1.2.1
  unfold m_playsDukes at hf
  refine lv_iconst (v := 0) hx hb dX3_playsDukes_0 (by decide) ?_
  refine lv_istore_n (lv' := [(2, .int 0), (0, .ref (ad 999)), (1, .int v1)]) hx hb dX3_playsDukes_1 rfl hl (by decide) rfl (fun ls hl => ?_)
  refine lv_aload_n hx hb dX3_playsDukes_2 rfl (lv_at hl 1 rfl) ?_
  obtain ⟨σ_2, h_1, hf⟩ := bd_e hf
  refine k_keepsAll X hW had h_1 (by decide) hl (Nat.le_of_ble_eq_true rfl) dX3_playsDukes_3 (fun H locs hW => ?_)
  refine lv_aload_n hx hb dX3_playsDukes_6 rfl (lv_at hl 1 rfl) ?_
  refine lv_iconst (v := 0) hx hb dX3_playsDukes_7 (by decide) ?_
  refine lv_iconst (v := 0) hx hb dX3_playsDukes_8 (by decide) ?_
  obtain ⟨σ_4, h_3, hf⟩ := bd_e hf
  refine k_movesDuke X hW had h_3 (by decide) hl (Nat.le_of_ble_eq_true rfl) dX3_playsDukes_9 (fun H locs hW => ?_)
  refine lv_aload_n hx hb dX3_playsDukes_12 rfl (lv_at hl 1 rfl) ?_
  refine mg_57 X hW dX3_playsDukes_13 ?_
  refine lv_iconst (v := 0) hx hb dX3_playsDukes_16 (by decide) ?_
  refine lv_bipush (v := (-2)) hx hb dX3_playsDukes_17 (by decide) ?_
  refine ms_57 X hW (by decide) dX3_playsDukes_19 (fun H locs hW => ?_)
  refine lv_aload_n hx hb dX3_playsDukes_20 rfl (lv_at hl 1 rfl) ?_
  refine mg_58 X hW dX3_playsDukes_21 ?_
  refine lv_iconst (v := 0) hx hb dX3_playsDukes_24 (by decide) ?_
  refine lv_sipush (v := 1000) hx hb dX3_playsDukes_25 (by decide) ?_
  obtain ⟨σ_5, e_6, hf⟩ := nmb_e hf
  rw [← e_6] at hW
  clear e_6
  refine ms_58 X hW (by decide) dX3_playsDukes_28 (fun H locs hW => ?_)
  refine lv_aload_n hx hb dX3_playsDukes_29 rfl (lv_at hl 1 rfl) ?_
  refine lv_iconst (v := (-1)) hx hb dX3_playsDukes_30 (by decide) ?_
  obtain ⟨σ_7, e_8, hf⟩ := nmb_e hf
  rw [← e_8] at hW
  clear e_8
  refine mp_59 X hW dX3_playsDukes_31 (fun H locs hW => ?_)
  refine wm_playsDukes_34 X had (fun σ_35 H locs ls hW hl hf => ?_) _ _ _ _ _ _ hW (lv_sub hl [1, 2, 0] rfl) hf
  refine lv_aload_n hx hb dX3_playsDukes_179 rfl (lv_at hl 0 rfl) ?_
  obtain ⟨σ_37, h_36, hf⟩ := bd_e hf
  refine k_laysBack X hW had h_36 (by decide) hl (Nat.le_of_ble_eq_true rfl) dX3_playsDukes_180 (fun H locs hW => ?_)
  refine lv_aload_n hx hb dX3_playsDukes_183 rfl (lv_at hl 0 rfl) ?_
  refine mg_58 X hW dX3_playsDukes_184 ?_
  refine lv_iconst (v := 0) hx hb dX3_playsDukes_187 (by decide) ?_
  refine ml_58 X hW (by decide) dX3_playsDukes_188 ?_
  exact m_iret X hW hf dX3_playsDukes_189
theorem w_playsDukes (l : Launch) {g : gG} {ad : Nat → Nat} (had : mI ad) {σr : cS} {r : Int32} {σ : cS} {v1 : Int32}  (hf : m_playsDukes σ v1 = some (σr, r)) : MM l yX3_playsDukes cX3_playsDukes 3 (some .int) 9 198 g ad σ σr [.ref (ad 999), .int v1] (some (.int r)) :=
  MC.of (by decide) mIds_nd had (Nat.le_of_ble_eq_true rfl) (fun p e s m below meth c A ls X hW hl => wb_playsDukes X had hW hl hf)
theorem k_playsDukes {p : Program} {l : Launch} {e : Env} {R : Room} {s : State} {m : MethodId} {args : Array Value} {below : List Frame} {meth : Method} {c : Code} {H : Heap} {locs : List Loc} {Q : State → Prop} {cc : ByteArray} {nL : Nat} {ret : Option FieldType} {g : gG} {A : Nat → Prop} {ad : Nat → Nat} {pc : Nat} {ls : Array Slot} {rest : List Value} {lv : List (Nat × Value)} {σr : cS} {r : Int32} {σ : cS} {v1 : Int32} (X : MX p s m args meth c cc nL RX3 ret g A) (hW : WB g A s.heap mIds ad (mE g ad σ) H locs) (had : mI ad)  (hf : m_playsDukes σ v1 = some (σr, r)) (hR : 10 ≤ R.frames ∧ 220 ≤ R.locals) (hl : lv_has ls nL lv) (hcat : (rest.map fun v => v.category).sum ≤ 8) (hdg : decode cc pc = .ok (.invokevirtual 528, 3)) (kk : ∀ (H1 : Heap) (l1 : List Loc), WB g A s.heap mIds ad (mE g ad σr) H1 l1 → W p l e R s m args below meth c H1 l1 0 0 Q (F0 m (pc + 3) ls (.int r :: rest))) : W p l e R s m args below meth c H locs 0 0 Q (F0 m pc ls (.int v1 :: .ref (ad 999) :: rest)) :=
  r_callV X hW Sub.all (w_playsDukes l had hf) (lw_V q1736 q1738 qs108 q126 q1739) ⟨rfl, by decide, by decide, by decide +kernel⟩ m_999 mE_o rfl (n := 1) hR hl rfl rfl hcat ⟨Nat.zero_le _, Nat.zero_le _⟩ hdg kk
-- dukes
noncomputable def m_dukes (σ : cS) (v1 : Int32) (v2 : Int32) : Option (cS × Int32) :=
  ((m_isStrip σ).bind fun r_2 => if r_2 = 0 then (some (σ, (-100))) else (((m_in v1.toInt64 1 4).bind fun r_5 => if r_5 = 0 then (some (σ, (-100))) else (((m_in v2.toInt64 0 1).bind fun r_8 => if r_8 = 0 then (some (σ, (-100))) else (((m_playsDukes σ v1).bind fun (σ_12, r_11) => if v2 = 0 then (some (σ_12, r_11)) else (some (σ_12, (σ_12.1 999 59))))))))))
set_option maxHeartbeats 4000000 in
theorem wb_dukes {p : Program} {l : Launch} {e : Env} {s : State} {m : MethodId} {args : Array Value} {below : List Frame} {meth : Method} {c : Code} {g : gG} {A : Nat → Prop} {ad : Nat → Nat} (X : MX p s m args meth c cX3_dukes 4 RX3 (some .int) g A) (had : mI ad) {σr : cS} {r : Int32} {σ : cS} {v1 : Int32} {v2 : Int32}  {H : Heap} {locs : List Loc} {ls : Array Slot} (hW : WB g A s.heap mIds ad (mE g ad σ) H locs) (hl : lv_has ls 4 [(0, .ref (ad 999)), (1, .int v1), (2, .int v2)]) (hf : m_dukes σ v1 v2 = some (σr, r)) : W p l e (rm_ 10 220) s m args below meth c H locs 0 0 (Qm below g mIds ad (mE g ad σr) (some (.int r)) A args s) (F0 m 0 ls []) := by
  have hx := X.1.1
  have hb := X.1.2.1
  unfold m_dukes at hf
  refine lv_aload_n hx hb dX3_dukes_0 rfl (lv_at hl 0 rfl) ?_
  obtain ⟨r_2, h_1, hf⟩ := bd_e hf
  refine k_isStrip X hW had h_1 (by decide) hl (Nat.le_of_ble_eq_true rfl) dX3_dukes_1 (fun H locs hW => ?_)
  refine lv_if_eq (tgt := 29) hx hb dX3_dukes_4 (by decide) (fun c_3 => ?_) (fun c_3 => ?_)
  · replace hf := ip hf c_3
    refine lv_bipush (v := (-100)) hx hb dX3_dukes_29 (by decide) ?_
    exact m_iret X hW hf dX3_dukes_31
  · replace hf := ine hf c_3
    refine lv_iload_n hx hb dX3_dukes_7 rfl (lv_at hl 1 rfl) ?_
    refine lv_i2l (v := v1.toInt64) hx hb dX3_dukes_8 rfl ?_
    refine lv_lconst (v := 1) hx hb dX3_dukes_9 (by decide) ?_
    refine lv_ldc2 (v := 4) hx hb X.1.2.2.2.1 (X.1.2.2.2.2 _ q1646) dX3_dukes_10 ?_
    obtain ⟨r_5, h_4, hf⟩ := bd_e hf
    refine k_in X hW h_4 (by decide) hl (Nat.le_of_ble_eq_true rfl) dX3_dukes_13 (fun H locs hW => ?_)
    refine lv_if_eq (tgt := 29) hx hb dX3_dukes_16 (by decide) (fun c_6 => ?_) (fun c_6 => ?_)
    · replace hf := ip hf c_6
      refine lv_bipush (v := (-100)) hx hb dX3_dukes_29 (by decide) ?_
      exact m_iret X hW hf dX3_dukes_31
    · replace hf := ine hf c_6
      refine lv_iload_n hx hb dX3_dukes_19 rfl (lv_at hl 2 rfl) ?_
      refine lv_i2l (v := v2.toInt64) hx hb dX3_dukes_20 rfl ?_
      refine lv_lconst (v := 0) hx hb dX3_dukes_21 (by decide) ?_
      refine lv_lconst (v := 1) hx hb dX3_dukes_22 (by decide) ?_
      obtain ⟨r_8, h_7, hf⟩ := bd_e hf
      refine k_in X hW h_7 (by decide) hl (Nat.le_of_ble_eq_true rfl) dX3_dukes_23 (fun H locs hW => ?_)
      refine lv_if_ne (tgt := 32) hx hb dX3_dukes_26 (by decide) (fun c_9 => ?_) (fun c_9 => ?_)
      · replace hf := ine hf c_9
        refine lv_aload_n hx hb dX3_dukes_32 rfl (lv_at hl 0 rfl) ?_
        refine lv_iload_n hx hb dX3_dukes_33 rfl (lv_at hl 1 rfl) ?_
        obtain ⟨⟨σ_12, r_11⟩, h_10, hf⟩ := bd_e hf
        refine k_playsDukes X hW had h_10 (by decide) hl (Nat.le_of_ble_eq_true rfl) dX3_dukes_34 (fun H locs hW => ?_)
        refine lv_istore_n (lv' := [(3, .int r_11), (0, .ref (ad 999)), (1, .int v1), (2, .int v2)]) hx hb dX3_dukes_37 rfl hl (by decide) rfl (fun ls hl => ?_)
        refine lv_iload_n hx hb dX3_dukes_38 rfl (lv_at hl 3 rfl) ?_
        refine lv_if_ne (tgt := 46) hx hb dX3_dukes_39 (by decide) (fun c_13 => ?_) (fun c_13 => ?_)
        · replace hf := ine hf c_13
          refine lv_aload_n hx hb dX3_dukes_46 rfl (lv_at hl 1 rfl) ?_
          refine mg_59 X hW dX3_dukes_47 ?_
          exact m_iret X hW hf dX3_dukes_50
        · replace hf := ip hf c_13
          refine lv_iload_n hx hb dX3_dukes_42 rfl (lv_at hl 0 rfl) ?_
          refine lv_goto (tgt := 50) hx hb dX3_dukes_43 (by decide) ?_
          exact m_iret X hW hf dX3_dukes_50
      · replace hf := ip hf c_9
        refine lv_bipush (v := (-100)) hx hb dX3_dukes_29 (by decide) ?_
        exact m_iret X hW hf dX3_dukes_31
theorem w_dukes (l : Launch) {g : gG} {ad : Nat → Nat} (had : mI ad) {σr : cS} {r : Int32} {σ : cS} {v1 : Int32} {v2 : Int32}  (hf : m_dukes σ v1 v2 = some (σr, r)) : MM l yX3_dukes cX3_dukes 4 (some .int) 10 220 g ad σ σr [.ref (ad 999), .int v1, .int v2] (some (.int r)) :=
  MC.of (by decide) mIds_nd had (Nat.le_of_ble_eq_true rfl) (fun p e s m below meth c A ls X hW hl => wb_dukes X had hW hl hf)
-- log
noncomputable def m_log (σ : cS) (v1 : Int32) (v2 : Int32) (v3 : Int32) : Option (cS × Int32) :=
  if v1 = (-1) then (some ((si σ 1 (ix 6) 0), 0)) else (((m_in v1.toInt64 0 30).bind fun r_3 => if r_3 = 0 then (some (σ, (-2))) else (((m_isMile σ v2).bind fun r_6 => if r_6 = 0 then (some (σ, (-2))) else (((m_in v3.toInt64 0 99).bind fun r_9 => if r_9 = 0 then (some (σ, (-2))) else (if (σ.1 1 (ix 6)) = 10 then (some (σ, (-2))) else (gd (inb (σ.1 1 (ix 6)) 10) (nmb (si σ 12 (ix (σ.1 1 (ix 6))) v1) fun σ_13 => (nmb (si σ_13 13 (ix (σ.1 1 (ix 6))) v2) fun σ_15 => (nmb (si σ_15 14 (ix (σ.1 1 (ix 6))) v3) fun σ_17 => (some ((si σ_17 1 (ix 6) (((si σ_15 14 (ix (σ.1 1 (ix 6))) v3).1 1 (ix 6)) + 1)), ((σ.1 1 (ix 6)) + 1))))))))))))))
set_option maxHeartbeats 4000000 in
theorem wb_log {p : Program} {l : Launch} {e : Env} {s : State} {m : MethodId} {args : Array Value} {below : List Frame} {meth : Method} {c : Code} {g : gG} {A : Nat → Prop} {ad : Nat → Nat} (X : MX p s m args meth c cX3_log 5 RX3 (some .int) g A) (had : mI ad) {σr : cS} {r : Int32} {σ : cS} {v1 : Int32} {v2 : Int32} {v3 : Int32}  {H : Heap} {locs : List Loc} {ls : Array Slot} (hW : WB g A s.heap mIds ad (mE g ad σ) H locs) (hl : lv_has ls 5 [(0, .ref (ad 999)), (1, .int v1), (2, .int v2), (3, .int v3)]) (hf : m_log σ v1 v2 v3 = some (σr, r)) : W p l e (rm_ 3 66) s m args below meth c H locs 0 0 (Qm below g mIds ad (mE g ad σr) (some (.int r)) A args s) (F0 m 0 ls []) := by
  have hx := X.1.1
  have hb := X.1.2.1
  unfold m_log at hf
  refine lv_iload_n hx hb dX3_log_0 rfl (lv_at hl 1 rfl) ?_
  refine lv_iconst (v := (-1)) hx hb dX3_log_1 (by decide) ?_
  refine lv_icmp_ne (tgt := 15) hx hb dX3_log_2 (by decide) (fun c_1 => ?_) (fun c_1 => ?_)
  · replace hf := ine hf c_1
    refine lv_aload_n hx hb dX3_log_15 rfl (lv_at hl 0 rfl) ?_
    refine mg_1 X hW dX3_log_16 ?_
    refine lv_bipush (v := 6) hx hb dX3_log_19 (by decide) ?_
    refine ml_1 X hW (by decide) dX3_log_21 ?_
    refine lv_istore (lv' := [(4, .int (σ.1 1 (ix 6))), (0, .ref (ad 999)), (1, .int v1), (2, .int v2), (3, .int v3)]) hx hb dX3_log_22 hl (by decide) rfl (fun ls hl => ?_)
    refine lv_iload_n hx hb dX3_log_24 rfl (lv_at hl 2 rfl) ?_
    refine lv_i2l (v := v1.toInt64) hx hb dX3_log_25 rfl ?_
    refine lv_lconst (v := 0) hx hb dX3_log_26 (by decide) ?_
    refine lv_ldc2 (v := 30) hx hb X.1.2.2.2.1 (X.1.2.2.2.2 _ q1770) dX3_log_27 ?_
    obtain ⟨r_3, h_2, hf⟩ := bd_e hf
    refine k_in X hW h_2 (by decide) hl (Nat.le_of_ble_eq_true rfl) dX3_log_30 (fun H locs hW => ?_)
    refine lv_if_eq (tgt := 63) hx hb dX3_log_33 (by decide) (fun c_4 => ?_) (fun c_4 => ?_)
    · replace hf := ip hf c_4
      refine lv_bipush (v := (-2)) hx hb dX3_log_63 (by decide) ?_
      exact m_iret X hW hf dX3_log_65
    · replace hf := ine hf c_4
      refine lv_aload_n hx hb dX3_log_36 rfl (lv_at hl 1 rfl) ?_
      refine lv_iload_n hx hb dX3_log_37 rfl (lv_at hl 3 rfl) ?_
      obtain ⟨r_6, h_5, hf⟩ := bd_e hf
      refine k_isMile X hW had h_5 (by decide) hl (Nat.le_of_ble_eq_true rfl) dX3_log_38 (fun H locs hW => ?_)
      refine lv_if_eq (tgt := 63) hx hb dX3_log_41 (by decide) (fun c_7 => ?_) (fun c_7 => ?_)
      · replace hf := ip hf c_7
        refine lv_bipush (v := (-2)) hx hb dX3_log_63 (by decide) ?_
        exact m_iret X hW hf dX3_log_65
      · replace hf := ine hf c_7
        refine lv_iload_n hx hb dX3_log_44 rfl (lv_at hl 4 rfl) ?_
        refine lv_i2l (v := v3.toInt64) hx hb dX3_log_45 rfl ?_
        refine lv_lconst (v := 0) hx hb dX3_log_46 (by decide) ?_
        refine lv_ldc2 (v := 99) hx hb X.1.2.2.2.1 (X.1.2.2.2.2 _ q1677) dX3_log_47 ?_
        obtain ⟨r_9, h_8, hf⟩ := bd_e hf
        refine k_in X hW h_8 (by decide) hl (Nat.le_of_ble_eq_true rfl) dX3_log_50 (fun H locs hW => ?_)
        refine lv_if_eq (tgt := 63) hx hb dX3_log_53 (by decide) (fun c_10 => ?_) (fun c_10 => ?_)
        · replace hf := ip hf c_10
          refine lv_bipush (v := (-2)) hx hb dX3_log_63 (by decide) ?_
          exact m_iret X hW hf dX3_log_65
        · replace hf := ine hf c_10
          refine lv_iload hx hb dX3_log_56 (lv_at hl 0 rfl) ?_
          refine lv_bipush (v := 10) hx hb dX3_log_58 (by decide) ?_
          refine lv_icmp_ne (tgt := 66) hx hb dX3_log_60 (by decide) (fun c_11 => ?_) (fun c_11 => ?_)
          · replace hf := ine hf c_11
            refine lv_aload_n hx hb dX3_log_66 rfl (lv_at hl 1 rfl) ?_
            refine mg_12 X hW dX3_log_67 ?_
            refine lv_iload hx hb dX3_log_70 (lv_at hl 0 rfl) ?_
            refine lv_iload_n hx hb dX3_log_72 rfl (lv_at hl 2 rfl) ?_
            obtain ⟨h_12, hf⟩ := gd_e hf
            refine ms_12 X hW h_12 dX3_log_73 (fun H locs hW => ?_)
            refine lv_aload_n hx hb dX3_log_74 rfl (lv_at hl 1 rfl) ?_
            refine mg_13 X hW dX3_log_75 ?_
            refine lv_iload hx hb dX3_log_78 (lv_at hl 0 rfl) ?_
            refine lv_iload_n hx hb dX3_log_80 rfl (lv_at hl 3 rfl) ?_
            obtain ⟨σ_13, e_14, hf⟩ := nmb_e hf
            rw [← e_14] at hW
            clear e_14
            refine ms_13 X hW h_12 dX3_log_81 (fun H locs hW => ?_)
            refine lv_aload_n hx hb dX3_log_82 rfl (lv_at hl 1 rfl) ?_
            refine mg_14 X hW dX3_log_83 ?_
            refine lv_iload hx hb dX3_log_86 (lv_at hl 0 rfl) ?_
            refine lv_iload_n hx hb dX3_log_88 rfl (lv_at hl 4 rfl) ?_
            obtain ⟨σ_15, e_16, hf⟩ := nmb_e hf
            rw [← e_16] at hW
            clear e_16
            refine ms_14 X hW h_12 dX3_log_89 (fun H locs hW => ?_)
            refine lv_aload_n hx hb dX3_log_90 rfl (lv_at hl 1 rfl) ?_
            refine mg_1 X hW dX3_log_91 ?_
            refine lv_bipush (v := 6) hx hb dX3_log_94 (by decide) ?_
            refine lv_dup2_11 hx hb dX3_log_96 rfl rfl ?_
            refine ml_1 X hW (by decide) dX3_log_97 ?_
            refine lv_iconst (v := 1) hx hb dX3_log_98 (by decide) ?_
            refine lv_iadd hx hb dX3_log_99 ?_
            obtain ⟨σ_17, e_18, hf⟩ := nmb_e hf
            rw [← e_18] at hW
            clear e_18
            refine ms_1 X hW (by decide) dX3_log_100 (fun H locs hW => ?_)
            refine lv_iload hx hb dX3_log_101 (lv_at hl 0 rfl) ?_
            refine lv_iconst (v := 1) hx hb dX3_log_103 (by decide) ?_
            refine lv_iadd hx hb dX3_log_104 ?_
            exact m_iret X hW hf dX3_log_105
          · replace hf := ip hf c_11
            refine lv_bipush (v := (-2)) hx hb dX3_log_63 (by decide) ?_
            exact m_iret X hW hf dX3_log_65
  · replace hf := ip hf c_1
    refine lv_aload_n hx hb dX3_log_5 rfl (lv_at hl 0 rfl) ?_
    refine mg_1 X hW dX3_log_6 ?_
    refine lv_bipush (v := 6) hx hb dX3_log_9 (by decide) ?_
    refine lv_iconst (v := 0) hx hb dX3_log_11 (by decide) ?_
    refine ms_1 X hW (by decide) dX3_log_12 (fun H locs hW => ?_)
    refine lv_iconst (v := 0) hx hb dX3_log_13 (by decide) ?_
    exact m_iret X hW hf dX3_log_14
theorem w_log (l : Launch) {g : gG} {ad : Nat → Nat} (had : mI ad) {σr : cS} {r : Int32} {σ : cS} {v1 : Int32} {v2 : Int32} {v3 : Int32}  (hf : m_log σ v1 v2 v3 = some (σr, r)) : MM l yX3_log cX3_log 5 (some .int) 3 66 g ad σ σr [.ref (ad 999), .int v1, .int v2, .int v3] (some (.int r)) :=
  MC.of (by decide) mIds_nd had (Nat.le_of_ble_eq_true rfl) (fun p e s m below meth c A ls X hW hl => wb_log X had hW hl hf)
-- laysCourse
noncomputable def m_laysCourse_11 {ρ : Type} (v1 : Int32) (v2 : Int32) (v3 : Int32) (v4 : Int32) (K : cS → Option ρ) : Nat → cS → Int32 → Int32 → Option ρ
  | 0, _, _, _ => none
  | n + 1, σ, v5, v6 => if 30 < v6 then (K σ) else (((if v1 = v2 then (if v6 = v3 then (((if v5 < v4 then (some (0)) else (((m_has (σ.1 16 (ix 0)) v1).bind fun r_22 => if r_22 = 0 then (some (1)) else (some (0)))) : Option (Int32)).bind fun t_17 => (gd (zb t_17) (some ((si σ 999 61 t_17), (v5 - v4)))))) else (some (σ, v5))) else (some (σ, v5)) : Option (cS × Int32)).bind fun (σ_3, v_4) => (gd (inb ((31 * v1) + v6) 310) (((m_has ((si σ_3 60 (ix ((31 * v1) + v6)) v_4).1 16 (ix 0)) v1).bind fun r_8 => ((if r_8 = 0 then (((m_warmthOf (si σ_3 60 (ix ((31 * v1) + v6)) v_4) v6).bind fun r_14 => some ((v_4 + r_14)))) else (some (v_4)) : Option (Int32)).bind fun t_9 => (if t_9 ≤ 99 then (m_laysCourse_11 v1 v2 v3 v4 K n (si σ_3 60 (ix ((31 * v1) + v6)) v_4) t_9 (v6 + 1)) else (m_laysCourse_11 v1 v2 v3 v4 K n (si σ_3 60 (ix ((31 * v1) + v6)) v_4) 99 (v6 + 1)))))))))
set_option maxHeartbeats 4000000 in
theorem wm_laysCourse_11 {p : Program} {l : Launch} {e : Env} {s : State} {m : MethodId} {args : Array Value} {below : List Frame} {meth : Method} {c : Code} {g : gG} {A : Nat → Prop} {ad : Nat → Nat} (X : MX p s m args meth c cX3_laysCourse 8 RX3 none g A) (had : mI ad) {ρ : Type} {res : ρ} {Q : State → Prop} {v1 : Int32} {v2 : Int32} {v3 : Int32} {v4 : Int32}  {K : cS → Option ρ}
    (hK : ∀ (σ : cS) (H : Heap) (locs : List Loc) (ls : Array Slot), WB g A s.heap mIds ad (mE g ad σ) H locs → lv_has ls 8 [] → K σ = some res → W p l e (rm_ 2 41) s m args below meth c H locs 0 0 Q (F0 m 130 ls [])) :
    ∀ (n : Nat) (σ : cS) (v5 : Int32) (v6 : Int32) (H : Heap) (locs : List Loc) (ls : Array Slot), WB g A s.heap mIds ad (mE g ad σ) H locs → lv_has ls 8 [(0, .ref (ad 999)), (1, .int v1), (2, .int v2), (3, .int v3), (4, .int v4), (5, .int v5), (6, .int v6)] → m_laysCourse_11 v1 v2 v3 v4 K n σ v5 v6 = some res → W p l e (rm_ 2 41) s m args below meth c H locs 0 0 Q (F0 m 11 ls []) := by
  have hx := X.1.1
  have hb := X.1.2.1
  intro n
  induction n with
  | zero =>
    intro σ v5 v6 H locs ls hW hl hf
    rw [m_laysCourse_11] at hf
    cases hf
  | succ n ih =>
    intro σ v5 v6 H locs ls hW hl hf
    rw [m_laysCourse_11] at hf
    refine lv_iload hx hb dX3_laysCourse_11 (lv_at hl 6 rfl) ?_
    refine lv_bipush (v := 30) hx hb dX3_laysCourse_13 (by decide) ?_
    refine lv_icmp_gt (tgt := 130) hx hb dX3_laysCourse_15 (by decide) (fun c_2 => ?_) (fun c_2 => ?_)
    · replace hf := ip hf c_2
      exact hK _ _ _ _ hW (lv_sub hl [] rfl) hf
    · replace hf := ine hf c_2
      refine lv_iload_n hx hb dX3_laysCourse_18 rfl (lv_at hl 1 rfl) ?_
      refine lv_iload_n hx hb dX3_laysCourse_19 rfl (lv_at hl 2 rfl) ?_
      obtain ⟨⟨σ_3, v_4⟩, hD_5, hf⟩ := bd_e hf
      have hJ : ∀ (H : Heap) (locs : List Loc) (ls : Array Slot), WB g A s.heap mIds ad (mE g ad σ_3) H locs → lv_has ls 8 [(0, .ref (ad 999)), (1, .int v1), (2, .int v2), (3, .int v3), (4, .int v4), (5, .int v_4), (6, .int v6)] → W p l e (rm_ 2 41) s m args below meth c H locs 0 0 Q (F0 m 65 ls []) := by
        intro H locs ls hW hl
        refine lv_aload_n hx hb dX3_laysCourse_65 rfl (lv_at hl 0 rfl) ?_
        refine mg_60 X hW dX3_laysCourse_66 ?_
        refine lv_bipush (v := 31) hx hb dX3_laysCourse_69 (by decide) ?_
        refine lv_iload_n hx hb dX3_laysCourse_71 rfl (lv_at hl 1 rfl) ?_
        refine lv_imul hx hb dX3_laysCourse_72 ?_
        refine lv_iload hx hb dX3_laysCourse_73 (lv_at hl 6 rfl) ?_
        refine lv_iadd hx hb dX3_laysCourse_75 ?_
        refine lv_iload hx hb dX3_laysCourse_76 (lv_at hl 5 rfl) ?_
        obtain ⟨h_6, hf⟩ := gd_e hf
        refine ms_60 X hW h_6 dX3_laysCourse_78 (fun H locs hW => ?_)
        refine lv_aload_n hx hb dX3_laysCourse_79 rfl (lv_at hl 0 rfl) ?_
        refine mg_16 X hW dX3_laysCourse_80 ?_
        refine lv_iconst (v := 0) hx hb dX3_laysCourse_83 (by decide) ?_
        refine ml_16 X hW (by decide) dX3_laysCourse_84 ?_
        refine lv_iload_n hx hb dX3_laysCourse_85 rfl (lv_at hl 1 rfl) ?_
        obtain ⟨r_8, h_7, hf⟩ := bd_e hf
        refine k_has X hW h_7 (by decide) hl (Nat.le_of_ble_eq_true rfl) dX3_laysCourse_86 (fun H locs hW => ?_)
        obtain ⟨t_9, hD_10, hf⟩ := bd_e hf
        have hJ : ∀ (H : Heap) (locs : List Loc) (ls : Array Slot), WB g A s.heap mIds ad (mE g ad (si σ_3 60 (ix ((31 * v1) + v6)) v_4)) H locs → lv_has ls 8 [(0, .ref (ad 999)), (1, .int v1), (2, .int v2), (3, .int v3), (4, .int v4), (6, .int v6)] → W p l e (rm_ 2 41) s m args below meth c H locs 0 0 Q (F0 m 106 ls [.int t_9]) := by
          intro H locs ls hW hl
          refine lv_istore (lv' := [(7, .int t_9), (0, .ref (ad 999)), (1, .int v1), (2, .int v2), (3, .int v3), (4, .int v4), (6, .int v6)]) hx hb dX3_laysCourse_106 hl (by decide) rfl (fun ls hl => ?_)
          refine lv_iload hx hb dX3_laysCourse_108 (lv_at hl 0 rfl) ?_
          refine lv_bipush (v := 99) hx hb dX3_laysCourse_110 (by decide) ?_
          refine lv_icmp_le (tgt := 120) hx hb dX3_laysCourse_112 (by decide) (fun c_11 => ?_) (fun c_11 => ?_)
          · replace hf := ip hf c_11
            refine lv_iload hx hb dX3_laysCourse_120 (lv_at hl 0 rfl) ?_
            refine lv_istore (lv' := [(5, .int t_9), (7, .int t_9), (0, .ref (ad 999)), (1, .int v1), (2, .int v2), (3, .int v3), (4, .int v4), (6, .int v6)]) hx hb dX3_laysCourse_122 hl (by decide) rfl (fun ls hl => ?_)
            refine lv_iinc (v := (v6 + 1)) (lv' := [(6, .int (v6 + 1)), (5, .int t_9), (7, .int t_9), (0, .ref (ad 999)), (1, .int v1), (2, .int v2), (3, .int v3), (4, .int v4)]) hx hb dX3_laysCourse_124 hl (k := 7) rfl (ii_v _ _ _ (by decide)) (by decide) rfl (fun ls hl => ?_)
            refine lv_goto (tgt := 11) hx hb dX3_laysCourse_127 (by decide) ?_
            exact ih _ _ _ _ _ _ hW (lv_sub hl [3, 4, 5, 6, 7, 1, 0] rfl) hf
          · replace hf := ine hf c_11
            refine lv_bipush (v := 99) hx hb dX3_laysCourse_115 (by decide) ?_
            refine lv_goto (tgt := 122) hx hb dX3_laysCourse_117 (by decide) ?_
            refine lv_istore (lv' := [(5, .int 99), (7, .int t_9), (0, .ref (ad 999)), (1, .int v1), (2, .int v2), (3, .int v3), (4, .int v4), (6, .int v6)]) hx hb dX3_laysCourse_122 hl (by decide) rfl (fun ls hl => ?_)
            refine lv_iinc (v := (v6 + 1)) (lv' := [(6, .int (v6 + 1)), (5, .int 99), (7, .int t_9), (0, .ref (ad 999)), (1, .int v1), (2, .int v2), (3, .int v3), (4, .int v4)]) hx hb dX3_laysCourse_124 hl (k := 7) rfl (ii_v _ _ _ (by decide)) (by decide) rfl (fun ls hl => ?_)
            refine lv_goto (tgt := 11) hx hb dX3_laysCourse_127 (by decide) ?_
            exact ih _ _ _ _ _ _ hW (lv_sub hl [3, 4, 5, 6, 7, 1, 0] rfl) hf
        clear hf
        refine lv_if_eq (tgt := 97) hx hb dX3_laysCourse_89 (by decide) (fun c_12 => ?_) (fun c_12 => ?_)
        · replace hD_10 := ip hD_10 c_12
          refine lv_iload hx hb dX3_laysCourse_97 (lv_at hl 5 rfl) ?_
          refine lv_aload_n hx hb dX3_laysCourse_99 rfl (lv_at hl 0 rfl) ?_
          refine lv_iload hx hb dX3_laysCourse_100 (lv_at hl 6 rfl) ?_
          obtain ⟨r_14, h_13, hD_10⟩ := bd_e hD_10
          refine k_warmthOf X hW had h_13 (by decide) hl (Nat.le_of_ble_eq_true rfl) dX3_laysCourse_102 (fun H locs hW => ?_)
          refine lv_iadd hx hb dX3_laysCourse_105 ?_
          cases hD_10
          exact hJ _ _ _ hW (lv_sub hl [0, 1, 2, 3, 4, 6] rfl)
        · replace hD_10 := ine hD_10 c_12
          refine lv_iload hx hb dX3_laysCourse_92 (lv_at hl 5 rfl) ?_
          refine lv_goto (tgt := 106) hx hb dX3_laysCourse_94 (by decide) ?_
          cases hD_10
          exact hJ _ _ _ hW (lv_sub hl [0, 1, 2, 3, 4, 6] rfl)
      clear hf
      refine lv_icmp_ne (tgt := 65) hx hb dX3_laysCourse_20 (by decide) (fun c_15 => ?_) (fun c_15 => ?_)
      · replace hD_5 := ine hD_5 c_15
        cases hD_5
        exact hJ _ _ _ hW (lv_sub hl [0, 1, 2, 3, 4, 5, 6] rfl)
      · replace hD_5 := ip hD_5 c_15
        refine lv_iload hx hb dX3_laysCourse_23 (lv_at hl 6 rfl) ?_
        refine lv_iload_n hx hb dX3_laysCourse_25 rfl (lv_at hl 3 rfl) ?_
        refine lv_icmp_ne (tgt := 65) hx hb dX3_laysCourse_26 (by decide) (fun c_16 => ?_) (fun c_16 => ?_)
        · replace hD_5 := ine hD_5 c_16
          cases hD_5
          exact hJ _ _ _ hW (lv_sub hl [0, 1, 2, 3, 4, 5, 6] rfl)
        · replace hD_5 := ip hD_5 c_16
          refine lv_aload_n hx hb dX3_laysCourse_29 rfl (lv_at hl 0 rfl) ?_
          refine lv_iload hx hb dX3_laysCourse_30 (lv_at hl 5 rfl) ?_
          refine lv_iload hx hb dX3_laysCourse_32 (lv_at hl 4 rfl) ?_
          obtain ⟨t_17, hD_18, hD_5⟩ := bd_e hD_5
          have hJ : ∀ (H : Heap) (locs : List Loc) (ls : Array Slot), WB g A s.heap mIds ad (mE g ad σ) H locs → lv_has ls 8 [(0, .ref (ad 999)), (1, .int v1), (2, .int v2), (3, .int v3), (4, .int v4), (5, .int v5), (6, .int v6)] → W p l e (rm_ 2 41) s m args below meth c H locs 0 0 Q (F0 m 55 ls [.int t_17, .ref (ad 999)]) := by
            intro H locs ls hW hl
            obtain ⟨h_19, hD_5⟩ := gd_e hD_5
            refine mp_61 X hW h_19 dX3_laysCourse_55 (fun H locs hW => ?_)
            refine lv_iload hx hb dX3_laysCourse_58 (lv_at hl 5 rfl) ?_
            refine lv_iload hx hb dX3_laysCourse_60 (lv_at hl 4 rfl) ?_
            refine lv_isub hx hb dX3_laysCourse_62 ?_
            refine lv_istore (lv' := [(5, .int (v5 - v4)), (0, .ref (ad 999)), (1, .int v1), (2, .int v2), (3, .int v3), (4, .int v4), (6, .int v6)]) hx hb dX3_laysCourse_63 hl (by decide) rfl (fun ls hl => ?_)
            cases hD_5
            exact hJ _ _ _ hW (lv_sub hl [1, 2, 3, 4, 5, 0, 6] rfl)
          clear hD_5
          refine lv_icmp_lt (tgt := 54) hx hb dX3_laysCourse_34 (by decide) (fun c_20 => ?_) (fun c_20 => ?_)
          · replace hD_18 := ip hD_18 c_20
            refine lv_iconst (v := 0) hx hb dX3_laysCourse_54 (by decide) ?_
            cases hD_18
            exact hJ _ _ _ hW (lv_sub hl [0, 1, 2, 3, 4, 5, 6] rfl)
          · replace hD_18 := ine hD_18 c_20
            refine lv_aload_n hx hb dX3_laysCourse_37 rfl (lv_at hl 0 rfl) ?_
            refine mg_16 X hW dX3_laysCourse_38 ?_
            refine lv_iconst (v := 0) hx hb dX3_laysCourse_41 (by decide) ?_
            refine ml_16 X hW (by decide) dX3_laysCourse_42 ?_
            refine lv_iload_n hx hb dX3_laysCourse_43 rfl (lv_at hl 1 rfl) ?_
            obtain ⟨r_22, h_21, hD_18⟩ := bd_e hD_18
            refine k_has X hW h_21 (by decide) hl (Nat.le_of_ble_eq_true rfl) dX3_laysCourse_44 (fun H locs hW => ?_)
            refine lv_if_ne (tgt := 54) hx hb dX3_laysCourse_47 (by decide) (fun c_23 => ?_) (fun c_23 => ?_)
            · replace hD_18 := ine hD_18 c_23
              refine lv_iconst (v := 0) hx hb dX3_laysCourse_54 (by decide) ?_
              cases hD_18
              exact hJ _ _ _ hW (lv_sub hl [0, 1, 2, 3, 4, 5, 6] rfl)
            · replace hD_18 := ip hD_18 c_23
              refine lv_iconst (v := 1) hx hb dX3_laysCourse_50 (by decide) ?_
              refine lv_goto (tgt := 55) hx hb dX3_laysCourse_51 (by decide) ?_
              cases hD_18
              exact hJ _ _ _ hW (lv_sub hl [0, 1, 2, 3, 4, 5, 6] rfl)
noncomputable def m_laysCourse (σ : cS) (v1 : Int32) (v2 : Int32) (v3 : Int32) (v4 : Int32) : Option (cS) :=
  gd (inb v1 10) (m_laysCourse_11 v1 v2 v3 v4 (fun σ_24 => (some σ_24)) FU σ (σ.1 15 (ix v1)) 0)
set_option maxHeartbeats 4000000 in
theorem wb_laysCourse {p : Program} {l : Launch} {e : Env} {s : State} {m : MethodId} {args : Array Value} {below : List Frame} {meth : Method} {c : Code} {g : gG} {A : Nat → Prop} {ad : Nat → Nat} (X : MX p s m args meth c cX3_laysCourse 8 RX3 none g A) (had : mI ad) {σr : cS}  {σ : cS} {v1 : Int32} {v2 : Int32} {v3 : Int32} {v4 : Int32}  {H : Heap} {locs : List Loc} {ls : Array Slot} (hW : WB g A s.heap mIds ad (mE g ad σ) H locs) (hl : lv_has ls 8 [(0, .ref (ad 999)), (1, .int v1), (2, .int v2), (3, .int v3), (4, .int v4)]) (hf : m_laysCourse σ v1 v2 v3 v4 = some σr) : W p l e (rm_ 2 41) s m args below meth c H locs 0 0 (Qm below g mIds ad (mE g ad σr) none A args s) (F0 m 0 ls []) := by
  have hx := X.1.1
  have hb := X.1.2.1
  unfold m_laysCourse at hf
  refine lv_aload_n hx hb dX3_laysCourse_0 rfl (lv_at hl 0 rfl) ?_
  refine mg_15 X hW dX3_laysCourse_1 ?_
  refine lv_iload_n hx hb dX3_laysCourse_4 rfl (lv_at hl 1 rfl) ?_
  obtain ⟨h_1, hf⟩ := gd_e hf
  refine ml_15 X hW h_1 dX3_laysCourse_5 ?_
  refine lv_istore (lv' := [(5, .int (σ.1 15 (ix v1))), (0, .ref (ad 999)), (1, .int v1), (2, .int v2), (3, .int v3), (4, .int v4)]) hx hb dX3_laysCourse_6 hl (by decide) rfl (fun ls hl => ?_)
  refine lv_iconst (v := 0) hx hb dX3_laysCourse_8 (by decide) ?_
  refine lv_istore (lv' := [(6, .int 0), (5, .int (σ.1 15 (ix v1))), (0, .ref (ad 999)), (1, .int v1), (2, .int v2), (3, .int v3), (4, .int v4)]) hx hb dX3_laysCourse_9 hl (by decide) rfl (fun ls hl => ?_)
  refine wm_laysCourse_11 X had (fun σ_24 H locs ls hW hl hf => ?_) _ _ _ _ _ _ _ hW (lv_sub hl [2, 3, 4, 5, 6, 1, 0] rfl) hf
  exact m_vret X hW hf dX3_laysCourse_130
theorem w_laysCourse (l : Launch) {g : gG} {ad : Nat → Nat} (had : mI ad) {σr : cS}  {σ : cS} {v1 : Int32} {v2 : Int32} {v3 : Int32} {v4 : Int32}  (hf : m_laysCourse σ v1 v2 v3 v4 = some σr) : MM l yX3_laysCourse cX3_laysCourse 8 none 2 41 g ad σ σr [.ref (ad 999), .int v1, .int v2, .int v3, .int v4] none :=
  MC.of (by decide) mIds_nd had (Nat.le_of_ble_eq_true rfl) (fun p e s m below meth c A ls X hW hl => wb_laysCourse X had hW hl hf)
theorem k_laysCourse {p : Program} {l : Launch} {e : Env} {R : Room} {s : State} {m : MethodId} {args : Array Value} {below : List Frame} {meth : Method} {c : Code} {H : Heap} {locs : List Loc} {Q : State → Prop} {cc : ByteArray} {nL : Nat} {ret : Option FieldType} {g : gG} {A : Nat → Prop} {ad : Nat → Nat} {pc : Nat} {ls : Array Slot} {rest : List Value} {lv : List (Nat × Value)} {σr : cS}  {σ : cS} {v1 : Int32} {v2 : Int32} {v3 : Int32} {v4 : Int32} (X : MX p s m args meth c cc nL RX3 ret g A) (hW : WB g A s.heap mIds ad (mE g ad σ) H locs) (had : mI ad)  (hf : m_laysCourse σ v1 v2 v3 v4 = some σr) (hR : 3 ≤ R.frames ∧ 68 ≤ R.locals) (hl : lv_has ls nL lv) (hcat : (rest.map fun v => v.category).sum ≤ 8) (hdg : decode cc pc = .ok (.invokevirtual 536, 3)) (kk : ∀ (H1 : Heap) (l1 : List Loc), WB g A s.heap mIds ad (mE g ad σr) H1 l1 → W p l e R s m args below meth c H1 l1 0 0 Q (F0 m (pc + 3) ls (rest))) : W p l e R s m args below meth c H locs 0 0 Q (F0 m pc ls (.int v4 :: .int v3 :: .int v2 :: .int v1 :: .ref (ad 999) :: rest)) :=
  r_callV X hW Sub.all (w_laysCourse l had hf) (lw_V q1779 q1781 qs115 q126 q1782) ⟨rfl, by decide, by decide, by decide +kernel⟩ m_999 mE_o rfl (n := 4) hR hl rfl rfl hcat ⟨Nat.zero_le _, Nat.zero_le _⟩ hdg kk
-- doesFit
noncomputable def m_doesFit_8 {ρ : Type} (v1 : Int32) (v2 : Int32) (v3 : Int32) (K : cS → Option ρ) : Nat → cS → Int32 → Option ρ
  | 0, _, _ => none
  | n + 1, σ, v4 => if (σ.1 1 (ix 0)) ≤ v4 then (K σ) else (((m_laysCourse σ v4 v1 v2 v3).bind fun σ_3 => m_doesFit_8 v1 v2 v3 K n σ_3 (v4 + 1)))
set_option maxHeartbeats 4000000 in
theorem wm_doesFit_8 {p : Program} {l : Launch} {e : Env} {s : State} {m : MethodId} {args : Array Value} {below : List Frame} {meth : Method} {c : Code} {g : gG} {A : Nat → Prop} {ad : Nat → Nat} (X : MX p s m args meth c cX3_doesFit 6 RX3 (some .boolean) g A) (had : mI ad) {ρ : Type} {res : ρ} {Q : State → Prop} {v1 : Int32} {v2 : Int32} {v3 : Int32}  {K : cS → Option ρ}
    (hK : ∀ (σ : cS) (H : Heap) (locs : List Loc) (ls : Array Slot), WB g A s.heap mIds ad (mE g ad σ) H locs → lv_has ls 6 [(0, .ref (ad 999))] → K σ = some res → W p l e (rm_ 3 68) s m args below meth c H locs 0 0 Q (F0 m 34 ls [])) :
    ∀ (n : Nat) (σ : cS) (v4 : Int32) (H : Heap) (locs : List Loc) (ls : Array Slot), WB g A s.heap mIds ad (mE g ad σ) H locs → lv_has ls 6 [(0, .ref (ad 999)), (1, .int v1), (2, .int v2), (3, .int v3), (4, .int v4)] → m_doesFit_8 v1 v2 v3 K n σ v4 = some res → W p l e (rm_ 3 68) s m args below meth c H locs 0 0 Q (F0 m 8 ls []) := by
  have hx := X.1.1
  have hb := X.1.2.1
  intro n
  induction n with
  | zero =>
    intro σ v4 H locs ls hW hl hf
    rw [m_doesFit_8] at hf
    cases hf
  | succ n ih =>
    intro σ v4 H locs ls hW hl hf
    rw [m_doesFit_8] at hf
    refine lv_iload hx hb dX3_doesFit_8 (lv_at hl 4 rfl) ?_
    refine lv_aload_n hx hb dX3_doesFit_10 rfl (lv_at hl 0 rfl) ?_
    refine mg_1 X hW dX3_doesFit_11 ?_
    refine lv_iconst (v := 0) hx hb dX3_doesFit_14 (by decide) ?_
    refine ml_1 X hW (by decide) dX3_doesFit_15 ?_
    refine lv_icmp_ge (tgt := 34) hx hb dX3_doesFit_16 (by decide) (fun c_1 => ?_) (fun c_1 => ?_)
    · replace hf := ip hf c_1
      exact hK _ _ _ _ hW (lv_sub hl [0] rfl) hf
    · replace hf := ine hf c_1
      refine lv_aload_n hx hb dX3_doesFit_19 rfl (lv_at hl 0 rfl) ?_
      refine lv_iload hx hb dX3_doesFit_20 (lv_at hl 4 rfl) ?_
      refine lv_iload_n hx hb dX3_doesFit_22 rfl (lv_at hl 1 rfl) ?_
      refine lv_iload_n hx hb dX3_doesFit_23 rfl (lv_at hl 2 rfl) ?_
      refine lv_iload_n hx hb dX3_doesFit_24 rfl (lv_at hl 3 rfl) ?_
      obtain ⟨σ_3, h_2, hf⟩ := bd_e hf
      refine k_laysCourse X hW had h_2 (by decide) hl (Nat.le_of_ble_eq_true rfl) dX3_doesFit_25 (fun H locs hW => ?_)
      refine lv_iinc (v := (v4 + 1)) (lv' := [(4, .int (v4 + 1)), (0, .ref (ad 999)), (1, .int v1), (2, .int v2), (3, .int v3)]) hx hb dX3_doesFit_28 hl (k := 4) rfl (ii_v _ _ _ (by decide)) (by decide) rfl (fun ls hl => ?_)
      refine lv_goto (tgt := 8) hx hb dX3_doesFit_31 (by decide) ?_
      exact ih _ _ _ _ _ hW (lv_sub hl [1, 2, 3, 4, 0] rfl) hf
noncomputable def m_doesFit_43 {ρ : Type} (σ : cS) (K : Int32 → Option ρ) : Nat → Int32 → Int32 → Option ρ
  | 0, _, _ => none
  | n + 1, v4, v5 => if (σ.1 1 (ix 6)) ≤ v5 then (K v4) else (if v4 = 0 then (m_doesFit_43 σ K n 0 (v5 + 1)) else (gd (inb v5 10) (gd (inb ((31 * (σ.1 13 (ix v5))) + (σ.1 12 (ix v5))) 310) (if (σ.1 60 (ix ((31 * (σ.1 13 (ix v5))) + (σ.1 12 (ix v5))))) = (σ.1 14 (ix v5)) then (m_doesFit_43 σ K n 1 (v5 + 1)) else (m_doesFit_43 σ K n 0 (v5 + 1))))))
set_option maxHeartbeats 4000000 in
theorem wm_doesFit_43 {p : Program} {l : Launch} {e : Env} {s : State} {m : MethodId} {args : Array Value} {below : List Frame} {meth : Method} {c : Code} {g : gG} {A : Nat → Prop} {ad : Nat → Nat} (X : MX p s m args meth c cX3_doesFit 6 RX3 (some .boolean) g A) (had : mI ad) {ρ : Type} {res : ρ} {Q : State → Prop}  {σ : cS}  {K : Int32 → Option ρ}
    (hK : ∀ (k4 : Int32) (H : Heap) (locs : List Loc) (ls : Array Slot), WB g A s.heap mIds ad (mE g ad σ) H locs → lv_has ls 6 [(4, .int k4)] → K k4 = some res → W p l e (rm_ 3 68) s m args below meth c H locs 0 0 Q (F0 m 106 ls [])) :
    ∀ (n : Nat) (v4 : Int32) (v5 : Int32) (H : Heap) (locs : List Loc) (ls : Array Slot), WB g A s.heap mIds ad (mE g ad σ) H locs → lv_has ls 6 [(0, .ref (ad 999)), (4, .int v4), (5, .int v5)] → m_doesFit_43 σ K n v4 v5 = some res → W p l e (rm_ 3 68) s m args below meth c H locs 0 0 Q (F0 m 43 ls []) := by
  have hx := X.1.1
  have hb := X.1.2.1
  intro n
  induction n with
  | zero =>
    intro v4 v5 H locs ls hW hl hf
    rw [m_doesFit_43] at hf
    cases hf
  | succ n ih =>
    intro v4 v5 H locs ls hW hl hf
    rw [m_doesFit_43] at hf
    refine lv_iload hx hb dX3_doesFit_43 (lv_at hl 2 rfl) ?_
    refine lv_aload_n hx hb dX3_doesFit_45 rfl (lv_at hl 0 rfl) ?_
    refine mg_1 X hW dX3_doesFit_46 ?_
    refine lv_bipush (v := 6) hx hb dX3_doesFit_49 (by decide) ?_
    refine ml_1 X hW (by decide) dX3_doesFit_51 ?_
    refine lv_icmp_ge (tgt := 106) hx hb dX3_doesFit_52 (by decide) (fun c_5 => ?_) (fun c_5 => ?_)
    · replace hf := ip hf c_5
      exact hK _ _ _ _ hW (lv_sub hl [1] rfl) hf
    · replace hf := ine hf c_5
      refine lv_iload hx hb dX3_doesFit_55 (lv_at hl 1 rfl) ?_
      refine lv_if_eq (tgt := 97) hx hb dX3_doesFit_57 (by decide) (fun c_6 => ?_) (fun c_6 => ?_)
      · replace hf := ip hf c_6
        refine lv_iconst (v := 0) hx hb dX3_doesFit_97 (by decide) ?_
        refine lv_istore (lv' := [(4, .int 0), (0, .ref (ad 999)), (5, .int v5)]) hx hb dX3_doesFit_98 hl (by decide) rfl (fun ls hl => ?_)
        refine lv_iinc (v := (v5 + 1)) (lv' := [(5, .int (v5 + 1)), (4, .int 0), (0, .ref (ad 999))]) hx hb dX3_doesFit_100 hl (k := 2) rfl (ii_v _ _ _ (by decide)) (by decide) rfl (fun ls hl => ?_)
        refine lv_goto (tgt := 43) hx hb dX3_doesFit_103 (by decide) ?_
        exact ih _ _ _ _ _ hW (lv_sub hl [2, 1, 0] rfl) hf
      · replace hf := ine hf c_6
        refine lv_aload_n hx hb dX3_doesFit_60 rfl (lv_at hl 0 rfl) ?_
        refine mg_60 X hW dX3_doesFit_61 ?_
        refine lv_bipush (v := 31) hx hb dX3_doesFit_64 (by decide) ?_
        refine lv_aload_n hx hb dX3_doesFit_66 rfl (lv_at hl 0 rfl) ?_
        refine mg_13 X hW dX3_doesFit_67 ?_
        refine lv_iload hx hb dX3_doesFit_70 (lv_at hl 2 rfl) ?_
        obtain ⟨h_7, hf⟩ := gd_e hf
        refine ml_13 X hW h_7 dX3_doesFit_72 ?_
        refine lv_imul hx hb dX3_doesFit_73 ?_
        refine lv_aload_n hx hb dX3_doesFit_74 rfl (lv_at hl 0 rfl) ?_
        refine mg_12 X hW dX3_doesFit_75 ?_
        refine lv_iload hx hb dX3_doesFit_78 (lv_at hl 2 rfl) ?_
        refine ml_12 X hW h_7 dX3_doesFit_80 ?_
        refine lv_iadd hx hb dX3_doesFit_81 ?_
        obtain ⟨h_8, hf⟩ := gd_e hf
        refine ml_60 X hW h_8 dX3_doesFit_82 ?_
        refine lv_aload_n hx hb dX3_doesFit_83 rfl (lv_at hl 0 rfl) ?_
        refine mg_14 X hW dX3_doesFit_84 ?_
        refine lv_iload hx hb dX3_doesFit_87 (lv_at hl 2 rfl) ?_
        refine ml_14 X hW h_7 dX3_doesFit_89 ?_
        refine lv_icmp_ne (tgt := 97) hx hb dX3_doesFit_90 (by decide) (fun c_9 => ?_) (fun c_9 => ?_)
        · replace hf := ine hf c_9
          refine lv_iconst (v := 0) hx hb dX3_doesFit_97 (by decide) ?_
          refine lv_istore (lv' := [(4, .int 0), (0, .ref (ad 999)), (5, .int v5)]) hx hb dX3_doesFit_98 hl (by decide) rfl (fun ls hl => ?_)
          refine lv_iinc (v := (v5 + 1)) (lv' := [(5, .int (v5 + 1)), (4, .int 0), (0, .ref (ad 999))]) hx hb dX3_doesFit_100 hl (k := 2) rfl (ii_v _ _ _ (by decide)) (by decide) rfl (fun ls hl => ?_)
          refine lv_goto (tgt := 43) hx hb dX3_doesFit_103 (by decide) ?_
          exact ih _ _ _ _ _ hW (lv_sub hl [2, 1, 0] rfl) hf
        · replace hf := ip hf c_9
          refine lv_iconst (v := 1) hx hb dX3_doesFit_93 (by decide) ?_
          refine lv_goto (tgt := 98) hx hb dX3_doesFit_94 (by decide) ?_
          refine lv_istore (lv' := [(4, .int 1), (0, .ref (ad 999)), (5, .int v5)]) hx hb dX3_doesFit_98 hl (by decide) rfl (fun ls hl => ?_)
          refine lv_iinc (v := (v5 + 1)) (lv' := [(5, .int (v5 + 1)), (4, .int 1), (0, .ref (ad 999))]) hx hb dX3_doesFit_100 hl (k := 2) rfl (ii_v _ _ _ (by decide)) (by decide) rfl (fun ls hl => ?_)
          refine lv_goto (tgt := 43) hx hb dX3_doesFit_103 (by decide) ?_
          exact ih _ _ _ _ _ hW (lv_sub hl [2, 1, 0] rfl) hf
noncomputable def m_doesFit (σ : cS) (v1 : Int32) (v2 : Int32) (v3 : Int32) : Option (cS × Int32) :=
  m_doesFit_8 v1 v2 v3 (fun σ_4 => (m_doesFit_43 σ_4 (fun v_10 => (gd (zb v_10) (some (σ_4, v_10)))) FU (σ_4.1 999 61) 0)) FU (si σ 999 61 0) 0
set_option maxHeartbeats 4000000 in
theorem wb_doesFit {p : Program} {l : Launch} {e : Env} {s : State} {m : MethodId} {args : Array Value} {below : List Frame} {meth : Method} {c : Code} {g : gG} {A : Nat → Prop} {ad : Nat → Nat} (X : MX p s m args meth c cX3_doesFit 6 RX3 (some .boolean) g A) (had : mI ad) {σr : cS} {r : Int32} {σ : cS} {v1 : Int32} {v2 : Int32} {v3 : Int32}  {H : Heap} {locs : List Loc} {ls : Array Slot} (hW : WB g A s.heap mIds ad (mE g ad σ) H locs) (hl : lv_has ls 6 [(0, .ref (ad 999)), (1, .int v1), (2, .int v2), (3, .int v3)]) (hf : m_doesFit σ v1 v2 v3 = some (σr, r)) : W p l e (rm_ 3 68) s m args below meth c H locs 0 0 (Qm below g mIds ad (mE g ad σr) (some (.int r)) A args s) (F0 m 0 ls []) := by
  have hx := X.1.1
  have hb := X.1.2.1
  unfold m_doesFit at hf
  refine lv_aload_n hx hb dX3_doesFit_0 rfl (lv_at hl 0 rfl) ?_
  refine lv_iconst (v := 0) hx hb dX3_doesFit_1 (by decide) ?_
  refine mp_61 X hW (by decide) dX3_doesFit_2 (fun H locs hW => ?_)
  refine lv_iconst (v := 0) hx hb dX3_doesFit_5 (by decide) ?_
  refine lv_istore (lv' := [(4, .int 0), (0, .ref (ad 999)), (1, .int v1), (2, .int v2), (3, .int v3)]) hx hb dX3_doesFit_6 hl (by decide) rfl (fun ls hl => ?_)
  refine wm_doesFit_8 X had (fun σ_4 H locs ls hW hl hf => ?_) _ _ _ _ _ _ hW (lv_sub hl [1, 2, 3, 4, 0] rfl) hf
  refine lv_aload_n hx hb dX3_doesFit_34 rfl (lv_at hl 0 rfl) ?_
  refine mg_61 X hW dX3_doesFit_35 ?_
  refine lv_istore (lv' := [(4, .int (σ_4.1 999 61)), (0, .ref (ad 999))]) hx hb dX3_doesFit_38 hl (by decide) rfl (fun ls hl => ?_)
  refine lv_iconst (v := 0) hx hb dX3_doesFit_40 (by decide) ?_
  refine lv_istore (lv' := [(5, .int 0), (4, .int (σ_4.1 999 61)), (0, .ref (ad 999))]) hx hb dX3_doesFit_41 hl (by decide) rfl (fun ls hl => ?_)
  refine wm_doesFit_43 X had (fun v_10 H locs ls hW hl hf => ?_) _ _ _ _ _ _ hW (lv_sub hl [2, 1, 0] rfl) hf
  refine lv_iload hx hb dX3_doesFit_106 (lv_at hl 0 rfl) ?_
  obtain ⟨h_11, hf⟩ := gd_e hf
  exact m_zret X hW hf h_11 dX3_doesFit_108
theorem w_doesFit (l : Launch) {g : gG} {ad : Nat → Nat} (had : mI ad) {σr : cS} {r : Int32} {σ : cS} {v1 : Int32} {v2 : Int32} {v3 : Int32}  (hf : m_doesFit σ v1 v2 v3 = some (σr, r)) : MM l yX3_doesFit cX3_doesFit 6 (some .boolean) 3 68 g ad σ σr [.ref (ad 999), .int v1, .int v2, .int v3] (some (.int r)) :=
  MC.of (by decide) mIds_nd had (Nat.le_of_ble_eq_true rfl) (fun p e s m below meth c A ls X hW hl => wb_doesFit X had hW hl hf)
theorem k_doesFit {p : Program} {l : Launch} {e : Env} {R : Room} {s : State} {m : MethodId} {args : Array Value} {below : List Frame} {meth : Method} {c : Code} {H : Heap} {locs : List Loc} {Q : State → Prop} {cc : ByteArray} {nL : Nat} {ret : Option FieldType} {g : gG} {A : Nat → Prop} {ad : Nat → Nat} {pc : Nat} {ls : Array Slot} {rest : List Value} {lv : List (Nat × Value)} {σr : cS} {r : Int32} {σ : cS} {v1 : Int32} {v2 : Int32} {v3 : Int32} (X : MX p s m args meth c cc nL RX3 ret g A) (hW : WB g A s.heap mIds ad (mE g ad σ) H locs) (had : mI ad)  (hf : m_doesFit σ v1 v2 v3 = some (σr, r)) (hR : 4 ≤ R.frames ∧ 93 ≤ R.locals) (hl : lv_has ls nL lv) (hcat : (rest.map fun v => v.category).sum ≤ 8) (hdg : decode cc pc = .ok (.invokevirtual 540, 3)) (kk : ∀ (H1 : Heap) (l1 : List Loc), WB g A s.heap mIds ad (mE g ad σr) H1 l1 → W p l e R s m args below meth c H1 l1 0 0 Q (F0 m (pc + 3) ls (.int r :: rest))) : W p l e R s m args below meth c H locs 0 0 Q (F0 m pc ls (.int v3 :: .int v2 :: .int v1 :: .ref (ad 999) :: rest)) :=
  r_callV X hW Sub.all (w_doesFit l had hf) (lw_V q1775 q1777 qs114 q126 q1778) ⟨rfl, by decide, by decide, by decide +kernel⟩ m_999 mE_o rfl (n := 3) hR hl rfl rfl hcat ⟨Nat.zero_le _, Nat.zero_le _⟩ hdg kk
-- theft
noncomputable def m_theft_60 {ρ : Type} (v1 : Int32) (v2 : Int32) (v6 : Int32) (K : cS → Int32 → Int32 → Int32 → Option ρ) : Nat → cS → Int32 → Int32 → Int32 → Int32 → Option ρ
  | 0, _, _, _, _, _ => none
  | n + 1, σ, v3, v4, v5, v7 => if 30 ≤ v7 then (K σ v3 v4 v5) else (((m_doesFit σ v6 v7 v1).bind fun (σ_14, r_13) => if r_13 = 0 then (m_theft_60 v1 v2 v6 K n σ_14 v3 v4 v5 (v7 + 1)) else (((if v3 = 0 then (some (v6)) else (some (v4)) : Option (Int32)).bind fun t_16 => (if v3 = 0 then (m_theft_60 v1 v2 v6 K n σ_14 (v3 + 1) t_16 v7 (v7 + 1)) else (m_theft_60 v1 v2 v6 K n σ_14 (v3 + 1) t_16 v5 (v7 + 1)))))))
set_option maxHeartbeats 4000000 in
theorem wm_theft_60 {p : Program} {l : Launch} {e : Env} {s : State} {m : MethodId} {args : Array Value} {below : List Frame} {meth : Method} {c : Code} {g : gG} {A : Nat → Prop} {ad : Nat → Nat} (X : MX p s m args meth c cX3_theft 8 RX3 (some .int) g A) (had : mI ad) {ρ : Type} {res : ρ} {Q : State → Prop} {v1 : Int32} {v2 : Int32} {v6 : Int32}  {K : cS → Int32 → Int32 → Int32 → Option ρ}
    (hK : ∀ (σ : cS) (k3 : Int32) (k4 : Int32) (k5 : Int32) (H : Heap) (locs : List Loc) (ls : Array Slot), WB g A s.heap mIds ad (mE g ad σ) H locs → lv_has ls 8 [(0, .ref (ad 999)), (1, .int v1), (2, .int v2), (3, .int k3), (4, .int k4), (5, .int k5), (6, .int v6)] → K σ k3 k4 k5 = some res → W p l e (rm_ 4 93) s m args below meth c H locs 0 0 Q (F0 m 114 ls [])) :
    ∀ (n : Nat) (σ : cS) (v3 : Int32) (v4 : Int32) (v5 : Int32) (v7 : Int32) (H : Heap) (locs : List Loc) (ls : Array Slot), WB g A s.heap mIds ad (mE g ad σ) H locs → lv_has ls 8 [(0, .ref (ad 999)), (1, .int v1), (2, .int v2), (3, .int v3), (4, .int v4), (5, .int v5), (6, .int v6), (7, .int v7)] → m_theft_60 v1 v2 v6 K n σ v3 v4 v5 v7 = some res → W p l e (rm_ 4 93) s m args below meth c H locs 0 0 Q (F0 m 60 ls []) := by
  have hx := X.1.1
  have hb := X.1.2.1
  intro n
  induction n with
  | zero =>
    intro σ v3 v4 v5 v7 H locs ls hW hl hf
    rw [m_theft_60] at hf
    cases hf
  | succ n ih =>
    intro σ v3 v4 v5 v7 H locs ls hW hl hf
    rw [m_theft_60] at hf
    refine lv_iload hx hb dX3_theft_60 (lv_at hl 7 rfl) ?_
    refine lv_bipush (v := 30) hx hb dX3_theft_62 (by decide) ?_
    refine lv_icmp_ge (tgt := 114) hx hb dX3_theft_64 (by decide) (fun c_11 => ?_) (fun c_11 => ?_)
    · replace hf := ip hf c_11
      exact hK _ _ _ _ _ _ _ hW (lv_sub hl [0, 1, 2, 3, 4, 5, 6] rfl) hf
    · replace hf := ine hf c_11
      refine lv_aload_n hx hb dX3_theft_67 rfl (lv_at hl 0 rfl) ?_
      refine lv_iload hx hb dX3_theft_68 (lv_at hl 6 rfl) ?_
      refine lv_iload hx hb dX3_theft_70 (lv_at hl 7 rfl) ?_
      refine lv_iload_n hx hb dX3_theft_72 rfl (lv_at hl 1 rfl) ?_
      obtain ⟨⟨σ_14, r_13⟩, h_12, hf⟩ := bd_e hf
      refine k_doesFit X hW had h_12 (by decide) hl (Nat.le_of_ble_eq_true rfl) dX3_theft_73 (fun H locs hW => ?_)
      refine lv_if_eq (tgt := 108) hx hb dX3_theft_76 (by decide) (fun c_15 => ?_) (fun c_15 => ?_)
      · replace hf := ip hf c_15
        refine lv_iinc (v := (v7 + 1)) (lv' := [(7, .int (v7 + 1)), (0, .ref (ad 999)), (1, .int v1), (2, .int v2), (3, .int v3), (4, .int v4), (5, .int v5), (6, .int v6)]) hx hb dX3_theft_108 hl (k := 7) rfl (ii_v _ _ _ (by decide)) (by decide) rfl (fun ls hl => ?_)
        refine lv_goto (tgt := 60) hx hb dX3_theft_111 (by decide) ?_
        exact ih _ _ _ _ _ _ _ _ hW (lv_sub hl [1, 2, 3, 4, 5, 6, 7, 0] rfl) hf
      · replace hf := ine hf c_15
        refine lv_iload_n hx hb dX3_theft_79 rfl (lv_at hl 3 rfl) ?_
        obtain ⟨t_16, hD_17, hf⟩ := bd_e hf
        have hJ : ∀ (H : Heap) (locs : List Loc) (ls : Array Slot), WB g A s.heap mIds ad (mE g ad σ_14) H locs → lv_has ls 8 [(0, .ref (ad 999)), (1, .int v1), (2, .int v2), (3, .int v3), (5, .int v5), (6, .int v6), (7, .int v7)] → W p l e (rm_ 4 93) s m args below meth c H locs 0 0 Q (F0 m 90 ls [.int t_16]) := by
          intro H locs ls hW hl
          refine lv_istore (lv' := [(4, .int t_16), (0, .ref (ad 999)), (1, .int v1), (2, .int v2), (3, .int v3), (5, .int v5), (6, .int v6), (7, .int v7)]) hx hb dX3_theft_90 hl (by decide) rfl (fun ls hl => ?_)
          refine lv_iload_n hx hb dX3_theft_92 rfl (lv_at hl 4 rfl) ?_
          refine lv_if_ne (tgt := 101) hx hb dX3_theft_93 (by decide) (fun c_18 => ?_) (fun c_18 => ?_)
          · replace hf := ine hf c_18
            refine lv_iload hx hb dX3_theft_101 (lv_at hl 5 rfl) ?_
            refine lv_istore (lv' := [(5, .int v5), (4, .int t_16), (0, .ref (ad 999)), (1, .int v1), (2, .int v2), (3, .int v3), (6, .int v6), (7, .int v7)]) hx hb dX3_theft_103 hl (by decide) rfl (fun ls hl => ?_)
            refine lv_iinc (v := (v3 + 1)) (lv' := [(3, .int (v3 + 1)), (5, .int v5), (4, .int t_16), (0, .ref (ad 999)), (1, .int v1), (2, .int v2), (6, .int v6), (7, .int v7)]) hx hb dX3_theft_105 hl (k := 5) rfl (ii_v _ _ _ (by decide)) (by decide) rfl (fun ls hl => ?_)
            refine lv_iinc (v := (v7 + 1)) (lv' := [(7, .int (v7 + 1)), (3, .int (v3 + 1)), (5, .int v5), (4, .int t_16), (0, .ref (ad 999)), (1, .int v1), (2, .int v2), (6, .int v6)]) hx hb dX3_theft_108 hl (k := 7) rfl (ii_v _ _ _ (by decide)) (by decide) rfl (fun ls hl => ?_)
            refine lv_goto (tgt := 60) hx hb dX3_theft_111 (by decide) ?_
            exact ih _ _ _ _ _ _ _ _ hW (lv_sub hl [4, 5, 6, 1, 3, 2, 7, 0] rfl) hf
          · replace hf := ip hf c_18
            refine lv_iload hx hb dX3_theft_96 (lv_at hl 7 rfl) ?_
            refine lv_goto (tgt := 103) hx hb dX3_theft_98 (by decide) ?_
            refine lv_istore (lv' := [(5, .int v7), (4, .int t_16), (0, .ref (ad 999)), (1, .int v1), (2, .int v2), (3, .int v3), (6, .int v6), (7, .int v7)]) hx hb dX3_theft_103 hl (by decide) rfl (fun ls hl => ?_)
            refine lv_iinc (v := (v3 + 1)) (lv' := [(3, .int (v3 + 1)), (5, .int v7), (4, .int t_16), (0, .ref (ad 999)), (1, .int v1), (2, .int v2), (6, .int v6), (7, .int v7)]) hx hb dX3_theft_105 hl (k := 5) rfl (ii_v _ _ _ (by decide)) (by decide) rfl (fun ls hl => ?_)
            refine lv_iinc (v := (v7 + 1)) (lv' := [(7, .int (v7 + 1)), (3, .int (v3 + 1)), (5, .int v7), (4, .int t_16), (0, .ref (ad 999)), (1, .int v1), (2, .int v2), (6, .int v6)]) hx hb dX3_theft_108 hl (k := 7) rfl (ii_v _ _ _ (by decide)) (by decide) rfl (fun ls hl => ?_)
            refine lv_goto (tgt := 60) hx hb dX3_theft_111 (by decide) ?_
            exact ih _ _ _ _ _ _ _ _ hW (lv_sub hl [4, 5, 6, 1, 3, 2, 7, 0] rfl) hf
        clear hf
        refine lv_if_ne (tgt := 88) hx hb dX3_theft_80 (by decide) (fun c_19 => ?_) (fun c_19 => ?_)
        · replace hD_17 := ine hD_17 c_19
          refine lv_iload hx hb dX3_theft_88 (lv_at hl 4 rfl) ?_
          cases hD_17
          exact hJ _ _ _ hW (lv_sub hl [0, 1, 2, 3, 5, 6, 7] rfl)
        · replace hD_17 := ip hD_17 c_19
          refine lv_iload hx hb dX3_theft_83 (lv_at hl 6 rfl) ?_
          refine lv_goto (tgt := 90) hx hb dX3_theft_85 (by decide) ?_
          cases hD_17
          exact hJ _ _ _ hW (lv_sub hl [0, 1, 2, 3, 5, 6, 7] rfl)
noncomputable def m_theft_46 {ρ : Type} (v1 : Int32) (v2 : Int32) (K : cS → Int32 → Int32 → Int32 → Option ρ) : Nat → cS → Int32 → Int32 → Int32 → Int32 → Option ρ
  | 0, _, _, _, _, _ => none
  | n + 1, σ, v3, v4, v5, v6 => if (σ.1 1 (ix 0)) ≤ v6 then (K σ v3 v4 v5) else (m_theft_60 v1 v2 v6 (fun σ_20 v_21 v_22 v_23 => (m_theft_46 v1 v2 K n σ_20 v_21 v_22 v_23 (v6 + 1))) FU σ v3 v4 v5 0)
set_option maxHeartbeats 4000000 in
theorem wm_theft_46 {p : Program} {l : Launch} {e : Env} {s : State} {m : MethodId} {args : Array Value} {below : List Frame} {meth : Method} {c : Code} {g : gG} {A : Nat → Prop} {ad : Nat → Nat} (X : MX p s m args meth c cX3_theft 8 RX3 (some .int) g A) (had : mI ad) {ρ : Type} {res : ρ} {Q : State → Prop} {v1 : Int32} {v2 : Int32}  {K : cS → Int32 → Int32 → Int32 → Option ρ}
    (hK : ∀ (σ : cS) (k3 : Int32) (k4 : Int32) (k5 : Int32) (H : Heap) (locs : List Loc) (ls : Array Slot), WB g A s.heap mIds ad (mE g ad σ) H locs → lv_has ls 8 [(2, .int v2), (3, .int k3), (4, .int k4), (5, .int k5)] → K σ k3 k4 k5 = some res → W p l e (rm_ 4 93) s m args below meth c H locs 0 0 Q (F0 m 120 ls [])) :
    ∀ (n : Nat) (σ : cS) (v3 : Int32) (v4 : Int32) (v5 : Int32) (v6 : Int32) (H : Heap) (locs : List Loc) (ls : Array Slot), WB g A s.heap mIds ad (mE g ad σ) H locs → lv_has ls 8 [(0, .ref (ad 999)), (1, .int v1), (2, .int v2), (3, .int v3), (4, .int v4), (5, .int v5), (6, .int v6)] → m_theft_46 v1 v2 K n σ v3 v4 v5 v6 = some res → W p l e (rm_ 4 93) s m args below meth c H locs 0 0 Q (F0 m 46 ls []) := by
  have hx := X.1.1
  have hb := X.1.2.1
  intro n
  induction n with
  | zero =>
    intro σ v3 v4 v5 v6 H locs ls hW hl hf
    rw [m_theft_46] at hf
    cases hf
  | succ n ih =>
    intro σ v3 v4 v5 v6 H locs ls hW hl hf
    rw [m_theft_46] at hf
    refine lv_iload hx hb dX3_theft_46 (lv_at hl 6 rfl) ?_
    refine lv_aload_n hx hb dX3_theft_48 rfl (lv_at hl 0 rfl) ?_
    refine mg_1 X hW dX3_theft_49 ?_
    refine lv_iconst (v := 0) hx hb dX3_theft_52 (by decide) ?_
    refine ml_1 X hW (by decide) dX3_theft_53 ?_
    refine lv_icmp_ge (tgt := 120) hx hb dX3_theft_54 (by decide) (fun c_10 => ?_) (fun c_10 => ?_)
    · replace hf := ip hf c_10
      exact hK _ _ _ _ _ _ _ hW (lv_sub hl [2, 3, 4, 5] rfl) hf
    · replace hf := ine hf c_10
      refine lv_iconst (v := 0) hx hb dX3_theft_57 (by decide) ?_
      refine lv_istore (lv' := [(7, .int 0), (0, .ref (ad 999)), (1, .int v1), (2, .int v2), (3, .int v3), (4, .int v4), (5, .int v5), (6, .int v6)]) hx hb dX3_theft_58 hl (by decide) rfl (fun ls hl => ?_)
      refine wm_theft_60 X had (fun σ_20 v_21 v_22 v_23 H locs ls hW hl hf => ?_) _ _ _ _ _ _ _ _ _ hW (lv_sub hl [1, 2, 3, 4, 5, 6, 7, 0] rfl) hf
      refine lv_iinc (v := (v6 + 1)) (lv' := [(6, .int (v6 + 1)), (0, .ref (ad 999)), (1, .int v1), (2, .int v2), (3, .int v_21), (4, .int v_22), (5, .int v_23)]) hx hb dX3_theft_114 hl (k := 6) rfl (ii_v _ _ _ (by decide)) (by decide) rfl (fun ls hl => ?_)
      refine lv_goto (tgt := 46) hx hb dX3_theft_117 (by decide) ?_
      exact ih _ _ _ _ _ _ _ _ hW (lv_sub hl [1, 2, 3, 4, 5, 6, 0] rfl) hf
noncomputable def m_theft (σ : cS) (v1 : Int32) (v2 : Int32) : Option (cS × Int32) :=
  ((m_isStrip σ).bind fun r_2 => if r_2 = 0 then (some (σ, (-1))) else (((m_in v1.toInt64 1 99).bind fun r_5 => if r_5 = 0 then (some (σ, (-1))) else (((m_in v2.toInt64 0 2).bind fun r_8 => if r_8 = 0 then (some (σ, (-1))) else (m_theft_46 v1 v2 (fun σ_24 v_25 v_26 v_27 => (if v2 = 0 then (some (σ_24, v_25)) else (if v2 = 1 then (some (σ_24, v_26)) else (some (σ_24, v_27))))) FU σ 0 (-2) (-2) 0))))))
set_option maxHeartbeats 4000000 in
theorem wb_theft {p : Program} {l : Launch} {e : Env} {s : State} {m : MethodId} {args : Array Value} {below : List Frame} {meth : Method} {c : Code} {g : gG} {A : Nat → Prop} {ad : Nat → Nat} (X : MX p s m args meth c cX3_theft 8 RX3 (some .int) g A) (had : mI ad) {σr : cS} {r : Int32} {σ : cS} {v1 : Int32} {v2 : Int32}  {H : Heap} {locs : List Loc} {ls : Array Slot} (hW : WB g A s.heap mIds ad (mE g ad σ) H locs) (hl : lv_has ls 8 [(0, .ref (ad 999)), (1, .int v1), (2, .int v2)]) (hf : m_theft σ v1 v2 = some (σr, r)) : W p l e (rm_ 4 93) s m args below meth c H locs 0 0 (Qm below g mIds ad (mE g ad σr) (some (.int r)) A args s) (F0 m 0 ls []) := by
  have hx := X.1.1
  have hb := X.1.2.1
  unfold m_theft at hf
  refine lv_aload_n hx hb dX3_theft_0 rfl (lv_at hl 0 rfl) ?_
  obtain ⟨r_2, h_1, hf⟩ := bd_e hf
  refine k_isStrip X hW had h_1 (by decide) hl (Nat.le_of_ble_eq_true rfl) dX3_theft_1 (fun H locs hW => ?_)
  refine lv_if_eq (tgt := 31) hx hb dX3_theft_4 (by decide) (fun c_3 => ?_) (fun c_3 => ?_)
  · replace hf := ip hf c_3
    refine lv_iconst (v := (-1)) hx hb dX3_theft_31 (by decide) ?_
    exact m_iret X hW hf dX3_theft_32
  · replace hf := ine hf c_3
    refine lv_iload_n hx hb dX3_theft_7 rfl (lv_at hl 1 rfl) ?_
    refine lv_i2l (v := v1.toInt64) hx hb dX3_theft_8 rfl ?_
    refine lv_lconst (v := 1) hx hb dX3_theft_9 (by decide) ?_
    refine lv_ldc2 (v := 99) hx hb X.1.2.2.2.1 (X.1.2.2.2.2 _ q1677) dX3_theft_10 ?_
    obtain ⟨r_5, h_4, hf⟩ := bd_e hf
    refine k_in X hW h_4 (by decide) hl (Nat.le_of_ble_eq_true rfl) dX3_theft_13 (fun H locs hW => ?_)
    refine lv_if_eq (tgt := 31) hx hb dX3_theft_16 (by decide) (fun c_6 => ?_) (fun c_6 => ?_)
    · replace hf := ip hf c_6
      refine lv_iconst (v := (-1)) hx hb dX3_theft_31 (by decide) ?_
      exact m_iret X hW hf dX3_theft_32
    · replace hf := ine hf c_6
      refine lv_iload_n hx hb dX3_theft_19 rfl (lv_at hl 2 rfl) ?_
      refine lv_i2l (v := v2.toInt64) hx hb dX3_theft_20 rfl ?_
      refine lv_lconst (v := 0) hx hb dX3_theft_21 (by decide) ?_
      refine lv_ldc2 (v := 2) hx hb X.1.2.2.2.1 (X.1.2.2.2.2 _ q1687) dX3_theft_22 ?_
      obtain ⟨r_8, h_7, hf⟩ := bd_e hf
      refine k_in X hW h_7 (by decide) hl (Nat.le_of_ble_eq_true rfl) dX3_theft_25 (fun H locs hW => ?_)
      refine lv_if_ne (tgt := 33) hx hb dX3_theft_28 (by decide) (fun c_9 => ?_) (fun c_9 => ?_)
      · replace hf := ine hf c_9
        refine lv_iconst (v := 0) hx hb dX3_theft_33 (by decide) ?_
        refine lv_istore_n (lv' := [(3, .int 0), (0, .ref (ad 999)), (1, .int v1), (2, .int v2)]) hx hb dX3_theft_34 rfl hl (by decide) rfl (fun ls hl => ?_)
        refine lv_bipush (v := (-2)) hx hb dX3_theft_35 (by decide) ?_
        refine lv_istore (lv' := [(4, .int (-2)), (3, .int 0), (0, .ref (ad 999)), (1, .int v1), (2, .int v2)]) hx hb dX3_theft_37 hl (by decide) rfl (fun ls hl => ?_)
        refine lv_bipush (v := (-2)) hx hb dX3_theft_39 (by decide) ?_
        refine lv_istore (lv' := [(5, .int (-2)), (4, .int (-2)), (3, .int 0), (0, .ref (ad 999)), (1, .int v1), (2, .int v2)]) hx hb dX3_theft_41 hl (by decide) rfl (fun ls hl => ?_)
        refine lv_iconst (v := 0) hx hb dX3_theft_43 (by decide) ?_
        refine lv_istore (lv' := [(6, .int 0), (5, .int (-2)), (4, .int (-2)), (3, .int 0), (0, .ref (ad 999)), (1, .int v1), (2, .int v2)]) hx hb dX3_theft_44 hl (by decide) rfl (fun ls hl => ?_)
        refine wm_theft_46 X had (fun σ_24 v_25 v_26 v_27 H locs ls hW hl hf => ?_) _ _ _ _ _ _ _ _ _ hW (lv_sub hl [4, 5, 6, 3, 2, 1, 0] rfl) hf
        refine lv_iload_n hx hb dX3_theft_120 rfl (lv_at hl 0 rfl) ?_
        refine lv_if_ne (tgt := 128) hx hb dX3_theft_121 (by decide) (fun c_28 => ?_) (fun c_28 => ?_)
        · replace hf := ine hf c_28
          refine lv_iload_n hx hb dX3_theft_128 rfl (lv_at hl 0 rfl) ?_
          refine lv_iconst (v := 1) hx hb dX3_theft_129 (by decide) ?_
          refine lv_icmp_ne (tgt := 138) hx hb dX3_theft_130 (by decide) (fun c_29 => ?_) (fun c_29 => ?_)
          · replace hf := ine hf c_29
            refine lv_iload hx hb dX3_theft_138 (lv_at hl 3 rfl) ?_
            exact m_iret X hW hf dX3_theft_140
          · replace hf := ip hf c_29
            refine lv_iload hx hb dX3_theft_133 (lv_at hl 2 rfl) ?_
            refine lv_goto (tgt := 140) hx hb dX3_theft_135 (by decide) ?_
            exact m_iret X hW hf dX3_theft_140
        · replace hf := ip hf c_28
          refine lv_iload_n hx hb dX3_theft_124 rfl (lv_at hl 1 rfl) ?_
          refine lv_goto (tgt := 140) hx hb dX3_theft_125 (by decide) ?_
          exact m_iret X hW hf dX3_theft_140
      · replace hf := ip hf c_9
        refine lv_iconst (v := (-1)) hx hb dX3_theft_31 (by decide) ?_
        exact m_iret X hW hf dX3_theft_32
theorem w_theft (l : Launch) {g : gG} {ad : Nat → Nat} (had : mI ad) {σr : cS} {r : Int32} {σ : cS} {v1 : Int32} {v2 : Int32}  (hf : m_theft σ v1 v2 = some (σr, r)) : MM l yX3_theft cX3_theft 8 (some .int) 4 93 g ad σ σr [.ref (ad 999), .int v1, .int v2] (some (.int r)) :=
  MC.of (by decide) mIds_nd had (Nat.le_of_ble_eq_true rfl) (fun p e s m below meth c A ls X hW hl => wb_theft X had hW hl hf)
