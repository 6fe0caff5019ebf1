set_option maxRecDepth 100000
-- put
noncomputable def m_put_3 {ρ : Type} (v1 : Int32) (K : cS → Option ρ) : Nat → cS → Int32 → Option ρ
  | 0, _, _ => none
  | n + 1, σ, v2 => if v2 < 0 then (K σ) else (gd (inb (σ.1 999 27) 400) (nmb (si σ 37 (ix (σ.1 999 27)) ((v1 >>> (v2 &&& 31)).toInt8.toInt32).toInt8.toInt32) fun σ_3 => (m_put_3 v1 K n (si σ_3 999 27 (((si σ 37 (ix (σ.1 999 27)) ((v1 >>> (v2 &&& 31)).toInt8.toInt32).toInt8.toInt32).1 999 27) + 1)) (v2 + (-8)))))
set_option maxHeartbeats 4000000 in
theorem wm_put_3 {p : Program} {l : Launch} {e : Env} {s : State} {m : MethodId} {args : Array Value} {below : List Frame} {meth : Method} {c : Code} {g : gG} {A : Nat → Prop} {ad : Nat → Nat} (X : MX p s m args meth c cX3_put 3 RX3 none g A) (had : mI ad) {ρ : Type} {res : ρ} {Q : State → Prop} {v1 : Int32}  {K : cS → Option ρ}
    (hK : ∀ (σ : cS) (H : Heap) (locs : List Loc) (ls : Array Slot), WB g A s.heap mIds ad (mE g ad σ) H locs → lv_has ls 3 [] → K σ = some res → W p l e (rm_ 1 20) s m args below meth c H locs 0 0 Q (F0 m 36 ls [])) :
    ∀ (n : Nat) (σ : cS) (v2 : Int32) (H : Heap) (locs : List Loc) (ls : Array Slot), WB g A s.heap mIds ad (mE g ad σ) H locs → lv_has ls 3 [(0, .ref (ad 999)), (1, .int v1), (2, .int v2)] → m_put_3 v1 K n σ v2 = some res → W p l e (rm_ 1 20) s m args below meth c H locs 0 0 Q (F0 m 3 ls []) := by
  have hx := X.1.1
  have hb := X.1.2.1
  intro n
  induction n with
  | zero =>
    intro σ v2 H locs ls hW hl hf
    rw [m_put_3] at hf
    cases hf
  | succ n ih =>
    intro σ v2 H locs ls hW hl hf
    rw [m_put_3] at hf
    refine lv_iload_n hx hb dX3_put_3 rfl (lv_at hl 2 rfl) ?_
    refine lv_if_lt (tgt := 36) hx hb dX3_put_4 (by decide) (fun c_1 => ?_) (fun c_1 => ?_)
    · replace hf := ip hf c_1
      exact hK _ _ _ _ hW (lv_sub hl [] rfl) hf
    · replace hf := ine hf c_1
      refine lv_aload_n hx hb dX3_put_7 rfl (lv_at hl 0 rfl) ?_
      refine mg_37 X hW dX3_put_8 ?_
      refine lv_aload_n hx hb dX3_put_11 rfl (lv_at hl 0 rfl) ?_
      refine mg_27 X hW dX3_put_12 ?_
      refine lv_iload_n hx hb dX3_put_15 rfl (lv_at hl 1 rfl) ?_
      refine lv_iload_n hx hb dX3_put_16 rfl (lv_at hl 2 rfl) ?_
      refine lv_ishr hx hb dX3_put_17 ?_
      refine lv_i2b (v := (v1 >>> (v2 &&& 31)).toInt8.toInt32) hx hb dX3_put_18 rfl ?_
      obtain ⟨h_2, hf⟩ := gd_e hf
      refine ms_37 X hW h_2 dX3_put_19 (fun H locs hW => ?_)
      refine lv_aload_n hx hb dX3_put_20 rfl (lv_at hl 0 rfl) ?_
      refine lv_dup hx hb dX3_put_21 rfl ?_
      refine mg_27 X hW dX3_put_22 ?_
      refine lv_iconst (v := 1) hx hb dX3_put_25 (by decide) ?_
      refine lv_iadd hx hb dX3_put_26 ?_
      obtain ⟨σ_3, e_4, hf⟩ := nmb_e hf
      rw [← e_4] at hW
      clear e_4
      refine mp_27 X hW dX3_put_27 (fun H locs hW => ?_)
      refine lv_iinc (v := (v2 + (-8))) (lv' := [(2, .int (v2 + (-8))), (0, .ref (ad 999)), (1, .int v1)]) hx hb dX3_put_30 hl (k := 2) rfl (ii_v _ _ _ (by decide)) (by decide) rfl (fun ls hl => ?_)
      refine lv_goto (tgt := 3) hx hb dX3_put_33 (by decide) ?_
      exact ih _ _ _ _ _ hW (lv_sub hl [1, 2, 0] rfl) hf
noncomputable def m_put (σ : cS) (v1 : Int32) : Option (cS) :=
  m_put_3 v1 (fun σ_5 => (some σ_5)) FU σ 24
set_option maxHeartbeats 4000000 in
theorem wb_put {p : Program} {l : Launch} {e : Env} {s : State} {m : MethodId} {args : Array Value} {below : List Frame} {meth : Method} {c : Code} {g : gG} {A : Nat → Prop} {ad : Nat → Nat} (X : MX p s m args meth c cX3_put 3 RX3 none g A) (had : mI ad) {σr : cS}  {σ : cS} {v1 : Int32}  {H : Heap} {locs : List Loc} {ls : Array Slot} (hW : WB g A s.heap mIds ad (mE g ad σ) H locs) (hl : lv_has ls 3 [(0, .ref (ad 999)), (1, .int v1)]) (hf : m_put σ v1 = some σr) : W p l e (rm_ 1 20) s m args below meth c H locs 0 0 (Qm below g mIds ad (mE g ad σr) none A args s) (F0 m 0 ls []) := by
  have hx := X.1.1
  have hb := X.1.2.1
  unfold m_put at hf
  refine lv_bipush (v := 24) hx hb dX3_put_0 (by decide) ?_
  refine lv_istore_n (lv' := [(2, .int 24), (0, .ref (ad 999)), (1, .int v1)]) hx hb dX3_put_2 rfl hl (by decide) rfl (fun ls hl => ?_)
  refine wm_put_3 X had (fun σ_5 H locs ls hW hl hf => ?_) _ _ _ _ _ _ hW (lv_sub hl [1, 2, 0] rfl) hf
  exact m_vret X hW hf dX3_put_36
theorem w_put (l : Launch) {g : gG} {ad : Nat → Nat} (had : mI ad) {σr : cS}  {σ : cS} {v1 : Int32}  (hf : m_put σ v1 = some σr) : MM l yX3_put cX3_put 3 none 1 20 g ad σ σr [.ref (ad 999), .int v1] none :=
  MC.of (by decide) mIds_nd had (Nat.le_of_ble_eq_true rfl) (fun p e s m below meth c A ls X hW hl => wb_put X had hW hl hf)
theorem k_put {p : Program} {l : Launch} {e : Env} {R : Room} {s : State} {m : MethodId} {args : Array Value} {below : List Frame} {meth : Method} {c : Code} {H : Heap} {locs : List Loc} {Q : State → Prop} {cc : ByteArray} {nL : Nat} {ret : Option FieldType} {g : gG} {A : Nat → Prop} {ad : Nat → Nat} {pc : Nat} {ls : Array Slot} {rest : List Value} {lv : List (Nat × Value)} {σr : cS}  {σ : cS} {v1 : Int32} (X : MX p s m args meth c cc nL RX3 ret g A) (hW : WB g A s.heap mIds ad (mE g ad σ) H locs) (had : mI ad)  (hf : m_put σ v1 = some σr) (hR : 2 ≤ R.frames ∧ 42 ≤ R.locals) (hl : lv_has ls nL lv) (hcat : (rest.map fun v => v.category).sum ≤ 8) (hdg : decode cc pc = .ok (.invokevirtual 188, 3)) (kk : ∀ (H1 : Heap) (l1 : List Loc), WB g A s.heap mIds ad (mE g ad σr) H1 l1 → W p l e R s m args below meth c H1 l1 0 0 Q (F0 m (pc + 3) ls (rest))) : W p l e R s m args below meth c H locs 0 0 Q (F0 m pc ls (.int v1 :: .ref (ad 999) :: rest)) :=
  r_callV X hW Sub.all (w_put l had hf) (lw_V q1358 q1360 qs46 q126 q1361) ⟨rfl, by decide, by decide, by decide +kernel⟩ m_999 mE_o rfl (n := 1) hR hl rfl rfl hcat ⟨Nat.zero_le _, Nat.zero_le _⟩ hdg kk
-- feed
noncomputable def m_feed (σ : cS) (v1 : Int32) (v2 : Int32) (v3 : Int32) (v4 : Int32) (v5 : Int32) : Option (cS × Int32) :=
  if ((σ.1 999 27) + 20) ≤ 400 then (((m_put σ v1).bind fun σ_3 => ((m_put σ_3 v2).bind fun σ_5 => ((m_put σ_5 v3).bind fun σ_7 => ((m_put σ_7 v4).bind fun σ_9 => ((m_put σ_9 v5).bind fun σ_11 => some (σ_11, (σ_11.1 999 27)))))))) else (some (σ, (-1)))
set_option maxHeartbeats 4000000 in
theorem wb_feed {p : Program} {l : Launch} {e : Env} {s : State} {m : MethodId} {args : Array Value} {below : List Frame} {meth : Method} {c : Code} {g : gG} {A : Nat → Prop} {ad : Nat → Nat} (X : MX p s m args meth c cX3_feed 6 RX3 (some .int) g A) (had : mI ad) {σr : cS} {r : Int32} {σ : cS} {v1 : Int32} {v2 : Int32} {v3 : Int32} {v4 : Int32} {v5 : Int32}  {H : Heap} {locs : List Loc} {ls : Array Slot} (hW : WB g A s.heap mIds ad (mE g ad σ) H locs) (hl : lv_has ls 6 [(0, .ref (ad 999)), (1, .int v1), (2, .int v2), (3, .int v3), (4, .int v4), (5, .int v5)]) (hf : m_feed σ v1 v2 v3 v4 v5 = some (σr, r)) : W p l e (rm_ 2 42) s m args below meth c H locs 0 0 (Qm below g mIds ad (mE g ad σr) (some (.int r)) A args s) (F0 m 0 ls []) := by
  have hx := X.1.1
  have hb := X.1.2.1
  unfold m_feed at hf
  refine lv_aload_n hx hb dX3_feed_0 rfl (lv_at hl 0 rfl) ?_
  refine mg_27 X hW dX3_feed_1 ?_
  refine lv_bipush (v := 20) hx hb dX3_feed_4 (by decide) ?_
  refine lv_iadd hx hb dX3_feed_6 ?_
  refine lv_sipush (v := 400) hx hb dX3_feed_7 (by decide) ?_
  refine lv_icmp_le (tgt := 15) hx hb dX3_feed_10 (by decide) (fun c_1 => ?_) (fun c_1 => ?_)
  · replace hf := ip hf c_1
    refine lv_aload_n hx hb dX3_feed_15 rfl (lv_at hl 0 rfl) ?_
    refine lv_iload_n hx hb dX3_feed_16 rfl (lv_at hl 1 rfl) ?_
    obtain ⟨σ_3, h_2, hf⟩ := bd_e hf
    refine k_put X hW had h_2 (by decide) hl (Nat.le_of_ble_eq_true rfl) dX3_feed_17 (fun H locs hW => ?_)
    refine lv_aload_n hx hb dX3_feed_20 rfl (lv_at hl 0 rfl) ?_
    refine lv_iload_n hx hb dX3_feed_21 rfl (lv_at hl 2 rfl) ?_
    obtain ⟨σ_5, h_4, hf⟩ := bd_e hf
    refine k_put X hW had h_4 (by decide) hl (Nat.le_of_ble_eq_true rfl) dX3_feed_22 (fun H locs hW => ?_)
    refine lv_aload_n hx hb dX3_feed_25 rfl (lv_at hl 0 rfl) ?_
    refine lv_iload_n hx hb dX3_feed_26 rfl (lv_at hl 3 rfl) ?_
    obtain ⟨σ_7, h_6, hf⟩ := bd_e hf
    refine k_put X hW had h_6 (by decide) hl (Nat.le_of_ble_eq_true rfl) dX3_feed_27 (fun H locs hW => ?_)
    refine lv_aload_n hx hb dX3_feed_30 rfl (lv_at hl 0 rfl) ?_
    refine lv_iload hx hb dX3_feed_31 (lv_at hl 4 rfl) ?_
    obtain ⟨σ_9, h_8, hf⟩ := bd_e hf
    refine k_put X hW had h_8 (by decide) hl (Nat.le_of_ble_eq_true rfl) dX3_feed_33 (fun H locs hW => ?_)
    refine lv_aload_n hx hb dX3_feed_36 rfl (lv_at hl 0 rfl) ?_
    refine lv_iload hx hb dX3_feed_37 (lv_at hl 5 rfl) ?_
    obtain ⟨σ_11, h_10, hf⟩ := bd_e hf
    refine k_put X hW had h_10 (by decide) hl (Nat.le_of_ble_eq_true rfl) dX3_feed_39 (fun H locs hW => ?_)
    refine lv_aload_n hx hb dX3_feed_42 rfl (lv_at hl 0 rfl) ?_
    refine mg_27 X hW dX3_feed_43 ?_
    exact m_iret X hW hf dX3_feed_46
  · replace hf := ine hf c_1
    refine lv_iconst (v := (-1)) hx hb dX3_feed_13 (by decide) ?_
    exact m_iret X hW hf dX3_feed_14
theorem w_feed (l : Launch) {g : gG} {ad : Nat → Nat} (had : mI ad) {σr : cS} {r : Int32} {σ : cS} {v1 : Int32} {v2 : Int32} {v3 : Int32} {v4 : Int32} {v5 : Int32}  (hf : m_feed σ v1 v2 v3 v4 v5 = some (σr, r)) : MM l yX3_feed cX3_feed 6 (some .int) 2 42 g ad σ σr [.ref (ad 999), .int v1, .int v2, .int v3, .int v4, .int v5] (some (.int r)) :=
  MC.of (by decide) mIds_nd had (Nat.le_of_ble_eq_true rfl) (fun p e s m below meth c A ls X hW hl => wb_feed X had hW hl hf)
-- end
noncomputable def m_end (σ : cS) (v1 : Int32) : Option (cS × Int32) :=
  if v1 < 0 then (some (σ, (-1))) else (if v1 ≤ (σ.1 999 27) then (some ((si σ 999 27 v1), v1)) else (some (σ, (-1))))
set_option maxHeartbeats 4000000 in
theorem wb_end {p : Program} {l : Launch} {e : Env} {s : State} {m : MethodId} {args : Array Value} {below : List Frame} {meth : Method} {c : Code} {g : gG} {A : Nat → Prop} {ad : Nat → Nat} (X : MX p s m args meth c cX3_end 2 RX3 (some .int) g A) (had : mI ad) {σr : cS} {r : Int32} {σ : cS} {v1 : Int32}  {H : Heap} {locs : List Loc} {ls : Array Slot} (hW : WB g A s.heap mIds ad (mE g ad σ) H locs) (hl : lv_has ls 2 [(0, .ref (ad 999)), (1, .int v1)]) (hf : m_end σ v1 = some (σr, r)) : W p l e (rm_ 1 20) s m args below meth c H locs 0 0 (Qm below g mIds ad (mE g ad σr) (some (.int r)) A args s) (F0 m 0 ls []) := by
  have hx := X.1.1
  have hb := X.1.2.1
  unfold m_end at hf
  refine lv_iload_n hx hb dX3_end_0 rfl (lv_at hl 1 rfl) ?_
  refine lv_if_lt (tgt := 12) hx hb dX3_end_1 (by decide) (fun c_1 => ?_) (fun c_1 => ?_)
  · replace hf := ip hf c_1
    refine lv_iconst (v := (-1)) hx hb dX3_end_12 (by decide) ?_
    exact m_iret X hW hf dX3_end_13
  · replace hf := ine hf c_1
    refine lv_iload_n hx hb dX3_end_4 rfl (lv_at hl 1 rfl) ?_
    refine lv_aload_n hx hb dX3_end_5 rfl (lv_at hl 0 rfl) ?_
    refine mg_27 X hW dX3_end_6 ?_
    refine lv_icmp_le (tgt := 14) hx hb dX3_end_9 (by decide) (fun c_2 => ?_) (fun c_2 => ?_)
    · replace hf := ip hf c_2
      refine lv_aload_n hx hb dX3_end_14 rfl (lv_at hl 0 rfl) ?_
      refine lv_iload_n hx hb dX3_end_15 rfl (lv_at hl 1 rfl) ?_
      refine mp_27 X hW dX3_end_16 (fun H locs hW => ?_)
      refine lv_iload_n hx hb dX3_end_19 rfl (lv_at hl 1 rfl) ?_
      exact m_iret X hW hf dX3_end_20
    · replace hf := ine hf c_2
      refine lv_iconst (v := (-1)) hx hb dX3_end_12 (by decide) ?_
      exact m_iret X hW hf dX3_end_13
theorem w_end (l : Launch) {g : gG} {ad : Nat → Nat} (had : mI ad) {σr : cS} {r : Int32} {σ : cS} {v1 : Int32}  (hf : m_end σ v1 = some (σr, r)) : MM l yX3_end cX3_end 2 (some .int) 1 20 g ad σ σr [.ref (ad 999), .int v1] (some (.int r)) :=
  MC.of (by decide) mIds_nd had (Nat.le_of_ble_eq_true rfl) (fun p e s m below meth c A ls X hW hl => wb_end X had hW hl hf)
-- starts
noncomputable def m_starts (σ : cS) : Option (cS) :=
  nmb (si σ 999 28 0) fun σ_1 => (nmb (si σ_1 999 29 0) fun σ_3 => (nmb (si σ_3 999 32 0) fun σ_5 => (nmb (si σ_5 999 33 0) fun σ_7 => (some (si σ_7 999 34 0)))))
set_option maxHeartbeats 4000000 in
theorem wb_starts {p : Program} {l : Launch} {e : Env} {s : State} {m : MethodId} {args : Array Value} {below : List Frame} {meth : Method} {c : Code} {g : gG} {A : Nat → Prop} {ad : Nat → Nat} (X : MX p s m args meth c cX3_starts 1 RX3 none g A) (had : mI ad) {σr : cS}  {σ : cS}  {H : Heap} {locs : List Loc} {ls : Array Slot} (hW : WB g A s.heap mIds ad (mE g ad σ) H locs) (hl : lv_has ls 1 [(0, .ref (ad 999))]) (hf : m_starts σ = some σr) : W p l e (rm_ 1 20) s m args below meth c H locs 0 0 (Qm below g mIds ad (mE g ad σr) none A args s) (F0 m 0 ls []) := by
  have hx := X.1.1
  have hb := X.1.2.1
  unfold m_starts at hf
  refine lv_aload_n hx hb dX3_starts_0 rfl (lv_at hl 0 rfl) ?_
  refine lv_iconst (v := 0) hx hb dX3_starts_1 (by decide) ?_
  refine mp_28 X hW dX3_starts_2 (fun H locs hW => ?_)
  refine lv_aload_n hx hb dX3_starts_5 rfl (lv_at hl 0 rfl) ?_
  refine lv_iconst (v := 0) hx hb dX3_starts_6 (by decide) ?_
  obtain ⟨σ_1, e_2, hf⟩ := nmb_e hf
  rw [← e_2] at hW
  clear e_2
  refine mp_29 X hW dX3_starts_7 (fun H locs hW => ?_)
  refine lv_aload_n hx hb dX3_starts_10 rfl (lv_at hl 0 rfl) ?_
  refine lv_iconst (v := 0) hx hb dX3_starts_11 (by decide) ?_
  obtain ⟨σ_3, e_4, hf⟩ := nmb_e hf
  rw [← e_4] at hW
  clear e_4
  refine mp_32 X hW dX3_starts_12 (fun H locs hW => ?_)
  refine lv_aload_n hx hb dX3_starts_15 rfl (lv_at hl 0 rfl) ?_
  refine lv_iconst (v := 0) hx hb dX3_starts_16 (by decide) ?_
  obtain ⟨σ_5, e_6, hf⟩ := nmb_e hf
  rw [← e_6] at hW
  clear e_6
  refine mp_33 X hW dX3_starts_17 (fun H locs hW => ?_)
  refine lv_aload_n hx hb dX3_starts_20 rfl (lv_at hl 0 rfl) ?_
  refine lv_iconst (v := 0) hx hb dX3_starts_21 (by decide) ?_
  obtain ⟨σ_7, e_8, hf⟩ := nmb_e hf
  rw [← e_8] at hW
  clear e_8
  refine mp_34 X hW dX3_starts_22 (fun H locs hW => ?_)
  exact m_vret X hW hf dX3_starts_25
theorem w_starts (l : Launch) {g : gG} {ad : Nat → Nat} (had : mI ad) {σr : cS}  {σ : cS}  (hf : m_starts σ = some σr) : MM l yX3_starts cX3_starts 1 none 1 20 g ad σ σr [.ref (ad 999)] none :=
  MC.of (by decide) mIds_nd had (Nat.le_of_ble_eq_true rfl) (fun p e s m below meth c A ls X hW hl => wb_starts X had hW hl hf)
theorem k_starts {p : Program} {l : Launch} {e : Env} {R : Room} {s : State} {m : MethodId} {args : Array Value} {below : List Frame} {meth : Method} {c : Code} {H : Heap} {locs : List Loc} {Q : State → Prop} {cc : ByteArray} {nL : Nat} {ret : Option FieldType} {g : gG} {A : Nat → Prop} {ad : Nat → Nat} {pc : Nat} {ls : Array Slot} {rest : List Value} {lv : List (Nat × Value)} {σr : cS}  {σ : cS} (X : MX p s m args meth c cc nL RX3 ret g A) (hW : WB g A s.heap mIds ad (mE g ad σ) H locs) (had : mI ad)  (hf : m_starts σ = some σr) (hR : 2 ≤ R.frames ∧ 40 ≤ R.locals) (hl : lv_has ls nL lv) (hcat : (rest.map fun v => v.category).sum ≤ 8) (hdg : decode cc pc = .ok (.invokevirtual 345, 3)) (kk : ∀ (H1 : Heap) (l1 : List Loc), WB g A s.heap mIds ad (mE g ad σr) H1 l1 → W p l e R s m args below meth c H1 l1 0 0 Q (F0 m (pc + 3) ls (rest))) : W p l e R s m args below meth c H locs 0 0 Q (F0 m pc ls (.ref (ad 999) :: rest)) :=
  r_callV X hW Sub.all (w_starts l had hf) (lw_V q1374 q1376 qs48 q126 q1377) ⟨rfl, by decide, by decide, by decide +kernel⟩ m_999 mE_o rfl (n := 0) hR hl rfl rfl hcat ⟨Nat.zero_le _, Nat.zero_le _⟩ hdg kk
-- sign
noncomputable def m_sign (σ : cS) : Option (Int32) :=
  if (σ.1 999 27) ≤ (σ.1 999 28) then (some (-1)) else (gd (inb (σ.1 999 28) 400) (some ((σ.1 37 (ix (σ.1 999 28))) &&& 255)))
set_option maxHeartbeats 4000000 in
theorem wb_sign {p : Program} {l : Launch} {e : Env} {s : State} {m : MethodId} {args : Array Value} {below : List Frame} {meth : Method} {c : Code} {g : gG} {A : Nat → Prop} {ad : Nat → Nat} (X : MX p s m args meth c cX3_sign 1 RX3 (some .int) g A) (had : mI ad) {r : Int32} {σ : cS}  {H : Heap} {locs : List Loc} {ls : Array Slot} (hW : WB g A s.heap mIds ad (mE g ad σ) H locs) (hl : lv_has ls 1 [(0, .ref (ad 999))]) (hf : m_sign σ = some r) : W p l e (rm_ 1 20) s m args below meth c H locs 0 0 (Qm below g mIds ad (mE g ad σ) (some (.int r)) A args s) (F0 m 0 ls []) := by
  have hx := X.1.1
  have hb := X.1.2.1
  unfold m_sign at hf
  refine lv_aload_n hx hb dX3_sign_0 rfl (lv_at hl 0 rfl) ?_
  refine mg_28 X hW dX3_sign_1 ?_
  refine lv_aload_n hx hb dX3_sign_4 rfl (lv_at hl 0 rfl) ?_
  refine mg_27 X hW dX3_sign_5 ?_
  refine lv_icmp_ge (tgt := 27) hx hb dX3_sign_8 (by decide) (fun c_1 => ?_) (fun c_1 => ?_)
  · replace hf := ip hf c_1
    refine lv_iconst (v := (-1)) hx hb dX3_sign_27 (by decide) ?_
    exact p_iret X hW hf dX3_sign_28
  · replace hf := ine hf c_1
    refine lv_aload_n hx hb dX3_sign_11 rfl (lv_at hl 0 rfl) ?_
    refine mg_37 X hW dX3_sign_12 ?_
    refine lv_aload_n hx hb dX3_sign_15 rfl (lv_at hl 0 rfl) ?_
    refine mg_28 X hW dX3_sign_16 ?_
    obtain ⟨h_2, hf⟩ := gd_e hf
    refine ml_37 X hW h_2 dX3_sign_19 ?_
    refine lv_sipush (v := 255) hx hb dX3_sign_20 (by decide) ?_
    refine lv_iand hx hb dX3_sign_23 ?_
    refine lv_goto (tgt := 28) hx hb dX3_sign_24 (by decide) ?_
    exact p_iret X hW hf dX3_sign_28
theorem w_sign (l : Launch) {g : gG} {ad : Nat → Nat} (had : mI ad) {r : Int32} {σ : cS}  (hf : m_sign σ = some r) : MM l yX3_sign cX3_sign 1 (some .int) 1 20 g ad σ σ [.ref (ad 999)] (some (.int r)) :=
  MC.of (by decide) mIds_nd had (Nat.le_of_ble_eq_true rfl) (fun p e s m below meth c A ls X hW hl => wb_sign X had hW hl hf)
theorem k_sign {p : Program} {l : Launch} {e : Env} {R : Room} {s : State} {m : MethodId} {args : Array Value} {below : List Frame} {meth : Method} {c : Code} {H : Heap} {locs : List Loc} {Q : State → Prop} {cc : ByteArray} {nL : Nat} {ret : Option FieldType} {g : gG} {A : Nat → Prop} {ad : Nat → Nat} {pc : Nat} {ls : Array Slot} {rest : List Value} {lv : List (Nat × Value)} {r : Int32} {σ : cS} (X : MX p s m args meth c cc nL RX3 ret g A) (hW : WB g A s.heap mIds ad (mE g ad σ) H locs) (had : mI ad)  (hf : m_sign σ = some r) (hR : 2 ≤ R.frames ∧ 40 ≤ R.locals) (hl : lv_has ls nL lv) (hcat : (rest.map fun v => v.category).sum ≤ 8) (hdg : decode cc pc = .ok (.invokevirtual 220, 3)) (kk : ∀ (H1 : Heap) (l1 : List Loc), WB g A s.heap mIds ad (mE g ad σ) H1 l1 → W p l e R s m args below meth c H1 l1 0 0 Q (F0 m (pc + 3) ls (.int r :: rest))) : W p l e R s m args below meth c H locs 0 0 Q (F0 m pc ls (.ref (ad 999) :: rest)) :=
  r_callV X hW Sub.all (w_sign l had hf) (lw_V q1386 q1388 qs51 q126 q1389) ⟨rfl, by decide, by decide, by decide +kernel⟩ m_999 mE_o rfl (n := 0) hR hl rfl rfl hcat ⟨Nat.zero_le _, Nat.zero_le _⟩ hdg kk
-- blanks
noncomputable def m_blanks_0 {ρ : Type}  (K : cS → Option ρ) : Nat → cS → Option ρ
  | 0, _ => none
  | n + 1, σ => ((m_sign σ).bind fun r_2 => if r_2 = 32 then (m_blanks_0 K n (si σ 999 28 ((σ.1 999 28) + 1))) else (K σ))
set_option maxHeartbeats 4000000 in
theorem wm_blanks_0 {p : Program} {l : Launch} {e : Env} {s : State} {m : MethodId} {args : Array Value} {below : List Frame} {meth : Method} {c : Code} {g : gG} {A : Nat → Prop} {ad : Nat → Nat} (X : MX p s m args meth c cX3_blanks 1 RX3 none g A) (had : mI ad) {ρ : Type} {res : ρ} {Q : State → Prop}   {K : cS → Option ρ}
    (hK : ∀ (σ : cS) (H : Heap) (locs : List Loc) (ls : Array Slot), WB g A s.heap mIds ad (mE g ad σ) H locs → lv_has ls 1 [] → K σ = some res → W p l e (rm_ 2 40) s m args below meth c H locs 0 0 Q (F0 m 22 ls [])) :
    ∀ (n : Nat) (σ : cS) (H : Heap) (locs : List Loc) (ls : Array Slot), WB g A s.heap mIds ad (mE g ad σ) H locs → lv_has ls 1 [(0, .ref (ad 999))] → m_blanks_0 K n σ = some res → W p l e (rm_ 2 40) s m args below meth c H locs 0 0 Q (F0 m 0 ls []) := by
  have hx := X.1.1
  have hb := X.1.2.1
  intro n
  induction n with
  | zero =>
    intro σ H locs ls hW hl hf
    rw [m_blanks_0] at hf
    cases hf
  | succ n ih =>
    intro σ H locs ls hW hl hf
    rw [m_blanks_0] at hf
    refine lv_aload_n hx hb dX3_blanks_0 rfl (lv_at hl 0 rfl) ?_
    obtain ⟨r_2, h_1, hf⟩ := bd_e hf
    refine k_sign X hW had h_1 (by decide) hl (Nat.le_of_ble_eq_true rfl) dX3_blanks_1 (fun H locs hW => ?_)
    refine lv_bipush (v := 32) hx hb dX3_blanks_4 (by decide) ?_
    refine lv_icmp_ne (tgt := 22) hx hb dX3_blanks_6 (by decide) (fun c_3 => ?_) (fun c_3 => ?_)
    · replace hf := ine hf c_3
      exact hK _ _ _ _ hW (lv_sub hl [] rfl) hf
    · replace hf := ip hf c_3
      refine lv_aload_n hx hb dX3_blanks_9 rfl (lv_at hl 0 rfl) ?_
      refine lv_dup hx hb dX3_blanks_10 rfl ?_
      refine mg_28 X hW dX3_blanks_11 ?_
      refine lv_iconst (v := 1) hx hb dX3_blanks_14 (by decide) ?_
      refine lv_iadd hx hb dX3_blanks_15 ?_
      refine mp_28 X hW dX3_blanks_16 (fun H locs hW => ?_)
      refine lv_goto (tgt := 0) hx hb dX3_blanks_19 (by decide) ?_
      exact ih _ _ _ _ hW (lv_sub hl [0] rfl) hf
noncomputable def m_blanks (σ : cS) : Option (cS) :=
  m_blanks_0  (fun σ_4 => (some σ_4)) FU σ
set_option maxHeartbeats 4000000 in
theorem wb_blanks {p : Program} {l : Launch} {e : Env} {s : State} {m : MethodId} {args : Array Value} {below : List Frame} {meth : Method} {c : Code} {g : gG} {A : Nat → Prop} {ad : Nat → Nat} (X : MX p s m args meth c cX3_blanks 1 RX3 none g A) (had : mI ad) {σr : cS}  {σ : cS}  {H : Heap} {locs : List Loc} {ls : Array Slot} (hW : WB g A s.heap mIds ad (mE g ad σ) H locs) (hl : lv_has ls 1 [(0, .ref (ad 999))]) (hf : m_blanks σ = some σr) : W p l e (rm_ 2 40) s m args below meth c H locs 0 0 (Qm below g mIds ad (mE g ad σr) none A args s) (F0 m 0 ls []) := by
  have hx := X.1.1
  have hb := X.1.2.1
  unfold m_blanks at hf
  refine wm_blanks_0 X had (fun σ_4 H locs ls hW hl hf => ?_) _ _ _ _ _ hW (lv_sub hl [0] rfl) hf
  exact m_vret X hW hf dX3_blanks_22
theorem w_blanks (l : Launch) {g : gG} {ad : Nat → Nat} (had : mI ad) {σr : cS}  {σ : cS}  (hf : m_blanks σ = some σr) : MM l yX3_blanks cX3_blanks 1 none 2 40 g ad σ σr [.ref (ad 999)] none :=
  MC.of (by decide) mIds_nd had (Nat.le_of_ble_eq_true rfl) (fun p e s m below meth c A ls X hW hl => wb_blanks X had hW hl hf)
theorem k_blanks {p : Program} {l : Launch} {e : Env} {R : Room} {s : State} {m : MethodId} {args : Array Value} {below : List Frame} {meth : Method} {c : Code} {H : Heap} {locs : List Loc} {Q : State → Prop} {cc : ByteArray} {nL : Nat} {ret : Option FieldType} {g : gG} {A : Nat → Prop} {ad : Nat → Nat} {pc : Nat} {ls : Array Slot} {rest : List Value} {lv : List (Nat × Value)} {σr : cS}  {σ : cS} (X : MX p s m args meth c cc nL RX3 ret g A) (hW : WB g A s.heap mIds ad (mE g ad σ) H locs) (had : mI ad)  (hf : m_blanks σ = some σr) (hR : 3 ≤ R.frames ∧ 60 ≤ R.locals) (hl : lv_has ls nL lv) (hcat : (rest.map fun v => v.category).sum ≤ 8) (hdg : decode cc pc = .ok (.invokevirtual 237, 3)) (kk : ∀ (H1 : Heap) (l1 : List Loc), WB g A s.heap mIds ad (mE g ad σr) H1 l1 → W p l e R s m args below meth c H1 l1 0 0 Q (F0 m (pc + 3) ls (rest))) : W p l e R s m args below meth c H locs 0 0 Q (F0 m pc ls (.ref (ad 999) :: rest)) :=
  r_callV X hW Sub.all (w_blanks l had hf) (lw_V q1382 q1384 qs50 q126 q1385) ⟨rfl, by decide, by decide, by decide +kernel⟩ m_999 mE_o rfl (n := 0) hR hl rfl rfl hcat ⟨Nat.zero_le _, Nat.zero_le _⟩ hdg kk
-- stripWord
noncomputable def m_stripWord (v0 : Int32) : Option (Nat) :=
  if v0 = 0 then (some 37) else (if v0 = 1 then (some 22) else (if v0 = 2 then (some 27) else (if v0 = 3 then (some 38) else (if v0 = 4 then (some 39) else (some 40)))))
set_option maxHeartbeats 4000000 in
theorem wb_stripWord {p : Program} {l : Launch} {e : Env} {s : State} {m : MethodId} {args : Array Value} {below : List Frame} {meth : Method} {c : Code} {g : gG} {A : Nat → Prop} (X : MX p s m args meth c cX3_stripWord 1 RX3 (some (.object "java/lang/String")) g A)  {r : Nat} {v0 : Int32}  {H : Heap} {locs : List Loc} {ls : Array Slot} (hW : WB g A s.heap [] ad0 E0 H locs) (hl : lv_has ls 1 [(0, .int v0)]) (hf : m_stripWord v0 = some r) : W p l e (rm_ 1 20) s m args below meth c H locs 0 0 (Qm below g [] ad0 E0 (some (.ref (g.2.2.1 r))) A args s) (F0 m 0 ls []) := by
  have hx := X.1.1
  have hb := X.1.2.1
  unfold m_stripWord at hf
  refine lv_iload_n hx hb dX3_stripWord_0 rfl (lv_at hl 0 rfl) ?_
  by_cases c_1 : v0 = 0
  · replace hf := ip hf c_1
    refine r_tabIn (tgt := 36) (off := 35) (k := 0) hx hb c_1 dX3_stripWord_1 (by decide) (by decide) rfl (by decide) ?_
    refine va_ldcSw hx hb X.1.2.2.2.1 (X.2.2.2.2.1.1 37 _ rfl).1 dX3_stripWord_36 ?_
    exact p_sret X hW hf dX3_stripWord_39
  · replace hf := ine hf c_1
    by_cases c_2 : v0 = 1
    · replace hf := ip hf c_2
      refine r_tabIn (tgt := 40) (off := 39) (k := 1) hx hb c_2 dX3_stripWord_1 (by decide) (by decide) rfl (by decide) ?_
      refine va_ldcS hx hb X.1.2.2.2.1 (X.2.2.2.2.1.1 22 _ rfl).1 dX3_stripWord_40 ?_
      exact p_sret X hW hf dX3_stripWord_42
    · replace hf := ine hf c_2
      by_cases c_3 : v0 = 2
      · replace hf := ip hf c_3
        refine r_tabIn (tgt := 43) (off := 42) (k := 2) hx hb c_3 dX3_stripWord_1 (by decide) (by decide) rfl (by decide) ?_
        refine va_ldcS hx hb X.1.2.2.2.1 (X.2.2.2.2.1.1 27 _ rfl).1 dX3_stripWord_43 ?_
        exact p_sret X hW hf dX3_stripWord_45
      · replace hf := ine hf c_3
        by_cases c_4 : v0 = 3
        · replace hf := ip hf c_4
          refine r_tabIn (tgt := 46) (off := 45) (k := 3) hx hb c_4 dX3_stripWord_1 (by decide) (by decide) rfl (by decide) ?_
          refine va_ldcSw hx hb X.1.2.2.2.1 (X.2.2.2.2.1.1 38 _ rfl).1 dX3_stripWord_46 ?_
          exact p_sret X hW hf dX3_stripWord_49
        · replace hf := ine hf c_4
          by_cases c_5 : v0 = 4
          · replace hf := ip hf c_5
            refine r_tabIn (tgt := 50) (off := 49) (k := 4) hx hb c_5 dX3_stripWord_1 (by decide) (by decide) rfl (by decide) ?_
            refine va_ldcSw hx hb X.1.2.2.2.1 (X.2.2.2.2.1.1 39 _ rfl).1 dX3_stripWord_50 ?_
            exact p_sret X hW hf dX3_stripWord_53
          · replace hf := ine hf c_5
            refine lv_tableOut (tgt := 54) hx hb dX3_stripWord_1 (by have := lv_neT c_1 (a := 0) rfl; have := lv_neT c_2 (a := 1) rfl; have := lv_neT c_3 (a := 2) rfl; have := lv_neT c_4 (a := 3) rfl; have := lv_neT c_5 (a := 4) rfl; omega) (by decide) ?_
            refine va_ldcSw hx hb X.1.2.2.2.1 (X.2.2.2.2.1.1 40 _ rfl).1 dX3_stripWord_54 ?_
            exact p_sret X hW hf dX3_stripWord_57
theorem w_stripWord (l : Launch) {g : gG} {r : Nat} {v0 : Int32}  (hf : m_stripWord v0 = some r) : MS l yX3_stripWord cX3_stripWord 1 (some (.object "java/lang/String")) 1 20 g [.int v0] (some (.ref (g.2.2.1 r))) :=
  MC.of (by decide) List.nodup_nil wI_nil (Nat.le_of_ble_eq_true rfl) (fun p e s m below meth c A ls X hW hl => wb_stripWord X hW hl hf)
theorem k_stripWord {p : Program} {l : Launch} {e : Env} {R : Room} {s : State} {m : MethodId} {args : Array Value} {below : List Frame} {meth : Method} {c : Code} {H : Heap} {locs : List Loc} {Q : State → Prop} {cc : ByteArray} {nL : Nat} {ret : Option FieldType} {g : gG} {A : Nat → Prop} {ad : Nat → Nat} {ids : List Nat} {E : Nat → va_E} {pc : Nat} {ls : Array Slot} {rest : List Value} {lv : List (Nat × Value)} {r : Nat} {v0 : Int32} (X : MX p s m args meth c cc nL RX3 ret g A) (hW : WB g A s.heap ids ad E H locs)  (hf : m_stripWord v0 = some r) (hR : 2 ≤ R.frames ∧ 40 ≤ R.locals) (hl : lv_has ls nL lv) (hcat : (rest.map fun v => v.category).sum ≤ 8) (hdg : decode cc pc = .ok (.invokestatic 336, 3)) (kk : ∀ (H1 : Heap) (l1 : List Loc), WB g A s.heap ids ad E H1 l1 → W p l e R s m args below meth c H1 l1 0 0 Q (F0 m (pc + 3) ls (.ref (g.2.2.1 r) :: rest))) : W p l e R s m args below meth c H locs 0 0 Q (F0 m pc ls (.int v0 :: rest)) :=
  r_callS X hW Sub.nil (w_stripWord l hf) (lw_S q1390 q1391 q126 q1392) ⟨by decide, by decide, by decide +kernel⟩ (n := 1) hR hl rfl rfl hcat ⟨Nat.zero_le _, Nat.zero_le _⟩ hdg kk
-- stood
noncomputable def m_stood_5 {ρ : Type} (σ : cS) (v1 : Nat) (K : Int32 → Option ρ) : Nat → Int32 → Option ρ
  | 0, _ => none
  | n + 1, v2 => if (σ.1 999 27) ≤ v2 then (K v2) else (gd (inb v2 400) (if (σ.1 37 (ix v2)) < 97 then (K v2) else (if 122 < (σ.1 37 (ix v2)) then (K v2) else (m_stood_5 σ v1 K n (v2 + 1)))))
set_option maxHeartbeats 4000000 in
theorem wm_stood_5 {p : Program} {l : Launch} {e : Env} {s : State} {m : MethodId} {args : Array Value} {below : List Frame} {meth : Method} {c : Code} {g : gG} {A : Nat → Prop} {ad : Nat → Nat} (X : MX p s m args meth c cX3_stood 5 RX3 (some .boolean) g A) (had : mI ad) {ρ : Type} {res : ρ} {Q : State → Prop} {v1 : Nat} {σ : cS} (hs_v1 : v1 < 43) {K : Int32 → Option ρ}
    (hK : ∀ (k2 : Int32) (H : Heap) (locs : List Loc) (ls : Array Slot), WB g A s.heap mIds ad (mE g ad σ) H locs → lv_has ls 5 [(0, .ref (ad 999)), (1, .ref (g.2.2.1 v1)), (2, .int k2)] → K k2 = some res → W p l e (rm_ 6 200) s m args below meth c H locs 0 0 Q (F0 m 41 ls [])) :
    ∀ (n : Nat) (v2 : Int32) (H : Heap) (locs : List Loc) (ls : Array Slot), WB g A s.heap mIds ad (mE g ad σ) H locs → lv_has ls 5 [(0, .ref (ad 999)), (1, .ref (g.2.2.1 v1)), (2, .int v2)] → m_stood_5 σ v1 K n v2 = some res → W p l e (rm_ 6 200) s m args below meth c H locs 0 0 Q (F0 m 5 ls []) := by
  have hx := X.1.1
  have hb := X.1.2.1
  intro n
  induction n with
  | zero =>
    intro v2 H locs ls hW hl hf
    rw [m_stood_5] at hf
    cases hf
  | succ n ih =>
    intro v2 H locs ls hW hl hf
    rw [m_stood_5] at hf
    refine lv_iload_n hx hb dX3_stood_5 rfl (lv_at hl 2 rfl) ?_
    refine lv_aload_n hx hb dX3_stood_6 rfl (lv_at hl 0 rfl) ?_
    refine mg_27 X hW dX3_stood_7 ?_
    refine lv_icmp_ge (tgt := 41) hx hb dX3_stood_10 (by decide) (fun c_1 => ?_) (fun c_1 => ?_)
    · replace hf := ip hf c_1
      exact hK _ _ _ _ hW (lv_sub hl [0, 1, 2] rfl) hf
    · replace hf := ine hf c_1
      refine lv_aload_n hx hb dX3_stood_13 rfl (lv_at hl 0 rfl) ?_
      refine mg_37 X hW dX3_stood_14 ?_
      refine lv_iload_n hx hb dX3_stood_17 rfl (lv_at hl 2 rfl) ?_
      obtain ⟨h_2, hf⟩ := gd_e hf
      refine ml_37 X hW h_2 dX3_stood_18 ?_
      refine lv_bipush (v := 97) hx hb dX3_stood_19 (by decide) ?_
      refine lv_icmp_lt (tgt := 41) hx hb dX3_stood_21 (by decide) (fun c_3 => ?_) (fun c_3 => ?_)
      · replace hf := ip hf c_3
        exact hK _ _ _ _ hW (lv_sub hl [0, 1, 2] rfl) hf
      · replace hf := ine hf c_3
        refine lv_aload_n hx hb dX3_stood_24 rfl (lv_at hl 0 rfl) ?_
        refine mg_37 X hW dX3_stood_25 ?_
        refine lv_iload_n hx hb dX3_stood_28 rfl (lv_at hl 2 rfl) ?_
        refine ml_37 X hW h_2 dX3_stood_29 ?_
        refine lv_bipush (v := 122) hx hb dX3_stood_30 (by decide) ?_
        refine lv_icmp_gt (tgt := 41) hx hb dX3_stood_32 (by decide) (fun c_4 => ?_) (fun c_4 => ?_)
        · replace hf := ip hf c_4
          exact hK _ _ _ _ hW (lv_sub hl [0, 1, 2] rfl) hf
        · replace hf := ine hf c_4
          refine lv_iinc (v := (v2 + 1)) (lv' := [(2, .int (v2 + 1)), (0, .ref (ad 999)), (1, .ref (g.2.2.1 v1))]) hx hb dX3_stood_35 hl (k := 2) rfl (ii_v _ _ _ (by decide)) (by decide) rfl (fun ls hl => ?_)
          refine lv_goto (tgt := 5) hx hb dX3_stood_38 (by decide) ?_
          exact ih _ _ _ _ hW (lv_sub hl [1, 2, 0] rfl) hf
noncomputable def m_stood_63 {ρ : Type} (σ : cS) (v1 : Nat) (K : Int32 → Option ρ) : Nat → Int32 → Int32 → Option ρ
  | 0, _, _ => none
  | n + 1, v3, v4 => if (nI (stC v1).length) ≤ v4 then (K v3) else (if v3 = 0 then (K v3) else (gd (inb ((σ.1 999 28) + v4) 400) (gd (inb v4 (stC v1).length) (if (σ.1 37 (ix ((σ.1 999 28) + v4))) = ((stC v1).getD (ix v4) 0) then (m_stood_63 σ v1 K n 1 (v4 + 1)) else (m_stood_63 σ v1 K n 0 (v4 + 1))))))
set_option maxHeartbeats 4000000 in
theorem wm_stood_63 {p : Program} {l : Launch} {e : Env} {s : State} {m : MethodId} {args : Array Value} {below : List Frame} {meth : Method} {c : Code} {g : gG} {A : Nat → Prop} {ad : Nat → Nat} (X : MX p s m args meth c cX3_stood 5 RX3 (some .boolean) g A) (had : mI ad) {ρ : Type} {res : ρ} {Q : State → Prop} {v1 : Nat} {σ : cS} (hs_v1 : v1 < 43) {K : Int32 → Option ρ}
    (hK : ∀ (k3 : Int32) (H : Heap) (locs : List Loc) (ls : Array Slot), WB g A s.heap mIds ad (mE g ad σ) H locs → lv_has ls 5 [(3, .int k3)] → K k3 = some res → W p l e (rm_ 6 200) s m args below meth c H locs 0 0 Q (F0 m 109 ls [])) :
    ∀ (n : Nat) (v3 : Int32) (v4 : Int32) (H : Heap) (locs : List Loc) (ls : Array Slot), WB g A s.heap mIds ad (mE g ad σ) H locs → lv_has ls 5 [(0, .ref (ad 999)), (1, .ref (g.2.2.1 v1)), (3, .int v3), (4, .int v4)] → m_stood_63 σ v1 K n v3 v4 = some res → W p l e (rm_ 6 200) s m args below meth c H locs 0 0 Q (F0 m 63 ls []) := by
  have hx := X.1.1
  have hb := X.1.2.1
  intro n
  induction n with
  | zero =>
    intro v3 v4 H locs ls hW hl hf
    rw [m_stood_63] at hf
    cases hf
  | succ n ih =>
    intro v3 v4 H locs ls hW hl hf
    rw [m_stood_63] at hf
    refine lv_iload hx hb dX3_stood_63 (lv_at hl 3 rfl) ?_
    refine lv_aload_n hx hb dX3_stood_65 rfl (lv_at hl 1 rfl) ?_
    refine k_slen X hW hs_v1 (by decide) hl (Nat.le_of_ble_eq_true rfl) q1403 dX3_stood_66 (fun H locs hW => ?_)
    refine lv_icmp_ge (tgt := 109) hx hb dX3_stood_69 (by decide) (fun c_8 => ?_) (fun c_8 => ?_)
    · replace hf := ip hf c_8
      exact hK _ _ _ _ hW (lv_sub hl [2] rfl) hf
    · replace hf := ine hf c_8
      refine lv_iload_n hx hb dX3_stood_72 rfl (lv_at hl 2 rfl) ?_
      refine lv_if_eq (tgt := 109) hx hb dX3_stood_73 (by decide) (fun c_9 => ?_) (fun c_9 => ?_)
      · replace hf := ip hf c_9
        exact hK _ _ _ _ hW (lv_sub hl [2] rfl) hf
      · replace hf := ine hf c_9
        refine lv_aload_n hx hb dX3_stood_76 rfl (lv_at hl 0 rfl) ?_
        refine mg_37 X hW dX3_stood_77 ?_
        refine lv_aload_n hx hb dX3_stood_80 rfl (lv_at hl 0 rfl) ?_
        refine mg_28 X hW dX3_stood_81 ?_
        refine lv_iload hx hb dX3_stood_84 (lv_at hl 3 rfl) ?_
        refine lv_iadd hx hb dX3_stood_86 ?_
        obtain ⟨h_10, hf⟩ := gd_e hf
        refine ml_37 X hW h_10 dX3_stood_87 ?_
        refine lv_aload_n hx hb dX3_stood_88 rfl (lv_at hl 1 rfl) ?_
        refine lv_iload hx hb dX3_stood_89 (lv_at hl 3 rfl) ?_
        obtain ⟨h_11, hf⟩ := gd_e hf
        refine k_schar X hW hs_v1 h_11 (by decide) hl (Nat.le_of_ble_eq_true rfl) q1404 dX3_stood_91 (fun H locs hW => ?_)
        refine lv_icmp_ne (tgt := 101) hx hb dX3_stood_94 (by decide) (fun c_12 => ?_) (fun c_12 => ?_)
        · replace hf := ine hf c_12
          refine lv_iconst (v := 0) hx hb dX3_stood_101 (by decide) ?_
          refine lv_istore_n (lv' := [(3, .int 0), (0, .ref (ad 999)), (1, .ref (g.2.2.1 v1)), (4, .int v4)]) hx hb dX3_stood_102 rfl hl (by decide) rfl (fun ls hl => ?_)
          refine lv_iinc (v := (v4 + 1)) (lv' := [(4, .int (v4 + 1)), (3, .int 0), (0, .ref (ad 999)), (1, .ref (g.2.2.1 v1))]) hx hb dX3_stood_103 hl (k := 3) rfl (ii_v _ _ _ (by decide)) (by decide) rfl (fun ls hl => ?_)
          refine lv_goto (tgt := 63) hx hb dX3_stood_106 (by decide) ?_
          exact ih _ _ _ _ _ hW (lv_sub hl [2, 3, 1, 0] rfl) hf
        · replace hf := ip hf c_12
          refine lv_iconst (v := 1) hx hb dX3_stood_97 (by decide) ?_
          refine lv_goto (tgt := 102) hx hb dX3_stood_98 (by decide) ?_
          refine lv_istore_n (lv' := [(3, .int 1), (0, .ref (ad 999)), (1, .ref (g.2.2.1 v1)), (4, .int v4)]) hx hb dX3_stood_102 rfl hl (by decide) rfl (fun ls hl => ?_)
          refine lv_iinc (v := (v4 + 1)) (lv' := [(4, .int (v4 + 1)), (3, .int 1), (0, .ref (ad 999)), (1, .ref (g.2.2.1 v1))]) hx hb dX3_stood_103 hl (k := 3) rfl (ii_v _ _ _ (by decide)) (by decide) rfl (fun ls hl => ?_)
          refine lv_goto (tgt := 63) hx hb dX3_stood_106 (by decide) ?_
          exact ih _ _ _ _ _ hW (lv_sub hl [2, 3, 1, 0] rfl) hf
noncomputable def m_stood (σ : cS) (v1 : Nat) : Option (Int32) :=
  m_stood_5 σ v1 (fun v_5 => (((if (v_5 - (σ.1 999 28)) = (nI (stC v1).length) then (some (1)) else (some (0)) : Option (Int32)).bind fun t_6 => (m_stood_63 σ v1 (fun v_13 => (gd (zb v_13) (some v_13))) FU t_6 0)))) FU (σ.1 999 28)
set_option maxHeartbeats 4000000 in
theorem wb_stood {p : Program} {l : Launch} {e : Env} {s : State} {m : MethodId} {args : Array Value} {below : List Frame} {meth : Method} {c : Code} {g : gG} {A : Nat → Prop} {ad : Nat → Nat} (X : MX p s m args meth c cX3_stood 5 RX3 (some .boolean) g A) (had : mI ad) {r : Int32} {σ : cS} {v1 : Nat} (hs_v1 : v1 < 43) {H : Heap} {locs : List Loc} {ls : Array Slot} (hW : WB g A s.heap mIds ad (mE g ad σ) H locs) (hl : lv_has ls 5 [(0, .ref (ad 999)), (1, .ref (g.2.2.1 v1))]) (hf : m_stood σ v1 = some r) : W p l e (rm_ 6 200) s m args below meth c H locs 0 0 (Qm below g mIds ad (mE g ad σ) (some (.int r)) A args s) (F0 m 0 ls []) := by
  have hx := X.1.1
  have hb := X.1.2.1
  unfold m_stood at hf
  refine lv_aload_n hx hb dX3_stood_0 rfl (lv_at hl 0 rfl) ?_
  refine mg_28 X hW dX3_stood_1 ?_
  refine lv_istore_n (lv' := [(2, .int (σ.1 999 28)), (0, .ref (ad 999)), (1, .ref (g.2.2.1 v1))]) hx hb dX3_stood_4 rfl hl (by decide) rfl (fun ls hl => ?_)
  refine wm_stood_5 X had hs_v1 (fun v_5 H locs ls hW hl hf => ?_) _ _ _ _ _ hW (lv_sub hl [1, 2, 0] rfl) hf
  refine lv_iload_n hx hb dX3_stood_41 rfl (lv_at hl 2 rfl) ?_
  refine lv_aload_n hx hb dX3_stood_42 rfl (lv_at hl 0 rfl) ?_
  refine mg_28 X hW dX3_stood_43 ?_
  refine lv_isub hx hb dX3_stood_46 ?_
  refine lv_aload_n hx hb dX3_stood_47 rfl (lv_at hl 1 rfl) ?_
  refine k_slen X hW hs_v1 (by decide) hl (Nat.le_of_ble_eq_true rfl) q1403 dX3_stood_48 (fun H locs hW => ?_)
  obtain ⟨t_6, hD_7, hf⟩ := bd_e hf
  have hJ : ∀ (H : Heap) (locs : List Loc) (ls : Array Slot), WB g A s.heap mIds ad (mE g ad σ) H locs → lv_has ls 5 [(0, .ref (ad 999)), (1, .ref (g.2.2.1 v1))] → W p l e (rm_ 6 200) s m args below meth c H locs 0 0 (Qm below g mIds ad (mE g ad σ) (some (.int r)) A args s) (F0 m 59 ls [.int t_6]) := by
    intro H locs ls hW hl
    refine lv_istore_n (lv' := [(3, .int t_6), (0, .ref (ad 999)), (1, .ref (g.2.2.1 v1))]) hx hb dX3_stood_59 rfl hl (by decide) rfl (fun ls hl => ?_)
    refine lv_iconst (v := 0) hx hb dX3_stood_60 (by decide) ?_
    refine lv_istore (lv' := [(4, .int 0), (3, .int t_6), (0, .ref (ad 999)), (1, .ref (g.2.2.1 v1))]) hx hb dX3_stood_61 hl (by decide) rfl (fun ls hl => ?_)
    refine wm_stood_63 X had hs_v1 (fun v_13 H locs ls hW hl hf => ?_) _ _ _ _ _ _ hW (lv_sub hl [2, 3, 1, 0] rfl) hf
    refine lv_iload_n hx hb dX3_stood_109 rfl (lv_at hl 0 rfl) ?_
    obtain ⟨h_14, hf⟩ := gd_e hf
    exact p_zret X hW hf h_14 dX3_stood_110
  clear hf
  refine lv_icmp_ne (tgt := 58) hx hb dX3_stood_51 (by decide) (fun c_15 => ?_) (fun c_15 => ?_)
  · replace hD_7 := ine hD_7 c_15
    refine lv_iconst (v := 0) hx hb dX3_stood_58 (by decide) ?_
    cases hD_7
    exact hJ _ _ _ hW (lv_sub hl [0, 1] rfl)
  · replace hD_7 := ip hD_7 c_15
    refine lv_iconst (v := 1) hx hb dX3_stood_54 (by decide) ?_
    refine lv_goto (tgt := 59) hx hb dX3_stood_55 (by decide) ?_
    cases hD_7
    exact hJ _ _ _ hW (lv_sub hl [0, 1] rfl)
theorem w_stood (l : Launch) {g : gG} {ad : Nat → Nat} (had : mI ad) {r : Int32} {σ : cS} {v1 : Nat} (hs_v1 : v1 < 43) (hf : m_stood σ v1 = some r) : MM l yX3_stood cX3_stood 5 (some .boolean) 6 200 g ad σ σ [.ref (ad 999), .ref (g.2.2.1 v1)] (some (.int r)) :=
  MC.of (by decide) mIds_nd had (Nat.le_of_ble_eq_true rfl) (fun p e s m below meth c A ls X hW hl => wb_stood X had hs_v1 hW hl hf)
theorem k_stood {p : Program} {l : Launch} {e : Env} {R : Room} {s : State} {m : MethodId} {args : Array Value} {below : List Frame} {meth : Method} {c : Code} {H : Heap} {locs : List Loc} {Q : State → Prop} {cc : ByteArray} {nL : Nat} {ret : Option FieldType} {g : gG} {A : Nat → Prop} {ad : Nat → Nat} {pc : Nat} {ls : Array Slot} {rest : List Value} {lv : List (Nat × Value)} {r : Int32} {σ : cS} {v1 : Nat} (X : MX p s m args meth c cc nL RX3 ret g A) (hW : WB g A s.heap mIds ad (mE g ad σ) H locs) (had : mI ad) (hs_v1 : v1 < 43) (hf : m_stood σ v1 = some r) (hR : 7 ≤ R.frames ∧ 224 ≤ R.locals) (hl : lv_has ls nL lv) (hcat : (rest.map fun v => v.category).sum ≤ 8) (hdg : decode cc pc = .ok (.invokevirtual 240, 3)) (kk : ∀ (H1 : Heap) (l1 : List Loc), WB g A s.heap mIds ad (mE g ad σ) H1 l1 → W p l e R s m args below meth c H1 l1 0 0 Q (F0 m (pc + 3) ls (.int r :: rest))) : W p l e R s m args below meth c H locs 0 0 Q (F0 m pc ls (.ref (g.2.2.1 v1) :: .ref (ad 999) :: rest)) :=
  r_callV X hW Sub.all (w_stood l had hs_v1 hf) (lw_V q1399 q1401 qs52 q126 q1402) ⟨rfl, by decide, by decide, by decide +kernel⟩ m_999 mE_o rfl (n := 1) hR hl rfl rfl hcat ⟨Nat.zero_le _, Nat.zero_le _⟩ hdg kk
-- fails
noncomputable def m_fails (σ : cS) (v1 : Int32) (v2 : Int32) : Option (cS) :=
  if (σ.1 999 29) = 0 then (some (si σ 999 29 ((1 + (8 * v2)) + v1))) else (some (si σ 999 29 (σ.1 999 29)))
set_option maxHeartbeats 4000000 in
theorem wb_fails {p : Program} {l : Launch} {e : Env} {s : State} {m : MethodId} {args : Array Value} {below : List Frame} {meth : Method} {c : Code} {g : gG} {A : Nat → Prop} {ad : Nat → Nat} (X : MX p s m args meth c cX3_fails 3 RX3 none g A) (had : mI ad) {σr : cS}  {σ : cS} {v1 : Int32} {v2 : Int32}  {H : Heap} {locs : List Loc} {ls : Array Slot} (hW : WB g A s.heap mIds ad (mE g ad σ) H locs) (hl : lv_has ls 3 [(0, .ref (ad 999)), (1, .int v1), (2, .int v2)]) (hf : m_fails σ v1 v2 = some σr) : W p l e (rm_ 1 20) s m args below meth c H locs 0 0 (Qm below g mIds ad (mE g ad σr) none A args s) (F0 m 0 ls []) := by
  have hx := X.1.1
  have hb := X.1.2.1
  unfold m_fails at hf
  refine lv_aload_n hx hb dX3_fails_0 rfl (lv_at hl 0 rfl) ?_
  refine lv_aload_n hx hb dX3_fails_1 rfl (lv_at hl 0 rfl) ?_
  refine mg_29 X hW dX3_fails_2 ?_
  refine lv_if_ne (tgt := 19) hx hb dX3_fails_5 (by decide) (fun c_1 => ?_) (fun c_1 => ?_)
  · replace hf := ine hf c_1
    refine lv_aload_n hx hb dX3_fails_19 rfl (lv_at hl 0 rfl) ?_
    refine mg_29 X hW dX3_fails_20 ?_
    refine mp_29 X hW dX3_fails_23 (fun H locs hW => ?_)
    exact m_vret X hW hf dX3_fails_26
  · replace hf := ip hf c_1
    refine lv_iconst (v := 1) hx hb dX3_fails_8 (by decide) ?_
    refine lv_bipush (v := 8) hx hb dX3_fails_9 (by decide) ?_
    refine lv_iload_n hx hb dX3_fails_11 rfl (lv_at hl 2 rfl) ?_
    refine lv_imul hx hb dX3_fails_12 ?_
    refine lv_iadd hx hb dX3_fails_13 ?_
    refine lv_iload_n hx hb dX3_fails_14 rfl (lv_at hl 1 rfl) ?_
    refine lv_iadd hx hb dX3_fails_15 ?_
    refine lv_goto (tgt := 23) hx hb dX3_fails_16 (by decide) ?_
    refine mp_29 X hW dX3_fails_23 (fun H locs hW => ?_)
    exact m_vret X hW hf dX3_fails_26
theorem w_fails (l : Launch) {g : gG} {ad : Nat → Nat} (had : mI ad) {σr : cS}  {σ : cS} {v1 : Int32} {v2 : Int32}  (hf : m_fails σ v1 v2 = some σr) : MM l yX3_fails cX3_fails 3 none 1 20 g ad σ σr [.ref (ad 999), .int v1, .int v2] none :=
  MC.of (by decide) mIds_nd had (Nat.le_of_ble_eq_true rfl) (fun p e s m below meth c A ls X hW hl => wb_fails X had hW hl hf)
theorem k_fails {p : Program} {l : Launch} {e : Env} {R : Room} {s : State} {m : MethodId} {args : Array Value} {below : List Frame} {meth : Method} {c : Code} {H : Heap} {locs : List Loc} {Q : State → Prop} {cc : ByteArray} {nL : Nat} {ret : Option FieldType} {g : gG} {A : Nat → Prop} {ad : Nat → Nat} {pc : Nat} {ls : Array Slot} {rest : List Value} {lv : List (Nat × Value)} {σr : cS}  {σ : cS} {v1 : Int32} {v2 : Int32} (X : MX p s m args meth c cc nL RX3 ret g A) (hW : WB g A s.heap mIds ad (mE g ad σ) H locs) (had : mI ad)  (hf : m_fails σ v1 v2 = some σr) (hR : 2 ≤ R.frames ∧ 42 ≤ R.locals) (hl : lv_has ls nL lv) (hcat : (rest.map fun v => v.category).sum ≤ 8) (hdg : decode cc pc = .ok (.invokevirtual 253, 3)) (kk : ∀ (H1 : Heap) (l1 : List Loc), WB g A s.heap mIds ad (mE g ad σr) H1 l1 → W p l e R s m args below meth c H1 l1 0 0 Q (F0 m (pc + 3) ls (rest))) : W p l e R s m args below meth c H locs 0 0 Q (F0 m pc ls (.int v2 :: .int v1 :: .ref (ad 999) :: rest)) :=
  r_callV X hW Sub.all (w_fails l had hf) (lw_V q1405 q1407 qs53 q126 q1408) ⟨rfl, by decide, by decide, by decide +kernel⟩ m_999 mE_o rfl (n := 2) hR hl rfl rfl hcat ⟨Nat.zero_le _, Nat.zero_le _⟩ hdg kk
-- isFull
noncomputable def m_isFull (σ : cS) (v1 : Int32) (v2 : Int32) : Option (Int32) :=
  if v2 = 40 then (some 1) else (((if v1 = 0 then (some (1)) else (some (0)) : Option (Int32)).bind fun t_2 => (((if v2 = 0 then (some (1)) else (some (0)) : Option (Int32)).bind fun t_4 => (if t_2 = t_4 then (if v1 = 4 then (if (σ.1 17 (ix 2)) = 8 then (some 1) else (some 0)) else (if v1 = 5 then (if (σ.1 17 (ix 3)) = 8 then (some 1) else (some 0)) else (some 0))) else (some 1))))))
set_option maxHeartbeats 4000000 in
theorem wb_isFull {p : Program} {l : Launch} {e : Env} {s : State} {m : MethodId} {args : Array Value} {below : List Frame} {meth : Method} {c : Code} {g : gG} {A : Nat → Prop} {ad : Nat → Nat} (X : MX p s m args meth c cX3_isFull 3 RX3 (some .boolean) g A) (had : mI ad) {r : Int32} {σ : cS} {v1 : Int32} {v2 : Int32}  {H : Heap} {locs : List Loc} {ls : Array Slot} (hW : WB g A s.heap mIds ad (mE g ad σ) H locs) (hl : lv_has ls 3 [(0, .ref (ad 999)), (1, .int v1), (2, .int v2)]) (hf : m_isFull σ v1 v2 = some r) : W p l e (rm_ 1 20) s m args below meth c H locs 0 0 (Qm below g mIds ad (mE g ad σ) (some (.int r)) A args s) (F0 m 0 ls []) := by
  have hx := X.1.1
  have hb := X.1.2.1
  unfold m_isFull at hf
  refine lv_iload_n hx hb dX3_isFull_0 rfl (lv_at hl 2 rfl) ?_
  refine lv_bipush (v := 40) hx hb dX3_isFull_1 (by decide) ?_
  refine lv_icmp_eq (tgt := 27) hx hb dX3_isFull_3 (by decide) (fun c_1 => ?_) (fun c_1 => ?_)
  · replace hf := ip hf c_1
    refine lv_iconst (v := 1) hx hb dX3_isFull_27 (by decide) ?_
    exact p_zret X hW hf (by decide) dX3_isFull_28
  · replace hf := ine hf c_1
    refine lv_iload_n hx hb dX3_isFull_6 rfl (lv_at hl 1 rfl) ?_
    obtain ⟨t_2, hD_3, hf⟩ := bd_e hf
    have hJ : ∀ (H : Heap) (locs : List Loc) (ls : Array Slot), WB g A s.heap mIds ad (mE g ad σ) H locs → lv_has ls 3 [(0, .ref (ad 999)), (1, .int v1), (2, .int v2)] → W p l e (rm_ 1 20) s m args below meth c H locs 0 0 (Qm below g mIds ad (mE g ad σ) (some (.int r)) A args s) (F0 m 15 ls [.int t_2]) := by
      intro H locs ls hW hl
      refine lv_iload_n hx hb dX3_isFull_15 rfl (lv_at hl 2 rfl) ?_
      obtain ⟨t_4, hD_5, hf⟩ := bd_e hf
      have hJ : ∀ (H : Heap) (locs : List Loc) (ls : Array Slot), WB g A s.heap mIds ad (mE g ad σ) H locs → lv_has ls 3 [(0, .ref (ad 999)), (1, .int v1)] → W p l e (rm_ 1 20) s m args below meth c H locs 0 0 (Qm below g mIds ad (mE g ad σ) (some (.int r)) A args s) (F0 m 24 ls [.int t_4, .int t_2]) := by
        intro H locs ls hW hl
        refine lv_icmp_eq (tgt := 29) hx hb dX3_isFull_24 (by decide) (fun c_6 => ?_) (fun c_6 => ?_)
        · replace hf := ip hf c_6
          refine lv_iload_n hx hb dX3_isFull_29 rfl (lv_at hl 1 rfl) ?_
          by_cases c_7 : v1 = 4
          · replace hf := ip hf c_7
            refine r_lookIn (tgt := 56) (off := 26) (k := 4) hx hb c_7 dX3_isFull_30 (by decide) (by decide) (by decide) ?_
            refine lv_aload_n hx hb dX3_isFull_56 rfl (lv_at hl 0 rfl) ?_
            refine mg_17 X hW dX3_isFull_57 ?_
            refine lv_iconst (v := 2) hx hb dX3_isFull_60 (by decide) ?_
            refine ml_17 X hW (by decide) dX3_isFull_61 ?_
            refine lv_bipush (v := 8) hx hb dX3_isFull_62 (by decide) ?_
            refine lv_icmp_ne (tgt := 71) hx hb dX3_isFull_64 (by decide) (fun c_8 => ?_) (fun c_8 => ?_)
            · replace hf := ine hf c_8
              refine lv_iconst (v := 0) hx hb dX3_isFull_71 (by decide) ?_
              exact p_zret X hW hf (by decide) dX3_isFull_72
            · replace hf := ip hf c_8
              refine lv_iconst (v := 1) hx hb dX3_isFull_67 (by decide) ?_
              refine lv_goto (tgt := 72) hx hb dX3_isFull_68 (by decide) ?_
              exact p_zret X hW hf (by decide) dX3_isFull_72
          · replace hf := ine hf c_7
            by_cases c_9 : v1 = 5
            · replace hf := ip hf c_9
              refine r_lookIn (tgt := 73) (off := 43) (k := 5) hx hb c_9 dX3_isFull_30 (by decide) (by decide) (by decide) ?_
              refine lv_aload_n hx hb dX3_isFull_73 rfl (lv_at hl 0 rfl) ?_
              refine mg_17 X hW dX3_isFull_74 ?_
              refine lv_iconst (v := 3) hx hb dX3_isFull_77 (by decide) ?_
              refine ml_17 X hW (by decide) dX3_isFull_78 ?_
              refine lv_bipush (v := 8) hx hb dX3_isFull_79 (by decide) ?_
              refine lv_icmp_ne (tgt := 88) hx hb dX3_isFull_81 (by decide) (fun c_10 => ?_) (fun c_10 => ?_)
              · replace hf := ine hf c_10
                refine lv_iconst (v := 0) hx hb dX3_isFull_88 (by decide) ?_
                exact p_zret X hW hf (by decide) dX3_isFull_89
              · replace hf := ip hf c_10
                refine lv_iconst (v := 1) hx hb dX3_isFull_84 (by decide) ?_
                refine lv_goto (tgt := 89) hx hb dX3_isFull_85 (by decide) ?_
                exact p_zret X hW hf (by decide) dX3_isFull_89
            · replace hf := ine hf c_9
              refine lv_lookup (off := 60) (tgt := 90) hx hb dX3_isFull_30 (by decide) (by show Op.lookupswitch.offset [(4, 26), (5, 43)] _ _ = _; rw [lv_osw (a := 4) c_7 rfl, lv_osw (a := 5) c_9 rfl]; rfl) (by decide) ?_
              refine lv_iconst (v := 0) hx hb dX3_isFull_90 (by decide) ?_
              exact p_zret X hW hf (by decide) dX3_isFull_91
        · replace hf := ine hf c_6
          refine lv_iconst (v := 1) hx hb dX3_isFull_27 (by decide) ?_
          exact p_zret X hW hf (by decide) dX3_isFull_28
      clear hf
      refine lv_if_ne (tgt := 23) hx hb dX3_isFull_16 (by decide) (fun c_11 => ?_) (fun c_11 => ?_)
      · replace hD_5 := ine hD_5 c_11
        refine lv_iconst (v := 0) hx hb dX3_isFull_23 (by decide) ?_
        cases hD_5
        exact hJ _ _ _ hW (lv_sub hl [0, 1] rfl)
      · replace hD_5 := ip hD_5 c_11
        refine lv_iconst (v := 1) hx hb dX3_isFull_19 (by decide) ?_
        refine lv_goto (tgt := 24) hx hb dX3_isFull_20 (by decide) ?_
        cases hD_5
        exact hJ _ _ _ hW (lv_sub hl [0, 1] rfl)
    clear hf
    refine lv_if_ne (tgt := 14) hx hb dX3_isFull_7 (by decide) (fun c_12 => ?_) (fun c_12 => ?_)
    · replace hD_3 := ine hD_3 c_12
      refine lv_iconst (v := 0) hx hb dX3_isFull_14 (by decide) ?_
      cases hD_3
      exact hJ _ _ _ hW (lv_sub hl [0, 1, 2] rfl)
    · replace hD_3 := ip hD_3 c_12
      refine lv_iconst (v := 1) hx hb dX3_isFull_10 (by decide) ?_
      refine lv_goto (tgt := 15) hx hb dX3_isFull_11 (by decide) ?_
      cases hD_3
      exact hJ _ _ _ hW (lv_sub hl [0, 1, 2] rfl)
theorem w_isFull (l : Launch) {g : gG} {ad : Nat → Nat} (had : mI ad) {r : Int32} {σ : cS} {v1 : Int32} {v2 : Int32}  (hf : m_isFull σ v1 v2 = some r) : MM l yX3_isFull cX3_isFull 3 (some .boolean) 1 20 g ad σ σ [.ref (ad 999), .int v1, .int v2] (some (.int r)) :=
  MC.of (by decide) mIds_nd had (Nat.le_of_ble_eq_true rfl) (fun p e s m below meth c A ls X hW hl => wb_isFull X had hW hl hf)
theorem k_isFull {p : Program} {l : Launch} {e : Env} {R : Room} {s : State} {m : MethodId} {args : Array Value} {below : List Frame} {meth : Method} {c : Code} {H : Heap} {locs : List Loc} {Q : State → Prop} {cc : ByteArray} {nL : Nat} {ret : Option FieldType} {g : gG} {A : Nat → Prop} {ad : Nat → Nat} {pc : Nat} {ls : Array Slot} {rest : List Value} {lv : List (Nat × Value)} {r : Int32} {σ : cS} {v1 : Int32} {v2 : Int32} (X : MX p s m args meth c cc nL RX3 ret g A) (hW : WB g A s.heap mIds ad (mE g ad σ) H locs) (had : mI ad)  (hf : m_isFull σ v1 v2 = some r) (hR : 2 ≤ R.frames ∧ 42 ≤ R.locals) (hl : lv_has ls nL lv) (hcat : (rest.map fun v => v.category).sum ≤ 8) (hdg : decode cc pc = .ok (.invokevirtual 339, 3)) (kk : ∀ (H1 : Heap) (l1 : List Loc), WB g A s.heap mIds ad (mE g ad σ) H1 l1 → W p l e R s m args below meth c H1 l1 0 0 Q (F0 m (pc + 3) ls (.int r :: rest))) : W p l e R s m args below meth c H locs 0 0 Q (F0 m pc ls (.int v2 :: .int v1 :: .ref (ad 999) :: rest)) :=
  r_callV X hW Sub.all (w_isFull l had hf) (lw_V q1409 q1411 qs54 q126 q1412) ⟨rfl, by decide, by decide, by decide +kernel⟩ m_999 mE_o rfl (n := 2) hR hl rfl rfl hcat ⟨Nat.zero_le _, Nat.zero_le _⟩ hdg kk
-- in
noncomputable def m_in (v0 : Int64) (v2 : Int64) (v4 : Int64) : Option (Int32) :=
  if (lg_cmp v0 v2) < 0 then (some 0) else (if 0 < (lg_cmp v0 v4) then (some 0) else (some 1))
set_option maxHeartbeats 4000000 in
theorem wb_in {p : Program} {l : Launch} {e : Env} {s : State} {m : MethodId} {args : Array Value} {below : List Frame} {meth : Method} {c : Code} {g : gG} {A : Nat → Prop} (X : MX p s m args meth c cX3_in 6 RX3 (some .boolean) g A)  {r : Int32} {v0 : Int64} {v2 : Int64} {v4 : Int64}  {H : Heap} {locs : List Loc} {ls : Array Slot} (hW : WB g A s.heap [] ad0 E0 H locs) (hl : lv_has ls 6 [(0, .long v0), (2, .long v2), (4, .long v4)]) (hf : m_in v0 v2 v4 = some r) : W p l e (rm_ 1 20) s m args below meth c H locs 0 0 (Qm below g [] ad0 E0 (some (.int r)) A args s) (F0 m 0 ls []) := by
  have hx := X.1.1
  have hb := X.1.2.1
  unfold m_in at hf
  refine lv_lload_n hx hb dX3_in_0 rfl (lv_at hl 0 rfl) ?_
  refine lv_lload_n hx hb dX3_in_1 rfl (lv_at hl 1 rfl) ?_
  refine W.lcmp hx hb dX3_in_2 ?_
  refine lv_if_lt (tgt := 17) hx hb dX3_in_3 (by decide) (fun c_1 => ?_) (fun c_1 => ?_)
  · replace hf := ip hf c_1
    refine lv_iconst (v := 0) hx hb dX3_in_17 (by decide) ?_
    exact p_zret X hW hf (by decide) dX3_in_18
  · replace hf := ine hf c_1
    refine lv_lload_n hx hb dX3_in_6 rfl (lv_at hl 0 rfl) ?_
    refine lv_lload hx hb dX3_in_7 (lv_at hl 2 rfl) ?_
    refine W.lcmp hx hb dX3_in_9 ?_
    refine lv_if_gt (tgt := 17) hx hb dX3_in_10 (by decide) (fun c_2 => ?_) (fun c_2 => ?_)
    · replace hf := ip hf c_2
      refine lv_iconst (v := 0) hx hb dX3_in_17 (by decide) ?_
      exact p_zret X hW hf (by decide) dX3_in_18
    · replace hf := ine hf c_2
      refine lv_iconst (v := 1) hx hb dX3_in_13 (by decide) ?_
      refine lv_goto (tgt := 18) hx hb dX3_in_14 (by decide) ?_
      exact p_zret X hW hf (by decide) dX3_in_18
theorem w_in (l : Launch) {g : gG} {r : Int32} {v0 : Int64} {v2 : Int64} {v4 : Int64}  (hf : m_in v0 v2 v4 = some r) : MS l yX3_in cX3_in 6 (some .boolean) 1 20 g [.long v0, .long v2, .long v4] (some (.int r)) :=
  MC.of (by decide) List.nodup_nil wI_nil (Nat.le_of_ble_eq_true rfl) (fun p e s m below meth c A ls X hW hl => wb_in X hW hl hf)
theorem k_in {p : Program} {l : Launch} {e : Env} {R : Room} {s : State} {m : MethodId} {args : Array Value} {below : List Frame} {meth : Method} {c : Code} {H : Heap} {locs : List Loc} {Q : State → Prop} {cc : ByteArray} {nL : Nat} {ret : Option FieldType} {g : gG} {A : Nat → Prop} {ad : Nat → Nat} {ids : List Nat} {E : Nat → va_E} {pc : Nat} {ls : Array Slot} {rest : List Value} {lv : List (Nat × Value)} {r : Int32} {v0 : Int64} {v2 : Int64} {v4 : Int64} (X : MX p s m args meth c cc nL RX3 ret g A) (hW : WB g A s.heap ids ad E H locs)  (hf : m_in v0 v2 v4 = some r) (hR : 2 ≤ R.frames ∧ 45 ≤ R.locals) (hl : lv_has ls nL lv) (hcat : (rest.map fun v => v.category).sum ≤ 8) (hdg : decode cc pc = .ok (.invokestatic 170, 3)) (kk : ∀ (H1 : Heap) (l1 : List Loc), WB g A s.heap ids ad E H1 l1 → W p l e R s m args below meth c H1 l1 0 0 Q (F0 m (pc + 3) ls (.int r :: rest))) : W p l e R s m args below meth c H locs 0 0 Q (F0 m pc ls (.long v4 :: .long v2 :: .long v0 :: rest)) :=
  r_callS X hW Sub.nil (w_in l hf) (lw_S q1432 q1433 q126 q1434) ⟨by decide, by decide, by decide +kernel⟩ (n := 3) hR hl rfl rfl hcat ⟨Nat.zero_le _, Nat.zero_le _⟩ hdg kk
-- isDigit
noncomputable def m_isDigit (σ : cS) : Option (Int32) :=
  ((m_sign σ).bind fun r_2 => ((m_in r_2.toInt64 48 57).bind fun r_4 => gd (zb r_4) (some r_4)))
set_option maxHeartbeats 4000000 in
theorem wb_isDigit {p : Program} {l : Launch} {e : Env} {s : State} {m : MethodId} {args : Array Value} {below : List Frame} {meth : Method} {c : Code} {g : gG} {A : Nat → Prop} {ad : Nat → Nat} (X : MX p s m args meth c cX3_isDigit 1 RX3 (some .boolean) g A) (had : mI ad) {r : Int32} {σ : cS}  {H : Heap} {locs : List Loc} {ls : Array Slot} (hW : WB g A s.heap mIds ad (mE g ad σ) H locs) (hl : lv_has ls 1 [(0, .ref (ad 999))]) (hf : m_isDigit σ = some r) : W p l e (rm_ 2 45) s m args below meth c H locs 0 0 (Qm below g mIds ad (mE g ad σ) (some (.int r)) A args s) (F0 m 0 ls []) := by
  have hx := X.1.1
  have hb := X.1.2.1
  unfold m_isDigit at hf
  refine lv_aload_n hx hb dX3_isDigit_0 rfl (lv_at hl 0 rfl) ?_
  obtain ⟨r_2, h_1, hf⟩ := bd_e hf
  refine k_sign X hW had h_1 (by decide) hl (Nat.le_of_ble_eq_true rfl) dX3_isDigit_1 (fun H locs hW => ?_)
  refine lv_i2l (v := r_2.toInt64) hx hb dX3_isDigit_4 rfl ?_
  refine lv_ldc2 (v := 48) hx hb X.1.2.2.2.1 (X.1.2.2.2.2 _ q1430) dX3_isDigit_5 ?_
  refine lv_ldc2 (v := 57) hx hb X.1.2.2.2.1 (X.1.2.2.2.2 _ q1431) dX3_isDigit_8 ?_
  obtain ⟨r_4, h_3, hf⟩ := bd_e hf
  refine k_in X hW h_3 (by decide) hl (Nat.le_of_ble_eq_true rfl) dX3_isDigit_11 (fun H locs hW => ?_)
  obtain ⟨h_5, hf⟩ := gd_e hf
  exact p_zret X hW hf h_5 dX3_isDigit_14
theorem w_isDigit (l : Launch) {g : gG} {ad : Nat → Nat} (had : mI ad) {r : Int32} {σ : cS}  (hf : m_isDigit σ = some r) : MM l yX3_isDigit cX3_isDigit 1 (some .boolean) 2 45 g ad σ σ [.ref (ad 999)] (some (.int r)) :=
  MC.of (by decide) mIds_nd had (Nat.le_of_ble_eq_true rfl) (fun p e s m below meth c A ls X hW hl => wb_isDigit X had hW hl hf)
theorem k_isDigit {p : Program} {l : Launch} {e : Env} {R : Room} {s : State} {m : MethodId} {args : Array Value} {below : List Frame} {meth : Method} {c : Code} {H : Heap} {locs : List Loc} {Q : State → Prop} {cc : ByteArray} {nL : Nat} {ret : Option FieldType} {g : gG} {A : Nat → Prop} {ad : Nat → Nat} {pc : Nat} {ls : Array Slot} {rest : List Value} {lv : List (Nat × Value)} {r : Int32} {σ : cS} (X : MX p s m args meth c cc nL RX3 ret g A) (hW : WB g A s.heap mIds ad (mE g ad σ) H locs) (had : mI ad)  (hf : m_isDigit σ = some r) (hR : 3 ≤ R.frames ∧ 65 ≤ R.locals) (hl : lv_has ls nL lv) (hcat : (rest.map fun v => v.category).sum ≤ 8) (hdg : decode cc pc = .ok (.invokevirtual 257, 3)) (kk : ∀ (H1 : Heap) (l1 : List Loc), WB g A s.heap mIds ad (mE g ad σ) H1 l1 → W p l e R s m args below meth c H1 l1 0 0 Q (F0 m (pc + 3) ls (.int r :: rest))) : W p l e R s m args below meth c H locs 0 0 Q (F0 m pc ls (.ref (ad 999) :: rest)) :=
  r_callV X hW Sub.all (w_isDigit l had hf) (lw_V q1426 q1428 qs58 q126 q1429) ⟨rfl, by decide, by decide, by decide +kernel⟩ m_999 mE_o rfl (n := 0) hR hl rfl rfl hcat ⟨Nat.zero_le _, Nat.zero_le _⟩ hdg kk
-- digits
noncomputable def m_digits_25 {ρ : Type} (v1 : Int32) (v2 : Int32) (K : cS → Int32 → Option ρ) : Nat → cS → Int32 → Option ρ
  | 0, _, _ => none
  | n + 1, σ, v3 => ((m_isDigit σ).bind fun r_5 => if r_5 = 0 then (K σ v3) else (((if 5 ≤ ((σ.1 999 28) - v2) then (some (v3)) else (((m_sign σ).bind fun r_11 => some ((((10 * v3) + r_11) - 48)))) : Option (Int32)).bind fun t_7 => (m_digits_25 v1 v2 K n (si σ 999 28 ((σ.1 999 28) + 1)) t_7))))
set_option maxHeartbeats 4000000 in
theorem wm_digits_25 {p : Program} {l : Launch} {e : Env} {s : State} {m : MethodId} {args : Array Value} {below : List Frame} {meth : Method} {c : Code} {g : gG} {A : Nat → Prop} {ad : Nat → Nat} (X : MX p s m args meth c cX3_digits 4 RX3 (some .int) g A) (had : mI ad) {ρ : Type} {res : ρ} {Q : State → Prop} {v1 : Int32} {v2 : Int32}  {K : cS → Int32 → Option ρ}
    (hK : ∀ (σ : cS) (k3 : Int32) (H : Heap) (locs : List Loc) (ls : Array Slot), WB g A s.heap mIds ad (mE g ad σ) H locs → lv_has ls 4 [(0, .ref (ad 999)), (1, .int v1), (2, .int v2), (3, .int k3)] → K σ k3 = some res → W p l e (rm_ 3 65) s m args below meth c H locs 0 0 Q (F0 m 72 ls [])) :
    ∀ (n : Nat) (σ : cS) (v3 : Int32) (H : Heap) (locs : List Loc) (ls : Array Slot), WB g A s.heap mIds ad (mE g ad σ) H locs → lv_has ls 4 [(0, .ref (ad 999)), (1, .int v1), (2, .int v2), (3, .int v3)] → m_digits_25 v1 v2 K n σ v3 = some res → W p l e (rm_ 3 65) s m args below meth c H locs 0 0 Q (F0 m 25 ls []) := by
  have hx := X.1.1
  have hb := X.1.2.1
  intro n
  induction n with
  | zero =>
    intro σ v3 H locs ls hW hl hf
    rw [m_digits_25] at hf
    cases hf
  | succ n ih =>
    intro σ v3 H locs ls hW hl hf
    rw [m_digits_25] at hf
    refine lv_aload_n hx hb dX3_digits_25 rfl (lv_at hl 0 rfl) ?_
    obtain ⟨r_5, h_4, hf⟩ := bd_e hf
    refine k_isDigit X hW had h_4 (by decide) hl (Nat.le_of_ble_eq_true rfl) dX3_digits_26 (fun H locs hW => ?_)
    refine lv_if_eq (tgt := 72) hx hb dX3_digits_29 (by decide) (fun c_6 => ?_) (fun c_6 => ?_)
    · replace hf := ip hf c_6
      exact hK _ _ _ _ _ hW (lv_sub hl [0, 1, 2, 3] rfl) hf
    · replace hf := ine hf c_6
      refine lv_aload_n hx hb dX3_digits_32 rfl (lv_at hl 0 rfl) ?_
      refine mg_28 X hW dX3_digits_33 ?_
      refine lv_iload_n hx hb dX3_digits_36 rfl (lv_at hl 2 rfl) ?_
      refine lv_isub hx hb dX3_digits_37 ?_
      refine lv_iconst (v := 5) hx hb dX3_digits_38 (by decide) ?_
      obtain ⟨t_7, hD_8, hf⟩ := bd_e hf
      have hJ : ∀ (H : Heap) (locs : List Loc) (ls : Array Slot), WB g A s.heap mIds ad (mE g ad σ) H locs → lv_has ls 4 [(0, .ref (ad 999)), (1, .int v1), (2, .int v2)] → W p l e (rm_ 3 65) s m args below meth c H locs 0 0 Q (F0 m 58 ls [.int t_7]) := by
        intro H locs ls hW hl
        refine lv_istore_n (lv' := [(3, .int t_7), (0, .ref (ad 999)), (1, .int v1), (2, .int v2)]) hx hb dX3_digits_58 rfl hl (by decide) rfl (fun ls hl => ?_)
        refine lv_aload_n hx hb dX3_digits_59 rfl (lv_at hl 1 rfl) ?_
        refine lv_dup hx hb dX3_digits_60 rfl ?_
        refine mg_28 X hW dX3_digits_61 ?_
        refine lv_iconst (v := 1) hx hb dX3_digits_64 (by decide) ?_
        refine lv_iadd hx hb dX3_digits_65 ?_
        refine mp_28 X hW dX3_digits_66 (fun H locs hW => ?_)
        refine lv_goto (tgt := 25) hx hb dX3_digits_69 (by decide) ?_
        exact ih _ _ _ _ _ hW (lv_sub hl [1, 2, 3, 0] rfl) hf
      clear hf
      refine lv_icmp_ge (tgt := 57) hx hb dX3_digits_39 (by decide) (fun c_9 => ?_) (fun c_9 => ?_)
      · replace hD_8 := ip hD_8 c_9
        refine lv_iload_n hx hb dX3_digits_57 rfl (lv_at hl 3 rfl) ?_
        cases hD_8
        exact hJ _ _ _ hW (lv_sub hl [0, 1, 2] rfl)
      · replace hD_8 := ine hD_8 c_9
        refine lv_bipush (v := 10) hx hb dX3_digits_42 (by decide) ?_
        refine lv_iload_n hx hb dX3_digits_44 rfl (lv_at hl 3 rfl) ?_
        refine lv_imul hx hb dX3_digits_45 ?_
        refine lv_aload_n hx hb dX3_digits_46 rfl (lv_at hl 0 rfl) ?_
        obtain ⟨r_11, h_10, hD_8⟩ := bd_e hD_8
        refine k_sign X hW had h_10 (by decide) hl (Nat.le_of_ble_eq_true rfl) dX3_digits_47 (fun H locs hW => ?_)
        refine lv_iadd hx hb dX3_digits_50 ?_
        refine lv_bipush (v := 48) hx hb dX3_digits_51 (by decide) ?_
        refine lv_isub hx hb dX3_digits_53 ?_
        refine lv_goto (tgt := 58) hx hb dX3_digits_54 (by decide) ?_
        cases hD_8
        exact hJ _ _ _ hW (lv_sub hl [0, 1, 2] rfl)
noncomputable def m_digits (σ : cS) (v1 : Int32) : Option (cS × Int32) :=
  ((m_isDigit σ).bind fun r_2 => if r_2 = 0 then (((m_fails σ 0 (σ.1 999 28)).bind fun σ_21 => some (σ_21, 0))) else (m_digits_25 v1 (σ.1 999 28) (fun σ_12 v_13 => (if 5 < ((σ_12.1 999 28) - (σ.1 999 28)) then (((m_fails σ_12 1 (σ.1 999 28)).bind fun σ_16 => some (σ_16, v_13))) else (if v_13 ≤ v1 then (some (σ_12, v_13)) else (((m_fails σ_12 1 (σ.1 999 28)).bind fun σ_19 => some (σ_19, v_13)))))) FU σ 0))
set_option maxHeartbeats 4000000 in
theorem wb_digits {p : Program} {l : Launch} {e : Env} {s : State} {m : MethodId} {args : Array Value} {below : List Frame} {meth : Method} {c : Code} {g : gG} {A : Nat → Prop} {ad : Nat → Nat} (X : MX p s m args meth c cX3_digits 4 RX3 (some .int) g A) (had : mI ad) {σr : cS} {r : Int32} {σ : cS} {v1 : Int32}  {H : Heap} {locs : List Loc} {ls : Array Slot} (hW : WB g A s.heap mIds ad (mE g ad σ) H locs) (hl : lv_has ls 4 [(0, .ref (ad 999)), (1, .int v1)]) (hf : m_digits σ v1 = some (σr, r)) : W p l e (rm_ 3 65) s m args below meth c H locs 0 0 (Qm below g mIds ad (mE g ad σr) (some (.int r)) A args s) (F0 m 0 ls []) := by
  have hx := X.1.1
  have hb := X.1.2.1
  unfold m_digits at hf
  refine lv_aload_n hx hb dX3_digits_0 rfl (lv_at hl 0 rfl) ?_
  obtain ⟨r_2, h_1, hf⟩ := bd_e hf
  refine k_isDigit X hW had h_1 (by decide) hl (Nat.le_of_ble_eq_true rfl) dX3_digits_1 (fun H locs hW => ?_)
  refine lv_if_ne (tgt := 18) hx hb dX3_digits_4 (by decide) (fun c_3 => ?_) (fun c_3 => ?_)
  · replace hf := ine hf c_3
    refine lv_aload_n hx hb dX3_digits_18 rfl (lv_at hl 0 rfl) ?_
    refine mg_28 X hW dX3_digits_19 ?_
    refine lv_istore_n (lv' := [(2, .int (σ.1 999 28)), (0, .ref (ad 999)), (1, .int v1)]) hx hb dX3_digits_22 rfl hl (by decide) rfl (fun ls hl => ?_)
    refine lv_iconst (v := 0) hx hb dX3_digits_23 (by decide) ?_
    refine lv_istore_n (lv' := [(3, .int 0), (2, .int (σ.1 999 28)), (0, .ref (ad 999)), (1, .int v1)]) hx hb dX3_digits_24 rfl hl (by decide) rfl (fun ls hl => ?_)
    refine wm_digits_25 X had (fun σ_12 v_13 H locs ls hW hl hf => ?_) _ _ _ _ _ _ hW (lv_sub hl [2, 3, 1, 0] rfl) hf
    refine lv_aload_n hx hb dX3_digits_72 rfl (lv_at hl 0 rfl) ?_
    refine mg_28 X hW dX3_digits_73 ?_
    refine lv_iload_n hx hb dX3_digits_76 rfl (lv_at hl 2 rfl) ?_
    refine lv_isub hx hb dX3_digits_77 ?_
    refine lv_iconst (v := 5) hx hb dX3_digits_78 (by decide) ?_
    refine lv_icmp_gt (tgt := 87) hx hb dX3_digits_79 (by decide) (fun c_14 => ?_) (fun c_14 => ?_)
    · replace hf := ip hf c_14
      refine lv_aload_n hx hb dX3_digits_87 rfl (lv_at hl 0 rfl) ?_
      refine lv_iconst (v := 1) hx hb dX3_digits_88 (by decide) ?_
      refine lv_iload_n hx hb dX3_digits_89 rfl (lv_at hl 2 rfl) ?_
      obtain ⟨σ_16, h_15, hf⟩ := bd_e hf
      refine k_fails X hW had h_15 (by decide) hl (Nat.le_of_ble_eq_true rfl) dX3_digits_90 (fun H locs hW => ?_)
      refine lv_iload_n hx hb dX3_digits_93 rfl (lv_at hl 3 rfl) ?_
      exact m_iret X hW hf dX3_digits_94
    · replace hf := ine hf c_14
      refine lv_iload_n hx hb dX3_digits_82 rfl (lv_at hl 3 rfl) ?_
      refine lv_iload_n hx hb dX3_digits_83 rfl (lv_at hl 1 rfl) ?_
      refine lv_icmp_le (tgt := 93) hx hb dX3_digits_84 (by decide) (fun c_17 => ?_) (fun c_17 => ?_)
      · replace hf := ip hf c_17
        refine lv_iload_n hx hb dX3_digits_93 rfl (lv_at hl 3 rfl) ?_
        exact m_iret X hW hf dX3_digits_94
      · replace hf := ine hf c_17
        refine lv_aload_n hx hb dX3_digits_87 rfl (lv_at hl 0 rfl) ?_
        refine lv_iconst (v := 1) hx hb dX3_digits_88 (by decide) ?_
        refine lv_iload_n hx hb dX3_digits_89 rfl (lv_at hl 2 rfl) ?_
        obtain ⟨σ_19, h_18, hf⟩ := bd_e hf
        refine k_fails X hW had h_18 (by decide) hl (Nat.le_of_ble_eq_true rfl) dX3_digits_90 (fun H locs hW => ?_)
        refine lv_iload_n hx hb dX3_digits_93 rfl (lv_at hl 3 rfl) ?_
        exact m_iret X hW hf dX3_digits_94
  · replace hf := ip hf c_3
    refine lv_aload_n hx hb dX3_digits_7 rfl (lv_at hl 0 rfl) ?_
    refine lv_iconst (v := 0) hx hb dX3_digits_8 (by decide) ?_
    refine lv_aload_n hx hb dX3_digits_9 rfl (lv_at hl 0 rfl) ?_
    refine mg_28 X hW dX3_digits_10 ?_
    obtain ⟨σ_21, h_20, hf⟩ := bd_e hf
    refine k_fails X hW had h_20 (by decide) hl (Nat.le_of_ble_eq_true rfl) dX3_digits_13 (fun H locs hW => ?_)
    refine lv_iconst (v := 0) hx hb dX3_digits_16 (by decide) ?_
    exact m_iret X hW hf dX3_digits_17
theorem w_digits (l : Launch) {g : gG} {ad : Nat → Nat} (had : mI ad) {σr : cS} {r : Int32} {σ : cS} {v1 : Int32}  (hf : m_digits σ v1 = some (σr, r)) : MM l yX3_digits cX3_digits 4 (some .int) 3 65 g ad σ σr [.ref (ad 999), .int v1] (some (.int r)) :=
  MC.of (by decide) mIds_nd had (Nat.le_of_ble_eq_true rfl) (fun p e s m below meth c A ls X hW hl => wb_digits X had hW hl hf)
theorem k_digits {p : Program} {l : Launch} {e : Env} {R : Room} {s : State} {m : MethodId} {args : Array Value} {below : List Frame} {meth : Method} {c : Code} {H : Heap} {locs : List Loc} {Q : State → Prop} {cc : ByteArray} {nL : Nat} {ret : Option FieldType} {g : gG} {A : Nat → Prop} {ad : Nat → Nat} {pc : Nat} {ls : Array Slot} {rest : List Value} {lv : List (Nat × Value)} {σr : cS} {r : Int32} {σ : cS} {v1 : Int32} (X : MX p s m args meth c cc nL RX3 ret g A) (hW : WB g A s.heap mIds ad (mE g ad σ) H locs) (had : mI ad)  (hf : m_digits σ v1 = some (σr, r)) (hR : 4 ≤ R.frames ∧ 88 ≤ R.locals) (hl : lv_has ls nL lv) (hcat : (rest.map fun v => v.category).sum ≤ 8) (hdg : decode cc pc = .ok (.invokevirtual 262, 3)) (kk : ∀ (H1 : Heap) (l1 : List Loc), WB g A s.heap mIds ad (mE g ad σr) H1 l1 → W p l e R s m args below meth c H1 l1 0 0 Q (F0 m (pc + 3) ls (.int r :: rest))) : W p l e R s m args below meth c H locs 0 0 Q (F0 m pc ls (.int v1 :: .ref (ad 999) :: rest)) :=
  r_callV X hW Sub.all (w_digits l had hf) (lw_V q1422 q1424 qs57 q126 q1425) ⟨rfl, by decide, by decide, by decide +kernel⟩ m_999 mE_o rfl (n := 1) hR hl rfl rfl hcat ⟨Nat.zero_le _, Nat.zero_le _⟩ hdg kk
-- amount
noncomputable def m_amount (σ : cS) (v1 : Int32) (v2 : Int32) : Option (cS × Int32) :=
  ((m_blanks σ).bind fun σ_2 => ((if (σ_2.1 999 29) = 0 then (((m_digits σ_2 99999).bind fun (σ_15, r_14) => some (σ_15, r_14))) else (some (σ_2, 0)) : Option (cS × Int32)).bind fun (σ_3, t_4) => (if (σ_3.1 999 29) = 0 then (((m_in t_4.toInt64 v1.toInt64 v2.toInt64).bind fun r_8 => if r_8 = 0 then (((m_fails σ_3 1 (σ_2.1 999 28)).bind fun σ_11 => some (σ_11, t_4))) else (some (σ_3, t_4)))) else (some (σ_3, t_4)))))
set_option maxHeartbeats 4000000 in
theorem wb_amount {p : Program} {l : Launch} {e : Env} {s : State} {m : MethodId} {args : Array Value} {below : List Frame} {meth : Method} {c : Code} {g : gG} {A : Nat → Prop} {ad : Nat → Nat} (X : MX p s m args meth c cX3_amount 5 RX3 (some .int) g A) (had : mI ad) {σr : cS} {r : Int32} {σ : cS} {v1 : Int32} {v2 : Int32}  {H : Heap} {locs : List Loc} {ls : Array Slot} (hW : WB g A s.heap mIds ad (mE g ad σ) H locs) (hl : lv_has ls 5 [(0, .ref (ad 999)), (1, .int v1), (2, .int v2)]) (hf : m_amount σ v1 v2 = some (σr, r)) : W p l e (rm_ 4 88) s m args below meth c H locs 0 0 (Qm below g mIds ad (mE g ad σr) (some (.int r)) A args s) (F0 m 0 ls []) := by
  have hx := X.1.1
  have hb := X.1.2.1
  unfold m_amount at hf
  refine lv_aload_n hx hb dX3_amount_0 rfl (lv_at hl 0 rfl) ?_
  obtain ⟨σ_2, h_1, hf⟩ := bd_e hf
  refine k_blanks X hW had h_1 (by decide) hl (Nat.le_of_ble_eq_true rfl) dX3_amount_1 (fun H locs hW => ?_)
  refine lv_aload_n hx hb dX3_amount_4 rfl (lv_at hl 0 rfl) ?_
  refine mg_28 X hW dX3_amount_5 ?_
  refine lv_istore_n (lv' := [(3, .int (σ_2.1 999 28)), (0, .ref (ad 999)), (1, .int v1), (2, .int v2)]) hx hb dX3_amount_8 rfl hl (by decide) rfl (fun ls hl => ?_)
  refine lv_aload_n hx hb dX3_amount_9 rfl (lv_at hl 1 rfl) ?_
  refine mg_29 X hW dX3_amount_10 ?_
  obtain ⟨⟨σ_3, t_4⟩, hD_5, hf⟩ := bd_e hf
  have hJ : ∀ (H : Heap) (locs : List Loc) (ls : Array Slot), WB g A s.heap mIds ad (mE g ad σ_3) H locs → lv_has ls 5 [(0, .ref (ad 999)), (1, .int v1), (2, .int v2), (3, .int (σ_2.1 999 28))] → W p l e (rm_ 4 88) s m args below meth c H locs 0 0 (Qm below g mIds ad (mE g ad σr) (some (.int r)) A args s) (F0 m 27 ls [.int t_4]) := by
    intro H locs ls hW hl
    refine lv_istore (lv' := [(4, .int t_4), (0, .ref (ad 999)), (1, .int v1), (2, .int v2), (3, .int (σ_2.1 999 28))]) hx hb dX3_amount_27 hl (by decide) rfl (fun ls hl => ?_)
    refine lv_aload_n hx hb dX3_amount_29 rfl (lv_at hl 1 rfl) ?_
    refine mg_29 X hW dX3_amount_30 ?_
    refine lv_if_ne (tgt := 55) hx hb dX3_amount_33 (by decide) (fun c_6 => ?_) (fun c_6 => ?_)
    · replace hf := ine hf c_6
      refine lv_iload hx hb dX3_amount_55 (lv_at hl 0 rfl) ?_
      exact m_iret X hW hf dX3_amount_57
    · replace hf := ip hf c_6
      refine lv_iload hx hb dX3_amount_36 (lv_at hl 0 rfl) ?_
      refine lv_i2l (v := t_4.toInt64) hx hb dX3_amount_38 rfl ?_
      refine lv_iload_n hx hb dX3_amount_39 rfl (lv_at hl 2 rfl) ?_
      refine lv_i2l (v := v1.toInt64) hx hb dX3_amount_40 rfl ?_
      refine lv_iload_n hx hb dX3_amount_41 rfl (lv_at hl 3 rfl) ?_
      refine lv_i2l (v := v2.toInt64) hx hb dX3_amount_42 rfl ?_
      obtain ⟨r_8, h_7, hf⟩ := bd_e hf
      refine k_in X hW h_7 (by decide) hl (Nat.le_of_ble_eq_true rfl) dX3_amount_43 (fun H locs hW => ?_)
      refine lv_if_ne (tgt := 55) hx hb dX3_amount_46 (by decide) (fun c_9 => ?_) (fun c_9 => ?_)
      · replace hf := ine hf c_9
        refine lv_iload hx hb dX3_amount_55 (lv_at hl 0 rfl) ?_
        exact m_iret X hW hf dX3_amount_57
      · replace hf := ip hf c_9
        refine lv_aload_n hx hb dX3_amount_49 rfl (lv_at hl 1 rfl) ?_
        refine lv_iconst (v := 1) hx hb dX3_amount_50 (by decide) ?_
        refine lv_iload_n hx hb dX3_amount_51 rfl (lv_at hl 4 rfl) ?_
        obtain ⟨σ_11, h_10, hf⟩ := bd_e hf
        refine k_fails X hW had h_10 (by decide) hl (Nat.le_of_ble_eq_true rfl) dX3_amount_52 (fun H locs hW => ?_)
        refine lv_iload hx hb dX3_amount_55 (lv_at hl 0 rfl) ?_
        exact m_iret X hW hf dX3_amount_57
  clear hf
  refine lv_if_ne (tgt := 26) hx hb dX3_amount_13 (by decide) (fun c_12 => ?_) (fun c_12 => ?_)
  · replace hD_5 := ine hD_5 c_12
    refine lv_iconst (v := 0) hx hb dX3_amount_26 (by decide) ?_
    cases hD_5
    exact hJ _ _ _ hW (lv_sub hl [1, 2, 3, 0] rfl)
  · replace hD_5 := ip hD_5 c_12
    refine lv_aload_n hx hb dX3_amount_16 rfl (lv_at hl 1 rfl) ?_
    refine lv_ldcw (v := 99999) hx hb X.1.2.2.2.1 (X.1.2.2.2.2 _ q1421) dX3_amount_17 ?_
    obtain ⟨⟨σ_15, r_14⟩, h_13, hD_5⟩ := bd_e hD_5
    refine k_digits X hW had h_13 (by decide) hl (Nat.le_of_ble_eq_true rfl) dX3_amount_20 (fun H locs hW => ?_)
    refine lv_goto (tgt := 27) hx hb dX3_amount_23 (by decide) ?_
    cases hD_5
    exact hJ _ _ _ hW (lv_sub hl [1, 2, 3, 0] rfl)
theorem w_amount (l : Launch) {g : gG} {ad : Nat → Nat} (had : mI ad) {σr : cS} {r : Int32} {σ : cS} {v1 : Int32} {v2 : Int32}  (hf : m_amount σ v1 v2 = some (σr, r)) : MM l yX3_amount cX3_amount 5 (some .int) 4 88 g ad σ σr [.ref (ad 999), .int v1, .int v2] (some (.int r)) :=
  MC.of (by decide) mIds_nd had (Nat.le_of_ble_eq_true rfl) (fun p e s m below meth c A ls X hW hl => wb_amount X had hW hl hf)
theorem k_amount {p : Program} {l : Launch} {e : Env} {R : Room} {s : State} {m : MethodId} {args : Array Value} {below : List Frame} {meth : Method} {c : Code} {H : Heap} {locs : List Loc} {Q : State → Prop} {cc : ByteArray} {nL : Nat} {ret : Option FieldType} {g : gG} {A : Nat → Prop} {ad : Nat → Nat} {pc : Nat} {ls : Array Slot} {rest : List Value} {lv : List (Nat × Value)} {σr : cS} {r : Int32} {σ : cS} {v1 : Int32} {v2 : Int32} (X : MX p s m args meth c cc nL RX3 ret g A) (hW : WB g A s.heap mIds ad (mE g ad σ) H locs) (had : mI ad)  (hf : m_amount σ v1 v2 = some (σr, r)) (hR : 5 ≤ R.frames ∧ 112 ≤ R.locals) (hl : lv_has ls nL lv) (hcat : (rest.map fun v => v.category).sum ≤ 8) (hdg : decode cc pc = .ok (.invokevirtual 320, 3)) (kk : ∀ (H1 : Heap) (l1 : List Loc), WB g A s.heap mIds ad (mE g ad σr) H1 l1 → W p l e R s m args below meth c H1 l1 0 0 Q (F0 m (pc + 3) ls (.int r :: rest))) : W p l e R s m args below meth c H locs 0 0 Q (F0 m pc ls (.int v2 :: .int v1 :: .ref (ad 999) :: rest)) :=
  r_callV X hW Sub.all (w_amount l had hf) (lw_V q1417 q1419 qs56 q126 q1420) ⟨rfl, by decide, by decide, by decide +kernel⟩ m_999 mE_o rfl (n := 2) hR hl rfl rfl hcat ⟨Nat.zero_le _, Nat.zero_le _⟩ hdg kk
-- oneMile
noncomputable def m_oneMile (σ : cS) : Option (cS × Int32) :=
  ((m_amount σ 0 ((σ.1 17 (ix 0)) - 1)).bind fun (σ_3, r_2) => some (σ_3, r_2))
set_option maxHeartbeats 4000000 in
theorem wb_oneMile {p : Program} {l : Launch} {e : Env} {s : State} {m : MethodId} {args : Array Value} {below : List Frame} {meth : Method} {c : Code} {g : gG} {A : Nat → Prop} {ad : Nat → Nat} (X : MX p s m args meth c cX3_oneMile 1 RX3 (some .int) g A) (had : mI ad) {σr : cS} {r : Int32} {σ : cS}  {H : Heap} {locs : List Loc} {ls : Array Slot} (hW : WB g A s.heap mIds ad (mE g ad σ) H locs) (hl : lv_has ls 1 [(0, .ref (ad 999))]) (hf : m_oneMile σ = some (σr, r)) : W p l e (rm_ 5 112) s m args below meth c H locs 0 0 (Qm below g mIds ad (mE g ad σr) (some (.int r)) A args s) (F0 m 0 ls []) := by
  have hx := X.1.1
  have hb := X.1.2.1
  unfold m_oneMile at hf
  refine lv_aload_n hx hb dX3_oneMile_0 rfl (lv_at hl 0 rfl) ?_
  refine lv_iconst (v := 0) hx hb dX3_oneMile_1 (by decide) ?_
  refine lv_aload_n hx hb dX3_oneMile_2 rfl (lv_at hl 0 rfl) ?_
  refine mg_17 X hW dX3_oneMile_3 ?_
  refine lv_iconst (v := 0) hx hb dX3_oneMile_6 (by decide) ?_
  refine ml_17 X hW (by decide) dX3_oneMile_7 ?_
  refine lv_iconst (v := 1) hx hb dX3_oneMile_8 (by decide) ?_
  refine lv_isub hx hb dX3_oneMile_9 ?_
  obtain ⟨⟨σ_3, r_2⟩, h_1, hf⟩ := bd_e hf
  refine k_amount X hW had h_1 (by decide) hl (Nat.le_of_ble_eq_true rfl) dX3_oneMile_10 (fun H locs hW => ?_)
  exact m_iret X hW hf dX3_oneMile_13
theorem w_oneMile (l : Launch) {g : gG} {ad : Nat → Nat} (had : mI ad) {σr : cS} {r : Int32} {σ : cS}  (hf : m_oneMile σ = some (σr, r)) : MM l yX3_oneMile cX3_oneMile 1 (some .int) 5 112 g ad σ σr [.ref (ad 999)] (some (.int r)) :=
  MC.of (by decide) mIds_nd had (Nat.le_of_ble_eq_true rfl) (fun p e s m below meth c A ls X hW hl => wb_oneMile X had hW hl hf)
theorem k_oneMile {p : Program} {l : Launch} {e : Env} {R : Room} {s : State} {m : MethodId} {args : Array Value} {below : List Frame} {meth : Method} {c : Code} {H : Heap} {locs : List Loc} {Q : State → Prop} {cc : ByteArray} {nL : Nat} {ret : Option FieldType} {g : gG} {A : Nat → Prop} {ad : Nat → Nat} {pc : Nat} {ls : Array Slot} {rest : List Value} {lv : List (Nat × Value)} {σr : cS} {r : Int32} {σ : cS} (X : MX p s m args meth c cc nL RX3 ret g A) (hW : WB g A s.heap mIds ad (mE g ad σ) H locs) (had : mI ad)  (hf : m_oneMile σ = some (σr, r)) (hR : 6 ≤ R.frames ∧ 132 ≤ R.locals) (hl : lv_has ls nL lv) (hcat : (rest.map fun v => v.category).sum ≤ 8) (hdg : decode cc pc = .ok (.invokevirtual 324, 3)) (kk : ∀ (H1 : Heap) (l1 : List Loc), WB g A s.heap mIds ad (mE g ad σr) H1 l1 → W p l e R s m args below meth c H1 l1 0 0 Q (F0 m (pc + 3) ls (.int r :: rest))) : W p l e R s m args below meth c H locs 0 0 Q (F0 m pc ls (.ref (ad 999) :: rest)) :=
  r_callV X hW Sub.all (w_oneMile l had hf) (lw_V q1439 q1441 qs60 q126 q1442) ⟨rfl, by decide, by decide, by decide +kernel⟩ m_999 mE_o rfl (n := 0) hR hl rfl rfl hcat ⟨Nat.zero_le _, Nat.zero_le _⟩ hdg kk
-- readsMile
noncomputable def m_readsMile (σ : cS) : Option (cS) :=
  ((m_oneMile σ).bind fun (σ_3, r_2) => ((m_amount σ_3 0 40).bind fun (σ_6, r_5) => ((m_amount σ_6 0 99).bind fun (σ_9, r_8) => ((m_amount σ_9 0 9).bind fun (σ_12, r_11) => if (σ_12.1 999 29) = 0 then (gd (inb r_2 10) (nmb (si σ_12 18 (ix r_2) (r_5 - 20)) fun σ_15 => (nmb (si σ_15 19 (ix r_2) r_8) fun σ_17 => (some (si σ_17 20 (ix r_2) r_11))))) else (some σ_12)))))
set_option maxHeartbeats 4000000 in
theorem wb_readsMile {p : Program} {l : Launch} {e : Env} {s : State} {m : MethodId} {args : Array Value} {below : List Frame} {meth : Method} {c : Code} {g : gG} {A : Nat → Prop} {ad : Nat → Nat} (X : MX p s m args meth c cX3_readsMile 5 RX3 none g A) (had : mI ad) {σr : cS}  {σ : cS}  {H : Heap} {locs : List Loc} {ls : Array Slot} (hW : WB g A s.heap mIds ad (mE g ad σ) H locs) (hl : lv_has ls 5 [(0, .ref (ad 999))]) (hf : m_readsMile σ = some σr) : W p l e (rm_ 6 132) s m args below meth c H locs 0 0 (Qm below g mIds ad (mE g ad σr) none A args s) (F0 m 0 ls []) := by
  have hx := X.1.1
  have hb := X.1.2.1
  unfold m_readsMile at hf
  refine lv_aload_n hx hb dX3_readsMile_0 rfl (lv_at hl 0 rfl) ?_
  obtain ⟨⟨σ_3, r_2⟩, h_1, hf⟩ := bd_e hf
  refine k_oneMile X hW had h_1 (by decide) hl (Nat.le_of_ble_eq_true rfl) dX3_readsMile_1 (fun H locs hW => ?_)
  refine lv_istore_n (lv' := [(1, .int r_2), (0, .ref (ad 999))]) hx hb dX3_readsMile_4 rfl hl (by decide) rfl (fun ls hl => ?_)
  refine lv_aload_n hx hb dX3_readsMile_5 rfl (lv_at hl 1 rfl) ?_
  refine lv_iconst (v := 0) hx hb dX3_readsMile_6 (by decide) ?_
  refine lv_bipush (v := 40) hx hb dX3_readsMile_7 (by decide) ?_
  obtain ⟨⟨σ_6, r_5⟩, h_4, hf⟩ := bd_e hf
  refine k_amount X hW had h_4 (by decide) hl (Nat.le_of_ble_eq_true rfl) dX3_readsMile_9 (fun H locs hW => ?_)
  refine lv_istore_n (lv' := [(2, .int r_5), (1, .int r_2), (0, .ref (ad 999))]) hx hb dX3_readsMile_12 rfl hl (by decide) rfl (fun ls hl => ?_)
  refine lv_aload_n hx hb dX3_readsMile_13 rfl (lv_at hl 2 rfl) ?_
  refine lv_iconst (v := 0) hx hb dX3_readsMile_14 (by decide) ?_
  refine lv_bipush (v := 99) hx hb dX3_readsMile_15 (by decide) ?_
  obtain ⟨⟨σ_9, r_8⟩, h_7, hf⟩ := bd_e hf
  refine k_amount X hW had h_7 (by decide) hl (Nat.le_of_ble_eq_true rfl) dX3_readsMile_17 (fun H locs hW => ?_)
  refine lv_istore_n (lv' := [(3, .int r_8), (2, .int r_5), (1, .int r_2), (0, .ref (ad 999))]) hx hb dX3_readsMile_20 rfl hl (by decide) rfl (fun ls hl => ?_)
  refine lv_aload_n hx hb dX3_readsMile_21 rfl (lv_at hl 3 rfl) ?_
  refine lv_iconst (v := 0) hx hb dX3_readsMile_22 (by decide) ?_
  refine lv_bipush (v := 9) hx hb dX3_readsMile_23 (by decide) ?_
  obtain ⟨⟨σ_12, r_11⟩, h_10, hf⟩ := bd_e hf
  refine k_amount X hW had h_10 (by decide) hl (Nat.le_of_ble_eq_true rfl) dX3_readsMile_25 (fun H locs hW => ?_)
  refine lv_istore (lv' := [(4, .int r_11), (3, .int r_8), (2, .int r_5), (1, .int r_2), (0, .ref (ad 999))]) hx hb dX3_readsMile_28 hl (by decide) rfl (fun ls hl => ?_)
  refine lv_aload_n hx hb dX3_readsMile_30 rfl (lv_at hl 4 rfl) ?_
  refine mg_29 X hW dX3_readsMile_31 ?_
  refine lv_if_ne (tgt := 62) hx hb dX3_readsMile_34 (by decide) (fun c_13 => ?_) (fun c_13 => ?_)
  · replace hf := ine hf c_13
    exact m_vret X hW hf dX3_readsMile_62
  · replace hf := ip hf c_13
    refine lv_aload_n hx hb dX3_readsMile_37 rfl (lv_at hl 4 rfl) ?_
    refine mg_18 X hW dX3_readsMile_38 ?_
    refine lv_iload_n hx hb dX3_readsMile_41 rfl (lv_at hl 3 rfl) ?_
    refine lv_iload_n hx hb dX3_readsMile_42 rfl (lv_at hl 2 rfl) ?_
    refine lv_bipush (v := 20) hx hb dX3_readsMile_43 (by decide) ?_
    refine lv_isub hx hb dX3_readsMile_45 ?_
    obtain ⟨h_14, hf⟩ := gd_e hf
    refine ms_18 X hW h_14 dX3_readsMile_46 (fun H locs hW => ?_)
    refine lv_aload_n hx hb dX3_readsMile_47 rfl (lv_at hl 4 rfl) ?_
    refine mg_19 X hW dX3_readsMile_48 ?_
    refine lv_iload_n hx hb dX3_readsMile_51 rfl (lv_at hl 3 rfl) ?_
    refine lv_iload_n hx hb dX3_readsMile_52 rfl (lv_at hl 1 rfl) ?_
    obtain ⟨σ_15, e_16, hf⟩ := nmb_e hf
    rw [← e_16] at hW
    clear e_16
    refine ms_19 X hW h_14 dX3_readsMile_53 (fun H locs hW => ?_)
    refine lv_aload_n hx hb dX3_readsMile_54 rfl (lv_at hl 4 rfl) ?_
    refine mg_20 X hW dX3_readsMile_55 ?_
    refine lv_iload_n hx hb dX3_readsMile_58 rfl (lv_at hl 3 rfl) ?_
    refine lv_iload hx hb dX3_readsMile_59 (lv_at hl 0 rfl) ?_
    obtain ⟨σ_17, e_18, hf⟩ := nmb_e hf
    rw [← e_18] at hW
    clear e_18
    refine ms_20 X hW h_14 dX3_readsMile_61 (fun H locs hW => ?_)
    exact m_vret X hW hf dX3_readsMile_62
theorem w_readsMile (l : Launch) {g : gG} {ad : Nat → Nat} (had : mI ad) {σr : cS}  {σ : cS}  (hf : m_readsMile σ = some σr) : MM l yX3_readsMile cX3_readsMile 5 none 6 132 g ad σ σr [.ref (ad 999)] none :=
  MC.of (by decide) mIds_nd had (Nat.le_of_ble_eq_true rfl) (fun p e s m below meth c A ls X hW hl => wb_readsMile X had hW hl hf)
theorem k_readsMile {p : Program} {l : Launch} {e : Env} {R : Room} {s : State} {m : MethodId} {args : Array Value} {below : List Frame} {meth : Method} {c : Code} {H : Heap} {locs : List Loc} {Q : State → Prop} {cc : ByteArray} {nL : Nat} {ret : Option FieldType} {g : gG} {A : Nat → Prop} {ad : Nat → Nat} {pc : Nat} {ls : Array Slot} {rest : List Value} {lv : List (Nat × Value)} {σr : cS}  {σ : cS} (X : MX p s m args meth c cc nL RX3 ret g A) (hW : WB g A s.heap mIds ad (mE g ad σ) H locs) (had : mI ad)  (hf : m_readsMile σ = some σr) (hR : 7 ≤ R.frames ∧ 156 ≤ R.locals) (hl : lv_has ls nL lv) (hcat : (rest.map fun v => v.category).sum ≤ 8) (hdg : decode cc pc = .ok (.invokevirtual 327, 3)) (kk : ∀ (H1 : Heap) (l1 : List Loc), WB g A s.heap mIds ad (mE g ad σr) H1 l1 → W p l e R s m args below meth c H1 l1 0 0 Q (F0 m (pc + 3) ls (rest))) : W p l e R s m args below meth c H locs 0 0 Q (F0 m pc ls (.ref (ad 999) :: rest)) :=
  r_callV X hW Sub.all (w_readsMile l had hf) (lw_V q1435 q1437 qs59 q126 q1438) ⟨rfl, by decide, by decide, by decide +kernel⟩ m_999 mE_o rfl (n := 0) hR hl rfl rfl hcat ⟨Nat.zero_le _, Nat.zero_le _⟩ hdg kk
-- readsWarm
noncomputable def m_readsWarm_27 {ρ : Type} (v2 : Int32) (v3 : Int32) (K : cS → Option ρ) : Nat → cS → Int32 → Option ρ
  | 0, _, _ => none
  | n + 1, σ, v4 => if v2 < v4 then (K σ) else (if (σ.1 999 29) = 0 then (gd (inb v4 100) (m_readsWarm_27 v2 v3 K n (si σ 21 (ix v4) v3) (v4 + 1))) else (K σ))
set_option maxHeartbeats 4000000 in
theorem wm_readsWarm_27 {p : Program} {l : Launch} {e : Env} {s : State} {m : MethodId} {args : Array Value} {below : List Frame} {meth : Method} {c : Code} {g : gG} {A : Nat → Prop} {ad : Nat → Nat} (X : MX p s m args meth c cX3_readsWarm 5 RX3 none g A) (had : mI ad) {ρ : Type} {res : ρ} {Q : State → Prop} {v2 : Int32} {v3 : Int32}  {K : cS → Option ρ}
    (hK : ∀ (σ : cS) (H : Heap) (locs : List Loc) (ls : Array Slot), WB g A s.heap mIds ad (mE g ad σ) H locs → lv_has ls 5 [] → K σ = some res → W p l e (rm_ 5 112) s m args below meth c H locs 0 0 Q (F0 m 54 ls [])) :
    ∀ (n : Nat) (σ : cS) (v4 : Int32) (H : Heap) (locs : List Loc) (ls : Array Slot), WB g A s.heap mIds ad (mE g ad σ) H locs → lv_has ls 5 [(0, .ref (ad 999)), (2, .int v2), (3, .int v3), (4, .int v4)] → m_readsWarm_27 v2 v3 K n σ v4 = some res → W p l e (rm_ 5 112) s m args below meth c H locs 0 0 Q (F0 m 27 ls []) := by
  have hx := X.1.1
  have hb := X.1.2.1
  intro n
  induction n with
  | zero =>
    intro σ v4 H locs ls hW hl hf
    rw [m_readsWarm_27] at hf
    cases hf
  | succ n ih =>
    intro σ v4 H locs ls hW hl hf
    rw [m_readsWarm_27] at hf
    refine lv_iload hx hb dX3_readsWarm_27 (lv_at hl 3 rfl) ?_
    refine lv_iload_n hx hb dX3_readsWarm_29 rfl (lv_at hl 1 rfl) ?_
    refine lv_icmp_gt (tgt := 54) hx hb dX3_readsWarm_30 (by decide) (fun c_10 => ?_) (fun c_10 => ?_)
    · replace hf := ip hf c_10
      exact hK _ _ _ _ hW (lv_sub hl [] rfl) hf
    · replace hf := ine hf c_10
      refine lv_aload_n hx hb dX3_readsWarm_33 rfl (lv_at hl 0 rfl) ?_
      refine mg_29 X hW dX3_readsWarm_34 ?_
      refine lv_if_ne (tgt := 54) hx hb dX3_readsWarm_37 (by decide) (fun c_11 => ?_) (fun c_11 => ?_)
      · replace hf := ine hf c_11
        exact hK _ _ _ _ hW (lv_sub hl [] rfl) hf
      · replace hf := ip hf c_11
        refine lv_aload_n hx hb dX3_readsWarm_40 rfl (lv_at hl 0 rfl) ?_
        refine mg_21 X hW dX3_readsWarm_41 ?_
        refine lv_iload hx hb dX3_readsWarm_44 (lv_at hl 3 rfl) ?_
        refine lv_iload_n hx hb dX3_readsWarm_46 rfl (lv_at hl 2 rfl) ?_
        obtain ⟨h_12, hf⟩ := gd_e hf
        refine ms_21 X hW h_12 dX3_readsWarm_47 (fun H locs hW => ?_)
        refine lv_iinc (v := (v4 + 1)) (lv' := [(4, .int (v4 + 1)), (0, .ref (ad 999)), (2, .int v2), (3, .int v3)]) hx hb dX3_readsWarm_48 hl (k := 3) rfl (ii_v _ _ _ (by decide)) (by decide) rfl (fun ls hl => ?_)
        refine lv_goto (tgt := 27) hx hb dX3_readsWarm_51 (by decide) ?_
        exact ih _ _ _ _ _ hW (lv_sub hl [1, 2, 3, 0] rfl) hf
noncomputable def m_readsWarm (σ : cS) : Option (cS) :=
  ((m_amount σ 0 99).bind fun (σ_3, r_2) => ((m_amount σ_3 r_2 99).bind fun (σ_6, r_5) => ((m_amount σ_6 1 9).bind fun (σ_9, r_8) => m_readsWarm_27 r_5 r_8 (fun σ_13 => (some σ_13)) FU σ_9 r_2)))
set_option maxHeartbeats 4000000 in
theorem wb_readsWarm {p : Program} {l : Launch} {e : Env} {s : State} {m : MethodId} {args : Array Value} {below : List Frame} {meth : Method} {c : Code} {g : gG} {A : Nat → Prop} {ad : Nat → Nat} (X : MX p s m args meth c cX3_readsWarm 5 RX3 none g A) (had : mI ad) {σr : cS}  {σ : cS}  {H : Heap} {locs : List Loc} {ls : Array Slot} (hW : WB g A s.heap mIds ad (mE g ad σ) H locs) (hl : lv_has ls 5 [(0, .ref (ad 999))]) (hf : m_readsWarm σ = some σr) : W p l e (rm_ 5 112) s m args below meth c H locs 0 0 (Qm below g mIds ad (mE g ad σr) none A args s) (F0 m 0 ls []) := by
  have hx := X.1.1
  have hb := X.1.2.1
  unfold m_readsWarm at hf
  refine lv_aload_n hx hb dX3_readsWarm_0 rfl (lv_at hl 0 rfl) ?_
  refine lv_iconst (v := 0) hx hb dX3_readsWarm_1 (by decide) ?_
  refine lv_bipush (v := 99) hx hb dX3_readsWarm_2 (by decide) ?_
  obtain ⟨⟨σ_3, r_2⟩, h_1, hf⟩ := bd_e hf
  refine k_amount X hW had h_1 (by decide) hl (Nat.le_of_ble_eq_true rfl) dX3_readsWarm_4 (fun H locs hW => ?_)
  refine lv_istore_n (lv' := [(1, .int r_2), (0, .ref (ad 999))]) hx hb dX3_readsWarm_7 rfl hl (by decide) rfl (fun ls hl => ?_)
  refine lv_aload_n hx hb dX3_readsWarm_8 rfl (lv_at hl 1 rfl) ?_
  refine lv_iload_n hx hb dX3_readsWarm_9 rfl (lv_at hl 0 rfl) ?_
  refine lv_bipush (v := 99) hx hb dX3_readsWarm_10 (by decide) ?_
  obtain ⟨⟨σ_6, r_5⟩, h_4, hf⟩ := bd_e hf
  refine k_amount X hW had h_4 (by decide) hl (Nat.le_of_ble_eq_true rfl) dX3_readsWarm_12 (fun H locs hW => ?_)
  refine lv_istore_n (lv' := [(2, .int r_5), (1, .int r_2), (0, .ref (ad 999))]) hx hb dX3_readsWarm_15 rfl hl (by decide) rfl (fun ls hl => ?_)
  refine lv_aload_n hx hb dX3_readsWarm_16 rfl (lv_at hl 2 rfl) ?_
  refine lv_iconst (v := 1) hx hb dX3_readsWarm_17 (by decide) ?_
  refine lv_bipush (v := 9) hx hb dX3_readsWarm_18 (by decide) ?_
  obtain ⟨⟨σ_9, r_8⟩, h_7, hf⟩ := bd_e hf
  refine k_amount X hW had h_7 (by decide) hl (Nat.le_of_ble_eq_true rfl) dX3_readsWarm_20 (fun H locs hW => ?_)
  refine lv_istore_n (lv' := [(3, .int r_8), (2, .int r_5), (1, .int r_2), (0, .ref (ad 999))]) hx hb dX3_readsWarm_23 rfl hl (by decide) rfl (fun ls hl => ?_)
  refine lv_iload_n hx hb dX3_readsWarm_24 rfl (lv_at hl 2 rfl) ?_
  refine lv_istore (lv' := [(4, .int r_2), (3, .int r_8), (2, .int r_5), (1, .int r_2), (0, .ref (ad 999))]) hx hb dX3_readsWarm_25 hl (by decide) rfl (fun ls hl => ?_)
  refine wm_readsWarm_27 X had (fun σ_13 H locs ls hW hl hf => ?_) _ _ _ _ _ _ hW (lv_sub hl [4, 2, 1, 0] rfl) hf
  exact m_vret X hW hf dX3_readsWarm_54
theorem w_readsWarm (l : Launch) {g : gG} {ad : Nat → Nat} (had : mI ad) {σr : cS}  {σ : cS}  (hf : m_readsWarm σ = some σr) : MM l yX3_readsWarm cX3_readsWarm 5 none 5 112 g ad σ σr [.ref (ad 999)] none :=
  MC.of (by decide) mIds_nd had (Nat.le_of_ble_eq_true rfl) (fun p e s m below meth c A ls X hW hl => wb_readsWarm X had hW hl hf)
theorem k_readsWarm {p : Program} {l : Launch} {e : Env} {R : Room} {s : State} {m : MethodId} {args : Array Value} {below : List Frame} {meth : Method} {c : Code} {H : Heap} {locs : List Loc} {Q : State → Prop} {cc : ByteArray} {nL : Nat} {ret : Option FieldType} {g : gG} {A : Nat → Prop} {ad : Nat → Nat} {pc : Nat} {ls : Array Slot} {rest : List Value} {lv : List (Nat × Value)} {σr : cS}  {σ : cS} (X : MX p s m args meth c cc nL RX3 ret g A) (hW : WB g A s.heap mIds ad (mE g ad σ) H locs) (had : mI ad)  (hf : m_readsWarm σ = some σr) (hR : 6 ≤ R.frames ∧ 136 ≤ R.locals) (hl : lv_has ls nL lv) (hcat : (rest.map fun v => v.category).sum ≤ 8) (hdg : decode cc pc = .ok (.invokevirtual 330, 3)) (kk : ∀ (H1 : Heap) (l1 : List Loc), WB g A s.heap mIds ad (mE g ad σr) H1 l1 → W p l e R s m args below meth c H1 l1 0 0 Q (F0 m (pc + 3) ls (rest))) : W p l e R s m args below meth c H locs 0 0 Q (F0 m pc ls (.ref (ad 999) :: rest)) :=
  r_callV X hW Sub.all (w_readsWarm l had hf) (lw_V q1443 q1445 qs61 q126 q1446) ⟨rfl, by decide, by decide, by decide +kernel⟩ m_999 mE_o rfl (n := 0) hR hl rfl rfl hcat ⟨Nat.zero_le _, Nat.zero_le _⟩ hdg kk
-- readsVillage
noncomputable def m_readsVillage (σ : cS) : Option (cS) :=
  ((m_oneMile σ).bind fun (σ_3, r_2) => gd (inb (σ.1 17 (ix 2)) 8) (((m_amount (si σ_3 22 (ix (σ.1 17 (ix 2))) r_2) 0 40).bind fun (σ_7, r_6) => ((m_amount (si σ_7 23 (ix (σ.1 17 (ix 2))) (r_6 - 20)) 0 1).bind fun (σ_10, r_9) => nmb (si σ_10 24 (ix (σ.1 17 (ix 2))) r_9) fun σ_11 => (some (si σ_11 17 (ix 2) (((si σ_10 24 (ix (σ.1 17 (ix 2))) r_9).1 17 (ix 2)) + 1)))))))
set_option maxHeartbeats 4000000 in
theorem wb_readsVillage {p : Program} {l : Launch} {e : Env} {s : State} {m : MethodId} {args : Array Value} {below : List Frame} {meth : Method} {c : Code} {g : gG} {A : Nat → Prop} {ad : Nat → Nat} (X : MX p s m args meth c cX3_readsVillage 2 RX3 none g A) (had : mI ad) {σr : cS}  {σ : cS}  {H : Heap} {locs : List Loc} {ls : Array Slot} (hW : WB g A s.heap mIds ad (mE g ad σ) H locs) (hl : lv_has ls 2 [(0, .ref (ad 999))]) (hf : m_readsVillage σ = some σr) : W p l e (rm_ 6 132) s m args below meth c H locs 0 0 (Qm below g mIds ad (mE g ad σr) none A args s) (F0 m 0 ls []) := by
  have hx := X.1.1
  have hb := X.1.2.1
  unfold m_readsVillage at hf
  refine lv_aload_n hx hb dX3_readsVillage_0 rfl (lv_at hl 0 rfl) ?_
  refine mg_17 X hW dX3_readsVillage_1 ?_
  refine lv_iconst (v := 2) hx hb dX3_readsVillage_4 (by decide) ?_
  refine ml_17 X hW (by decide) dX3_readsVillage_5 ?_
  refine lv_istore_n (lv' := [(1, .int (σ.1 17 (ix 2))), (0, .ref (ad 999))]) hx hb dX3_readsVillage_6 rfl hl (by decide) rfl (fun ls hl => ?_)
  refine lv_aload_n hx hb dX3_readsVillage_7 rfl (lv_at hl 1 rfl) ?_
  refine mg_22 X hW dX3_readsVillage_8 ?_
  refine lv_iload_n hx hb dX3_readsVillage_11 rfl (lv_at hl 0 rfl) ?_
  refine lv_aload_n hx hb dX3_readsVillage_12 rfl (lv_at hl 1 rfl) ?_
  obtain ⟨⟨σ_3, r_2⟩, h_1, hf⟩ := bd_e hf
  refine k_oneMile X hW had h_1 (by decide) hl (Nat.le_of_ble_eq_true rfl) dX3_readsVillage_13 (fun H locs hW => ?_)
  obtain ⟨h_4, hf⟩ := gd_e hf
  refine ms_22 X hW h_4 dX3_readsVillage_16 (fun H locs hW => ?_)
  refine lv_aload_n hx hb dX3_readsVillage_17 rfl (lv_at hl 1 rfl) ?_
  refine mg_23 X hW dX3_readsVillage_18 ?_
  refine lv_iload_n hx hb dX3_readsVillage_21 rfl (lv_at hl 0 rfl) ?_
  refine lv_aload_n hx hb dX3_readsVillage_22 rfl (lv_at hl 1 rfl) ?_
  refine lv_iconst (v := 0) hx hb dX3_readsVillage_23 (by decide) ?_
  refine lv_bipush (v := 40) hx hb dX3_readsVillage_24 (by decide) ?_
  obtain ⟨⟨σ_7, r_6⟩, h_5, hf⟩ := bd_e hf
  refine k_amount X hW had h_5 (by decide) hl (Nat.le_of_ble_eq_true rfl) dX3_readsVillage_26 (fun H locs hW => ?_)
  refine lv_bipush (v := 20) hx hb dX3_readsVillage_29 (by decide) ?_
  refine lv_isub hx hb dX3_readsVillage_31 ?_
  refine ms_23 X hW h_4 dX3_readsVillage_32 (fun H locs hW => ?_)
  refine lv_aload_n hx hb dX3_readsVillage_33 rfl (lv_at hl 1 rfl) ?_
  refine mg_24 X hW dX3_readsVillage_34 ?_
  refine lv_iload_n hx hb dX3_readsVillage_37 rfl (lv_at hl 0 rfl) ?_
  refine lv_aload_n hx hb dX3_readsVillage_38 rfl (lv_at hl 1 rfl) ?_
  refine lv_iconst (v := 0) hx hb dX3_readsVillage_39 (by decide) ?_
  refine lv_iconst (v := 1) hx hb dX3_readsVillage_40 (by decide) ?_
  obtain ⟨⟨σ_10, r_9⟩, h_8, hf⟩ := bd_e hf
  refine k_amount X hW had h_8 (by decide) hl (Nat.le_of_ble_eq_true rfl) dX3_readsVillage_41 (fun H locs hW => ?_)
  refine ms_24 X hW h_4 dX3_readsVillage_44 (fun H locs hW => ?_)
  refine lv_aload_n hx hb dX3_readsVillage_45 rfl (lv_at hl 1 rfl) ?_
  refine mg_17 X hW dX3_readsVillage_46 ?_
  refine lv_iconst (v := 2) hx hb dX3_readsVillage_49 (by decide) ?_
  refine lv_dup2_11 hx hb dX3_readsVillage_50 rfl rfl ?_
  refine ml_17 X hW (by decide) dX3_readsVillage_51 ?_
  refine lv_iconst (v := 1) hx hb dX3_readsVillage_52 (by decide) ?_
  refine lv_iadd hx hb dX3_readsVillage_53 ?_
  obtain ⟨σ_11, e_12, hf⟩ := nmb_e hf
  rw [← e_12] at hW
  clear e_12
  refine ms_17 X hW (by decide) dX3_readsVillage_54 (fun H locs hW => ?_)
  exact m_vret X hW hf dX3_readsVillage_55
theorem w_readsVillage (l : Launch) {g : gG} {ad : Nat → Nat} (had : mI ad) {σr : cS}  {σ : cS}  (hf : m_readsVillage σ = some σr) : MM l yX3_readsVillage cX3_readsVillage 2 none 6 132 g ad σ σr [.ref (ad 999)] none :=
  MC.of (by decide) mIds_nd had (Nat.le_of_ble_eq_true rfl) (fun p e s m below meth c A ls X hW hl => wb_readsVillage X had hW hl hf)
theorem k_readsVillage {p : Program} {l : Launch} {e : Env} {R : Room} {s : State} {m : MethodId} {args : Array Value} {below : List Frame} {meth : Method} {c : Code} {H : Heap} {locs : List Loc} {Q : State → Prop} {cc : ByteArray} {nL : Nat} {ret : Option FieldType} {g : gG} {A : Nat → Prop} {ad : Nat → Nat} {pc : Nat} {ls : Array Slot} {rest : List Value} {lv : List (Nat × Value)} {σr : cS}  {σ : cS} (X : MX p s m args meth c cc nL RX3 ret g A) (hW : WB g A s.heap mIds ad (mE g ad σ) H locs) (had : mI ad)  (hf : m_readsVillage σ = some σr) (hR : 7 ≤ R.frames ∧ 153 ≤ R.locals) (hl : lv_has ls nL lv) (hcat : (rest.map fun v => v.category).sum ≤ 8) (hdg : decode cc pc = .ok (.invokevirtual 333, 3)) (kk : ∀ (H1 : Heap) (l1 : List Loc), WB g A s.heap mIds ad (mE g ad σr) H1 l1 → W p l e R s m args below meth c H1 l1 0 0 Q (F0 m (pc + 3) ls (rest))) : W p l e R s m args below meth c H locs 0 0 Q (F0 m pc ls (.ref (ad 999) :: rest)) :=
  r_callV X hW Sub.all (w_readsVillage l had hf) (lw_V q1447 q1449 qs62 q126 q1450) ⟨rfl, by decide, by decide, by decide +kernel⟩ m_999 mE_o rfl (n := 0) hR hl rfl rfl hcat ⟨Nat.zero_le _, Nat.zero_le _⟩ hdg kk
-- stripPart
noncomputable def m_stripPart (σ : cS) (v1 : Int32) : Option (cS) :=
  if v1 = 0 then (((m_amount σ 2 10).bind fun (σ_4, r_3) => ((m_amount (si σ_4 17 (ix 0) r_3) 0 3).bind fun (σ_7, r_6) => some (si σ_7 17 (ix 1) r_6)))) else (if v1 = 1 then (((m_readsMile σ).bind fun σ_10 => some σ_10)) else (if v1 = 2 then (((m_readsWarm σ).bind fun σ_13 => some σ_13)) else (if v1 = 3 then (((m_oneMile σ).bind fun (σ_17, r_16) => if (σ_17.1 999 29) = 0 then (some (si σ_17 17 (ix 4) ((σ_17.1 17 (ix 4)) ||| (1 <<< (r_16 &&& 31))))) else (some (si σ_17 17 (ix 4) ((σ_17.1 17 (ix 4)) ||| 0))))) else (if v1 = 4 then (((m_readsVillage σ).bind fun σ_21 => some σ_21)) else (((m_amount σ 0 ((σ.1 17 (ix 2)) - 1)).bind fun (σ_24, r_23) => gd (inb (σ.1 17 (ix 3)) 8) (((m_amount (si σ_24 25 (ix (σ.1 17 (ix 3))) r_23) 0 1).bind fun (σ_28, r_27) => nmb (si σ_28 26 (ix (σ.1 17 (ix 3))) r_27) fun σ_29 => (some (si σ_29 17 (ix 3) (((si σ_28 26 (ix (σ.1 17 (ix 3))) r_27).1 17 (ix 3)) + 1)))))))))))
set_option maxHeartbeats 4000000 in
theorem wb_stripPart {p : Program} {l : Launch} {e : Env} {s : State} {m : MethodId} {args : Array Value} {below : List Frame} {meth : Method} {c : Code} {g : gG} {A : Nat → Prop} {ad : Nat → Nat} (X : MX p s m args meth c cX3_stripPart 3 RX3 none g A) (had : mI ad) {σr : cS}  {σ : cS} {v1 : Int32}  {H : Heap} {locs : List Loc} {ls : Array Slot} (hW : WB g A s.heap mIds ad (mE g ad σ) H locs) (hl : lv_has ls 3 [(0, .ref (ad 999)), (1, .int v1)]) (hf : m_stripPart σ v1 = some σr) : W p l e (rm_ 7 156) s m args below meth c H locs 0 0 (Qm below g mIds ad (mE g ad σr) none A args s) (F0 m 0 ls []) := by
  have hx := X.1.1
  have hb := X.1.2.1
  unfold m_stripPart at hf
  refine lv_iload_n hx hb dX3_stripPart_0 rfl (lv_at hl 1 rfl) ?_
  by_cases c_1 : v1 = 0
  · replace hf := ip hf c_1
    refine r_tabIn (tgt := 36) (off := 35) (k := 0) hx hb c_1 dX3_stripPart_1 (by decide) (by decide) rfl (by decide) ?_
    refine lv_aload_n hx hb dX3_stripPart_36 rfl (lv_at hl 0 rfl) ?_
    refine mg_17 X hW dX3_stripPart_37 ?_
    refine lv_iconst (v := 0) hx hb dX3_stripPart_40 (by decide) ?_
    refine lv_aload_n hx hb dX3_stripPart_41 rfl (lv_at hl 0 rfl) ?_
    refine lv_iconst (v := 2) hx hb dX3_stripPart_42 (by decide) ?_
    refine lv_bipush (v := 10) hx hb dX3_stripPart_43 (by decide) ?_
    obtain ⟨⟨σ_4, r_3⟩, h_2, hf⟩ := bd_e hf
    refine k_amount X hW had h_2 (by decide) hl (Nat.le_of_ble_eq_true rfl) dX3_stripPart_45 (fun H locs hW => ?_)
    refine ms_17 X hW (by decide) dX3_stripPart_48 (fun H locs hW => ?_)
    refine lv_aload_n hx hb dX3_stripPart_49 rfl (lv_at hl 0 rfl) ?_
    refine mg_17 X hW dX3_stripPart_50 ?_
    refine lv_iconst (v := 1) hx hb dX3_stripPart_53 (by decide) ?_
    refine lv_aload_n hx hb dX3_stripPart_54 rfl (lv_at hl 0 rfl) ?_
    refine lv_iconst (v := 0) hx hb dX3_stripPart_55 (by decide) ?_
    refine lv_iconst (v := 3) hx hb dX3_stripPart_56 (by decide) ?_
    obtain ⟨⟨σ_7, r_6⟩, h_5, hf⟩ := bd_e hf
    refine k_amount X hW had h_5 (by decide) hl (Nat.le_of_ble_eq_true rfl) dX3_stripPart_57 (fun H locs hW => ?_)
    refine ms_17 X hW (by decide) dX3_stripPart_60 (fun H locs hW => ?_)
    refine lv_goto (tgt := 164) hx hb dX3_stripPart_61 (by decide) ?_
    exact m_vret X hW hf dX3_stripPart_164
  · replace hf := ine hf c_1
    by_cases c_8 : v1 = 1
    · replace hf := ip hf c_8
      refine r_tabIn (tgt := 64) (off := 63) (k := 1) hx hb c_8 dX3_stripPart_1 (by decide) (by decide) rfl (by decide) ?_
      refine lv_aload_n hx hb dX3_stripPart_64 rfl (lv_at hl 0 rfl) ?_
      obtain ⟨σ_10, h_9, hf⟩ := bd_e hf
      refine k_readsMile X hW had h_9 (by decide) hl (Nat.le_of_ble_eq_true rfl) dX3_stripPart_65 (fun H locs hW => ?_)
      refine lv_goto (tgt := 164) hx hb dX3_stripPart_68 (by decide) ?_
      exact m_vret X hW hf dX3_stripPart_164
    · replace hf := ine hf c_8
      by_cases c_11 : v1 = 2
      · replace hf := ip hf c_11
        refine r_tabIn (tgt := 71) (off := 70) (k := 2) hx hb c_11 dX3_stripPart_1 (by decide) (by decide) rfl (by decide) ?_
        refine lv_aload_n hx hb dX3_stripPart_71 rfl (lv_at hl 0 rfl) ?_
        obtain ⟨σ_13, h_12, hf⟩ := bd_e hf
        refine k_readsWarm X hW had h_12 (by decide) hl (Nat.le_of_ble_eq_true rfl) dX3_stripPart_72 (fun H locs hW => ?_)
        refine lv_goto (tgt := 164) hx hb dX3_stripPart_75 (by decide) ?_
        exact m_vret X hW hf dX3_stripPart_164
      · replace hf := ine hf c_11
        by_cases c_14 : v1 = 3
        · replace hf := ip hf c_14
          refine r_tabIn (tgt := 78) (off := 77) (k := 3) hx hb c_14 dX3_stripPart_1 (by decide) (by decide) rfl (by decide) ?_
          refine lv_aload_n hx hb dX3_stripPart_78 rfl (lv_at hl 0 rfl) ?_
          obtain ⟨⟨σ_17, r_16⟩, h_15, hf⟩ := bd_e hf
          refine k_oneMile X hW had h_15 (by decide) hl (Nat.le_of_ble_eq_true rfl) dX3_stripPart_79 (fun H locs hW => ?_)
          refine lv_istore_n (lv' := [(2, .int r_16), (0, .ref (ad 999)), (1, .int v1)]) hx hb dX3_stripPart_82 rfl hl (by decide) rfl (fun ls hl => ?_)
          refine lv_aload_n hx hb dX3_stripPart_83 rfl (lv_at hl 1 rfl) ?_
          refine mg_17 X hW dX3_stripPart_84 ?_
          refine lv_iconst (v := 4) hx hb dX3_stripPart_87 (by decide) ?_
          refine lv_dup2_11 hx hb dX3_stripPart_88 rfl rfl ?_
          refine ml_17 X hW (by decide) dX3_stripPart_89 ?_
          refine lv_aload_n hx hb dX3_stripPart_90 rfl (lv_at hl 1 rfl) ?_
          refine mg_29 X hW dX3_stripPart_91 ?_
          refine lv_if_ne (tgt := 103) hx hb dX3_stripPart_94 (by decide) (fun c_18 => ?_) (fun c_18 => ?_)
          · replace hf := ine hf c_18
            refine lv_iconst (v := 0) hx hb dX3_stripPart_103 (by decide) ?_
            refine lv_ior hx hb dX3_stripPart_104 ?_
            refine ms_17 X hW (by decide) dX3_stripPart_105 (fun H locs hW => ?_)
            refine lv_goto (tgt := 164) hx hb dX3_stripPart_106 (by decide) ?_
            exact m_vret X hW hf dX3_stripPart_164
          · replace hf := ip hf c_18
            refine lv_iconst (v := 1) hx hb dX3_stripPart_97 (by decide) ?_
            refine lv_iload_n hx hb dX3_stripPart_98 rfl (lv_at hl 0 rfl) ?_
            refine lv_ishl hx hb dX3_stripPart_99 ?_
            refine lv_goto (tgt := 104) hx hb dX3_stripPart_100 (by decide) ?_
            refine lv_ior hx hb dX3_stripPart_104 ?_
            refine ms_17 X hW (by decide) dX3_stripPart_105 (fun H locs hW => ?_)
            refine lv_goto (tgt := 164) hx hb dX3_stripPart_106 (by decide) ?_
            exact m_vret X hW hf dX3_stripPart_164
        · replace hf := ine hf c_14
          by_cases c_19 : v1 = 4
          · replace hf := ip hf c_19
            refine r_tabIn (tgt := 109) (off := 108) (k := 4) hx hb c_19 dX3_stripPart_1 (by decide) (by decide) rfl (by decide) ?_
            refine lv_aload_n hx hb dX3_stripPart_109 rfl (lv_at hl 0 rfl) ?_
            obtain ⟨σ_21, h_20, hf⟩ := bd_e hf
            refine k_readsVillage X hW had h_20 (by decide) hl (Nat.le_of_ble_eq_true rfl) dX3_stripPart_110 (fun H locs hW => ?_)
            refine lv_goto (tgt := 164) hx hb dX3_stripPart_113 (by decide) ?_
            exact m_vret X hW hf dX3_stripPart_164
          · replace hf := ine hf c_19
            refine lv_tableOut (tgt := 116) hx hb dX3_stripPart_1 (by have := lv_neT c_1 (a := 0) rfl; have := lv_neT c_8 (a := 1) rfl; have := lv_neT c_11 (a := 2) rfl; have := lv_neT c_14 (a := 3) rfl; have := lv_neT c_19 (a := 4) rfl; omega) (by decide) ?_
            refine lv_aload_n hx hb dX3_stripPart_116 rfl (lv_at hl 0 rfl) ?_
            refine mg_17 X hW dX3_stripPart_117 ?_
            refine lv_iconst (v := 3) hx hb dX3_stripPart_120 (by decide) ?_
            refine ml_17 X hW (by decide) dX3_stripPart_121 ?_
            refine lv_istore_n (lv' := [(2, .int (σ.1 17 (ix 3))), (0, .ref (ad 999)), (1, .int v1)]) hx hb dX3_stripPart_122 rfl hl (by decide) rfl (fun ls hl => ?_)
            refine lv_aload_n hx hb dX3_stripPart_123 rfl (lv_at hl 1 rfl) ?_
            refine mg_25 X hW dX3_stripPart_124 ?_
            refine lv_iload_n hx hb dX3_stripPart_127 rfl (lv_at hl 0 rfl) ?_
            refine lv_aload_n hx hb dX3_stripPart_128 rfl (lv_at hl 1 rfl) ?_
            refine lv_iconst (v := 0) hx hb dX3_stripPart_129 (by decide) ?_
            refine lv_aload_n hx hb dX3_stripPart_130 rfl (lv_at hl 1 rfl) ?_
            refine mg_17 X hW dX3_stripPart_131 ?_
            refine lv_iconst (v := 2) hx hb dX3_stripPart_134 (by decide) ?_
            refine ml_17 X hW (by decide) dX3_stripPart_135 ?_
            refine lv_iconst (v := 1) hx hb dX3_stripPart_136 (by decide) ?_
            refine lv_isub hx hb dX3_stripPart_137 ?_
            obtain ⟨⟨σ_24, r_23⟩, h_22, hf⟩ := bd_e hf
            refine k_amount X hW had h_22 (by decide) hl (Nat.le_of_ble_eq_true rfl) dX3_stripPart_138 (fun H locs hW => ?_)
            obtain ⟨h_25, hf⟩ := gd_e hf
            refine ms_25 X hW h_25 dX3_stripPart_141 (fun H locs hW => ?_)
            refine lv_aload_n hx hb dX3_stripPart_142 rfl (lv_at hl 1 rfl) ?_
            refine mg_26 X hW dX3_stripPart_143 ?_
            refine lv_iload_n hx hb dX3_stripPart_146 rfl (lv_at hl 0 rfl) ?_
            refine lv_aload_n hx hb dX3_stripPart_147 rfl (lv_at hl 1 rfl) ?_
            refine lv_iconst (v := 0) hx hb dX3_stripPart_148 (by decide) ?_
            refine lv_iconst (v := 1) hx hb dX3_stripPart_149 (by decide) ?_
            obtain ⟨⟨σ_28, r_27⟩, h_26, hf⟩ := bd_e hf
            refine k_amount X hW had h_26 (by decide) hl (Nat.le_of_ble_eq_true rfl) dX3_stripPart_150 (fun H locs hW => ?_)
            refine ms_26 X hW h_25 dX3_stripPart_153 (fun H locs hW => ?_)
            refine lv_aload_n hx hb dX3_stripPart_154 rfl (lv_at hl 1 rfl) ?_
            refine mg_17 X hW dX3_stripPart_155 ?_
            refine lv_iconst (v := 3) hx hb dX3_stripPart_158 (by decide) ?_
            refine lv_dup2_11 hx hb dX3_stripPart_159 rfl rfl ?_
            refine ml_17 X hW (by decide) dX3_stripPart_160 ?_
            refine lv_iconst (v := 1) hx hb dX3_stripPart_161 (by decide) ?_
            refine lv_iadd hx hb dX3_stripPart_162 ?_
            obtain ⟨σ_29, e_30, hf⟩ := nmb_e hf
            rw [← e_30] at hW
            clear e_30
            refine ms_17 X hW (by decide) dX3_stripPart_163 (fun H locs hW => ?_)
            exact m_vret X hW hf dX3_stripPart_164
theorem w_stripPart (l : Launch) {g : gG} {ad : Nat → Nat} (had : mI ad) {σr : cS}  {σ : cS} {v1 : Int32}  (hf : m_stripPart σ v1 = some σr) : MM l yX3_stripPart cX3_stripPart 3 none 7 156 g ad σ σr [.ref (ad 999), .int v1] none :=
  MC.of (by decide) mIds_nd had (Nat.le_of_ble_eq_true rfl) (fun p e s m below meth c A ls X hW hl => wb_stripPart X had hW hl hf)
theorem k_stripPart {p : Program} {l : Launch} {e : Env} {R : Room} {s : State} {m : MethodId} {args : Array Value} {below : List Frame} {meth : Method} {c : Code} {H : Heap} {locs : List Loc} {Q : State → Prop} {cc : ByteArray} {nL : Nat} {ret : Option FieldType} {g : gG} {A : Nat → Prop} {ad : Nat → Nat} {pc : Nat} {ls : Array Slot} {rest : List Value} {lv : List (Nat × Value)} {σr : cS}  {σ : cS} {v1 : Int32} (X : MX p s m args meth c cc nL RX3 ret g A) (hW : WB g A s.heap mIds ad (mE g ad σ) H locs) (had : mI ad)  (hf : m_stripPart σ v1 = some σr) (hR : 8 ≤ R.frames ∧ 178 ≤ R.locals) (hl : lv_has ls nL lv) (hcat : (rest.map fun v => v.category).sum ≤ 8) (hdg : decode cc pc = .ok (.invokevirtual 342, 3)) (kk : ∀ (H1 : Heap) (l1 : List Loc), WB g A s.heap mIds ad (mE g ad σr) H1 l1 → W p l e R s m args below meth c H1 l1 0 0 Q (F0 m (pc + 3) ls (rest))) : W p l e R s m args below meth c H locs 0 0 Q (F0 m pc ls (.int v1 :: .ref (ad 999) :: rest)) :=
  r_callV X hW Sub.all (w_stripPart l had hf) (lw_V q1413 q1415 qs55 q126 q1416) ⟨rfl, by decide, by decide, by decide +kernel⟩ m_999 mE_o rfl (n := 1) hR hl rfl rfl hcat ⟨Nat.zero_le _, Nat.zero_le _⟩ hdg kk
-- stripClause
noncomputable def m_stripClause_11 {ρ : Type} (σ : cS) (v1 : Int32) (v2 : Int32) (K : Int32 → Option ρ) : Nat → Int32 → Option ρ
  | 0, _ => none
  | n + 1, v3 => if 6 ≤ v3 then (K v3) else (((m_stripWord v3).bind fun r_5 => gd (decide (r_5 < 43)) (((m_stood σ r_5).bind fun r_7 => if r_7 = 0 then (m_stripClause_11 σ v1 v2 K n (v3 + 1)) else (K v3)))))
set_option maxHeartbeats 4000000 in
theorem wm_stripClause_11 {p : Program} {l : Launch} {e : Env} {s : State} {m : MethodId} {args : Array Value} {below : List Frame} {meth : Method} {c : Code} {g : gG} {A : Nat → Prop} {ad : Nat → Nat} (X : MX p s m args meth c cX3_stripClause 4 RX3 none g A) (had : mI ad) {ρ : Type} {res : ρ} {Q : State → Prop} {v1 : Int32} {v2 : Int32} {σ : cS}  {K : Int32 → Option ρ}
    (hK : ∀ (k3 : Int32) (H : Heap) (locs : List Loc) (ls : Array Slot), WB g A s.heap mIds ad (mE g ad σ) H locs → lv_has ls 4 [(0, .ref (ad 999)), (1, .int v1), (2, .int v2), (3, .int k3)] → K k3 = some res → W p l e (rm_ 8 224) s m args below meth c H locs 0 0 Q (F0 m 34 ls [])) :
    ∀ (n : Nat) (v3 : Int32) (H : Heap) (locs : List Loc) (ls : Array Slot), WB g A s.heap mIds ad (mE g ad σ) H locs → lv_has ls 4 [(0, .ref (ad 999)), (1, .int v1), (2, .int v2), (3, .int v3)] → m_stripClause_11 σ v1 v2 K n v3 = some res → W p l e (rm_ 8 224) s m args below meth c H locs 0 0 Q (F0 m 11 ls []) := by
  have hx := X.1.1
  have hb := X.1.2.1
  intro n
  induction n with
  | zero =>
    intro v3 H locs ls hW hl hf
    rw [m_stripClause_11] at hf
    cases hf
  | succ n ih =>
    intro v3 H locs ls hW hl hf
    rw [m_stripClause_11] at hf
    refine lv_iload_n hx hb dX3_stripClause_11 rfl (lv_at hl 3 rfl) ?_
    refine lv_bipush (v := 6) hx hb dX3_stripClause_12 (by decide) ?_
    refine lv_icmp_ge (tgt := 34) hx hb dX3_stripClause_14 (by decide) (fun c_3 => ?_) (fun c_3 => ?_)
    · replace hf := ip hf c_3
      exact hK _ _ _ _ hW (lv_sub hl [0, 1, 2, 3] rfl) hf
    · replace hf := ine hf c_3
      refine lv_aload_n hx hb dX3_stripClause_17 rfl (lv_at hl 0 rfl) ?_
      refine lv_iload_n hx hb dX3_stripClause_18 rfl (lv_at hl 3 rfl) ?_
      obtain ⟨r_5, h_4, hf⟩ := bd_e hf
      refine k_stripWord X hW h_4 (by decide) hl (Nat.le_of_ble_eq_true rfl) dX3_stripClause_19 (fun H locs hW => ?_)
      obtain ⟨hs_r_5, hf⟩ := gd_e hf
      replace hs_r_5 := of_decide_eq_true hs_r_5
      obtain ⟨r_7, h_6, hf⟩ := bd_e hf
      refine k_stood X hW had hs_r_5 h_6 (by decide) hl (Nat.le_of_ble_eq_true rfl) dX3_stripClause_22 (fun H locs hW => ?_)
      refine lv_if_ne (tgt := 34) hx hb dX3_stripClause_25 (by decide) (fun c_8 => ?_) (fun c_8 => ?_)
      · replace hf := ine hf c_8
        exact hK _ _ _ _ hW (lv_sub hl [0, 1, 2, 3] rfl) hf
      · replace hf := ip hf c_8
        refine lv_iinc (v := (v3 + 1)) (lv' := [(3, .int (v3 + 1)), (0, .ref (ad 999)), (1, .int v1), (2, .int v2)]) hx hb dX3_stripClause_28 hl (k := 3) rfl (ii_v _ _ _ (by decide)) (by decide) rfl (fun ls hl => ?_)
        refine lv_goto (tgt := 11) hx hb dX3_stripClause_31 (by decide) ?_
        exact ih _ _ _ _ hW (lv_sub hl [1, 2, 3, 0] rfl) hf
noncomputable def m_stripClause (σ : cS) (v1 : Int32) : Option (cS) :=
  ((m_blanks σ).bind fun σ_2 => m_stripClause_11 σ_2 v1 (σ_2.1 999 28) (fun v_9 => (if v_9 = 6 then (((m_fails σ_2 0 (σ_2.1 999 28)).bind fun σ_21 => some σ_21)) else (((m_isFull σ_2 v_9 v1).bind fun r_12 => if r_12 = 0 then (((m_stripWord v_9).bind fun r_15 => gd (decide (r_15 < 43)) (((m_stripPart (si σ_2 999 28 ((σ_2.1 999 28) + (nI (stC r_15).length))) v_9).bind fun σ_17 => some σ_17)))) else (((m_fails σ_2 4 (σ_2.1 999 28)).bind fun σ_19 => some σ_19)))))) FU 0)
set_option maxHeartbeats 4000000 in
theorem wb_stripClause {p : Program} {l : Launch} {e : Env} {s : State} {m : MethodId} {args : Array Value} {below : List Frame} {meth : Method} {c : Code} {g : gG} {A : Nat → Prop} {ad : Nat → Nat} (X : MX p s m args meth c cX3_stripClause 4 RX3 none g A) (had : mI ad) {σr : cS}  {σ : cS} {v1 : Int32}  {H : Heap} {locs : List Loc} {ls : Array Slot} (hW : WB g A s.heap mIds ad (mE g ad σ) H locs) (hl : lv_has ls 4 [(0, .ref (ad 999)), (1, .int v1)]) (hf : m_stripClause σ v1 = some σr) : W p l e (rm_ 8 224) s m args below meth c H locs 0 0 (Qm below g mIds ad (mE g ad σr) none A args s) (F0 m 0 ls []) := by
  have hx := X.1.1
  have hb := X.1.2.1
  unfold m_stripClause at hf
  refine lv_aload_n hx hb dX3_stripClause_0 rfl (lv_at hl 0 rfl) ?_
  obtain ⟨σ_2, h_1, hf⟩ := bd_e hf
  refine k_blanks X hW had h_1 (by decide) hl (Nat.le_of_ble_eq_true rfl) dX3_stripClause_1 (fun H locs hW => ?_)
  refine lv_aload_n hx hb dX3_stripClause_4 rfl (lv_at hl 0 rfl) ?_
  refine mg_28 X hW dX3_stripClause_5 ?_
  refine lv_istore_n (lv' := [(2, .int (σ_2.1 999 28)), (0, .ref (ad 999)), (1, .int v1)]) hx hb dX3_stripClause_8 rfl hl (by decide) rfl (fun ls hl => ?_)
  refine lv_iconst (v := 0) hx hb dX3_stripClause_9 (by decide) ?_
  refine lv_istore_n (lv' := [(3, .int 0), (2, .int (σ_2.1 999 28)), (0, .ref (ad 999)), (1, .int v1)]) hx hb dX3_stripClause_10 rfl hl (by decide) rfl (fun ls hl => ?_)
  refine wm_stripClause_11 X had (fun v_9 H locs ls hW hl hf => ?_) _ _ _ _ _ hW (lv_sub hl [2, 3, 1, 0] rfl) hf
  refine lv_iload_n hx hb dX3_stripClause_34 rfl (lv_at hl 3 rfl) ?_
  refine lv_bipush (v := 6) hx hb dX3_stripClause_35 (by decide) ?_
  refine lv_icmp_ne (tgt := 47) hx hb dX3_stripClause_37 (by decide) (fun c_10 => ?_) (fun c_10 => ?_)
  · replace hf := ine hf c_10
    refine lv_aload_n hx hb dX3_stripClause_47 rfl (lv_at hl 0 rfl) ?_
    refine lv_iload_n hx hb dX3_stripClause_48 rfl (lv_at hl 3 rfl) ?_
    refine lv_iload_n hx hb dX3_stripClause_49 rfl (lv_at hl 1 rfl) ?_
    obtain ⟨r_12, h_11, hf⟩ := bd_e hf
    refine k_isFull X hW had h_11 (by decide) hl (Nat.le_of_ble_eq_true rfl) dX3_stripClause_50 (fun H locs hW => ?_)
    refine lv_if_eq (tgt := 63) hx hb dX3_stripClause_53 (by decide) (fun c_13 => ?_) (fun c_13 => ?_)
    · replace hf := ip hf c_13
      refine lv_aload_n hx hb dX3_stripClause_63 rfl (lv_at hl 0 rfl) ?_
      refine lv_dup hx hb dX3_stripClause_64 rfl ?_
      refine mg_28 X hW dX3_stripClause_65 ?_
      refine lv_iload_n hx hb dX3_stripClause_68 rfl (lv_at hl 3 rfl) ?_
      obtain ⟨r_15, h_14, hf⟩ := bd_e hf
      refine k_stripWord X hW h_14 (by decide) hl (Nat.le_of_ble_eq_true rfl) dX3_stripClause_69 (fun H locs hW => ?_)
      obtain ⟨hs_r_15, hf⟩ := gd_e hf
      replace hs_r_15 := of_decide_eq_true hs_r_15
      refine k_slen X hW hs_r_15 (by decide) hl (Nat.le_of_ble_eq_true rfl) q1403 dX3_stripClause_72 (fun H locs hW => ?_)
      refine lv_iadd hx hb dX3_stripClause_75 ?_
      refine mp_28 X hW dX3_stripClause_76 (fun H locs hW => ?_)
      refine lv_aload_n hx hb dX3_stripClause_79 rfl (lv_at hl 0 rfl) ?_
      refine lv_iload_n hx hb dX3_stripClause_80 rfl (lv_at hl 3 rfl) ?_
      obtain ⟨σ_17, h_16, hf⟩ := bd_e hf
      refine k_stripPart X hW had h_16 (by decide) hl (Nat.le_of_ble_eq_true rfl) dX3_stripClause_81 (fun H locs hW => ?_)
      exact m_vret X hW hf dX3_stripClause_84
    · replace hf := ine hf c_13
      refine lv_aload_n hx hb dX3_stripClause_56 rfl (lv_at hl 0 rfl) ?_
      refine lv_iconst (v := 4) hx hb dX3_stripClause_57 (by decide) ?_
      refine lv_iload_n hx hb dX3_stripClause_58 rfl (lv_at hl 2 rfl) ?_
      obtain ⟨σ_19, h_18, hf⟩ := bd_e hf
      refine k_fails X hW had h_18 (by decide) hl (Nat.le_of_ble_eq_true rfl) dX3_stripClause_59 (fun H locs hW => ?_)
      exact m_vret X hW hf dX3_stripClause_62
  · replace hf := ip hf c_10
    refine lv_aload_n hx hb dX3_stripClause_40 rfl (lv_at hl 0 rfl) ?_
    refine lv_iconst (v := 0) hx hb dX3_stripClause_41 (by decide) ?_
    refine lv_iload_n hx hb dX3_stripClause_42 rfl (lv_at hl 2 rfl) ?_
    obtain ⟨σ_21, h_20, hf⟩ := bd_e hf
    refine k_fails X hW had h_20 (by decide) hl (Nat.le_of_ble_eq_true rfl) dX3_stripClause_43 (fun H locs hW => ?_)
    exact m_vret X hW hf dX3_stripClause_46
theorem w_stripClause (l : Launch) {g : gG} {ad : Nat → Nat} (had : mI ad) {σr : cS}  {σ : cS} {v1 : Int32}  (hf : m_stripClause σ v1 = some σr) : MM l yX3_stripClause cX3_stripClause 4 none 8 224 g ad σ σr [.ref (ad 999), .int v1] none :=
  MC.of (by decide) mIds_nd had (Nat.le_of_ble_eq_true rfl) (fun p e s m below meth c A ls X hW hl => wb_stripClause X had hW hl hf)
theorem k_stripClause {p : Program} {l : Launch} {e : Env} {R : Room} {s : State} {m : MethodId} {args : Array Value} {below : List Frame} {meth : Method} {c : Code} {H : Heap} {locs : List Loc} {Q : State → Prop} {cc : ByteArray} {nL : Nat} {ret : Option FieldType} {g : gG} {A : Nat → Prop} {ad : Nat → Nat} {pc : Nat} {ls : Array Slot} {rest : List Value} {lv : List (Nat × Value)} {σr : cS}  {σ : cS} {v1 : Int32} (X : MX p s m args meth c cc nL RX3 ret g A) (hW : WB g A s.heap mIds ad (mE g ad σ) H locs) (had : mI ad)  (hf : m_stripClause σ v1 = some σr) (hR : 9 ≤ R.frames ∧ 247 ≤ R.locals) (hl : lv_has ls nL lv) (hcat : (rest.map fun v => v.category).sum ≤ 8) (hdg : decode cc pc = .ok (.invokevirtual 348, 3)) (kk : ∀ (H1 : Heap) (l1 : List Loc), WB g A s.heap mIds ad (mE g ad σr) H1 l1 → W p l e R s m args below meth c H1 l1 0 0 Q (F0 m (pc + 3) ls (rest))) : W p l e R s m args below meth c H locs 0 0 Q (F0 m pc ls (.int v1 :: .ref (ad 999) :: rest)) :=
  r_callV X hW Sub.all (w_stripClause l had hf) (lw_V q1378 q1380 qs49 q126 q1381) ⟨rfl, by decide, by decide, by decide +kernel⟩ m_999 mE_o rfl (n := 1) hR hl rfl rfl hcat ⟨Nat.zero_le _, Nat.zero_le _⟩ hdg kk
-- goesOn
noncomputable def m_goesOn (σ : cS) : Option (cS × Int32) :=
  ((m_blanks σ).bind fun σ_2 => ((if (σ_2.1 999 29) = 0 then (if (σ_2.1 999 27) ≤ (σ_2.1 999 28) then (some (σ_2)) else (((m_sign σ_2).bind fun r_13 => if r_13 = 59 then (some (σ_2)) else (((m_fails σ_2 0 (σ_2.1 999 28)).bind fun σ_16 => some (σ_16)))))) else (some (σ_2)) : Option (cS)).bind fun σ_3 => (((if (σ_3.1 999 29) = 0 then (if (σ_3.1 999 27) ≤ (σ_3.1 999 28) then (some (0)) else (some (1))) else (some (0)) : Option (Int32)).bind fun t_5 => (gd (zb t_5) (some ((si σ_3 999 28 ((σ_3.1 999 28) + 1)), t_5)))))))
set_option maxHeartbeats 4000000 in
theorem wb_goesOn {p : Program} {l : Launch} {e : Env} {s : State} {m : MethodId} {args : Array Value} {below : List Frame} {meth : Method} {c : Code} {g : gG} {A : Nat → Prop} {ad : Nat → Nat} (X : MX p s m args meth c cX3_goesOn 2 RX3 (some .boolean) g A) (had : mI ad) {σr : cS} {r : Int32} {σ : cS}  {H : Heap} {locs : List Loc} {ls : Array Slot} (hW : WB g A s.heap mIds ad (mE g ad σ) H locs) (hl : lv_has ls 2 [(0, .ref (ad 999))]) (hf : m_goesOn σ = some (σr, r)) : W p l e (rm_ 3 60) s m args below meth c H locs 0 0 (Qm below g mIds ad (mE g ad σr) (some (.int r)) A args s) (F0 m 0 ls []) := by
  have hx := X.1.1
  have hb := X.1.2.1
  unfold m_goesOn at hf
  refine lv_aload_n hx hb dX3_goesOn_0 rfl (lv_at hl 0 rfl) ?_
  obtain ⟨σ_2, h_1, hf⟩ := bd_e hf
  refine k_blanks X hW had h_1 (by decide) hl (Nat.le_of_ble_eq_true rfl) dX3_goesOn_1 (fun H locs hW => ?_)
  refine lv_aload_n hx hb dX3_goesOn_4 rfl (lv_at hl 0 rfl) ?_
  refine mg_29 X hW dX3_goesOn_5 ?_
  obtain ⟨σ_3, hD_4, hf⟩ := bd_e hf
  have hJ : ∀ (H : Heap) (locs : List Loc) (ls : Array Slot), WB g A s.heap mIds ad (mE g ad σ_3) H locs → lv_has ls 2 [(0, .ref (ad 999))] → W p l e (rm_ 3 60) s m args below meth c H locs 0 0 (Qm below g mIds ad (mE g ad σr) (some (.int r)) A args s) (F0 m 40 ls []) := by
    intro H locs ls hW hl
    refine lv_aload_n hx hb dX3_goesOn_40 rfl (lv_at hl 0 rfl) ?_
    refine mg_29 X hW dX3_goesOn_41 ?_
    obtain ⟨t_5, hD_6, hf⟩ := bd_e hf
    have hJ : ∀ (H : Heap) (locs : List Loc) (ls : Array Slot), WB g A s.heap mIds ad (mE g ad σ_3) H locs → lv_has ls 2 [(0, .ref (ad 999))] → W p l e (rm_ 3 60) s m args below meth c H locs 0 0 (Qm below g mIds ad (mE g ad σr) (some (.int r)) A args s) (F0 m 63 ls [.int t_5]) := by
      intro H locs ls hW hl
      refine lv_istore_n (lv' := [(1, .int t_5), (0, .ref (ad 999))]) hx hb dX3_goesOn_63 rfl hl (by decide) rfl (fun ls hl => ?_)
      refine lv_aload_n hx hb dX3_goesOn_64 rfl (lv_at hl 1 rfl) ?_
      refine lv_dup hx hb dX3_goesOn_65 rfl ?_
      refine mg_28 X hW dX3_goesOn_66 ?_
      refine lv_iconst (v := 1) hx hb dX3_goesOn_69 (by decide) ?_
      refine lv_iadd hx hb dX3_goesOn_70 ?_
      refine mp_28 X hW dX3_goesOn_71 (fun H locs hW => ?_)
      refine lv_iload_n hx hb dX3_goesOn_74 rfl (lv_at hl 0 rfl) ?_
      obtain ⟨h_7, hf⟩ := gd_e hf
      exact m_zret X hW hf h_7 dX3_goesOn_75
    clear hf
    refine lv_if_ne (tgt := 62) hx hb dX3_goesOn_44 (by decide) (fun c_8 => ?_) (fun c_8 => ?_)
    · replace hD_6 := ine hD_6 c_8
      refine lv_iconst (v := 0) hx hb dX3_goesOn_62 (by decide) ?_
      cases hD_6
      exact hJ _ _ _ hW (lv_sub hl [0] rfl)
    · replace hD_6 := ip hD_6 c_8
      refine lv_aload_n hx hb dX3_goesOn_47 rfl (lv_at hl 0 rfl) ?_
      refine mg_28 X hW dX3_goesOn_48 ?_
      refine lv_aload_n hx hb dX3_goesOn_51 rfl (lv_at hl 0 rfl) ?_
      refine mg_27 X hW dX3_goesOn_52 ?_
      refine lv_icmp_ge (tgt := 62) hx hb dX3_goesOn_55 (by decide) (fun c_9 => ?_) (fun c_9 => ?_)
      · replace hD_6 := ip hD_6 c_9
        refine lv_iconst (v := 0) hx hb dX3_goesOn_62 (by decide) ?_
        cases hD_6
        exact hJ _ _ _ hW (lv_sub hl [0] rfl)
      · replace hD_6 := ine hD_6 c_9
        refine lv_iconst (v := 1) hx hb dX3_goesOn_58 (by decide) ?_
        refine lv_goto (tgt := 63) hx hb dX3_goesOn_59 (by decide) ?_
        cases hD_6
        exact hJ _ _ _ hW (lv_sub hl [0] rfl)
  clear hf
  refine lv_if_ne (tgt := 40) hx hb dX3_goesOn_8 (by decide) (fun c_10 => ?_) (fun c_10 => ?_)
  · replace hD_4 := ine hD_4 c_10
    cases hD_4
    exact hJ _ _ _ hW (lv_sub hl [0] rfl)
  · replace hD_4 := ip hD_4 c_10
    refine lv_aload_n hx hb dX3_goesOn_11 rfl (lv_at hl 0 rfl) ?_
    refine mg_28 X hW dX3_goesOn_12 ?_
    refine lv_aload_n hx hb dX3_goesOn_15 rfl (lv_at hl 0 rfl) ?_
    refine mg_27 X hW dX3_goesOn_16 ?_
    refine lv_icmp_ge (tgt := 40) hx hb dX3_goesOn_19 (by decide) (fun c_11 => ?_) (fun c_11 => ?_)
    · replace hD_4 := ip hD_4 c_11
      cases hD_4
      exact hJ _ _ _ hW (lv_sub hl [0] rfl)
    · replace hD_4 := ine hD_4 c_11
      refine lv_aload_n hx hb dX3_goesOn_22 rfl (lv_at hl 0 rfl) ?_
      obtain ⟨r_13, h_12, hD_4⟩ := bd_e hD_4
      refine k_sign X hW had h_12 (by decide) hl (Nat.le_of_ble_eq_true rfl) dX3_goesOn_23 (fun H locs hW => ?_)
      refine lv_bipush (v := 59) hx hb dX3_goesOn_26 (by decide) ?_
      refine lv_icmp_eq (tgt := 40) hx hb dX3_goesOn_28 (by decide) (fun c_14 => ?_) (fun c_14 => ?_)
      · replace hD_4 := ip hD_4 c_14
        cases hD_4
        exact hJ _ _ _ hW (lv_sub hl [0] rfl)
      · replace hD_4 := ine hD_4 c_14
        refine lv_aload_n hx hb dX3_goesOn_31 rfl (lv_at hl 0 rfl) ?_
        refine lv_iconst (v := 0) hx hb dX3_goesOn_32 (by decide) ?_
        refine lv_aload_n hx hb dX3_goesOn_33 rfl (lv_at hl 0 rfl) ?_
        refine mg_28 X hW dX3_goesOn_34 ?_
        obtain ⟨σ_16, h_15, hD_4⟩ := bd_e hD_4
        refine k_fails X hW had h_15 (by decide) hl (Nat.le_of_ble_eq_true rfl) dX3_goesOn_37 (fun H locs hW => ?_)
        cases hD_4
        exact hJ _ _ _ hW (lv_sub hl [0] rfl)
theorem w_goesOn (l : Launch) {g : gG} {ad : Nat → Nat} (had : mI ad) {σr : cS} {r : Int32} {σ : cS}  (hf : m_goesOn σ = some (σr, r)) : MM l yX3_goesOn cX3_goesOn 2 (some .boolean) 3 60 g ad σ σr [.ref (ad 999)] (some (.int r)) :=
  MC.of (by decide) mIds_nd had (Nat.le_of_ble_eq_true rfl) (fun p e s m below meth c A ls X hW hl => wb_goesOn X had hW hl hf)
theorem k_goesOn {p : Program} {l : Launch} {e : Env} {R : Room} {s : State} {m : MethodId} {args : Array Value} {below : List Frame} {meth : Method} {c : Code} {H : Heap} {locs : List Loc} {Q : State → Prop} {cc : ByteArray} {nL : Nat} {ret : Option FieldType} {g : gG} {A : Nat → Prop} {ad : Nat → Nat} {pc : Nat} {ls : Array Slot} {rest : List Value} {lv : List (Nat × Value)} {σr : cS} {r : Int32} {σ : cS} (X : MX p s m args meth c cc nL RX3 ret g A) (hW : WB g A s.heap mIds ad (mE g ad σ) H locs) (had : mI ad)  (hf : m_goesOn σ = some (σr, r)) (hR : 4 ≤ R.frames ∧ 81 ≤ R.locals) (hl : lv_has ls nL lv) (hcat : (rest.map fun v => v.category).sum ≤ 8) (hdg : decode cc pc = .ok (.invokevirtual 351, 3)) (kk : ∀ (H1 : Heap) (l1 : List Loc), WB g A s.heap mIds ad (mE g ad σr) H1 l1 → W p l e R s m args below meth c H1 l1 0 0 Q (F0 m (pc + 3) ls (.int r :: rest))) : W p l e R s m args below meth c H locs 0 0 Q (F0 m pc ls (.ref (ad 999) :: rest)) :=
  r_callV X hW Sub.all (w_goesOn l had hf) (lw_V q1451 q1453 qs63 q126 q1454) ⟨rfl, by decide, by decide, by decide +kernel⟩ m_999 mE_o rfl (n := 0) hR hl rfl rfl hcat ⟨Nat.zero_le _, Nat.zero_le _⟩ hdg kk
-- readsAll
noncomputable def m_readsAll_6 {ρ : Type}  (K : cS → Option ρ) : Nat → cS → Int32 → Option ρ
  | 0, _, _ => none
  | n + 1, σ, v1 => if 5 ≤ v1 then (K σ) else (gd (inb v1 5) (m_readsAll_6 K n (si σ 17 (ix v1) 0) (v1 + 1)))
set_option maxHeartbeats 4000000 in
theorem wm_readsAll_6 {p : Program} {l : Launch} {e : Env} {s : State} {m : MethodId} {args : Array Value} {below : List Frame} {meth : Method} {c : Code} {g : gG} {A : Nat → Prop} {ad : Nat → Nat} (X : MX p s m args meth c cX3_readsAll 3 RX3 none g A) (had : mI ad) {ρ : Type} {res : ρ} {Q : State → Prop}   {K : cS → Option ρ}
    (hK : ∀ (σ : cS) (H : Heap) (locs : List Loc) (ls : Array Slot), WB g A s.heap mIds ad (mE g ad σ) H locs → lv_has ls 3 [(0, .ref (ad 999))] → K σ = some res → W p l e (rm_ 9 247) s m args below meth c H locs 0 0 Q (F0 m 24 ls [])) :
    ∀ (n : Nat) (σ : cS) (v1 : Int32) (H : Heap) (locs : List Loc) (ls : Array Slot), WB g A s.heap mIds ad (mE g ad σ) H locs → lv_has ls 3 [(0, .ref (ad 999)), (1, .int v1)] → m_readsAll_6 K n σ v1 = some res → W p l e (rm_ 9 247) s m args below meth c H locs 0 0 Q (F0 m 6 ls []) := by
  have hx := X.1.1
  have hb := X.1.2.1
  intro n
  induction n with
  | zero =>
    intro σ v1 H locs ls hW hl hf
    rw [m_readsAll_6] at hf
    cases hf
  | succ n ih =>
    intro σ v1 H locs ls hW hl hf
    rw [m_readsAll_6] at hf
    refine lv_iload_n hx hb dX3_readsAll_6 rfl (lv_at hl 1 rfl) ?_
    refine lv_iconst (v := 5) hx hb dX3_readsAll_7 (by decide) ?_
    refine lv_icmp_ge (tgt := 24) hx hb dX3_readsAll_8 (by decide) (fun c_3 => ?_) (fun c_3 => ?_)
    · replace hf := ip hf c_3
      exact hK _ _ _ _ hW (lv_sub hl [0] rfl) hf
    · replace hf := ine hf c_3
      refine lv_aload_n hx hb dX3_readsAll_11 rfl (lv_at hl 0 rfl) ?_
      refine mg_17 X hW dX3_readsAll_12 ?_
      refine lv_iload_n hx hb dX3_readsAll_15 rfl (lv_at hl 1 rfl) ?_
      refine lv_iconst (v := 0) hx hb dX3_readsAll_16 (by decide) ?_
      obtain ⟨h_4, hf⟩ := gd_e hf
      refine ms_17 X hW h_4 dX3_readsAll_17 (fun H locs hW => ?_)
      refine lv_iinc (v := (v1 + 1)) (lv' := [(1, .int (v1 + 1)), (0, .ref (ad 999))]) hx hb dX3_readsAll_18 hl (k := 1) rfl (ii_v _ _ _ (by decide)) (by decide) rfl (fun ls hl => ?_)
      refine lv_goto (tgt := 6) hx hb dX3_readsAll_21 (by decide) ?_
      exact ih _ _ _ _ _ hW (lv_sub hl [1, 0] rfl) hf
noncomputable def m_readsAll_26 {ρ : Type}  (K : cS → Option ρ) : Nat → cS → Int32 → Option ρ
  | 0, _, _ => none
  | n + 1, σ, v1 => if 10 ≤ v1 then (K σ) else (gd (inb v1 10) (nmb (si σ 18 (ix v1) 0) fun σ_8 => (nmb (si σ_8 19 (ix v1) 10) fun σ_10 => (m_readsAll_26 K n (si σ_10 20 (ix v1) 0) (v1 + 1)))))
set_option maxHeartbeats 4000000 in
theorem wm_readsAll_26 {p : Program} {l : Launch} {e : Env} {s : State} {m : MethodId} {args : Array Value} {below : List Frame} {meth : Method} {c : Code} {g : gG} {A : Nat → Prop} {ad : Nat → Nat} (X : MX p s m args meth c cX3_readsAll 3 RX3 none g A) (had : mI ad) {ρ : Type} {res : ρ} {Q : State → Prop}   {K : cS → Option ρ}
    (hK : ∀ (σ : cS) (H : Heap) (locs : List Loc) (ls : Array Slot), WB g A s.heap mIds ad (mE g ad σ) H locs → lv_has ls 3 [(0, .ref (ad 999))] → K σ = some res → W p l e (rm_ 9 247) s m args below meth c H locs 0 0 Q (F0 m 60 ls [])) :
    ∀ (n : Nat) (σ : cS) (v1 : Int32) (H : Heap) (locs : List Loc) (ls : Array Slot), WB g A s.heap mIds ad (mE g ad σ) H locs → lv_has ls 3 [(0, .ref (ad 999)), (1, .int v1)] → m_readsAll_26 K n σ v1 = some res → W p l e (rm_ 9 247) s m args below meth c H locs 0 0 Q (F0 m 26 ls []) := by
  have hx := X.1.1
  have hb := X.1.2.1
  intro n
  induction n with
  | zero =>
    intro σ v1 H locs ls hW hl hf
    rw [m_readsAll_26] at hf
    cases hf
  | succ n ih =>
    intro σ v1 H locs ls hW hl hf
    rw [m_readsAll_26] at hf
    refine lv_iload_n hx hb dX3_readsAll_26 rfl (lv_at hl 1 rfl) ?_
    refine lv_bipush (v := 10) hx hb dX3_readsAll_27 (by decide) ?_
    refine lv_icmp_ge (tgt := 60) hx hb dX3_readsAll_29 (by decide) (fun c_6 => ?_) (fun c_6 => ?_)
    · replace hf := ip hf c_6
      exact hK _ _ _ _ hW (lv_sub hl [0] rfl) hf
    · replace hf := ine hf c_6
      refine lv_aload_n hx hb dX3_readsAll_32 rfl (lv_at hl 0 rfl) ?_
      refine mg_18 X hW dX3_readsAll_33 ?_
      refine lv_iload_n hx hb dX3_readsAll_36 rfl (lv_at hl 1 rfl) ?_
      refine lv_iconst (v := 0) hx hb dX3_readsAll_37 (by decide) ?_
      obtain ⟨h_7, hf⟩ := gd_e hf
      refine ms_18 X hW h_7 dX3_readsAll_38 (fun H locs hW => ?_)
      refine lv_aload_n hx hb dX3_readsAll_39 rfl (lv_at hl 0 rfl) ?_
      refine mg_19 X hW dX3_readsAll_40 ?_
      refine lv_iload_n hx hb dX3_readsAll_43 rfl (lv_at hl 1 rfl) ?_
      refine lv_bipush (v := 10) hx hb dX3_readsAll_44 (by decide) ?_
      obtain ⟨σ_8, e_9, hf⟩ := nmb_e hf
      rw [← e_9] at hW
      clear e_9
      refine ms_19 X hW h_7 dX3_readsAll_46 (fun H locs hW => ?_)
      refine lv_aload_n hx hb dX3_readsAll_47 rfl (lv_at hl 0 rfl) ?_
      refine mg_20 X hW dX3_readsAll_48 ?_
      refine lv_iload_n hx hb dX3_readsAll_51 rfl (lv_at hl 1 rfl) ?_
      refine lv_iconst (v := 0) hx hb dX3_readsAll_52 (by decide) ?_
      obtain ⟨σ_10, e_11, hf⟩ := nmb_e hf
      rw [← e_11] at hW
      clear e_11
      refine ms_20 X hW h_7 dX3_readsAll_53 (fun H locs hW => ?_)
      refine lv_iinc (v := (v1 + 1)) (lv' := [(1, .int (v1 + 1)), (0, .ref (ad 999))]) hx hb dX3_readsAll_54 hl (k := 1) rfl (ii_v _ _ _ (by decide)) (by decide) rfl (fun ls hl => ?_)
      refine lv_goto (tgt := 26) hx hb dX3_readsAll_57 (by decide) ?_
      exact ih _ _ _ _ _ hW (lv_sub hl [1, 0] rfl) hf
noncomputable def m_readsAll_62 {ρ : Type}  (K : cS → Option ρ) : Nat → cS → Int32 → Option ρ
  | 0, _, _ => none
  | n + 1, σ, v1 => if 100 ≤ v1 then (K σ) else (gd (inb v1 100) (m_readsAll_62 K n (si σ 21 (ix v1) 0) (v1 + 1)))
set_option maxHeartbeats 4000000 in
theorem wm_readsAll_62 {p : Program} {l : Launch} {e : Env} {s : State} {m : MethodId} {args : Array Value} {below : List Frame} {meth : Method} {c : Code} {g : gG} {A : Nat → Prop} {ad : Nat → Nat} (X : MX p s m args meth c cX3_readsAll 3 RX3 none g A) (had : mI ad) {ρ : Type} {res : ρ} {Q : State → Prop}   {K : cS → Option ρ}
    (hK : ∀ (σ : cS) (H : Heap) (locs : List Loc) (ls : Array Slot), WB g A s.heap mIds ad (mE g ad σ) H locs → lv_has ls 3 [(0, .ref (ad 999))] → K σ = some res → W p l e (rm_ 9 247) s m args below meth c H locs 0 0 Q (F0 m 81 ls [])) :
    ∀ (n : Nat) (σ : cS) (v1 : Int32) (H : Heap) (locs : List Loc) (ls : Array Slot), WB g A s.heap mIds ad (mE g ad σ) H locs → lv_has ls 3 [(0, .ref (ad 999)), (1, .int v1)] → m_readsAll_62 K n σ v1 = some res → W p l e (rm_ 9 247) s m args below meth c H locs 0 0 Q (F0 m 62 ls []) := by
  have hx := X.1.1
  have hb := X.1.2.1
  intro n
  induction n with
  | zero =>
    intro σ v1 H locs ls hW hl hf
    rw [m_readsAll_62] at hf
    cases hf
  | succ n ih =>
    intro σ v1 H locs ls hW hl hf
    rw [m_readsAll_62] at hf
    refine lv_iload_n hx hb dX3_readsAll_62 rfl (lv_at hl 1 rfl) ?_
    refine lv_bipush (v := 100) hx hb dX3_readsAll_63 (by decide) ?_
    refine lv_icmp_ge (tgt := 81) hx hb dX3_readsAll_65 (by decide) (fun c_13 => ?_) (fun c_13 => ?_)
    · replace hf := ip hf c_13
      exact hK _ _ _ _ hW (lv_sub hl [0] rfl) hf
    · replace hf := ine hf c_13
      refine lv_aload_n hx hb dX3_readsAll_68 rfl (lv_at hl 0 rfl) ?_
      refine mg_21 X hW dX3_readsAll_69 ?_
      refine lv_iload_n hx hb dX3_readsAll_72 rfl (lv_at hl 1 rfl) ?_
      refine lv_iconst (v := 0) hx hb dX3_readsAll_73 (by decide) ?_
      obtain ⟨h_14, hf⟩ := gd_e hf
      refine ms_21 X hW h_14 dX3_readsAll_74 (fun H locs hW => ?_)
      refine lv_iinc (v := (v1 + 1)) (lv' := [(1, .int (v1 + 1)), (0, .ref (ad 999))]) hx hb dX3_readsAll_75 hl (k := 1) rfl (ii_v _ _ _ (by decide)) (by decide) rfl (fun ls hl => ?_)
      refine lv_goto (tgt := 62) hx hb dX3_readsAll_78 (by decide) ?_
      exact ih _ _ _ _ _ hW (lv_sub hl [1, 0] rfl) hf
noncomputable def m_readsAll_85 {ρ : Type}  (K : cS → Option ρ) : Nat → cS → Int32 → Int32 → Option ρ
  | 0, _, _, _ => none
  | n + 1, σ, v1, v2 => if v2 = 0 then (K σ) else (((m_stripClause σ v1).bind fun σ_18 => ((m_goesOn σ_18).bind fun (σ_21, r_20) => m_readsAll_85 K n σ_21 (v1 + 1) r_20)))
set_option maxHeartbeats 4000000 in
theorem wm_readsAll_85 {p : Program} {l : Launch} {e : Env} {s : State} {m : MethodId} {args : Array Value} {below : List Frame} {meth : Method} {c : Code} {g : gG} {A : Nat → Prop} {ad : Nat → Nat} (X : MX p s m args meth c cX3_readsAll 3 RX3 none g A) (had : mI ad) {ρ : Type} {res : ρ} {Q : State → Prop}   {K : cS → Option ρ}
    (hK : ∀ (σ : cS) (H : Heap) (locs : List Loc) (ls : Array Slot), WB g A s.heap mIds ad (mE g ad σ) H locs → lv_has ls 3 [(0, .ref (ad 999))] → K σ = some res → W p l e (rm_ 9 247) s m args below meth c H locs 0 0 Q (F0 m 105 ls [])) :
    ∀ (n : Nat) (σ : cS) (v1 : Int32) (v2 : Int32) (H : Heap) (locs : List Loc) (ls : Array Slot), WB g A s.heap mIds ad (mE g ad σ) H locs → lv_has ls 3 [(0, .ref (ad 999)), (1, .int v1), (2, .int v2)] → m_readsAll_85 K n σ v1 v2 = some res → W p l e (rm_ 9 247) s m args below meth c H locs 0 0 Q (F0 m 85 ls []) := by
  have hx := X.1.1
  have hb := X.1.2.1
  intro n
  induction n with
  | zero =>
    intro σ v1 v2 H locs ls hW hl hf
    rw [m_readsAll_85] at hf
    cases hf
  | succ n ih =>
    intro σ v1 v2 H locs ls hW hl hf
    rw [m_readsAll_85] at hf
    refine lv_iload_n hx hb dX3_readsAll_85 rfl (lv_at hl 2 rfl) ?_
    refine lv_if_eq (tgt := 105) hx hb dX3_readsAll_86 (by decide) (fun c_16 => ?_) (fun c_16 => ?_)
    · replace hf := ip hf c_16
      exact hK _ _ _ _ hW (lv_sub hl [0] rfl) hf
    · replace hf := ine hf c_16
      refine lv_aload_n hx hb dX3_readsAll_89 rfl (lv_at hl 0 rfl) ?_
      refine lv_iload_n hx hb dX3_readsAll_90 rfl (lv_at hl 1 rfl) ?_
      obtain ⟨σ_18, h_17, hf⟩ := bd_e hf
      refine k_stripClause X hW had h_17 (by decide) hl (Nat.le_of_ble_eq_true rfl) dX3_readsAll_91 (fun H locs hW => ?_)
      refine lv_iinc (v := (v1 + 1)) (lv' := [(1, .int (v1 + 1)), (0, .ref (ad 999)), (2, .int v2)]) hx hb dX3_readsAll_94 hl (k := 1) rfl (ii_v _ _ _ (by decide)) (by decide) rfl (fun ls hl => ?_)
      refine lv_aload_n hx hb dX3_readsAll_97 rfl (lv_at hl 1 rfl) ?_
      obtain ⟨⟨σ_21, r_20⟩, h_19, hf⟩ := bd_e hf
      refine k_goesOn X hW had h_19 (by decide) hl (Nat.le_of_ble_eq_true rfl) dX3_readsAll_98 (fun H locs hW => ?_)
      refine lv_istore_n (lv' := [(2, .int r_20), (1, .int (v1 + 1)), (0, .ref (ad 999))]) hx hb dX3_readsAll_101 rfl hl (by decide) rfl (fun ls hl => ?_)
      refine lv_goto (tgt := 85) hx hb dX3_readsAll_102 (by decide) ?_
      exact ih _ _ _ _ _ _ hW (lv_sub hl [2, 1, 0] rfl) hf
noncomputable def m_readsAll (σ : cS) : Option (cS) :=
  ((m_starts σ).bind fun σ_2 => m_readsAll_6  (fun σ_5 => (m_readsAll_26  (fun σ_12 => (m_readsAll_62  (fun σ_15 => (m_readsAll_85  (fun σ_22 => (some (si σ_22 999 27 0))) FU σ_15 0 1)) FU σ_12 0)) FU σ_5 0)) FU σ_2 0)
set_option maxHeartbeats 4000000 in
theorem wb_readsAll {p : Program} {l : Launch} {e : Env} {s : State} {m : MethodId} {args : Array Value} {below : List Frame} {meth : Method} {c : Code} {g : gG} {A : Nat → Prop} {ad : Nat → Nat} (X : MX p s m args meth c cX3_readsAll 3 RX3 none g A) (had : mI ad) {σr : cS}  {σ : cS}  {H : Heap} {locs : List Loc} {ls : Array Slot} (hW : WB g A s.heap mIds ad (mE g ad σ) H locs) (hl : lv_has ls 3 [(0, .ref (ad 999))]) (hf : m_readsAll σ = some σr) : W p l e (rm_ 9 247) s m args below meth c H locs 0 0 (Qm below g mIds ad (mE g ad σr) none A args s) (F0 m 0 ls []) := by
  have hx := X.1.1
  have hb := X.1.2.1
  unfold m_readsAll at hf
  refine lv_aload_n hx hb dX3_readsAll_0 rfl (lv_at hl 0 rfl) ?_
  obtain ⟨σ_2, h_1, hf⟩ := bd_e hf
  refine k_starts X hW had h_1 (by decide) hl (Nat.le_of_ble_eq_true rfl) dX3_readsAll_1 (fun H locs hW => ?_)
  refine lv_iconst (v := 0) hx hb dX3_readsAll_4 (by decide) ?_
  refine lv_istore_n (lv' := [(1, .int 0), (0, .ref (ad 999))]) hx hb dX3_readsAll_5 rfl hl (by decide) rfl (fun ls hl => ?_)
  refine wm_readsAll_6 X had (fun σ_5 H locs ls hW hl hf => ?_) _ _ _ _ _ _ hW (lv_sub hl [1, 0] rfl) hf
  refine lv_iconst (v := 0) hx hb dX3_readsAll_24 (by decide) ?_
  refine lv_istore_n (lv' := [(1, .int 0), (0, .ref (ad 999))]) hx hb dX3_readsAll_25 rfl hl (by decide) rfl (fun ls hl => ?_)
  refine wm_readsAll_26 X had (fun σ_12 H locs ls hW hl hf => ?_) _ _ _ _ _ _ hW (lv_sub hl [1, 0] rfl) hf
  refine lv_iconst (v := 0) hx hb dX3_readsAll_60 (by decide) ?_
  refine lv_istore_n (lv' := [(1, .int 0), (0, .ref (ad 999))]) hx hb dX3_readsAll_61 rfl hl (by decide) rfl (fun ls hl => ?_)
  refine wm_readsAll_62 X had (fun σ_15 H locs ls hW hl hf => ?_) _ _ _ _ _ _ hW (lv_sub hl [1, 0] rfl) hf
  refine lv_iconst (v := 0) hx hb dX3_readsAll_81 (by decide) ?_
  refine lv_istore_n (lv' := [(1, .int 0), (0, .ref (ad 999))]) hx hb dX3_readsAll_82 rfl hl (by decide) rfl (fun ls hl => ?_)
  refine lv_iconst (v := 1) hx hb dX3_readsAll_83 (by decide) ?_
  refine lv_istore_n (lv' := [(2, .int 1), (1, .int 0), (0, .ref (ad 999))]) hx hb dX3_readsAll_84 rfl hl (by decide) rfl (fun ls hl => ?_)
  refine wm_readsAll_85 X had (fun σ_22 H locs ls hW hl hf => ?_) _ _ _ _ _ _ _ hW (lv_sub hl [2, 1, 0] rfl) hf
  refine lv_aload_n hx hb dX3_readsAll_105 rfl (lv_at hl 0 rfl) ?_
  refine lv_iconst (v := 0) hx hb dX3_readsAll_106 (by decide) ?_
  refine mp_27 X hW dX3_readsAll_107 (fun H locs hW => ?_)
  exact m_vret X hW hf dX3_readsAll_110
theorem w_readsAll (l : Launch) {g : gG} {ad : Nat → Nat} (had : mI ad) {σr : cS}  {σ : cS}  (hf : m_readsAll σ = some σr) : MM l yX3_readsAll cX3_readsAll 3 none 9 247 g ad σ σr [.ref (ad 999)] none :=
  MC.of (by decide) mIds_nd had (Nat.le_of_ble_eq_true rfl) (fun p e s m below meth c A ls X hW hl => wb_readsAll X had hW hl hf)
theorem k_readsAll {p : Program} {l : Launch} {e : Env} {R : Room} {s : State} {m : MethodId} {args : Array Value} {below : List Frame} {meth : Method} {c : Code} {H : Heap} {locs : List Loc} {Q : State → Prop} {cc : ByteArray} {nL : Nat} {ret : Option FieldType} {g : gG} {A : Nat → Prop} {ad : Nat → Nat} {pc : Nat} {ls : Array Slot} {rest : List Value} {lv : List (Nat × Value)} {σr : cS}  {σ : cS} (X : MX p s m args meth c cc nL RX3 ret g A) (hW : WB g A s.heap mIds ad (mE g ad σ) H locs) (had : mI ad)  (hf : m_readsAll σ = some σr) (hR : 10 ≤ R.frames ∧ 269 ≤ R.locals) (hl : lv_has ls nL lv) (hcat : (rest.map fun v => v.category).sum ≤ 8) (hdg : decode cc pc = .ok (.invokevirtual 354, 3)) (kk : ∀ (H1 : Heap) (l1 : List Loc), WB g A s.heap mIds ad (mE g ad σr) H1 l1 → W p l e R s m args below meth c H1 l1 0 0 Q (F0 m (pc + 3) ls (rest))) : W p l e R s m args below meth c H locs 0 0 Q (F0 m pc ls (.ref (ad 999) :: rest)) :=
  r_callV X hW Sub.all (w_readsAll l had hf) (lw_V q1370 q1372 qs47 q126 q1373) ⟨rfl, by decide, by decide, by decide +kernel⟩ m_999 mE_o rfl (n := 0) hR hl rfl rfl hcat ⟨Nat.zero_le _, Nat.zero_le _⟩ hdg kk
-- copies
noncomputable def m_copies_2 {ρ : Type} (v0 : Nat) (v1 : Nat) (K : cS → Option ρ) : Nat → cS → Int32 → Option ρ
  | 0, _, _ => none
  | n + 1, σ, v2 => if (nI (mK v0).2) ≤ v2 then (K σ) else (gd (inb v2 (mK v0).2) (gd (inb v2 (mK v1).2) (m_copies_2 v0 v1 K n (si σ v1 (ix v2) (σ.1 v0 (ix v2))) (v2 + 1))))
set_option maxHeartbeats 4000000 in
theorem wm_copies_2 {p : Program} {l : Launch} {e : Env} {s : State} {m : MethodId} {args : Array Value} {below : List Frame} {meth : Method} {c : Code} {g : gG} {A : Nat → Prop} {ad : Nat → Nat} (X : MX p s m args meth c cX3_copies 3 RX3 none g A) (had : mI ad) {ρ : Type} {res : ρ} {Q : State → Prop} {v0 : Nat} {v1 : Nat} (hk_v0 : v0 ∈ mIds) (hc_v0 : (mK v0).1 = 0) (hk_v1 : v1 ∈ mIds) (hc_v1 : (mK v1).1 = 0) {K : cS → Option ρ}
    (hK : ∀ (σ : cS) (H : Heap) (locs : List Loc) (ls : Array Slot), WB g A s.heap mIds ad (mE g ad σ) H locs → lv_has ls 3 [] → K σ = some res → W p l e (rm_ 1 20) s m args below meth c H locs 0 0 Q (F0 m 20 ls [])) :
    ∀ (n : Nat) (σ : cS) (v2 : Int32) (H : Heap) (locs : List Loc) (ls : Array Slot), WB g A s.heap mIds ad (mE g ad σ) H locs → lv_has ls 3 [(0, .ref (ad v0)), (1, .ref (ad v1)), (2, .int v2)] → m_copies_2 v0 v1 K n σ v2 = some res → W p l e (rm_ 1 20) s m args below meth c H locs 0 0 Q (F0 m 2 ls []) := by
  have hx := X.1.1
  have hb := X.1.2.1
  intro n
  induction n with
  | zero =>
    intro σ v2 H locs ls hW hl hf
    rw [m_copies_2] at hf
    cases hf
  | succ n ih =>
    intro σ v2 H locs ls hW hl hf
    rw [m_copies_2] at hf
    refine lv_iload_n hx hb dX3_copies_2 rfl (lv_at hl 2 rfl) ?_
    refine lv_aload_n hx hb dX3_copies_3 rfl (lv_at hl 0 rfl) ?_
    refine ma_v X hW hk_v0 hc_v0 dX3_copies_4 ?_
    refine lv_icmp_ge (tgt := 20) hx hb dX3_copies_5 (by decide) (fun c_1 => ?_) (fun c_1 => ?_)
    · replace hf := ip hf c_1
      exact hK _ _ _ _ hW (lv_sub hl [] rfl) hf
    · replace hf := ine hf c_1
      refine lv_aload_n hx hb dX3_copies_8 rfl (lv_at hl 1 rfl) ?_
      refine lv_iload_n hx hb dX3_copies_9 rfl (lv_at hl 2 rfl) ?_
      refine lv_aload_n hx hb dX3_copies_10 rfl (lv_at hl 0 rfl) ?_
      refine lv_iload_n hx hb dX3_copies_11 rfl (lv_at hl 2 rfl) ?_
      obtain ⟨h_2, hf⟩ := gd_e hf
      refine ml_v X hW hk_v0 hc_v0 h_2 dX3_copies_12 ?_
      obtain ⟨h_3, hf⟩ := gd_e hf
      refine ms_v X hW hk_v1 hc_v1 h_3 dX3_copies_13 (fun H locs hW => ?_)
      refine lv_iinc (v := (v2 + 1)) (lv' := [(2, .int (v2 + 1)), (0, .ref (ad v0)), (1, .ref (ad v1))]) hx hb dX3_copies_14 hl (k := 2) rfl (ii_v _ _ _ (by decide)) (by decide) rfl (fun ls hl => ?_)
      refine lv_goto (tgt := 2) hx hb dX3_copies_17 (by decide) ?_
      exact ih _ _ _ _ _ hW (lv_sub hl [1, 2, 0] rfl) hf
noncomputable def m_copies (σ : cS) (v0 : Nat) (v1 : Nat) : Option (cS) :=
  m_copies_2 v0 v1 (fun σ_4 => (some σ_4)) FU σ 0
set_option maxHeartbeats 4000000 in
theorem wb_copies {p : Program} {l : Launch} {e : Env} {s : State} {m : MethodId} {args : Array Value} {below : List Frame} {meth : Method} {c : Code} {g : gG} {A : Nat → Prop} {ad : Nat → Nat} (X : MX p s m args meth c cX3_copies 3 RX3 none g A) (had : mI ad) {σr : cS}  {σ : cS} {v0 : Nat} {v1 : Nat} (hk_v0 : v0 ∈ mIds) (hc_v0 : (mK v0).1 = 0) (hk_v1 : v1 ∈ mIds) (hc_v1 : (mK v1).1 = 0) {H : Heap} {locs : List Loc} {ls : Array Slot} (hW : WB g A s.heap mIds ad (mE g ad σ) H locs) (hl : lv_has ls 3 [(0, .ref (ad v0)), (1, .ref (ad v1))]) (hf : m_copies σ v0 v1 = some σr) : W p l e (rm_ 1 20) s m args below meth c H locs 0 0 (Qm below g mIds ad (mE g ad σr) none A args s) (F0 m 0 ls []) := by
  have hx := X.1.1
  have hb := X.1.2.1
  unfold m_copies at hf
  refine lv_iconst (v := 0) hx hb dX3_copies_0 (by decide) ?_
  refine lv_istore_n (lv' := [(2, .int 0), (0, .ref (ad v0)), (1, .ref (ad v1))]) hx hb dX3_copies_1 rfl hl (by decide) rfl (fun ls hl => ?_)
  refine wm_copies_2 X had hk_v0 hc_v0 hk_v1 hc_v1 (fun σ_4 H locs ls hW hl hf => ?_) _ _ _ _ _ _ hW (lv_sub hl [1, 2, 0] rfl) hf
  exact m_vret X hW hf dX3_copies_20
theorem w_copies (l : Launch) {g : gG} {ad : Nat → Nat} (had : mI ad) {σr : cS}  {σ : cS} {v0 : Nat} {v1 : Nat} (hk_v0 : v0 ∈ mIds) (hc_v0 : (mK v0).1 = 0) (hk_v1 : v1 ∈ mIds) (hc_v1 : (mK v1).1 = 0) (hf : m_copies σ v0 v1 = some σr) : MC l yX3_copies cX3_copies 3 none 1 20 g mIds ad (mE g ad σ) (mE g ad σr) [.ref (ad v0), .ref (ad v1)] none :=
  MC.of (by decide) mIds_nd had (Nat.le_of_ble_eq_true rfl) (fun p e s m below meth c A ls X hW hl => wb_copies X had hk_v0 hc_v0 hk_v1 hc_v1 hW hl hf)
theorem k_copies {p : Program} {l : Launch} {e : Env} {R : Room} {s : State} {m : MethodId} {args : Array Value} {below : List Frame} {meth : Method} {c : Code} {H : Heap} {locs : List Loc} {Q : State → Prop} {cc : ByteArray} {nL : Nat} {ret : Option FieldType} {g : gG} {A : Nat → Prop} {ad : Nat → Nat} {pc : Nat} {ls : Array Slot} {rest : List Value} {lv : List (Nat × Value)} {σr : cS}  {σ : cS} {v0 : Nat} {v1 : Nat} (X : MX p s m args meth c cc nL RX3 ret g A) (hW : WB g A s.heap mIds ad (mE g ad σ) H locs) (had : mI ad) (hk_v0 : v0 ∈ mIds) (hc_v0 : (mK v0).1 = 0) (hk_v1 : v1 ∈ mIds) (hc_v1 : (mK v1).1 = 0) (hf : m_copies σ v0 v1 = some σr) (hR : 2 ≤ R.frames ∧ 42 ≤ R.locals) (hl : lv_has ls nL lv) (hcat : (rest.map fun v => v.category).sum ≤ 8) (hdg : decode cc pc = .ok (.invokestatic 357, 3)) (kk : ∀ (H1 : Heap) (l1 : List Loc), WB g A s.heap mIds ad (mE g ad σr) H1 l1 → W p l e R s m args below meth c H1 l1 0 0 Q (F0 m (pc + 3) ls (rest))) : W p l e R s m args below meth c H locs 0 0 Q (F0 m pc ls (.ref (ad v1) :: .ref (ad v0) :: rest)) :=
  r_callS X hW Sub.all (w_copies l had hk_v0 hc_v0 hk_v1 hc_v1 hf) (lw_S q1455 q1456 q126 q1457) ⟨by decide, by decide, by decide +kernel⟩ (n := 2) hR hl rfl rfl hcat ⟨Nat.zero_le _, Nat.zero_le _⟩ hdg kk
-- strip
noncomputable def m_strip_21 {ρ : Type}  (K : cS → Option ρ) : Nat → cS → Int32 → Option ρ
  | 0, _, _ => none
  | n + 1, σ, v1 => if 7 ≤ v1 then (K σ) else (if 5 ≤ v1 then (gd (inb v1 9) (m_strip_21 K n (si σ 1 (ix v1) 0) (v1 + 1))) else (gd (inb v1 5) (gd (inb v1 9) (m_strip_21 K n (si σ 1 (ix v1) (σ.1 17 (ix v1))) (v1 + 1)))))
set_option maxHeartbeats 4000000 in
theorem wm_strip_21 {p : Program} {l : Launch} {e : Env} {s : State} {m : MethodId} {args : Array Value} {below : List Frame} {meth : Method} {c : Code} {g : gG} {A : Nat → Prop} {ad : Nat → Nat} (X : MX p s m args meth c cX3_strip 2 RX3 (some .int) g A) (had : mI ad) {ρ : Type} {res : ρ} {Q : State → Prop}   {K : cS → Option ρ}
    (hK : ∀ (σ : cS) (H : Heap) (locs : List Loc) (ls : Array Slot), WB g A s.heap mIds ad (mE g ad σ) H locs → lv_has ls 2 [(0, .ref (ad 999))] → K σ = some res → W p l e (rm_ 10 269) s m args below meth c H locs 0 0 Q (F0 m 54 ls [])) :
    ∀ (n : Nat) (σ : cS) (v1 : Int32) (H : Heap) (locs : List Loc) (ls : Array Slot), WB g A s.heap mIds ad (mE g ad σ) H locs → lv_has ls 2 [(0, .ref (ad 999)), (1, .int v1)] → m_strip_21 K n σ v1 = some res → W p l e (rm_ 10 269) s m args below meth c H locs 0 0 Q (F0 m 21 ls []) := by
  have hx := X.1.1
  have hb := X.1.2.1
  intro n
  induction n with
  | zero =>
    intro σ v1 H locs ls hW hl hf
    rw [m_strip_21] at hf
    cases hf
  | succ n ih =>
    intro σ v1 H locs ls hW hl hf
    rw [m_strip_21] at hf
    refine lv_iload_n hx hb dX3_strip_21 rfl (lv_at hl 1 rfl) ?_
    refine lv_bipush (v := 7) hx hb dX3_strip_22 (by decide) ?_
    refine lv_icmp_ge (tgt := 54) hx hb dX3_strip_24 (by decide) (fun c_4 => ?_) (fun c_4 => ?_)
    · replace hf := ip hf c_4
      exact hK _ _ _ _ hW (lv_sub hl [0] rfl) hf
    · replace hf := ine hf c_4
      refine lv_aload_n hx hb dX3_strip_27 rfl (lv_at hl 0 rfl) ?_
      refine mg_1 X hW dX3_strip_28 ?_
      refine lv_iload_n hx hb dX3_strip_31 rfl (lv_at hl 1 rfl) ?_
      refine lv_iload_n hx hb dX3_strip_32 rfl (lv_at hl 1 rfl) ?_
      refine lv_iconst (v := 5) hx hb dX3_strip_33 (by decide) ?_
      refine lv_icmp_ge (tgt := 46) hx hb dX3_strip_34 (by decide) (fun c_5 => ?_) (fun c_5 => ?_)
      · replace hf := ip hf c_5
        refine lv_iconst (v := 0) hx hb dX3_strip_46 (by decide) ?_
        obtain ⟨h_6, hf⟩ := gd_e hf
        refine ms_1 X hW h_6 dX3_strip_47 (fun H locs hW => ?_)
        refine lv_iinc (v := (v1 + 1)) (lv' := [(1, .int (v1 + 1)), (0, .ref (ad 999))]) hx hb dX3_strip_48 hl (k := 1) rfl (ii_v _ _ _ (by decide)) (by decide) rfl (fun ls hl => ?_)
        refine lv_goto (tgt := 21) hx hb dX3_strip_51 (by decide) ?_
        exact ih _ _ _ _ _ hW (lv_sub hl [1, 0] rfl) hf
      · replace hf := ine hf c_5
        refine lv_aload_n hx hb dX3_strip_37 rfl (lv_at hl 0 rfl) ?_
        refine mg_17 X hW dX3_strip_38 ?_
        refine lv_iload_n hx hb dX3_strip_41 rfl (lv_at hl 1 rfl) ?_
        obtain ⟨h_7, hf⟩ := gd_e hf
        refine ml_17 X hW h_7 dX3_strip_42 ?_
        refine lv_goto (tgt := 47) hx hb dX3_strip_43 (by decide) ?_
        obtain ⟨h_8, hf⟩ := gd_e hf
        refine ms_1 X hW h_8 dX3_strip_47 (fun H locs hW => ?_)
        refine lv_iinc (v := (v1 + 1)) (lv' := [(1, .int (v1 + 1)), (0, .ref (ad 999))]) hx hb dX3_strip_48 hl (k := 1) rfl (ii_v _ _ _ (by decide)) (by decide) rfl (fun ls hl => ?_)
        refine lv_goto (tgt := 21) hx hb dX3_strip_51 (by decide) ?_
        exact ih _ _ _ _ _ hW (lv_sub hl [1, 0] rfl) hf
noncomputable def m_strip_178 {ρ : Type}  (K : cS → Option ρ) : Nat → cS → Int32 → Option ρ
  | 0, _, _ => none
  | n + 1, σ, v1 => if 8 ≤ v1 then (K σ) else (gd (inb v1 8) (m_strip_178 K n (si σ 9 (ix v1) 0) (v1 + 1)))
set_option maxHeartbeats 4000000 in
theorem wm_strip_178 {p : Program} {l : Launch} {e : Env} {s : State} {m : MethodId} {args : Array Value} {below : List Frame} {meth : Method} {c : Code} {g : gG} {A : Nat → Prop} {ad : Nat → Nat} (X : MX p s m args meth c cX3_strip 2 RX3 (some .int) g A) (had : mI ad) {ρ : Type} {res : ρ} {Q : State → Prop}   {K : cS → Option ρ}
    (hK : ∀ (σ : cS) (H : Heap) (locs : List Loc) (ls : Array Slot), WB g A s.heap mIds ad (mE g ad σ) H locs → lv_has ls 2 [(0, .ref (ad 999))] → K σ = some res → W p l e (rm_ 10 269) s m args below meth c H locs 0 0 Q (F0 m 197 ls [])) :
    ∀ (n : Nat) (σ : cS) (v1 : Int32) (H : Heap) (locs : List Loc) (ls : Array Slot), WB g A s.heap mIds ad (mE g ad σ) H locs → lv_has ls 2 [(0, .ref (ad 999)), (1, .int v1)] → m_strip_178 K n σ v1 = some res → W p l e (rm_ 10 269) s m args below meth c H locs 0 0 Q (F0 m 178 ls []) := by
  have hx := X.1.1
  have hb := X.1.2.1
  intro n
  induction n with
  | zero =>
    intro σ v1 H locs ls hW hl hf
    rw [m_strip_178] at hf
    cases hf
  | succ n ih =>
    intro σ v1 H locs ls hW hl hf
    rw [m_strip_178] at hf
    refine lv_iload_n hx hb dX3_strip_178 rfl (lv_at hl 1 rfl) ?_
    refine lv_bipush (v := 8) hx hb dX3_strip_179 (by decide) ?_
    refine lv_icmp_ge (tgt := 197) hx hb dX3_strip_181 (by decide) (fun c_30 => ?_) (fun c_30 => ?_)
    · replace hf := ip hf c_30
      exact hK _ _ _ _ hW (lv_sub hl [0] rfl) hf
    · replace hf := ine hf c_30
      refine lv_aload_n hx hb dX3_strip_184 rfl (lv_at hl 0 rfl) ?_
      refine mg_9 X hW dX3_strip_185 ?_
      refine lv_iload_n hx hb dX3_strip_188 rfl (lv_at hl 1 rfl) ?_
      refine lv_iconst (v := 0) hx hb dX3_strip_189 (by decide) ?_
      obtain ⟨h_31, hf⟩ := gd_e hf
      refine ms_9 X hW h_31 dX3_strip_190 (fun H locs hW => ?_)
      refine lv_iinc (v := (v1 + 1)) (lv' := [(1, .int (v1 + 1)), (0, .ref (ad 999))]) hx hb dX3_strip_191 hl (k := 1) rfl (ii_v _ _ _ (by decide)) (by decide) rfl (fun ls hl => ?_)
      refine lv_goto (tgt := 178) hx hb dX3_strip_194 (by decide) ?_
      exact ih _ _ _ _ _ hW (lv_sub hl [1, 0] rfl) hf
noncomputable def m_strip (σ : cS) : Option (cS × Int32) :=
  ((m_readsAll σ).bind fun σ_2 => if (σ_2.1 999 29) ≤ 0 then (m_strip_21  (fun σ_9 => (((m_copies σ_9 18 2).bind fun σ_11 => ((m_copies σ_11 19 3).bind fun σ_13 => ((m_copies σ_13 19 15).bind fun σ_15 => ((m_copies σ_15 20 4).bind fun σ_17 => ((m_copies σ_17 21 5).bind fun σ_19 => ((m_copies σ_19 22 6).bind fun σ_21 => ((m_copies σ_21 23 7).bind fun σ_23 => ((m_copies σ_23 24 8).bind fun σ_25 => ((m_copies σ_25 25 10).bind fun σ_27 => ((m_copies σ_27 26 11).bind fun σ_29 => m_strip_178  (fun σ_32 => (some ((si σ_32 999 51 0), ((si σ_32 999 51 0).1 1 (ix 2))))) FU (si σ_29 16 (ix 0) (σ_29.1 1 (ix 4))) 0)))))))))))) FU σ_2 0) else (some (σ_2, ((-2) - (σ_2.1 999 29)))))
set_option maxHeartbeats 4000000 in
theorem wb_strip {p : Program} {l : Launch} {e : Env} {s : State} {m : MethodId} {args : Array Value} {below : List Frame} {meth : Method} {c : Code} {g : gG} {A : Nat → Prop} {ad : Nat → Nat} (X : MX p s m args meth c cX3_strip 2 RX3 (some .int) g A) (had : mI ad) {σr : cS} {r : Int32} {σ : cS}  {H : Heap} {locs : List Loc} {ls : Array Slot} (hW : WB g A s.heap mIds ad (mE g ad σ) H locs) (hl : lv_has ls 2 [(0, .ref (ad 999))]) (hf : m_strip σ = some (σr, r)) : W p l e (rm_ 10 269) s m args below meth c H locs 0 0 (Qm below g mIds ad (mE g ad σr) (some (.int r)) A args s) (F0 m 0 ls []) := by
  have hx := X.1.1
  have hb := X.1.2.1
  unfold m_strip at hf
  refine lv_aload_n hx hb dX3_strip_0 rfl (lv_at hl 0 rfl) ?_
  obtain ⟨σ_2, h_1, hf⟩ := bd_e hf
  refine k_readsAll X hW had h_1 (by decide) hl (Nat.le_of_ble_eq_true rfl) dX3_strip_1 (fun H locs hW => ?_)
  refine lv_aload_n hx hb dX3_strip_4 rfl (lv_at hl 0 rfl) ?_
  refine mg_29 X hW dX3_strip_5 ?_
  refine lv_if_le (tgt := 19) hx hb dX3_strip_8 (by decide) (fun c_3 => ?_) (fun c_3 => ?_)
  · replace hf := ip hf c_3
    refine lv_iconst (v := 0) hx hb dX3_strip_19 (by decide) ?_
    refine lv_istore_n (lv' := [(1, .int 0), (0, .ref (ad 999))]) hx hb dX3_strip_20 rfl hl (by decide) rfl (fun ls hl => ?_)
    refine wm_strip_21 X had (fun σ_9 H locs ls hW hl hf => ?_) _ _ _ _ _ _ hW (lv_sub hl [1, 0] rfl) hf
    refine lv_aload_n hx hb dX3_strip_54 rfl (lv_at hl 0 rfl) ?_
    refine mg_18 X hW dX3_strip_55 ?_
    refine lv_aload_n hx hb dX3_strip_58 rfl (lv_at hl 0 rfl) ?_
    refine mg_2 X hW dX3_strip_59 ?_
    obtain ⟨σ_11, h_10, hf⟩ := bd_e hf
    refine k_copies X hW had m_18 rfl m_2 rfl h_10 (by decide) hl (Nat.le_of_ble_eq_true rfl) dX3_strip_62 (fun H locs hW => ?_)
    refine lv_aload_n hx hb dX3_strip_65 rfl (lv_at hl 0 rfl) ?_
    refine mg_19 X hW dX3_strip_66 ?_
    refine lv_aload_n hx hb dX3_strip_69 rfl (lv_at hl 0 rfl) ?_
    refine mg_3 X hW dX3_strip_70 ?_
    obtain ⟨σ_13, h_12, hf⟩ := bd_e hf
    refine k_copies X hW had m_19 rfl m_3 rfl h_12 (by decide) hl (Nat.le_of_ble_eq_true rfl) dX3_strip_73 (fun H locs hW => ?_)
    refine lv_aload_n hx hb dX3_strip_76 rfl (lv_at hl 0 rfl) ?_
    refine mg_19 X hW dX3_strip_77 ?_
    refine lv_aload_n hx hb dX3_strip_80 rfl (lv_at hl 0 rfl) ?_
    refine mg_15 X hW dX3_strip_81 ?_
    obtain ⟨σ_15, h_14, hf⟩ := bd_e hf
    refine k_copies X hW had m_19 rfl m_15 rfl h_14 (by decide) hl (Nat.le_of_ble_eq_true rfl) dX3_strip_84 (fun H locs hW => ?_)
    refine lv_aload_n hx hb dX3_strip_87 rfl (lv_at hl 0 rfl) ?_
    refine mg_20 X hW dX3_strip_88 ?_
    refine lv_aload_n hx hb dX3_strip_91 rfl (lv_at hl 0 rfl) ?_
    refine mg_4 X hW dX3_strip_92 ?_
    obtain ⟨σ_17, h_16, hf⟩ := bd_e hf
    refine k_copies X hW had m_20 rfl m_4 rfl h_16 (by decide) hl (Nat.le_of_ble_eq_true rfl) dX3_strip_95 (fun H locs hW => ?_)
    refine lv_aload_n hx hb dX3_strip_98 rfl (lv_at hl 0 rfl) ?_
    refine mg_21 X hW dX3_strip_99 ?_
    refine lv_aload_n hx hb dX3_strip_102 rfl (lv_at hl 0 rfl) ?_
    refine mg_5 X hW dX3_strip_103 ?_
    obtain ⟨σ_19, h_18, hf⟩ := bd_e hf
    refine k_copies X hW had m_21 rfl m_5 rfl h_18 (by decide) hl (Nat.le_of_ble_eq_true rfl) dX3_strip_106 (fun H locs hW => ?_)
    refine lv_aload_n hx hb dX3_strip_109 rfl (lv_at hl 0 rfl) ?_
    refine mg_22 X hW dX3_strip_110 ?_
    refine lv_aload_n hx hb dX3_strip_113 rfl (lv_at hl 0 rfl) ?_
    refine mg_6 X hW dX3_strip_114 ?_
    obtain ⟨σ_21, h_20, hf⟩ := bd_e hf
    refine k_copies X hW had m_22 rfl m_6 rfl h_20 (by decide) hl (Nat.le_of_ble_eq_true rfl) dX3_strip_117 (fun H locs hW => ?_)
    refine lv_aload_n hx hb dX3_strip_120 rfl (lv_at hl 0 rfl) ?_
    refine mg_23 X hW dX3_strip_121 ?_
    refine lv_aload_n hx hb dX3_strip_124 rfl (lv_at hl 0 rfl) ?_
    refine mg_7 X hW dX3_strip_125 ?_
    obtain ⟨σ_23, h_22, hf⟩ := bd_e hf
    refine k_copies X hW had m_23 rfl m_7 rfl h_22 (by decide) hl (Nat.le_of_ble_eq_true rfl) dX3_strip_128 (fun H locs hW => ?_)
    refine lv_aload_n hx hb dX3_strip_131 rfl (lv_at hl 0 rfl) ?_
    refine mg_24 X hW dX3_strip_132 ?_
    refine lv_aload_n hx hb dX3_strip_135 rfl (lv_at hl 0 rfl) ?_
    refine mg_8 X hW dX3_strip_136 ?_
    obtain ⟨σ_25, h_24, hf⟩ := bd_e hf
    refine k_copies X hW had m_24 rfl m_8 rfl h_24 (by decide) hl (Nat.le_of_ble_eq_true rfl) dX3_strip_139 (fun H locs hW => ?_)
    refine lv_aload_n hx hb dX3_strip_142 rfl (lv_at hl 0 rfl) ?_
    refine mg_25 X hW dX3_strip_143 ?_
    refine lv_aload_n hx hb dX3_strip_146 rfl (lv_at hl 0 rfl) ?_
    refine mg_10 X hW dX3_strip_147 ?_
    obtain ⟨σ_27, h_26, hf⟩ := bd_e hf
    refine k_copies X hW had m_25 rfl m_10 rfl h_26 (by decide) hl (Nat.le_of_ble_eq_true rfl) dX3_strip_150 (fun H locs hW => ?_)
    refine lv_aload_n hx hb dX3_strip_153 rfl (lv_at hl 0 rfl) ?_
    refine mg_26 X hW dX3_strip_154 ?_
    refine lv_aload_n hx hb dX3_strip_157 rfl (lv_at hl 0 rfl) ?_
    refine mg_11 X hW dX3_strip_158 ?_
    obtain ⟨σ_29, h_28, hf⟩ := bd_e hf
    refine k_copies X hW had m_26 rfl m_11 rfl h_28 (by decide) hl (Nat.le_of_ble_eq_true rfl) dX3_strip_161 (fun H locs hW => ?_)
    refine lv_aload_n hx hb dX3_strip_164 rfl (lv_at hl 0 rfl) ?_
    refine mg_16 X hW dX3_strip_165 ?_
    refine lv_iconst (v := 0) hx hb dX3_strip_168 (by decide) ?_
    refine lv_aload_n hx hb dX3_strip_169 rfl (lv_at hl 0 rfl) ?_
    refine mg_1 X hW dX3_strip_170 ?_
    refine lv_iconst (v := 4) hx hb dX3_strip_173 (by decide) ?_
    refine ml_1 X hW (by decide) dX3_strip_174 ?_
    refine ms_16 X hW (by decide) dX3_strip_175 (fun H locs hW => ?_)
    refine lv_iconst (v := 0) hx hb dX3_strip_176 (by decide) ?_
    refine lv_istore_n (lv' := [(1, .int 0), (0, .ref (ad 999))]) hx hb dX3_strip_177 rfl hl (by decide) rfl (fun ls hl => ?_)
    refine wm_strip_178 X had (fun σ_32 H locs ls hW hl hf => ?_) _ _ _ _ _ _ hW (lv_sub hl [1, 0] rfl) hf
    refine lv_aload_n hx hb dX3_strip_197 rfl (lv_at hl 0 rfl) ?_
    refine lv_iconst (v := 0) hx hb dX3_strip_198 (by decide) ?_
    refine mp_51 X hW dX3_strip_199 (fun H locs hW => ?_)
    refine lv_aload_n hx hb dX3_strip_202 rfl (lv_at hl 0 rfl) ?_
    refine mg_1 X hW dX3_strip_203 ?_
    refine lv_iconst (v := 2) hx hb dX3_strip_206 (by decide) ?_
    refine ml_1 X hW (by decide) dX3_strip_207 ?_
    exact m_iret X hW hf dX3_strip_208
  · replace hf := ine hf c_3
    refine lv_bipush (v := (-2)) hx hb dX3_strip_11 (by decide) ?_
    refine lv_aload_n hx hb dX3_strip_13 rfl (lv_at hl 0 rfl) ?_
    refine mg_29 X hW dX3_strip_14 ?_
    refine lv_isub hx hb dX3_strip_17 ?_
    exact m_iret X hW hf dX3_strip_18
theorem w_strip (l : Launch) {g : gG} {ad : Nat → Nat} (had : mI ad) {σr : cS} {r : Int32} {σ : cS}  (hf : m_strip σ = some (σr, r)) : MM l yX3_strip cX3_strip 2 (some .int) 10 269 g ad σ σr [.ref (ad 999)] (some (.int r)) :=
  MC.of (by decide) mIds_nd had (Nat.le_of_ble_eq_true rfl) (fun p e s m below meth c A ls X hW hl => wb_strip X had hW hl hf)
-- isCounted
noncomputable def m_isCounted (σ : cS) (v1 : Int32) : Option (cS) :=
  ((if (σ.1 999 34) = 60 then (((m_fails σ 3 v1).bind fun σ_5 => some (σ_5))) else (some (σ)) : Option (cS)).bind fun σ_1 => (some (si σ_1 999 34 ((σ_1.1 999 34) + 1))))
set_option maxHeartbeats 4000000 in
theorem wb_isCounted {p : Program} {l : Launch} {e : Env} {s : State} {m : MethodId} {args : Array Value} {below : List Frame} {meth : Method} {c : Code} {g : gG} {A : Nat → Prop} {ad : Nat → Nat} (X : MX p s m args meth c cX3_isCounted 2 RX3 none g A) (had : mI ad) {σr : cS}  {σ : cS} {v1 : Int32}  {H : Heap} {locs : List Loc} {ls : Array Slot} (hW : WB g A s.heap mIds ad (mE g ad σ) H locs) (hl : lv_has ls 2 [(0, .ref (ad 999)), (1, .int v1)]) (hf : m_isCounted σ v1 = some σr) : W p l e (rm_ 2 42) s m args below meth c H locs 0 0 (Qm below g mIds ad (mE g ad σr) none A args s) (F0 m 0 ls []) := by
  have hx := X.1.1
  have hb := X.1.2.1
  unfold m_isCounted at hf
  refine lv_aload_n hx hb dX3_isCounted_0 rfl (lv_at hl 0 rfl) ?_
  refine mg_34 X hW dX3_isCounted_1 ?_
  refine lv_bipush (v := 60) hx hb dX3_isCounted_4 (by decide) ?_
  obtain ⟨σ_1, hD_2, hf⟩ := bd_e hf
  have hJ : ∀ (H : Heap) (locs : List Loc) (ls : Array Slot), WB g A s.heap mIds ad (mE g ad σ_1) H locs → lv_has ls 2 [(0, .ref (ad 999))] → W p l e (rm_ 2 42) s m args below meth c H locs 0 0 (Qm below g mIds ad (mE g ad σr) none A args s) (F0 m 15 ls []) := by
    intro H locs ls hW hl
    refine lv_aload_n hx hb dX3_isCounted_15 rfl (lv_at hl 0 rfl) ?_
    refine lv_dup hx hb dX3_isCounted_16 rfl ?_
    refine mg_34 X hW dX3_isCounted_17 ?_
    refine lv_iconst (v := 1) hx hb dX3_isCounted_20 (by decide) ?_
    refine lv_iadd hx hb dX3_isCounted_21 ?_
    refine mp_34 X hW dX3_isCounted_22 (fun H locs hW => ?_)
    exact m_vret X hW hf dX3_isCounted_25
  clear hf
  refine lv_icmp_ne (tgt := 15) hx hb dX3_isCounted_6 (by decide) (fun c_3 => ?_) (fun c_3 => ?_)
  · replace hD_2 := ine hD_2 c_3
    cases hD_2
    exact hJ _ _ _ hW (lv_sub hl [0] rfl)
  · replace hD_2 := ip hD_2 c_3
    refine lv_aload_n hx hb dX3_isCounted_9 rfl (lv_at hl 0 rfl) ?_
    refine lv_iconst (v := 3) hx hb dX3_isCounted_10 (by decide) ?_
    refine lv_iload_n hx hb dX3_isCounted_11 rfl (lv_at hl 1 rfl) ?_
    obtain ⟨σ_5, h_4, hD_2⟩ := bd_e hD_2
    refine k_fails X hW had h_4 (by decide) hl (Nat.le_of_ble_eq_true rfl) dX3_isCounted_12 (fun H locs hW => ?_)
    cases hD_2
    exact hJ _ _ _ hW (lv_sub hl [0] rfl)
theorem w_isCounted (l : Launch) {g : gG} {ad : Nat → Nat} (had : mI ad) {σr : cS}  {σ : cS} {v1 : Int32}  (hf : m_isCounted σ v1 = some σr) : MM l yX3_isCounted cX3_isCounted 2 none 2 42 g ad σ σr [.ref (ad 999), .int v1] none :=
  MC.of (by decide) mIds_nd had (Nat.le_of_ble_eq_true rfl) (fun p e s m below meth c A ls X hW hl => wb_isCounted X had hW hl hf)
theorem k_isCounted {p : Program} {l : Launch} {e : Env} {R : Room} {s : State} {m : MethodId} {args : Array Value} {below : List Frame} {meth : Method} {c : Code} {H : Heap} {locs : List Loc} {Q : State → Prop} {cc : ByteArray} {nL : Nat} {ret : Option FieldType} {g : gG} {A : Nat → Prop} {ad : Nat → Nat} {pc : Nat} {ls : Array Slot} {rest : List Value} {lv : List (Nat × Value)} {σr : cS}  {σ : cS} {v1 : Int32} (X : MX p s m args meth c cc nL RX3 ret g A) (hW : WB g A s.heap mIds ad (mE g ad σ) H locs) (had : mI ad)  (hf : m_isCounted σ v1 = some σr) (hR : 3 ≤ R.frames ∧ 63 ≤ R.locals) (hl : lv_has ls nL lv) (hcat : (rest.map fun v => v.category).sum ≤ 8) (hdg : decode cc pc = .ok (.invokevirtual 266, 3)) (kk : ∀ (H1 : Heap) (l1 : List Loc), WB g A s.heap mIds ad (mE g ad σr) H1 l1 → W p l e R s m args below meth c H1 l1 0 0 Q (F0 m (pc + 3) ls (rest))) : W p l e R s m args below meth c H locs 0 0 Q (F0 m pc ls (.int v1 :: .ref (ad 999) :: rest)) :=
  r_callV X hW Sub.all (w_isCounted l had hf) (lw_V q1479 q1481 qs68 q126 q1482) ⟨rfl, by decide, by decide, by decide +kernel⟩ m_999 mE_o rfl (n := 1) hR hl rfl rfl hcat ⟨Nat.zero_le _, Nat.zero_le _⟩ hdg kk
-- entry
noncomputable def m_entry (σ : cS) (v1 : Int32) (v2 : Int32) : Option (cS) :=
  if (σ.1 999 29) = 0 then (gd (inb ((300 * (σ.1 999 30)) + (σ.1 999 32)) 1800) (nmb (si σ 38 (ix ((300 * (σ.1 999 30)) + (σ.1 999 32))) v1) fun σ_3 => (gd (inb ((300 * ((si σ 38 (ix ((300 * (σ.1 999 30)) + (σ.1 999 32))) v1).1 999 30)) + ((si σ 38 (ix ((300 * (σ.1 999 30)) + (σ.1 999 32))) v1).1 999 32)) 1800) (nmb (si σ_3 39 (ix ((300 * ((si σ 38 (ix ((300 * (σ.1 999 30)) + (σ.1 999 32))) v1).1 999 30)) + ((si σ 38 (ix ((300 * (σ.1 999 30)) + (σ.1 999 32))) v1).1 999 32))) v2) fun σ_6 => (some (si σ_6 999 32 (((si σ_3 39 (ix ((300 * ((si σ 38 (ix ((300 * (σ.1 999 30)) + (σ.1 999 32))) v1).1 999 30)) + ((si σ 38 (ix ((300 * (σ.1 999 30)) + (σ.1 999 32))) v1).1 999 32))) v2).1 999 32) + 1))))))) else (some σ)
set_option maxHeartbeats 4000000 in
theorem wb_entry {p : Program} {l : Launch} {e : Env} {s : State} {m : MethodId} {args : Array Value} {below : List Frame} {meth : Method} {c : Code} {g : gG} {A : Nat → Prop} {ad : Nat → Nat} (X : MX p s m args meth c cX3_entry 3 RX3 none g A) (had : mI ad) {σr : cS}  {σ : cS} {v1 : Int32} {v2 : Int32}  {H : Heap} {locs : List Loc} {ls : Array Slot} (hW : WB g A s.heap mIds ad (mE g ad σ) H locs) (hl : lv_has ls 3 [(0, .ref (ad 999)), (1, .int v1), (2, .int v2)]) (hf : m_entry σ v1 v2 = some σr) : W p l e (rm_ 1 20) s m args below meth c H locs 0 0 (Qm below g mIds ad (mE g ad σr) none A args s) (F0 m 0 ls []) := by
  have hx := X.1.1
  have hb := X.1.2.1
  unfold m_entry at hf
  refine lv_aload_n hx hb dX3_entry_0 rfl (lv_at hl 0 rfl) ?_
  refine mg_29 X hW dX3_entry_1 ?_
  refine lv_if_ne (tgt := 55) hx hb dX3_entry_4 (by decide) (fun c_1 => ?_) (fun c_1 => ?_)
  · replace hf := ine hf c_1
    exact m_vret X hW hf dX3_entry_55
  · replace hf := ip hf c_1
    refine lv_aload_n hx hb dX3_entry_7 rfl (lv_at hl 0 rfl) ?_
    refine mg_38 X hW dX3_entry_8 ?_
    refine lv_sipush (v := 300) hx hb dX3_entry_11 (by decide) ?_
    refine lv_aload_n hx hb dX3_entry_14 rfl (lv_at hl 0 rfl) ?_
    refine mg_30 X hW dX3_entry_15 ?_
    refine lv_imul hx hb dX3_entry_18 ?_
    refine lv_aload_n hx hb dX3_entry_19 rfl (lv_at hl 0 rfl) ?_
    refine mg_32 X hW dX3_entry_20 ?_
    refine lv_iadd hx hb dX3_entry_23 ?_
    refine lv_iload_n hx hb dX3_entry_24 rfl (lv_at hl 1 rfl) ?_
    obtain ⟨h_2, hf⟩ := gd_e hf
    refine ms_38 X hW h_2 dX3_entry_25 (fun H locs hW => ?_)
    refine lv_aload_n hx hb dX3_entry_26 rfl (lv_at hl 0 rfl) ?_
    refine mg_39 X hW dX3_entry_27 ?_
    refine lv_sipush (v := 300) hx hb dX3_entry_30 (by decide) ?_
    refine lv_aload_n hx hb dX3_entry_33 rfl (lv_at hl 0 rfl) ?_
    refine mg_30 X hW dX3_entry_34 ?_
    refine lv_imul hx hb dX3_entry_37 ?_
    refine lv_aload_n hx hb dX3_entry_38 rfl (lv_at hl 0 rfl) ?_
    refine mg_32 X hW dX3_entry_39 ?_
    refine lv_iadd hx hb dX3_entry_42 ?_
    refine lv_iload_n hx hb dX3_entry_43 rfl (lv_at hl 2 rfl) ?_
    obtain ⟨σ_3, e_4, hf⟩ := nmb_e hf
    rw [← e_4] at hW
    clear e_4
    obtain ⟨h_5, hf⟩ := gd_e hf
    refine ms_39 X hW h_5 dX3_entry_44 (fun H locs hW => ?_)
    refine lv_aload_n hx hb dX3_entry_45 rfl (lv_at hl 0 rfl) ?_
    refine lv_dup hx hb dX3_entry_46 rfl ?_
    refine mg_32 X hW dX3_entry_47 ?_
    refine lv_iconst (v := 1) hx hb dX3_entry_50 (by decide) ?_
    refine lv_iadd hx hb dX3_entry_51 ?_
    obtain ⟨σ_6, e_7, hf⟩ := nmb_e hf
    rw [← e_7] at hW
    clear e_7
    refine mp_32 X hW dX3_entry_52 (fun H locs hW => ?_)
    exact m_vret X hW hf dX3_entry_55
theorem w_entry (l : Launch) {g : gG} {ad : Nat → Nat} (had : mI ad) {σr : cS}  {σ : cS} {v1 : Int32} {v2 : Int32}  (hf : m_entry σ v1 v2 = some σr) : MM l yX3_entry cX3_entry 3 none 1 20 g ad σ σr [.ref (ad 999), .int v1, .int v2] none :=
  MC.of (by decide) mIds_nd had (Nat.le_of_ble_eq_true rfl) (fun p e s m below meth c A ls X hW hl => wb_entry X had hW hl hf)
theorem k_entry {p : Program} {l : Launch} {e : Env} {R : Room} {s : State} {m : MethodId} {args : Array Value} {below : List Frame} {meth : Method} {c : Code} {H : Heap} {locs : List Loc} {Q : State → Prop} {cc : ByteArray} {nL : Nat} {ret : Option FieldType} {g : gG} {A : Nat → Prop} {ad : Nat → Nat} {pc : Nat} {ls : Array Slot} {rest : List Value} {lv : List (Nat × Value)} {σr : cS}  {σ : cS} {v1 : Int32} {v2 : Int32} (X : MX p s m args meth c cc nL RX3 ret g A) (hW : WB g A s.heap mIds ad (mE g ad σ) H locs) (had : mI ad)  (hf : m_entry σ v1 v2 = some σr) (hR : 2 ≤ R.frames ∧ 42 ≤ R.locals) (hl : lv_has ls nL lv) (hcat : (rest.map fun v => v.category).sum ≤ 8) (hdg : decode cc pc = .ok (.invokevirtual 269, 3)) (kk : ∀ (H1 : Heap) (l1 : List Loc), WB g A s.heap mIds ad (mE g ad σr) H1 l1 → W p l e R s m args below meth c H1 l1 0 0 Q (F0 m (pc + 3) ls (rest))) : W p l e R s m args below meth c H locs 0 0 Q (F0 m pc ls (.int v2 :: .int v1 :: .ref (ad 999) :: rest)) :=
  r_callV X hW Sub.all (w_entry l had hf) (lw_V q1483 q1485 qs69 q126 q1486) ⟨rfl, by decide, by decide, by decide +kernel⟩ m_999 mE_o rfl (n := 2) hR hl rfl rfl hcat ⟨Nat.zero_le _, Nat.zero_le _⟩ hdg kk
-- wordOf
noncomputable def m_wordOf (v0 : Int32) : Option (Nat) :=
  if v0 = 0 then (some 22) else (if v0 = 1 then (some 23) else (if v0 = 2 then (some 24) else (if v0 = 3 then (some 25) else (if v0 = 4 then (some 26) else (if v0 = 5 then (some 27) else (if v0 = 6 then (some 28) else (if v0 = 7 then (some 29) else (if v0 = 8 then (some 30) else (if v0 = 9 then (some 31) else (if v0 = 10 then (some 32) else (some 33)))))))))))
set_option maxHeartbeats 4000000 in
theorem wb_wordOf {p : Program} {l : Launch} {e : Env} {s : State} {m : MethodId} {args : Array Value} {below : List Frame} {meth : Method} {c : Code} {g : gG} {A : Nat → Prop} (X : MX p s m args meth c cX3_wordOf 1 RX3 (some (.object "java/lang/String")) g A)  {r : Nat} {v0 : Int32}  {H : Heap} {locs : List Loc} {ls : Array Slot} (hW : WB g A s.heap [] ad0 E0 H locs) (hl : lv_has ls 1 [(0, .int v0)]) (hf : m_wordOf v0 = some r) : W p l e (rm_ 1 20) s m args below meth c H locs 0 0 (Qm below g [] ad0 E0 (some (.ref (g.2.2.1 r))) A args s) (F0 m 0 ls []) := by
  have hx := X.1.1
  have hb := X.1.2.1
  unfold m_wordOf at hf
  refine lv_iload_n hx hb dX3_wordOf_0 rfl (lv_at hl 0 rfl) ?_
  by_cases c_1 : v0 = 0
  · replace hf := ip hf c_1
    refine r_tabIn (tgt := 60) (off := 59) (k := 0) hx hb c_1 dX3_wordOf_1 (by decide) (by decide) rfl (by decide) ?_
    refine va_ldcS hx hb X.1.2.2.2.1 (X.2.2.2.2.1.1 22 _ rfl).1 dX3_wordOf_60 ?_
    exact p_sret X hW hf dX3_wordOf_62
  · replace hf := ine hf c_1
    by_cases c_2 : v0 = 1
    · replace hf := ip hf c_2
      refine r_tabIn (tgt := 63) (off := 62) (k := 1) hx hb c_2 dX3_wordOf_1 (by decide) (by decide) rfl (by decide) ?_
      refine va_ldcS hx hb X.1.2.2.2.1 (X.2.2.2.2.1.1 23 _ rfl).1 dX3_wordOf_63 ?_
      exact p_sret X hW hf dX3_wordOf_65
    · replace hf := ine hf c_2
      by_cases c_3 : v0 = 2
      · replace hf := ip hf c_3
        refine r_tabIn (tgt := 66) (off := 65) (k := 2) hx hb c_3 dX3_wordOf_1 (by decide) (by decide) rfl (by decide) ?_
        refine va_ldcS hx hb X.1.2.2.2.1 (X.2.2.2.2.1.1 24 _ rfl).1 dX3_wordOf_66 ?_
        exact p_sret X hW hf dX3_wordOf_68
      · replace hf := ine hf c_3
        by_cases c_4 : v0 = 3
        · replace hf := ip hf c_4
          refine r_tabIn (tgt := 69) (off := 68) (k := 3) hx hb c_4 dX3_wordOf_1 (by decide) (by decide) rfl (by decide) ?_
          refine va_ldcS hx hb X.1.2.2.2.1 (X.2.2.2.2.1.1 25 _ rfl).1 dX3_wordOf_69 ?_
          exact p_sret X hW hf dX3_wordOf_71
        · replace hf := ine hf c_4
          by_cases c_5 : v0 = 4
          · replace hf := ip hf c_5
            refine r_tabIn (tgt := 72) (off := 71) (k := 4) hx hb c_5 dX3_wordOf_1 (by decide) (by decide) rfl (by decide) ?_
            refine va_ldcS hx hb X.1.2.2.2.1 (X.2.2.2.2.1.1 26 _ rfl).1 dX3_wordOf_72 ?_
            exact p_sret X hW hf dX3_wordOf_74
          · replace hf := ine hf c_5
            by_cases c_6 : v0 = 5
            · replace hf := ip hf c_6
              refine r_tabIn (tgt := 75) (off := 74) (k := 5) hx hb c_6 dX3_wordOf_1 (by decide) (by decide) rfl (by decide) ?_
              refine va_ldcS hx hb X.1.2.2.2.1 (X.2.2.2.2.1.1 27 _ rfl).1 dX3_wordOf_75 ?_
              exact p_sret X hW hf dX3_wordOf_77
            · replace hf := ine hf c_6
              by_cases c_7 : v0 = 6
              · replace hf := ip hf c_7
                refine r_tabIn (tgt := 78) (off := 77) (k := 6) hx hb c_7 dX3_wordOf_1 (by decide) (by decide) rfl (by decide) ?_
                refine va_ldcS hx hb X.1.2.2.2.1 (X.2.2.2.2.1.1 28 _ rfl).1 dX3_wordOf_78 ?_
                exact p_sret X hW hf dX3_wordOf_80
              · replace hf := ine hf c_7
                by_cases c_8 : v0 = 7
                · replace hf := ip hf c_8
                  refine r_tabIn (tgt := 81) (off := 80) (k := 7) hx hb c_8 dX3_wordOf_1 (by decide) (by decide) rfl (by decide) ?_
                  refine va_ldcS hx hb X.1.2.2.2.1 (X.2.2.2.2.1.1 29 _ rfl).1 dX3_wordOf_81 ?_
                  exact p_sret X hW hf dX3_wordOf_83
                · replace hf := ine hf c_8
                  by_cases c_9 : v0 = 8
                  · replace hf := ip hf c_9
                    refine r_tabIn (tgt := 84) (off := 83) (k := 8) hx hb c_9 dX3_wordOf_1 (by decide) (by decide) rfl (by decide) ?_
                    refine va_ldcS hx hb X.1.2.2.2.1 (X.2.2.2.2.1.1 30 _ rfl).1 dX3_wordOf_84 ?_
                    exact p_sret X hW hf dX3_wordOf_86
                  · replace hf := ine hf c_9
                    by_cases c_10 : v0 = 9
                    · replace hf := ip hf c_10
                      refine r_tabIn (tgt := 87) (off := 86) (k := 9) hx hb c_10 dX3_wordOf_1 (by decide) (by decide) rfl (by decide) ?_
                      refine va_ldcS hx hb X.1.2.2.2.1 (X.2.2.2.2.1.1 31 _ rfl).1 dX3_wordOf_87 ?_
                      exact p_sret X hW hf dX3_wordOf_89
                    · replace hf := ine hf c_10
                      by_cases c_11 : v0 = 10
                      · replace hf := ip hf c_11
                        refine r_tabIn (tgt := 90) (off := 89) (k := 10) hx hb c_11 dX3_wordOf_1 (by decide) (by decide) rfl (by decide) ?_
                        refine va_ldcS hx hb X.1.2.2.2.1 (X.2.2.2.2.1.1 32 _ rfl).1 dX3_wordOf_90 ?_
                        exact p_sret X hW hf dX3_wordOf_92
                      · replace hf := ine hf c_11
                        refine lv_tableOut (tgt := 93) hx hb dX3_wordOf_1 (by have := lv_neT c_1 (a := 0) rfl; have := lv_neT c_2 (a := 1) rfl; have := lv_neT c_3 (a := 2) rfl; have := lv_neT c_4 (a := 3) rfl; have := lv_neT c_5 (a := 4) rfl; have := lv_neT c_6 (a := 5) rfl; have := lv_neT c_7 (a := 6) rfl; have := lv_neT c_8 (a := 7) rfl; have := lv_neT c_9 (a := 8) rfl; have := lv_neT c_10 (a := 9) rfl; have := lv_neT c_11 (a := 10) rfl; omega) (by decide) ?_
                        refine va_ldcS hx hb X.1.2.2.2.1 (X.2.2.2.2.1.1 33 _ rfl).1 dX3_wordOf_93 ?_
                        exact p_sret X hW hf dX3_wordOf_95
theorem w_wordOf (l : Launch) {g : gG} {r : Nat} {v0 : Int32}  (hf : m_wordOf v0 = some r) : MS l yX3_wordOf cX3_wordOf 1 (some (.object "java/lang/String")) 1 20 g [.int v0] (some (.ref (g.2.2.1 r))) :=
  MC.of (by decide) List.nodup_nil wI_nil (Nat.le_of_ble_eq_true rfl) (fun p e s m below meth c A ls X hW hl => wb_wordOf X hW hl hf)
theorem k_wordOf {p : Program} {l : Launch} {e : Env} {R : Room} {s : State} {m : MethodId} {args : Array Value} {below : List Frame} {meth : Method} {c : Code} {H : Heap} {locs : List Loc} {Q : State → Prop} {cc : ByteArray} {nL : Nat} {ret : Option FieldType} {g : gG} {A : Nat → Prop} {ad : Nat → Nat} {ids : List Nat} {E : Nat → va_E} {pc : Nat} {ls : Array Slot} {rest : List Value} {lv : List (Nat × Value)} {r : Nat} {v0 : Int32} (X : MX p s m args meth c cc nL RX3 ret g A) (hW : WB g A s.heap ids ad E H locs)  (hf : m_wordOf v0 = some r) (hR : 2 ≤ R.frames ∧ 40 ≤ R.locals) (hl : lv_has ls nL lv) (hcat : (rest.map fun v => v.category).sum ≤ 8) (hdg : decode cc pc = .ok (.invokestatic 272, 3)) (kk : ∀ (H1 : Heap) (l1 : List Loc), WB g A s.heap ids ad E H1 l1 → W p l e R s m args below meth c H1 l1 0 0 Q (F0 m (pc + 3) ls (.ref (g.2.2.1 r) :: rest))) : W p l e R s m args below meth c H locs 0 0 Q (F0 m pc ls (.int v0 :: rest)) :=
  r_callS X hW Sub.nil (w_wordOf l hf) (lw_S q1487 q1488 q126 q1489) ⟨by decide, by decide, by decide +kernel⟩ (n := 1) hR hl rfl rfl hcat ⟨Nat.zero_le _, Nat.zero_le _⟩ hdg kk
-- value
noncomputable def m_value_38 {ρ : Type} (σ : cS) (v1 : Int32) (K : Int32 → Option ρ) : Nat → Int32 → Option ρ
  | 0, _ => none
  | n + 1, v2 => if (σ.1 999 36) ≤ v2 then (K v2) else (((m_wordOf v2).bind fun r_8 => gd (decide (r_8 < 43)) (((m_stood σ r_8).bind fun r_10 => if r_10 = 0 then (m_value_38 σ v1 K n (v2 + 1)) else (K v2)))))
set_option maxHeartbeats 4000000 in
theorem wm_value_38 {p : Program} {l : Launch} {e : Env} {s : State} {m : MethodId} {args : Array Value} {below : List Frame} {meth : Method} {c : Code} {g : gG} {A : Nat → Prop} {ad : Nat → Nat} (X : MX p s m args meth c cX3_value 3 RX3 none g A) (had : mI ad) {ρ : Type} {res : ρ} {Q : State → Prop} {v1 : Int32} {σ : cS}  {K : Int32 → Option ρ}
    (hK : ∀ (k2 : Int32) (H : Heap) (locs : List Loc) (ls : Array Slot), WB g A s.heap mIds ad (mE g ad σ) H locs → lv_has ls 3 [(0, .ref (ad 999)), (1, .int v1), (2, .int k2)] → K k2 = some res → W p l e (rm_ 7 224) s m args below meth c H locs 0 0 Q (F0 m 63 ls [])) :
    ∀ (n : Nat) (v2 : Int32) (H : Heap) (locs : List Loc) (ls : Array Slot), WB g A s.heap mIds ad (mE g ad σ) H locs → lv_has ls 3 [(0, .ref (ad 999)), (1, .int v1), (2, .int v2)] → m_value_38 σ v1 K n v2 = some res → W p l e (rm_ 7 224) s m args below meth c H locs 0 0 Q (F0 m 38 ls []) := by
  have hx := X.1.1
  have hb := X.1.2.1
  intro n
  induction n with
  | zero =>
    intro v2 H locs ls hW hl hf
    rw [m_value_38] at hf
    cases hf
  | succ n ih =>
    intro v2 H locs ls hW hl hf
    rw [m_value_38] at hf
    refine lv_iload_n hx hb dX3_value_38 rfl (lv_at hl 2 rfl) ?_
    refine lv_aload_n hx hb dX3_value_39 rfl (lv_at hl 0 rfl) ?_
    refine mg_36 X hW dX3_value_40 ?_
    refine lv_icmp_ge (tgt := 63) hx hb dX3_value_43 (by decide) (fun c_6 => ?_) (fun c_6 => ?_)
    · replace hf := ip hf c_6
      exact hK _ _ _ _ hW (lv_sub hl [0, 1, 2] rfl) hf
    · replace hf := ine hf c_6
      refine lv_aload_n hx hb dX3_value_46 rfl (lv_at hl 0 rfl) ?_
      refine lv_iload_n hx hb dX3_value_47 rfl (lv_at hl 2 rfl) ?_
      obtain ⟨r_8, h_7, hf⟩ := bd_e hf
      refine k_wordOf X hW h_7 (by decide) hl (Nat.le_of_ble_eq_true rfl) dX3_value_48 (fun H locs hW => ?_)
      obtain ⟨hs_r_8, hf⟩ := gd_e hf
      replace hs_r_8 := of_decide_eq_true hs_r_8
      obtain ⟨r_10, h_9, hf⟩ := bd_e hf
      refine k_stood X hW had hs_r_8 h_9 (by decide) hl (Nat.le_of_ble_eq_true rfl) dX3_value_51 (fun H locs hW => ?_)
      refine lv_if_ne (tgt := 63) hx hb dX3_value_54 (by decide) (fun c_11 => ?_) (fun c_11 => ?_)
      · replace hf := ine hf c_11
        exact hK _ _ _ _ hW (lv_sub hl [0, 1, 2] rfl) hf
      · replace hf := ip hf c_11
        refine lv_iinc (v := (v2 + 1)) (lv' := [(2, .int (v2 + 1)), (0, .ref (ad 999)), (1, .int v1)]) hx hb dX3_value_57 hl (k := 2) rfl (ii_v _ _ _ (by decide)) (by decide) rfl (fun ls hl => ?_)
        refine lv_goto (tgt := 38) hx hb dX3_value_60 (by decide) ?_
        exact ih _ _ _ _ hW (lv_sub hl [1, 2, 0] rfl) hf
noncomputable def m_value (σ : cS) : Option (cS) :=
  ((m_blanks σ).bind fun σ_2 => ((m_isDigit σ_2).bind fun r_4 => if r_4 = 0 then (m_value_38 σ_2 (σ_2.1 999 28) (fun v_12 => (if v_12 = (σ_2.1 999 36) then (((m_fails σ_2 0 (σ_2.1 999 28)).bind fun σ_21 => some σ_21)) else (((m_isCounted σ_2 (σ_2.1 999 28)).bind fun σ_15 => ((m_wordOf v_12).bind fun r_17 => gd (decide (r_17 < 43)) (((m_entry (si σ_15 999 28 ((σ_15.1 999 28) + (nI (stC r_17).length))) 1 v_12).bind fun σ_19 => some σ_19))))))) FU 0) else (((m_digits σ_2 99999).bind fun (σ_24, r_23) => ((m_isCounted σ_24 (σ_2.1 999 28)).bind fun σ_26 => ((m_entry σ_26 0 r_23).bind fun σ_28 => some σ_28))))))
set_option maxHeartbeats 4000000 in
theorem wb_value {p : Program} {l : Launch} {e : Env} {s : State} {m : MethodId} {args : Array Value} {below : List Frame} {meth : Method} {c : Code} {g : gG} {A : Nat → Prop} {ad : Nat → Nat} (X : MX p s m args meth c cX3_value 3 RX3 none g A) (had : mI ad) {σr : cS}  {σ : cS}  {H : Heap} {locs : List Loc} {ls : Array Slot} (hW : WB g A s.heap mIds ad (mE g ad σ) H locs) (hl : lv_has ls 3 [(0, .ref (ad 999))]) (hf : m_value σ = some σr) : W p l e (rm_ 7 224) s m args below meth c H locs 0 0 (Qm below g mIds ad (mE g ad σr) none A args s) (F0 m 0 ls []) := by
  have hx := X.1.1
  have hb := X.1.2.1
  unfold m_value at hf
  refine lv_aload_n hx hb dX3_value_0 rfl (lv_at hl 0 rfl) ?_
  obtain ⟨σ_2, h_1, hf⟩ := bd_e hf
  refine k_blanks X hW had h_1 (by decide) hl (Nat.le_of_ble_eq_true rfl) dX3_value_1 (fun H locs hW => ?_)
  refine lv_aload_n hx hb dX3_value_4 rfl (lv_at hl 0 rfl) ?_
  refine mg_28 X hW dX3_value_5 ?_
  refine lv_istore_n (lv' := [(1, .int (σ_2.1 999 28)), (0, .ref (ad 999))]) hx hb dX3_value_8 rfl hl (by decide) rfl (fun ls hl => ?_)
  refine lv_aload_n hx hb dX3_value_9 rfl (lv_at hl 1 rfl) ?_
  obtain ⟨r_4, h_3, hf⟩ := bd_e hf
  refine k_isDigit X hW had h_3 (by decide) hl (Nat.le_of_ble_eq_true rfl) dX3_value_10 (fun H locs hW => ?_)
  refine lv_if_eq (tgt := 36) hx hb dX3_value_13 (by decide) (fun c_5 => ?_) (fun c_5 => ?_)
  · replace hf := ip hf c_5
    refine lv_iconst (v := 0) hx hb dX3_value_36 (by decide) ?_
    refine lv_istore_n (lv' := [(2, .int 0), (1, .int (σ_2.1 999 28)), (0, .ref (ad 999))]) hx hb dX3_value_37 rfl hl (by decide) rfl (fun ls hl => ?_)
    refine wm_value_38 X had (fun v_12 H locs ls hW hl hf => ?_) _ _ _ _ _ hW (lv_sub hl [2, 1, 0] rfl) hf
    refine lv_iload_n hx hb dX3_value_63 rfl (lv_at hl 2 rfl) ?_
    refine lv_aload_n hx hb dX3_value_64 rfl (lv_at hl 0 rfl) ?_
    refine mg_36 X hW dX3_value_65 ?_
    refine lv_icmp_ne (tgt := 78) hx hb dX3_value_68 (by decide) (fun c_13 => ?_) (fun c_13 => ?_)
    · replace hf := ine hf c_13
      refine lv_aload_n hx hb dX3_value_78 rfl (lv_at hl 0 rfl) ?_
      refine lv_iload_n hx hb dX3_value_79 rfl (lv_at hl 1 rfl) ?_
      obtain ⟨σ_15, h_14, hf⟩ := bd_e hf
      refine k_isCounted X hW had h_14 (by decide) hl (Nat.le_of_ble_eq_true rfl) dX3_value_80 (fun H locs hW => ?_)
      refine lv_aload_n hx hb dX3_value_83 rfl (lv_at hl 0 rfl) ?_
      refine lv_dup hx hb dX3_value_84 rfl ?_
      refine mg_28 X hW dX3_value_85 ?_
      refine lv_iload_n hx hb dX3_value_88 rfl (lv_at hl 2 rfl) ?_
      obtain ⟨r_17, h_16, hf⟩ := bd_e hf
      refine k_wordOf X hW h_16 (by decide) hl (Nat.le_of_ble_eq_true rfl) dX3_value_89 (fun H locs hW => ?_)
      obtain ⟨hs_r_17, hf⟩ := gd_e hf
      replace hs_r_17 := of_decide_eq_true hs_r_17
      refine k_slen X hW hs_r_17 (by decide) hl (Nat.le_of_ble_eq_true rfl) q1403 dX3_value_92 (fun H locs hW => ?_)
      refine lv_iadd hx hb dX3_value_95 ?_
      refine mp_28 X hW dX3_value_96 (fun H locs hW => ?_)
      refine lv_aload_n hx hb dX3_value_99 rfl (lv_at hl 0 rfl) ?_
      refine lv_iconst (v := 1) hx hb dX3_value_100 (by decide) ?_
      refine lv_iload_n hx hb dX3_value_101 rfl (lv_at hl 2 rfl) ?_
      obtain ⟨σ_19, h_18, hf⟩ := bd_e hf
      refine k_entry X hW had h_18 (by decide) hl (Nat.le_of_ble_eq_true rfl) dX3_value_102 (fun H locs hW => ?_)
      exact m_vret X hW hf dX3_value_105
    · replace hf := ip hf c_13
      refine lv_aload_n hx hb dX3_value_71 rfl (lv_at hl 0 rfl) ?_
      refine lv_iconst (v := 0) hx hb dX3_value_72 (by decide) ?_
      refine lv_iload_n hx hb dX3_value_73 rfl (lv_at hl 1 rfl) ?_
      obtain ⟨σ_21, h_20, hf⟩ := bd_e hf
      refine k_fails X hW had h_20 (by decide) hl (Nat.le_of_ble_eq_true rfl) dX3_value_74 (fun H locs hW => ?_)
      exact m_vret X hW hf dX3_value_77
  · replace hf := ine hf c_5
    refine lv_aload_n hx hb dX3_value_16 rfl (lv_at hl 1 rfl) ?_
    refine lv_ldcw (v := 99999) hx hb X.1.2.2.2.1 (X.1.2.2.2.2 _ q1421) dX3_value_17 ?_
    obtain ⟨⟨σ_24, r_23⟩, h_22, hf⟩ := bd_e hf
    refine k_digits X hW had h_22 (by decide) hl (Nat.le_of_ble_eq_true rfl) dX3_value_20 (fun H locs hW => ?_)
    refine lv_istore_n (lv' := [(2, .int r_23), (1, .int (σ_2.1 999 28)), (0, .ref (ad 999))]) hx hb dX3_value_23 rfl hl (by decide) rfl (fun ls hl => ?_)
    refine lv_aload_n hx hb dX3_value_24 rfl (lv_at hl 2 rfl) ?_
    refine lv_iload_n hx hb dX3_value_25 rfl (lv_at hl 1 rfl) ?_
    obtain ⟨σ_26, h_25, hf⟩ := bd_e hf
    refine k_isCounted X hW had h_25 (by decide) hl (Nat.le_of_ble_eq_true rfl) dX3_value_26 (fun H locs hW => ?_)
    refine lv_aload_n hx hb dX3_value_29 rfl (lv_at hl 2 rfl) ?_
    refine lv_iconst (v := 0) hx hb dX3_value_30 (by decide) ?_
    refine lv_iload_n hx hb dX3_value_31 rfl (lv_at hl 0 rfl) ?_
    obtain ⟨σ_28, h_27, hf⟩ := bd_e hf
    refine k_entry X hW had h_27 (by decide) hl (Nat.le_of_ble_eq_true rfl) dX3_value_32 (fun H locs hW => ?_)
    exact m_vret X hW hf dX3_value_35
theorem w_value (l : Launch) {g : gG} {ad : Nat → Nat} (had : mI ad) {σr : cS}  {σ : cS}  (hf : m_value σ = some σr) : MM l yX3_value cX3_value 3 none 7 224 g ad σ σr [.ref (ad 999)] none :=
  MC.of (by decide) mIds_nd had (Nat.le_of_ble_eq_true rfl) (fun p e s m below meth c A ls X hW hl => wb_value X had hW hl hf)
theorem k_value {p : Program} {l : Launch} {e : Env} {R : Room} {s : State} {m : MethodId} {args : Array Value} {below : List Frame} {meth : Method} {c : Code} {H : Heap} {locs : List Loc} {Q : State → Prop} {cc : ByteArray} {nL : Nat} {ret : Option FieldType} {g : gG} {A : Nat → Prop} {ad : Nat → Nat} {pc : Nat} {ls : Array Slot} {rest : List Value} {lv : List (Nat × Value)} {σr : cS}  {σ : cS} (X : MX p s m args meth c cc nL RX3 ret g A) (hW : WB g A s.heap mIds ad (mE g ad σ) H locs) (had : mI ad)  (hf : m_value σ = some σr) (hR : 8 ≤ R.frames ∧ 246 ≤ R.locals) (hl : lv_has ls nL lv) (hcat : (rest.map fun v => v.category).sum ≤ 8) (hdg : decode cc pc = .ok (.invokevirtual 276, 3)) (kk : ∀ (H1 : Heap) (l1 : List Loc), WB g A s.heap mIds ad (mE g ad σr) H1 l1 → W p l e R s m args below meth c H1 l1 0 0 Q (F0 m (pc + 3) ls (rest))) : W p l e R s m args below meth c H locs 0 0 Q (F0 m pc ls (.ref (ad 999) :: rest)) :=
  r_callV X hW Sub.all (w_value l had hf) (lw_V q1475 q1477 qs67 q126 q1478) ⟨rfl, by decide, by decide, by decide +kernel⟩ m_999 mE_o rfl (n := 0) hR hl rfl rfl hcat ⟨Nat.zero_le _, Nat.zero_le _⟩ hdg kk
-- term
noncomputable def m_term_8 {ρ : Type}  (K : cS → Option ρ) : Nat → cS → Option ρ
  | 0, _ => none
  | n + 1, σ => if (σ.1 999 29) = 0 then (((m_sign σ).bind fun r_7 => if r_7 = 42 then (((m_sign σ).bind fun r_10 => ((if r_10 = 42 then (some (13)) else (((m_sign σ).bind fun r_21 => if r_21 = 47 then (some (14)) else (some (15)))) : Option (Int32)).bind fun t_11 => (((m_value (si σ 999 28 ((σ.1 999 28) + 1))).bind fun σ_14 => ((m_entry σ_14 t_11 0).bind fun σ_16 => ((m_blanks σ_16).bind fun σ_18 => m_term_8 K n σ_18))))))) else (((m_sign σ).bind fun r_24 => if r_24 = 47 then (((m_sign σ).bind fun r_27 => ((if r_27 = 42 then (some (13)) else (((m_sign σ).bind fun r_38 => if r_38 = 47 then (some (14)) else (some (15)))) : Option (Int32)).bind fun t_28 => (((m_value (si σ 999 28 ((σ.1 999 28) + 1))).bind fun σ_31 => ((m_entry σ_31 t_28 0).bind fun σ_33 => ((m_blanks σ_33).bind fun σ_35 => m_term_8 K n σ_35))))))) else (((m_sign σ).bind fun r_41 => if r_41 = 37 then (((m_sign σ).bind fun r_44 => ((if r_44 = 42 then (some (13)) else (((m_sign σ).bind fun r_55 => if r_55 = 47 then (some (14)) else (some (15)))) : Option (Int32)).bind fun t_45 => (((m_value (si σ 999 28 ((σ.1 999 28) + 1))).bind fun σ_48 => ((m_entry σ_48 t_45 0).bind fun σ_50 => ((m_blanks σ_50).bind fun σ_52 => m_term_8 K n σ_52))))))) else (K σ))))))) else (K σ)
set_option maxHeartbeats 4000000 in
theorem wm_term_8 {p : Program} {l : Launch} {e : Env} {s : State} {m : MethodId} {args : Array Value} {below : List Frame} {meth : Method} {c : Code} {g : gG} {A : Nat → Prop} {ad : Nat → Nat} (X : MX p s m args meth c cX3_term 2 RX3 none g A) (had : mI ad) {ρ : Type} {res : ρ} {Q : State → Prop}   {K : cS → Option ρ}
    (hK : ∀ (σ : cS) (H : Heap) (locs : List Loc) (ls : Array Slot), WB g A s.heap mIds ad (mE g ad σ) H locs → lv_has ls 2 [] → K σ = some res → W p l e (rm_ 8 246) s m args below meth c H locs 0 0 Q (F0 m 100 ls [])) :
    ∀ (n : Nat) (σ : cS) (H : Heap) (locs : List Loc) (ls : Array Slot), WB g A s.heap mIds ad (mE g ad σ) H locs → lv_has ls 2 [(0, .ref (ad 999))] → m_term_8 K n σ = some res → W p l e (rm_ 8 246) s m args below meth c H locs 0 0 Q (F0 m 8 ls []) := by
  have hx := X.1.1
  have hb := X.1.2.1
  intro n
  induction n with
  | zero =>
    intro σ H locs ls hW hl hf
    rw [m_term_8] at hf
    cases hf
  | succ n ih =>
    intro σ H locs ls hW hl hf
    rw [m_term_8] at hf
    refine lv_aload_n hx hb dX3_term_8 rfl (lv_at hl 0 rfl) ?_
    refine mg_29 X hW dX3_term_9 ?_
    refine lv_if_ne (tgt := 100) hx hb dX3_term_12 (by decide) (fun c_5 => ?_) (fun c_5 => ?_)
    · replace hf := ine hf c_5
      exact hK _ _ _ _ hW (lv_sub hl [] rfl) hf
    · replace hf := ip hf c_5
      refine lv_aload_n hx hb dX3_term_15 rfl (lv_at hl 0 rfl) ?_
      obtain ⟨r_7, h_6, hf⟩ := bd_e hf
      refine k_sign X hW had h_6 (by decide) hl (Nat.le_of_ble_eq_true rfl) dX3_term_16 (fun H locs hW => ?_)
      refine lv_bipush (v := 42) hx hb dX3_term_19 (by decide) ?_
      refine lv_icmp_eq (tgt := 42) hx hb dX3_term_21 (by decide) (fun c_8 => ?_) (fun c_8 => ?_)
      · replace hf := ip hf c_8
        refine lv_aload_n hx hb dX3_term_42 rfl (lv_at hl 0 rfl) ?_
        obtain ⟨r_10, h_9, hf⟩ := bd_e hf
        refine k_sign X hW had h_9 (by decide) hl (Nat.le_of_ble_eq_true rfl) dX3_term_43 (fun H locs hW => ?_)
        refine lv_bipush (v := 42) hx hb dX3_term_46 (by decide) ?_
        obtain ⟨t_11, hD_12, hf⟩ := bd_e hf
        have hJ : ∀ (H : Heap) (locs : List Loc) (ls : Array Slot), WB g A s.heap mIds ad (mE g ad σ) H locs → lv_has ls 2 [(0, .ref (ad 999))] → W p l e (rm_ 8 246) s m args below meth c H locs 0 0 Q (F0 m 72 ls [.int t_11]) := by
          intro H locs ls hW hl
          refine lv_istore_n (lv' := [(1, .int t_11), (0, .ref (ad 999))]) hx hb dX3_term_72 rfl hl (by decide) rfl (fun ls hl => ?_)
          refine lv_aload_n hx hb dX3_term_73 rfl (lv_at hl 1 rfl) ?_
          refine lv_dup hx hb dX3_term_74 rfl ?_
          refine mg_28 X hW dX3_term_75 ?_
          refine lv_iconst (v := 1) hx hb dX3_term_78 (by decide) ?_
          refine lv_iadd hx hb dX3_term_79 ?_
          refine mp_28 X hW dX3_term_80 (fun H locs hW => ?_)
          refine lv_aload_n hx hb dX3_term_83 rfl (lv_at hl 1 rfl) ?_
          obtain ⟨σ_14, h_13, hf⟩ := bd_e hf
          refine k_value X hW had h_13 (by decide) hl (Nat.le_of_ble_eq_true rfl) dX3_term_84 (fun H locs hW => ?_)
          refine lv_aload_n hx hb dX3_term_87 rfl (lv_at hl 1 rfl) ?_
          refine lv_iload_n hx hb dX3_term_88 rfl (lv_at hl 0 rfl) ?_
          refine lv_iconst (v := 0) hx hb dX3_term_89 (by decide) ?_
          obtain ⟨σ_16, h_15, hf⟩ := bd_e hf
          refine k_entry X hW had h_15 (by decide) hl (Nat.le_of_ble_eq_true rfl) dX3_term_90 (fun H locs hW => ?_)
          refine lv_aload_n hx hb dX3_term_93 rfl (lv_at hl 1 rfl) ?_
          obtain ⟨σ_18, h_17, hf⟩ := bd_e hf
          refine k_blanks X hW had h_17 (by decide) hl (Nat.le_of_ble_eq_true rfl) dX3_term_94 (fun H locs hW => ?_)
          refine lv_goto (tgt := 8) hx hb dX3_term_97 (by decide) ?_
          exact ih _ _ _ _ hW (lv_sub hl [1] rfl) hf
        clear hf
        refine lv_icmp_ne (tgt := 56) hx hb dX3_term_48 (by decide) (fun c_19 => ?_) (fun c_19 => ?_)
        · replace hD_12 := ine hD_12 c_19
          refine lv_aload_n hx hb dX3_term_56 rfl (lv_at hl 0 rfl) ?_
          obtain ⟨r_21, h_20, hD_12⟩ := bd_e hD_12
          refine k_sign X hW had h_20 (by decide) hl (Nat.le_of_ble_eq_true rfl) dX3_term_57 (fun H locs hW => ?_)
          refine lv_bipush (v := 47) hx hb dX3_term_60 (by decide) ?_
          refine lv_icmp_ne (tgt := 70) hx hb dX3_term_62 (by decide) (fun c_22 => ?_) (fun c_22 => ?_)
          · replace hD_12 := ine hD_12 c_22
            refine lv_bipush (v := 15) hx hb dX3_term_70 (by decide) ?_
            cases hD_12
            exact hJ _ _ _ hW (lv_sub hl [0] rfl)
          · replace hD_12 := ip hD_12 c_22
            refine lv_bipush (v := 14) hx hb dX3_term_65 (by decide) ?_
            refine lv_goto (tgt := 72) hx hb dX3_term_67 (by decide) ?_
            cases hD_12
            exact hJ _ _ _ hW (lv_sub hl [0] rfl)
        · replace hD_12 := ip hD_12 c_19
          refine lv_bipush (v := 13) hx hb dX3_term_51 (by decide) ?_
          refine lv_goto (tgt := 72) hx hb dX3_term_53 (by decide) ?_
          cases hD_12
          exact hJ _ _ _ hW (lv_sub hl [0] rfl)
      · replace hf := ine hf c_8
        refine lv_aload_n hx hb dX3_term_24 rfl (lv_at hl 0 rfl) ?_
        obtain ⟨r_24, h_23, hf⟩ := bd_e hf
        refine k_sign X hW had h_23 (by decide) hl (Nat.le_of_ble_eq_true rfl) dX3_term_25 (fun H locs hW => ?_)
        refine lv_bipush (v := 47) hx hb dX3_term_28 (by decide) ?_
        refine lv_icmp_eq (tgt := 42) hx hb dX3_term_30 (by decide) (fun c_25 => ?_) (fun c_25 => ?_)
        · replace hf := ip hf c_25
          refine lv_aload_n hx hb dX3_term_42 rfl (lv_at hl 0 rfl) ?_
          obtain ⟨r_27, h_26, hf⟩ := bd_e hf
          refine k_sign X hW had h_26 (by decide) hl (Nat.le_of_ble_eq_true rfl) dX3_term_43 (fun H locs hW => ?_)
          refine lv_bipush (v := 42) hx hb dX3_term_46 (by decide) ?_
          obtain ⟨t_28, hD_29, hf⟩ := bd_e hf
          have hJ : ∀ (H : Heap) (locs : List Loc) (ls : Array Slot), WB g A s.heap mIds ad (mE g ad σ) H locs → lv_has ls 2 [(0, .ref (ad 999))] → W p l e (rm_ 8 246) s m args below meth c H locs 0 0 Q (F0 m 72 ls [.int t_28]) := by
            intro H locs ls hW hl
            refine lv_istore_n (lv' := [(1, .int t_28), (0, .ref (ad 999))]) hx hb dX3_term_72 rfl hl (by decide) rfl (fun ls hl => ?_)
            refine lv_aload_n hx hb dX3_term_73 rfl (lv_at hl 1 rfl) ?_
            refine lv_dup hx hb dX3_term_74 rfl ?_
            refine mg_28 X hW dX3_term_75 ?_
            refine lv_iconst (v := 1) hx hb dX3_term_78 (by decide) ?_
            refine lv_iadd hx hb dX3_term_79 ?_
            refine mp_28 X hW dX3_term_80 (fun H locs hW => ?_)
            refine lv_aload_n hx hb dX3_term_83 rfl (lv_at hl 1 rfl) ?_
            obtain ⟨σ_31, h_30, hf⟩ := bd_e hf
            refine k_value X hW had h_30 (by decide) hl (Nat.le_of_ble_eq_true rfl) dX3_term_84 (fun H locs hW => ?_)
            refine lv_aload_n hx hb dX3_term_87 rfl (lv_at hl 1 rfl) ?_
            refine lv_iload_n hx hb dX3_term_88 rfl (lv_at hl 0 rfl) ?_
            refine lv_iconst (v := 0) hx hb dX3_term_89 (by decide) ?_
            obtain ⟨σ_33, h_32, hf⟩ := bd_e hf
            refine k_entry X hW had h_32 (by decide) hl (Nat.le_of_ble_eq_true rfl) dX3_term_90 (fun H locs hW => ?_)
            refine lv_aload_n hx hb dX3_term_93 rfl (lv_at hl 1 rfl) ?_
            obtain ⟨σ_35, h_34, hf⟩ := bd_e hf
            refine k_blanks X hW had h_34 (by decide) hl (Nat.le_of_ble_eq_true rfl) dX3_term_94 (fun H locs hW => ?_)
            refine lv_goto (tgt := 8) hx hb dX3_term_97 (by decide) ?_
            exact ih _ _ _ _ hW (lv_sub hl [1] rfl) hf
          clear hf
          refine lv_icmp_ne (tgt := 56) hx hb dX3_term_48 (by decide) (fun c_36 => ?_) (fun c_36 => ?_)
          · replace hD_29 := ine hD_29 c_36
            refine lv_aload_n hx hb dX3_term_56 rfl (lv_at hl 0 rfl) ?_
            obtain ⟨r_38, h_37, hD_29⟩ := bd_e hD_29
            refine k_sign X hW had h_37 (by decide) hl (Nat.le_of_ble_eq_true rfl) dX3_term_57 (fun H locs hW => ?_)
            refine lv_bipush (v := 47) hx hb dX3_term_60 (by decide) ?_
            refine lv_icmp_ne (tgt := 70) hx hb dX3_term_62 (by decide) (fun c_39 => ?_) (fun c_39 => ?_)
            · replace hD_29 := ine hD_29 c_39
              refine lv_bipush (v := 15) hx hb dX3_term_70 (by decide) ?_
              cases hD_29
              exact hJ _ _ _ hW (lv_sub hl [0] rfl)
            · replace hD_29 := ip hD_29 c_39
              refine lv_bipush (v := 14) hx hb dX3_term_65 (by decide) ?_
              refine lv_goto (tgt := 72) hx hb dX3_term_67 (by decide) ?_
              cases hD_29
              exact hJ _ _ _ hW (lv_sub hl [0] rfl)
          · replace hD_29 := ip hD_29 c_36
            refine lv_bipush (v := 13) hx hb dX3_term_51 (by decide) ?_
            refine lv_goto (tgt := 72) hx hb dX3_term_53 (by decide) ?_
            cases hD_29
            exact hJ _ _ _ hW (lv_sub hl [0] rfl)
        · replace hf := ine hf c_25
          refine lv_aload_n hx hb dX3_term_33 rfl (lv_at hl 0 rfl) ?_
          obtain ⟨r_41, h_40, hf⟩ := bd_e hf
          refine k_sign X hW had h_40 (by decide) hl (Nat.le_of_ble_eq_true rfl) dX3_term_34 (fun H locs hW => ?_)
          refine lv_bipush (v := 37) hx hb dX3_term_37 (by decide) ?_
          refine lv_icmp_ne (tgt := 100) hx hb dX3_term_39 (by decide) (fun c_42 => ?_) (fun c_42 => ?_)
          · replace hf := ine hf c_42
            exact hK _ _ _ _ hW (lv_sub hl [] rfl) hf
          · replace hf := ip hf c_42
            refine lv_aload_n hx hb dX3_term_42 rfl (lv_at hl 0 rfl) ?_
            obtain ⟨r_44, h_43, hf⟩ := bd_e hf
            refine k_sign X hW had h_43 (by decide) hl (Nat.le_of_ble_eq_true rfl) dX3_term_43 (fun H locs hW => ?_)
            refine lv_bipush (v := 42) hx hb dX3_term_46 (by decide) ?_
            obtain ⟨t_45, hD_46, hf⟩ := bd_e hf
            have hJ : ∀ (H : Heap) (locs : List Loc) (ls : Array Slot), WB g A s.heap mIds ad (mE g ad σ) H locs → lv_has ls 2 [(0, .ref (ad 999))] → W p l e (rm_ 8 246) s m args below meth c H locs 0 0 Q (F0 m 72 ls [.int t_45]) := by
              intro H locs ls hW hl
              refine lv_istore_n (lv' := [(1, .int t_45), (0, .ref (ad 999))]) hx hb dX3_term_72 rfl hl (by decide) rfl (fun ls hl => ?_)
              refine lv_aload_n hx hb dX3_term_73 rfl (lv_at hl 1 rfl) ?_
              refine lv_dup hx hb dX3_term_74 rfl ?_
              refine mg_28 X hW dX3_term_75 ?_
              refine lv_iconst (v := 1) hx hb dX3_term_78 (by decide) ?_
              refine lv_iadd hx hb dX3_term_79 ?_
              refine mp_28 X hW dX3_term_80 (fun H locs hW => ?_)
              refine lv_aload_n hx hb dX3_term_83 rfl (lv_at hl 1 rfl) ?_
              obtain ⟨σ_48, h_47, hf⟩ := bd_e hf
              refine k_value X hW had h_47 (by decide) hl (Nat.le_of_ble_eq_true rfl) dX3_term_84 (fun H locs hW => ?_)
              refine lv_aload_n hx hb dX3_term_87 rfl (lv_at hl 1 rfl) ?_
              refine lv_iload_n hx hb dX3_term_88 rfl (lv_at hl 0 rfl) ?_
              refine lv_iconst (v := 0) hx hb dX3_term_89 (by decide) ?_
              obtain ⟨σ_50, h_49, hf⟩ := bd_e hf
              refine k_entry X hW had h_49 (by decide) hl (Nat.le_of_ble_eq_true rfl) dX3_term_90 (fun H locs hW => ?_)
              refine lv_aload_n hx hb dX3_term_93 rfl (lv_at hl 1 rfl) ?_
              obtain ⟨σ_52, h_51, hf⟩ := bd_e hf
              refine k_blanks X hW had h_51 (by decide) hl (Nat.le_of_ble_eq_true rfl) dX3_term_94 (fun H locs hW => ?_)
              refine lv_goto (tgt := 8) hx hb dX3_term_97 (by decide) ?_
              exact ih _ _ _ _ hW (lv_sub hl [1] rfl) hf
            clear hf
            refine lv_icmp_ne (tgt := 56) hx hb dX3_term_48 (by decide) (fun c_53 => ?_) (fun c_53 => ?_)
            · replace hD_46 := ine hD_46 c_53
              refine lv_aload_n hx hb dX3_term_56 rfl (lv_at hl 0 rfl) ?_
              obtain ⟨r_55, h_54, hD_46⟩ := bd_e hD_46
              refine k_sign X hW had h_54 (by decide) hl (Nat.le_of_ble_eq_true rfl) dX3_term_57 (fun H locs hW => ?_)
              refine lv_bipush (v := 47) hx hb dX3_term_60 (by decide) ?_
              refine lv_icmp_ne (tgt := 70) hx hb dX3_term_62 (by decide) (fun c_56 => ?_) (fun c_56 => ?_)
              · replace hD_46 := ine hD_46 c_56
                refine lv_bipush (v := 15) hx hb dX3_term_70 (by decide) ?_
                cases hD_46
                exact hJ _ _ _ hW (lv_sub hl [0] rfl)
              · replace hD_46 := ip hD_46 c_56
                refine lv_bipush (v := 14) hx hb dX3_term_65 (by decide) ?_
                refine lv_goto (tgt := 72) hx hb dX3_term_67 (by decide) ?_
                cases hD_46
                exact hJ _ _ _ hW (lv_sub hl [0] rfl)
            · replace hD_46 := ip hD_46 c_53
              refine lv_bipush (v := 13) hx hb dX3_term_51 (by decide) ?_
              refine lv_goto (tgt := 72) hx hb dX3_term_53 (by decide) ?_
              cases hD_46
              exact hJ _ _ _ hW (lv_sub hl [0] rfl)
noncomputable def m_term (σ : cS) : Option (cS) :=
  ((m_value σ).bind fun σ_2 => ((m_blanks σ_2).bind fun σ_4 => m_term_8  (fun σ_57 => (some σ_57)) FU σ_4))
set_option maxHeartbeats 4000000 in
theorem wb_term {p : Program} {l : Launch} {e : Env} {s : State} {m : MethodId} {args : Array Value} {below : List Frame} {meth : Method} {c : Code} {g : gG} {A : Nat → Prop} {ad : Nat → Nat} (X : MX p s m args meth c cX3_term 2 RX3 none g A) (had : mI ad) {σr : cS}  {σ : cS}  {H : Heap} {locs : List Loc} {ls : Array Slot} (hW : WB g A s.heap mIds ad (mE g ad σ) H locs) (hl : lv_has ls 2 [(0, .ref (ad 999))]) (hf : m_term σ = some σr) : W p l e (rm_ 8 246) s m args below meth c H locs 0 0 (Qm below g mIds ad (mE g ad σr) none A args s) (F0 m 0 ls []) := by
  have hx := X.1.1
  have hb := X.1.2.1
  unfold m_term at hf
  refine lv_aload_n hx hb dX3_term_0 rfl (lv_at hl 0 rfl) ?_
  obtain ⟨σ_2, h_1, hf⟩ := bd_e hf
  refine k_value X hW had h_1 (by decide) hl (Nat.le_of_ble_eq_true rfl) dX3_term_1 (fun H locs hW => ?_)
  refine lv_aload_n hx hb dX3_term_4 rfl (lv_at hl 0 rfl) ?_
  obtain ⟨σ_4, h_3, hf⟩ := bd_e hf
  refine k_blanks X hW had h_3 (by decide) hl (Nat.le_of_ble_eq_true rfl) dX3_term_5 (fun H locs hW => ?_)
  refine wm_term_8 X had (fun σ_57 H locs ls hW hl hf => ?_) _ _ _ _ _ hW (lv_sub hl [0] rfl) hf
  exact m_vret X hW hf dX3_term_100
theorem w_term (l : Launch) {g : gG} {ad : Nat → Nat} (had : mI ad) {σr : cS}  {σ : cS}  (hf : m_term σ = some σr) : MM l yX3_term cX3_term 2 none 8 246 g ad σ σr [.ref (ad 999)] none :=
  MC.of (by decide) mIds_nd had (Nat.le_of_ble_eq_true rfl) (fun p e s m below meth c A ls X hW hl => wb_term X had hW hl hf)
theorem k_term {p : Program} {l : Launch} {e : Env} {R : Room} {s : State} {m : MethodId} {args : Array Value} {below : List Frame} {meth : Method} {c : Code} {H : Heap} {locs : List Loc} {Q : State → Prop} {cc : ByteArray} {nL : Nat} {ret : Option FieldType} {g : gG} {A : Nat → Prop} {ad : Nat → Nat} {pc : Nat} {ls : Array Slot} {rest : List Value} {lv : List (Nat × Value)} {σr : cS}  {σ : cS} (X : MX p s m args meth c cc nL RX3 ret g A) (hW : WB g A s.heap mIds ad (mE g ad σ) H locs) (had : mI ad)  (hf : m_term σ = some σr) (hR : 9 ≤ R.frames ∧ 267 ≤ R.locals) (hl : lv_has ls nL lv) (hcat : (rest.map fun v => v.category).sum ≤ 8) (hdg : decode cc pc = .ok (.invokevirtual 279, 3)) (kk : ∀ (H1 : Heap) (l1 : List Loc), WB g A s.heap mIds ad (mE g ad σr) H1 l1 → W p l e R s m args below meth c H1 l1 0 0 Q (F0 m (pc + 3) ls (rest))) : W p l e R s m args below meth c H locs 0 0 Q (F0 m pc ls (.ref (ad 999) :: rest)) :=
  r_callV X hW Sub.all (w_term l had hf) (lw_V q1471 q1473 qs66 q126 q1474) ⟨rfl, by decide, by decide, by decide +kernel⟩ m_999 mE_o rfl (n := 0) hR hl rfl rfl hcat ⟨Nat.zero_le _, Nat.zero_le _⟩ hdg kk
-- sum
noncomputable def m_sum_4 {ρ : Type}  (K : cS → Option ρ) : Nat → cS → Option ρ
  | 0, _ => none
  | n + 1, σ => if (σ.1 999 29) = 0 then (((m_sign σ).bind fun r_5 => if r_5 = 43 then (((m_sign σ).bind fun r_8 => ((if r_8 = 43 then (some (2)) else (some (3)) : Option (Int32)).bind fun t_9 => (((m_term (si σ 999 28 ((σ.1 999 28) + 1))).bind fun σ_12 => ((m_entry σ_12 t_9 0).bind fun σ_14 => m_sum_4 K n σ_14)))))) else (((m_sign σ).bind fun r_17 => if r_17 = 45 then (((m_sign σ).bind fun r_20 => ((if r_20 = 43 then (some (2)) else (some (3)) : Option (Int32)).bind fun t_21 => (((m_term (si σ 999 28 ((σ.1 999 28) + 1))).bind fun σ_24 => ((m_entry σ_24 t_21 0).bind fun σ_26 => m_sum_4 K n σ_26)))))) else (K σ))))) else (K σ)
set_option maxHeartbeats 4000000 in
theorem wm_sum_4 {p : Program} {l : Launch} {e : Env} {s : State} {m : MethodId} {args : Array Value} {below : List Frame} {meth : Method} {c : Code} {g : gG} {A : Nat → Prop} {ad : Nat → Nat} (X : MX p s m args meth c cX3_sum 2 RX3 none g A) (had : mI ad) {ρ : Type} {res : ρ} {Q : State → Prop}   {K : cS → Option ρ}
    (hK : ∀ (σ : cS) (H : Heap) (locs : List Loc) (ls : Array Slot), WB g A s.heap mIds ad (mE g ad σ) H locs → lv_has ls 2 [] → K σ = some res → W p l e (rm_ 9 267) s m args below meth c H locs 0 0 Q (F0 m 67 ls [])) :
    ∀ (n : Nat) (σ : cS) (H : Heap) (locs : List Loc) (ls : Array Slot), WB g A s.heap mIds ad (mE g ad σ) H locs → lv_has ls 2 [(0, .ref (ad 999))] → m_sum_4 K n σ = some res → W p l e (rm_ 9 267) s m args below meth c H locs 0 0 Q (F0 m 4 ls []) := by
  have hx := X.1.1
  have hb := X.1.2.1
  intro n
  induction n with
  | zero =>
    intro σ H locs ls hW hl hf
    rw [m_sum_4] at hf
    cases hf
  | succ n ih =>
    intro σ H locs ls hW hl hf
    rw [m_sum_4] at hf
    refine lv_aload_n hx hb dX3_sum_4 rfl (lv_at hl 0 rfl) ?_
    refine mg_29 X hW dX3_sum_5 ?_
    refine lv_if_ne (tgt := 67) hx hb dX3_sum_8 (by decide) (fun c_3 => ?_) (fun c_3 => ?_)
    · replace hf := ine hf c_3
      exact hK _ _ _ _ hW (lv_sub hl [] rfl) hf
    · replace hf := ip hf c_3
      refine lv_aload_n hx hb dX3_sum_11 rfl (lv_at hl 0 rfl) ?_
      obtain ⟨r_5, h_4, hf⟩ := bd_e hf
      refine k_sign X hW had h_4 (by decide) hl (Nat.le_of_ble_eq_true rfl) dX3_sum_12 (fun H locs hW => ?_)
      refine lv_bipush (v := 43) hx hb dX3_sum_15 (by decide) ?_
      refine lv_icmp_eq (tgt := 29) hx hb dX3_sum_17 (by decide) (fun c_6 => ?_) (fun c_6 => ?_)
      · replace hf := ip hf c_6
        refine lv_aload_n hx hb dX3_sum_29 rfl (lv_at hl 0 rfl) ?_
        obtain ⟨r_8, h_7, hf⟩ := bd_e hf
        refine k_sign X hW had h_7 (by decide) hl (Nat.le_of_ble_eq_true rfl) dX3_sum_30 (fun H locs hW => ?_)
        refine lv_bipush (v := 43) hx hb dX3_sum_33 (by decide) ?_
        obtain ⟨t_9, hD_10, hf⟩ := bd_e hf
        have hJ : ∀ (H : Heap) (locs : List Loc) (ls : Array Slot), WB g A s.heap mIds ad (mE g ad σ) H locs → lv_has ls 2 [(0, .ref (ad 999))] → W p l e (rm_ 9 267) s m args below meth c H locs 0 0 Q (F0 m 43 ls [.int t_9]) := by
          intro H locs ls hW hl
          refine lv_istore_n (lv' := [(1, .int t_9), (0, .ref (ad 999))]) hx hb dX3_sum_43 rfl hl (by decide) rfl (fun ls hl => ?_)
          refine lv_aload_n hx hb dX3_sum_44 rfl (lv_at hl 1 rfl) ?_
          refine lv_dup hx hb dX3_sum_45 rfl ?_
          refine mg_28 X hW dX3_sum_46 ?_
          refine lv_iconst (v := 1) hx hb dX3_sum_49 (by decide) ?_
          refine lv_iadd hx hb dX3_sum_50 ?_
          refine mp_28 X hW dX3_sum_51 (fun H locs hW => ?_)
          refine lv_aload_n hx hb dX3_sum_54 rfl (lv_at hl 1 rfl) ?_
          obtain ⟨σ_12, h_11, hf⟩ := bd_e hf
          refine k_term X hW had h_11 (by decide) hl (Nat.le_of_ble_eq_true rfl) dX3_sum_55 (fun H locs hW => ?_)
          refine lv_aload_n hx hb dX3_sum_58 rfl (lv_at hl 1 rfl) ?_
          refine lv_iload_n hx hb dX3_sum_59 rfl (lv_at hl 0 rfl) ?_
          refine lv_iconst (v := 0) hx hb dX3_sum_60 (by decide) ?_
          obtain ⟨σ_14, h_13, hf⟩ := bd_e hf
          refine k_entry X hW had h_13 (by decide) hl (Nat.le_of_ble_eq_true rfl) dX3_sum_61 (fun H locs hW => ?_)
          refine lv_goto (tgt := 4) hx hb dX3_sum_64 (by decide) ?_
          exact ih _ _ _ _ hW (lv_sub hl [1] rfl) hf
        clear hf
        refine lv_icmp_ne (tgt := 42) hx hb dX3_sum_35 (by decide) (fun c_15 => ?_) (fun c_15 => ?_)
        · replace hD_10 := ine hD_10 c_15
          refine lv_iconst (v := 3) hx hb dX3_sum_42 (by decide) ?_
          cases hD_10
          exact hJ _ _ _ hW (lv_sub hl [0] rfl)
        · replace hD_10 := ip hD_10 c_15
          refine lv_iconst (v := 2) hx hb dX3_sum_38 (by decide) ?_
          refine lv_goto (tgt := 43) hx hb dX3_sum_39 (by decide) ?_
          cases hD_10
          exact hJ _ _ _ hW (lv_sub hl [0] rfl)
      · replace hf := ine hf c_6
        refine lv_aload_n hx hb dX3_sum_20 rfl (lv_at hl 0 rfl) ?_
        obtain ⟨r_17, h_16, hf⟩ := bd_e hf
        refine k_sign X hW had h_16 (by decide) hl (Nat.le_of_ble_eq_true rfl) dX3_sum_21 (fun H locs hW => ?_)
        refine lv_bipush (v := 45) hx hb dX3_sum_24 (by decide) ?_
        refine lv_icmp_ne (tgt := 67) hx hb dX3_sum_26 (by decide) (fun c_18 => ?_) (fun c_18 => ?_)
        · replace hf := ine hf c_18
          exact hK _ _ _ _ hW (lv_sub hl [] rfl) hf
        · replace hf := ip hf c_18
          refine lv_aload_n hx hb dX3_sum_29 rfl (lv_at hl 0 rfl) ?_
          obtain ⟨r_20, h_19, hf⟩ := bd_e hf
          refine k_sign X hW had h_19 (by decide) hl (Nat.le_of_ble_eq_true rfl) dX3_sum_30 (fun H locs hW => ?_)
          refine lv_bipush (v := 43) hx hb dX3_sum_33 (by decide) ?_
          obtain ⟨t_21, hD_22, hf⟩ := bd_e hf
          have hJ : ∀ (H : Heap) (locs : List Loc) (ls : Array Slot), WB g A s.heap mIds ad (mE g ad σ) H locs → lv_has ls 2 [(0, .ref (ad 999))] → W p l e (rm_ 9 267) s m args below meth c H locs 0 0 Q (F0 m 43 ls [.int t_21]) := by
            intro H locs ls hW hl
            refine lv_istore_n (lv' := [(1, .int t_21), (0, .ref (ad 999))]) hx hb dX3_sum_43 rfl hl (by decide) rfl (fun ls hl => ?_)
            refine lv_aload_n hx hb dX3_sum_44 rfl (lv_at hl 1 rfl) ?_
            refine lv_dup hx hb dX3_sum_45 rfl ?_
            refine mg_28 X hW dX3_sum_46 ?_
            refine lv_iconst (v := 1) hx hb dX3_sum_49 (by decide) ?_
            refine lv_iadd hx hb dX3_sum_50 ?_
            refine mp_28 X hW dX3_sum_51 (fun H locs hW => ?_)
            refine lv_aload_n hx hb dX3_sum_54 rfl (lv_at hl 1 rfl) ?_
            obtain ⟨σ_24, h_23, hf⟩ := bd_e hf
            refine k_term X hW had h_23 (by decide) hl (Nat.le_of_ble_eq_true rfl) dX3_sum_55 (fun H locs hW => ?_)
            refine lv_aload_n hx hb dX3_sum_58 rfl (lv_at hl 1 rfl) ?_
            refine lv_iload_n hx hb dX3_sum_59 rfl (lv_at hl 0 rfl) ?_
            refine lv_iconst (v := 0) hx hb dX3_sum_60 (by decide) ?_
            obtain ⟨σ_26, h_25, hf⟩ := bd_e hf
            refine k_entry X hW had h_25 (by decide) hl (Nat.le_of_ble_eq_true rfl) dX3_sum_61 (fun H locs hW => ?_)
            refine lv_goto (tgt := 4) hx hb dX3_sum_64 (by decide) ?_
            exact ih _ _ _ _ hW (lv_sub hl [1] rfl) hf
          clear hf
          refine lv_icmp_ne (tgt := 42) hx hb dX3_sum_35 (by decide) (fun c_27 => ?_) (fun c_27 => ?_)
          · replace hD_22 := ine hD_22 c_27
            refine lv_iconst (v := 3) hx hb dX3_sum_42 (by decide) ?_
            cases hD_22
            exact hJ _ _ _ hW (lv_sub hl [0] rfl)
          · replace hD_22 := ip hD_22 c_27
            refine lv_iconst (v := 2) hx hb dX3_sum_38 (by decide) ?_
            refine lv_goto (tgt := 43) hx hb dX3_sum_39 (by decide) ?_
            cases hD_22
            exact hJ _ _ _ hW (lv_sub hl [0] rfl)
noncomputable def m_sum (σ : cS) : Option (cS) :=
  ((m_term σ).bind fun σ_2 => m_sum_4  (fun σ_28 => (some σ_28)) FU σ_2)
set_option maxHeartbeats 4000000 in
theorem wb_sum {p : Program} {l : Launch} {e : Env} {s : State} {m : MethodId} {args : Array Value} {below : List Frame} {meth : Method} {c : Code} {g : gG} {A : Nat → Prop} {ad : Nat → Nat} (X : MX p s m args meth c cX3_sum 2 RX3 none g A) (had : mI ad) {σr : cS}  {σ : cS}  {H : Heap} {locs : List Loc} {ls : Array Slot} (hW : WB g A s.heap mIds ad (mE g ad σ) H locs) (hl : lv_has ls 2 [(0, .ref (ad 999))]) (hf : m_sum σ = some σr) : W p l e (rm_ 9 267) s m args below meth c H locs 0 0 (Qm below g mIds ad (mE g ad σr) none A args s) (F0 m 0 ls []) := by
  have hx := X.1.1
  have hb := X.1.2.1
  unfold m_sum at hf
  refine lv_aload_n hx hb dX3_sum_0 rfl (lv_at hl 0 rfl) ?_
  obtain ⟨σ_2, h_1, hf⟩ := bd_e hf
  refine k_term X hW had h_1 (by decide) hl (Nat.le_of_ble_eq_true rfl) dX3_sum_1 (fun H locs hW => ?_)
  refine wm_sum_4 X had (fun σ_28 H locs ls hW hl hf => ?_) _ _ _ _ _ hW (lv_sub hl [0] rfl) hf
  exact m_vret X hW hf dX3_sum_67
theorem w_sum (l : Launch) {g : gG} {ad : Nat → Nat} (had : mI ad) {σr : cS}  {σ : cS}  (hf : m_sum σ = some σr) : MM l yX3_sum cX3_sum 2 none 9 267 g ad σ σr [.ref (ad 999)] none :=
  MC.of (by decide) mIds_nd had (Nat.le_of_ble_eq_true rfl) (fun p e s m below meth c A ls X hW hl => wb_sum X had hW hl hf)
theorem k_sum {p : Program} {l : Launch} {e : Env} {R : Room} {s : State} {m : MethodId} {args : Array Value} {below : List Frame} {meth : Method} {c : Code} {H : Heap} {locs : List Loc} {Q : State → Prop} {cc : ByteArray} {nL : Nat} {ret : Option FieldType} {g : gG} {A : Nat → Prop} {ad : Nat → Nat} {pc : Nat} {ls : Array Slot} {rest : List Value} {lv : List (Nat × Value)} {σr : cS}  {σ : cS} (X : MX p s m args meth c cc nL RX3 ret g A) (hW : WB g A s.heap mIds ad (mE g ad σ) H locs) (had : mI ad)  (hf : m_sum σ = some σr) (hR : 10 ≤ R.frames ∧ 288 ≤ R.locals) (hl : lv_has ls nL lv) (hcat : (rest.map fun v => v.category).sum ≤ 8) (hdg : decode cc pc = .ok (.invokevirtual 282, 3)) (kk : ∀ (H1 : Heap) (l1 : List Loc), WB g A s.heap mIds ad (mE g ad σr) H1 l1 → W p l e R s m args below meth c H1 l1 0 0 Q (F0 m (pc + 3) ls (rest))) : W p l e R s m args below meth c H locs 0 0 Q (F0 m pc ls (.ref (ad 999) :: rest)) :=
  r_callV X hW Sub.all (w_sum l had hf) (lw_V q1467 q1469 qs65 q126 q1470) ⟨rfl, by decide, by decide, by decide +kernel⟩ m_999 mE_o rfl (n := 0) hR hl rfl rfl hcat ⟨Nat.zero_le _, Nat.zero_le _⟩ hdg kk
-- takes
noncomputable def m_takes (σ : cS) (v1 : Nat) : Option (cS × Int32) :=
  ((m_blanks σ).bind fun σ_2 => ((m_stood σ_2 v1).bind fun r_4 => if r_4 = 0 then (gd (zb r_4) (some ((si σ_2 999 28 ((σ_2.1 999 28) + 0)), r_4))) else (gd (zb r_4) (some ((si σ_2 999 28 ((σ_2.1 999 28) + (nI (stC v1).length))), r_4)))))
set_option maxHeartbeats 4000000 in
theorem wb_takes {p : Program} {l : Launch} {e : Env} {s : State} {m : MethodId} {args : Array Value} {below : List Frame} {meth : Method} {c : Code} {g : gG} {A : Nat → Prop} {ad : Nat → Nat} (X : MX p s m args meth c cX3_takes 3 RX3 (some .boolean) g A) (had : mI ad) {σr : cS} {r : Int32} {σ : cS} {v1 : Nat} (hs_v1 : v1 < 43) {H : Heap} {locs : List Loc} {ls : Array Slot} (hW : WB g A s.heap mIds ad (mE g ad σ) H locs) (hl : lv_has ls 3 [(0, .ref (ad 999)), (1, .ref (g.2.2.1 v1))]) (hf : m_takes σ v1 = some (σr, r)) : W p l e (rm_ 7 224) s m args below meth c H locs 0 0 (Qm below g mIds ad (mE g ad σr) (some (.int r)) A args s) (F0 m 0 ls []) := by
  have hx := X.1.1
  have hb := X.1.2.1
  unfold m_takes at hf
  refine lv_aload_n hx hb dX3_takes_0 rfl (lv_at hl 0 rfl) ?_
  obtain ⟨σ_2, h_1, hf⟩ := bd_e hf
  refine k_blanks X hW had h_1 (by decide) hl (Nat.le_of_ble_eq_true rfl) dX3_takes_1 (fun H locs hW => ?_)
  refine lv_aload_n hx hb dX3_takes_4 rfl (lv_at hl 0 rfl) ?_
  refine lv_aload_n hx hb dX3_takes_5 rfl (lv_at hl 1 rfl) ?_
  obtain ⟨r_4, h_3, hf⟩ := bd_e hf
  refine k_stood X hW had hs_v1 h_3 (by decide) hl (Nat.le_of_ble_eq_true rfl) dX3_takes_6 (fun H locs hW => ?_)
  refine lv_istore_n (lv' := [(2, .int r_4), (0, .ref (ad 999)), (1, .ref (g.2.2.1 v1))]) hx hb dX3_takes_9 rfl hl (by decide) rfl (fun ls hl => ?_)
  refine lv_aload_n hx hb dX3_takes_10 rfl (lv_at hl 1 rfl) ?_
  refine lv_dup hx hb dX3_takes_11 rfl ?_
  refine mg_28 X hW dX3_takes_12 ?_
  refine lv_iload_n hx hb dX3_takes_15 rfl (lv_at hl 0 rfl) ?_
  refine lv_if_eq (tgt := 26) hx hb dX3_takes_16 (by decide) (fun c_5 => ?_) (fun c_5 => ?_)
  · replace hf := ip hf c_5
    refine lv_iconst (v := 0) hx hb dX3_takes_26 (by decide) ?_
    refine lv_iadd hx hb dX3_takes_27 ?_
    refine mp_28 X hW dX3_takes_28 (fun H locs hW => ?_)
    refine lv_iload_n hx hb dX3_takes_31 rfl (lv_at hl 0 rfl) ?_
    obtain ⟨h_6, hf⟩ := gd_e hf
    exact m_zret X hW hf h_6 dX3_takes_32
  · replace hf := ine hf c_5
    refine lv_aload_n hx hb dX3_takes_19 rfl (lv_at hl 2 rfl) ?_
    refine k_slen X hW hs_v1 (by decide) hl (Nat.le_of_ble_eq_true rfl) q1403 dX3_takes_20 (fun H locs hW => ?_)
    refine lv_goto (tgt := 27) hx hb dX3_takes_23 (by decide) ?_
    refine lv_iadd hx hb dX3_takes_27 ?_
    refine mp_28 X hW dX3_takes_28 (fun H locs hW => ?_)
    refine lv_iload_n hx hb dX3_takes_31 rfl (lv_at hl 0 rfl) ?_
    obtain ⟨h_7, hf⟩ := gd_e hf
    exact m_zret X hW hf h_7 dX3_takes_32
theorem w_takes (l : Launch) {g : gG} {ad : Nat → Nat} (had : mI ad) {σr : cS} {r : Int32} {σ : cS} {v1 : Nat} (hs_v1 : v1 < 43) (hf : m_takes σ v1 = some (σr, r)) : MM l yX3_takes cX3_takes 3 (some .boolean) 7 224 g ad σ σr [.ref (ad 999), .ref (g.2.2.1 v1)] (some (.int r)) :=
  MC.of (by decide) mIds_nd had (Nat.le_of_ble_eq_true rfl) (fun p e s m below meth c A ls X hW hl => wb_takes X had hs_v1 hW hl hf)
theorem k_takes {p : Program} {l : Launch} {e : Env} {R : Room} {s : State} {m : MethodId} {args : Array Value} {below : List Frame} {meth : Method} {c : Code} {H : Heap} {locs : List Loc} {Q : State → Prop} {cc : ByteArray} {nL : Nat} {ret : Option FieldType} {g : gG} {A : Nat → Prop} {ad : Nat → Nat} {pc : Nat} {ls : Array Slot} {rest : List Value} {lv : List (Nat × Value)} {σr : cS} {r : Int32} {σ : cS} {v1 : Nat} (X : MX p s m args meth c cc nL RX3 ret g A) (hW : WB g A s.heap mIds ad (mE g ad σ) H locs) (had : mI ad) (hs_v1 : v1 < 43) (hf : m_takes σ v1 = some (σr, r)) (hR : 8 ≤ R.frames ∧ 246 ≤ R.locals) (hl : lv_has ls nL lv) (hcat : (rest.map fun v => v.category).sum ≤ 8) (hdg : decode cc pc = .ok (.invokevirtual 368, 3)) (kk : ∀ (H1 : Heap) (l1 : List Loc), WB g A s.heap mIds ad (mE g ad σr) H1 l1 → W p l e R s m args below meth c H1 l1 0 0 Q (F0 m (pc + 3) ls (.int r :: rest))) : W p l e R s m args below meth c H locs 0 0 Q (F0 m pc ls (.ref (g.2.2.1 v1) :: .ref (ad 999) :: rest)) :=
  r_callV X hW Sub.all (w_takes l had hs_v1 hf) (lw_V q1501 q1503 qs70 q126 q1504) ⟨rfl, by decide, by decide, by decide +kernel⟩ m_999 mE_o rfl (n := 1) hR hl rfl rfl hcat ⟨Nat.zero_le _, Nat.zero_le _⟩ hdg kk
-- opens
noncomputable def m_opens (σ : cS) (v1 : Int32) : Option (cS) :=
  ((if v1 = 9 then (((if (σ.1 999 33) = 10 then (((m_fails σ 2 (σ.1 999 28)).bind fun σ_11 => some (σ_11))) else (some (σ)) : Option (cS)).bind fun σ_7 => (some ((si σ_7 999 33 ((σ_7.1 999 33) + 1)))))) else (if v1 = 12 then (((if (σ.1 999 33) = 10 then (((m_fails σ 2 (σ.1 999 28)).bind fun σ_17 => some (σ_17))) else (some (σ)) : Option (cS)).bind fun σ_13 => (some ((si σ_13 999 33 ((σ_13.1 999 33) + 1)))))) else (some (σ))) : Option (cS)).bind fun σ_1 => (gd (inb (σ_1.1 999 35) 402) (nmb (si σ_1 44 (ix (σ_1.1 999 35)) v1) fun σ_4 => (some (si σ_4 999 35 (((si σ_1 44 (ix (σ_1.1 999 35)) v1).1 999 35) + 1))))))
set_option maxHeartbeats 4000000 in
theorem wb_opens {p : Program} {l : Launch} {e : Env} {s : State} {m : MethodId} {args : Array Value} {below : List Frame} {meth : Method} {c : Code} {g : gG} {A : Nat → Prop} {ad : Nat → Nat} (X : MX p s m args meth c cX3_opens 2 RX3 none g A) (had : mI ad) {σr : cS}  {σ : cS} {v1 : Int32}  {H : Heap} {locs : List Loc} {ls : Array Slot} (hW : WB g A s.heap mIds ad (mE g ad σ) H locs) (hl : lv_has ls 2 [(0, .ref (ad 999)), (1, .int v1)]) (hf : m_opens σ v1 = some σr) : W p l e (rm_ 2 42) s m args below meth c H locs 0 0 (Qm below g mIds ad (mE g ad σr) none A args s) (F0 m 0 ls []) := by
  have hx := X.1.1
  have hb := X.1.2.1
  unfold m_opens at hf
  refine lv_iload_n hx hb dX3_opens_0 rfl (lv_at hl 1 rfl) ?_
  refine lv_bipush (v := 9) hx hb dX3_opens_1 (by decide) ?_
  obtain ⟨σ_1, hD_2, hf⟩ := bd_e hf
  have hJ : ∀ (H : Heap) (locs : List Loc) (ls : Array Slot), WB g A s.heap mIds ad (mE g ad σ_1) H locs → lv_has ls 2 [(0, .ref (ad 999)), (1, .int v1)] → W p l e (rm_ 2 42) s m args below meth c H locs 0 0 (Qm below g mIds ad (mE g ad σr) none A args s) (F0 m 40 ls []) := by
    intro H locs ls hW hl
    refine lv_aload_n hx hb dX3_opens_40 rfl (lv_at hl 0 rfl) ?_
    refine mg_44 X hW dX3_opens_41 ?_
    refine lv_aload_n hx hb dX3_opens_44 rfl (lv_at hl 0 rfl) ?_
    refine mg_35 X hW dX3_opens_45 ?_
    refine lv_iload_n hx hb dX3_opens_48 rfl (lv_at hl 1 rfl) ?_
    obtain ⟨h_3, hf⟩ := gd_e hf
    refine ms_44 X hW h_3 dX3_opens_49 (fun H locs hW => ?_)
    refine lv_aload_n hx hb dX3_opens_50 rfl (lv_at hl 0 rfl) ?_
    refine lv_dup hx hb dX3_opens_51 rfl ?_
    refine mg_35 X hW dX3_opens_52 ?_
    refine lv_iconst (v := 1) hx hb dX3_opens_55 (by decide) ?_
    refine lv_iadd hx hb dX3_opens_56 ?_
    obtain ⟨σ_4, e_5, hf⟩ := nmb_e hf
    rw [← e_5] at hW
    clear e_5
    refine mp_35 X hW dX3_opens_57 (fun H locs hW => ?_)
    exact m_vret X hW hf dX3_opens_60
  clear hf
  refine lv_icmp_eq (tgt := 12) hx hb dX3_opens_3 (by decide) (fun c_6 => ?_) (fun c_6 => ?_)
  · replace hD_2 := ip hD_2 c_6
    refine lv_aload_n hx hb dX3_opens_12 rfl (lv_at hl 0 rfl) ?_
    refine mg_33 X hW dX3_opens_13 ?_
    refine lv_bipush (v := 10) hx hb dX3_opens_16 (by decide) ?_
    obtain ⟨σ_7, hD_8, hD_2⟩ := bd_e hD_2
    have hJ : ∀ (H : Heap) (locs : List Loc) (ls : Array Slot), WB g A s.heap mIds ad (mE g ad σ_7) H locs → lv_has ls 2 [(0, .ref (ad 999)), (1, .int v1)] → W p l e (rm_ 2 42) s m args below meth c H locs 0 0 (Qm below g mIds ad (mE g ad σr) none A args s) (F0 m 30 ls []) := by
      intro H locs ls hW hl
      refine lv_aload_n hx hb dX3_opens_30 rfl (lv_at hl 0 rfl) ?_
      refine lv_dup hx hb dX3_opens_31 rfl ?_
      refine mg_33 X hW dX3_opens_32 ?_
      refine lv_iconst (v := 1) hx hb dX3_opens_35 (by decide) ?_
      refine lv_iadd hx hb dX3_opens_36 ?_
      refine mp_33 X hW dX3_opens_37 (fun H locs hW => ?_)
      cases hD_2
      exact hJ _ _ _ hW (lv_sub hl [0, 1] rfl)
    clear hD_2
    refine lv_icmp_ne (tgt := 30) hx hb dX3_opens_18 (by decide) (fun c_9 => ?_) (fun c_9 => ?_)
    · replace hD_8 := ine hD_8 c_9
      cases hD_8
      exact hJ _ _ _ hW (lv_sub hl [0, 1] rfl)
    · replace hD_8 := ip hD_8 c_9
      refine lv_aload_n hx hb dX3_opens_21 rfl (lv_at hl 0 rfl) ?_
      refine lv_iconst (v := 2) hx hb dX3_opens_22 (by decide) ?_
      refine lv_aload_n hx hb dX3_opens_23 rfl (lv_at hl 0 rfl) ?_
      refine mg_28 X hW dX3_opens_24 ?_
      obtain ⟨σ_11, h_10, hD_8⟩ := bd_e hD_8
      refine k_fails X hW had h_10 (by decide) hl (Nat.le_of_ble_eq_true rfl) dX3_opens_27 (fun H locs hW => ?_)
      cases hD_8
      exact hJ _ _ _ hW (lv_sub hl [0, 1] rfl)
  · replace hD_2 := ine hD_2 c_6
    refine lv_iload_n hx hb dX3_opens_6 rfl (lv_at hl 1 rfl) ?_
    refine lv_bipush (v := 12) hx hb dX3_opens_7 (by decide) ?_
    refine lv_icmp_ne (tgt := 40) hx hb dX3_opens_9 (by decide) (fun c_12 => ?_) (fun c_12 => ?_)
    · replace hD_2 := ine hD_2 c_12
      cases hD_2
      exact hJ _ _ _ hW (lv_sub hl [0, 1] rfl)
    · replace hD_2 := ip hD_2 c_12
      refine lv_aload_n hx hb dX3_opens_12 rfl (lv_at hl 0 rfl) ?_
      refine mg_33 X hW dX3_opens_13 ?_
      refine lv_bipush (v := 10) hx hb dX3_opens_16 (by decide) ?_
      obtain ⟨σ_13, hD_14, hD_2⟩ := bd_e hD_2
      have hJ : ∀ (H : Heap) (locs : List Loc) (ls : Array Slot), WB g A s.heap mIds ad (mE g ad σ_13) H locs → lv_has ls 2 [(0, .ref (ad 999)), (1, .int v1)] → W p l e (rm_ 2 42) s m args below meth c H locs 0 0 (Qm below g mIds ad (mE g ad σr) none A args s) (F0 m 30 ls []) := by
        intro H locs ls hW hl
        refine lv_aload_n hx hb dX3_opens_30 rfl (lv_at hl 0 rfl) ?_
        refine lv_dup hx hb dX3_opens_31 rfl ?_
        refine mg_33 X hW dX3_opens_32 ?_
        refine lv_iconst (v := 1) hx hb dX3_opens_35 (by decide) ?_
        refine lv_iadd hx hb dX3_opens_36 ?_
        refine mp_33 X hW dX3_opens_37 (fun H locs hW => ?_)
        cases hD_2
        exact hJ _ _ _ hW (lv_sub hl [0, 1] rfl)
      clear hD_2
      refine lv_icmp_ne (tgt := 30) hx hb dX3_opens_18 (by decide) (fun c_15 => ?_) (fun c_15 => ?_)
      · replace hD_14 := ine hD_14 c_15
        cases hD_14
        exact hJ _ _ _ hW (lv_sub hl [0, 1] rfl)
      · replace hD_14 := ip hD_14 c_15
        refine lv_aload_n hx hb dX3_opens_21 rfl (lv_at hl 0 rfl) ?_
        refine lv_iconst (v := 2) hx hb dX3_opens_22 (by decide) ?_
        refine lv_aload_n hx hb dX3_opens_23 rfl (lv_at hl 0 rfl) ?_
        refine mg_28 X hW dX3_opens_24 ?_
        obtain ⟨σ_17, h_16, hD_14⟩ := bd_e hD_14
        refine k_fails X hW had h_16 (by decide) hl (Nat.le_of_ble_eq_true rfl) dX3_opens_27 (fun H locs hW => ?_)
        cases hD_14
        exact hJ _ _ _ hW (lv_sub hl [0, 1] rfl)
theorem w_opens (l : Launch) {g : gG} {ad : Nat → Nat} (had : mI ad) {σr : cS}  {σ : cS} {v1 : Int32}  (hf : m_opens σ v1 = some σr) : MM l yX3_opens cX3_opens 2 none 2 42 g ad σ σr [.ref (ad 999), .int v1] none :=
  MC.of (by decide) mIds_nd had (Nat.le_of_ble_eq_true rfl) (fun p e s m below meth c A ls X hW hl => wb_opens X had hW hl hf)
theorem k_opens {p : Program} {l : Launch} {e : Env} {R : Room} {s : State} {m : MethodId} {args : Array Value} {below : List Frame} {meth : Method} {c : Code} {H : Heap} {locs : List Loc} {Q : State → Prop} {cc : ByteArray} {nL : Nat} {ret : Option FieldType} {g : gG} {A : Nat → Prop} {ad : Nat → Nat} {pc : Nat} {ls : Array Slot} {rest : List Value} {lv : List (Nat × Value)} {σr : cS}  {σ : cS} {v1 : Int32} (X : MX p s m args meth c cc nL RX3 ret g A) (hW : WB g A s.heap mIds ad (mE g ad σ) H locs) (had : mI ad)  (hf : m_opens σ v1 = some σr) (hR : 3 ≤ R.frames ∧ 63 ≤ R.locals) (hl : lv_has ls nL lv) (hcat : (rest.map fun v => v.category).sum ≤ 8) (hdg : decode cc pc = .ok (.invokevirtual 296, 3)) (kk : ∀ (H1 : Heap) (l1 : List Loc), WB g A s.heap mIds ad (mE g ad σr) H1 l1 → W p l e R s m args below meth c H1 l1 0 0 Q (F0 m (pc + 3) ls (rest))) : W p l e R s m args below meth c H locs 0 0 Q (F0 m pc ls (.int v1 :: .ref (ad 999) :: rest)) :=
  r_callV X hW Sub.all (w_opens l had hf) (lw_V q1514 q1516 qs73 q126 q1517) ⟨rfl, by decide, by decide, by decide +kernel⟩ m_999 mE_o rfl (n := 1) hR hl rfl rfl hcat ⟨Nat.zero_le _, Nat.zero_le _⟩ hdg kk
-- compared
noncomputable def m_compared (σ : cS) : Option (cS) :=
  ((m_sum σ).bind fun σ_2 => ((m_sign σ_2).bind fun r_4 => if r_4 = 60 then (((m_isCounted σ_2 (σ_2.1 999 28)).bind fun σ_7 => ((if r_4 = 61 then (some (0)) else (((m_sign (si σ_7 999 28 ((σ_7.1 999 28) + 1))).bind fun r_33 => if r_33 = 61 then (some (1)) else (some (0)))) : Option (Int32)).bind fun t_8 => (((if t_8 = 0 then (some (0)) else (some (1)) : Option (Int32)).bind fun t_10 => (nmb (si σ_7 999 28 ((σ_7.1 999 28) + 1)) fun σ_12 => (((m_sum (si σ_12 999 28 (((si σ_7 999 28 ((σ_7.1 999 28) + 1)).1 999 28) + t_10))).bind fun σ_15 => if r_4 = 61 then (((m_entry σ_15 6 0).bind fun σ_29 => some σ_29)) else (if r_4 = 60 then (if t_8 = 0 then (((m_entry σ_15 4 0).bind fun σ_25 => some σ_25)) else (((m_entry σ_15 5 0).bind fun σ_27 => some σ_27))) else (if t_8 = 0 then (((m_entry σ_15 8 0).bind fun σ_20 => some σ_20)) else (((m_entry σ_15 7 0).bind fun σ_22 => some σ_22)))))))))))) else (if r_4 = 61 then (((m_isCounted σ_2 (σ_2.1 999 28)).bind fun σ_37 => ((if r_4 = 61 then (some (0)) else (((m_sign (si σ_37 999 28 ((σ_37.1 999 28) + 1))).bind fun r_63 => if r_63 = 61 then (some (1)) else (some (0)))) : Option (Int32)).bind fun t_38 => (((if t_38 = 0 then (some (0)) else (some (1)) : Option (Int32)).bind fun t_40 => (nmb (si σ_37 999 28 ((σ_37.1 999 28) + 1)) fun σ_42 => (((m_sum (si σ_42 999 28 (((si σ_37 999 28 ((σ_37.1 999 28) + 1)).1 999 28) + t_40))).bind fun σ_45 => if r_4 = 61 then (((m_entry σ_45 6 0).bind fun σ_59 => some σ_59)) else (if r_4 = 60 then (if t_38 = 0 then (((m_entry σ_45 4 0).bind fun σ_55 => some σ_55)) else (((m_entry σ_45 5 0).bind fun σ_57 => some σ_57))) else (if t_38 = 0 then (((m_entry σ_45 8 0).bind fun σ_50 => some σ_50)) else (((m_entry σ_45 7 0).bind fun σ_52 => some σ_52)))))))))))) else (if r_4 = 62 then (((m_isCounted σ_2 (σ_2.1 999 28)).bind fun σ_67 => ((if r_4 = 61 then (some (0)) else (((m_sign (si σ_67 999 28 ((σ_67.1 999 28) + 1))).bind fun r_93 => if r_93 = 61 then (some (1)) else (some (0)))) : Option (Int32)).bind fun t_68 => (((if t_68 = 0 then (some (0)) else (some (1)) : Option (Int32)).bind fun t_70 => (nmb (si σ_67 999 28 ((σ_67.1 999 28) + 1)) fun σ_72 => (((m_sum (si σ_72 999 28 (((si σ_67 999 28 ((σ_67.1 999 28) + 1)).1 999 28) + t_70))).bind fun σ_75 => if r_4 = 61 then (((m_entry σ_75 6 0).bind fun σ_89 => some σ_89)) else (if r_4 = 60 then (if t_68 = 0 then (((m_entry σ_75 4 0).bind fun σ_85 => some σ_85)) else (((m_entry σ_75 5 0).bind fun σ_87 => some σ_87))) else (if t_68 = 0 then (((m_entry σ_75 8 0).bind fun σ_80 => some σ_80)) else (((m_entry σ_75 7 0).bind fun σ_82 => some σ_82)))))))))))) else (((m_fails σ_2 0 (σ_2.1 999 28)).bind fun σ_96 => some σ_96))))))
set_option maxHeartbeats 4000000 in
theorem wb_compared {p : Program} {l : Launch} {e : Env} {s : State} {m : MethodId} {args : Array Value} {below : List Frame} {meth : Method} {c : Code} {g : gG} {A : Nat → Prop} {ad : Nat → Nat} (X : MX p s m args meth c cX3_compared 3 RX3 none g A) (had : mI ad) {σr : cS}  {σ : cS}  {H : Heap} {locs : List Loc} {ls : Array Slot} (hW : WB g A s.heap mIds ad (mE g ad σ) H locs) (hl : lv_has ls 3 [(0, .ref (ad 999))]) (hf : m_compared σ = some σr) : W p l e (rm_ 10 288) s m args below meth c H locs 0 0 (Qm below g mIds ad (mE g ad σr) none A args s) (F0 m 0 ls []) := by
  have hx := X.1.1
  have hb := X.1.2.1
  unfold m_compared at hf
  refine lv_aload_n hx hb dX3_compared_0 rfl (lv_at hl 0 rfl) ?_
  obtain ⟨σ_2, h_1, hf⟩ := bd_e hf
  refine k_sum X hW had h_1 (by decide) hl (Nat.le_of_ble_eq_true rfl) dX3_compared_1 (fun H locs hW => ?_)
  refine lv_aload_n hx hb dX3_compared_4 rfl (lv_at hl 0 rfl) ?_
  obtain ⟨r_4, h_3, hf⟩ := bd_e hf
  refine k_sign X hW had h_3 (by decide) hl (Nat.le_of_ble_eq_true rfl) dX3_compared_5 (fun H locs hW => ?_)
  refine lv_istore_n (lv' := [(1, .int r_4), (0, .ref (ad 999))]) hx hb dX3_compared_8 rfl hl (by decide) rfl (fun ls hl => ?_)
  refine lv_iload_n hx hb dX3_compared_9 rfl (lv_at hl 0 rfl) ?_
  refine lv_bipush (v := 60) hx hb dX3_compared_10 (by decide) ?_
  refine lv_icmp_eq (tgt := 37) hx hb dX3_compared_12 (by decide) (fun c_5 => ?_) (fun c_5 => ?_)
  · replace hf := ip hf c_5
    refine lv_aload_n hx hb dX3_compared_37 rfl (lv_at hl 1 rfl) ?_
    refine lv_aload_n hx hb dX3_compared_38 rfl (lv_at hl 1 rfl) ?_
    refine mg_28 X hW dX3_compared_39 ?_
    obtain ⟨σ_7, h_6, hf⟩ := bd_e hf
    refine k_isCounted X hW had h_6 (by decide) hl (Nat.le_of_ble_eq_true rfl) dX3_compared_42 (fun H locs hW => ?_)
    refine lv_aload_n hx hb dX3_compared_45 rfl (lv_at hl 1 rfl) ?_
    refine lv_dup hx hb dX3_compared_46 rfl ?_
    refine mg_28 X hW dX3_compared_47 ?_
    refine lv_iconst (v := 1) hx hb dX3_compared_50 (by decide) ?_
    refine lv_iadd hx hb dX3_compared_51 ?_
    refine mp_28 X hW dX3_compared_52 (fun H locs hW => ?_)
    refine lv_iload_n hx hb dX3_compared_55 rfl (lv_at hl 0 rfl) ?_
    refine lv_bipush (v := 61) hx hb dX3_compared_56 (by decide) ?_
    obtain ⟨t_8, hD_9, hf⟩ := bd_e hf
    have hJ : ∀ (H : Heap) (locs : List Loc) (ls : Array Slot), WB g A s.heap mIds ad (mE g ad (si σ_7 999 28 ((σ_7.1 999 28) + 1))) H locs → lv_has ls 3 [(0, .ref (ad 999)), (1, .int r_4)] → W p l e (rm_ 10 288) s m args below meth c H locs 0 0 (Qm below g mIds ad (mE g ad σr) none A args s) (F0 m 75 ls [.int t_8]) := by
      intro H locs ls hW hl
      refine lv_istore_n (lv' := [(2, .int t_8), (0, .ref (ad 999)), (1, .int r_4)]) hx hb dX3_compared_75 rfl hl (by decide) rfl (fun ls hl => ?_)
      refine lv_aload_n hx hb dX3_compared_76 rfl (lv_at hl 1 rfl) ?_
      refine lv_dup hx hb dX3_compared_77 rfl ?_
      refine mg_28 X hW dX3_compared_78 ?_
      refine lv_iload_n hx hb dX3_compared_81 rfl (lv_at hl 0 rfl) ?_
      obtain ⟨t_10, hD_11, hf⟩ := bd_e hf
      have hJ : ∀ (H : Heap) (locs : List Loc) (ls : Array Slot), WB g A s.heap mIds ad (mE g ad (si σ_7 999 28 ((σ_7.1 999 28) + 1))) H locs → lv_has ls 3 [(0, .ref (ad 999)), (1, .int r_4), (2, .int t_8)] → W p l e (rm_ 10 288) s m args below meth c H locs 0 0 (Qm below g mIds ad (mE g ad σr) none A args s) (F0 m 90 ls [.int t_10, .int ((si σ_7 999 28 ((σ_7.1 999 28) + 1)).1 999 28), .ref (ad 999)]) := by
        intro H locs ls hW hl
        refine lv_iadd hx hb dX3_compared_90 ?_
        obtain ⟨σ_12, e_13, hf⟩ := nmb_e hf
        rw [← e_13] at hW
        clear e_13
        refine mp_28 X hW dX3_compared_91 (fun H locs hW => ?_)
        refine lv_aload_n hx hb dX3_compared_94 rfl (lv_at hl 0 rfl) ?_
        obtain ⟨σ_15, h_14, hf⟩ := bd_e hf
        refine k_sum X hW had h_14 (by decide) hl (Nat.le_of_ble_eq_true rfl) dX3_compared_95 (fun H locs hW => ?_)
        refine lv_aload_n hx hb dX3_compared_98 rfl (lv_at hl 0 rfl) ?_
        refine lv_iload_n hx hb dX3_compared_99 rfl (lv_at hl 1 rfl) ?_
        refine lv_bipush (v := 61) hx hb dX3_compared_100 (by decide) ?_
        refine lv_icmp_ne (tgt := 110) hx hb dX3_compared_102 (by decide) (fun c_16 => ?_) (fun c_16 => ?_)
        · replace hf := ine hf c_16
          refine lv_iload_n hx hb dX3_compared_110 rfl (lv_at hl 1 rfl) ?_
          refine lv_bipush (v := 60) hx hb dX3_compared_111 (by decide) ?_
          refine lv_icmp_ne (tgt := 128) hx hb dX3_compared_113 (by decide) (fun c_17 => ?_) (fun c_17 => ?_)
          · replace hf := ine hf c_17
            refine lv_iload_n hx hb dX3_compared_128 rfl (lv_at hl 2 rfl) ?_
            refine lv_if_eq (tgt := 137) hx hb dX3_compared_129 (by decide) (fun c_18 => ?_) (fun c_18 => ?_)
            · replace hf := ip hf c_18
              refine lv_bipush (v := 8) hx hb dX3_compared_137 (by decide) ?_
              refine lv_iconst (v := 0) hx hb dX3_compared_139 (by decide) ?_
              obtain ⟨σ_20, h_19, hf⟩ := bd_e hf
              refine k_entry X hW had h_19 (by decide) hl (Nat.le_of_ble_eq_true rfl) dX3_compared_140 (fun H locs hW => ?_)
              exact m_vret X hW hf dX3_compared_143
            · replace hf := ine hf c_18
              refine lv_bipush (v := 7) hx hb dX3_compared_132 (by decide) ?_
              refine lv_goto (tgt := 139) hx hb dX3_compared_134 (by decide) ?_
              refine lv_iconst (v := 0) hx hb dX3_compared_139 (by decide) ?_
              obtain ⟨σ_22, h_21, hf⟩ := bd_e hf
              refine k_entry X hW had h_21 (by decide) hl (Nat.le_of_ble_eq_true rfl) dX3_compared_140 (fun H locs hW => ?_)
              exact m_vret X hW hf dX3_compared_143
          · replace hf := ip hf c_17
            refine lv_iload_n hx hb dX3_compared_116 rfl (lv_at hl 2 rfl) ?_
            refine lv_if_eq (tgt := 124) hx hb dX3_compared_117 (by decide) (fun c_23 => ?_) (fun c_23 => ?_)
            · replace hf := ip hf c_23
              refine lv_iconst (v := 4) hx hb dX3_compared_124 (by decide) ?_
              refine lv_goto (tgt := 139) hx hb dX3_compared_125 (by decide) ?_
              refine lv_iconst (v := 0) hx hb dX3_compared_139 (by decide) ?_
              obtain ⟨σ_25, h_24, hf⟩ := bd_e hf
              refine k_entry X hW had h_24 (by decide) hl (Nat.le_of_ble_eq_true rfl) dX3_compared_140 (fun H locs hW => ?_)
              exact m_vret X hW hf dX3_compared_143
            · replace hf := ine hf c_23
              refine lv_iconst (v := 5) hx hb dX3_compared_120 (by decide) ?_
              refine lv_goto (tgt := 139) hx hb dX3_compared_121 (by decide) ?_
              refine lv_iconst (v := 0) hx hb dX3_compared_139 (by decide) ?_
              obtain ⟨σ_27, h_26, hf⟩ := bd_e hf
              refine k_entry X hW had h_26 (by decide) hl (Nat.le_of_ble_eq_true rfl) dX3_compared_140 (fun H locs hW => ?_)
              exact m_vret X hW hf dX3_compared_143
        · replace hf := ip hf c_16
          refine lv_bipush (v := 6) hx hb dX3_compared_105 (by decide) ?_
          refine lv_goto (tgt := 139) hx hb dX3_compared_107 (by decide) ?_
          refine lv_iconst (v := 0) hx hb dX3_compared_139 (by decide) ?_
          obtain ⟨σ_29, h_28, hf⟩ := bd_e hf
          refine k_entry X hW had h_28 (by decide) hl (Nat.le_of_ble_eq_true rfl) dX3_compared_140 (fun H locs hW => ?_)
          exact m_vret X hW hf dX3_compared_143
      clear hf
      refine lv_if_eq (tgt := 89) hx hb dX3_compared_82 (by decide) (fun c_30 => ?_) (fun c_30 => ?_)
      · replace hD_11 := ip hD_11 c_30
        refine lv_iconst (v := 0) hx hb dX3_compared_89 (by decide) ?_
        cases hD_11
        exact hJ _ _ _ hW (lv_sub hl [1, 2, 0] rfl)
      · replace hD_11 := ine hD_11 c_30
        refine lv_iconst (v := 1) hx hb dX3_compared_85 (by decide) ?_
        refine lv_goto (tgt := 90) hx hb dX3_compared_86 (by decide) ?_
        cases hD_11
        exact hJ _ _ _ hW (lv_sub hl [1, 2, 0] rfl)
    clear hf
    refine lv_icmp_eq (tgt := 74) hx hb dX3_compared_58 (by decide) (fun c_31 => ?_) (fun c_31 => ?_)
    · replace hD_9 := ip hD_9 c_31
      refine lv_iconst (v := 0) hx hb dX3_compared_74 (by decide) ?_
      cases hD_9
      exact hJ _ _ _ hW (lv_sub hl [1, 0] rfl)
    · replace hD_9 := ine hD_9 c_31
      refine lv_aload_n hx hb dX3_compared_61 rfl (lv_at hl 1 rfl) ?_
      obtain ⟨r_33, h_32, hD_9⟩ := bd_e hD_9
      refine k_sign X hW had h_32 (by decide) hl (Nat.le_of_ble_eq_true rfl) dX3_compared_62 (fun H locs hW => ?_)
      refine lv_bipush (v := 61) hx hb dX3_compared_65 (by decide) ?_
      refine lv_icmp_ne (tgt := 74) hx hb dX3_compared_67 (by decide) (fun c_34 => ?_) (fun c_34 => ?_)
      · replace hD_9 := ine hD_9 c_34
        refine lv_iconst (v := 0) hx hb dX3_compared_74 (by decide) ?_
        cases hD_9
        exact hJ _ _ _ hW (lv_sub hl [1, 0] rfl)
      · replace hD_9 := ip hD_9 c_34
        refine lv_iconst (v := 1) hx hb dX3_compared_70 (by decide) ?_
        refine lv_goto (tgt := 75) hx hb dX3_compared_71 (by decide) ?_
        cases hD_9
        exact hJ _ _ _ hW (lv_sub hl [1, 0] rfl)
  · replace hf := ine hf c_5
    refine lv_iload_n hx hb dX3_compared_15 rfl (lv_at hl 0 rfl) ?_
    refine lv_bipush (v := 61) hx hb dX3_compared_16 (by decide) ?_
    refine lv_icmp_eq (tgt := 37) hx hb dX3_compared_18 (by decide) (fun c_35 => ?_) (fun c_35 => ?_)
    · replace hf := ip hf c_35
      refine lv_aload_n hx hb dX3_compared_37 rfl (lv_at hl 1 rfl) ?_
      refine lv_aload_n hx hb dX3_compared_38 rfl (lv_at hl 1 rfl) ?_
      refine mg_28 X hW dX3_compared_39 ?_
      obtain ⟨σ_37, h_36, hf⟩ := bd_e hf
      refine k_isCounted X hW had h_36 (by decide) hl (Nat.le_of_ble_eq_true rfl) dX3_compared_42 (fun H locs hW => ?_)
      refine lv_aload_n hx hb dX3_compared_45 rfl (lv_at hl 1 rfl) ?_
      refine lv_dup hx hb dX3_compared_46 rfl ?_
      refine mg_28 X hW dX3_compared_47 ?_
      refine lv_iconst (v := 1) hx hb dX3_compared_50 (by decide) ?_
      refine lv_iadd hx hb dX3_compared_51 ?_
      refine mp_28 X hW dX3_compared_52 (fun H locs hW => ?_)
      refine lv_iload_n hx hb dX3_compared_55 rfl (lv_at hl 0 rfl) ?_
      refine lv_bipush (v := 61) hx hb dX3_compared_56 (by decide) ?_
      obtain ⟨t_38, hD_39, hf⟩ := bd_e hf
      have hJ : ∀ (H : Heap) (locs : List Loc) (ls : Array Slot), WB g A s.heap mIds ad (mE g ad (si σ_37 999 28 ((σ_37.1 999 28) + 1))) H locs → lv_has ls 3 [(0, .ref (ad 999)), (1, .int r_4)] → W p l e (rm_ 10 288) s m args below meth c H locs 0 0 (Qm below g mIds ad (mE g ad σr) none A args s) (F0 m 75 ls [.int t_38]) := by
        intro H locs ls hW hl
        refine lv_istore_n (lv' := [(2, .int t_38), (0, .ref (ad 999)), (1, .int r_4)]) hx hb dX3_compared_75 rfl hl (by decide) rfl (fun ls hl => ?_)
        refine lv_aload_n hx hb dX3_compared_76 rfl (lv_at hl 1 rfl) ?_
        refine lv_dup hx hb dX3_compared_77 rfl ?_
        refine mg_28 X hW dX3_compared_78 ?_
        refine lv_iload_n hx hb dX3_compared_81 rfl (lv_at hl 0 rfl) ?_
        obtain ⟨t_40, hD_41, hf⟩ := bd_e hf
        have hJ : ∀ (H : Heap) (locs : List Loc) (ls : Array Slot), WB g A s.heap mIds ad (mE g ad (si σ_37 999 28 ((σ_37.1 999 28) + 1))) H locs → lv_has ls 3 [(0, .ref (ad 999)), (1, .int r_4), (2, .int t_38)] → W p l e (rm_ 10 288) s m args below meth c H locs 0 0 (Qm below g mIds ad (mE g ad σr) none A args s) (F0 m 90 ls [.int t_40, .int ((si σ_37 999 28 ((σ_37.1 999 28) + 1)).1 999 28), .ref (ad 999)]) := by
          intro H locs ls hW hl
          refine lv_iadd hx hb dX3_compared_90 ?_
          obtain ⟨σ_42, e_43, hf⟩ := nmb_e hf
          rw [← e_43] at hW
          clear e_43
          refine mp_28 X hW dX3_compared_91 (fun H locs hW => ?_)
          refine lv_aload_n hx hb dX3_compared_94 rfl (lv_at hl 0 rfl) ?_
          obtain ⟨σ_45, h_44, hf⟩ := bd_e hf
          refine k_sum X hW had h_44 (by decide) hl (Nat.le_of_ble_eq_true rfl) dX3_compared_95 (fun H locs hW => ?_)
          refine lv_aload_n hx hb dX3_compared_98 rfl (lv_at hl 0 rfl) ?_
          refine lv_iload_n hx hb dX3_compared_99 rfl (lv_at hl 1 rfl) ?_
          refine lv_bipush (v := 61) hx hb dX3_compared_100 (by decide) ?_
          refine lv_icmp_ne (tgt := 110) hx hb dX3_compared_102 (by decide) (fun c_46 => ?_) (fun c_46 => ?_)
          · replace hf := ine hf c_46
            refine lv_iload_n hx hb dX3_compared_110 rfl (lv_at hl 1 rfl) ?_
            refine lv_bipush (v := 60) hx hb dX3_compared_111 (by decide) ?_
            refine lv_icmp_ne (tgt := 128) hx hb dX3_compared_113 (by decide) (fun c_47 => ?_) (fun c_47 => ?_)
            · replace hf := ine hf c_47
              refine lv_iload_n hx hb dX3_compared_128 rfl (lv_at hl 2 rfl) ?_
              refine lv_if_eq (tgt := 137) hx hb dX3_compared_129 (by decide) (fun c_48 => ?_) (fun c_48 => ?_)
              · replace hf := ip hf c_48
                refine lv_bipush (v := 8) hx hb dX3_compared_137 (by decide) ?_
                refine lv_iconst (v := 0) hx hb dX3_compared_139 (by decide) ?_
                obtain ⟨σ_50, h_49, hf⟩ := bd_e hf
                refine k_entry X hW had h_49 (by decide) hl (Nat.le_of_ble_eq_true rfl) dX3_compared_140 (fun H locs hW => ?_)
                exact m_vret X hW hf dX3_compared_143
              · replace hf := ine hf c_48
                refine lv_bipush (v := 7) hx hb dX3_compared_132 (by decide) ?_
                refine lv_goto (tgt := 139) hx hb dX3_compared_134 (by decide) ?_
                refine lv_iconst (v := 0) hx hb dX3_compared_139 (by decide) ?_
                obtain ⟨σ_52, h_51, hf⟩ := bd_e hf
                refine k_entry X hW had h_51 (by decide) hl (Nat.le_of_ble_eq_true rfl) dX3_compared_140 (fun H locs hW => ?_)
                exact m_vret X hW hf dX3_compared_143
            · replace hf := ip hf c_47
              refine lv_iload_n hx hb dX3_compared_116 rfl (lv_at hl 2 rfl) ?_
              refine lv_if_eq (tgt := 124) hx hb dX3_compared_117 (by decide) (fun c_53 => ?_) (fun c_53 => ?_)
              · replace hf := ip hf c_53
                refine lv_iconst (v := 4) hx hb dX3_compared_124 (by decide) ?_
                refine lv_goto (tgt := 139) hx hb dX3_compared_125 (by decide) ?_
                refine lv_iconst (v := 0) hx hb dX3_compared_139 (by decide) ?_
                obtain ⟨σ_55, h_54, hf⟩ := bd_e hf
                refine k_entry X hW had h_54 (by decide) hl (Nat.le_of_ble_eq_true rfl) dX3_compared_140 (fun H locs hW => ?_)
                exact m_vret X hW hf dX3_compared_143
              · replace hf := ine hf c_53
                refine lv_iconst (v := 5) hx hb dX3_compared_120 (by decide) ?_
                refine lv_goto (tgt := 139) hx hb dX3_compared_121 (by decide) ?_
                refine lv_iconst (v := 0) hx hb dX3_compared_139 (by decide) ?_
                obtain ⟨σ_57, h_56, hf⟩ := bd_e hf
                refine k_entry X hW had h_56 (by decide) hl (Nat.le_of_ble_eq_true rfl) dX3_compared_140 (fun H locs hW => ?_)
                exact m_vret X hW hf dX3_compared_143
          · replace hf := ip hf c_46
            refine lv_bipush (v := 6) hx hb dX3_compared_105 (by decide) ?_
            refine lv_goto (tgt := 139) hx hb dX3_compared_107 (by decide) ?_
            refine lv_iconst (v := 0) hx hb dX3_compared_139 (by decide) ?_
            obtain ⟨σ_59, h_58, hf⟩ := bd_e hf
            refine k_entry X hW had h_58 (by decide) hl (Nat.le_of_ble_eq_true rfl) dX3_compared_140 (fun H locs hW => ?_)
            exact m_vret X hW hf dX3_compared_143
        clear hf
        refine lv_if_eq (tgt := 89) hx hb dX3_compared_82 (by decide) (fun c_60 => ?_) (fun c_60 => ?_)
        · replace hD_41 := ip hD_41 c_60
          refine lv_iconst (v := 0) hx hb dX3_compared_89 (by decide) ?_
          cases hD_41
          exact hJ _ _ _ hW (lv_sub hl [1, 2, 0] rfl)
        · replace hD_41 := ine hD_41 c_60
          refine lv_iconst (v := 1) hx hb dX3_compared_85 (by decide) ?_
          refine lv_goto (tgt := 90) hx hb dX3_compared_86 (by decide) ?_
          cases hD_41
          exact hJ _ _ _ hW (lv_sub hl [1, 2, 0] rfl)
      clear hf
      refine lv_icmp_eq (tgt := 74) hx hb dX3_compared_58 (by decide) (fun c_61 => ?_) (fun c_61 => ?_)
      · replace hD_39 := ip hD_39 c_61
        refine lv_iconst (v := 0) hx hb dX3_compared_74 (by decide) ?_
        cases hD_39
        exact hJ _ _ _ hW (lv_sub hl [1, 0] rfl)
      · replace hD_39 := ine hD_39 c_61
        refine lv_aload_n hx hb dX3_compared_61 rfl (lv_at hl 1 rfl) ?_
        obtain ⟨r_63, h_62, hD_39⟩ := bd_e hD_39
        refine k_sign X hW had h_62 (by decide) hl (Nat.le_of_ble_eq_true rfl) dX3_compared_62 (fun H locs hW => ?_)
        refine lv_bipush (v := 61) hx hb dX3_compared_65 (by decide) ?_
        refine lv_icmp_ne (tgt := 74) hx hb dX3_compared_67 (by decide) (fun c_64 => ?_) (fun c_64 => ?_)
        · replace hD_39 := ine hD_39 c_64
          refine lv_iconst (v := 0) hx hb dX3_compared_74 (by decide) ?_
          cases hD_39
          exact hJ _ _ _ hW (lv_sub hl [1, 0] rfl)
        · replace hD_39 := ip hD_39 c_64
          refine lv_iconst (v := 1) hx hb dX3_compared_70 (by decide) ?_
          refine lv_goto (tgt := 75) hx hb dX3_compared_71 (by decide) ?_
          cases hD_39
          exact hJ _ _ _ hW (lv_sub hl [1, 0] rfl)
    · replace hf := ine hf c_35
      refine lv_iload_n hx hb dX3_compared_21 rfl (lv_at hl 0 rfl) ?_
      refine lv_bipush (v := 62) hx hb dX3_compared_22 (by decide) ?_
      refine lv_icmp_eq (tgt := 37) hx hb dX3_compared_24 (by decide) (fun c_65 => ?_) (fun c_65 => ?_)
      · replace hf := ip hf c_65
        refine lv_aload_n hx hb dX3_compared_37 rfl (lv_at hl 1 rfl) ?_
        refine lv_aload_n hx hb dX3_compared_38 rfl (lv_at hl 1 rfl) ?_
        refine mg_28 X hW dX3_compared_39 ?_
        obtain ⟨σ_67, h_66, hf⟩ := bd_e hf
        refine k_isCounted X hW had h_66 (by decide) hl (Nat.le_of_ble_eq_true rfl) dX3_compared_42 (fun H locs hW => ?_)
        refine lv_aload_n hx hb dX3_compared_45 rfl (lv_at hl 1 rfl) ?_
        refine lv_dup hx hb dX3_compared_46 rfl ?_
        refine mg_28 X hW dX3_compared_47 ?_
        refine lv_iconst (v := 1) hx hb dX3_compared_50 (by decide) ?_
        refine lv_iadd hx hb dX3_compared_51 ?_
        refine mp_28 X hW dX3_compared_52 (fun H locs hW => ?_)
        refine lv_iload_n hx hb dX3_compared_55 rfl (lv_at hl 0 rfl) ?_
        refine lv_bipush (v := 61) hx hb dX3_compared_56 (by decide) ?_
        obtain ⟨t_68, hD_69, hf⟩ := bd_e hf
        have hJ : ∀ (H : Heap) (locs : List Loc) (ls : Array Slot), WB g A s.heap mIds ad (mE g ad (si σ_67 999 28 ((σ_67.1 999 28) + 1))) H locs → lv_has ls 3 [(0, .ref (ad 999)), (1, .int r_4)] → W p l e (rm_ 10 288) s m args below meth c H locs 0 0 (Qm below g mIds ad (mE g ad σr) none A args s) (F0 m 75 ls [.int t_68]) := by
          intro H locs ls hW hl
          refine lv_istore_n (lv' := [(2, .int t_68), (0, .ref (ad 999)), (1, .int r_4)]) hx hb dX3_compared_75 rfl hl (by decide) rfl (fun ls hl => ?_)
          refine lv_aload_n hx hb dX3_compared_76 rfl (lv_at hl 1 rfl) ?_
          refine lv_dup hx hb dX3_compared_77 rfl ?_
          refine mg_28 X hW dX3_compared_78 ?_
          refine lv_iload_n hx hb dX3_compared_81 rfl (lv_at hl 0 rfl) ?_
          obtain ⟨t_70, hD_71, hf⟩ := bd_e hf
          have hJ : ∀ (H : Heap) (locs : List Loc) (ls : Array Slot), WB g A s.heap mIds ad (mE g ad (si σ_67 999 28 ((σ_67.1 999 28) + 1))) H locs → lv_has ls 3 [(0, .ref (ad 999)), (1, .int r_4), (2, .int t_68)] → W p l e (rm_ 10 288) s m args below meth c H locs 0 0 (Qm below g mIds ad (mE g ad σr) none A args s) (F0 m 90 ls [.int t_70, .int ((si σ_67 999 28 ((σ_67.1 999 28) + 1)).1 999 28), .ref (ad 999)]) := by
            intro H locs ls hW hl
            refine lv_iadd hx hb dX3_compared_90 ?_
            obtain ⟨σ_72, e_73, hf⟩ := nmb_e hf
            rw [← e_73] at hW
            clear e_73
            refine mp_28 X hW dX3_compared_91 (fun H locs hW => ?_)
            refine lv_aload_n hx hb dX3_compared_94 rfl (lv_at hl 0 rfl) ?_
            obtain ⟨σ_75, h_74, hf⟩ := bd_e hf
            refine k_sum X hW had h_74 (by decide) hl (Nat.le_of_ble_eq_true rfl) dX3_compared_95 (fun H locs hW => ?_)
            refine lv_aload_n hx hb dX3_compared_98 rfl (lv_at hl 0 rfl) ?_
            refine lv_iload_n hx hb dX3_compared_99 rfl (lv_at hl 1 rfl) ?_
            refine lv_bipush (v := 61) hx hb dX3_compared_100 (by decide) ?_
            refine lv_icmp_ne (tgt := 110) hx hb dX3_compared_102 (by decide) (fun c_76 => ?_) (fun c_76 => ?_)
            · replace hf := ine hf c_76
              refine lv_iload_n hx hb dX3_compared_110 rfl (lv_at hl 1 rfl) ?_
              refine lv_bipush (v := 60) hx hb dX3_compared_111 (by decide) ?_
              refine lv_icmp_ne (tgt := 128) hx hb dX3_compared_113 (by decide) (fun c_77 => ?_) (fun c_77 => ?_)
              · replace hf := ine hf c_77
                refine lv_iload_n hx hb dX3_compared_128 rfl (lv_at hl 2 rfl) ?_
                refine lv_if_eq (tgt := 137) hx hb dX3_compared_129 (by decide) (fun c_78 => ?_) (fun c_78 => ?_)
                · replace hf := ip hf c_78
                  refine lv_bipush (v := 8) hx hb dX3_compared_137 (by decide) ?_
                  refine lv_iconst (v := 0) hx hb dX3_compared_139 (by decide) ?_
                  obtain ⟨σ_80, h_79, hf⟩ := bd_e hf
                  refine k_entry X hW had h_79 (by decide) hl (Nat.le_of_ble_eq_true rfl) dX3_compared_140 (fun H locs hW => ?_)
                  exact m_vret X hW hf dX3_compared_143
                · replace hf := ine hf c_78
                  refine lv_bipush (v := 7) hx hb dX3_compared_132 (by decide) ?_
                  refine lv_goto (tgt := 139) hx hb dX3_compared_134 (by decide) ?_
                  refine lv_iconst (v := 0) hx hb dX3_compared_139 (by decide) ?_
                  obtain ⟨σ_82, h_81, hf⟩ := bd_e hf
                  refine k_entry X hW had h_81 (by decide) hl (Nat.le_of_ble_eq_true rfl) dX3_compared_140 (fun H locs hW => ?_)
                  exact m_vret X hW hf dX3_compared_143
              · replace hf := ip hf c_77
                refine lv_iload_n hx hb dX3_compared_116 rfl (lv_at hl 2 rfl) ?_
                refine lv_if_eq (tgt := 124) hx hb dX3_compared_117 (by decide) (fun c_83 => ?_) (fun c_83 => ?_)
                · replace hf := ip hf c_83
                  refine lv_iconst (v := 4) hx hb dX3_compared_124 (by decide) ?_
                  refine lv_goto (tgt := 139) hx hb dX3_compared_125 (by decide) ?_
                  refine lv_iconst (v := 0) hx hb dX3_compared_139 (by decide) ?_
                  obtain ⟨σ_85, h_84, hf⟩ := bd_e hf
                  refine k_entry X hW had h_84 (by decide) hl (Nat.le_of_ble_eq_true rfl) dX3_compared_140 (fun H locs hW => ?_)
                  exact m_vret X hW hf dX3_compared_143
                · replace hf := ine hf c_83
                  refine lv_iconst (v := 5) hx hb dX3_compared_120 (by decide) ?_
                  refine lv_goto (tgt := 139) hx hb dX3_compared_121 (by decide) ?_
                  refine lv_iconst (v := 0) hx hb dX3_compared_139 (by decide) ?_
                  obtain ⟨σ_87, h_86, hf⟩ := bd_e hf
                  refine k_entry X hW had h_86 (by decide) hl (Nat.le_of_ble_eq_true rfl) dX3_compared_140 (fun H locs hW => ?_)
                  exact m_vret X hW hf dX3_compared_143
            · replace hf := ip hf c_76
              refine lv_bipush (v := 6) hx hb dX3_compared_105 (by decide) ?_
              refine lv_goto (tgt := 139) hx hb dX3_compared_107 (by decide) ?_
              refine lv_iconst (v := 0) hx hb dX3_compared_139 (by decide) ?_
              obtain ⟨σ_89, h_88, hf⟩ := bd_e hf
              refine k_entry X hW had h_88 (by decide) hl (Nat.le_of_ble_eq_true rfl) dX3_compared_140 (fun H locs hW => ?_)
              exact m_vret X hW hf dX3_compared_143
          clear hf
          refine lv_if_eq (tgt := 89) hx hb dX3_compared_82 (by decide) (fun c_90 => ?_) (fun c_90 => ?_)
          · replace hD_71 := ip hD_71 c_90
            refine lv_iconst (v := 0) hx hb dX3_compared_89 (by decide) ?_
            cases hD_71
            exact hJ _ _ _ hW (lv_sub hl [1, 2, 0] rfl)
          · replace hD_71 := ine hD_71 c_90
            refine lv_iconst (v := 1) hx hb dX3_compared_85 (by decide) ?_
            refine lv_goto (tgt := 90) hx hb dX3_compared_86 (by decide) ?_
            cases hD_71
            exact hJ _ _ _ hW (lv_sub hl [1, 2, 0] rfl)
        clear hf
        refine lv_icmp_eq (tgt := 74) hx hb dX3_compared_58 (by decide) (fun c_91 => ?_) (fun c_91 => ?_)
        · replace hD_69 := ip hD_69 c_91
          refine lv_iconst (v := 0) hx hb dX3_compared_74 (by decide) ?_
          cases hD_69
          exact hJ _ _ _ hW (lv_sub hl [1, 0] rfl)
        · replace hD_69 := ine hD_69 c_91
          refine lv_aload_n hx hb dX3_compared_61 rfl (lv_at hl 1 rfl) ?_
          obtain ⟨r_93, h_92, hD_69⟩ := bd_e hD_69
          refine k_sign X hW had h_92 (by decide) hl (Nat.le_of_ble_eq_true rfl) dX3_compared_62 (fun H locs hW => ?_)
          refine lv_bipush (v := 61) hx hb dX3_compared_65 (by decide) ?_
          refine lv_icmp_ne (tgt := 74) hx hb dX3_compared_67 (by decide) (fun c_94 => ?_) (fun c_94 => ?_)
          · replace hD_69 := ine hD_69 c_94
            refine lv_iconst (v := 0) hx hb dX3_compared_74 (by decide) ?_
            cases hD_69
            exact hJ _ _ _ hW (lv_sub hl [1, 0] rfl)
          · replace hD_69 := ip hD_69 c_94
            refine lv_iconst (v := 1) hx hb dX3_compared_70 (by decide) ?_
            refine lv_goto (tgt := 75) hx hb dX3_compared_71 (by decide) ?_
            cases hD_69
            exact hJ _ _ _ hW (lv_sub hl [1, 0] rfl)
      · replace hf := ine hf c_65
        refine lv_aload_n hx hb dX3_compared_27 rfl (lv_at hl 1 rfl) ?_
        refine lv_iconst (v := 0) hx hb dX3_compared_28 (by decide) ?_
        refine lv_aload_n hx hb dX3_compared_29 rfl (lv_at hl 1 rfl) ?_
        refine mg_28 X hW dX3_compared_30 ?_
        obtain ⟨σ_96, h_95, hf⟩ := bd_e hf
        refine k_fails X hW had h_95 (by decide) hl (Nat.le_of_ble_eq_true rfl) dX3_compared_33 (fun H locs hW => ?_)
        exact m_vret X hW hf dX3_compared_36
theorem w_compared (l : Launch) {g : gG} {ad : Nat → Nat} (had : mI ad) {σr : cS}  {σ : cS}  (hf : m_compared σ = some σr) : MM l yX3_compared cX3_compared 3 none 10 288 g ad σ σr [.ref (ad 999)] none :=
  MC.of (by decide) mIds_nd had (Nat.le_of_ble_eq_true rfl) (fun p e s m below meth c A ls X hW hl => wb_compared X had hW hl hf)
theorem k_compared {p : Program} {l : Launch} {e : Env} {R : Room} {s : State} {m : MethodId} {args : Array Value} {below : List Frame} {meth : Method} {c : Code} {H : Heap} {locs : List Loc} {Q : State → Prop} {cc : ByteArray} {nL : Nat} {ret : Option FieldType} {g : gG} {A : Nat → Prop} {ad : Nat → Nat} {pc : Nat} {ls : Array Slot} {rest : List Value} {lv : List (Nat × Value)} {σr : cS}  {σ : cS} (X : MX p s m args meth c cc nL RX3 ret g A) (hW : WB g A s.heap mIds ad (mE g ad σ) H locs) (had : mI ad)  (hf : m_compared σ = some σr) (hR : 11 ≤ R.frames ∧ 310 ≤ R.locals) (hl : lv_has ls nL lv) (hcat : (rest.map fun v => v.category).sum ≤ 8) (hdg : decode cc pc = .ok (.invokevirtual 299, 3)) (kk : ∀ (H1 : Heap) (l1 : List Loc), WB g A s.heap mIds ad (mE g ad σr) H1 l1 → W p l e R s m args below meth c H1 l1 0 0 Q (F0 m (pc + 3) ls (rest))) : W p l e R s m args below meth c H locs 0 0 Q (F0 m pc ls (.ref (ad 999) :: rest)) :=
  r_callV X hW Sub.all (w_compared l had hf) (lw_V q1518 q1520 qs74 q126 q1521) ⟨rfl, by decide, by decide, by decide +kernel⟩ m_999 mE_o rfl (n := 0) hR hl rfl rfl hcat ⟨Nat.zero_le _, Nat.zero_le _⟩ hdg kk
-- fact
noncomputable def m_fact (σ : cS) : Option (cS × Int32) :=
  ((m_blanks σ).bind fun σ_2 => ((m_stood σ_2 34).bind fun r_4 => if r_4 = 0 then (((m_sign σ_2).bind fun r_7 => if r_7 = 91 then (((m_opens σ_2 12).bind fun σ_12 => some ((si σ_12 999 28 ((σ_12.1 999 28) + 1)), 0))) else (((m_compared σ_2).bind fun σ_10 => some (σ_10, 1))))) else (((m_opens σ_2 9).bind fun σ_14 => some ((si σ_14 999 28 ((σ_14.1 999 28) + 3)), 0)))))
set_option maxHeartbeats 4000000 in
theorem wb_fact {p : Program} {l : Launch} {e : Env} {s : State} {m : MethodId} {args : Array Value} {below : List Frame} {meth : Method} {c : Code} {g : gG} {A : Nat → Prop} {ad : Nat → Nat} (X : MX p s m args meth c cX3_fact 1 RX3 (some .boolean) g A) (had : mI ad) {σr : cS} {r : Int32} {σ : cS}  {H : Heap} {locs : List Loc} {ls : Array Slot} (hW : WB g A s.heap mIds ad (mE g ad σ) H locs) (hl : lv_has ls 1 [(0, .ref (ad 999))]) (hf : m_fact σ = some (σr, r)) : W p l e (rm_ 11 310) s m args below meth c H locs 0 0 (Qm below g mIds ad (mE g ad σr) (some (.int r)) A args s) (F0 m 0 ls []) := by
  have hx := X.1.1
  have hb := X.1.2.1
  unfold m_fact at hf
  refine lv_aload_n hx hb dX3_fact_0 rfl (lv_at hl 0 rfl) ?_
  obtain ⟨σ_2, h_1, hf⟩ := bd_e hf
  refine k_blanks X hW had h_1 (by decide) hl (Nat.le_of_ble_eq_true rfl) dX3_fact_1 (fun H locs hW => ?_)
  refine lv_aload_n hx hb dX3_fact_4 rfl (lv_at hl 0 rfl) ?_
  refine va_ldcSw hx hb X.1.2.2.2.1 (X.2.2.2.2.1.1 34 _ rfl).1 dX3_fact_5 ?_
  obtain ⟨r_4, h_3, hf⟩ := bd_e hf
  refine k_stood X hW had (by decide) h_3 (by decide) hl (Nat.le_of_ble_eq_true rfl) dX3_fact_8 (fun H locs hW => ?_)
  refine lv_if_eq (tgt := 32) hx hb dX3_fact_11 (by decide) (fun c_5 => ?_) (fun c_5 => ?_)
  · replace hf := ip hf c_5
    refine lv_aload_n hx hb dX3_fact_32 rfl (lv_at hl 0 rfl) ?_
    obtain ⟨r_7, h_6, hf⟩ := bd_e hf
    refine k_sign X hW had h_6 (by decide) hl (Nat.le_of_ble_eq_true rfl) dX3_fact_33 (fun H locs hW => ?_)
    refine lv_bipush (v := 91) hx hb dX3_fact_36 (by decide) ?_
    refine lv_icmp_ne (tgt := 59) hx hb dX3_fact_38 (by decide) (fun c_8 => ?_) (fun c_8 => ?_)
    · replace hf := ine hf c_8
      refine lv_aload_n hx hb dX3_fact_59 rfl (lv_at hl 0 rfl) ?_
      obtain ⟨σ_10, h_9, hf⟩ := bd_e hf
      refine k_compared X hW had h_9 (by decide) hl (Nat.le_of_ble_eq_true rfl) dX3_fact_60 (fun H locs hW => ?_)
      refine lv_iconst (v := 1) hx hb dX3_fact_63 (by decide) ?_
      exact m_zret X hW hf (by decide) dX3_fact_64
    · replace hf := ip hf c_8
      refine lv_aload_n hx hb dX3_fact_41 rfl (lv_at hl 0 rfl) ?_
      refine lv_bipush (v := 12) hx hb dX3_fact_42 (by decide) ?_
      obtain ⟨σ_12, h_11, hf⟩ := bd_e hf
      refine k_opens X hW had h_11 (by decide) hl (Nat.le_of_ble_eq_true rfl) dX3_fact_44 (fun H locs hW => ?_)
      refine lv_aload_n hx hb dX3_fact_47 rfl (lv_at hl 0 rfl) ?_
      refine lv_dup hx hb dX3_fact_48 rfl ?_
      refine mg_28 X hW dX3_fact_49 ?_
      refine lv_iconst (v := 1) hx hb dX3_fact_52 (by decide) ?_
      refine lv_iadd hx hb dX3_fact_53 ?_
      refine mp_28 X hW dX3_fact_54 (fun H locs hW => ?_)
      refine lv_iconst (v := 0) hx hb dX3_fact_57 (by decide) ?_
      exact m_zret X hW hf (by decide) dX3_fact_58
  · replace hf := ine hf c_5
    refine lv_aload_n hx hb dX3_fact_14 rfl (lv_at hl 0 rfl) ?_
    refine lv_bipush (v := 9) hx hb dX3_fact_15 (by decide) ?_
    obtain ⟨σ_14, h_13, hf⟩ := bd_e hf
    refine k_opens X hW had h_13 (by decide) hl (Nat.le_of_ble_eq_true rfl) dX3_fact_17 (fun H locs hW => ?_)
    refine lv_aload_n hx hb dX3_fact_20 rfl (lv_at hl 0 rfl) ?_
    refine lv_dup hx hb dX3_fact_21 rfl ?_
    refine mg_28 X hW dX3_fact_22 ?_
    refine lv_iconst (v := 3) hx hb dX3_fact_25 (by decide) ?_
    refine lv_iadd hx hb dX3_fact_26 ?_
    refine mp_28 X hW dX3_fact_27 (fun H locs hW => ?_)
    refine lv_iconst (v := 0) hx hb dX3_fact_30 (by decide) ?_
    exact m_zret X hW hf (by decide) dX3_fact_31
theorem w_fact (l : Launch) {g : gG} {ad : Nat → Nat} (had : mI ad) {σr : cS} {r : Int32} {σ : cS}  (hf : m_fact σ = some (σr, r)) : MM l yX3_fact cX3_fact 1 (some .boolean) 11 310 g ad σ σr [.ref (ad 999)] (some (.int r)) :=
  MC.of (by decide) mIds_nd had (Nat.le_of_ble_eq_true rfl) (fun p e s m below meth c A ls X hW hl => wb_fact X had hW hl hf)
theorem k_fact {p : Program} {l : Launch} {e : Env} {R : Room} {s : State} {m : MethodId} {args : Array Value} {below : List Frame} {meth : Method} {c : Code} {H : Heap} {locs : List Loc} {Q : State → Prop} {cc : ByteArray} {nL : Nat} {ret : Option FieldType} {g : gG} {A : Nat → Prop} {ad : Nat → Nat} {pc : Nat} {ls : Array Slot} {rest : List Value} {lv : List (Nat × Value)} {σr : cS} {r : Int32} {σ : cS} (X : MX p s m args meth c cc nL RX3 ret g A) (hW : WB g A s.heap mIds ad (mE g ad σ) H locs) (had : mI ad)  (hf : m_fact σ = some (σr, r)) (hR : 12 ≤ R.frames ∧ 330 ≤ R.locals) (hl : lv_has ls nL lv) (hcat : (rest.map fun v => v.category).sum ≤ 8) (hdg : decode cc pc = .ok (.invokevirtual 302, 3)) (kk : ∀ (H1 : Heap) (l1 : List Loc), WB g A s.heap mIds ad (mE g ad σr) H1 l1 → W p l e R s m args below meth c H1 l1 0 0 Q (F0 m (pc + 3) ls (.int r :: rest))) : W p l e R s m args below meth c H locs 0 0 Q (F0 m pc ls (.ref (ad 999) :: rest)) :=
  r_callV X hW Sub.all (w_fact l had hf) (lw_V q1509 q1511 qs72 q126 q1512) ⟨rfl, by decide, by decide, by decide +kernel⟩ m_999 mE_o rfl (n := 0) hR hl rfl rfl hcat ⟨Nat.zero_le _, Nat.zero_le _⟩ hdg kk
-- top
noncomputable def m_top (σ : cS) : Option (Int32) :=
  if (σ.1 999 35) = 0 then (some (-1)) else (gd (inb ((σ.1 999 35) - 1) 402) (some (σ.1 44 (ix ((σ.1 999 35) - 1)))))
set_option maxHeartbeats 4000000 in
theorem wb_top {p : Program} {l : Launch} {e : Env} {s : State} {m : MethodId} {args : Array Value} {below : List Frame} {meth : Method} {c : Code} {g : gG} {A : Nat → Prop} {ad : Nat → Nat} (X : MX p s m args meth c cX3_top 1 RX3 (some .int) g A) (had : mI ad) {r : Int32} {σ : cS}  {H : Heap} {locs : List Loc} {ls : Array Slot} (hW : WB g A s.heap mIds ad (mE g ad σ) H locs) (hl : lv_has ls 1 [(0, .ref (ad 999))]) (hf : m_top σ = some r) : W p l e (rm_ 1 20) s m args below meth c H locs 0 0 (Qm below g mIds ad (mE g ad σ) (some (.int r)) A args s) (F0 m 0 ls []) := by
  have hx := X.1.1
  have hb := X.1.2.1
  unfold m_top at hf
  refine lv_aload_n hx hb dX3_top_0 rfl (lv_at hl 0 rfl) ?_
  refine mg_35 X hW dX3_top_1 ?_
  refine lv_if_ne (tgt := 11) hx hb dX3_top_4 (by decide) (fun c_1 => ?_) (fun c_1 => ?_)
  · replace hf := ine hf c_1
    refine lv_aload_n hx hb dX3_top_11 rfl (lv_at hl 0 rfl) ?_
    refine mg_44 X hW dX3_top_12 ?_
    refine lv_aload_n hx hb dX3_top_15 rfl (lv_at hl 0 rfl) ?_
    refine mg_35 X hW dX3_top_16 ?_
    refine lv_iconst (v := 1) hx hb dX3_top_19 (by decide) ?_
    refine lv_isub hx hb dX3_top_20 ?_
    obtain ⟨h_2, hf⟩ := gd_e hf
    refine ml_44 X hW h_2 dX3_top_21 ?_
    exact p_iret X hW hf dX3_top_22
  · replace hf := ip hf c_1
    refine lv_iconst (v := (-1)) hx hb dX3_top_7 (by decide) ?_
    refine lv_goto (tgt := 22) hx hb dX3_top_8 (by decide) ?_
    exact p_iret X hW hf dX3_top_22
theorem w_top (l : Launch) {g : gG} {ad : Nat → Nat} (had : mI ad) {r : Int32} {σ : cS}  (hf : m_top σ = some r) : MM l yX3_top cX3_top 1 (some .int) 1 20 g ad σ σ [.ref (ad 999)] (some (.int r)) :=
  MC.of (by decide) mIds_nd had (Nat.le_of_ble_eq_true rfl) (fun p e s m below meth c A ls X hW hl => wb_top X had hW hl hf)
theorem k_top {p : Program} {l : Launch} {e : Env} {R : Room} {s : State} {m : MethodId} {args : Array Value} {below : List Frame} {meth : Method} {c : Code} {H : Heap} {locs : List Loc} {Q : State → Prop} {cc : ByteArray} {nL : Nat} {ret : Option FieldType} {g : gG} {A : Nat → Prop} {ad : Nat → Nat} {pc : Nat} {ls : Array Slot} {rest : List Value} {lv : List (Nat × Value)} {r : Int32} {σ : cS} (X : MX p s m args meth c cc nL RX3 ret g A) (hW : WB g A s.heap mIds ad (mE g ad σ) H locs) (had : mI ad)  (hf : m_top σ = some r) (hR : 2 ≤ R.frames ∧ 40 ≤ R.locals) (hl : lv_has ls nL lv) (hcat : (rest.map fun v => v.category).sum ≤ 8) (hdg : decode cc pc = .ok (.invokevirtual 291, 3)) (kk : ∀ (H1 : Heap) (l1 : List Loc), WB g A s.heap mIds ad (mE g ad σ) H1 l1 → W p l e R s m args below meth c H1 l1 0 0 Q (F0 m (pc + 3) ls (.int r :: rest))) : W p l e R s m args below meth c H locs 0 0 Q (F0 m pc ls (.ref (ad 999) :: rest)) :=
  r_callV X hW Sub.all (w_top l had hf) (lw_V q1526 q1528 qs76 q126 q1529) ⟨rfl, by decide, by decide, by decide +kernel⟩ m_999 mE_o rfl (n := 0) hR hl rfl rfl hcat ⟨Nat.zero_le _, Nat.zero_le _⟩ hdg kk
-- answers
noncomputable def m_answers_0 {ρ : Type} (v1 : Int32) (K : cS → Option ρ) : Nat → cS → Option ρ
  | 0, _ => none
  | n + 1, σ => ((m_top σ).bind fun r_2 => if r_2 = v1 then (if (σ.1 999 29) = 0 then (((m_entry σ v1 0).bind fun σ_6 => if v1 = 9 then (nmb (si σ_6 999 35 ((σ_6.1 999 35) - 1)) fun σ_10 => (m_answers_0 v1 K n (si σ_10 999 33 (((si σ_6 999 35 ((σ_6.1 999 35) - 1)).1 999 33) - 1)))) else (nmb (si σ_6 999 35 ((σ_6.1 999 35) - 1)) fun σ_8 => (m_answers_0 v1 K n (si σ_8 999 33 (((si σ_6 999 35 ((σ_6.1 999 35) - 1)).1 999 33) - 0)))))) else (K σ)) else (K σ))
set_option maxHeartbeats 4000000 in
theorem wm_answers_0 {p : Program} {l : Launch} {e : Env} {s : State} {m : MethodId} {args : Array Value} {below : List Frame} {meth : Method} {c : Code} {g : gG} {A : Nat → Prop} {ad : Nat → Nat} (X : MX p s m args meth c cX3_answers 2 RX3 none g A) (had : mI ad) {ρ : Type} {res : ρ} {Q : State → Prop} {v1 : Int32}  {K : cS → Option ρ}
    (hK : ∀ (σ : cS) (H : Heap) (locs : List Loc) (ls : Array Slot), WB g A s.heap mIds ad (mE g ad σ) H locs → lv_has ls 2 [] → K σ = some res → W p l e (rm_ 2 42) s m args below meth c H locs 0 0 Q (F0 m 54 ls [])) :
    ∀ (n : Nat) (σ : cS) (H : Heap) (locs : List Loc) (ls : Array Slot), WB g A s.heap mIds ad (mE g ad σ) H locs → lv_has ls 2 [(0, .ref (ad 999)), (1, .int v1)] → m_answers_0 v1 K n σ = some res → W p l e (rm_ 2 42) s m args below meth c H locs 0 0 Q (F0 m 0 ls []) := by
  have hx := X.1.1
  have hb := X.1.2.1
  intro n
  induction n with
  | zero =>
    intro σ H locs ls hW hl hf
    rw [m_answers_0] at hf
    cases hf
  | succ n ih =>
    intro σ H locs ls hW hl hf
    rw [m_answers_0] at hf
    refine lv_aload_n hx hb dX3_answers_0 rfl (lv_at hl 0 rfl) ?_
    obtain ⟨r_2, h_1, hf⟩ := bd_e hf
    refine k_top X hW had h_1 (by decide) hl (Nat.le_of_ble_eq_true rfl) dX3_answers_1 (fun H locs hW => ?_)
    refine lv_iload_n hx hb dX3_answers_4 rfl (lv_at hl 1 rfl) ?_
    refine lv_icmp_ne (tgt := 54) hx hb dX3_answers_5 (by decide) (fun c_3 => ?_) (fun c_3 => ?_)
    · replace hf := ine hf c_3
      exact hK _ _ _ _ hW (lv_sub hl [] rfl) hf
    · replace hf := ip hf c_3
      refine lv_aload_n hx hb dX3_answers_8 rfl (lv_at hl 0 rfl) ?_
      refine mg_29 X hW dX3_answers_9 ?_
      refine lv_if_ne (tgt := 54) hx hb dX3_answers_12 (by decide) (fun c_4 => ?_) (fun c_4 => ?_)
      · replace hf := ine hf c_4
        exact hK _ _ _ _ hW (lv_sub hl [] rfl) hf
      · replace hf := ip hf c_4
        refine lv_aload_n hx hb dX3_answers_15 rfl (lv_at hl 0 rfl) ?_
        refine lv_iload_n hx hb dX3_answers_16 rfl (lv_at hl 1 rfl) ?_
        refine lv_iconst (v := 0) hx hb dX3_answers_17 (by decide) ?_
        obtain ⟨σ_6, h_5, hf⟩ := bd_e hf
        refine k_entry X hW had h_5 (by decide) hl (Nat.le_of_ble_eq_true rfl) dX3_answers_18 (fun H locs hW => ?_)
        refine lv_aload_n hx hb dX3_answers_21 rfl (lv_at hl 0 rfl) ?_
        refine lv_dup hx hb dX3_answers_22 rfl ?_
        refine mg_35 X hW dX3_answers_23 ?_
        refine lv_iconst (v := 1) hx hb dX3_answers_26 (by decide) ?_
        refine lv_isub hx hb dX3_answers_27 ?_
        refine mp_35 X hW dX3_answers_28 (fun H locs hW => ?_)
        refine lv_aload_n hx hb dX3_answers_31 rfl (lv_at hl 0 rfl) ?_
        refine lv_dup hx hb dX3_answers_32 rfl ?_
        refine mg_33 X hW dX3_answers_33 ?_
        refine lv_iload_n hx hb dX3_answers_36 rfl (lv_at hl 1 rfl) ?_
        refine lv_bipush (v := 9) hx hb dX3_answers_37 (by decide) ?_
        refine lv_icmp_ne (tgt := 46) hx hb dX3_answers_39 (by decide) (fun c_7 => ?_) (fun c_7 => ?_)
        · replace hf := ine hf c_7
          refine lv_iconst (v := 0) hx hb dX3_answers_46 (by decide) ?_
          refine lv_isub hx hb dX3_answers_47 ?_
          obtain ⟨σ_8, e_9, hf⟩ := nmb_e hf
          rw [← e_9] at hW
          clear e_9
          refine mp_33 X hW dX3_answers_48 (fun H locs hW => ?_)
          refine lv_goto (tgt := 0) hx hb dX3_answers_51 (by decide) ?_
          exact ih _ _ _ _ hW (lv_sub hl [0, 1] rfl) hf
        · replace hf := ip hf c_7
          refine lv_iconst (v := 1) hx hb dX3_answers_42 (by decide) ?_
          refine lv_goto (tgt := 47) hx hb dX3_answers_43 (by decide) ?_
          refine lv_isub hx hb dX3_answers_47 ?_
          obtain ⟨σ_10, e_11, hf⟩ := nmb_e hf
          rw [← e_11] at hW
          clear e_11
          refine mp_33 X hW dX3_answers_48 (fun H locs hW => ?_)
          refine lv_goto (tgt := 0) hx hb dX3_answers_51 (by decide) ?_
          exact ih _ _ _ _ hW (lv_sub hl [0, 1] rfl) hf
noncomputable def m_answers (σ : cS) (v1 : Int32) : Option (cS) :=
  m_answers_0 v1 (fun σ_12 => (some σ_12)) FU σ
set_option maxHeartbeats 4000000 in
theorem wb_answers {p : Program} {l : Launch} {e : Env} {s : State} {m : MethodId} {args : Array Value} {below : List Frame} {meth : Method} {c : Code} {g : gG} {A : Nat → Prop} {ad : Nat → Nat} (X : MX p s m args meth c cX3_answers 2 RX3 none g A) (had : mI ad) {σr : cS}  {σ : cS} {v1 : Int32}  {H : Heap} {locs : List Loc} {ls : Array Slot} (hW : WB g A s.heap mIds ad (mE g ad σ) H locs) (hl : lv_has ls 2 [(0, .ref (ad 999)), (1, .int v1)]) (hf : m_answers σ v1 = some σr) : W p l e (rm_ 2 42) s m args below meth c H locs 0 0 (Qm below g mIds ad (mE g ad σr) none A args s) (F0 m 0 ls []) := by
  have hx := X.1.1
  have hb := X.1.2.1
  unfold m_answers at hf
  refine wm_answers_0 X had (fun σ_12 H locs ls hW hl hf => ?_) _ _ _ _ _ hW (lv_sub hl [0, 1] rfl) hf
  exact m_vret X hW hf dX3_answers_54
theorem w_answers (l : Launch) {g : gG} {ad : Nat → Nat} (had : mI ad) {σr : cS}  {σ : cS} {v1 : Int32}  (hf : m_answers σ v1 = some σr) : MM l yX3_answers cX3_answers 2 none 2 42 g ad σ σr [.ref (ad 999), .int v1] none :=
  MC.of (by decide) mIds_nd had (Nat.le_of_ble_eq_true rfl) (fun p e s m below meth c A ls X hW hl => wb_answers X had hW hl hf)
theorem k_answers {p : Program} {l : Launch} {e : Env} {R : Room} {s : State} {m : MethodId} {args : Array Value} {below : List Frame} {meth : Method} {c : Code} {H : Heap} {locs : List Loc} {Q : State → Prop} {cc : ByteArray} {nL : Nat} {ret : Option FieldType} {g : gG} {A : Nat → Prop} {ad : Nat → Nat} {pc : Nat} {ls : Array Slot} {rest : List Value} {lv : List (Nat × Value)} {σr : cS}  {σ : cS} {v1 : Int32} (X : MX p s m args meth c cc nL RX3 ret g A) (hW : WB g A s.heap mIds ad (mE g ad σ) H locs) (had : mI ad)  (hf : m_answers σ v1 = some σr) (hR : 3 ≤ R.frames ∧ 63 ≤ R.locals) (hl : lv_has ls nL lv) (hcat : (rest.map fun v => v.category).sum ≤ 8) (hdg : decode cc pc = .ok (.invokevirtual 305, 3)) (kk : ∀ (H1 : Heap) (l1 : List Loc), WB g A s.heap mIds ad (mE g ad σr) H1 l1 → W p l e R s m args below meth c H1 l1 0 0 Q (F0 m (pc + 3) ls (rest))) : W p l e R s m args below meth c H locs 0 0 Q (F0 m pc ls (.int v1 :: .ref (ad 999) :: rest)) :=
  r_callV X hW Sub.all (w_answers l had hf) (lw_V q1522 q1524 qs75 q126 q1525) ⟨rfl, by decide, by decide, by decide +kernel⟩ m_999 mE_o rfl (n := 1) hR hl rfl rfl hcat ⟨Nat.zero_le _, Nat.zero_le _⟩ hdg kk
